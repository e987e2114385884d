/-! the model: how likely it lives; who are some; whether it can be laid -/
set_option maxRecDepth 100000
def stN (w d r : Nat) : Nat := 20 * w + (if 0 < r then 10 + r else d)
def gt0 (w d r : Nat) : (Nat → Int64) × Int64 := (fun k => if k = stN w d r then 1 else 0, 0)
theorem w7_goesThrough {o l m pot br : Nat} {th rc rb : Int32} {who : Nat → Nat} {tn : Nat → Int32} {T : Nat → Txt} {s : Nat → Int32} {M : MM} {n w d r : Nat} {Post : Int64 → MM → Prop} (hD : DPc o M l th rc rb who tn m s T) (hl : l < 4) (hr : RuOk s) (hrc : rc = -1 ∨ ∃ r, r ≤ 9 ∧ rc = nI r) (hpot : s l = nI pot) (hpot2 : pot ≤ 24) (hbr : s (8 + l) = nI br) (hbr9 : br ≤ 9) (hm8 : m ≤ 8) (hwho : ∀ i, i < m → who i < 8) (hn : n < 100) (hw : s (4 + l) = nI w) (hd : s (12 + l) = nI d) (hrr : s (16 + l) = nI r) (hw2 : w < 25) (hd2 : d < 10) (hr2 : r < 10)
    (h : ∀ M', eF o M M' → ar o 1 M' = s → wwE o M' (gtN T l th rc rb who tn m pot br n s (gt0 w d r)) → Post (tenL (n * (m + 1)) - (gtN T l th rc rb who tn m pot br n s (gt0 w d r)).2) M') : wp_X7_goesThrough M o (nI n) (nI m) Post := by
  have h1 : ML o M := hD.1
  have ha : ar o 1 M = s := hD.2.2.1
  unfold wp_X7_goesThrough
  simp (disch := first | assumption | omega) only [mgR_sI, mgR_sL, mkd_sI, mkd_sL, mln_sI, mln_sL, Option.some.injEq, exists_eq_left', forall_eq, true_and, and_true, Nat.reduceLT, exists_eq_left, ML_r0, ML_k1, ML_l1, ML_r1, ML_k2, ML_l2, ML_r2, ML_k3, ML_l3, ML_r3, ML_k4, ML_l4, ML_r13, ML_k5, ML_l5, ML_r14, ML_k6, ML_l6, ML_r15, ML_k7, ML_l7, ML_r16, ML_k8, ML_l8, ML_r17, ML_k9, ML_l9, ML_r18, ML_k10, ML_l10, ML_r19, ML_k11, ML_l11, ML_r20, ML_k12, ML_l12, ML_r21, ML_k13, ML_l13, ML_r22, ML_k14, ML_l14, ML_r23, ML_k15, ML_l15, ML_r24, ML_k16, ML_l16, ML_r25, ML_k17, ML_l17, ML_r26, ML_k18, ML_l18, ML_r30, ML_k19, ML_l19, ML_r35, ML_k20, ML_l20, ML_r36, ML_k21, ML_l21, ML_r37, ML_k22, ML_l22, ML_r38, ML_k23, ML_l23, ML_r40, ML_k24, ML_l24, ML_r41, ML_k25, ML_l25, ML_r42, ML_k26, ML_l26, ML_r43, ML_k27, ML_l27, ML_r44, ML_k28, ML_l28, ML_r45, ML_k29, ML_l29, ML_r48, ML_k30, ML_l30, ML_r51, ML_k31, ML_l31, ML_r52, ML_k32, ML_l32, arE (o := o) (c := 1), ha]
  have hFa : dF o M (msL M o 39 0) := dF.rf.s39
  refine w7_g16 (M := msL M o 39 0) h1 (fun M1 hF1 hz => ?_)
  have hF01 : dF o M M1 := hFa.tr (hF1.d (fun a e => by omega))
  have hD1 := hD.d hF01
  have hL1 : ML o M1 := hD1.1
  have ha1 : ar o 1 M1 = s := hD1.2.2.1
  rw [hD1.2.2.2.1]
  simp (disch := first | assumption | omega) only [mgR_sI, mgR_sL, mkd_sI, mkd_sL, mln_sI, mln_sL, Option.some.injEq, exists_eq_left', forall_eq, true_and, and_true, Nat.reduceLT, exists_eq_left, ML_r0, ML_k1, ML_l1, ML_r1, ML_k2, ML_l2, ML_r2, ML_k3, ML_l3, ML_r3, ML_k4, ML_l4, ML_r13, ML_k5, ML_l5, ML_r14, ML_k6, ML_l6, ML_r15, ML_k7, ML_l7, ML_r16, ML_k8, ML_l8, ML_r17, ML_k9, ML_l9, ML_r18, ML_k10, ML_l10, ML_r19, ML_k11, ML_l11, ML_r20, ML_k12, ML_l12, ML_r21, ML_k13, ML_l13, ML_r22, ML_k14, ML_l14, ML_r23, ML_k15, ML_l15, ML_r24, ML_k16, ML_l16, ML_r25, ML_k17, ML_l17, ML_r26, ML_k18, ML_l18, ML_r30, ML_k19, ML_l19, ML_r35, ML_k20, ML_l20, ML_r36, ML_k21, ML_l21, ML_r37, ML_k22, ML_l22, ML_r38, ML_k23, ML_l23, ML_r40, ML_k24, ML_l24, ML_r41, ML_k25, ML_l25, ML_r42, ML_k26, ML_l26, ML_r43, ML_k27, ML_l27, ML_r44, ML_k28, ML_l28, ML_r45, ML_k29, ML_l29, ML_r48, ML_k30, ML_l30, ML_r51, ML_k31, ML_l31, ML_r52, ML_k32, ML_l32, ia0, ia4, ia8, ia12, ia16, ia20, ia24, ia52, ia60, ia68, im7, im14, ap6, iaN, ap1, ixN, vpN, arE (o := o) (c := 1), ha1, hw, hd, hrr]
  have hst : stN w d r < 500 := by unfold stN; split <;> omega
  refine w7_stateOf (by omega) (by omega) (by omega) ?_
  have hst2 : (20 * w + if 0 < r then 10 + r else d) = stN w d r := rfl
  rw [hst2]
  simp (disch := first | assumption | omega) only [mgR_sI, mgR_sL, mkd_sI, mkd_sL, mln_sI, mln_sL, Option.some.injEq, exists_eq_left', forall_eq, true_and, and_true, Nat.reduceLT, exists_eq_left, ML_r0, ML_k1, ML_l1, ML_r1, ML_k2, ML_l2, ML_r2, ML_k3, ML_l3, ML_r3, ML_k4, ML_l4, ML_r13, ML_k5, ML_l5, ML_r14, ML_k6, ML_l6, ML_r15, ML_k7, ML_l7, ML_r16, ML_k8, ML_l8, ML_r17, ML_k9, ML_l9, ML_r18, ML_k10, ML_l10, ML_r19, ML_k11, ML_l11, ML_r20, ML_k12, ML_l12, ML_r21, ML_k13, ML_l13, ML_r22, ML_k14, ML_l14, ML_r23, ML_k15, ML_l15, ML_r24, ML_k16, ML_l16, ML_r25, ML_k17, ML_l17, ML_r26, ML_k18, ML_l18, ML_r30, ML_k19, ML_l19, ML_r35, ML_k20, ML_l20, ML_r36, ML_k21, ML_l21, ML_r37, ML_k22, ML_l22, ML_r38, ML_k23, ML_l23, ML_r40, ML_k24, ML_l24, ML_r41, ML_k25, ML_l25, ML_r42, ML_k26, ML_l26, ML_r43, ML_k27, ML_l27, ML_r44, ML_k28, ML_l28, ML_r45, ML_k29, ML_l29, ML_r48, ML_k30, ML_l30, ML_r51, ML_k31, ML_l31, ML_r52, ML_k32, ML_l32, ia0, ia4, ia8, ia12, ia16, ia20, ia24, ia52, ia60, ia68, im7, im14, ap6, iaN, ap1, ixN, vpN]
  have hF02 : dF o M (msL M1 (o + 22) (stN w d r) 1) := hF01.sL (by omega)
  have hA : wwE o (msL M1 (o + 22) (stN w d r) 1) (gt0 w d r) := by
    refine ⟨fun k hk => ?_, ?_⟩
    · rw [aL_s, if_pos rfl]
      unfold upL
      show (if k = stN w d r then (1 : Int64) else aL o 22 M1 k) = if k = stN w d r then 1 else 0
      by_cases e : k = stN w d r
      · rw [if_pos e, if_pos e]
      · rw [if_neg e, if_neg e]; exact hz k hk
    · rw [mgL_sL, if_neg (by omega), hF1.2.2 _ _ (by omega), mgL_sL, if_pos ⟨rfl, rfl⟩]; rfl
  refine ⟨n + 1, l7_g85 hl hrc hpot2 hbr9 hm8 hwho hn n 0 _ s (gt0 w d r) (by omega) (hD.d hF02) hr hpot hbr hA (fun M' s' k1 k2 k3 k4 => ?_)⟩
  have hF03 : eF o M M' := hF02.ef.tr k1
  have hL' : ML o M' := ML_of hF03.1.1 h1
  simp (disch := first | assumption | omega) only [mgR_sI, mgR_sL, mkd_sI, mkd_sL, mln_sI, mln_sL, Option.some.injEq, exists_eq_left', forall_eq, true_and, and_true, Nat.reduceLT, exists_eq_left, ML_r0, ML_k1, ML_l1, ML_r1, ML_k2, ML_l2, ML_r2, ML_k3, ML_l3, ML_r3, ML_k4, ML_l4, ML_r13, ML_k5, ML_l5, ML_r14, ML_k6, ML_l6, ML_r15, ML_k7, ML_l7, ML_r16, ML_k8, ML_l8, ML_r17, ML_k9, ML_l9, ML_r18, ML_k10, ML_l10, ML_r19, ML_k11, ML_l11, ML_r20, ML_k12, ML_l12, ML_r21, ML_k13, ML_l13, ML_r22, ML_k14, ML_l14, ML_r23, ML_k15, ML_l15, ML_r24, ML_k16, ML_l16, ML_r25, ML_k17, ML_l17, ML_r26, ML_k18, ML_l18, ML_r30, ML_k19, ML_l19, ML_r35, ML_k20, ML_l20, ML_r36, ML_k21, ML_l21, ML_r37, ML_k22, ML_l22, ML_r38, ML_k23, ML_l23, ML_r40, ML_k24, ML_l24, ML_r41, ML_k25, ML_l25, ML_r42, ML_k26, ML_l26, ML_r43, ML_k27, ML_l27, ML_r44, ML_k28, ML_l28, ML_r45, ML_k29, ML_l29, ML_r48, ML_k30, ML_l30, ML_r51, ML_k31, ML_l31, ML_r52, ML_k32, ML_l32, ap1, show nI n * nI (m + 1) = nI (n * (m + 1)) from pk_mul n (m + 1)]
  have hb : n * (m + 1) < 2147483648 := by
    have : n * (m + 1) ≤ 100 * 9 := Nat.mul_le_mul (by omega) (by omega)
    omega
  refine w7_tens hb ?_
  have hrow : ar o 1 (msI M' (o + 1) 79 (s 79)) = s := by
    rw [ar_s, if_pos rfl, k2]
    funext k
    unfold up
    by_cases e : k = 79
    · rw [if_pos e, e]
    · rw [if_neg e]; exact k3 k e
  have k4' : wwE o (msI M' (o + 1) 79 (s 79)) (gtN T l th rc rb who tn m pot br n s (gt0 w d r)) := k4
  rw [k4'.2]
  exact h _ hF03.s hrow k4'
/-- the told people below p -/
def flS (s : Nat → Int32) : Nat → List Nat
  | 0 => []
  | p + 1 => if isPe s (nI p) = true then flS s p ++ [p] else flS s p
def whoS (s : Nat → Int32) (i : Nat) : Nat := (flS s 8).getD i 0
theorem flS_t {s : Nat → Int32} {p : Nat} (e : isPe s (nI p) = true) : flS s (p + 1) = flS s p ++ [p] := if_pos e
theorem flS_f {s : Nat → Int32} {p : Nat} (e : ¬ isPe s (nI p) = true) : flS s (p + 1) = flS s p := if_neg e
theorem gD_l {a b : List Nat} {i : Nat} (h : i < a.length) : (a ++ b).getD i 0 = a.getD i 0 := by
  simp [List.getD_eq_getElem?_getD, List.getElem?_append_left h]
theorem gD_r {a : List Nat} {x : Nat} : (a ++ [x]).getD a.length 0 = x := by
  simp [List.getD_eq_getElem?_getD]
theorem flS_lt {s : Nat → Int32} : ∀ p i, i < (flS s p).length → (flS s p).getD i 0 < p := by
  intro p
  induction p with
  | zero => intro i hi; exact absurd hi (by unfold flS; simp)
  | succ p ih =>
    intro i hi
    by_cases e : isPe s (nI p) = true
    · rw [flS_t e] at hi ⊢
      rw [List.length_append] at hi
      by_cases e2 : i < (flS s p).length
      · rw [gD_l e2]; have := ih i e2; omega
      · have : i = (flS s p).length := by simp at hi; omega
        rw [this, gD_r]; omega
    · rw [flS_f e] at hi ⊢
      have := ih i hi; omega
theorem flS_mono {s : Nat → Int32} {p : Nat} : ∀ j, (flS s p).length ≤ (flS s (p + j)).length ∧ ∀ i, i < (flS s p).length → (flS s (p + j)).getD i 0 = (flS s p).getD i 0 := by
  intro j
  induction j with
  | zero => exact ⟨Nat.le_refl _, fun _ _ => rfl⟩
  | succ j ih =>
    rw [show p + (j + 1) = p + j + 1 from rfl]
    by_cases e : isPe s (nI (p + j)) = true
    · rw [flS_t e]
      refine ⟨by rw [List.length_append]; have := ih.1; omega, fun i hi => ?_⟩
      rw [gD_l (by have := ih.1; omega)]
      exact ih.2 i hi
    · rw [flS_f e]; exact ih
theorem l7_some {o m : Nat} {M0 : MM} {s : Nat → Int32} {X : MM → Int32 → Prop} (hL : ML o M0) (hs : ar o 1 M0 = s) (hm : m ≤ 8)
    (h : ∀ M', fI (fun a _ => a = o + 20 ∨ a = o + 21) M0 M' → m ≤ (flS s 8).length → (∀ i, i < m → ar o 20 M' i = nI (whoS s i) ∧ ar o 21 M' i = s (52 + whoS s i)) → X M' (nI m))
    (h0 : ∀ M' c, fI (fun a _ => a = o + 20 ∨ a = o + 21) M0 M' → ¬ m ≤ (flS s 8).length → c < m → X M' (nI c)) :
    ∀ j p M, p + j = 8 → fI (fun a _ => a = o + 20 ∨ a = o + 21) M0 M → (flS s p).length ≤ m → (∀ i, i < (flS s p).length → ar o 20 M i = nI ((flS s p).getD i 0) ∧ ar o 21 M i = s (52 + (flS s p).getD i 0)) → wl_X7_laysSome_4 o (nI m) X (j + 1) M (nI (flS s p).length) (nI p) := by
  have fin : ∀ p M, p ≤ 8 → fI (fun a _ => a = o + 20 ∨ a = o + 21) M0 M → (flS s p).length = m → (∀ i, i < (flS s p).length → ar o 20 M i = nI ((flS s p).getD i 0) ∧ ar o 21 M i = s (52 + (flS s p).getD i 0)) → X M (nI (flS s p).length) := by
    intro p M hp hF hl hw
    have hmo := flS_mono (s := s) (p := p) (8 - p)
    rw [show p + (8 - p) = 8 by omega] at hmo
    rw [hl]
    refine h M hF (by omega) (fun i hi => ?_)
    unfold whoS
    rw [hmo.2 i (by omega)]
    exact hw i (by omega)
  intro j
  induction j with
  | zero =>
    intro p M hp hF hl hw
    have : p = 8 := by omega
    subst this
    unfold wl_X7_laysSome_4
    rw [if_pos (show (8 : Int32) ≤ nI 8 from by decide)]
    by_cases e : (flS s 8).length = m
    · exact fin 8 M (by omega) hF e hw
    · exact h0 M _ hF (by omega) (by omega)
  | succ j ih =>
    intro p M hp hF hl hw
    have h1 : ML o M := ML_of hF.e hL
    have ha : ar o 1 M = s := (funext fun k => hF.2 _ _ (by omega)).trans hs
    have hn : nw o M = s := ha
    unfold wl_X7_laysSome_4
    rw [if_neg (show ¬ (8 : Int32) ≤ nI p from (show ¬ nI 8 ≤ nI p from nI_ge (by omega) (by omega)))]
    by_cases e : m ≤ (flS s p).length
    · rw [if_pos (nI_le e (by omega))]
      exact fin p M (by omega) hF (by omega) hw
    · rw [if_neg (nI_ge (by omega) (by omega)), w7_isPerson h1, hn]
      by_cases e2 : isPe s (nI p) = true
      · have hfl : flS s (p + 1) = flS s p ++ [p] := flS_t e2
        simp (disch := first | assumption | omega) only [e2, if_true, n10, if_false, mgR_sI, mgR_sL, mkd_sI, mkd_sL, mln_sI, mln_sL, Option.some.injEq, exists_eq_left', forall_eq, true_and, and_true, Nat.reduceLT, exists_eq_left, ML_r0, ML_k1, ML_l1, ML_r1, ML_k2, ML_l2, ML_r2, ML_k3, ML_l3, ML_r3, ML_k4, ML_l4, ML_r13, ML_k5, ML_l5, ML_r14, ML_k6, ML_l6, ML_r15, ML_k7, ML_l7, ML_r16, ML_k8, ML_l8, ML_r17, ML_k9, ML_l9, ML_r18, ML_k10, ML_l10, ML_r19, ML_k11, ML_l11, ML_r20, ML_k12, ML_l12, ML_r21, ML_k13, ML_l13, ML_r22, ML_k14, ML_l14, ML_r23, ML_k15, ML_l15, ML_r24, ML_k16, ML_l16, ML_r25, ML_k17, ML_l17, ML_r26, ML_k18, ML_l18, ML_r30, ML_k19, ML_l19, ML_r35, ML_k20, ML_l20, ML_r36, ML_k21, ML_l21, ML_r37, ML_k22, ML_l22, ML_r38, ML_k23, ML_l23, ML_r40, ML_k24, ML_l24, ML_r41, ML_k25, ML_l25, ML_r42, ML_k26, ML_l26, ML_r43, ML_k27, ML_l27, ML_r44, ML_k28, ML_l28, ML_r45, ML_k29, ML_l29, ML_r48, ML_k30, ML_l30, ML_r51, ML_k31, ML_l31, ML_r52, ML_k32, ML_l32, ia0, ia4, ia8, ia12, ia16, ia20, ia24, ia52, ia60, ia68, im7, im14, ap6, iaN, ap1, ixN, vpN, arE (o := o) (c := 1), ar_s, Nat.reduceEqDiff, ha]
        have k := ih (p + 1) (msI (msI M (o + 20) (flS s p).length (nI p)) (o + 21) (flS s p).length (s (52 + p))) (by omega) ((hF.s (Or.inl rfl)).s (Or.inr rfl)) (by rw [hfl, List.length_append]; simp; omega) (fun i hi => ?_)
        · rw [hfl, List.length_append] at k
          exact k
        · rw [hfl, List.length_append] at hi
          rw [hfl, ar_s, ar_s, ar_s, ar_s, if_neg (by omega), if_pos rfl, if_pos rfl, if_neg (by omega)]
          unfold up
          by_cases e3 : i = (flS s p).length
          · rw [if_pos e3, if_pos e3, e3, gD_r]
            exact ⟨rfl, rfl⟩
          · have hi2 : i < (flS s p).length := by simp at hi; omega
            rw [if_neg e3, if_neg e3, gD_l hi2]
            exact hw i hi2
      · have hfl : flS s (p + 1) = flS s p := flS_f e2
        simp only [e2, if_true, if_false, Bool.false_eq_true, forall_eq, ap1]
        have k := ih (p + 1) M (by omega) hF (by rw [hfl]; exact hl) (by rw [hfl]; exact hw)
        rw [hfl] at k
        exact k
theorem w7_laysSome {o m : Nat} {M : MM} {s : Nat → Int32} {Post : Int32 → MM → Prop} (hL : ML o M) (hs : ar o 1 M = s) (hm : m ≤ 8)
    (h : ∀ M', fI (fun a _ => a = o + 20 ∨ a = o + 21) M M' → m ≤ (flS s 8).length → (∀ i, i < m → ar o 20 M' i = nI (whoS s i) ∧ ar o 21 M' i = s (52 + whoS s i)) → Post 1 M')
    (h0 : ∀ M', fI (fun a _ => a = o + 20 ∨ a = o + 21) M M' → ¬ m ≤ (flS s 8).length → Post 0 M') : wp_X7_laysSome M o (nI m) Post := by
  unfold wp_X7_laysSome wb_X7_laysSome_58
  refine ⟨9, l7_some hL hs hm ?_ ?_ 8 0 M (by omega) fI.rf (by unfold flS; simp) (fun i hi => absurd hi (by unfold flS; simp))⟩
  · intro M' k1 k2 k3
    rw [if_pos rfl]; exact h M' k1 k2 k3
  · intro M' c k1 k2 k3
    rw [if_neg (fun x => by have := (nI_eq (by omega) (by omega)).mp x; omega)]; exact h0 M' k1 k2
/-- whether l, n, m can be laid -/
def cgV (s : Nat → Int32) (l n m : Int32) : Bool := livS s l && inS n 1 9 && inS m 1 3 && decide (¬ 18 < n * (m + 1)) && decide (m ≤ nI (flS s 8).length)
theorem flS_len {s : Nat → Int32} : ∀ p, (flS s p).length ≤ p := by
  intro p
  induction p with
  | zero => unfold flS; simp
  | succ p ih =>
    by_cases e : isPe s (nI p) = true
    · rw [flS_t e, List.length_append]; simp; exact ih
    · rw [flS_f e]; omega
def smE (o : Nat) (M : MM) (s : Nat → Int32) (m : Nat) : Prop := ∀ i, i < m → ar o 20 M i = nI (whoS s i) ∧ ar o 21 M i = s (52 + whoS s i)
/-- frame: the state stays, and how rules are tried -/
def kF (o : Nat) (M M' : MM) : Prop := gF o M M' ∧ ar o 1 M' = ar o 1 M ∧ mgI M' o 32 = mgI M o 32
theorem w7_canGo {o : Nat} {M : MM} {s : Nat → Int32} {l n m : Int32} {Post : Int32 → MM → Prop} (hL : ML o M) (hs : ar o 1 M = s) (h0 : cgV s l n m = false → ∀ M', kF o M M' → Post 0 M')
    (h1 : ∀ l' n' m', l' < 4 → 1 ≤ n' → n' ≤ 9 → 1 ≤ m' → m' ≤ 3 → l = nI l' → n = nI n' → m = nI m' → m' ≤ (flS s 8).length → cgV s l n m = true → ∀ M', kF o M M' → smE o M' s m' → mgI M' o 33 = nI l' → mgI M' o 34 = s (4 + l') → Post 1 M') : wp_X7_canGo M o l n m Post := by
  have hs' : nw o M = s := hs
  unfold wp_X7_canGo
  unfold cgV at h0 h1
  rw [w7_lives hL, hs']
  have k0 : kF o M M := ⟨gF.rf, rfl, rfl⟩
  by_cases e1 : livS s l = true
  · by_cases e2 : inS n 1 9 = true
    · by_cases e3 : inS m 1 3 = true
      · obtain ⟨l', hl', rfl⟩ := isPl_n (livS_pl e1)
        obtain ⟨n', hn1, hn2, rfl⟩ := inS_ab (a := 1) (b := 9) (by omega) (by omega) e2
        obtain ⟨m', hm1, hm2, rfl⟩ := inS_ab (a := 1) (b := 3) (by omega) (by omega) e3
        simp only [e1, e2, e3, if_true, n10, if_false, w7_in]
        by_cases e4 : (18 : Int32) < nI n' * (nI m' + 1)
        · rw [if_pos e4]; exact h0 (by simp [e4]) M k0
        rw [if_neg e4]
        have fk : ∀ M', fI (fun a _ => a = o + 20 ∨ a = o + 21) M M' → kF o M M' := fun M' hF => ⟨hF.g (fun a k e => by unfold PSc; omega), funext fun k => hF.2 _ _ (by omega), hF.2 _ _ (by omega)⟩
        have hlen := flS_len (s := s) 8
        refine w7_laysSome hL hs (by omega) (fun M1 hF hm hw => ?_) (fun M1 hF hm => ?_)
        · have hL1 : ML o M1 := ML_of hF.e hL
          have ha1 : ar o 1 M1 = s := (fk M1 hF).2.1.trans hs
          have hle : nI m' ≤ nI (flS s 8).length := nI_le hm (by omega)
          simp (disch := first | assumption | omega) only [mgR_sI, mgR_sL, mkd_sI, mkd_sL, mln_sI, mln_sL, Option.some.injEq, exists_eq_left', forall_eq, true_and, and_true, Nat.reduceLT, exists_eq_left, ML_r0, ML_k1, ML_l1, ML_r1, ML_k2, ML_l2, ML_r2, ML_k3, ML_l3, ML_r3, ML_k4, ML_l4, ML_r13, ML_k5, ML_l5, ML_r14, ML_k6, ML_l6, ML_r15, ML_k7, ML_l7, ML_r16, ML_k8, ML_l8, ML_r17, ML_k9, ML_l9, ML_r18, ML_k10, ML_l10, ML_r19, ML_k11, ML_l11, ML_r20, ML_k12, ML_l12, ML_r21, ML_k13, ML_l13, ML_r22, ML_k14, ML_l14, ML_r23, ML_k15, ML_l15, ML_r24, ML_k16, ML_l16, ML_r25, ML_k17, ML_l17, ML_r26, ML_k18, ML_l18, ML_r30, ML_k19, ML_l19, ML_r35, ML_k20, ML_l20, ML_r36, ML_k21, ML_l21, ML_r37, ML_k22, ML_l22, ML_r38, ML_k23, ML_l23, ML_r40, ML_k24, ML_l24, ML_r41, ML_k25, ML_l25, ML_r42, ML_k26, ML_l26, ML_r43, ML_k27, ML_l27, ML_r44, ML_k28, ML_l28, ML_r45, ML_k29, ML_l29, ML_r48, ML_k30, ML_l30, ML_r51, ML_k31, ML_l31, ML_r52, ML_k32, ML_l32, ia0, ia4, ia8, ia12, ia16, ia20, ia24, ia52, ia60, ia68, im7, im14, ap6, iaN, ap1, ixN, vpN, if_true, n10, if_false, arE (o := o) (c := 1), ar_0, ha1]
          refine h1 l' n' m' hl' hn1 hn2 hm1 hm2 rfl rfl rfl hm (by simp [e1, e2, e3, e4, hle]) _ ⟨((fk M1 hF).1.s (by unfold PSc; omega)).s (by unfold PSc; omega), ?_, ?_⟩ ?_ ?_ ?_
          · rw [ar_0 (by omega), ar_0 (by omega)]; exact (fk M1 hF).2.1
          · rw [fd_n (by omega), fd_n (by omega)]; exact (fk M1 hF).2.2
          · intro i hi
            rw [ar_0 (by omega), ar_0 (by omega), ar_0 (by omega), ar_0 (by omega)]
            exact hw i hi
          · rw [fd_n (by omega), fd_e]
          · exact fd_e
        · simp only [if_true]
          refine h0 ?_ M1 (fk M1 hF)
          have hle : ¬ nI m' ≤ nI (flS s 8).length := nI_ge (by omega) (by omega)
          simp [hle]
      · simp only [e1, e2, e3, if_true, n10, if_false, w7_in, Bool.false_eq_true]; exact h0 (by simp [e3]) M k0
    · simp only [e1, e2, if_true, n10, if_false, w7_in, Bool.false_eq_true]; exact h0 (by simp [e2]) M k0
  · simp only [e1, if_true, if_false, Bool.false_eq_true]; exact h0 (by simp [e1]) M k0
/-- a living plant's numbers -/
def lvO (s : Nat → Int32) (l : Nat) : Prop := ∃ pot w br d r, s l = nI pot ∧ s (4 + l) = nI w ∧ s (8 + l) = nI br ∧ s (12 + l) = nI d ∧ s (16 + l) = nI r ∧ 4 ≤ pot ∧ pot ≤ 24 ∧ w ≤ pot ∧ br ≤ 9 ∧ d < br ∧ r < br
/-- weights and the dead behind n days, of the first m of some -/
def gtR (T : Nat → Txt) (s : Nat → Int32) (l : Nat) (rc rb : Int32) (tn : Nat → Int32) (m n : Nat) : (Nat → Int64) × Int64 := gtN T l (s (4 + l)) rc rb (whoS s) tn m (ix_ (s l)) (ix_ (s (8 + l))) n s (gt0 (ix_ (s (4 + l))) (ix_ (s (12 + l))) (ix_ (s (16 + l))))
def lvR (T : Nat → Txt) (s : Nat → Int32) (l : Nat) (rc rb : Int32) (tn : Nat → Int32) (m n : Nat) : Int64 := tenL (n * (m + 1)) - (gtR T s l rc rb tn m n).2
theorem w7_goes {o l m n : Nat} {rc rb : Int32} {tn : Nat → Int32} {T : Nat → Txt} {s : Nat → Int32} {M : MM} {Post : Int64 → MM → Prop} (hD : DPc o M l (s (4 + l)) rc rb (whoS s) tn m s T) (hl : l < 4) (hr : RuOk s) (hrc : rc = -1 ∨ ∃ r, r ≤ 9 ∧ rc = nI r) (hlv : lvO s l) (hm : m ≤ (flS s 8).length) (hn : n < 100)
    (h : ∀ M', eF o M M' → ar o 1 M' = s → wwE o M' (gtR T s l rc rb tn m n) → Post (lvR T s l rc rb tn m n) M') : wp_X7_goesThrough M o (nI n) (nI m) Post := by
  obtain ⟨pot, w, br, d, r, h1, h2, h3, h4, h5, h6, h7, h8, h9, h10, h11⟩ := hlv
  have hlen := flS_len (s := s) 8
  have hR : gtR T s l rc rb tn m n = gtN T l (s (4 + l)) rc rb (whoS s) tn m pot br n s (gt0 w d r) := by
    unfold gtR
    rw [h1, h2, h3, h4, h5, ixN (by omega), ixN (by omega), ixN (by omega), ixN (by omega), ixN (by omega)]
  unfold lvR at h
  rw [hR] at h
  exact w7_goesThrough hD hl hr hrc h1 h7 h3 h9 (by omega) (fun i hi => flS_lt 8 i (by omega)) hn h2 h4 h5 (by omega) (by omega) (by omega) h
