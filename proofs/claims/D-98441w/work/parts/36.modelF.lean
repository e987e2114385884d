/-! the model: the week's rows -/
set_option maxRecDepth 100000
def wkL (ok : Nat → Bool) (cm : Nat → Nat) : Nat → Nat → Option Nat → Option Nat
  | 0, _, b => b
  | j + 1, c, none => wkL ok cm j (c + 1) (if ok c = true then some c else none)
  | j + 1, c, some q => if cm c < cm q then wkL ok cm j (c + 1) (if ok c = true then some c else some q) else wkL ok cm j (c + 1) (some q)
def bI (b : Option Nat) : Int32 := match b with
  | none => -1
  | some q => nI q
def okS (T : Nat → Txt) (s : Nat → Int32) (l m c : Nat) : Bool := decide (¬ wbS T l m (whoS s) c s = -1)
def wkO (T : Nat → Txt) (s : Nat → Int32) (l m : Nat) : Option Nat := wkL (okS T s l m) (fun c => cmN m c 7) ((m + 1) ^ 7) 0 none
theorem nI_m1 {n : Nat} (h : n < 2147483648) : ¬ nI n = -1 := by
  intro e
  have h1 := nI_toInt h
  rw [e, show (-1 : Int32).toInt = -1 from rfl] at h1
  omega
theorem l7_wk81 {o l m N : Nat} {x3 : Int32} {M0 : MM} {T : Nat → Txt} {s : Nat → Int32} {R : Option Nat} {X : MM → Int32 → Prop} (hL : ML o M0) (hT : TM o M0 T) (hl : l < 4) (hr : RuOk s) (hml : m ≤ (flS s 8).length) (hN : N < 100000)
    (h : ∀ M', gF o M0 M' → ar o 20 M' = ar o 20 M0 → ar o 1 M' = s → (∀ q, R = some q → q < 100000) → X M' (bI R)) : ∀ j c M b, c + j = N → gF o M0 M → ar o 20 M = ar o 20 M0 → ar o 1 M = s → (∀ i, i < m → ar o 20 M0 i = nI (whoS s i)) → (∀ q, b = some q → q < 100000) → wkL (okS T s l m) (fun c => cmN m c 7) j c b = R → wl_X7_week_81 o (nI l) (nI m) x3 (nI N) X (j + 1) M (bI b) (nI c) := by
  have hlen := flS_len (s := s) 8
  intro j
  induction j with
  | zero =>
    intro c M b hc hF h20 hs hw hb hR
    unfold wl_X7_week_81
    rw [if_pos (nI_le (by omega) (by omega))]
    have hR' : b = R := hR
    subst hR'
    exact h M hF h20 hs hb
  | succ j ih =>
    intro c M b hc hF h20 hs hw hb hR
    have h1 : ML o M := ML_of hF.1 hL
    have ht1 : TM o M T := hT.of (fun c a b k => hF.2.1 _ _ (by unfold PSc; omega))
    unfold wl_X7_week_81
    rw [if_neg (nI_ge (by omega) (by omega))]
    have wb : ∀ b' : Option Nat, wkL (okS T s l m) (fun c => cmN m c 7) j (c + 1) (if okS T s l m c = true then some c else b') = R → (∀ q, b' = some q → q < 100000) → wb_X7_week_112 M o (nI l) (nI m) x3 (nI N) (bI b') (nI c) (wl_X7_week_81 o (nI l) (nI m) x3 (nI N) X (j + 1)) X := by
      intro b' hR' hb'
      unfold wb_X7_week_112
      refine w7_wetBehind h1 ht1 hl hs hr hml (fun i hi => by rw [h20]; exact hw i hi) (by omega) (by omega) (fun M2 hF2 h202 hs2 => ?_)
      by_cases e : wbS T l m (whoS s) c s = -1
      · rw [if_pos e]
        simp only [forall_eq, ap1]
        have hok : ¬ okS T s l m c = true := by unfold okS; simp [e]
        rw [if_neg hok] at hR'
        exact ih (c + 1) M2 b' (by omega) (hF.tr hF2) (h202.trans h20) hs2 hw hb' hR'
      · rw [if_neg e]
        simp only [forall_eq, ap1]
        have hok : okS T s l m c = true := by unfold okS; simp [e]
        rw [if_pos hok] at hR'
        exact ih (c + 1) M2 (some c) (by omega) (hF.tr hF2) (h202.trans h20) hs2 hw (fun q hq => by cases hq; omega) hR'
    cases b with
    | none =>
      rw [if_pos (show bI none = -1 from rfl)]
      exact wb none hR hb
    | some q =>
      have hq := hb q rfl
      rw [if_neg (show ¬ bI (some q) = -1 from nI_m1 (by omega))]
      refine w7_comings (by omega) (by omega) ?_
      refine w7_comings (by omega) (by omega) ?_
      have hc1 := cmN_le (m := m) (c := c) 7
      have hc2 := cmN_le (m := m) (c := q) 7
      have hRR : (if cmN m c 7 < cmN m q 7 then wkL (okS T s l m) (fun c => cmN m c 7) j (c + 1) (if okS T s l m c = true then some c else some q) else wkL (okS T s l m) (fun c => cmN m c 7) j (c + 1) (some q)) = R := hR
      by_cases e : cmN m c 7 < cmN m q 7
      · rw [if_pos (nI_lt e (by omega))]
        rw [if_pos e] at hRR
        exact wb (some q) hRR hb
      · rw [if_neg (nI_nlt (by omega) (by omega))]
        rw [if_neg e] at hRR
        simp only [forall_eq, ap1]
        exact ih (c + 1) M (some q) (by omega) hF h20 hs hw hb hRR
theorem l7_wk54 {o m : Nat} {x1 x3 : Int32} {M : MM} {X : MM → Int32 → Prop} (hm : m ≤ 3) (h : X M (nI ((m + 1) ^ 7))) : ∃ n, wl_X7_week_54 o x1 (nI m) x3 X n M 1 0 := by
  refine cl_ (fun n (v : Int32) k => wl_X7_week_54 o x1 (nI m) x3 X n M v (nI k)) (fun k v => v = nI ((m + 1) ^ k)) 7 ?_ ?_ 1 0 (by omega) rfl
  · intro n k v hk hv hs'
    show wl_X7_week_54 o x1 (nI m) x3 X (n + 1) M v (nI k)
    unfold wl_X7_week_54
    rw [if_neg (show ¬ (7 : Int32) ≤ nI k from (show ¬ nI 7 ≤ nI k from nI_ge (by omega) (by omega)))]
    simp only [forall_eq, ap1]
    refine hs' _ ?_
    rw [hv, show nI ((m + 1) ^ k) * nI (m + 1) = nI ((m + 1) ^ k * (m + 1)) from pk_mul _ _, Nat.pow_succ]
  · intro n v hv
    show wl_X7_week_54 o x1 (nI m) x3 X (n + 1) M v (nI 7)
    unfold wl_X7_week_54
    rw [if_pos (show (7 : Int32) ≤ nI 7 from by decide), hv]
    exact h
/-- what a week's rows tell -/
def weS (T : Nat → Txt) (s : Nat → Int32) (l m : Nat) (w : Int32) : Int32 := match wkO T s l m with
  | none => -2
  | some q => if w = 10 then nI (cmN m q 7) else if w = 11 then wbS T l m (whoS s) q s else if dgN m q (ix_ w) = m then -3 else nI (whoS s (dgN m q (ix_ w)))
def weV (s : Nat → Int32) (l m w : Int32) : Bool := livS s l && inS m 1 3 && (inS w 10 11 || inS w 0 6) && decide (m ≤ nI (flS s 8).length)
theorem w7_wk38 {o l m : Nat} {w : Int32} {M : MM} {T : Nat → Txt} {s : Nat → Int32} {Post : Int32 → MM → Prop} (hL : ML o M) (hT : TM o M T) (hl : l < 4) (hs : ar o 1 M = s) (hr : RuOk s) (hm1 : 1 ≤ m) (hm : m ≤ 3) (hw : (inS w 10 11 || inS w 0 6) = true)
    (h0 : ¬ m ≤ (flS s 8).length → ∀ M', gF o M M' → ar o 1 M' = s → Post (-1) M') (h1 : m ≤ (flS s 8).length → ∀ M', gF o M M' → ar o 1 M' = s → Post (weS T s l m w) M') : wb_X7_week_38 M o (nI l) (nI m) w Post := by
  have hlen := flS_len (s := s) 8
  have hgg : ∀ M', fI (fun a _ => a = o + 20 ∨ a = o + 21) M M' → gF o M M' ∧ ar o 1 M' = s := fun M' hF => ⟨hF.g (fun a k e => by unfold PSc; omega), (funext fun k => hF.2 _ _ (by omega)).trans hs⟩
  unfold wb_X7_week_38
  refine w7_laysSome hL hs (by omega) (fun M1 hF1 hml hsm => ?_) (fun M1 hF1 hml => ?_)
  · rw [if_neg n10]
    refine l7_wk54 hm ?_
    have hp : (m + 1) ^ 7 ≤ 4 ^ 7 := Nat.pow_le_pow_left (by omega) 7
    have hp2 : (4 : Nat) ^ 7 = 16384 := by decide
    have hL1 : ML o M1 := ML_of hF1.e hL
    have hT1 : TM o M1 T := hF1.tm (fun c a b k => by omega) hT
    refine ⟨(m + 1) ^ 7 + 1, l7_wk81 (M0 := M1) (T := T) (s := s) (R := wkO T s l m) hL1 hT1 hl hr hml (by omega) (fun M2 hF2 h202 hs2 hq => ?_) ((m + 1) ^ 7) 0 M1 none (by omega) gF.rf rfl (hgg M1 hF1).2 (fun i hi => (hsm i hi).1) (fun q hq => by cases hq) rfl⟩
    have hgM2 : gF o M M2 := (hgg M1 hF1).1.tr hF2
    have hL2 : ML o M2 := ML_of hF2.1 hL1
    have hT2 : TM o M2 T := hT1.of (fun c a b k => hF2.2.1 _ _ (by unfold PSc; omega))
    unfold weS at h1
    cases hR : wkO T s l m with
    | none =>
      rw [hR] at h1
      rw [if_pos (show bI none = -1 from rfl)]
      exact h1 hml M2 hgM2 hs2
    | some q =>
      rw [hR] at h1
      dsimp only at h1
      have hq1 := hq q hR
      rw [if_neg (show ¬ bI (some q) = -1 from nI_m1 (by omega)), show bI (some q) = nI q from rfl]
      by_cases e6 : inS w 0 6 = true
      · obtain ⟨k, hk1, rfl⟩ := inS_n (n := 6) (by omega) e6
        rw [if_pos (show nI k ≤ (9 : Int32) from (show nI k ≤ nI 9 from nI_le (by omega) (by omega)))]
        rw [if_neg (fun x => by have := (nI_eq (a := k) (b := 10) (by omega) (by omega)).mp x; omega), if_neg (fun x => by have := (nI_eq (a := k) (b := 11) (by omega) (by omega)).mp x; omega), ixN (by omega)] at h1
        refine w7_comingIn (by omega) (by omega) hk1 ?_
        have hdg : dgN m q k < m + 1 := Nat.mod_lt _ (by omega)
        by_cases e : dgN m q k = m
        · rw [if_pos e] at h1
          rw [if_pos (by rw [e])]
          exact h1 hml M2 hgM2 hs2
        · rw [if_neg e] at h1
          rw [if_neg (fun x => e ((nI_eq (by omega) (by omega)).mp x))]
          have hw1 : ar o 20 M2 (dgN m q k) = nI (whoS s (dgN m q k)) := by rw [h202]; exact (hsm _ (by omega)).1
          simp (disch := first | assumption | omega) only [mgR_sI, mgR_sL, mkd_sI, mkd_sL, mln_sI, mln_sL, Option.some.injEq, exists_eq_left', forall_eq, true_and, and_true, Nat.reduceLT, exists_eq_left, ML_r0, ML_k1, ML_l1, ML_r1, ML_k2, ML_l2, ML_r2, ML_k3, ML_l3, ML_r3, ML_k4, ML_l4, ML_r13, ML_k5, ML_l5, ML_r14, ML_k6, ML_l6, ML_r15, ML_k7, ML_l7, ML_r16, ML_k8, ML_l8, ML_r17, ML_k9, ML_l9, ML_r18, ML_k10, ML_l10, ML_r19, ML_k11, ML_l11, ML_r20, ML_k12, ML_l12, ML_r21, ML_k13, ML_l13, ML_r22, ML_k14, ML_l14, ML_r23, ML_k15, ML_l15, ML_r24, ML_k16, ML_l16, ML_r25, ML_k17, ML_l17, ML_r26, ML_k18, ML_l18, ML_r30, ML_k19, ML_l19, ML_r35, ML_k20, ML_l20, ML_r36, ML_k21, ML_l21, ML_r37, ML_k22, ML_l22, ML_r38, ML_k23, ML_l23, ML_r40, ML_k24, ML_l24, ML_r41, ML_k25, ML_l25, ML_r42, ML_k26, ML_l26, ML_r43, ML_k27, ML_l27, ML_r44, ML_k28, ML_l28, ML_r45, ML_k29, ML_l29, ML_r48, ML_k30, ML_l30, ML_r51, ML_k31, ML_l31, ML_r52, ML_k32, ML_l32, ia0, ia4, ia8, ia12, ia16, ia20, ia24, ia52, ia60, ia68, im7, im14, ap6, iaN, ap1, ixN, vpN, arE (o := o) (c := 20), hw1]
          exact h1 hml M2 hgM2 hs2
      · have e10 : inS w 10 11 = true := by
          rw [Bool.or_eq_true] at hw
          exact hw.resolve_right e6
        obtain ⟨k, hk1, hk2, rfl⟩ := inS_ab (a := 10) (b := 11) (by omega) (by omega) e10
        rw [if_neg (show ¬ nI k ≤ (9 : Int32) from (show ¬ nI k ≤ nI 9 from nI_ge (by omega) (by omega)))]
        by_cases e : nI k = 10
        · rw [if_pos e] at h1 ⊢
          exact w7_comings (by omega) (by omega) (h1 hml M2 hgM2 hs2)
        · have e11 : nI k = 11 := by
            have : k = 10 ∨ k = 11 := by omega
            rcases this with rfl | rfl
            · exact absurd rfl e
            · rfl
          rw [if_neg e] at h1 ⊢
          rw [if_pos e11] at h1
          refine w7_wetBehind hL2 hT2 hl hs2 hr hml (fun i hi => by rw [h202]; exact (hsm i hi).1) (by omega) (by omega) (fun M3 hF3 _ hs3 => h1 hml M3 (hgM2.tr hF3) hs3)
  · rw [if_pos rfl]
    exact h0 hml M1 (hgg M1 hF1).1 (hgg M1 hF1).2
theorem M_week {o : Nat} {M : MM} {T : Nat → Txt} {s : Nat → Int32} {l m w : Int32} {Post : Int32 → MM → Prop} (hL : ML o M) (hT : TM o M T) (hs : ar o 1 M = s) (hr : RuOk s) (h0 : weV s l m w = false → ∀ M', gF o M M' → ar o 1 M' = s → Post (-1) M')
    (h1 : ∀ l' m', l' < 4 → 1 ≤ m' → m' ≤ 3 → l = nI l' → m = nI m' → weV s l m w = true → ∀ M', gF o M M' → ar o 1 M' = s → Post (weS T s l' m' w) M') : wp_X7_week M o l m w Post := by
  have hs' : nw o M = s := hs
  have hlen := flS_len (s := s) 8
  unfold wp_X7_week
  rw [w7_lives hL, hs']
  unfold weV at h0 h1
  by_cases e1 : livS s l = true
  · by_cases e2 : inS m 1 3 = true
    · obtain ⟨l', hl', rfl⟩ := isPl_n (livS_pl e1)
      obtain ⟨m', hm1, hm2, rfl⟩ := inS_ab (a := 1) (b := 3) (by omega) (by omega) e2
      have go : (inS w 10 11 || inS w 0 6) = true → wb_X7_week_38 M o (nI l') (nI m') w Post := fun hw => w7_wk38 hL hT hl' hs hr hm1 hm2 hw
        (fun hml => h0 (by have : ¬ nI m' ≤ nI (flS s 8).length := nI_ge (by omega) (by omega)
                           simp [this]))
        (fun hml => h1 l' m' hl' hm1 hm2 rfl rfl (by have : nI m' ≤ nI (flS s 8).length := nI_le hml (by omega)
                                                     rw [hw]; simp [e1, e2, this]))
      simp only [e1, e2, if_true, n10, if_false, w7_in]
      by_cases e3 : inS w 10 11 = true
      · simp only [e3, if_true, n10, if_false]; exact go (by simp [e3])
      · by_cases e4 : inS w 0 6 = true
        · simp only [e3, e4, if_true, n10, if_false, Bool.false_eq_true]; exact go (by simp [e4])
        · simp only [e3, e4, if_true, n10, if_false, Bool.false_eq_true]; exact h0 (by simp [e3, e4]) M gF.rf hs
    · simp only [e1, e2, if_true, n10, if_false, w7_in, Bool.false_eq_true]; exact h0 (by simp [e2]) M gF.rf hs
  · simp only [e1, if_true, if_false, Bool.false_eq_true]; exact h0 (by simp [e1]) M gF.rf hs
