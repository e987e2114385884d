/-! the model: exactly, chance, toAsk, movesOut, few, pot, ruleFor -/
set_option maxRecDepth 100000
def tn0 (s : Nat → Int32) : Nat → Int32 := fun i => s (52 + whoS s i)
def exS (T : Nat → Txt) (s : Nat → Int32) (l m n : Nat) (c : Int32) : Int64 := if c = -1 then (gtR T s l (-1) 0 (tn0 s) m n).2 else sm 20 (fun i => (gtR T s l (-1) 0 (tn0 s) m n).1 (20 * ix_ c + i))
theorem DPc.mk0 {o l m : Nat} {M0 M : MM} {T : Nat → Txt} {s : Nat → Int32} (hL : ML o M0) (hT : TM o M0 T) (h31 : mgI M0 o 31 = -1) (hs : ar o 1 M0 = s) (hk : kF o M0 M) (hw : smE o M s m) (h33 : mgI M o 33 = nI l) (h34 : mgI M o 34 = s (4 + l)) : DPc o M l (s (4 + l)) (-1) 0 (whoS s) (tn0 s) m s T :=
  ⟨ML_of hk.1.1 hL, hT.of (fun c a b k => hk.1.2.1 _ _ (by unfold PSc; omega)), hk.2.1.trans hs, h33, h34, (hk.1.2.1 _ _ (by unfold PSc; omega)).trans h31, Or.inl rfl, hw⟩
theorem l7_ex {o c : Nat} {x4 : Int32} {M : MM} {w : Nat → Int64} {Post : Int64 → MM → Prop} (hL : ML o M) (hx : x4 = nI c) (hc : c ≤ 24) (hw : ∀ k, k < 500 → aL o 22 M k = w k) : ∀ j i v, i + j = 20 → v = sm i (fun i => w (20 * c + i)) → Post (sm 20 (fun i => w (20 * c + i))) M → wl_X7_exactly_49 o x4 (fun M_23 x5_25 => Post x5_25 M_23) (j + 1) M v (nI i) := by
  intro j
  have g1 : (20 : Int32) * nI c = nI (20 * c) := pk_mul 20 c
  induction j with
  | zero =>
    intro i v hi hv h
    unfold wl_X7_exactly_49
    rw [if_pos (show (20 : Int32) ≤ nI i from (show nI 20 ≤ nI i from nI_le (by omega) (by omega)))]
    rw [hv, show i = 20 by omega]; exact h
  | succ j ih =>
    intro i v hi hv h
    unfold wl_X7_exactly_49
    rw [if_neg (show ¬ (20 : Int32) ≤ nI i from (show ¬ nI 20 ≤ nI i from nI_ge (by omega) (by omega))), hx, g1]
    have hk := hw (20 * c + i) (by omega)
    simp (disch := first | assumption | omega) only [mgR_sI, mgR_sL, mkd_sI, mkd_sL, mln_sI, mln_sL, Option.some.injEq, exists_eq_left', forall_eq, true_and, and_true, Nat.reduceLT, exists_eq_left, ML_r0, ML_k1, ML_l1, ML_r1, ML_k2, ML_l2, ML_r2, ML_k3, ML_l3, ML_r3, ML_k4, ML_l4, ML_r13, ML_k5, ML_l5, ML_r14, ML_k6, ML_l6, ML_r15, ML_k7, ML_l7, ML_r16, ML_k8, ML_l8, ML_r17, ML_k9, ML_l9, ML_r18, ML_k10, ML_l10, ML_r19, ML_k11, ML_l11, ML_r20, ML_k12, ML_l12, ML_r21, ML_k13, ML_l13, ML_r22, ML_k14, ML_l14, ML_r23, ML_k15, ML_l15, ML_r24, ML_k16, ML_l16, ML_r25, ML_k17, ML_l17, ML_r26, ML_k18, ML_l18, ML_r30, ML_k19, ML_l19, ML_r35, ML_k20, ML_l20, ML_r36, ML_k21, ML_l21, ML_r37, ML_k22, ML_l22, ML_r38, ML_k23, ML_l23, ML_r40, ML_k24, ML_l24, ML_r41, ML_k25, ML_l25, ML_r42, ML_k26, ML_l26, ML_r43, ML_k27, ML_l27, ML_r44, ML_k28, ML_l28, ML_r45, ML_k29, ML_l29, ML_r48, ML_k30, ML_l30, ML_r51, ML_k31, ML_l31, ML_r52, ML_k32, ML_l32, ia0, ia4, ia8, ia12, ia16, ia20, ia24, ia52, ia60, ia68, im7, im14, ap6, iaN, ap1, ixN, vpN, aLE (o := o) (c := 22), hk]
    rw [← hx]
    refine ih (i + 1) _ (by omega) ?_ h
    rw [hv]; rfl
theorem M_exactly {o : Nat} {M : MM} {T : Nat → Txt} {s : Nat → Int32} {l n m c : Int32} {Post : Int64 → MM → Prop} (hL : ML o M) (hT : TM o M T) (h31 : mgI M o 31 = -1) (hs : ar o 1 M = s) (hr : RuOk s) (hlv : ∀ l, l < 4 → livS s (nI l) = true → lvO s l) (h0 : (cgV s l n m && inS c (-1) 24) = false → ∀ M', gF o M M' → ar o 1 M' = s → Post (-1) M')
    (h1 : ∀ l' n' m', l' < 4 → l = nI l' → n = nI n' → m = nI m' → 1 ≤ m' → m' ≤ 3 → 1 ≤ n' → n' ≤ 9 → (cgV s l n m && inS c (-1) 24) = true → ∀ M', gF o M M' → ar o 1 M' = s → Post (exS T s l' m' n' c) M') : wp_X7_exactly M o l n m c Post := by
  unfold wp_X7_exactly
  refine w7_canGo hL hs (fun e M1 hk => ?_) (fun l' n' m' hl' hn1 hn2 hm1 hm2 e1 e2 e3 hml e M1 hk hw h33 h34 => ?_)
  · rw [if_pos rfl]; exact h0 (by rw [e]; rfl) M1 hk.1 (hk.2.1.trans hs)
  · rw [if_neg n10, w7_in]
    by_cases ec : inS c (-1) 24 = true
    · rw [if_pos ec, if_neg n10, e2, e3]
      have hliv : livS s (nI l') = true := by
        unfold cgV at e; rw [e1] at e
        simp only [Bool.and_eq_true] at e
        exact e.1.1.1.1
      have hD := DPc.mk0 hL hT h31 hs hk hw h33 h34
      refine w7_goes hD hl' hr (Or.inl rfl) (hlv l' hl' hliv) hml (by omega) (fun M2 hF hs2 hA => ?_)
      have fin := h1 l' n' m' hl' e1 e2 e3 hm1 hm2 hn1 hn2 (by rw [e, ec]; rfl) M2 (hk.1.tr hF.1) hs2
      unfold exS at fin
      by_cases e4 : c = -1
      · rw [if_pos e4] at fin ⊢
        rw [hA.2]; exact fin
      · rw [if_neg e4] at fin ⊢
        have hcn : ¬ c < 0 := by
          intro hlt
          have h2 := (inS_iff.mp ec).1
          rw [Int32.le_iff_toInt_le, show (-1 : Int32).toInt = -1 from rfl] at h2
          rw [Int32.lt_iff_toInt_lt, show (0 : Int32).toInt = 0 from rfl] at hlt
          exact e4 (Int32.toInt_inj.mp (by rw [show (-1 : Int32).toInt = -1 from rfl]; omega))
        obtain ⟨c', hc1, hc2⟩ := nI_of2 (M := 24) (n := 24) rfl hcn (inS_iff.mp ec).2
        have hix : ix_ c = c' := by rw [hc2]; exact ixN (by omega)
        rw [hix] at fin
        exact ⟨21, l7_ex (Post := Post) (ML_of hF.1.1 hD.1) hc2 hc1 hA.1 20 0 0 (by omega) rfl fin⟩
    · rw [if_neg ec, if_pos rfl]
      exact h0 (by rw [e]; simpa using ec) M1 hk.1 (hk.2.1.trans hs)
def bsL (f : Nat → Int64) (nm : Nat → Int32) : Nat → Nat → Int32 → Int64 → Int32 × Int64
  | 0, _, b, mo => (b, mo)
  | j + 1, t, b, mo => if mo < f t then bsL f nm j (t + 1) (nm t) (f t) else bsL f nm j (t + 1) b mo
/-- who comes is known, their chances aren't -/
def DPw (o : Nat) (M : MM) (l : Nat) (th rc rb : Int32) (who : Nat → Nat) (m : Nat) (s : Nat → Int32) (T : Nat → Txt) : Prop := DPc o M l th rc rb who (fun _ => 0) 0 s T ∧ ∀ i, i < m → ar o 20 M i = nI (who i)
theorem DPc.w {o : Nat} {M M1 : MM} {l : Nat} {th rc rb : Int32} {who : Nat → Nat} {tn : Nat → Int32} {m : Nat} {s : Nat → Int32} {T : Nat → Txt} (h : DPc o M l th rc rb who tn m s T) (hF : eF o M M1) (hs : ar o 1 M1 = s) : DPw o M1 l th rc rb who m s T := by
  obtain ⟨h1, h2, h3, h4, h5, h6, h7, h8⟩ := h.e hF hs
  exact ⟨⟨h1, h2, h3, h4, h5, h6, h7, fun i hi => absurd hi (by omega)⟩, fun i hi => (h8 i hi).1⟩
theorem DPw.set {o : Nat} {M M1 : MM} {l : Nat} {th rc rb : Int32} {who : Nat → Nat} {tn : Nat → Int32} {m : Nat} {s : Nat → Int32} {T : Nat → Txt} (h : DPw o M l th rc rb who m s T) (hF : fI (fun a _ => a = o + 21) M M1) (ht : ∀ i, i < m → ar o 21 M1 i = tn i) : DPc o M1 l th rc rb who tn m s T := by
  obtain ⟨⟨h1, h2, h3, h4, h5, h6, h7, _⟩, h9⟩ := h
  refine ⟨ML_of hF.e h1, hF.tm (fun c a b k => by omega) h2, (funext fun k => hF.2 _ _ (by omega)).trans h3, (hF.2 _ _ (by omega)).trans h4, (hF.2 _ _ (by omega)).trans h5, (hF.2 _ _ (by omega)).trans h6, h7.imp id (fun h7 => (hF.2 _ _ (by omega)).trans h7), fun i hi => ⟨(hF.2 _ _ (by omega)).trans (h9 i hi), ht i hi⟩⟩
theorem fI.g21 {o : Nat} {M M1 : MM} (hF : fI (fun a _ => a = o + 21) M M1) : gF o M M1 := hF.g (fun a k e => by unfold PSc; omega)
theorem l7_ch45 {o m t : Nat} {x2 x4 x5 : Int32} {x6 : Int64} {M : MM} {X : MM → Prop} (hL : ML o M) (hm : m ≤ 8) (h : ∀ M', fI (fun a _ => a = o + 21) M M' → (∀ i, i < m → ar o 21 M' i = nI t) → X M') : ∃ n, wl_X7_chance_45 o x2 (nI m) x4 x5 x6 (nI t) X n M (nI 0) := by
  refine cl_ (fun n M1 j => wl_X7_chance_45 o x2 (nI m) x4 x5 x6 (nI t) X n M1 (nI j)) (fun j M1 => fI (fun a _ => a = o + 21) M M1 ∧ ∀ i, i < j → ar o 21 M1 i = nI t) m ?_ ?_ M 0 (by omega) ⟨fI.rf, fun i hi => by omega⟩
  · intro n j M1 hj ⟨hF, hr⟩ hs'
    have h1 : ML o M1 := ML_of hF.e hL
    show wl_X7_chance_45 o x2 (nI m) x4 x5 x6 (nI t) X (n + 1) M1 (nI j)
    unfold wl_X7_chance_45
    rw [if_neg (nI_ge hj (by omega))]
    simp (disch := first | assumption | omega) only [mgR_sI, mgR_sL, mkd_sI, mkd_sL, mln_sI, mln_sL, Option.some.injEq, exists_eq_left', forall_eq, true_and, and_true, Nat.reduceLT, exists_eq_left, ML_r0, ML_k1, ML_l1, ML_r1, ML_k2, ML_l2, ML_r2, ML_k3, ML_l3, ML_r3, ML_k4, ML_l4, ML_r13, ML_k5, ML_l5, ML_r14, ML_k6, ML_l6, ML_r15, ML_k7, ML_l7, ML_r16, ML_k8, ML_l8, ML_r17, ML_k9, ML_l9, ML_r18, ML_k10, ML_l10, ML_r19, ML_k11, ML_l11, ML_r20, ML_k12, ML_l12, ML_r21, ML_k13, ML_l13, ML_r22, ML_k14, ML_l14, ML_r23, ML_k15, ML_l15, ML_r24, ML_k16, ML_l16, ML_r25, ML_k17, ML_l17, ML_r26, ML_k18, ML_l18, ML_r30, ML_k19, ML_l19, ML_r35, ML_k20, ML_l20, ML_r36, ML_k21, ML_l21, ML_r37, ML_k22, ML_l22, ML_r38, ML_k23, ML_l23, ML_r40, ML_k24, ML_l24, ML_r41, ML_k25, ML_l25, ML_r42, ML_k26, ML_l26, ML_r43, ML_k27, ML_l27, ML_r44, ML_k28, ML_l28, ML_r45, ML_k29, ML_l29, ML_r48, ML_k30, ML_l30, ML_r51, ML_k31, ML_l31, ML_r52, ML_k32, ML_l32, ia0, ia4, ia8, ia12, ia16, ia20, ia24, ia52, ia60, ia68, im7, im14, ap6, iaN, ap1, ixN, vpN]
    refine hs' _ ⟨hF.s rfl, fun i hi => ?_⟩
    rw [ar_s, if_pos rfl]
    unfold up
    by_cases e : i = j
    · rw [if_pos e]
    · rw [if_neg e]; exact hr i (by omega)
  · intro n M1 ⟨hF, hr⟩
    show wl_X7_chance_45 o x2 (nI m) x4 x5 x6 (nI t) X (n + 1) M1 (nI m)
    unfold wl_X7_chance_45
    rw [if_pos (nI_le (Nat.le_refl _) (by omega))]
    exact h M1 hF hr
def chF (T : Nat → Txt) (s : Nat → Int32) (l m n : Nat) (t : Nat) : Int64 := lvR T s l (-1) 0 (fun _ => nI t) m n
theorem l7_ch35 {o l m n : Nat} {x4 : Int32} {M0 : MM} {T : Nat → Txt} {s : Nat → Int32} {X : MM → Int32 → Int64 → Prop} (hl : l < 4) (hr : RuOk s) (hlv : lvO s l) (hml : m ≤ (flS s 8).length) (hn : n < 100)
    (h : ∀ M' b mo, gF o M0 M' → ar o 1 M' = s → (b, mo) = bsL (chF T s l m n) nI 11 0 0 (-1) → X M' b mo) : ∀ j t M b mo, t + j = 11 → gF o M0 M → DPw o M l (s (4 + l)) (-1) 0 (whoS s) m s T → bsL (chF T s l m n) nI j t b mo = bsL (chF T s l m n) nI 11 0 0 (-1) → wl_X7_chance_35 o (nI n) (nI m) x4 X (j + 1) M b mo (nI t) := by
  intro j
  induction j with
  | zero =>
    intro t M b mo ht hF hD hb
    unfold wl_X7_chance_35
    rw [if_pos (show (10 : Int32) < nI t from (show nI 10 < nI t from nI_lt (by omega) (by omega)))]
    exact h M b mo hF hD.1.2.2.1 hb
  | succ j ih =>
    intro t M b mo ht hF hD hb
    have hlen := flS_len (s := s) 8
    unfold wl_X7_chance_35
    rw [if_neg (show ¬ (10 : Int32) < nI t from (show ¬ nI 10 < nI t from nI_nlt (by omega) (by omega)))]
    refine l7_ch45 hD.1.1 (by omega) (fun M1 hF1 ht1 => ?_)
    have hD1 := hD.set (tn := fun _ => nI t) hF1 ht1
    refine w7_goes hD1 hl hr (Or.inl rfl) hlv hml hn (fun M2 hF2 hs2 _ => ?_)
    have hF02 := (hF.tr hF1.g21).tr hF2.1
    have hv : lvR T s l (-1) 0 (fun _ => nI t) m n = chF T s l m n t := rfl
    rw [hv]
    unfold bsL at hb
    by_cases e : mo < chF T s l m n t
    · rw [if_pos e] at hb ⊢
      simp only [forall_eq, ap1]
      exact ih (t + 1) M2 _ _ (by omega) hF02 (hD1.w hF2 hs2) hb
    · rw [if_neg e] at hb ⊢
      simp only [forall_eq, ap1]
      exact ih (t + 1) M2 _ _ (by omega) hF02 (hD1.w hF2 hs2) hb
def wtS (r : Int32 × Int64) (what : Int32) : Int64 := if what = 0 then r.1.toInt64 else r.2
theorem M_chance {o : Nat} {M : MM} {T : Nat → Txt} {s : Nat → Int32} {l n m c : Int32} {Post : Int64 → MM → Prop} (hL : ML o M) (hT : TM o M T) (h31 : mgI M o 31 = -1) (hs : ar o 1 M = s) (hr : RuOk s) (hlv : ∀ l, l < 4 → livS s (nI l) = true → lvO s l) (h0 : (cgV s l n m && inS c 0 1) = false → ∀ M', gF o M M' → ar o 1 M' = s → Post (-1) M')
    (h1 : ∀ l' n' m', l' < 4 → l = nI l' → n = nI n' → m = nI m' → 1 ≤ m' → m' ≤ 3 → 1 ≤ n' → n' ≤ 9 → (cgV s l n m && inS c 0 1) = true → ∀ M', gF o M M' → ar o 1 M' = s → Post (wtS (bsL (chF T s l' m' n') nI 11 0 0 (-1)) c) M') : wp_X7_chance M o l n m c Post := by
  unfold wp_X7_chance
  refine w7_canGo hL hs (fun e M1 hk => ?_) (fun l' n' m' hl' hn1 hn2 hm1 hm2 e1 e2 e3 hml e M1 hk hw h33 h34 => ?_)
  · rw [if_pos rfl]; exact h0 (by rw [e]; rfl) M1 hk.1 (hk.2.1.trans hs)
  · rw [if_neg n10, w7_in]
    by_cases ec : inS c 0 1 = true
    · rw [if_pos ec, if_neg n10, e2, e3]
      have hliv : livS s (nI l') = true := by
        unfold cgV at e; rw [e1] at e
        simp only [Bool.and_eq_true] at e
        exact e.1.1.1.1
      have hD := DPc.mk0 hL hT h31 hs hk hw h33 h34
      refine ⟨12, l7_ch35 (T := T) (M0 := M) hl' hr (hlv l' hl' hliv) hml (by omega) (fun M' b mo hF hs' hb => ?_) 11 0 M1 0 (-1) (by omega) hk.1 (hD.w eF.rf hD.2.2.1) rfl⟩
      have fin := h1 l' n' m' hl' e1 e2 e3 hm1 hm2 hn1 hn2 (by rw [e, ec]; rfl) M' hF hs'
      rw [← hb] at fin
      unfold wtS at fin
      by_cases e4 : c = 0
      · rw [if_pos e4] at fin ⊢; exact fin
      · rw [if_neg e4] at fin ⊢; exact fin
    · rw [if_neg ec, if_pos rfl]
      exact h0 (by rw [e]; simpa using ec) M1 hk.1 (hk.2.1.trans hs)
