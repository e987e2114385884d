/-! the model: toAsk, movesOut, few, ruleFor -/
set_option maxRecDepth 100000
theorem cg_liv {s : Nat → Int32} {l n m : Int32} {l' : Nat} (e : cgV s l n m = true) (e1 : l = nI l') : livS s (nI l') = true := by
  unfold cgV at e; rw [e1] at e
  simp only [Bool.and_eq_true] at e
  exact e.1.1.1.1
def taT (s : Nat → Int32) (k : Nat) : Nat → Int32 := fun i => if i = k then 10 else ma_ 0 (s (52 + whoS s i) - 2)
def moT (s : Nat → Int32) (k : Nat) : Nat → Int32 := fun i => if i = k then 0 else s (52 + whoS s i)
theorem l7_ta48 {o l m k : Nat} {th rc rb x2 x4 x5 : Int32} {x6 : Int64} {M : MM} {T : Nat → Txt} {s : Nat → Int32} {X : MM → Prop} (hD : DPw o M l th rc rb (whoS s) m s T) (hml : m ≤ (flS s 8).length) (hk : k < 8) (h : ∀ M', fI (fun a _ => a = o + 21) M M' → (∀ i, i < m → ar o 21 M' i = taT s k i) → X M') : ∃ n, wl_X7_toAsk_48 o x2 (nI m) x4 x5 x6 (nI k) X n M (nI 0) := by
  have hlen := flS_len (s := s) 8
  refine cl_ (fun n M1 j => wl_X7_toAsk_48 o x2 (nI m) x4 x5 x6 (nI k) X n M1 (nI j)) (fun j M1 => fI (fun a _ => a = o + 21) M M1 ∧ ∀ i, i < j → ar o 21 M1 i = taT s k i) m ?_ ?_ M 0 (by omega) ⟨fI.rf, fun i hi => by omega⟩
  · intro n j M1 hj ⟨hF, hr⟩ hs'
    have h1 : ML o M1 := ML_of hF.e hD.1.1
    have ha : ar o 1 M1 = s := (funext fun k => hF.2 _ _ (by omega)).trans hD.1.2.2.1
    have hw : ar o 20 M1 j = nI (whoS s j) := (hF.2 _ _ (by omega)).trans (hD.2 j hj)
    have hwl : whoS s j < 8 := flS_lt 8 j (by omega)
    show wl_X7_toAsk_48 o x2 (nI m) x4 x5 x6 (nI k) X (n + 1) M1 (nI j)
    unfold wl_X7_toAsk_48 wb_X7_toAsk_93
    rw [if_neg (nI_ge hj (by omega))]
    have fin : ∀ v, v = taT s k j → wl_X7_toAsk_48 o x2 (nI m) x4 x5 x6 (nI k) X n (msI M1 (o + 21) j v) (nI (j + 1)) := by
      intro v hv
      refine hs' _ ⟨hF.s rfl, fun i hi => ?_⟩
      rw [ar_s, if_pos rfl]
      unfold up
      by_cases e : i = j
      · rw [if_pos e, hv, e]
      · rw [if_neg e]; exact hr i (by omega)
    simp (disch := first | assumption | omega) only [mgR_sI, mgR_sL, mkd_sI, mkd_sL, mln_sI, mln_sL, Option.some.injEq, exists_eq_left', forall_eq, true_and, and_true, Nat.reduceLT, exists_eq_left, ML_r0, ML_k1, ML_l1, ML_r1, ML_k2, ML_l2, ML_r2, ML_k3, ML_l3, ML_r3, ML_k4, ML_l4, ML_r13, ML_k5, ML_l5, ML_r14, ML_k6, ML_l6, ML_r15, ML_k7, ML_l7, ML_r16, ML_k8, ML_l8, ML_r17, ML_k9, ML_l9, ML_r18, ML_k10, ML_l10, ML_r19, ML_k11, ML_l11, ML_r20, ML_k12, ML_l12, ML_r21, ML_k13, ML_l13, ML_r22, ML_k14, ML_l14, ML_r23, ML_k15, ML_l15, ML_r24, ML_k16, ML_l16, ML_r25, ML_k17, ML_l17, ML_r26, ML_k18, ML_l18, ML_r30, ML_k19, ML_l19, ML_r35, ML_k20, ML_l20, ML_r36, ML_k21, ML_l21, ML_r37, ML_k22, ML_l22, ML_r38, ML_k23, ML_l23, ML_r40, ML_k24, ML_l24, ML_r41, ML_k25, ML_l25, ML_r42, ML_k26, ML_l26, ML_r43, ML_k27, ML_l27, ML_r44, ML_k28, ML_l28, ML_r45, ML_k29, ML_l29, ML_r48, ML_k30, ML_l30, ML_r51, ML_k31, ML_l31, ML_r52, ML_k32, ML_l32, ia0, ia4, ia8, ia12, ia16, ia20, ia24, ia52, ia60, ia68, im7, im14, ap6, iaN, ap1, ixN, vpN, w7_max, arE (o := o) (c := 1), arE (o := o) (c := 20), ha, hw]
    by_cases e : j = k
    · rw [if_pos (by rw [e])]
      exact fin _ (by unfold taT; rw [if_pos e])
    · rw [if_neg (fun x => e ((nI_eq (by omega) (by omega)).mp x))]
      exact fin _ (by unfold taT; rw [if_neg e])
  · intro n M1 ⟨hF, hr⟩
    show wl_X7_toAsk_48 o x2 (nI m) x4 x5 x6 (nI k) X (n + 1) M1 (nI m)
    unfold wl_X7_toAsk_48
    rw [if_pos (nI_le (Nat.le_refl _) (by omega))]
    exact h M1 hF hr
def taF (T : Nat → Txt) (s : Nat → Int32) (l m n : Nat) (k : Nat) : Int64 := lvR T s l (-1) 0 (taT s k) m n
def moF (T : Nat → Txt) (s : Nat → Int32) (l m n : Nat) (k : Nat) : Int64 := lvR T s l (-1) 0 (moT s k) m n
def whI (s : Nat → Int32) (k : Nat) : Int32 := nI (whoS s k)
theorem l7_ta39 {o l m n : Nat} {x4 : Int32} {M0 : MM} {T : Nat → Txt} {s : Nat → Int32} {R : Int32 × Int64} {X : MM → Int32 → Int64 → Prop} (hl : l < 4) (hr : RuOk s) (hlv : lvO s l) (hml : m ≤ (flS s 8).length) (hn : n < 100)
    (h : ∀ M' b mo, gF o M0 M' → ar o 1 M' = s → (b, mo) = R → X M' b mo) : ∀ j k M b mo, k + j = m → gF o M0 M → DPw o M l (s (4 + l)) (-1) 0 (whoS s) m s T → bsL (taF T s l m n) (whI s) j k b mo = R → wl_X7_toAsk_39 o (nI n) (nI m) x4 X (j + 1) M b mo (nI k) := by
  have hlen := flS_len (s := s) 8
  intro j
  induction j with
  | zero =>
    intro t M b mo ht hF hD hb
    unfold wl_X7_toAsk_39
    rw [if_pos (nI_le (by omega) (by omega))]
    exact h M b mo hF hD.1.2.2.1 hb
  | succ j ih =>
    intro t M b mo ht hF hD hb
    unfold wl_X7_toAsk_39
    rw [if_neg (nI_ge (by omega) (by omega))]
    refine l7_ta48 hD hml (by omega) (fun M1 hF1 ht1 => ?_)
    have hD1 := hD.set (tn := taT s t) hF1 ht1
    refine w7_goes hD1 hl hr (Or.inl rfl) hlv hml hn (fun M2 hF2 hs2 _ => ?_)
    have hF02 := (hF.tr hF1.g21).tr hF2.1
    have hD2 := hD1.w hF2 hs2
    have hL2 : ML o M2 := hD2.1.1
    have hw2 : ar o 20 M2 t = nI (whoS s t) := hD2.2 t (by omega)
    have hv : lvR T s l (-1) 0 (taT s t) m n = taF T s l m n t := rfl
    rw [hv]
    unfold bsL at hb
    by_cases e : mo < taF T s l m n t
    · rw [if_pos e] at hb ⊢
      simp (disch := first | assumption | omega) only [mgR_sI, mgR_sL, mkd_sI, mkd_sL, mln_sI, mln_sL, Option.some.injEq, exists_eq_left', forall_eq, true_and, and_true, Nat.reduceLT, exists_eq_left, ML_r0, ML_k1, ML_l1, ML_r1, ML_k2, ML_l2, ML_r2, ML_k3, ML_l3, ML_r3, ML_k4, ML_l4, ML_r13, ML_k5, ML_l5, ML_r14, ML_k6, ML_l6, ML_r15, ML_k7, ML_l7, ML_r16, ML_k8, ML_l8, ML_r17, ML_k9, ML_l9, ML_r18, ML_k10, ML_l10, ML_r19, ML_k11, ML_l11, ML_r20, ML_k12, ML_l12, ML_r21, ML_k13, ML_l13, ML_r22, ML_k14, ML_l14, ML_r23, ML_k15, ML_l15, ML_r24, ML_k16, ML_l16, ML_r25, ML_k17, ML_l17, ML_r26, ML_k18, ML_l18, ML_r30, ML_k19, ML_l19, ML_r35, ML_k20, ML_l20, ML_r36, ML_k21, ML_l21, ML_r37, ML_k22, ML_l22, ML_r38, ML_k23, ML_l23, ML_r40, ML_k24, ML_l24, ML_r41, ML_k25, ML_l25, ML_r42, ML_k26, ML_l26, ML_r43, ML_k27, ML_l27, ML_r44, ML_k28, ML_l28, ML_r45, ML_k29, ML_l29, ML_r48, ML_k30, ML_l30, ML_r51, ML_k31, ML_l31, ML_r52, ML_k32, ML_l32, ia0, ia4, ia8, ia12, ia16, ia20, ia24, ia52, ia60, ia68, im7, im14, ap6, iaN, ap1, ixN, vpN, arE (o := o) (c := 20), hw2]
      exact ih (t + 1) M2 _ _ (by omega) hF02 hD2 hb
    · rw [if_neg e] at hb ⊢
      simp only [forall_eq, ap1]
      exact ih (t + 1) M2 _ _ (by omega) hF02 hD2 hb
def taS (T : Nat → Txt) (s : Nat → Int32) (l m n : Nat) : Int32 × Int64 := bsL (taF T s l m n) (whI s) m 0 (-2) (lvR T s l (-1) 0 (tn0 s) m n)
theorem M_toAsk {o : Nat} {M : MM} {T : Nat → Txt} {s : Nat → Int32} {l n m c : Int32} {Post : Int64 → MM → Prop} (hL : ML o M) (hT : TM o M T) (h31 : mgI M o 31 = -1) (hs : ar o 1 M = s) (hr : RuOk s) (hlv : ∀ l, l < 4 → livS s (nI l) = true → lvO s l) (h0 : (cgV s l n m && inS c 0 1) = false → ∀ M', gF o M M' → ar o 1 M' = s → Post (-1) M')
    (h1 : ∀ l' n' m', l' < 4 → l = nI l' → n = nI n' → m = nI m' → 1 ≤ m' → m' ≤ 3 → 1 ≤ n' → n' ≤ 9 → (cgV s l n m && inS c 0 1) = true → ∀ M', gF o M M' → ar o 1 M' = s → Post (wtS (taS T s l' m' n') c) M') : wp_X7_toAsk M o l n m c Post := by
  unfold wp_X7_toAsk
  refine w7_canGo hL hs (fun e M1 hk => ?_) (fun l' n' m' hl' hn1 hn2 hm1 hm2 e1 e2 e3 hml e M1 hk hw h33 h34 => ?_)
  · rw [if_pos rfl]; exact h0 (by rw [e]; rfl) M1 hk.1 (hk.2.1.trans hs)
  · rw [if_neg n10, w7_in]
    by_cases ec : inS c 0 1 = true
    · rw [if_pos ec, if_neg n10, e2, e3]
      have hliv := cg_liv e e1
      have hD := DPc.mk0 hL hT h31 hs hk hw h33 h34
      refine w7_goes hD hl' hr (Or.inl rfl) (hlv l' hl' hliv) hml (by omega) (fun M2 hF2 hs2 _ => ?_)
      refine ⟨m' + 1, l7_ta39 (T := T) (M0 := M) (R := taS T s l' m' n') hl' hr (hlv l' hl' hliv) hml (by omega) (fun M' b mo hF hs' hb => ?_) m' 0 M2 (-2) _ (by omega) (hk.1.tr hF2.1) (hD.w hF2 hs2) rfl⟩
      have fin := h1 l' n' m' hl' e1 e2 e3 hm1 hm2 hn1 hn2 (by rw [e, ec]; rfl) M' hF hs'
      rw [← hb] at fin
      unfold wtS at fin
      by_cases e4 : c = 0
      · rw [if_pos e4] at fin ⊢; exact fin
      · rw [if_neg e4] at fin ⊢; exact fin
    · rw [if_neg ec, if_pos rfl]
      exact h0 (by rw [e]; simpa using ec) M1 hk.1 (hk.2.1.trans hs)
theorem l7_mo42 {o l m k : Nat} {th rc rb x2 x4 x5 : Int32} {x6 : Int64} {M : MM} {T : Nat → Txt} {s : Nat → Int32} {X : MM → Prop} (hD : DPw o M l th rc rb (whoS s) m s T) (hml : m ≤ (flS s 8).length) (hk : k < 8) (h : ∀ M', fI (fun a _ => a = o + 21) M M' → (∀ i, i < m → ar o 21 M' i = moT s k i) → X M') : ∃ n, wl_X7_movesOut_42 o x2 (nI m) x4 x5 x6 (nI k) X n M (nI 0) := by
  have hlen := flS_len (s := s) 8
  refine cl_ (fun n M1 j => wl_X7_movesOut_42 o x2 (nI m) x4 x5 x6 (nI k) X n M1 (nI j)) (fun j M1 => fI (fun a _ => a = o + 21) M M1 ∧ ∀ i, i < j → ar o 21 M1 i = moT s k i) m ?_ ?_ M 0 (by omega) ⟨fI.rf, fun i hi => by omega⟩
  · intro n j M1 hj ⟨hF, hr⟩ hs'
    have h1 : ML o M1 := ML_of hF.e hD.1.1
    have ha : ar o 1 M1 = s := (funext fun k => hF.2 _ _ (by omega)).trans hD.1.2.2.1
    have hw : ar o 20 M1 j = nI (whoS s j) := (hF.2 _ _ (by omega)).trans (hD.2 j hj)
    have hwl : whoS s j < 8 := flS_lt 8 j (by omega)
    show wl_X7_movesOut_42 o x2 (nI m) x4 x5 x6 (nI k) X (n + 1) M1 (nI j)
    unfold wl_X7_movesOut_42 wb_X7_movesOut_80
    rw [if_neg (nI_ge hj (by omega))]
    have fin : ∀ v, v = moT s k j → wl_X7_movesOut_42 o x2 (nI m) x4 x5 x6 (nI k) X n (msI M1 (o + 21) j v) (nI (j + 1)) := by
      intro v hv
      refine hs' _ ⟨hF.s rfl, fun i hi => ?_⟩
      rw [ar_s, if_pos rfl]
      unfold up
      by_cases e : i = j
      · rw [if_pos e, hv, e]
      · rw [if_neg e]; exact hr i (by omega)
    simp (disch := first | assumption | omega) only [mgR_sI, mgR_sL, mkd_sI, mkd_sL, mln_sI, mln_sL, Option.some.injEq, exists_eq_left', forall_eq, true_and, and_true, Nat.reduceLT, exists_eq_left, ML_r0, ML_k1, ML_l1, ML_r1, ML_k2, ML_l2, ML_r2, ML_k3, ML_l3, ML_r3, ML_k4, ML_l4, ML_r13, ML_k5, ML_l5, ML_r14, ML_k6, ML_l6, ML_r15, ML_k7, ML_l7, ML_r16, ML_k8, ML_l8, ML_r17, ML_k9, ML_l9, ML_r18, ML_k10, ML_l10, ML_r19, ML_k11, ML_l11, ML_r20, ML_k12, ML_l12, ML_r21, ML_k13, ML_l13, ML_r22, ML_k14, ML_l14, ML_r23, ML_k15, ML_l15, ML_r24, ML_k16, ML_l16, ML_r25, ML_k17, ML_l17, ML_r26, ML_k18, ML_l18, ML_r30, ML_k19, ML_l19, ML_r35, ML_k20, ML_l20, ML_r36, ML_k21, ML_l21, ML_r37, ML_k22, ML_l22, ML_r38, ML_k23, ML_l23, ML_r40, ML_k24, ML_l24, ML_r41, ML_k25, ML_l25, ML_r42, ML_k26, ML_l26, ML_r43, ML_k27, ML_l27, ML_r44, ML_k28, ML_l28, ML_r45, ML_k29, ML_l29, ML_r48, ML_k30, ML_l30, ML_r51, ML_k31, ML_l31, ML_r52, ML_k32, ML_l32, ia0, ia4, ia8, ia12, ia16, ia20, ia24, ia52, ia60, ia68, im7, im14, ap6, iaN, ap1, ixN, vpN, arE (o := o) (c := 1), arE (o := o) (c := 20), ha, hw]
    by_cases e : j = k
    · rw [if_pos (by rw [e])]
      exact fin _ (by unfold moT; rw [if_pos e])
    · rw [if_neg (fun x => e ((nI_eq (by omega) (by omega)).mp x))]
      exact fin _ (by unfold moT; rw [if_neg e])
  · intro n M1 ⟨hF, hr⟩
    show wl_X7_movesOut_42 o x2 (nI m) x4 x5 x6 (nI k) X (n + 1) M1 (nI m)
    unfold wl_X7_movesOut_42
    rw [if_pos (nI_le (Nat.le_refl _) (by omega))]
    exact h M1 hF hr
def mvL (f : Nat → Int64) (nm : Nat → Int32) : Nat → Nat → Int32 → Int64 → Int32 × Int64
  | 0, _, b, mo => (b, mo)
  | j + 1, t, b, mo => if b = -1 ∨ f t < mo then mvL f nm j (t + 1) (nm t) (f t) else mvL f nm j (t + 1) b mo
theorem l7_mo33 {o l m n : Nat} {x4 : Int32} {M0 : MM} {T : Nat → Txt} {s : Nat → Int32} {R : Int32 × Int64} {X : MM → Int32 → Int64 → Prop} (hl : l < 4) (hr : RuOk s) (hlv : lvO s l) (hml : m ≤ (flS s 8).length) (hn : n < 100)
    (h : ∀ M' b mo, gF o M0 M' → ar o 1 M' = s → (b, mo) = R → X M' b mo) : ∀ j k M b mo, k + j = m → gF o M0 M → DPw o M l (s (4 + l)) (-1) 0 (whoS s) m s T → mvL (moF T s l m n) (whI s) j k b mo = R → wl_X7_movesOut_33 o (nI n) (nI m) x4 X (j + 1) M b mo (nI k) := by
  have hlen := flS_len (s := s) 8
  intro j
  induction j with
  | zero =>
    intro t M b mo ht hF hD hb
    unfold wl_X7_movesOut_33
    rw [if_pos (nI_le (by omega) (by omega))]
    exact h M b mo hF hD.1.2.2.1 hb
  | succ j ih =>
    intro t M b mo ht hF hD hb
    unfold wl_X7_movesOut_33 wb_X7_movesOut_112
    rw [if_neg (nI_ge (by omega) (by omega))]
    refine l7_mo42 hD hml (by omega) (fun M1 hF1 ht1 => ?_)
    have hD1 := hD.set (tn := moT s t) hF1 ht1
    refine w7_goes hD1 hl hr (Or.inl rfl) hlv hml hn (fun M2 hF2 hs2 _ => ?_)
    have hF02 := (hF.tr hF1.g21).tr hF2.1
    have hD2 := hD1.w hF2 hs2
    have hL2 : ML o M2 := hD2.1.1
    have hw2 : ar o 20 M2 t = nI (whoS s t) := hD2.2 t (by omega)
    have hv : lvR T s l (-1) 0 (moT s t) m n = moF T s l m n t := rfl
    rw [hv]
    unfold mvL at hb
    by_cases e : b = -1
    · rw [if_pos (Or.inl e)] at hb
      rw [if_pos e]
      simp (disch := first | assumption | omega) only [mgR_sI, mgR_sL, mkd_sI, mkd_sL, mln_sI, mln_sL, Option.some.injEq, exists_eq_left', forall_eq, true_and, and_true, Nat.reduceLT, exists_eq_left, ML_r0, ML_k1, ML_l1, ML_r1, ML_k2, ML_l2, ML_r2, ML_k3, ML_l3, ML_r3, ML_k4, ML_l4, ML_r13, ML_k5, ML_l5, ML_r14, ML_k6, ML_l6, ML_r15, ML_k7, ML_l7, ML_r16, ML_k8, ML_l8, ML_r17, ML_k9, ML_l9, ML_r18, ML_k10, ML_l10, ML_r19, ML_k11, ML_l11, ML_r20, ML_k12, ML_l12, ML_r21, ML_k13, ML_l13, ML_r22, ML_k14, ML_l14, ML_r23, ML_k15, ML_l15, ML_r24, ML_k16, ML_l16, ML_r25, ML_k17, ML_l17, ML_r26, ML_k18, ML_l18, ML_r30, ML_k19, ML_l19, ML_r35, ML_k20, ML_l20, ML_r36, ML_k21, ML_l21, ML_r37, ML_k22, ML_l22, ML_r38, ML_k23, ML_l23, ML_r40, ML_k24, ML_l24, ML_r41, ML_k25, ML_l25, ML_r42, ML_k26, ML_l26, ML_r43, ML_k27, ML_l27, ML_r44, ML_k28, ML_l28, ML_r45, ML_k29, ML_l29, ML_r48, ML_k30, ML_l30, ML_r51, ML_k31, ML_l31, ML_r52, ML_k32, ML_l32, ia0, ia4, ia8, ia12, ia16, ia20, ia24, ia52, ia60, ia68, im7, im14, ap6, iaN, ap1, ixN, vpN, arE (o := o) (c := 20), hw2]
      exact ih (t + 1) M2 _ _ (by omega) hF02 hD2 hb
    · rw [if_neg e]
      by_cases e2 : moF T s l m n t < mo
      · rw [if_pos (Or.inr e2)] at hb
        rw [if_pos e2]
        simp (disch := first | assumption | omega) only [mgR_sI, mgR_sL, mkd_sI, mkd_sL, mln_sI, mln_sL, Option.some.injEq, exists_eq_left', forall_eq, true_and, and_true, Nat.reduceLT, exists_eq_left, ML_r0, ML_k1, ML_l1, ML_r1, ML_k2, ML_l2, ML_r2, ML_k3, ML_l3, ML_r3, ML_k4, ML_l4, ML_r13, ML_k5, ML_l5, ML_r14, ML_k6, ML_l6, ML_r15, ML_k7, ML_l7, ML_r16, ML_k8, ML_l8, ML_r17, ML_k9, ML_l9, ML_r18, ML_k10, ML_l10, ML_r19, ML_k11, ML_l11, ML_r20, ML_k12, ML_l12, ML_r21, ML_k13, ML_l13, ML_r22, ML_k14, ML_l14, ML_r23, ML_k15, ML_l15, ML_r24, ML_k16, ML_l16, ML_r25, ML_k17, ML_l17, ML_r26, ML_k18, ML_l18, ML_r30, ML_k19, ML_l19, ML_r35, ML_k20, ML_l20, ML_r36, ML_k21, ML_l21, ML_r37, ML_k22, ML_l22, ML_r38, ML_k23, ML_l23, ML_r40, ML_k24, ML_l24, ML_r41, ML_k25, ML_l25, ML_r42, ML_k26, ML_l26, ML_r43, ML_k27, ML_l27, ML_r44, ML_k28, ML_l28, ML_r45, ML_k29, ML_l29, ML_r48, ML_k30, ML_l30, ML_r51, ML_k31, ML_l31, ML_r52, ML_k32, ML_l32, ia0, ia4, ia8, ia12, ia16, ia20, ia24, ia52, ia60, ia68, im7, im14, ap6, iaN, ap1, ixN, vpN, arE (o := o) (c := 20), hw2]
        exact ih (t + 1) M2 _ _ (by omega) hF02 hD2 hb
      · rw [if_neg (fun x => x.elim e e2)] at hb
        rw [if_neg e2]
        simp only [forall_eq, ap1]
        exact ih (t + 1) M2 _ _ (by omega) hF02 hD2 hb
def moS (T : Nat → Txt) (s : Nat → Int32) (l m n : Nat) : Int32 × Int64 := mvL (moF T s l m n) (whI s) m 0 (-1) 0
theorem M_movesOut {o : Nat} {M : MM} {T : Nat → Txt} {s : Nat → Int32} {l n m c : Int32} {Post : Int64 → MM → Prop} (hL : ML o M) (hT : TM o M T) (h31 : mgI M o 31 = -1) (hs : ar o 1 M = s) (hr : RuOk s) (hlv : ∀ l, l < 4 → livS s (nI l) = true → lvO s l) (h0 : (cgV s l n m && inS c 0 1) = false → ∀ M', gF o M M' → ar o 1 M' = s → Post (-1) M')
    (h1 : ∀ l' n' m', l' < 4 → l = nI l' → n = nI n' → m = nI m' → 1 ≤ m' → m' ≤ 3 → 1 ≤ n' → n' ≤ 9 → (cgV s l n m && inS c 0 1) = true → ∀ M', gF o M M' → ar o 1 M' = s → Post (wtS (moS T s l' m' n') c) M') : wp_X7_movesOut M o l n m c Post := by
  unfold wp_X7_movesOut
  refine w7_canGo hL hs (fun e M1 hk => ?_) (fun l' n' m' hl' hn1 hn2 hm1 hm2 e1 e2 e3 hml e M1 hk hw h33 h34 => ?_)
  · rw [if_pos rfl]; exact h0 (by rw [e]; rfl) M1 hk.1 (hk.2.1.trans hs)
  · rw [if_neg n10, w7_in]
    by_cases ec : inS c 0 1 = true
    · rw [if_pos ec, if_neg n10, e2, e3]
      have hliv := cg_liv e e1
      have hD := DPc.mk0 hL hT h31 hs hk hw h33 h34
      refine ⟨m' + 1, l7_mo33 (T := T) (M0 := M) (R := moS T s l' m' n') hl' hr (hlv l' hl' hliv) hml (by omega) (fun M' b mo hF hs' hb => ?_) m' 0 M1 (-1) 0 (by omega) hk.1 (hD.w eF.rf hD.2.2.1) rfl⟩
      have fin := h1 l' n' m' hl' e1 e2 e3 hm1 hm2 hn1 hn2 (by rw [e, ec]; rfl) M' hF hs'
      rw [← hb] at fin
      unfold wtS at fin
      by_cases e4 : c = 0
      · rw [if_pos e4] at fin ⊢; exact fin
      · rw [if_neg e4] at fin ⊢; exact fin
    · rw [if_neg ec, if_pos rfl]
      exact h0 (by rw [e]; simpa using ec) M1 hk.1 (hk.2.1.trans hs)
