/-! the model: days, tried, gives, plantIs, count, keep, undo -/
set_option maxRecDepth 100000
theorem inS_ab {x : Int32} {a b : Nat} (ha : a < 2147483648) (hb : b < 2147483648) (h : inS x (nI a) (nI b) = true) : ∃ j, a ≤ j ∧ j ≤ b ∧ x = nI j := by
  obtain ⟨h1, h2⟩ := inS_iff.mp h
  by_cases hab : a ≤ b
  · obtain ⟨j, h3, h4⟩ := nI_of2 (M := nI b) (nI_toInt hb) (x := x) (by
      rw [Int32.lt_iff_toInt_lt]; rw [Int32.le_iff_toInt_le, nI_toInt (by omega)] at h1; rw [show (0 : Int32).toInt = 0 from rfl]; omega) h2
    rw [h4] at h1
    exact ⟨j, (nI_leI (by omega) (by omega)).mp h1, h3, h4⟩
  · exfalso
    rw [Int32.le_iff_toInt_le] at h2
    rw [nI_toInt (by omega)] at h2
    rw [Int32.le_iff_toInt_le] at h1
    rw [nI_toInt (by omega)] at h1; omega
theorem M_days {o : Nat} {M : MM} {T : Nat → Txt} {s : Nat → Int32} {x : Int32} {Post : Int32 → MM → Prop} (hL : ML o M) (hT : TM o M T) (hs : ar o 1 M = s) (hr : RuOk s) (h0 : inS x 1 60 = false → Post (-1) M) (h1 : ∀ n, n ≤ 60 → x = nI n → inS x 1 60 = true → ∀ M', gF o M M' → ar o 1 M' = (goN T n (dy0 s)).1 → Post (goN T n (dy0 s)).2.1 M') : wp_X7_days M o x Post := by
  unfold wp_X7_days
  simp only [w7_in]
  by_cases e1 : inS x 1 60 = true
  · obtain ⟨n, hn1, hn2, rfl⟩ := inS_ab (a := 1) (b := 60) (by omega) (by omega) e1
    simp only [e1, if_true, n10, if_false]
    refine w7_daysGo hL hT hs hr (by omega) (fun M' hF hd => ?_)
    have := h1 n hn2 rfl e1 M' (hF.g (fun a k e => PD_PSc e)) hd.1
    rw [hd.2.1]; exact this
  · simp only [e1, if_true, if_false, Bool.false_eq_true]; exact h0 (by simp [e1])
theorem M_gives {o : Nat} {M : MM} {T : Nat → Txt} {s : Nat → Int32} {p l : Int32} {Post : Int32 → MM → Prop} (hL : ML o M) (hT : TM o M T) (hs : ar o 1 M = s) (hr : RuOk s) (h0 : (isPe s p && isPl s l) = false → Post (-1) M) (h1 : (isPe s p && isPl s l) = true → livS s l = false → Post 0 M) (h2 : ∀ p' l', p' < 8 → l' < 4 → p = nI p' → l = nI l' → isPe s p = true → livS s l = true → ∀ M', gF o M M' → ar o 1 M' = s → Post (gvS T s p' l') M') : wp_X7_gives M o p l Post := by
  unfold wp_X7_gives
  have hs' : nw o M = s := hs
  simp only [w7_isPerson hL, w7_isPlant hL, w7_lives hL, hs']
  by_cases e1 : isPe s p = true
  · by_cases e2 : isPl s l = true
    · by_cases e3 : livS s l = true
      · obtain ⟨p', hp', rfl⟩ := isPe_n e1
        obtain ⟨l', hl', rfl⟩ := isPl_n e2
        obtain ⟨r, hr1, hr2⟩ := hr p' hp'
        simp only [e1, e2, e3, if_true, n10, if_false]
        refine w7_cupsOf hL hT hp' hl' (by rw [hs']; exact hr2) hr1 (fun M' hF => ?_)
        have k := h2 p' l' hp' hl' rfl rfl e1 e3 M' (hF.PD1.g (fun a k e => PD_PSc e)) ((hF.nw (fun k => by omega)).trans hs)
        unfold gvS at k; rw [hr2, ixN (by omega)] at k
        rw [hs']; exact k
      · simp only [e1, e2, e3, if_true, n10, if_false, Bool.false_eq_true]; exact h1 (by simp [e1, e2]) (by simp [e3])
    · simp only [e1, e2, if_true, n10, if_false, Bool.false_eq_true]; exact h0 (by simp [e2])
  · simp only [e1, if_true, if_false, Bool.false_eq_true]; exact h0 (by simp [e1])
def piS (s : Nat → Int32) (x w : Int32) : Int32 :=
  if isPl s x = true then (if w = 0 then s (ix_ x) else if w = 1 then s (4 + ix_ x) else if w = 2 then s (8 + ix_ x) else if w = 3 then s (12 + ix_ x) else if w = 4 then s (16 + ix_ x) else if w = 5 then (if livS s x = true then 0 else 1) else if w = 6 then s (20 + ix_ x) else if inS w 10 16 = true then s (24 + 7 * ix_ x + ix_ (w - 10)) else -1) else -1
theorem M_plantIs {o : Nat} {M : MM} {s : Nat → Int32} {x w : Int32} {Post : Int32 → MM → Prop} (hL : ML o M) (hs : ar o 1 M = s) (h : Post (piS s x w) M) : wp_X7_plantIs M o x w Post := by
  unfold wp_X7_plantIs
  have hs' : nw o M = s := hs
  simp only [w7_isPlant hL, w7_lives hL, hs']
  unfold piS at h
  by_cases e1 : isPl s x = true
  · obtain ⟨l, hl, rfl⟩ := isPl_n e1
    simp (disch := first | assumption | omega) only [e1, if_true, n10, if_false, mgR_sI, mgR_sL, mkd_sI, mkd_sL, mln_sI, mln_sL, Option.some.injEq, exists_eq_left', forall_eq, true_and, and_true, Nat.reduceLT, exists_eq_left, ML_r0, ML_k1, ML_l1, ML_r1, ML_k2, ML_l2, ML_r2, ML_k3, ML_l3, ML_r3, ML_k4, ML_l4, ML_r13, ML_k5, ML_l5, ML_r14, ML_k6, ML_l6, ML_r15, ML_k7, ML_l7, ML_r16, ML_k8, ML_l8, ML_r17, ML_k9, ML_l9, ML_r18, ML_k10, ML_l10, ML_r19, ML_k11, ML_l11, ML_r20, ML_k12, ML_l12, ML_r21, ML_k13, ML_l13, ML_r22, ML_k14, ML_l14, ML_r23, ML_k15, ML_l15, ML_r24, ML_k16, ML_l16, ML_r25, ML_k17, ML_l17, ML_r26, ML_k18, ML_l18, ML_r30, ML_k19, ML_l19, ML_r35, ML_k20, ML_l20, ML_r36, ML_k21, ML_l21, ML_r37, ML_k22, ML_l22, ML_r38, ML_k23, ML_l23, ML_r40, ML_k24, ML_l24, ML_r41, ML_k25, ML_l25, ML_r42, ML_k26, ML_l26, ML_r43, ML_k27, ML_l27, ML_r44, ML_k28, ML_l28, ML_r45, ML_k29, ML_l29, ML_r48, ML_k30, ML_l30, ML_r51, ML_k31, ML_l31, ML_r52, ML_k32, ML_l32, ia0, ia4, ia8, ia12, ia16, ia20, ia24, ia52, ia60, ia68, im7, im14, ap6, iaN, ap1, ixN, vpN, arE (o := o) (c := 1), hs, w7_in] at h ⊢
    by_cases c0 : w = 0
    · simp only [c0, if_true] at h ⊢; exact h
    by_cases c1 : w = 1
    · simp only [c1, if_true, if_neg (show ¬ (1 : Int32) = 0 by decide)] at h ⊢; exact h
    by_cases c2 : w = 2
    · simp only [c0, c1, c2, if_true, if_false] at h ⊢; simpa using h
    by_cases c3 : w = 3
    · simp only [c0, c1, c2, c3, if_true, if_false] at h ⊢; simpa using h
    by_cases c4 : w = 4
    · simp only [c0, c1, c2, c3, c4, if_true, if_false] at h ⊢; simpa using h
    by_cases c5 : w = 5
    · simp only [c5] at h ⊢
      by_cases e3 : livS s (nI l) = true
      · simpa [e3] using h
      · simpa [e3] using h
    by_cases c6 : w = 6
    · simp only [c0, c1, c2, c3, c4, c5, c6, if_true, if_false] at h ⊢; simpa using h
    simp only [c0, c1, c2, c3, c4, c5, c6, if_false] at h ⊢
    by_cases e7 : inS w 10 16 = true
    · obtain ⟨j, hj1, hj2, rfl⟩ := inS_ab (a := 10) (b := 16) (by omega) (by omega) e7
      have g1 : nI j - (10 : Int32) = nI (j - 10) := pk_sub hj1
      have g2 : nI (24 + 7 * l + j) - (10 : Int32) = nI (24 + 7 * l + j - 10) := (show nI (24 + 7 * l + j) - nI 10 = _ from pk_sub (by omega))
      simp (disch := first | assumption | omega) only [e7, if_true, n10, if_false, g1, iaN, g2, ixN, vpN, mgR_sI, mgR_sL, mkd_sI, mkd_sL, mln_sI, mln_sL, Option.some.injEq, exists_eq_left', forall_eq, true_and, and_true, Nat.reduceLT, exists_eq_left, ML_r0, ML_k1, ML_l1, ML_r1, ML_k2, ML_l2, ML_r2, ML_k3, ML_l3, ML_r3, ML_k4, ML_l4, ML_r13, ML_k5, ML_l5, ML_r14, ML_k6, ML_l6, ML_r15, ML_k7, ML_l7, ML_r16, ML_k8, ML_l8, ML_r17, ML_k9, ML_l9, ML_r18, ML_k10, ML_l10, ML_r19, ML_k11, ML_l11, ML_r20, ML_k12, ML_l12, ML_r21, ML_k13, ML_l13, ML_r22, ML_k14, ML_l14, ML_r23, ML_k15, ML_l15, ML_r24, ML_k16, ML_l16, ML_r25, ML_k17, ML_l17, ML_r26, ML_k18, ML_l18, ML_r30, ML_k19, ML_l19, ML_r35, ML_k20, ML_l20, ML_r36, ML_k21, ML_l21, ML_r37, ML_k22, ML_l22, ML_r38, ML_k23, ML_l23, ML_r40, ML_k24, ML_l24, ML_r41, ML_k25, ML_l25, ML_r42, ML_k26, ML_l26, ML_r43, ML_k27, ML_l27, ML_r44, ML_k28, ML_l28, ML_r45, ML_k29, ML_l29, ML_r48, ML_k30, ML_l30, ML_r51, ML_k31, ML_l31, ML_r52, ML_k32, ML_l32] at h ⊢
      rw [show 24 + 7 * l + j - 10 = 24 + 7 * l + (j - 10) by omega]
      exact h
    · simp only [e7, if_true, if_false, Bool.false_eq_true] at h ⊢; exact h
  · simp only [e1, if_true, if_false, Bool.false_eq_true] at h ⊢; exact h
theorem cpS_lt {s t : Nat → Int32} {k : Nat} (h : k < 81) : cpS s t k = s k := if_pos h
theorem M_undo {o : Nat} {M : MM} {S : St} {Post : Int32 → MM → Prop} (hM : MR o M S) (h0 : S.2.2.1 = 0 → Post 0 M) (h1 : ¬ S.2.2.1 = 0 → ∀ M', mFr o M M' → MR o M' (cpS S.2.1 S.1, S.2) → Post 1 M') : wp_X7_undo M o Post := by
  have hL := hM.1
  unfold wp_X7_undo
  rw [hM.2.2.2.1]
  by_cases e : S.2.2.1 = 0
  · rw [if_pos e]; exact h0 e
  · rw [if_neg e]
    simp (disch := first | assumption | omega) only [mgR_sI, mgR_sL, mkd_sI, mkd_sL, mln_sI, mln_sL, Option.some.injEq, exists_eq_left', forall_eq, true_and, and_true, Nat.reduceLT, exists_eq_left, ML_r0, ML_k1, ML_l1, ML_r1, ML_k2, ML_l2, ML_r2, ML_k3, ML_l3, ML_r3, ML_k4, ML_l4, ML_r13, ML_k5, ML_l5, ML_r14, ML_k6, ML_l6, ML_r15, ML_k7, ML_l7, ML_r16, ML_k8, ML_l8, ML_r17, ML_k9, ML_l9, ML_r18, ML_k10, ML_l10, ML_r19, ML_k11, ML_l11, ML_r20, ML_k12, ML_l12, ML_r21, ML_k13, ML_l13, ML_r22, ML_k14, ML_l14, ML_r23, ML_k15, ML_l15, ML_r24, ML_k16, ML_l16, ML_r25, ML_k17, ML_l17, ML_r26, ML_k18, ML_l18, ML_r30, ML_k19, ML_l19, ML_r35, ML_k20, ML_l20, ML_r36, ML_k21, ML_l21, ML_r37, ML_k22, ML_l22, ML_r38, ML_k23, ML_l23, ML_r40, ML_k24, ML_l24, ML_r41, ML_k25, ML_l25, ML_r42, ML_k26, ML_l26, ML_r43, ML_k27, ML_l27, ML_r44, ML_k28, ML_l28, ML_r45, ML_k29, ML_l29, ML_r48, ML_k30, ML_l30, ML_r51, ML_k31, ML_l31, ML_r52, ML_k32, ML_l32]
    refine w7_copies (M0 := M) (s := S.2.1) (t := S.1) (ML_l3 hL) (ML_l1 hL) (by omega) fI.rf hM.2.2.1 hM.2.1 (fun M' hF _ hr => ?_)
    exact h1 e M' hF.g1.m (hM.g hF.g1 hr)
def kpS (s : Nat → Int32) : Int32 := 0 + (if isPl s 0 = true then s 4 else 0) + (if isPl s 1 = true then s 5 else 0) + (if isPl s 2 = true then s 6 else 0) + (if isPl s 3 = true then s 7 else 0)
theorem l7_keep {o : Nat} {M : MM} {s : Nat → Int32} {X : MM → Int32 → Prop} (hL : ML o M) (hs : ar o 1 M = s) (h : X M (kpS s)) : wl_X7_keep_20 o X 5 M 0 0 := by
  have hs' : nw o M = s := hs
  have key : ∀ n l (a : Int32), l < 4 → wl_X7_keep_20 o X n M (a + if isPl s (nI l) = true then s (4 + l) else 0) (nI (l + 1)) → wl_X7_keep_20 o X (n + 1) M a (nI l) := by
    intro n l a hl hk
    unfold wl_X7_keep_20
    rw [if_neg (show ¬ (4 : Int32) ≤ nI l from nI_ge hl (by decide)), w7_isPlant hL, hs']
    by_cases e : isPl s (nI l) = true
    · rw [if_pos e] at hk
      simp (disch := first | assumption | omega) only [e, if_true, n10, if_false, mgR_sI, mgR_sL, mkd_sI, mkd_sL, mln_sI, mln_sL, Option.some.injEq, exists_eq_left', forall_eq, true_and, and_true, Nat.reduceLT, exists_eq_left, ML_r0, ML_k1, ML_l1, ML_r1, ML_k2, ML_l2, ML_r2, ML_k3, ML_l3, ML_r3, ML_k4, ML_l4, ML_r13, ML_k5, ML_l5, ML_r14, ML_k6, ML_l6, ML_r15, ML_k7, ML_l7, ML_r16, ML_k8, ML_l8, ML_r17, ML_k9, ML_l9, ML_r18, ML_k10, ML_l10, ML_r19, ML_k11, ML_l11, ML_r20, ML_k12, ML_l12, ML_r21, ML_k13, ML_l13, ML_r22, ML_k14, ML_l14, ML_r23, ML_k15, ML_l15, ML_r24, ML_k16, ML_l16, ML_r25, ML_k17, ML_l17, ML_r26, ML_k18, ML_l18, ML_r30, ML_k19, ML_l19, ML_r35, ML_k20, ML_l20, ML_r36, ML_k21, ML_l21, ML_r37, ML_k22, ML_l22, ML_r38, ML_k23, ML_l23, ML_r40, ML_k24, ML_l24, ML_r41, ML_k25, ML_l25, ML_r42, ML_k26, ML_l26, ML_r43, ML_k27, ML_l27, ML_r44, ML_k28, ML_l28, ML_r45, ML_k29, ML_l29, ML_r48, ML_k30, ML_l30, ML_r51, ML_k31, ML_l31, ML_r52, ML_k32, ML_l32, ia0, ia4, ia8, ia12, ia16, ia20, ia24, ia52, ia60, ia68, im7, im14, ap6, iaN, ap1, ixN, vpN, arE (o := o) (c := 1), hs]
      exact hk
    · rw [if_neg e] at hk
      simp (disch := first | assumption | omega) only [e, if_true, if_false, Bool.false_eq_true, forall_eq, ap1]
      exact hk
  refine key 4 0 0 (by omega) (key 3 1 _ (by omega) (key 2 2 _ (by omega) (key 1 3 _ (by omega) ?_)))
  unfold wl_X7_keep_20
  rw [if_pos (show (4 : Int32) ≤ nI (3 + 1) from by decide)]
  exact h
theorem M_keep {o : Nat} {M : MM} {S : St} {Post : Int32 → MM → Prop} (hM : MR o M S) (h : ∀ M', mFr o M M' → MR o M' (S.1, cpS S.1 S.2.1, 1, S.2.2.2) → Post (kpS S.1) M') : wp_X7_keep M o Post := by
  obtain ⟨hL, m1, m2, m3, m4, m5, m6, m7⟩ := hM
  unfold wp_X7_keep
  simp (disch := first | assumption | omega) only [mgR_sI, mgR_sL, mkd_sI, mkd_sL, mln_sI, mln_sL, Option.some.injEq, exists_eq_left', forall_eq, true_and, and_true, Nat.reduceLT, exists_eq_left, ML_r0, ML_k1, ML_l1, ML_r1, ML_k2, ML_l2, ML_r2, ML_k3, ML_l3, ML_r3, ML_k4, ML_l4, ML_r13, ML_k5, ML_l5, ML_r14, ML_k6, ML_l6, ML_r15, ML_k7, ML_l7, ML_r16, ML_k8, ML_l8, ML_r17, ML_k9, ML_l9, ML_r18, ML_k10, ML_l10, ML_r19, ML_k11, ML_l11, ML_r20, ML_k12, ML_l12, ML_r21, ML_k13, ML_l13, ML_r22, ML_k14, ML_l14, ML_r23, ML_k15, ML_l15, ML_r24, ML_k16, ML_l16, ML_r25, ML_k17, ML_l17, ML_r26, ML_k18, ML_l18, ML_r30, ML_k19, ML_l19, ML_r35, ML_k20, ML_l20, ML_r36, ML_k21, ML_l21, ML_r37, ML_k22, ML_l22, ML_r38, ML_k23, ML_l23, ML_r40, ML_k24, ML_l24, ML_r41, ML_k25, ML_l25, ML_r42, ML_k26, ML_l26, ML_r43, ML_k27, ML_l27, ML_r44, ML_k28, ML_l28, ML_r45, ML_k29, ML_l29, ML_r48, ML_k30, ML_l30, ML_r51, ML_k31, ML_l31, ML_r52, ML_k32, ML_l32]
  refine w7_copies (M0 := msI M o 53 1) (s := S.1) (t := S.2.1) (by simpa only [mln_sI] using ML_l1 hL) (by simpa only [mln_sI] using ML_l3 hL) (by omega) fI.rf ((ar_0 (by omega)).trans m1) ((ar_0 (by omega)).trans m2) (fun M' hF hr1 hr3 => ?_)
  have h1 : ML o M' := ML_of (hF.e.trans rfl) hL
  refine ⟨5, l7_keep h1 hr1 (h M' ?_ ?_)⟩
  · exact (mFr.rf.s (by omega)).tr ⟨hF.e, fun a k e => ⟨hF.2 _ _ (by omega), hF.L a k⟩⟩
  · refine ⟨h1, hr1, hr3, ?_, ?_, ?_, ?_, ?_⟩
    · rw [hF.2 _ _ (by omega), fd_e]
    · exact (funext fun k => hF.2 _ _ (by omega)).trans ((ar_0 (by omega)).trans m4)
    · rw [hF.2 _ _ (by omega), fd_n (by omega)]; exact m5
    · rw [hF.2 _ _ (by omega), fd_n (by omega)]; exact m6
    · refine m7.of (fun c h1 h2 k => (hF.2 _ _ (by omega)).trans ?_)
      rw [mgI_sI, if_neg (by omega)]
theorem cnt_a {o c a : Nat} {M : MM} {s : Nat → Int32} {w q C : Int32} {P : Int32 → MM → Prop} (hL : ML o M) (hs : ar o 1 M = s) (ha : a < 100) (hc : c + 8 ≤ 81) (hq : q = nI a) (hC : C = nI c) (hw : inS w (nI a) (nI (a + 7)) = true) (h : P (s (c + ix_ (w - q))) M) : ∃ b_52, mgR M o 0 = some b_52 ∧ mkd M b_52 = 100 ∧ vp_in ((C + w) - q) (mln M b_52) ∧ P (mgI M b_52 (ix_ ((C + w) - q))) M := by
  obtain ⟨j, hj1, hj2, rfl⟩ := inS_ab (by omega) (by omega) hw
  have g1 : nI j - q = nI (j - a) := by rw [hq]; exact pk_sub hj1
  have g2 : (C + nI j) - q = nI (c + (j - a)) := by rw [hq, hC, iaN, show c + (j - a) = c + j - a by omega]; exact pk_sub (by omega)
  rw [g1, ixN (by omega)] at h
  rw [g2]
  simp (disch := first | assumption | omega) only [mgR_sI, mgR_sL, mkd_sI, mkd_sL, mln_sI, mln_sL, Option.some.injEq, exists_eq_left', forall_eq, true_and, and_true, Nat.reduceLT, exists_eq_left, ML_r0, ML_k1, ML_l1, ML_r1, ML_k2, ML_l2, ML_r2, ML_k3, ML_l3, ML_r3, ML_k4, ML_l4, ML_r13, ML_k5, ML_l5, ML_r14, ML_k6, ML_l6, ML_r15, ML_k7, ML_l7, ML_r16, ML_k8, ML_l8, ML_r17, ML_k9, ML_l9, ML_r18, ML_k10, ML_l10, ML_r19, ML_k11, ML_l11, ML_r20, ML_k12, ML_l12, ML_r21, ML_k13, ML_l13, ML_r22, ML_k14, ML_l14, ML_r23, ML_k15, ML_l15, ML_r24, ML_k16, ML_l16, ML_r25, ML_k17, ML_l17, ML_r26, ML_k18, ML_l18, ML_r30, ML_k19, ML_l19, ML_r35, ML_k20, ML_l20, ML_r36, ML_k21, ML_l21, ML_r37, ML_k22, ML_l22, ML_r38, ML_k23, ML_l23, ML_r40, ML_k24, ML_l24, ML_r41, ML_k25, ML_l25, ML_r42, ML_k26, ML_l26, ML_r43, ML_k27, ML_l27, ML_r44, ML_k28, ML_l28, ML_r45, ML_k29, ML_l29, ML_r48, ML_k30, ML_l30, ML_r51, ML_k31, ML_l31, ML_r52, ML_k32, ML_l32, ia0, ia4, ia8, ia12, ia16, ia20, ia24, ia52, ia60, ia68, im7, im14, ap6, iaN, ap1, ixN, vpN, arE (o := o) (c := 1), hs]
  exact h
def co4 (s : Nat → Int32) (w : Int32) : Int32 := if (inS w 40 47 && isPe s (w - 40)) = true then s (68 + ix_ (w - 40)) else -1
def co3 (s : Nat → Int32) (w : Int32) : Int32 := if (inS w 30 37 && isPe s (w - 30)) = true then s (60 + ix_ (w - 30)) else co4 s w
def co2 (s : Nat → Int32) (w : Int32) : Int32 := if (inS w 20 27 && isPe s (w - 20)) = true then s (52 + ix_ (w - 20)) else co3 s w
theorem cnt40 {o : Nat} {M : MM} {s : Nat → Int32} {w : Int32} {Post : Int32 → MM → Prop} (hL : ML o M) (hs : ar o 1 M = s) (h : Post (co4 s w) M) : wb_X7_count_187 M o w Post := by
  have hs' : nw o M = s := hs
  unfold wb_X7_count_187
  unfold co4 at h
  rw [w7_in]
  by_cases e1 : inS w 40 47 = true
  · by_cases e2 : isPe s (w - 40) = true
    · simp only [e1, e2, if_true, n10, if_false, w7_isPerson hL, hs', Bool.and_self] at h ⊢
      exact cnt_a (P := Post) hL hs (by omega) (c := 68) (a := 40) (by omega) rfl rfl e1 h
    · simp only [e1, e2, if_true, n10, if_false, w7_isPerson hL, hs', Bool.and_false, Bool.false_eq_true] at h ⊢; exact h
  · simp only [e1, if_true, if_false, Bool.false_and, Bool.false_eq_true] at h ⊢; exact h
theorem cnt30 {o : Nat} {M : MM} {s : Nat → Int32} {w : Int32} {Post : Int32 → MM → Prop} (hL : ML o M) (hs : ar o 1 M = s) (h : Post (co3 s w) M) : wb_X7_count_152 M o w Post := by
  have hs' : nw o M = s := hs
  unfold wb_X7_count_152
  unfold co3 at h
  rw [w7_in]
  by_cases e1 : inS w 30 37 = true
  · by_cases e2 : isPe s (w - 30) = true
    · simp only [e1, e2, if_true, n10, if_false, w7_isPerson hL, hs', Bool.and_self] at h ⊢
      exact cnt_a (P := Post) hL hs (by omega) (c := 60) (a := 30) (by omega) rfl rfl e1 h
    · simp only [e1, e2, if_true, n10, if_false, w7_isPerson hL, hs', Bool.and_false, Bool.false_eq_true] at h ⊢; exact cnt40 hL hs h
  · simp only [e1, if_true, if_false, Bool.false_and, Bool.false_eq_true] at h ⊢; exact cnt40 hL hs h
def coS (S : St) (w : Int32) : Int32 :=
  if w = 0 then S.1 79 else if w = 1 then S.1 76 else if w = 2 then S.1 77 else if w = 3 then S.1 78 else if w = 4 then nI (S.2.2.2.2.2 0).length else if w = 5 then nI S.2.2.2.2.1 else if w = 6 then S.1 80 else
  if inS w 10 13 = true then nI (S.2.2.2.2.2 (ix_ (w - 9))).length else co2 S.1 w
theorem M_count {o : Nat} {M : MM} {S : St} {w : Int32} {Post : Int32 → MM → Prop} (hM : MR o M S) (h : Post (coS S w) M) : wp_X7_count M o w Post := by
  obtain ⟨hL, m1, m2, m3, m4, m5, m6, m7⟩ := hM
  have hs' : nw o M = S.1 := m1
  unfold wp_X7_count
  unfold coS at h
  by_cases c0 : w = 0
  · rw [if_pos c0] at h ⊢; simp (disch := first | assumption | omega) only [mgR_sI, mgR_sL, mkd_sI, mkd_sL, mln_sI, mln_sL, Option.some.injEq, exists_eq_left', forall_eq, true_and, and_true, Nat.reduceLT, exists_eq_left, ML_r0, ML_k1, ML_l1, ML_r1, ML_k2, ML_l2, ML_r2, ML_k3, ML_l3, ML_r3, ML_k4, ML_l4, ML_r13, ML_k5, ML_l5, ML_r14, ML_k6, ML_l6, ML_r15, ML_k7, ML_l7, ML_r16, ML_k8, ML_l8, ML_r17, ML_k9, ML_l9, ML_r18, ML_k10, ML_l10, ML_r19, ML_k11, ML_l11, ML_r20, ML_k12, ML_l12, ML_r21, ML_k13, ML_l13, ML_r22, ML_k14, ML_l14, ML_r23, ML_k15, ML_l15, ML_r24, ML_k16, ML_l16, ML_r25, ML_k17, ML_l17, ML_r26, ML_k18, ML_l18, ML_r30, ML_k19, ML_l19, ML_r35, ML_k20, ML_l20, ML_r36, ML_k21, ML_l21, ML_r37, ML_k22, ML_l22, ML_r38, ML_k23, ML_l23, ML_r40, ML_k24, ML_l24, ML_r41, ML_k25, ML_l25, ML_r42, ML_k26, ML_l26, ML_r43, ML_k27, ML_l27, ML_r44, ML_k28, ML_l28, ML_r45, ML_k29, ML_l29, ML_r48, ML_k30, ML_l30, ML_r51, ML_k31, ML_l31, ML_r52, ML_k32, ML_l32, arE (o := o) (c := 1), m1]; exact h
  rw [if_neg c0] at h ⊢
  by_cases c1 : w = 1
  · rw [if_pos c1] at h ⊢; simp (disch := first | assumption | omega) only [mgR_sI, mgR_sL, mkd_sI, mkd_sL, mln_sI, mln_sL, Option.some.injEq, exists_eq_left', forall_eq, true_and, and_true, Nat.reduceLT, exists_eq_left, ML_r0, ML_k1, ML_l1, ML_r1, ML_k2, ML_l2, ML_r2, ML_k3, ML_l3, ML_r3, ML_k4, ML_l4, ML_r13, ML_k5, ML_l5, ML_r14, ML_k6, ML_l6, ML_r15, ML_k7, ML_l7, ML_r16, ML_k8, ML_l8, ML_r17, ML_k9, ML_l9, ML_r18, ML_k10, ML_l10, ML_r19, ML_k11, ML_l11, ML_r20, ML_k12, ML_l12, ML_r21, ML_k13, ML_l13, ML_r22, ML_k14, ML_l14, ML_r23, ML_k15, ML_l15, ML_r24, ML_k16, ML_l16, ML_r25, ML_k17, ML_l17, ML_r26, ML_k18, ML_l18, ML_r30, ML_k19, ML_l19, ML_r35, ML_k20, ML_l20, ML_r36, ML_k21, ML_l21, ML_r37, ML_k22, ML_l22, ML_r38, ML_k23, ML_l23, ML_r40, ML_k24, ML_l24, ML_r41, ML_k25, ML_l25, ML_r42, ML_k26, ML_l26, ML_r43, ML_k27, ML_l27, ML_r44, ML_k28, ML_l28, ML_r45, ML_k29, ML_l29, ML_r48, ML_k30, ML_l30, ML_r51, ML_k31, ML_l31, ML_r52, ML_k32, ML_l32, arE (o := o) (c := 1), m1]; exact h
  rw [if_neg c1] at h ⊢
  by_cases c2 : w = 2
  · rw [if_pos c2] at h ⊢; simp (disch := first | assumption | omega) only [mgR_sI, mgR_sL, mkd_sI, mkd_sL, mln_sI, mln_sL, Option.some.injEq, exists_eq_left', forall_eq, true_and, and_true, Nat.reduceLT, exists_eq_left, ML_r0, ML_k1, ML_l1, ML_r1, ML_k2, ML_l2, ML_r2, ML_k3, ML_l3, ML_r3, ML_k4, ML_l4, ML_r13, ML_k5, ML_l5, ML_r14, ML_k6, ML_l6, ML_r15, ML_k7, ML_l7, ML_r16, ML_k8, ML_l8, ML_r17, ML_k9, ML_l9, ML_r18, ML_k10, ML_l10, ML_r19, ML_k11, ML_l11, ML_r20, ML_k12, ML_l12, ML_r21, ML_k13, ML_l13, ML_r22, ML_k14, ML_l14, ML_r23, ML_k15, ML_l15, ML_r24, ML_k16, ML_l16, ML_r25, ML_k17, ML_l17, ML_r26, ML_k18, ML_l18, ML_r30, ML_k19, ML_l19, ML_r35, ML_k20, ML_l20, ML_r36, ML_k21, ML_l21, ML_r37, ML_k22, ML_l22, ML_r38, ML_k23, ML_l23, ML_r40, ML_k24, ML_l24, ML_r41, ML_k25, ML_l25, ML_r42, ML_k26, ML_l26, ML_r43, ML_k27, ML_l27, ML_r44, ML_k28, ML_l28, ML_r45, ML_k29, ML_l29, ML_r48, ML_k30, ML_l30, ML_r51, ML_k31, ML_l31, ML_r52, ML_k32, ML_l32, arE (o := o) (c := 1), m1]; exact h
  rw [if_neg c2] at h ⊢
  by_cases c3 : w = 3
  · rw [if_pos c3] at h ⊢; simp (disch := first | assumption | omega) only [mgR_sI, mgR_sL, mkd_sI, mkd_sL, mln_sI, mln_sL, Option.some.injEq, exists_eq_left', forall_eq, true_and, and_true, Nat.reduceLT, exists_eq_left, ML_r0, ML_k1, ML_l1, ML_r1, ML_k2, ML_l2, ML_r2, ML_k3, ML_l3, ML_r3, ML_k4, ML_l4, ML_r13, ML_k5, ML_l5, ML_r14, ML_k6, ML_l6, ML_r15, ML_k7, ML_l7, ML_r16, ML_k8, ML_l8, ML_r17, ML_k9, ML_l9, ML_r18, ML_k10, ML_l10, ML_r19, ML_k11, ML_l11, ML_r20, ML_k12, ML_l12, ML_r21, ML_k13, ML_l13, ML_r22, ML_k14, ML_l14, ML_r23, ML_k15, ML_l15, ML_r24, ML_k16, ML_l16, ML_r25, ML_k17, ML_l17, ML_r26, ML_k18, ML_l18, ML_r30, ML_k19, ML_l19, ML_r35, ML_k20, ML_l20, ML_r36, ML_k21, ML_l21, ML_r37, ML_k22, ML_l22, ML_r38, ML_k23, ML_l23, ML_r40, ML_k24, ML_l24, ML_r41, ML_k25, ML_l25, ML_r42, ML_k26, ML_l26, ML_r43, ML_k27, ML_l27, ML_r44, ML_k28, ML_l28, ML_r45, ML_k29, ML_l29, ML_r48, ML_k30, ML_l30, ML_r51, ML_k31, ML_l31, ML_r52, ML_k32, ML_l32, arE (o := o) (c := 1), m1]; exact h
  rw [if_neg c3] at h ⊢
  by_cases c4 : w = 4
  · rw [if_pos c4] at h ⊢; simp (disch := first | assumption | omega) only [mgR_sI, mgR_sL, mkd_sI, mkd_sL, mln_sI, mln_sL, Option.some.injEq, exists_eq_left', forall_eq, true_and, and_true, Nat.reduceLT, exists_eq_left, ML_r0, ML_k1, ML_l1, ML_r1, ML_k2, ML_l2, ML_r2, ML_k3, ML_l3, ML_r3, ML_k4, ML_l4, ML_r13, ML_k5, ML_l5, ML_r14, ML_k6, ML_l6, ML_r15, ML_k7, ML_l7, ML_r16, ML_k8, ML_l8, ML_r17, ML_k9, ML_l9, ML_r18, ML_k10, ML_l10, ML_r19, ML_k11, ML_l11, ML_r20, ML_k12, ML_l12, ML_r21, ML_k13, ML_l13, ML_r22, ML_k14, ML_l14, ML_r23, ML_k15, ML_l15, ML_r24, ML_k16, ML_l16, ML_r25, ML_k17, ML_l17, ML_r26, ML_k18, ML_l18, ML_r30, ML_k19, ML_l19, ML_r35, ML_k20, ML_l20, ML_r36, ML_k21, ML_l21, ML_r37, ML_k22, ML_l22, ML_r38, ML_k23, ML_l23, ML_r40, ML_k24, ML_l24, ML_r41, ML_k25, ML_l25, ML_r42, ML_k26, ML_l26, ML_r43, ML_k27, ML_l27, ML_r44, ML_k28, ML_l28, ML_r45, ML_k29, ML_l29, ML_r48, ML_k30, ML_l30, ML_r51, ML_k31, ML_l31, ML_r52, ML_k32, ML_l32, (m7 0 (by omega)).1]; exact h
  rw [if_neg c4] at h ⊢
  by_cases c5 : w = 5
  · rw [if_pos c5] at h ⊢; rw [m5]; exact h
  rw [if_neg c5] at h ⊢
  by_cases c6 : w = 6
  · rw [if_pos c6] at h ⊢; simp (disch := first | assumption | omega) only [mgR_sI, mgR_sL, mkd_sI, mkd_sL, mln_sI, mln_sL, Option.some.injEq, exists_eq_left', forall_eq, true_and, and_true, Nat.reduceLT, exists_eq_left, ML_r0, ML_k1, ML_l1, ML_r1, ML_k2, ML_l2, ML_r2, ML_k3, ML_l3, ML_r3, ML_k4, ML_l4, ML_r13, ML_k5, ML_l5, ML_r14, ML_k6, ML_l6, ML_r15, ML_k7, ML_l7, ML_r16, ML_k8, ML_l8, ML_r17, ML_k9, ML_l9, ML_r18, ML_k10, ML_l10, ML_r19, ML_k11, ML_l11, ML_r20, ML_k12, ML_l12, ML_r21, ML_k13, ML_l13, ML_r22, ML_k14, ML_l14, ML_r23, ML_k15, ML_l15, ML_r24, ML_k16, ML_l16, ML_r25, ML_k17, ML_l17, ML_r26, ML_k18, ML_l18, ML_r30, ML_k19, ML_l19, ML_r35, ML_k20, ML_l20, ML_r36, ML_k21, ML_l21, ML_r37, ML_k22, ML_l22, ML_r38, ML_k23, ML_l23, ML_r40, ML_k24, ML_l24, ML_r41, ML_k25, ML_l25, ML_r42, ML_k26, ML_l26, ML_r43, ML_k27, ML_l27, ML_r44, ML_k28, ML_l28, ML_r45, ML_k29, ML_l29, ML_r48, ML_k30, ML_l30, ML_r51, ML_k31, ML_l31, ML_r52, ML_k32, ML_l32, arE (o := o) (c := 1), m1]; exact h
  rw [if_neg c6] at h ⊢
  rw [w7_in]
  by_cases e1 : inS w 10 13 = true
  · rw [if_pos e1] at h
    obtain ⟨j, hj1, hj2, rfl⟩ := inS_ab (a := 10) (b := 13) (by omega) (by omega) e1
    have g1 : nI j - (9 : Int32) = nI (j - 9) := (show nI j - nI 9 = _ from pk_sub (by omega))
    have g3 := (m7 (j - 9) (by omega)).1
    rw [g1, ixN (by omega)] at h
    simp (disch := first | assumption | omega) only [e1, if_true, n10, if_false, g1, ixN, vpN, mgR_sI, mgR_sL, mkd_sI, mkd_sL, mln_sI, mln_sL, Option.some.injEq, exists_eq_left', forall_eq, true_and, and_true, Nat.reduceLT, exists_eq_left, ML_r0, ML_k1, ML_l1, ML_r1, ML_k2, ML_l2, ML_r2, ML_k3, ML_l3, ML_r3, ML_k4, ML_l4, ML_r13, ML_k5, ML_l5, ML_r14, ML_k6, ML_l6, ML_r15, ML_k7, ML_l7, ML_r16, ML_k8, ML_l8, ML_r17, ML_k9, ML_l9, ML_r18, ML_k10, ML_l10, ML_r19, ML_k11, ML_l11, ML_r20, ML_k12, ML_l12, ML_r21, ML_k13, ML_l13, ML_r22, ML_k14, ML_l14, ML_r23, ML_k15, ML_l15, ML_r24, ML_k16, ML_l16, ML_r25, ML_k17, ML_l17, ML_r26, ML_k18, ML_l18, ML_r30, ML_k19, ML_l19, ML_r35, ML_k20, ML_l20, ML_r36, ML_k21, ML_l21, ML_r37, ML_k22, ML_l22, ML_r38, ML_k23, ML_l23, ML_r40, ML_k24, ML_l24, ML_r41, ML_k25, ML_l25, ML_r42, ML_k26, ML_l26, ML_r43, ML_k27, ML_l27, ML_r44, ML_k28, ML_l28, ML_r45, ML_k29, ML_l29, ML_r48, ML_k30, ML_l30, ML_r51, ML_k31, ML_l31, ML_r52, ML_k32, ML_l32, g3]
    exact h
  · rw [if_neg e1] at h
    simp only [e1, if_true, if_false, Bool.false_eq_true]
    unfold co2 at h
    rw [w7_in]
    by_cases e1 : inS w 20 27 = true
    · by_cases e2 : isPe S.1 (w - 20) = true
      · simp only [e1, e2, if_true, n10, if_false, w7_isPerson hL, hs', Bool.and_self] at h ⊢
        exact cnt_a (P := Post) hL m1 (by omega) (c := 52) (a := 20) (by omega) rfl rfl e1 h
      · simp only [e1, e2, if_true, n10, if_false, w7_isPerson hL, hs', Bool.and_false, Bool.false_eq_true] at h ⊢; exact cnt30 hL m1 h
    · simp only [e1, if_true, if_false, Bool.false_and, Bool.false_eq_true] at h ⊢; exact cnt30 hL m1 h
/-- what a trial of days tells -/
def tkV (s : Nat → Int32) (x w : Int32) : Bool := (inS w 0 3 || (inS w 10 13 && isPl s (w - 10)) || (inS w 20 27 && isPe s (w - 20))) && inS x 1 60
def tkS (s : Dy) (w : Int32) : Int32 :=
  if w = 0 then s.2.1 else if w = 1 then s.2.2.1 else if w = 2 then bitsS (s.1 77) else if w = 3 then s.2.2.2.1 else if 20 ≤ w then s.2.2.2.2 (ix_ (w - 20)) else s.1 (4 + ix_ (w - 10))
theorem PSc2 {o k : Nat} : PSc o (o + 2) k := by unfold PSc; omega
theorem w7_back {o : Nat} {M0 M : MM} {s t : Nat → Int32} {x : Int32} {Post : Int32 → MM → Prop} (hL : ML o M0) (hF : gF o M0 M) (hs : ar o 1 M = t) (h2 : ar o 2 M = cpS s (ar o 2 M0)) (hp : ∀ k, 81 ≤ k → t k = s k) (h : ∀ M', gF o M0 M' → ar o 1 M' = s → Post x M') : wb_X7_tried_173 M o x Post := by
  have h1 : ML o M := ML_of hF.1 hL
  unfold wb_X7_tried_173
  simp (disch := first | assumption | omega) only [mgR_sI, mgR_sL, mkd_sI, mkd_sL, mln_sI, mln_sL, Option.some.injEq, exists_eq_left', forall_eq, true_and, and_true, Nat.reduceLT, exists_eq_left, ML_r0, ML_k1, ML_l1, ML_r1, ML_k2, ML_l2, ML_r2, ML_k3, ML_l3, ML_r3, ML_k4, ML_l4, ML_r13, ML_k5, ML_l5, ML_r14, ML_k6, ML_l6, ML_r15, ML_k7, ML_l7, ML_r16, ML_k8, ML_l8, ML_r17, ML_k9, ML_l9, ML_r18, ML_k10, ML_l10, ML_r19, ML_k11, ML_l11, ML_r20, ML_k12, ML_l12, ML_r21, ML_k13, ML_l13, ML_r22, ML_k14, ML_l14, ML_r23, ML_k15, ML_l15, ML_r24, ML_k16, ML_l16, ML_r25, ML_k17, ML_l17, ML_r26, ML_k18, ML_l18, ML_r30, ML_k19, ML_l19, ML_r35, ML_k20, ML_l20, ML_r36, ML_k21, ML_l21, ML_r37, ML_k22, ML_l22, ML_r38, ML_k23, ML_l23, ML_r40, ML_k24, ML_l24, ML_r41, ML_k25, ML_l25, ML_r42, ML_k26, ML_l26, ML_r43, ML_k27, ML_l27, ML_r44, ML_k28, ML_l28, ML_r45, ML_k29, ML_l29, ML_r48, ML_k30, ML_l30, ML_r51, ML_k31, ML_l31, ML_r52, ML_k32, ML_l32]
  refine w7_copies (M0 := M) (s := cpS s (ar o 2 M0)) (t := t) (ML_l2 h1) (ML_l1 h1) (by omega) fI.rf h2 hs (fun M' hF2 _ hr => h M' (hF.tr hF2.g1) ?_)
  rw [hr]
  funext k
  unfold cpS
  by_cases e : k < 81
  · rw [if_pos e, if_pos e]
  · rw [if_neg e]; exact hp k (by omega)
theorem fI.g2 {o : Nat} {M M1 : MM} (h : fI (fun a _ => a = o + 2) M M1) : gF o M M1 := h.g (fun a k e => by rw [e]; exact PSc2)
theorem w7_tk {o : Nat} {M : MM} {T : Nat → Txt} {s : Nat → Int32} {x w : Int32} {Post : Int32 → MM → Prop} (hL : ML o M) (hT : TM o M T) (hs : ar o 1 M = s) (hr : RuOk s) (hk : (inS w 0 3 || (inS w 10 13 && isPl s (w - 10)) || (inS w 20 27 && isPe s (w - 20))) = true) (h0 : inS x 1 60 = false → Post (-1) M) (h1 : ∀ n, n ≤ 60 → x = nI n → inS x 1 60 = true → ∀ M', gF o M M' → ar o 1 M' = s → Post (tkS (goN T n (dy0 s)) w) M') : wb_X7_tried_58 M o x w 1 Post := by
  unfold wb_X7_tried_58
  rw [w7_in]
  by_cases e1 : inS x 1 60 = true
  · obtain ⟨n, hn1, hn2, rfl⟩ := inS_ab (a := 1) (b := 60) (by omega) (by omega) e1
    simp (disch := first | assumption | omega) only [e1, if_true, n10, if_false, mgR_sI, mgR_sL, mkd_sI, mkd_sL, mln_sI, mln_sL, Option.some.injEq, exists_eq_left', forall_eq, true_and, and_true, Nat.reduceLT, exists_eq_left, ML_r0, ML_k1, ML_l1, ML_r1, ML_k2, ML_l2, ML_r2, ML_k3, ML_l3, ML_r3, ML_k4, ML_l4, ML_r13, ML_k5, ML_l5, ML_r14, ML_k6, ML_l6, ML_r15, ML_k7, ML_l7, ML_r16, ML_k8, ML_l8, ML_r17, ML_k9, ML_l9, ML_r18, ML_k10, ML_l10, ML_r19, ML_k11, ML_l11, ML_r20, ML_k12, ML_l12, ML_r21, ML_k13, ML_l13, ML_r22, ML_k14, ML_l14, ML_r23, ML_k15, ML_l15, ML_r24, ML_k16, ML_l16, ML_r25, ML_k17, ML_l17, ML_r26, ML_k18, ML_l18, ML_r30, ML_k19, ML_l19, ML_r35, ML_k20, ML_l20, ML_r36, ML_k21, ML_l21, ML_r37, ML_k22, ML_l22, ML_r38, ML_k23, ML_l23, ML_r40, ML_k24, ML_l24, ML_r41, ML_k25, ML_l25, ML_r42, ML_k26, ML_l26, ML_r43, ML_k27, ML_l27, ML_r44, ML_k28, ML_l28, ML_r45, ML_k29, ML_l29, ML_r48, ML_k30, ML_l30, ML_r51, ML_k31, ML_l31, ML_r52, ML_k32, ML_l32]
    refine w7_copies (M0 := M) (s := s) (t := ar o 2 M) (ML_l1 hL) (ML_l2 hL) (by omega) fI.rf hs rfl (fun M1 hF1 hr1 hr2 => ?_)
    have hL1 : ML o M1 := ML_of hF1.e hL
    refine w7_daysGo hL1 (hF1.tm (fun c h1 h2 k => by omega) hT) hr1 hr (by omega) (fun M2 hF2 hd => ?_)
    have hL2 : ML o M2 := ML_of hF2.e hL1
    have hF12 : gF o M M2 := hF1.g2.tr (hF2.g (fun a k e => PD_PSc e))
    have h2' : ar o 2 M2 = cpS s (ar o 2 M) := (funext fun k => hF2.2 _ _ (by simp [PD])).trans hr2
    have hp : ∀ k, 81 ≤ k → (goN T n (dy0 s)).1 k = s k := fun k hk => goN_perm n (dy0 s) k (Or.inr hk)
    have d1 : ar o 1 M2 = (goN T n (dy0 s)).1 := hd.1
    have bk := fun (y : Int32) (hy : y = tkS (goN T n (dy0 s)) w) => w7_back (Post := Post) (x := y) hL hF12 d1 h2' hp (fun M' k1 k2 => by rw [hy]; exact h1 n hn2 rfl e1 M' k1 k2)
    rw [hd.2.1, hd.2.2.1, hd.2.2.2.1]
    unfold tkS at bk
    by_cases c0 : w = 0
    · rw [if_pos c0] at bk ⊢; exact bk _ rfl
    rw [if_neg c0] at bk ⊢
    by_cases c1 : w = 1
    · rw [if_pos c1] at bk ⊢; exact bk _ rfl
    rw [if_neg c1] at bk ⊢
    by_cases c2 : w = 2
    · rw [if_pos c2] at bk ⊢
      simp (disch := first | assumption | omega) only [mgR_sI, mgR_sL, mkd_sI, mkd_sL, mln_sI, mln_sL, Option.some.injEq, exists_eq_left', forall_eq, true_and, and_true, Nat.reduceLT, exists_eq_left, ML_r0, ML_k1, ML_l1, ML_r1, ML_k2, ML_l2, ML_r2, ML_k3, ML_l3, ML_r3, ML_k4, ML_l4, ML_r13, ML_k5, ML_l5, ML_r14, ML_k6, ML_l6, ML_r15, ML_k7, ML_l7, ML_r16, ML_k8, ML_l8, ML_r17, ML_k9, ML_l9, ML_r18, ML_k10, ML_l10, ML_r19, ML_k11, ML_l11, ML_r20, ML_k12, ML_l12, ML_r21, ML_k13, ML_l13, ML_r22, ML_k14, ML_l14, ML_r23, ML_k15, ML_l15, ML_r24, ML_k16, ML_l16, ML_r25, ML_k17, ML_l17, ML_r26, ML_k18, ML_l18, ML_r30, ML_k19, ML_l19, ML_r35, ML_k20, ML_l20, ML_r36, ML_k21, ML_l21, ML_r37, ML_k22, ML_l22, ML_r38, ML_k23, ML_l23, ML_r40, ML_k24, ML_l24, ML_r41, ML_k25, ML_l25, ML_r42, ML_k26, ML_l26, ML_r43, ML_k27, ML_l27, ML_r44, ML_k28, ML_l28, ML_r45, ML_k29, ML_l29, ML_r48, ML_k30, ML_l30, ML_r51, ML_k31, ML_l31, ML_r52, ML_k32, ML_l32, arE (o := o) (c := 1), d1]
      exact w7_bits (bk _ rfl)
    rw [if_neg c2] at bk ⊢
    by_cases c3 : w = 3
    · rw [if_pos c3] at bk ⊢; exact bk _ rfl
    rw [if_neg c3] at bk ⊢
    have n03 : ¬ inS w 0 3 = true := by
      intro e
      obtain ⟨j, hj1, rfl⟩ := inS_n (n := 3) (by omega) e
      have : j = 0 ∨ j = 1 ∨ j = 2 ∨ j = 3 := by omega
      rcases this with rfl | rfl | rfl | rfl
      · exact c0 rfl
      · exact c1 rfl
      · exact c2 rfl
      · exact c3 rfl
    by_cases e20 : inS w 20 27 = true
    · obtain ⟨j, hj1, hj2, rfl⟩ := inS_ab (a := 20) (b := 27) (by omega) (by omega) e20
      have g1 : nI j - (20 : Int32) = nI (j - 20) := pk_sub hj1
      have g5 := hd.2.2.2.2 (j - 20) (by omega)
      have ge : (20 : Int32) ≤ nI j := (inS_iff.mp e20).1
      rw [if_pos ge] at bk ⊢
      simp (disch := first | assumption | omega) only [mgR_sI, mgR_sL, mkd_sI, mkd_sL, mln_sI, mln_sL, Option.some.injEq, exists_eq_left', forall_eq, true_and, and_true, Nat.reduceLT, exists_eq_left, ML_r0, ML_k1, ML_l1, ML_r1, ML_k2, ML_l2, ML_r2, ML_k3, ML_l3, ML_r3, ML_k4, ML_l4, ML_r13, ML_k5, ML_l5, ML_r14, ML_k6, ML_l6, ML_r15, ML_k7, ML_l7, ML_r16, ML_k8, ML_l8, ML_r17, ML_k9, ML_l9, ML_r18, ML_k10, ML_l10, ML_r19, ML_k11, ML_l11, ML_r20, ML_k12, ML_l12, ML_r21, ML_k13, ML_l13, ML_r22, ML_k14, ML_l14, ML_r23, ML_k15, ML_l15, ML_r24, ML_k16, ML_l16, ML_r25, ML_k17, ML_l17, ML_r26, ML_k18, ML_l18, ML_r30, ML_k19, ML_l19, ML_r35, ML_k20, ML_l20, ML_r36, ML_k21, ML_l21, ML_r37, ML_k22, ML_l22, ML_r38, ML_k23, ML_l23, ML_r40, ML_k24, ML_l24, ML_r41, ML_k25, ML_l25, ML_r42, ML_k26, ML_l26, ML_r43, ML_k27, ML_l27, ML_r44, ML_k28, ML_l28, ML_r45, ML_k29, ML_l29, ML_r48, ML_k30, ML_l30, ML_r51, ML_k31, ML_l31, ML_r52, ML_k32, ML_l32, g1, ia0, ia4, ia8, ia12, ia16, ia20, ia24, ia52, ia60, ia68, im7, im14, ap6, iaN, ap1, ixN, vpN, arE (o := o) (c := 19), g5] at bk ⊢
      exact bk
    · have e10 : inS w 10 13 = true := by
        simp only [n03, e20, Bool.false_and, Bool.or_false, Bool.false_or] at hk
        rw [Bool.and_eq_true] at hk
        exact hk.1
      obtain ⟨j, hj1, hj2, rfl⟩ := inS_ab (a := 10) (b := 13) (by omega) (by omega) e10
      have g1 : nI j - (10 : Int32) = nI (j - 10) := pk_sub hj1
      have g2 : nI (4 + j) - (10 : Int32) = nI (4 + j - 10) := (show nI (4 + j) - nI 10 = _ from pk_sub (by omega))
      have ge : ¬ (20 : Int32) ≤ nI j := (show ¬ nI 20 ≤ nI j from nI_ge (by omega) (by omega))
      rw [if_neg ge] at bk ⊢
      have g3 : 4 + j - 10 = 4 + (j - 10) := by omega
      simp (disch := first | assumption | omega) only [mgR_sI, mgR_sL, mkd_sI, mkd_sL, mln_sI, mln_sL, Option.some.injEq, exists_eq_left', forall_eq, true_and, and_true, Nat.reduceLT, exists_eq_left, ML_r0, ML_k1, ML_l1, ML_r1, ML_k2, ML_l2, ML_r2, ML_k3, ML_l3, ML_r3, ML_k4, ML_l4, ML_r13, ML_k5, ML_l5, ML_r14, ML_k6, ML_l6, ML_r15, ML_k7, ML_l7, ML_r16, ML_k8, ML_l8, ML_r17, ML_k9, ML_l9, ML_r18, ML_k10, ML_l10, ML_r19, ML_k11, ML_l11, ML_r20, ML_k12, ML_l12, ML_r21, ML_k13, ML_l13, ML_r22, ML_k14, ML_l14, ML_r23, ML_k15, ML_l15, ML_r24, ML_k16, ML_l16, ML_r25, ML_k17, ML_l17, ML_r26, ML_k18, ML_l18, ML_r30, ML_k19, ML_l19, ML_r35, ML_k20, ML_l20, ML_r36, ML_k21, ML_l21, ML_r37, ML_k22, ML_l22, ML_r38, ML_k23, ML_l23, ML_r40, ML_k24, ML_l24, ML_r41, ML_k25, ML_l25, ML_r42, ML_k26, ML_l26, ML_r43, ML_k27, ML_l27, ML_r44, ML_k28, ML_l28, ML_r45, ML_k29, ML_l29, ML_r48, ML_k30, ML_l30, ML_r51, ML_k31, ML_l31, ML_r52, ML_k32, ML_l32, g1, ia0, ia4, ia8, ia12, ia16, ia20, ia24, ia52, ia60, ia68, im7, im14, ap6, iaN, ap1, ixN, vpN, g2, g3, arE (o := o) (c := 1), d1] at bk ⊢
      exact bk
  · simp only [e1, if_true, if_false, Bool.false_eq_true]; exact h0 (by simp [e1])
theorem M_tried {o : Nat} {M : MM} {T : Nat → Txt} {s : Nat → Int32} {x w : Int32} {Post : Int32 → MM → Prop} (hL : ML o M) (hT : TM o M T) (hs : ar o 1 M = s) (hr : RuOk s) (h0 : tkV s x w = false → Post (-1) M) (h1 : ∀ n, n ≤ 60 → x = nI n → tkV s x w = true → ∀ M', gF o M M' → ar o 1 M' = s → Post (tkS (goN T n (dy0 s)) w) M') : wp_X7_tried M o x w Post := by
  have hs' : nw o M = s := hs
  have hY : (inS w 0 3 || (inS w 10 13 && isPl s (w - 10)) || (inS w 20 27 && isPe s (w - 20))) = true → wb_X7_tried_58 M o x w 1 Post := fun hk =>
    w7_tk hL hT hs hr hk (fun e => h0 (by unfold tkV; rw [e, Bool.and_false])) (fun n a b c => h1 n a b (by unfold tkV; rw [hk, c]; rfl))
  have hN : (inS w 0 3 || (inS w 10 13 && isPl s (w - 10)) || (inS w 20 27 && isPe s (w - 20))) = false → wb_X7_tried_58 M o x w 0 Post := by
    intro hk
    have k := h0 (by unfold tkV; rw [hk]; rfl)
    unfold wb_X7_tried_58
    rw [w7_in]
    by_cases e1 : inS x 1 60 = true
    · simp only [e1, if_true, n10, if_false]; exact k
    · simp only [e1, if_true, if_false, Bool.false_eq_true]; exact k
  unfold wp_X7_tried wb_X7_tried_31 wb_X7_tried_53 wb_X7_tried_57
  simp only [w7_in, w7_isPlant hL, w7_isPerson hL, hs']
  by_cases e1 : inS w 0 3 = true
  · simp only [e1, if_true, n10, if_false]; exact hY (by simp [e1])
  · by_cases e2 : inS w 10 13 = true
    · by_cases e3 : isPl s (w - 10) = true
      · simp only [e1, e2, e3, if_true, n10, if_false, Bool.false_eq_true]; exact hY (by simp [e2, e3])
      · by_cases e4 : inS w 20 27 = true
        · by_cases e5 : isPe s (w - 20) = true
          · simp only [e1, e2, e3, e4, e5, if_true, n10, if_false, Bool.false_eq_true]; exact hY (by simp [e4, e5])
          · simp only [e1, e2, e3, e4, e5, if_true, n10, if_false, Bool.false_eq_true]; exact hN (by simp [e1, e3, e5])
        · simp only [e1, e2, e3, e4, if_true, n10, if_false, Bool.false_eq_true]; exact hN (by simp [e1, e3, e4])
    · by_cases e4 : inS w 20 27 = true
      · by_cases e5 : isPe s (w - 20) = true
        · simp only [e1, e2, e4, e5, if_true, n10, if_false, Bool.false_eq_true]; exact hY (by simp [e4, e5])
        · simp only [e1, e2, e4, e5, if_true, n10, if_false, Bool.false_eq_true]; exact hN (by simp [e1, e2, e5])
      · simp only [e1, e2, e4, if_true, n10, if_false, Bool.false_eq_true]; exact hN (by simp [e1, e2, e4])
