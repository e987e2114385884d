/-! the model: alone, who did it -/
set_option maxRecDepth 100000
def coA (T : Nat → Txt) (s : Nat → Int32) (p : Nat) : Int32 := byS (T 0) 99 99 (up (fcD s) 8 (nI p))
def woA (T : Nat → Txt) (s : Nat → Int32) (p : Nat) : Int32 := byS (T 0) 98 999 (up (fcD s) 8 (nI p))
def alE (o : Nat) (M : MM) (T : Nat → Txt) (s : Nat → Int32) (n : Nat) : Prop := ∀ p, p < n → ar o 31 M p = coA T s p ∧ ar o 32 M p = woA T s p
theorem w7_laysAlone {o n : Nat} {M : MM} {T : Nat → Txt} {s : Nat → Int32} {Post : MM → Prop} (hL : ML o M) (hT : TM o M T) (hs : ar o 1 M = s) (hn : n ≤ 6) (h : ∀ M', gF o M M' → ar o 1 M' = s → alE o M' T s n → Post M') : wp_X7_laysAlone M o (nI n) Post := by
  unfold wp_X7_laysAlone
  refine cl_ (fun f M1 i => wl_X7_laysAlone_2 o (nI n) (fun M_32 => Post M_32) f M1 (nI i)) (fun i M1 => fI (fun a _ => a = o + 17 ∨ a = o + 18 ∨ a = o + 31 ∨ a = o + 32) M M1 ∧ alE o M1 T s i) n ?_ ?_ M 0 (by omega) ⟨fI.rf, fun p hp => by omega⟩
  · intro f i M1 hi ⟨hF, hA⟩ hs'
    have h1 : ML o M1 := ML_of hF.e hL
    have ht1 : TM o M1 T := hF.tm (fun c a b k => by omega) hT
    have hr1 : nw o M1 = s := (hF.nw (fun k => by omega)).trans hs
    show wl_X7_laysAlone_2 o (nI n) _ (f + 1) M1 (nI i)
    unfold wl_X7_laysAlone_2
    rw [if_neg (nI_ge hi (by omega))]
    refine w7_feels h1 (fun M2 hF2 f2 => ?_)
    have h2 : ML o M2 := ML_of hF2.e h1
    rw [hr1] at f2
    simp (disch := first | assumption | omega) only [mgR_sI, mgR_sL, mkd_sI, mkd_sL, mln_sI, mln_sL, Option.some.injEq, exists_eq_left', forall_eq, true_and, and_true, Nat.reduceLT, exists_eq_left, ML_r0, ML_k1, ML_l1, ML_r1, ML_k2, ML_l2, ML_r2, ML_k3, ML_l3, ML_r3, ML_k4, ML_l4, ML_r13, ML_k5, ML_l5, ML_r14, ML_k6, ML_l6, ML_r15, ML_k7, ML_l7, ML_r16, ML_k8, ML_l8, ML_r17, ML_k9, ML_l9, ML_r18, ML_k10, ML_l10, ML_r19, ML_k11, ML_l11, ML_r20, ML_k12, ML_l12, ML_r21, ML_k13, ML_l13, ML_r22, ML_k14, ML_l14, ML_r23, ML_k15, ML_l15, ML_r24, ML_k16, ML_l16, ML_r25, ML_k17, ML_l17, ML_r26, ML_k18, ML_l18, ML_r30, ML_k19, ML_l19, ML_r35, ML_k20, ML_l20, ML_r36, ML_k21, ML_l21, ML_r37, ML_k22, ML_l22, ML_r38, ML_k23, ML_l23, ML_r40, ML_k24, ML_l24, ML_r41, ML_k25, ML_l25, ML_r42, ML_k26, ML_l26, ML_r43, ML_k27, ML_l27, ML_r44, ML_k28, ML_l28, ML_r45, ML_k29, ML_l29, ML_r48, ML_k30, ML_l30, ML_r51, ML_k31, ML_l31, ML_r52, ML_k32, ML_l32]
    have hF3 : fI (fun a _ => a = o + 18) M1 (msI M2 (o + 18) 8 (nI i)) := hF2.s rfl
    refine w7_byText (T := T) (t := 0) (ML_of hF3.e h1) (hF3.tm (fun c a b k => by omega) ht1) (by omega) f2.s (fun M4 hF4 => ?_)
    have h4 : ML o M4 := ML_of (hF4.e.trans hF3.e) h1
    simp (disch := first | assumption | omega) only [mgR_sI, mgR_sL, mkd_sI, mkd_sL, mln_sI, mln_sL, Option.some.injEq, exists_eq_left', forall_eq, true_and, and_true, Nat.reduceLT, exists_eq_left, ML_r0, ML_k1, ML_l1, ML_r1, ML_k2, ML_l2, ML_r2, ML_k3, ML_l3, ML_r3, ML_k4, ML_l4, ML_r13, ML_k5, ML_l5, ML_r14, ML_k6, ML_l6, ML_r15, ML_k7, ML_l7, ML_r16, ML_k8, ML_l8, ML_r17, ML_k9, ML_l9, ML_r18, ML_k10, ML_l10, ML_r19, ML_k11, ML_l11, ML_r20, ML_k12, ML_l12, ML_r21, ML_k13, ML_l13, ML_r22, ML_k14, ML_l14, ML_r23, ML_k15, ML_l15, ML_r24, ML_k16, ML_l16, ML_r25, ML_k17, ML_l17, ML_r26, ML_k18, ML_l18, ML_r30, ML_k19, ML_l19, ML_r35, ML_k20, ML_l20, ML_r36, ML_k21, ML_l21, ML_r37, ML_k22, ML_l22, ML_r38, ML_k23, ML_l23, ML_r40, ML_k24, ML_l24, ML_r41, ML_k25, ML_l25, ML_r42, ML_k26, ML_l26, ML_r43, ML_k27, ML_l27, ML_r44, ML_k28, ML_l28, ML_r45, ML_k29, ML_l29, ML_r48, ML_k30, ML_l30, ML_r51, ML_k31, ML_l31, ML_r52, ML_k32, ML_l32, ia0, ia4, ia8, ia12, ia16, ia20, ia24, ia52, ia60, ia68, im7, im14, ap6, iaN, ap1, ixN, vpN]
    have hF5 : fI (fun a _ => a = o + 17 ∨ a = o + 31) (msI M2 (o + 18) 8 (nI i)) (msI M4 (o + 31) i (coA T s i)) := (hF4.mono (fun a k e => Or.inl e)).s (Or.inr rfl)
    have hF05 : fI (fun a _ => a = o + 17 ∨ a = o + 18 ∨ a = o + 31 ∨ a = o + 32) M1 (msI M4 (o + 31) i (coA T s i)) := (hF3.mono (fun a k e => by omega)).tr (hF5.mono (fun a k e => by omega))
    refine w7_byText (T := T) (t := 0) (ML_of hF05.e h1) (hF05.tm (fun c a b k => by omega) ht1) (by omega) (hF5.fc (fun k => by omega) f2.s) (fun M6 hF6 => ?_)
    have h6 : ML o M6 := ML_of (hF6.e.trans hF05.e) h1
    simp (disch := first | assumption | omega) only [mgR_sI, mgR_sL, mkd_sI, mkd_sL, mln_sI, mln_sL, Option.some.injEq, exists_eq_left', forall_eq, true_and, and_true, Nat.reduceLT, exists_eq_left, ML_r0, ML_k1, ML_l1, ML_r1, ML_k2, ML_l2, ML_r2, ML_k3, ML_l3, ML_r3, ML_k4, ML_l4, ML_r13, ML_k5, ML_l5, ML_r14, ML_k6, ML_l6, ML_r15, ML_k7, ML_l7, ML_r16, ML_k8, ML_l8, ML_r17, ML_k9, ML_l9, ML_r18, ML_k10, ML_l10, ML_r19, ML_k11, ML_l11, ML_r20, ML_k12, ML_l12, ML_r21, ML_k13, ML_l13, ML_r22, ML_k14, ML_l14, ML_r23, ML_k15, ML_l15, ML_r24, ML_k16, ML_l16, ML_r25, ML_k17, ML_l17, ML_r26, ML_k18, ML_l18, ML_r30, ML_k19, ML_l19, ML_r35, ML_k20, ML_l20, ML_r36, ML_k21, ML_l21, ML_r37, ML_k22, ML_l22, ML_r38, ML_k23, ML_l23, ML_r40, ML_k24, ML_l24, ML_r41, ML_k25, ML_l25, ML_r42, ML_k26, ML_l26, ML_r43, ML_k27, ML_l27, ML_r44, ML_k28, ML_l28, ML_r45, ML_k29, ML_l29, ML_r48, ML_k30, ML_l30, ML_r51, ML_k31, ML_l31, ML_r52, ML_k32, ML_l32, ia0, ia4, ia8, ia12, ia16, ia20, ia24, ia52, ia60, ia68, im7, im14, ap6, iaN, ap1, ixN, vpN]
    refine hs' _ ⟨(hF.tr (hF05.tr (hF6.mono (fun a k e => by omega)))).s (by omega), fun p hp => ?_⟩
    rw [ar_s, if_neg (by omega), ar_s, if_pos rfl]
    have e31 : ar o 31 M6 = up (ar o 31 M4) i (coA T s i) := (funext fun k => hF6.2 _ _ (by omega)).trans (show ar o 31 (msI M4 (o + 31) i (coA T s i)) = _ from by rw [ar_s, if_pos rfl])
    have e31b : ar o 31 M4 = ar o 31 M1 := (funext fun k => hF4.2 _ _ (by omega)).trans (funext fun k => hF3.2 _ _ (by omega))
    have e32 : ar o 32 M6 = ar o 32 M1 := (funext fun k => hF6.2 _ _ (by omega)).trans ((funext fun k => hF5.2 _ _ (by omega)).trans (funext fun k => hF3.2 _ _ (by omega)))
    rw [e31, e31b]
    unfold up
    by_cases e : p = i
    · rw [if_pos e, if_pos e, e]; exact ⟨rfl, rfl⟩
    · rw [if_neg e, if_neg e, e32]; exact hA p (by omega)
  · intro f M1 ⟨hF, hA⟩
    show wl_X7_laysAlone_2 o (nI n) _ (f + 1) M1 (nI n)
    unfold wl_X7_laysAlone_2
    rw [if_pos (nI_le (Nat.le_refl _) (by omega))]
    exact h M1 (hF.g (fun a k e => by unfold PSc; omega)) ((hF.nw (fun k => by omega)).trans hs) hA
def gaS (T : Nat → Txt) (s : Nat → Int32) (row : Int32) (p : Nat) : Int32 := if hs_ row (nI p) = true then woA T s p - coA T s p else if row = 0 then 0 else woA T s p
theorem w7_gainOf {o n p : Nat} {M : MM} {T : Nat → Txt} {s : Nat → Int32} {row : Int32} {Post : Int32 → MM → Prop} (hL : ML o M) (hA : alE o M T s n) (hp : p < n) (hn : n ≤ 6) (h : Post (gaS T s row p) M) : wp_X7_gainOf M o row (nI p) Post := by
  obtain ⟨h1, h2⟩ := hA p hp
  unfold wp_X7_gainOf
  rw [w7_has]
  unfold gaS at h
  by_cases e : hs_ row (nI p) = true
  · rw [if_pos e] at h ⊢
    rw [if_neg n10]
    simp (disch := first | assumption | omega) only [mgR_sI, mgR_sL, mkd_sI, mkd_sL, mln_sI, mln_sL, Option.some.injEq, exists_eq_left', forall_eq, true_and, and_true, Nat.reduceLT, exists_eq_left, ML_r0, ML_k1, ML_l1, ML_r1, ML_k2, ML_l2, ML_r2, ML_k3, ML_l3, ML_r3, ML_k4, ML_l4, ML_r13, ML_k5, ML_l5, ML_r14, ML_k6, ML_l6, ML_r15, ML_k7, ML_l7, ML_r16, ML_k8, ML_l8, ML_r17, ML_k9, ML_l9, ML_r18, ML_k10, ML_l10, ML_r19, ML_k11, ML_l11, ML_r20, ML_k12, ML_l12, ML_r21, ML_k13, ML_l13, ML_r22, ML_k14, ML_l14, ML_r23, ML_k15, ML_l15, ML_r24, ML_k16, ML_l16, ML_r25, ML_k17, ML_l17, ML_r26, ML_k18, ML_l18, ML_r30, ML_k19, ML_l19, ML_r35, ML_k20, ML_l20, ML_r36, ML_k21, ML_l21, ML_r37, ML_k22, ML_l22, ML_r38, ML_k23, ML_l23, ML_r40, ML_k24, ML_l24, ML_r41, ML_k25, ML_l25, ML_r42, ML_k26, ML_l26, ML_r43, ML_k27, ML_l27, ML_r44, ML_k28, ML_l28, ML_r45, ML_k29, ML_l29, ML_r48, ML_k30, ML_l30, ML_r51, ML_k31, ML_l31, ML_r52, ML_k32, ML_l32, ia0, ia4, ia8, ia12, ia16, ia20, ia24, ia52, ia60, ia68, im7, im14, ap6, iaN, ap1, ixN, vpN, arE (o := o) (c := 31), arE (o := o) (c := 32), h1, h2]
    exact h
  · rw [if_neg e] at h ⊢
    rw [if_pos rfl]
    by_cases e2 : row = 0
    · rw [if_pos e2] at h ⊢; exact h
    · rw [if_neg e2] at h ⊢
      simp (disch := first | assumption | omega) only [mgR_sI, mgR_sL, mkd_sI, mkd_sL, mln_sI, mln_sL, Option.some.injEq, exists_eq_left', forall_eq, true_and, and_true, Nat.reduceLT, exists_eq_left, ML_r0, ML_k1, ML_l1, ML_r1, ML_k2, ML_l2, ML_r2, ML_k3, ML_l3, ML_r3, ML_k4, ML_l4, ML_r13, ML_k5, ML_l5, ML_r14, ML_k6, ML_l6, ML_r15, ML_k7, ML_l7, ML_r16, ML_k8, ML_l8, ML_r17, ML_k9, ML_l9, ML_r18, ML_k10, ML_l10, ML_r19, ML_k11, ML_l11, ML_r20, ML_k12, ML_l12, ML_r21, ML_k13, ML_l13, ML_r22, ML_k14, ML_l14, ML_r23, ML_k15, ML_l15, ML_r24, ML_k16, ML_l16, ML_r25, ML_k17, ML_l17, ML_r26, ML_k18, ML_l18, ML_r30, ML_k19, ML_l19, ML_r35, ML_k20, ML_l20, ML_r36, ML_k21, ML_l21, ML_r37, ML_k22, ML_l22, ML_r38, ML_k23, ML_l23, ML_r40, ML_k24, ML_l24, ML_r41, ML_k25, ML_l25, ML_r42, ML_k26, ML_l26, ML_r43, ML_k27, ML_l27, ML_r44, ML_k28, ML_l28, ML_r45, ML_k29, ML_l29, ML_r48, ML_k30, ML_l30, ML_r51, ML_k31, ML_l31, ML_r52, ML_k32, ML_l32, ia0, ia4, ia8, ia12, ia16, ia20, ia24, ia52, ia60, ia68, im7, im14, ap6, iaN, ap1, ixN, vpN, arE (o := o) (c := 32), h2]
      exact h
/-- by a row nobody gains by doing otherwise -/
def reB (T : Nat → Txt) (s : Nat → Int32) (r : Nat) : Nat → Nat → Bool
  | 0, _ => true
  | j + 1, p => if gaS T s (nI r) p < gaS T s (nI r ^^^ ((1 : Int32) <<< (nI p &&& 31))) p then false else reB T s r j (p + 1)
def alF (T : Nat → Txt) (s : Nat → Int32) (n r : Nat) (a : Int32 × Int32) : Int32 × Int32 := if reB T s r n 0 = true then (a.1 + 1, if a.1 = 0 then nI r else a.2) else a
theorem l7_al88 {o n r : Nat} {x2 x3 x4 : Int32} {M : MM} {T : Nat → Txt} {s : Nat → Int32} {X : MM → Int32 → Prop} (hL : ML o M) (hA : alE o M T s n) (hn : n ≤ 6) : ∀ j p, p + j = n → (reB T s r j p = true → X M 1) → (reB T s r j p = false → X M 0) → wl_X7_alone_88 o (nI n) x2 x3 x4 (nI r) X (j + 2) M 1 (nI p) := by
  intro j
  induction j with
  | zero =>
    intro p hp a b
    unfold wl_X7_alone_88
    rw [if_pos (nI_le (by omega) (by omega))]
    exact a rfl
  | succ j ih =>
    intro p hp a b
    unfold wl_X7_alone_88
    rw [if_neg (nI_ge (by omega) (by omega)), if_neg n10]
    refine w7_gainOf hL hA (by omega) hn (w7_gainOf hL hA (by omega) hn ?_)
    unfold reB at a b
    by_cases e : gaS T s (nI r) p < gaS T s (nI r ^^^ ((1 : Int32) <<< (nI p &&& 31))) p
    · rw [if_pos e] at a b ⊢
      simp only [forall_eq, ap1]
      have e0 := b rfl
      unfold wl_X7_alone_88
      by_cases e2 : nI n ≤ nI (p + 1)
      · rw [if_pos e2]; exact e0
      · rw [if_neg e2, if_pos rfl]; exact e0
    · rw [if_neg e] at a b ⊢
      simp only [forall_eq, ap1]
      exact ih (p + 1) (by omega) a b
theorem sh1 : ∀ n, n ≤ 6 → (1 : Int32) <<< (nI n &&& 31) = nI (2 ^ n) := by decide
theorem l7_al74 {o n : Nat} {x2 : Int32} {M : MM} {T : Nat → Txt} {s : Nat → Int32} {R : Int32 × Int32} {X : MM → Int32 → Int32 → Prop} (hL : ML o M) (hA : alE o M T s n) (hn : n ≤ 6) (h : X M R.1 R.2) : ∀ j r a, r + j = 2 ^ n → lpF (alF T s n) j r a = R → wl_X7_alone_74 o (nI n) x2 X (j + 1) M a.1 a.2 (nI r) := by
  have hp : 2 ^ n ≤ 2 ^ 6 := Nat.pow_le_pow_right (by omega) hn
  intro j
  induction j with
  | zero =>
    intro r a hr hR
    unfold wl_X7_alone_74
    rw [sh1 n hn, if_pos (nI_le (by omega) (by omega))]
    have hR' : a = R := hR
    rw [hR']; exact h
  | succ j ih =>
    intro r a hr hR
    have hR' : lpF (alF T s n) j (r + 1) (alF T s n r a) = R := hR
    unfold wl_X7_alone_74
    rw [sh1 n hn, if_neg (nI_ge (by omega) (by omega))]
    refine ⟨n + 2, l7_al88 hL hA hn n 0 (by omega) (fun e => ?_) (fun e => ?_)⟩
    · unfold wb_X7_alone_136 wb_X7_alone_155
      rw [if_neg n10]
      unfold alF at hR'
      rw [if_pos e] at hR'
      simp only [forall_eq, ap1]
      by_cases e2 : a.1 = 0
      · rw [if_pos e2] at hR' ⊢; exact ih (r + 1) (a.1 + 1, nI r) (by omega) hR'
      · rw [if_neg e2] at hR' ⊢; exact ih (r + 1) (a.1 + 1, a.2) (by omega) hR'
    · unfold wb_X7_alone_136
      rw [if_pos rfl]
      unfold alF at hR'
      rw [if_neg (by simp [e])] at hR'
      simp only [forall_eq, ap1]
      exact ih (r + 1) a (by omega) hR'
def pwL (b : Int64) : Nat → Int64
  | 0 => 1
  | k + 1 => pwL b k * b
/-- if one waters by x in ten all the same, it is worth it for each -/
def waB (T : Nat → Txt) (s : Nat → Int32) (n x : Nat) : Nat → Nat → Bool
  | 0, _ => true
  | j + 1, p => if (coA T s p).toInt64 * tenL (n - 1) ≤ (woA T s p).toInt64 * pwL ((10 : Int32) - nI x).toInt64 (n - 1) then waB T s n x j (p + 1) else false
theorem w7_waterBy {o n x : Nat} {M : MM} {T : Nat → Txt} {s : Nat → Int32} {Post : Int32 → MM → Prop} (hL : ML o M) (hA : alE o M T s n) (hn : n ≤ 6) (hn1 : 1 ≤ n) (h1 : waB T s n x n 0 = true → Post 1 M) (h0 : waB T s n x n 0 = false → Post 0 M) : wp_X7_waterBy M o (nI n) (nI x) Post := by
  have g1 : nI n - (1 : Int32) = nI (n - 1) := as1 (by omega)
  have key2 : ∀ (X63 X71 : MM → Prop) j p, p + j = n → (waB T s n x j p = true → X71 M) → (waB T s n x j p = false → X63 M) → wl_X7_waterBy_28 o (nI n) (pwL ((10 : Int32) - nI x).toInt64 (n - 1)) X63 X71 (j + 1) M (nI p) := by
    intro X63 X71 j
    induction j with
    | zero =>
      intro p hp a b
      unfold wl_X7_waterBy_28
      rw [if_pos (nI_le (by omega) (by omega))]
      exact a rfl
    | succ j ih =>
      intro p hp a b
      obtain ⟨k1, k2⟩ := hA p (by omega)
      unfold wl_X7_waterBy_28
      rw [if_neg (nI_ge (by omega) (by omega)), g1]
      simp (disch := first | assumption | omega) only [mgR_sI, mgR_sL, mkd_sI, mkd_sL, mln_sI, mln_sL, Option.some.injEq, exists_eq_left', forall_eq, true_and, and_true, Nat.reduceLT, exists_eq_left, ML_r0, ML_k1, ML_l1, ML_r1, ML_k2, ML_l2, ML_r2, ML_k3, ML_l3, ML_r3, ML_k4, ML_l4, ML_r13, ML_k5, ML_l5, ML_r14, ML_k6, ML_l6, ML_r15, ML_k7, ML_l7, ML_r16, ML_k8, ML_l8, ML_r17, ML_k9, ML_l9, ML_r18, ML_k10, ML_l10, ML_r19, ML_k11, ML_l11, ML_r20, ML_k12, ML_l12, ML_r21, ML_k13, ML_l13, ML_r22, ML_k14, ML_l14, ML_r23, ML_k15, ML_l15, ML_r24, ML_k16, ML_l16, ML_r25, ML_k17, ML_l17, ML_r26, ML_k18, ML_l18, ML_r30, ML_k19, ML_l19, ML_r35, ML_k20, ML_l20, ML_r36, ML_k21, ML_l21, ML_r37, ML_k22, ML_l22, ML_r38, ML_k23, ML_l23, ML_r40, ML_k24, ML_l24, ML_r41, ML_k25, ML_l25, ML_r42, ML_k26, ML_l26, ML_r43, ML_k27, ML_l27, ML_r44, ML_k28, ML_l28, ML_r45, ML_k29, ML_l29, ML_r48, ML_k30, ML_l30, ML_r51, ML_k31, ML_l31, ML_r52, ML_k32, ML_l32, ia0, ia4, ia8, ia12, ia16, ia20, ia24, ia52, ia60, ia68, im7, im14, ap6, iaN, ap1, ixN, vpN, arE (o := o) (c := 31), arE (o := o) (c := 32), k1, k2]
      refine w7_tens (by omega) ?_
      simp (disch := first | assumption | omega) only [mgR_sI, mgR_sL, mkd_sI, mkd_sL, mln_sI, mln_sL, Option.some.injEq, exists_eq_left', forall_eq, true_and, and_true, Nat.reduceLT, exists_eq_left, ML_r0, ML_k1, ML_l1, ML_r1, ML_k2, ML_l2, ML_r2, ML_k3, ML_l3, ML_r3, ML_k4, ML_l4, ML_r13, ML_k5, ML_l5, ML_r14, ML_k6, ML_l6, ML_r15, ML_k7, ML_l7, ML_r16, ML_k8, ML_l8, ML_r17, ML_k9, ML_l9, ML_r18, ML_k10, ML_l10, ML_r19, ML_k11, ML_l11, ML_r20, ML_k12, ML_l12, ML_r21, ML_k13, ML_l13, ML_r22, ML_k14, ML_l14, ML_r23, ML_k15, ML_l15, ML_r24, ML_k16, ML_l16, ML_r25, ML_k17, ML_l17, ML_r26, ML_k18, ML_l18, ML_r30, ML_k19, ML_l19, ML_r35, ML_k20, ML_l20, ML_r36, ML_k21, ML_l21, ML_r37, ML_k22, ML_l22, ML_r38, ML_k23, ML_l23, ML_r40, ML_k24, ML_l24, ML_r41, ML_k25, ML_l25, ML_r42, ML_k26, ML_l26, ML_r43, ML_k27, ML_l27, ML_r44, ML_k28, ML_l28, ML_r45, ML_k29, ML_l29, ML_r48, ML_k30, ML_l30, ML_r51, ML_k31, ML_l31, ML_r52, ML_k32, ML_l32, ia0, ia4, ia8, ia12, ia16, ia20, ia24, ia52, ia60, ia68, im7, im14, ap6, iaN, ap1, ixN, vpN, arE (o := o) (c := 32), k2]
      unfold waB at a b
      by_cases e : (coA T s p).toInt64 * tenL (n - 1) ≤ (woA T s p).toInt64 * pwL ((10 : Int32) - nI x).toInt64 (n - 1)
      · rw [if_pos e] at a b ⊢
        exact ih (p + 1) (by omega) a b
      · rw [if_neg e] at a b ⊢
        exact b rfl
  have key : ∀ (X : MM → Int64 → Prop) j k, k + j = n - 1 → X M (pwL ((10 : Int32) - nI x).toInt64 (n - 1)) → wl_X7_waterBy_5 o (nI n) (nI x) X (j + 1) M (pwL ((10 : Int32) - nI x).toInt64 k) (nI (k + 1)) := by
    intro X j
    induction j with
    | zero =>
      intro k hk hX
      unfold wl_X7_waterBy_5
      rw [if_pos (nI_le (by omega) (by omega)), show k = n - 1 by omega]
      exact hX
    | succ j ih =>
      intro k hk hX
      unfold wl_X7_waterBy_5
      rw [if_neg (nI_ge (by omega) (by omega))]
      simp only [forall_eq, ap1]
      exact ih (k + 1) (by omega) hX
  unfold wp_X7_waterBy
  exact ⟨_, key _ (n - 1) 0 (by omega) ⟨_, key2 _ _ n 0 (by omega) h1 h0⟩⟩
def alX (T : Nat → Txt) (s : Nat → Int32) (n : Nat) : Nat → Int32
  | 0 => -2
  | j + 1 => if waB T s n j n 0 = true then nI j else alX T s n j
theorem sm1 {x : Int32} : x - 1 = x + (-1) := by rw [Int32.sub_eq_add_neg]
theorem l7_al34 {o n : Nat} {M : MM} {T : Nat → Txt} {s : Nat → Int32} {Post : Int32 → MM → Prop} (hL : ML o M) (hA : alE o M T s n) (hn : n ≤ 6) (hn1 : 1 ≤ n) : ∀ j : Nat, j ≤ 11 → Post (alX T s n j) M → ∃ F, wl_X7_alone_34 o (nI n) (fun M_53 x3_55 => wb_X7_alone_54 M_53 x3_55 Post) F M (nI j + (-1)) := by
  intro j
  induction j with
  | zero =>
    intro hj hP
    refine ⟨1, ?_⟩
    unfold wl_X7_alone_34 wb_X7_alone_54
    rw [if_pos (show nI 0 + (-1) < 0 from by decide), if_neg (show ¬ 0 ≤ nI 0 + (-1) from by decide)]
    exact hP
  | succ j ih =>
    intro hj hP
    rw [am1]
    unfold alX at hP
    by_cases e : waB T s n j n 0 = true
    · rw [if_pos e] at hP
      refine ⟨1, ?_⟩
      unfold wl_X7_alone_34
      rw [if_neg (nI_pos (by omega))]
      refine w7_waterBy hL hA hn hn1 (fun _ => ?_) (fun x => by rw [e] at x; cases x)
      rw [if_neg n10]
      unfold wb_X7_alone_54
      rw [if_pos (nI_pos' (by omega))]
      exact hP
    · rw [if_neg e] at hP
      obtain ⟨F, hF⟩ := ih (by omega) hP
      refine ⟨F + 1, ?_⟩
      unfold wl_X7_alone_34
      rw [if_neg (nI_pos (by omega))]
      refine w7_waterBy hL hA hn hn1 (fun x => absurd x e) (fun _ => ?_)
      rw [if_pos rfl]
      simp only [forall_eq]
      rw [sm1]
      exact hF
def aoS (T : Nat → Txt) (s : Nat → Int32) (n : Nat) (w : Int32) : Int32 := if w = 2 then alX T s n 11 else if w = 0 then (lpF (alF T s n) (2 ^ n) 0 (0, -2)).1 else (lpF (alF T s n) (2 ^ n) 0 (0, -2)).2
theorem M_alone {o : Nat} {M : MM} {T : Nat → Txt} {s : Nat → Int32} {n w : Int32} {Post : Int32 → MM → Prop} (hL : ML o M) (hT : TM o M T) (hs : ar o 1 M = s) (h0 : (inS n 2 6 && inS w 0 2) = false → Post (-1) M) (h1 : ∀ n', 2 ≤ n' → n' ≤ 6 → n = nI n' → (inS n 2 6 && inS w 0 2) = true → ∀ M', gF o M M' → ar o 1 M' = s → Post (aoS T s n' w) M') : wp_X7_alone M o n w Post := by
  unfold wp_X7_alone
  rw [w7_in]
  by_cases e1 : inS n 2 6 = true
  · rw [if_pos e1, if_neg n10, w7_in]
    by_cases e2 : inS w 0 2 = true
    · rw [if_pos e2, if_neg n10]
      obtain ⟨n', hn1, hn2, rfl⟩ := inS_ab (a := 2) (b := 6) (by omega) (by omega) e1
      refine w7_laysAlone hL hT hs hn2 (fun M1 hF1 hs1 hA => ?_)
      have hL1 : ML o M1 := ML_of hF1.1 hL
      have fin := h1 n' hn1 hn2 rfl (by simp [e1, e2]) M1 hF1 hs1
      unfold aoS at fin
      by_cases e3 : w = 2
      · rw [if_pos e3] at fin ⊢
        exact l7_al34 hL1 hA hn2 (by omega) 11 (by omega) fin
      · rw [if_neg e3] at fin ⊢
        refine ⟨_, l7_al74 hL1 hA hn2 ?_ (2 ^ n') 0 (0, -2) (by omega) rfl⟩
        by_cases e4 : w = 0
        · rw [if_pos e4] at fin ⊢; exact fin
        · rw [if_neg e4] at fin ⊢; exact fin
    · rw [if_neg e2, if_pos rfl]; exact h0 (by simp [e2])
  · rw [if_neg e1, if_pos rfl]; exact h0 (by simp [e1])
/-- a set fits a day -/
abbrev fiP (t : Nat → Int32) (c g : Int32) (d k : Nat) : Prop := ma_ 0 (((t d &&& 255) + c * bitsS (nI k)) - g) = (t (d + 1) &&& 255)
abbrev suP (P : Int32) (k : Nat) : Prop := nI k &&& (P ^^^ (-1 : Int32)) = 0
def wd1F (t : Nat → Int32) (P c g : Int32) (d : Nat) (k : Nat) (a : Int32 × Int32) : Int32 × Int32 := if suP P k ∧ fiP t c g d k then (a.1 + 1, a.2 &&& nI k) else a
def wd1 (t : Nat → Int32) (P c g : Int32) (d : Nat) : Int32 × Int32 := lpF (wd1F t P c g d) 256 0 (0, P)
abbrev Wd : Type := Int64 × Int32 × Int32
def wdF (t : Nat → Int32) (P c g : Int32) (d : Nat) (a : Wd) : Wd := (a.1 * (wd1 t P c g d).1.toInt64, if (wd1 t P c g d).1 = 0 ∧ a.2.1 = -2 then nI d else a.2.1, a.2.2 ||| (wd1 t P c g d).2)
def wdS (t : Nat → Int32) (n : Nat) (P c g w : Int32) : Int64 :=
  if w = 0 then (lpF (wdF t P c g) n 0 (1, -2, 0)).1 else if w = 1 then (lpF (wdF t P c g) n 0 (1, -2, 0)).2.1.toInt64 else if (lpF (wdF t P c g) n 0 (1, -2, 0)).1 = 0 then 0 else (lpF (wdF t P c g) n 0 (1, -2, 0)).2.2.toInt64
theorem l7_wd107 {o d : Nat} {P c g x1 x5 x8 x9 : Int32} {x6 : Int64} {M : MM} {t : Nat → Int32} {R : Int32 × Int32} {X : MM → Int32 → Int32 → Prop} (hL : ML o M) (ht : ar o 4 M = t) (hd : d < 100) (h : X M R.1 R.2) : ∀ j k a, k + j = 256 → lpF (wd1F t P c g d) j k a = R → wl_X7_whoDid_107 o x1 P c g x5 x6 x8 x9 (nI d) X (j + 1) M a.1 a.2 (nI k) := by
  intro j
  induction j with
  | zero =>
    intro k a hk hR
    unfold wl_X7_whoDid_107
    rw [if_pos (show (256 : Int32) ≤ nI k from (show nI 256 ≤ nI k from nI_le (by omega) (by omega)))]
    have hR' : a = R := hR
    rw [hR']; exact h
  | succ j ih =>
    intro k a hk hR
    have hR' : lpF (wd1F t P c g d) j (k + 1) (wd1F t P c g d k a) = R := hR
    unfold wl_X7_whoDid_107
    rw [if_neg (show ¬ (256 : Int32) ≤ nI k from (show ¬ nI 256 ≤ nI k from nI_ge (by omega) (by omega)))]
    unfold wd1F at hR'
    by_cases e : suP P k
    · rw [if_pos (show nI k &&& (P ^^^ (-1 : Int32)) = 0 from e)]
      simp (disch := first | assumption | omega) only [mgR_sI, mgR_sL, mkd_sI, mkd_sL, mln_sI, mln_sL, Option.some.injEq, exists_eq_left', forall_eq, true_and, and_true, Nat.reduceLT, exists_eq_left, ML_r0, ML_k1, ML_l1, ML_r1, ML_k2, ML_l2, ML_r2, ML_k3, ML_l3, ML_r3, ML_k4, ML_l4, ML_r13, ML_k5, ML_l5, ML_r14, ML_k6, ML_l6, ML_r15, ML_k7, ML_l7, ML_r16, ML_k8, ML_l8, ML_r17, ML_k9, ML_l9, ML_r18, ML_k10, ML_l10, ML_r19, ML_k11, ML_l11, ML_r20, ML_k12, ML_l12, ML_r21, ML_k13, ML_l13, ML_r22, ML_k14, ML_l14, ML_r23, ML_k15, ML_l15, ML_r24, ML_k16, ML_l16, ML_r25, ML_k17, ML_l17, ML_r26, ML_k18, ML_l18, ML_r30, ML_k19, ML_l19, ML_r35, ML_k20, ML_l20, ML_r36, ML_k21, ML_l21, ML_r37, ML_k22, ML_l22, ML_r38, ML_k23, ML_l23, ML_r40, ML_k24, ML_l24, ML_r41, ML_k25, ML_l25, ML_r42, ML_k26, ML_l26, ML_r43, ML_k27, ML_l27, ML_r44, ML_k28, ML_l28, ML_r45, ML_k29, ML_l29, ML_r48, ML_k30, ML_l30, ML_r51, ML_k31, ML_l31, ML_r52, ML_k32, ML_l32, ia0, ia4, ia8, ia12, ia16, ia20, ia24, ia52, ia60, ia68, im7, im14, ap6, iaN, ap1, ixN, vpN, arE (o := o) (c := 4), ht]
      refine w7_bits ?_
      simp (disch := first | assumption | omega) only [mgR_sI, mgR_sL, mkd_sI, mkd_sL, mln_sI, mln_sL, Option.some.injEq, exists_eq_left', forall_eq, true_and, and_true, Nat.reduceLT, exists_eq_left, ML_r0, ML_k1, ML_l1, ML_r1, ML_k2, ML_l2, ML_r2, ML_k3, ML_l3, ML_r3, ML_k4, ML_l4, ML_r13, ML_k5, ML_l5, ML_r14, ML_k6, ML_l6, ML_r15, ML_k7, ML_l7, ML_r16, ML_k8, ML_l8, ML_r17, ML_k9, ML_l9, ML_r18, ML_k10, ML_l10, ML_r19, ML_k11, ML_l11, ML_r20, ML_k12, ML_l12, ML_r21, ML_k13, ML_l13, ML_r22, ML_k14, ML_l14, ML_r23, ML_k15, ML_l15, ML_r24, ML_k16, ML_l16, ML_r25, ML_k17, ML_l17, ML_r26, ML_k18, ML_l18, ML_r30, ML_k19, ML_l19, ML_r35, ML_k20, ML_l20, ML_r36, ML_k21, ML_l21, ML_r37, ML_k22, ML_l22, ML_r38, ML_k23, ML_l23, ML_r40, ML_k24, ML_l24, ML_r41, ML_k25, ML_l25, ML_r42, ML_k26, ML_l26, ML_r43, ML_k27, ML_l27, ML_r44, ML_k28, ML_l28, ML_r45, ML_k29, ML_l29, ML_r48, ML_k30, ML_l30, ML_r51, ML_k31, ML_l31, ML_r52, ML_k32, ML_l32, ia0, ia4, ia8, ia12, ia16, ia20, ia24, ia52, ia60, ia68, im7, im14, ap6, iaN, ap1, ixN, vpN, w7_max, arE (o := o) (c := 4), ht]
      by_cases e2 : fiP t c g d k
      · rw [if_pos (show ma_ 0 (((t d &&& 255) + c * bitsS (nI k)) - g) = (t (d + 1) &&& 255) from e2)]
        rw [if_pos ⟨e, e2⟩] at hR'
        exact ih (k + 1) (a.1 + 1, a.2 &&& nI k) (by omega) hR'
      · rw [if_neg (show ¬ ma_ 0 (((t d &&& 255) + c * bitsS (nI k)) - g) = (t (d + 1) &&& 255) from e2)]
        rw [if_neg (fun x => e2 x.2)] at hR'
        exact ih (k + 1) a (by omega) hR'
    · rw [if_neg (show ¬ nI k &&& (P ^^^ (-1 : Int32)) = 0 from e)]
      simp only [forall_eq, ap1]
      rw [if_neg (fun x => e x.1)] at hR'
      exact ih (k + 1) a (by omega) hR'
theorem l7_wd92 {o n : Nat} {P c g x5 : Int32} {M : MM} {t : Nat → Int32} {R : Wd} {X : MM → Int64 → Int32 → Int32 → Prop} (hL : ML o M) (ht : ar o 4 M = t) (hn : n ≤ 6) (h : X M R.1 R.2.1 R.2.2) : ∀ j d a, d + j = n → lpF (wdF t P c g) j d a = R → wl_X7_whoDid_92 o (nI n) P c g x5 X (j + 1) M a.1 a.2.1 a.2.2 (nI d) := by
  intro j
  induction j with
  | zero =>
    intro d a hd hR
    unfold wl_X7_whoDid_92
    rw [if_pos (nI_le (by omega) (by omega))]
    have hR' : a = R := hR
    rw [hR']; exact h
  | succ j ih =>
    intro d a hd hR
    have hR' : lpF (wdF t P c g) j (d + 1) (wdF t P c g d a) = R := hR
    unfold wl_X7_whoDid_92
    rw [if_neg (nI_ge (by omega) (by omega))]
    refine ⟨257, l7_wd107 (R := wd1 t P c g d) hL ht (by omega) ?_ 256 0 (0, P) (by omega) rfl⟩
    unfold wb_X7_whoDid_212
    simp only [forall_eq, ap1]
    unfold wdF at hR'
    by_cases e : (wd1 t P c g d).1 = 0
    · rw [if_pos e]
      by_cases e2 : a.2.1 = -2
      · rw [if_pos e2]
        rw [if_pos ⟨e, e2⟩] at hR'
        exact ih (d + 1) (_, _, _) (by omega) hR'
      · rw [if_neg e2]
        rw [if_neg (fun x => e2 x.2)] at hR'
        exact ih (d + 1) (_, _, _) (by omega) hR'
    · rw [if_neg e]
      rw [if_neg (fun x => e x.1)] at hR'
      exact ih (d + 1) (_, _, _) (by omega) hR'
def wdV (S : St) (n P c g w : Int32) : Bool := inS n 1 6 && inS P 1 255 && decide (¬ 5 < bitsS P) && inS c 1 9 && inS g 0 9 && inS w 0 2 && decide (n + 1 ≤ nI S.2.2.2.2.1)
theorem M_whoDid {o : Nat} {M : MM} {S : St} {n P c g w : Int32} {Post : Int64 → MM → Prop} (hM : MR o M S) (h0 : wdV S n P c g w = false → Post (-1) M)
    (h1 : ∀ n' p, 1 ≤ n' → n' ≤ 6 → n = nI n' → 1 ≤ p → p ≤ 255 → P = nI p → wdV S n P c g w = true → ∀ M', mFr o M M' → MR o M' (nt S) → Post (wdS S.2.2.2.1 n' P c g w) M') : wp_X7_whoDid M o n P c g w Post := by
  have hn0 := hM.n0
  obtain ⟨hL, m1, m2, m3, m4, m5, m6, m7⟩ := hM
  unfold wp_X7_whoDid
  unfold wdV at h0 h1
  rw [w7_in]
  by_cases e1 : inS n 1 6 = true
  · rw [if_pos e1, if_neg n10, w7_in]
    by_cases e2 : inS P 1 255 = true
    · rw [if_pos e2, if_neg n10]
      refine w7_bits ?_
      by_cases e3 : 5 < bitsS P
      · rw [if_pos e3]; exact h0 (by simp [e3])
      · rw [if_neg e3, w7_in]
        by_cases e4 : inS c 1 9 = true
        · rw [if_pos e4, if_neg n10, w7_in]
          by_cases e5 : inS g 0 9 = true
          · rw [if_pos e5, if_neg n10, w7_in]
            by_cases e6 : inS w 0 2 = true
            · rw [if_pos e6, if_neg n10, m5]
              by_cases e7 : n + 1 ≤ nI S.2.2.2.2.1
              · rw [if_pos e7]
                obtain ⟨n', hn1, hn2, rfl⟩ := inS_ab (a := 1) (b := 6) (by omega) (by omega) e1
                obtain ⟨p, hp1, hp2, rfl⟩ := inS_ab (a := 1) (b := 255) (by omega) (by omega) e2
                simp only [forall_eq]
                refine ⟨n' + 1, l7_wd92 (M := msI M o 4 0) (R := lpF (wdF S.2.2.2.1 (nI p) c g) n' 0 (1, -2, 0)) hn0.1.1 hn0.1.2.2.2.2.1 hn2 ?_ n' 0 (1, -2, 0) (by omega) rfl⟩
                have fin := h1 n' p hn1 hn2 rfl hp1 hp2 rfl (by simp [e1, e2, e3, e4, e5, e6, e7]) _ hn0.2 hn0.1
                unfold wdS at fin
                by_cases f0 : w = 0
                · rw [if_pos f0] at fin ⊢; exact fin
                rw [if_neg f0] at fin ⊢
                by_cases f1 : w = 1
                · rw [if_pos f1] at fin ⊢; exact fin
                rw [if_neg f1] at fin ⊢
                by_cases f2 : (lpF (wdF S.2.2.2.1 (nI p) c g) n' 0 (1, -2, 0)).1 = 0
                · rw [if_pos f2] at fin ⊢; exact fin
                · rw [if_neg f2] at fin ⊢; exact fin
              · rw [if_neg e7]; exact h0 (by simp [e7])
            · rw [if_neg e6, if_pos rfl]; exact h0 (by simp [e6])
          · rw [if_neg e5, if_pos rfl]; exact h0 (by simp [e5])
        · rw [if_neg e4, if_pos rfl]; exact h0 (by simp [e4])
    · rw [if_neg e2, if_pos rfl]; exact h0 (by simp [e2])
  · rw [if_neg e1, if_pos rfl]; exact h0 (by simp [e1])
