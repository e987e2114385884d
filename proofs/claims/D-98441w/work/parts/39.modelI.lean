/-! the model: who comes, a can, shares -/
set_option maxRecDepth 100000
theorem gN_ne : ∀ n (x y : Int64), y.toInt.natAbs < n → (x ≠ 0 ∨ y ≠ 0) → gN n x y ≠ 0 := by
  intro n
  induction n with
  | zero => intro x y h; omega
  | succ n ih =>
    intro x y h hxy
    unfold gN
    by_cases e : y = 0
    · rw [if_pos e]; exact hxy.resolve_right (fun h => h e)
    · rw [if_neg e]
      exact ih y (rmL_ x y) (by have := rmL_lt (x := x) e; omega) (Or.inl e)
theorem gcS_ne {x y : Int64} (h : y ≠ 0) : gcS x y ≠ 0 := gN_ne _ x y (by omega) (Or.inr h)
/-- above or below the line -/
def thS (x y : Int64) (w : Int32) : Int64 := if w = 0 then x / gcS x y else y / gcS x y
theorem w7_through {M : MM} {x y : Int64} {w : Int32} {Post : Int64 → MM → Prop} (hy : y ≠ 0) (h : Post (thS x y w) M) : wp_X7_through M x y w Post := by
  unfold wp_X7_through
  refine w7_gcd ?_
  unfold thS at h
  by_cases e : w = 0
  · rw [if_pos e] at h ⊢; exact ⟨gcS_ne hy, h⟩
  · rw [if_neg e] at h ⊢; exact ⟨gcS_ne hy, h⟩
def tkB (t : Nat → Int32) : Nat → Nat → Bool
  | 0, _ => true
  | j + 1, k => inS (t k) 0 10 && tkB t j (k + 1)
def areS (t : Nat → Int32) (m : Nat) : Bool := tkB t m 0
theorem w7_areTenths {o m : Nat} {M : MM} {t : Nat → Int32} {Post : Int32 → MM → Prop} (hL : ML o M) (ht : ar o 4 M = t) (hm : m < 200) (h0 : areS t m = false → Post 0 M) (h1 : areS t m = true → Post 1 M) : wp_X7_areTenths M o (nI m) Post := by
  have key : ∀ (X22 X30 : MM → Prop) j k, k + j = m → (tkB t j k = false → X22 M) → (tkB t j k = true → X30 M) → wl_X7_areTenths_2 o (nI m) X22 X30 (j + 1) M (nI k) := by
    intro X22 X30 j
    induction j with
    | zero =>
      intro k hk a b
      unfold wl_X7_areTenths_2
      rw [if_pos (nI_le (by omega) (by omega))]
      exact b rfl
    | succ j ih =>
      intro k hk a b
      unfold wl_X7_areTenths_2
      rw [if_neg (nI_ge (by omega) (by omega))]
      simp (disch := first | assumption | omega) only [mgR_sI, mgR_sL, mkd_sI, mkd_sL, mln_sI, mln_sL, Option.some.injEq, exists_eq_left', forall_eq, true_and, and_true, Nat.reduceLT, exists_eq_left, ML_r0, ML_k1, ML_l1, ML_r1, ML_k2, ML_l2, ML_r2, ML_k3, ML_l3, ML_r3, ML_k4, ML_l4, ML_r13, ML_k5, ML_l5, ML_r14, ML_k6, ML_l6, ML_r15, ML_k7, ML_l7, ML_r16, ML_k8, ML_l8, ML_r17, ML_k9, ML_l9, ML_r18, ML_k10, ML_l10, ML_r19, ML_k11, ML_l11, ML_r20, ML_k12, ML_l12, ML_r21, ML_k13, ML_l13, ML_r22, ML_k14, ML_l14, ML_r23, ML_k15, ML_l15, ML_r24, ML_k16, ML_l16, ML_r25, ML_k17, ML_l17, ML_r26, ML_k18, ML_l18, ML_r30, ML_k19, ML_l19, ML_r35, ML_k20, ML_l20, ML_r36, ML_k21, ML_l21, ML_r37, ML_k22, ML_l22, ML_r38, ML_k23, ML_l23, ML_r40, ML_k24, ML_l24, ML_r41, ML_k25, ML_l25, ML_r42, ML_k26, ML_l26, ML_r43, ML_k27, ML_l27, ML_r44, ML_k28, ML_l28, ML_r45, ML_k29, ML_l29, ML_r48, ML_k30, ML_l30, ML_r51, ML_k31, ML_l31, ML_r52, ML_k32, ML_l32, ia0, ia4, ia8, ia12, ia16, ia20, ia24, ia52, ia60, ia68, im7, im14, ap6, iaN, ap1, ixN, vpN, w7_in, arE (o := o) (c := 4), ht]
      unfold tkB at a b
      by_cases e : inS (t k) 0 10 = true
      · rw [if_pos e, if_neg n10]
        simp only [e, Bool.true_and] at a b
        exact ih (k + 1) (by omega) a b
      · rw [if_neg e, if_pos True.intro]
        exact a (by simp [e])
  unfold wp_X7_areTenths
  exact ⟨_, key _ _ m 0 (by omega) h0 h1⟩
/-- how likely so many of the first m come -/
def cmV (t : Nat → Int32) : Nat → Nat → Int64
  | 0, n => if n = 0 then 1 else 0
  | k + 1, n => cmV t k n * ((10 : Int32) - t k).toInt64 + (if n = 0 then 0 else cmV t k (n - 1) * (t k).toInt64)
theorem cmV_0 {t : Nat → Int32} : ∀ k n, k < n → cmV t k n = 0 := by
  intro k
  induction k with
  | zero => intro n h; exact if_neg (by omega)
  | succ k ih =>
    intro n h
    unfold cmV
    rw [ih n (by omega), if_neg (by omega), ih (n - 1) (by omega), Int64.zero_mul, Int64.zero_mul]; rfl
theorem l7_lc2 {o : Nat} {x1 : Int32} {M : MM} {X : MM → Prop} (hL : ML o M) (h : ∀ M', fL (fun a => a = o + 29) M M' → (∀ n, n < 13 → aL o 29 M' n = if n = 0 then 1 else 0) → X M') : ∃ n, wl_X7_laysComes_2 o x1 X n M (nI 0) := by
  refine cl_ (fun n M1 i => wl_X7_laysComes_2 o x1 X n M1 (nI i)) (fun i M1 => fL (fun a => a = o + 29) M M1 ∧ ∀ n, n < i → aL o 29 M1 n = if n = 0 then 1 else 0) 13 ?_ ?_ M 0 (by omega) ⟨fL.rf, fun n hn => by omega⟩
  · intro n i M1 hi ⟨hF, hr⟩ hs'
    have h1 : ML o M1 := ML_of hF.2.1 hL
    show wl_X7_laysComes_2 o x1 X (n + 1) M1 (nI i)
    unfold wl_X7_laysComes_2 wb_X7_laysComes_22
    rw [if_neg (show ¬ (13 : Int32) ≤ nI i from (show ¬ nI 13 ≤ nI i from nI_ge (by omega) (by omega)))]
    have fin : ∀ v, v = (if i = 0 then (1 : Int64) else 0) → wl_X7_laysComes_2 o x1 X n (msL M1 (o + 29) i v) (nI (i + 1)) := by
      intro v hv
      refine hs' _ ⟨hF.s rfl, fun f hf => ?_⟩
      rw [aL_s, if_pos rfl]
      unfold upL
      by_cases e : f = i
      · rw [if_pos e, hv, e]
      · rw [if_neg e]; exact hr f (by omega)
    simp (disch := first | assumption | omega) only [mgR_sI, mgR_sL, mkd_sI, mkd_sL, mln_sI, mln_sL, Option.some.injEq, exists_eq_left', forall_eq, true_and, and_true, Nat.reduceLT, exists_eq_left, ML_r0, ML_k1, ML_l1, ML_r1, ML_k2, ML_l2, ML_r2, ML_k3, ML_l3, ML_r3, ML_k4, ML_l4, ML_r13, ML_k5, ML_l5, ML_r14, ML_k6, ML_l6, ML_r15, ML_k7, ML_l7, ML_r16, ML_k8, ML_l8, ML_r17, ML_k9, ML_l9, ML_r18, ML_k10, ML_l10, ML_r19, ML_k11, ML_l11, ML_r20, ML_k12, ML_l12, ML_r21, ML_k13, ML_l13, ML_r22, ML_k14, ML_l14, ML_r23, ML_k15, ML_l15, ML_r24, ML_k16, ML_l16, ML_r25, ML_k17, ML_l17, ML_r26, ML_k18, ML_l18, ML_r30, ML_k19, ML_l19, ML_r35, ML_k20, ML_l20, ML_r36, ML_k21, ML_l21, ML_r37, ML_k22, ML_l22, ML_r38, ML_k23, ML_l23, ML_r40, ML_k24, ML_l24, ML_r41, ML_k25, ML_l25, ML_r42, ML_k26, ML_l26, ML_r43, ML_k27, ML_l27, ML_r44, ML_k28, ML_l28, ML_r45, ML_k29, ML_l29, ML_r48, ML_k30, ML_l30, ML_r51, ML_k31, ML_l31, ML_r52, ML_k32, ML_l32, ia0, ia4, ia8, ia12, ia16, ia20, ia24, ia52, ia60, ia68, im7, im14, ap6, iaN, ap1, ixN, vpN]
    by_cases e : i = 0
    · rw [if_pos (by rw [e]; rfl)]; exact fin _ (by rw [if_pos e])
    · rw [if_neg (nI_ne0 (by omega) (by omega))]; exact fin _ (by rw [if_neg e])
  · intro n M1 ⟨hF, hr⟩
    show wl_X7_laysComes_2 o x1 X (n + 1) M1 (nI 13)
    unfold wl_X7_laysComes_2
    rw [if_pos (show (13 : Int32) ≤ nI 13 from by decide)]
    exact h M1 hF hr
theorem l7_lc40 {o k : Nat} {x1 : Int32} {M : MM} {t : Nat → Int32} {X : MM → Prop} (hL : ML o M) (ht : ar o 4 M = t) (hk : k < 12) (hV : ∀ n, n < 13 → aL o 29 M n = cmV t k n) (h : ∀ M', fL (fun a => a = o + 29) M M' → (∀ n, n < 13 → aL o 29 M' n = cmV t (k + 1) n) → X M') : ∃ n, wl_X7_laysComes_40 o x1 (nI k) X n M (nI (k + 1)) := by
  rw [show nI (k + 1) = nI (k + 2) + (-1) from am1.symm]
  refine cd_ (fun n M1 i => wl_X7_laysComes_40 o x1 (nI k) X n M1 (nI i + (-1))) (fun i M1 => i ≤ 13 ∧ fL (fun a => a = o + 29) M M1 ∧ ∀ n, n < 13 → aL o 29 M1 n = if n < i then cmV t k n else cmV t (k + 1) n) ?_ ?_ M (k + 2) ⟨by omega, fL.rf, ?_⟩
  · intro n i M1 ⟨hi, hF, hr⟩ hs'
    have h1 : ML o M1 := ML_of hF.2.1 hL
    have ht1 : ar o 4 M1 = t := (hF.ar _ _).trans ht
    show wl_X7_laysComes_40 o x1 (nI k) X (n + 1) M1 (nI (i + 1) + (-1))
    rw [am1]
    unfold wl_X7_laysComes_40 wb_X7_laysComes_90
    rw [if_neg (show ¬ nI i < 0 from nI_pos (by omega))]
    have v1 : aL o 29 M1 i = cmV t k i := by rw [hr i (by omega), if_pos (by omega)]
    have fin : ∀ v, v = cmV t (k + 1) i → wl_X7_laysComes_40 o x1 (nI k) X n (msL M1 (o + 29) i v) (nI i + (-1)) := by
      intro v hv
      refine hs' _ ⟨by omega, hF.s rfl, fun f hf => ?_⟩
      rw [aL_s, if_pos rfl]
      unfold upL
      by_cases e : f = i
      · rw [if_pos e, if_neg (by omega), hv, e]
      · rw [if_neg e, hr f hf]
        by_cases e2 : f < i
        · rw [if_pos e2, if_pos (by omega)]
        · rw [if_neg e2, if_neg (by omega)]
    by_cases e : i = 0
    · subst e
      simp (disch := first | assumption | omega) only [mgR_sI, mgR_sL, mkd_sI, mkd_sL, mln_sI, mln_sL, Option.some.injEq, exists_eq_left', forall_eq, true_and, and_true, Nat.reduceLT, exists_eq_left, ML_r0, ML_k1, ML_l1, ML_r1, ML_k2, ML_l2, ML_r2, ML_k3, ML_l3, ML_r3, ML_k4, ML_l4, ML_r13, ML_k5, ML_l5, ML_r14, ML_k6, ML_l6, ML_r15, ML_k7, ML_l7, ML_r16, ML_k8, ML_l8, ML_r17, ML_k9, ML_l9, ML_r18, ML_k10, ML_l10, ML_r19, ML_k11, ML_l11, ML_r20, ML_k12, ML_l12, ML_r21, ML_k13, ML_l13, ML_r22, ML_k14, ML_l14, ML_r23, ML_k15, ML_l15, ML_r24, ML_k16, ML_l16, ML_r25, ML_k17, ML_l17, ML_r26, ML_k18, ML_l18, ML_r30, ML_k19, ML_l19, ML_r35, ML_k20, ML_l20, ML_r36, ML_k21, ML_l21, ML_r37, ML_k22, ML_l22, ML_r38, ML_k23, ML_l23, ML_r40, ML_k24, ML_l24, ML_r41, ML_k25, ML_l25, ML_r42, ML_k26, ML_l26, ML_r43, ML_k27, ML_l27, ML_r44, ML_k28, ML_l28, ML_r45, ML_k29, ML_l29, ML_r48, ML_k30, ML_l30, ML_r51, ML_k31, ML_l31, ML_r52, ML_k32, ML_l32, vpN, ixN, if_pos (show nI 0 ≤ 0 from by decide), aLE (o := o) (c := 29), v1, arE (o := o) (c := 4), ht1]
      refine fin _ ?_
      show _ = cmV t k 0 * _ + _
      rw [if_pos rfl]
    · have v2 : aL o 29 M1 (i - 1) = cmV t k (i - 1) := by rw [hr (i - 1) (by omega), if_pos (by omega)]
      have hle : ¬ nI i ≤ 0 := nI_nle (by omega) (by omega)
      have g1 : nI i - (1 : Int32) = nI (i - 1) := as1 (by omega)
      simp (disch := first | assumption | omega) only [mgR_sI, mgR_sL, mkd_sI, mkd_sL, mln_sI, mln_sL, Option.some.injEq, exists_eq_left', forall_eq, true_and, and_true, Nat.reduceLT, exists_eq_left, ML_r0, ML_k1, ML_l1, ML_r1, ML_k2, ML_l2, ML_r2, ML_k3, ML_l3, ML_r3, ML_k4, ML_l4, ML_r13, ML_k5, ML_l5, ML_r14, ML_k6, ML_l6, ML_r15, ML_k7, ML_l7, ML_r16, ML_k8, ML_l8, ML_r17, ML_k9, ML_l9, ML_r18, ML_k10, ML_l10, ML_r19, ML_k11, ML_l11, ML_r20, ML_k12, ML_l12, ML_r21, ML_k13, ML_l13, ML_r22, ML_k14, ML_l14, ML_r23, ML_k15, ML_l15, ML_r24, ML_k16, ML_l16, ML_r25, ML_k17, ML_l17, ML_r26, ML_k18, ML_l18, ML_r30, ML_k19, ML_l19, ML_r35, ML_k20, ML_l20, ML_r36, ML_k21, ML_l21, ML_r37, ML_k22, ML_l22, ML_r38, ML_k23, ML_l23, ML_r40, ML_k24, ML_l24, ML_r41, ML_k25, ML_l25, ML_r42, ML_k26, ML_l26, ML_r43, ML_k27, ML_l27, ML_r44, ML_k28, ML_l28, ML_r45, ML_k29, ML_l29, ML_r48, ML_k30, ML_l30, ML_r51, ML_k31, ML_l31, ML_r52, ML_k32, ML_l32, vpN, ixN, if_neg hle, g1, aLE (o := o) (c := 29), v1, v2, arE (o := o) (c := 4), ht1]
      refine fin _ ?_
      show _ = cmV t k i * _ + (if i = 0 then 0 else _)
      rw [if_neg e]
  · intro n M1 ⟨hi, hF, hr⟩
    show wl_X7_laysComes_40 o x1 (nI k) X (n + 1) M1 (nI 0 + (-1))
    unfold wl_X7_laysComes_40
    rw [if_pos (show nI 0 + (-1) < 0 from by decide)]
    exact h M1 hF (fun n hn => by rw [hr n hn, if_neg (by omega)])
  · intro n hn
    by_cases e : n < k + 2
    · rw [if_pos e]; exact hV n hn
    · rw [if_neg e, hV n hn, cmV_0 k n (by omega), cmV_0 (k + 1) n (by omega)]
theorem w7_laysComes {o m : Nat} {M : MM} {t : Nat → Int32} {Post : MM → Prop} (hL : ML o M) (ht : ar o 4 M = t) (hm : m ≤ 12) (h : ∀ M', fL (fun a => a = o + 29) M M' → (∀ n, n < 13 → aL o 29 M' n = cmV t m n) → Post M') : wp_X7_laysComes M o (nI m) Post := by
  unfold wp_X7_laysComes
  refine l7_lc2 hL (fun M1 hF1 hz => ?_)
  refine cl_ (fun n M2 i => wl_X7_laysComes_31 o (nI m) (fun M_49 => Post M_49) n M2 (nI i)) (fun i M2 => fL (fun a => a = o + 29) M M2 ∧ ∀ n, n < 13 → aL o 29 M2 n = cmV t i n) m ?_ ?_ M1 0 (by omega) ⟨hF1, hz⟩
  · intro n i M2 hi ⟨hF, hr⟩ hs'
    have h1 : ML o M2 := ML_of hF.2.1 hL
    show wl_X7_laysComes_31 o (nI m) _ (n + 1) M2 (nI i)
    unfold wl_X7_laysComes_31
    rw [if_neg (nI_ge hi (by omega))]
    simp only [forall_eq, ap1]
    exact l7_lc40 h1 ((hF.ar _ _).trans ht) (by omega) hr (fun M3 hF3 hr3 => hs' M3 ⟨hF.tr hF3, hr3⟩)
  · intro n M2 ⟨hF, hr⟩
    show wl_X7_laysComes_31 o (nI m) _ (n + 1) M2 (nI m)
    unfold wl_X7_laysComes_31
    rw [if_pos (nI_le (Nat.le_refl _) (by omega))]
    exact h M2 hF hr
/-- the tape is read -/
abbrev nt (S : St) : St := (S.1, S.2.1, S.2.2.1, S.2.2.2.1, 0, S.2.2.2.2.2)
theorem MR.fL {o : Nat} {M M1 : MM} {S : St} {P : Nat → Prop} (h : MR o M S) (hF : fL P M M1) (hp : ∀ a, P a → o ≤ a ∧ a < o + 33) : MR o M1 S := h.g (hF.g hp) ((hF.ar _ _).trans h.2.1)
theorem fL.m {o : Nat} {M M1 : MM} {P : Nat → Prop} (hF : fL P M M1) (hp : ∀ a, P a → o ≤ a ∧ a < o + 33) : mFr o M M1 := (hF.g hp).m
theorem ten_ne : ∀ m, m < 19 → tenL m ≠ 0 := by decide
def cvV (S : St) (m many w : Int32) : Bool := inS m 1 12 && inS many 0 12 && inS w 0 1 && decide (m ≤ nI S.2.2.2.2.1)
theorem M_comes {o : Nat} {M : MM} {S : St} {m many w : Int32} {Post : Int64 → MM → Prop} (hM : MR o M S) (h0 : cvV S m many w = false → Post (-1) M)
    (h2 : ∀ m', 1 ≤ m' → m' ≤ 12 → m = nI m' → cvV S m many w = true → areS S.2.2.2.1 m' = false → ∀ M', mFr o M M' → MR o M' (nt S) → Post (-2) M')
    (h1 : ∀ m' k, 1 ≤ m' → m' ≤ 12 → k ≤ 12 → m = nI m' → many = nI k → cvV S m many w = true → areS S.2.2.2.1 m' = true → ∀ M', mFr o M M' → MR o M' (nt S) → Post (thS (cmV S.2.2.2.1 m' k) (tenL m') w) M') : wp_X7_comes M o m many w Post := by
  have hn0 := hM.n0
  obtain ⟨hL, m1, m2, m3, m4, m5, m6, m7⟩ := hM
  unfold wp_X7_comes
  unfold cvV at h0 h1 h2
  rw [w7_in]
  by_cases e1 : inS m 1 12 = true
  · rw [if_pos e1, if_neg n10, w7_in]
    by_cases e2 : inS many 0 12 = true
    · rw [if_pos e2, if_neg n10, w7_in]
      by_cases e3 : inS w 0 1 = true
      · rw [if_pos e3, if_neg n10, m5]
        by_cases e4 : m ≤ nI S.2.2.2.2.1
        · rw [if_pos e4]
          obtain ⟨m', hm1, hm2, rfl⟩ := inS_ab (a := 1) (b := 12) (by omega) (by omega) e1
          obtain ⟨k, hk, rfl⟩ := inS_n (n := 12) (by omega) e2
          have ev : (inS (nI m') 1 12 && inS (nI k) 0 12 && inS w 0 1 && decide (nI m' ≤ nI S.2.2.2.2.1)) = true := by simp [e1, e2, e3, e4]
          simp only [forall_eq]
          refine w7_areTenths (M := msI M o 4 0) hn0.1.1 hn0.1.2.2.2.2.1 (by omega) (fun e => ?_) (fun e => ?_)
          · rw [if_pos rfl]; exact h2 m' hm1 hm2 rfl ev e _ hn0.2 hn0.1
          · rw [if_neg n10]
            refine w7_laysComes hn0.1.1 hn0.1.2.2.2.2.1 hm2 (fun M1 hF1 hV => ?_)
            have hM1 := hn0.1.fL hF1 (fun a e => by omega)
            have hL1 := hM1.1
            have hv := hV k (by omega)
            simp (disch := first | assumption | omega) only [mgR_sI, mgR_sL, mkd_sI, mkd_sL, mln_sI, mln_sL, Option.some.injEq, exists_eq_left', forall_eq, true_and, and_true, Nat.reduceLT, exists_eq_left, ML_r0, ML_k1, ML_l1, ML_r1, ML_k2, ML_l2, ML_r2, ML_k3, ML_l3, ML_r3, ML_k4, ML_l4, ML_r13, ML_k5, ML_l5, ML_r14, ML_k6, ML_l6, ML_r15, ML_k7, ML_l7, ML_r16, ML_k8, ML_l8, ML_r17, ML_k9, ML_l9, ML_r18, ML_k10, ML_l10, ML_r19, ML_k11, ML_l11, ML_r20, ML_k12, ML_l12, ML_r21, ML_k13, ML_l13, ML_r22, ML_k14, ML_l14, ML_r23, ML_k15, ML_l15, ML_r24, ML_k16, ML_l16, ML_r25, ML_k17, ML_l17, ML_r26, ML_k18, ML_l18, ML_r30, ML_k19, ML_l19, ML_r35, ML_k20, ML_l20, ML_r36, ML_k21, ML_l21, ML_r37, ML_k22, ML_l22, ML_r38, ML_k23, ML_l23, ML_r40, ML_k24, ML_l24, ML_r41, ML_k25, ML_l25, ML_r42, ML_k26, ML_l26, ML_r43, ML_k27, ML_l27, ML_r44, ML_k28, ML_l28, ML_r45, ML_k29, ML_l29, ML_r48, ML_k30, ML_l30, ML_r51, ML_k31, ML_l31, ML_r52, ML_k32, ML_l32, ia0, ia4, ia8, ia12, ia16, ia20, ia24, ia52, ia60, ia68, im7, im14, ap6, iaN, ap1, ixN, vpN, aLE (o := o) (c := 29), hv]
            refine w7_tens (by omega) (w7_through (ten_ne m' (by omega)) ?_)
            exact h1 m' k hm1 hm2 hk rfl rfl ev e M1 (hn0.2.tr (hF1.m (fun a e => by omega))) hM1
        · rw [if_neg e4]; exact h0 (by simp [e4])
      · rw [if_neg e3, if_pos rfl]; exact h0 (by simp [e3])
    · rw [if_neg e2, if_pos rfl]; exact h0 (by simp [e2])
  · rw [if_neg e1, if_pos rfl]; exact h0 (by simp [e1])
/-- what a can is worth by how many come -/
def caF (c d : Int32) (k : Nat) : Int64 := (ma_ 0 (c * nI k - d) - ma_ 0 (c - d)).toInt64
def cnS (t : Nat → Int32) (m : Nat) (c d : Int32) (w : Int32) : Int64 := thS (sm m (fun i => cmV t m (i + 1) * caF c d (i + 1))) (tenL m) w
def cnV (S : St) (m c d w : Int32) : Bool := inS m 1 6 && inS c 1 9 && inS d 0 60 && inS w 0 1 && decide (m ≤ nI S.2.2.2.2.1)
theorem M_can {o : Nat} {M : MM} {S : St} {m c d w : Int32} {Post : Int64 → MM → Prop} (hM : MR o M S) (h0 : cnV S m c d w = false → Post (-1) M)
    (h2 : ∀ m', 1 ≤ m' → m' ≤ 6 → m = nI m' → cnV S m c d w = true → areS S.2.2.2.1 m' = false → ∀ M', mFr o M M' → MR o M' (nt S) → Post (-2) M')
    (h1 : ∀ m', 1 ≤ m' → m' ≤ 6 → m = nI m' → cnV S m c d w = true → areS S.2.2.2.1 m' = true → ∀ M', mFr o M M' → MR o M' (nt S) → Post (cnS S.2.2.2.1 m' c d w) M') : wp_X7_can M o m c d w Post := by
  have hn0 := hM.n0
  obtain ⟨hL, m1, m2, m3, m4, m5, m6, m7⟩ := hM
  unfold wp_X7_can
  unfold cnV at h0 h1 h2
  rw [w7_in]
  by_cases e1 : inS m 1 6 = true
  · rw [if_pos e1, if_neg n10, w7_in]
    by_cases e2 : inS c 1 9 = true
    · rw [if_pos e2, if_neg n10, w7_in]
      by_cases e5 : inS d 0 60 = true
      · rw [if_pos e5, if_neg n10, w7_in]
        by_cases e3 : inS w 0 1 = true
        · rw [if_pos e3, if_neg n10, m5]
          by_cases e4 : m ≤ nI S.2.2.2.2.1
          · rw [if_pos e4]
            obtain ⟨m', hm1, hm2, rfl⟩ := inS_ab (a := 1) (b := 6) (by omega) (by omega) e1
            have ev : (inS (nI m') 1 6 && inS c 1 9 && inS d 0 60 && inS w 0 1 && decide (nI m' ≤ nI S.2.2.2.2.1)) = true := by simp [e1, e2, e3, e4, e5]
            simp only [forall_eq]
            refine w7_areTenths (M := msI M o 4 0) hn0.1.1 hn0.1.2.2.2.2.1 (by omega) (fun e => ?_) (fun e => ?_)
            · rw [if_pos rfl]; exact h2 m' hm1 hm2 rfl ev e _ hn0.2 hn0.1
            · rw [if_neg n10]
              refine w7_laysComes hn0.1.1 hn0.1.2.2.2.2.1 (by omega) (fun M1 hF1 hV => ?_)
              have hM1 := hn0.1.fL hF1 (fun a e => by omega)
              have hL1 := hM1.1
              have fin := h1 m' hm1 hm2 rfl ev e M1 (hn0.2.tr (hF1.m (fun a e => by omega))) hM1
              unfold cnS at fin
              have key : ∀ (X : MM → Int64 → Prop) j k v, k + j = m' → v = sm k (fun i => cmV S.2.2.2.1 m' (i + 1) * caF c d (i + 1)) → X M1 (sm m' (fun i => cmV S.2.2.2.1 m' (i + 1) * caF c d (i + 1))) → wl_X7_can_80 o (nI m') c d w X (j + 1) M1 v (nI (k + 1)) := by
                intro X j
                induction j with
                | zero =>
                  intro k v hk hv hX
                  unfold wl_X7_can_80
                  rw [if_pos (nI_lt (by omega) (by omega)), hv, show k = m' by omega]
                  exact hX
                | succ j ih =>
                  intro k v hk hv hX
                  have hv1 := hV (k + 1) (by omega)
                  unfold wl_X7_can_80
                  rw [if_neg (nI_nlt (by omega) (by omega))]
                  simp (disch := first | assumption | omega) only [mgR_sI, mgR_sL, mkd_sI, mkd_sL, mln_sI, mln_sL, Option.some.injEq, exists_eq_left', forall_eq, true_and, and_true, Nat.reduceLT, exists_eq_left, ML_r0, ML_k1, ML_l1, ML_r1, ML_k2, ML_l2, ML_r2, ML_k3, ML_l3, ML_r3, ML_k4, ML_l4, ML_r13, ML_k5, ML_l5, ML_r14, ML_k6, ML_l6, ML_r15, ML_k7, ML_l7, ML_r16, ML_k8, ML_l8, ML_r17, ML_k9, ML_l9, ML_r18, ML_k10, ML_l10, ML_r19, ML_k11, ML_l11, ML_r20, ML_k12, ML_l12, ML_r21, ML_k13, ML_l13, ML_r22, ML_k14, ML_l14, ML_r23, ML_k15, ML_l15, ML_r24, ML_k16, ML_l16, ML_r25, ML_k17, ML_l17, ML_r26, ML_k18, ML_l18, ML_r30, ML_k19, ML_l19, ML_r35, ML_k20, ML_l20, ML_r36, ML_k21, ML_l21, ML_r37, ML_k22, ML_l22, ML_r38, ML_k23, ML_l23, ML_r40, ML_k24, ML_l24, ML_r41, ML_k25, ML_l25, ML_r42, ML_k26, ML_l26, ML_r43, ML_k27, ML_l27, ML_r44, ML_k28, ML_l28, ML_r45, ML_k29, ML_l29, ML_r48, ML_k30, ML_l30, ML_r51, ML_k31, ML_l31, ML_r52, ML_k32, ML_l32, ia0, ia4, ia8, ia12, ia16, ia20, ia24, ia52, ia60, ia68, im7, im14, ap6, iaN, ap1, ixN, vpN, w7_max, aLE (o := o) (c := 29), hv1]
                  refine ih (k + 1) _ (by omega) ?_ hX
                  rw [hv]; rfl
              refine ⟨_, key _ m' 0 0 (by omega) rfl ?_⟩
              exact w7_tens (by omega) (w7_through (ten_ne m' (by omega)) fin)
          · rw [if_neg e4]; exact h0 (by simp [e4])
        · rw [if_neg e3, if_pos rfl]; exact h0 (by simp [e3])
      · rw [if_neg e5, if_pos rfl]; exact h0 (by simp [e5])
    · rw [if_neg e2, if_pos rfl]; exact h0 (by simp [e2])
  · rw [if_neg e1, if_pos rfl]; exact h0 (by simp [e1])
/-- all that is given; who has given most -/
def shA (s : Nat → Int32) : Int32 := itN (fun p v => if isPe s (nI p) = true then v + s (68 + p) else v) 8 0
def shF (s : Nat → Int32) (p : Nat) : Option Nat → Option Nat
  | none => if 0 < s (68 + p) then some p else none
  | some q => if 0 < s (68 + p) then (if s (68 + q) < s (68 + p) then some p else some q) else some q
def shM (s : Nat → Int32) : Nat → Option Nat := fun n => itN (fun p b => if isPe s (nI p) = true then shF s p b else b) n none
def bO : Option Nat → Int32
  | none => -2
  | some q => nI q
def srS (s : Nat → Int32) (x w : Int32) : Int32 := if x = -1 then (if w = 0 then bO (shM s 8) else -1) else if (isPe s x && inS w 0 1) = true then (if shA s = 0 then w else (thS (s (68 + ix_ x)).toInt64 (shA s).toInt64 w).toInt32) else -1
theorem shF_lt {s : Nat → Int32} {n : Nat} {b : Option Nat} (hb : ∀ q, b = some q → q < n) : ∀ q, shF s n b = some q → q < n + 1 := by
  intro q h
  cases b with
  | none =>
    have h' : (if 0 < s (68 + n) then some n else none) = some q := h
    by_cases e : 0 < s (68 + n)
    · rw [if_pos e] at h'; cases h'; omega
    · rw [if_neg e] at h'; cases h'
  | some r =>
    have hr := hb r rfl
    have h' : (if 0 < s (68 + n) then (if s (68 + r) < s (68 + n) then some n else some r) else some r) = some q := h
    by_cases e : 0 < s (68 + n)
    · rw [if_pos e] at h'
      by_cases e2 : s (68 + r) < s (68 + n)
      · rw [if_pos e2] at h'; cases h'; omega
      · rw [if_neg e2] at h'; cases h'; omega
    · rw [if_neg e] at h'; cases h'; omega
theorem shM_lt {s : Nat → Int32} : ∀ n q, shM s n = some q → q < n := by
  intro n
  induction n with
  | zero => intro q h; cases h
  | succ n ih =>
    intro q h
    have hu : shM s (n + 1) = if isPe s (nI n) = true then shF s n (shM s n) else shM s n := rfl
    rw [hu] at h
    by_cases e : isPe s (nI n) = true
    · rw [if_pos e] at h; exact shF_lt ih q h
    · rw [if_neg e] at h; have := ih q h; omega
theorem nI_m2 {n : Nat} (h : n < 2147483648) : ¬ nI n = -2 := by
  intro e
  have h1 := nI_toInt h
  rw [e, show (-2 : Int32).toInt = -2 from rfl] at h1
  omega
theorem l64_0 {x : Int32} (h : ¬ x = 0) : x.toInt64 ≠ 0 := fun e => h (Int32.toInt_inj.mp (by
  have := congrArg Int64.toInt e
  rw [Int32.toInt_toInt64] at this; exact this))
theorem i32_nle {x y : Int32} : (¬ x ≤ y) ↔ y < x := by rw [Int32.lt_iff_toInt_lt, Int32.le_iff_toInt_le]; omega
theorem M_share {o : Nat} {M : MM} {s : Nat → Int32} {x w : Int32} {Post : Int32 → MM → Prop} (hL : ML o M) (hs : ar o 1 M = s) (h : Post (srS s x w) M) : wp_X7_share M o x w Post := by
  have hn : nw o M = s := hs
  have key : ∀ X : MM → Int32 → Int32 → Prop, X M (shA s) (bO (shM s 8)) → ∃ n, wl_X7_share_9 o x w X n M 0 (-2) (nI 0) := by
   intro X hX
   refine cl_ (fun n (v : Int32 × Int32) i => wl_X7_share_9 o x w X n M v.1 v.2 (nI i)) (fun i v => v.1 = itN (fun p v => if isPe s (nI p) = true then v + s (68 + p) else v) i 0 ∧ v.2 = bO (shM s i)) 8 ?_ ?_ (0, -2) 0 (by omega) ⟨rfl, rfl⟩
   · intro n i v hi ⟨ha, hb⟩ hs'
     have hlt := shM_lt (s := s) i
     have hu : shM s (i + 1) = if isPe s (nI i) = true then shF s i (shM s i) else shM s i := rfl
     have hu2 : itN (fun p v => if isPe s (nI p) = true then v + s (68 + p) else v) (i + 1) 0 = if isPe s (nI i) = true then itN (fun p v => if isPe s (nI p) = true then v + s (68 + p) else v) i 0 + s (68 + i) else itN (fun p v => if isPe s (nI p) = true then v + s (68 + p) else v) i 0 := rfl
     rw [hu, hu2, ← ha] at hs'
     show wl_X7_share_9 o x w X (n + 1) M v.1 v.2 (nI i)
     unfold wl_X7_share_9
     rw [if_neg (show ¬ (8 : Int32) ≤ nI i from (show ¬ nI 8 ≤ nI i from nI_ge (by omega) (by omega))), w7_isPerson hL, hn]
     by_cases e : isPe s (nI i) = true
     · rw [if_pos e, if_neg n10]
       rw [if_pos e, if_pos e] at hs'
       simp (disch := first | assumption | omega) only [mgR_sI, mgR_sL, mkd_sI, mkd_sL, mln_sI, mln_sL, Option.some.injEq, exists_eq_left', forall_eq, true_and, and_true, Nat.reduceLT, exists_eq_left, ML_r0, ML_k1, ML_l1, ML_r1, ML_k2, ML_l2, ML_r2, ML_k3, ML_l3, ML_r3, ML_k4, ML_l4, ML_r13, ML_k5, ML_l5, ML_r14, ML_k6, ML_l6, ML_r15, ML_k7, ML_l7, ML_r16, ML_k8, ML_l8, ML_r17, ML_k9, ML_l9, ML_r18, ML_k10, ML_l10, ML_r19, ML_k11, ML_l11, ML_r20, ML_k12, ML_l12, ML_r21, ML_k13, ML_l13, ML_r22, ML_k14, ML_l14, ML_r23, ML_k15, ML_l15, ML_r24, ML_k16, ML_l16, ML_r25, ML_k17, ML_l17, ML_r26, ML_k18, ML_l18, ML_r30, ML_k19, ML_l19, ML_r35, ML_k20, ML_l20, ML_r36, ML_k21, ML_l21, ML_r37, ML_k22, ML_l22, ML_r38, ML_k23, ML_l23, ML_r40, ML_k24, ML_l24, ML_r41, ML_k25, ML_l25, ML_r42, ML_k26, ML_l26, ML_r43, ML_k27, ML_l27, ML_r44, ML_k28, ML_l28, ML_r45, ML_k29, ML_l29, ML_r48, ML_k30, ML_l30, ML_r51, ML_k31, ML_l31, ML_r52, ML_k32, ML_l32, ia0, ia4, ia8, ia12, ia16, ia20, ia24, ia52, ia60, ia68, im7, im14, ap6, iaN, ap1, ixN, vpN, arE (o := o) (c := 1), hs]
       rw [hb]
       cases hq : shM s i with
       | none =>
         rw [hq] at hs'
         unfold shF at hs'
         dsimp only at hs'
         by_cases e2 : 0 < s (68 + i)
         · rw [if_neg (i32_nle.mpr e2), if_pos (show bO none = -2 from rfl)]
           rw [if_pos e2] at hs'
           exact hs' (_, _) ⟨rfl, rfl⟩
         · rw [if_pos (i32_nlt.mp e2)]
           rw [if_neg e2] at hs'
           exact hs' (_, _) ⟨rfl, rfl⟩
       | some q =>
         have hq8 := hlt q hq
         rw [hq] at hs'
         unfold shF at hs'
         dsimp only at hs'
         by_cases e2 : 0 < s (68 + i)
         · rw [if_neg (i32_nle.mpr e2), if_neg (show ¬ bO (some q) = -2 from nI_m2 (by omega)), show bO (some q) = nI q from rfl]
           rw [if_pos e2] at hs'
           simp (disch := first | assumption | omega) only [mgR_sI, mgR_sL, mkd_sI, mkd_sL, mln_sI, mln_sL, Option.some.injEq, exists_eq_left', forall_eq, true_and, and_true, Nat.reduceLT, exists_eq_left, ML_r0, ML_k1, ML_l1, ML_r1, ML_k2, ML_l2, ML_r2, ML_k3, ML_l3, ML_r3, ML_k4, ML_l4, ML_r13, ML_k5, ML_l5, ML_r14, ML_k6, ML_l6, ML_r15, ML_k7, ML_l7, ML_r16, ML_k8, ML_l8, ML_r17, ML_k9, ML_l9, ML_r18, ML_k10, ML_l10, ML_r19, ML_k11, ML_l11, ML_r20, ML_k12, ML_l12, ML_r21, ML_k13, ML_l13, ML_r22, ML_k14, ML_l14, ML_r23, ML_k15, ML_l15, ML_r24, ML_k16, ML_l16, ML_r25, ML_k17, ML_l17, ML_r26, ML_k18, ML_l18, ML_r30, ML_k19, ML_l19, ML_r35, ML_k20, ML_l20, ML_r36, ML_k21, ML_l21, ML_r37, ML_k22, ML_l22, ML_r38, ML_k23, ML_l23, ML_r40, ML_k24, ML_l24, ML_r41, ML_k25, ML_l25, ML_r42, ML_k26, ML_l26, ML_r43, ML_k27, ML_l27, ML_r44, ML_k28, ML_l28, ML_r45, ML_k29, ML_l29, ML_r48, ML_k30, ML_l30, ML_r51, ML_k31, ML_l31, ML_r52, ML_k32, ML_l32, ia0, ia4, ia8, ia12, ia16, ia20, ia24, ia52, ia60, ia68, im7, im14, ap6, iaN, ap1, ixN, vpN, arE (o := o) (c := 1), hs]
           by_cases e3 : s (68 + q) < s (68 + i)
           · rw [if_neg (i32_nle.mpr e3)]
             rw [if_pos e3] at hs'
             exact hs' (_, _) ⟨rfl, rfl⟩
           · rw [if_pos (i32_nlt.mp e3)]
             rw [if_neg e3] at hs'
             exact hs' (_, _) ⟨rfl, rfl⟩
         · rw [if_pos (i32_nlt.mp e2)]
           rw [if_neg e2] at hs'
           exact hs' (_, _) ⟨rfl, rfl⟩
     · rw [if_neg e, if_pos rfl]
       rw [if_neg e, if_neg e] at hs'
       simp only [forall_eq, ap1]
       exact hs' v ⟨rfl, hb⟩
   · intro n v ⟨ha, hb⟩
     show wl_X7_share_9 o x w X (n + 1) M v.1 v.2 (nI 8)
     unfold wl_X7_share_9
     rw [if_pos (show (8 : Int32) ≤ nI 8 from by decide)]
     have ha' : v.1 = shA s := ha
     rw [ha', hb]
     exact hX
  unfold wp_X7_share
  refine key _ ?_
  unfold srS at h
  by_cases e1 : x = -1
  · rw [if_pos e1] at h ⊢
    by_cases e2 : w = 0
    · rw [if_pos e2] at h ⊢; exact h
    · rw [if_neg e2] at h ⊢; exact h
  · rw [if_neg e1] at h ⊢
    rw [w7_isPerson hL, hn]
    by_cases e2 : isPe s x = true
    · rw [if_pos e2, if_neg n10, w7_in]
      by_cases e3 : inS w 0 1 = true
      · rw [if_pos e3, if_neg n10]
        rw [if_pos (by rw [e2, e3]; rfl)] at h
        by_cases e4 : shA s = 0
        · rw [if_pos e4] at h ⊢; exact h
        · rw [if_neg e4] at h ⊢
          obtain ⟨p, hp, rfl⟩ := isPe_n e2
          rw [ixN (by omega)] at h
          simp (disch := first | assumption | omega) only [mgR_sI, mgR_sL, mkd_sI, mkd_sL, mln_sI, mln_sL, Option.some.injEq, exists_eq_left', forall_eq, true_and, and_true, Nat.reduceLT, exists_eq_left, ML_r0, ML_k1, ML_l1, ML_r1, ML_k2, ML_l2, ML_r2, ML_k3, ML_l3, ML_r3, ML_k4, ML_l4, ML_r13, ML_k5, ML_l5, ML_r14, ML_k6, ML_l6, ML_r15, ML_k7, ML_l7, ML_r16, ML_k8, ML_l8, ML_r17, ML_k9, ML_l9, ML_r18, ML_k10, ML_l10, ML_r19, ML_k11, ML_l11, ML_r20, ML_k12, ML_l12, ML_r21, ML_k13, ML_l13, ML_r22, ML_k14, ML_l14, ML_r23, ML_k15, ML_l15, ML_r24, ML_k16, ML_l16, ML_r25, ML_k17, ML_l17, ML_r26, ML_k18, ML_l18, ML_r30, ML_k19, ML_l19, ML_r35, ML_k20, ML_l20, ML_r36, ML_k21, ML_l21, ML_r37, ML_k22, ML_l22, ML_r38, ML_k23, ML_l23, ML_r40, ML_k24, ML_l24, ML_r41, ML_k25, ML_l25, ML_r42, ML_k26, ML_l26, ML_r43, ML_k27, ML_l27, ML_r44, ML_k28, ML_l28, ML_r45, ML_k29, ML_l29, ML_r48, ML_k30, ML_l30, ML_r51, ML_k31, ML_l31, ML_r52, ML_k32, ML_l32, ia0, ia4, ia8, ia12, ia16, ia20, ia24, ia52, ia60, ia68, im7, im14, ap6, iaN, ap1, ixN, vpN, arE (o := o) (c := 1), hs]
          exact w7_through (l64_0 e4) h
      · rw [if_neg e3, if_pos rfl]
        rw [if_neg (by simp [e3])] at h; exact h
    · rw [if_neg e2, if_pos rfl]
      rw [if_neg (by simp [e2])] at h; exact h
