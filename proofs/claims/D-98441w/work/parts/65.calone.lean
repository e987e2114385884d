/-! the component: who waters for themselves alone -/
set_option maxRecDepth 100000
def Kc (o : Nat) (M0 : MM) (S : St) (M : MM) : Prop := cG o M0 M ∧ CR o M S
theorem Kc.rf {o : Nat} {M : MM} {S : St} (h : CR o M S) : Kc o M S M := ⟨cG.rf, h⟩
theorem Kc.o {o : Nat} {M0 M M' : MM} {S : St} (h : Kc o M0 S M) (hF : fI (oM o) M M') : Kc o M0 S M' := by
  have hG : cG o M M' := hF.cg (fun a k e => by unfold oM at e; unfold cF; omega)
  exact ⟨h.1.tr hG, h.2.g (s' := S.1) hG (h.2.2.2.2.1.f hF (fun b k q1 q2 _ => by unfold oM; omega))⟩
def moW (o : Nat) (M : MM) (x : Int32) : MM := msI (msI (msI M (o + 1) 9 x) (o + 1) 10 0) (o + 1) 12 0
theorem moW_f {o : Nat} {M M0 : MM} {x : Int32} (h : fI (oM o) M0 M) : fI (oM o) M0 (moW o M x) := by
  unfold moW
  exact f1M (f1M (f1M h (by omega)) (by omega)) (by omega)
theorem moW_E {o : Nat} {M : MM} {s : Nat → Int32} {x : Int32} (h : MoE M (o + 1) (fcD s)) : MoE (moW o M x) (o + 1) (up (fcD s) 8 x) := by
  obtain ⟨h1, h2, h3, h4, h5, h6, h7, h8, h9, h10, h11, h12, h13⟩ := h
  have f9 : fcD s 9 = 0 := by unfold fcD; simp (disch := first | assumption | omega) only [up_ne]
  have f12 : fcD s 12 = 0 := by unfold fcD; simp (disch := first | assumption | omega) only [up_ne]
  unfold moW MoE
  simp (disch := first | assumption | omega) only [mg1, mg1e, up_ne, up_eq, and_self, h1, h2, h3, h4, h5, h6, h7, h8, h11, h12, f9, f12]
theorem w0_asks {o p : Nat} {c h : Int32} {M0 M : MM} {S : St} {Post : Int32 → MM → Prop} (hK : Kc o M0 S M) (hh : 0 ≤ h) (hP : ∀ M', Kc o M0 S M' → Post (byS (S.2.2.2.2.2 0) c h (up (fcD S.1) 8 (nI p))) M') : ∃ b_1, mgR M o 0 = some b_1 ∧ mkd M b_1 = 2 ∧ ∃ b_4, mgR M o 1 = some b_4 ∧ mkd M b_4 = 3 ∧ ∃ b_7, mgR M o 1 = some b_7 ∧ mkd M b_7 = 3 ∧ wp_X3_toldPeople M b_7 (fun r_11 M_10 => wp_X2_of M_10 b_1 (mgI M b_4 2) r_11 (fun r_14 M_13 => ∃ b_16, r_14 = some b_16 ∧ mkd M_13 b_16 = 2 ∧ wp_X2_by M_13 b_16 (nI p) (0 : Int32) (0 : Int32) (fun r_20 M_19 => ∃ b_22, r_20 = some b_22 ∧ mkd M_19 b_22 = 2 ∧ wp_X2_tells M_19 b_22 c h (fun r_26 M_25 => Post r_26 M_25)))) := by
  have hL := hK.2.1
  have hA := CL_A2 hL
  have hO := hK.2.2.1
  have hT := hK.2.2.2.1
  have hR := hK.2.2.2.2.1
  refine ⟨o + 1, OU_r0 hO, OU_k1 hO, o + 2, CL_r1 hL, LA_k hA, o + 2, CL_r1 hL, LA_k hA, ?_⟩
  refine w3_toldPeople hA hR ?_
  rw [hR.2.2.1]
  refine w2_of ?_
  have hF1 : fI (oM o) M (moD o M (S.1 79) (bitsS (S.1 78))) := moD_f
  have hE1 : MoE (moD o M (S.1 79) (bitsS (S.1 78))) (o + 1) (fcD S.1) := moD_E
  generalize moD o M (S.1 79) (bitsS (S.1 78)) = M1 at hF1 hE1 ⊢
  refine ⟨o + 1, rfl, OU_k1 (OU_of hF1.e hO), ?_⟩
  unfold wp_X2_by
  simp only [forall_eq]
  have hF2 : fI (oM o) M (moW o M1 (nI p)) := moW_f hF1
  have hE2 : MoE (moW o M1 (nI p)) (o + 1) (up (fcD S.1) 8 (nI p)) := moW_E hE1
  show ∃ b_22, some (o + 1) = some b_22 ∧ mkd (moW o M1 (nI p)) b_22 = 2 ∧ wp_X2_tells (moW o M1 (nI p)) b_22 c h (fun r_26 M_25 => Post r_26 M_25)
  generalize moW o M1 (nI p) = M2 at hF2 hE2 ⊢
  refine ⟨o + 1, rfl, OU_k1 (OU_of hF2.e hO), ?_⟩
  refine w2_tells (OU_of hF2.e hO) (hT.f hF2 (fun a k hx => by unfold Prt at hx; unfold oM; omega)) hE2 hh (fun M3 hF3 _ => ?_)
  exact hP M3 (hK.o (hF2.tr hF3))
theorem w0_worthOf {o p : Nat} {M0 M : MM} {S : St} {Post : Int32 → MM → Prop} (hK : Kc o M0 S M) (hP : ∀ M', Kc o M0 S M' → Post (woA S.2.2.2.2.2 S.1 p) M') : wp_X0_worthOf M o (nI p) Post := w0_asks hK (by decide) hP
theorem w0_costOf {o p : Nat} {M0 M : MM} {S : St} {Post : Int32 → MM → Prop} (hK : Kc o M0 S M) (hP : ∀ M', Kc o M0 S M' → Post (coA S.2.2.2.2.2 S.1 p) M') : wp_X0_costOf M o (nI p) Post := w0_asks hK (by decide) hP
theorem w0_has {M : MM} {x k : Int32} {Post : Int32 → MM → Prop} : wp_X0_has M x k Post = if hs_ x k = true then Post 1 M else Post 0 M := by
  unfold wp_X0_has hs_
  by_cases e : ((x >>> (k &&& 31)) &&& (1 : Int32)) = (1 : Int32)
  · rw [if_pos e, if_pos (decide_eq_true e)]
  · rw [if_neg e, if_neg (by simpa using e)]
theorem hs_0 {p : Nat} (hp : p < 8) : hs_ 0 (nI p) = false := by
  have k : ∀ p, p < 8 → hs_ 0 (nI p) = false := by decide
  exact k p hp
theorem w0_gainOf {o p : Nat} {M0 M : MM} {S : St} {row : Int32} {Post : Int32 → MM → Prop} (hK : Kc o M0 S M) (hp : p < 8) (hP : ∀ M', Kc o M0 S M' → Post (gaS S.2.2.2.2.2 S.1 row p) M') : wp_X0_gainOf M o row (nI p) Post := by
  unfold wp_X0_gainOf wb_X0_gainOf_13
  unfold gaS at hP
  by_cases e : row = 0
  · rw [if_pos e, w0_has]
    have h0 : ¬ hs_ row (nI p) = true := by rw [e, hs_0 hp]; decide
    rw [if_neg h0, if_pos e] at hP
    rw [if_neg h0, if_pos rfl]
    exact hP M hK
  · rw [if_neg e]
    refine w0_worthOf hK (fun M1 hK1 => ?_)
    rw [w0_has]
    by_cases e2 : hs_ row (nI p) = true
    · rw [if_pos e2] at hP
      rw [if_pos e2, if_neg n10]
      exact w0_costOf hK1 (fun M2 hK2 => hP M2 hK2)
    · rw [if_neg e2, if_neg e] at hP
      rw [if_neg e2, if_pos rfl]
      have := hP M1 hK1
      rw [← Int32.sub_zero (woA S.2.2.2.2.2 S.1 p)] at this
      exact this
theorem w0_power {M : MM} {x : Int32} {k : Nat} {Post : Int64 → MM → Prop} (hk : k < 1000) (h : Post (pwL x.toInt64 k) M) : wp_X0_powerOf M x (nI k) Post := by
  have key : ∀ j i, i + j = k → wl_X0_powerOf_5 x (nI k) (fun M_7 x2_9 => Post x2_9 M_7) (j + 1) M (pwL x.toInt64 i) (nI i) := by
    intro j
    induction j with
    | zero =>
      intro i hi
      unfold wl_X0_powerOf_5
      rw [if_pos (nI_le (by omega) (by omega)), show i = k by omega]
      exact h
    | succ j ih =>
      intro i hi
      unfold wl_X0_powerOf_5
      rw [if_neg (nI_ge (by omega) (by omega))]
      simp only [forall_eq, ap1]
      exact ih (i + 1) (by omega)
  unfold wp_X0_powerOf
  exact ⟨k + 1, key k 0 (by omega)⟩
theorem worth_iff {w c t q : Nat} {W C : Int32} {T Q : Int64} (hw : w ≤ 999) (hc : c ≤ 99) (ht : t ≤ 100000) (hq : q ≤ 100000) (eW : W = nI w) (eC : C = nI c) (eT : T.toInt = t) (eQ : Q.toInt = q) : ((W - C).toInt64 * T < W.toInt64 * (T - Q)) ↔ ¬ (C.toInt64 * T ≤ W.toInt64 * Q) := by
  subst eW eC
  have b1 : ((w : Int) - c).bmod (2 ^ 32) = w - c := Int.bmod_eq_of_le (by omega) (by omega)
  have b2 : ((t : Int) - q).bmod (2 ^ 64) = t - q := Int.bmod_eq_of_le (by omega) (by omega)
  rw [Int64.lt_iff_toInt_lt, Int64.le_iff_toInt_le, Int64.toInt_mul, Int64.toInt_mul, Int64.toInt_mul, Int64.toInt_mul, Int64.toInt_sub, Int32.toInt_toInt64, Int32.toInt_toInt64, Int32.toInt_toInt64, Int32.toInt_sub, nI_toInt (by omega), nI_toInt (by omega), eT, eQ, b1, b2, Int.sub_mul, Int.mul_sub]
  have p1 : w * t ≤ 999 * 100000 := Nat.mul_le_mul hw ht
  have p2 : c * t ≤ 99 * 100000 := Nat.mul_le_mul hc ht
  have p3 : w * q ≤ 999 * 100000 := Nat.mul_le_mul hw hq
  rw [← Int.natCast_mul, ← Int.natCast_mul, ← Int.natCast_mul]
  generalize w * t = P at p1 ⊢
  generalize c * t = Q at p2 ⊢
  generalize w * q = R at p3 ⊢
  rw [Int.bmod_eq_of_le (by omega) (by omega), Int.bmod_eq_of_le (by omega) (by omega), Int.bmod_eq_of_le (by omega) (by omega), Int.bmod_eq_of_le (by omega) (by omega)]
  omega
theorem pw_b {k x : Nat} (hk : k ≤ 5) (hx : x ≤ 10) : ∃ q : Nat, q ≤ 100000 ∧ (pwL ((10 : Int32) - nI x).toInt64 k).toInt = q := by
  have h : ∀ k, k ≤ 5 → ∀ x, x ≤ 10 → 0 ≤ (pwL ((10 : Int32) - nI x).toInt64 k).toInt ∧ (pwL ((10 : Int32) - nI x).toInt64 k).toInt ≤ 100000 := by decide +kernel
  obtain ⟨h1, h2⟩ := h k hk x hx
  exact ⟨(pwL ((10 : Int32) - nI x).toInt64 k).toInt.toNat, by omega, by omega⟩
theorem pw_t {k : Nat} (hk : k ≤ 5) : pwL (10 : Int32).toInt64 k = tenL k ∧ ∃ q : Nat, q ≤ 100000 ∧ (tenL k).toInt = q := by
  have h : ∀ k, k ≤ 5 → pwL (10 : Int32).toInt64 k = tenL k ∧ 0 ≤ (tenL k).toInt ∧ (tenL k).toInt ≤ 100000 := by decide +kernel
  obtain ⟨h0, h1, h2⟩ := h k hk
  exact ⟨h0, (tenL k).toInt.toNat, by omega, by omega⟩
theorem w0_isWorth {o p n x : Nat} {M0 M : MM} {S : St} {Post : Int32 → MM → Prop} (hK : Kc o M0 S M) (hn : 1 ≤ n) (hn6 : n ≤ 6) (hx : x ≤ 10) (hP : ∀ M', Kc o M0 S M' → Post (if (coA S.2.2.2.2.2 S.1 p).toInt64 * tenL (n - 1) ≤ (woA S.2.2.2.2.2 S.1 p).toInt64 * pwL ((10 : Int32) - nI x).toInt64 (n - 1) then 1 else 0) M') : wp_X0_isWorth M o (nI p) (nI n) (nI x) Post := by
  have g1 : nI n - (1 : Int32) = nI (n - 1) := as1 (by omega)
  unfold wp_X0_isWorth
  rw [g1]
  refine w0_power (by omega) (w0_worthOf hK (fun M1 hK1 => w0_costOf hK1 (fun M2 hK2 => w0_worthOf hK2 (fun M3 hK3 => w0_power (by omega) ?_))))
  obtain ⟨t0, t, t1, t2⟩ := pw_t (k := n - 1) (by omega)
  obtain ⟨q, q1, q2⟩ := pw_b (k := n - 1) (x := x) (by omega) hx
  obtain ⟨c, c1, c2⟩ := byS_nI (h := 99) (c := 99) (f := up (fcD S.1) 8 (nI p)) (by omega) (S.2.2.2.2.2 0)
  obtain ⟨w, w1, w2⟩ := byS_nI (h := 999) (c := 98) (f := up (fcD S.1) 8 (nI p)) (by omega) (S.2.2.2.2.2 0)
  have hi := worth_iff (W := woA S.2.2.2.2.2 S.1 p) (C := coA S.2.2.2.2.2 S.1 p) w1 c1 t1 q1 w2 c2 t2 q2
  have := hP M3 hK3
  rw [t0]
  by_cases e : (coA S.2.2.2.2.2 S.1 p).toInt64 * tenL (n - 1) ≤ (woA S.2.2.2.2.2 S.1 p).toInt64 * pwL ((10 : Int32) - nI x).toInt64 (n - 1)
  · rw [if_pos e] at this
    rw [if_neg (fun h => (hi.mp h) e)]; exact this
  · rw [if_neg e] at this
    rw [if_pos (hi.mpr e)]; exact this
theorem l0_al38 {o n x : Nat} {M0 : MM} {S : St} {X : MM → Int32 → Prop} (hn : n ≤ 6) (hn1 : 1 ≤ n) (hx : x ≤ 10) : ∀ j p M, Kc o M0 S M → p + j = n → (waB S.2.2.2.2.2 S.1 n x j p = true → ∀ M', Kc o M0 S M' → X M' 1) → (waB S.2.2.2.2.2 S.1 n x j p = false → ∀ M', Kc o M0 S M' → X M' 0) → wl_X0_alone_38 o (nI n) (nI x) X (j + 2) M 1 (nI p) := by
  intro j
  induction j with
  | zero =>
    intro p M hK hp a b
    unfold wl_X0_alone_38
    rw [if_pos (nI_le (by omega) (by omega))]
    exact a rfl M hK
  | succ j ih =>
    intro p M hK hp a b
    unfold wl_X0_alone_38
    rw [if_neg (nI_ge (by omega) (by omega)), if_neg n10]
    refine w0_isWorth hK hn1 hn hx (fun M1 hK1 => ?_)
    unfold waB at a b
    simp only [forall_eq, ap1]
    by_cases e : (coA S.2.2.2.2.2 S.1 p).toInt64 * tenL (n - 1) ≤ (woA S.2.2.2.2.2 S.1 p).toInt64 * pwL ((10 : Int32) - nI x).toInt64 (n - 1)
    · rw [if_pos e] at a b ⊢
      exact ih (p + 1) M1 hK1 (by omega) a b
    · rw [if_neg e] at a b ⊢
      have e0 := b rfl M1 hK1
      unfold wl_X0_alone_38
      by_cases e2 : nI n ≤ nI (p + 1)
      · rw [if_pos e2]; exact e0
      · rw [if_neg e2, if_pos rfl]; exact e0
theorem l0_al28 {o n : Nat} {M0 : MM} {S : St} {Post : Int32 → MM → Prop} (hn : n ≤ 6) (hn1 : 1 ≤ n) : ∀ j : Nat, j ≤ 11 → (∀ M', Kc o M0 S M' → Post (alX S.2.2.2.2.2 S.1 n j) M') → ∃ F, ∀ M, Kc o M0 S M → wl_X0_alone_28 o (nI n) (fun M_62 x3_64 => Post x3_64 M_62) (fun M_65 => Post (-2 : Int32) M_65) F M (nI j + (-1)) := by
  intro j
  induction j with
  | zero =>
    intro hj hP
    refine ⟨1, fun M hK => ?_⟩
    unfold wl_X0_alone_28
    rw [if_pos (show nI 0 + (-1) < 0 from by decide)]
    exact hP M hK
  | succ j ih =>
    intro hj hP
    rw [am1]
    unfold alX at hP
    by_cases e : waB S.2.2.2.2.2 S.1 n j n 0 = true
    · rw [if_pos e] at hP
      refine ⟨1, fun M hK => ?_⟩
      unfold wl_X0_alone_28
      rw [if_neg (nI_pos (by omega))]
      refine ⟨n + 2, l0_al38 hn hn1 (by omega) n 0 M hK (by omega) (fun _ M' hK' => ?_) (fun x => by rw [e] at x; cases x)⟩
      unfold wb_X0_alone_65
      rw [if_neg n10]
      exact hP M' hK'
    · rw [if_neg e] at hP
      obtain ⟨F, hF⟩ := ih (by omega) hP
      refine ⟨F + 1, fun M hK => ?_⟩
      unfold wl_X0_alone_28
      rw [if_neg (nI_pos (by omega))]
      refine ⟨n + 2, l0_al38 hn hn1 (by omega) n 0 M hK (by omega) (fun x => absurd x e) (fun _ M' hK' => ?_)⟩
      unfold wb_X0_alone_65
      rw [if_pos rfl]
      simp only [forall_eq]
      exact hF M' hK'
theorem l0_al104 {o n r : Nat} {x2 x3 x4 : Int32} {M0 : MM} {S : St} {X : MM → Int32 → Prop} (hn : n ≤ 6) : ∀ j p M, Kc o M0 S M → p + j = n → (reB S.2.2.2.2.2 S.1 r j p = true → ∀ M', Kc o M0 S M' → X M' 1) → (reB S.2.2.2.2.2 S.1 r j p = false → ∀ M', Kc o M0 S M' → X M' 0) → wl_X0_alone_104 o (nI n) x2 x3 x4 (nI r) X (j + 2) M 1 (nI p) := by
  intro j
  induction j with
  | zero =>
    intro p M hK hp a b
    unfold wl_X0_alone_104
    rw [if_pos (nI_le (by omega) (by omega))]
    exact a rfl M hK
  | succ j ih =>
    intro p M hK hp a b
    unfold wl_X0_alone_104
    rw [if_neg (nI_ge (by omega) (by omega)), if_neg n10]
    refine w0_gainOf hK (by omega) (fun M1 hK1 => w0_gainOf hK1 (by omega) (fun M2 hK2 => ?_))
    unfold reB at a b
    by_cases e : gaS S.2.2.2.2.2 S.1 (nI r) p < gaS S.2.2.2.2.2 S.1 (nI r ^^^ ((1 : Int32) <<< (nI p &&& 31))) p
    · rw [if_pos e] at a b ⊢
      simp only [forall_eq, ap1]
      have e0 := b rfl M2 hK2
      unfold wl_X0_alone_104
      by_cases e2 : nI n ≤ nI (p + 1)
      · rw [if_pos e2]; exact e0
      · rw [if_neg e2, if_pos rfl]; exact e0
    · rw [if_neg e] at a b ⊢
      simp only [forall_eq, ap1]
      exact ih (p + 1) M2 hK2 (by omega) a b
theorem l0_al90 {o n : Nat} {x2 : Int32} {M0 : MM} {S : St} {R : Int32 × Int32} {X : MM → Int32 → Int32 → Prop} (hn : n ≤ 6) (h : ∀ M', Kc o M0 S M' → X M' R.1 R.2) : ∀ j r a M, Kc o M0 S M → r + j = 2 ^ n → lpF (alF S.2.2.2.2.2 S.1 n) j r a = R → wl_X0_alone_90 o (nI n) x2 X (j + 1) M a.1 a.2 (nI r) := by
  have hp : 2 ^ n ≤ 2 ^ 6 := Nat.pow_le_pow_right (by omega) hn
  intro j
  induction j with
  | zero =>
    intro r a M hK hr hR
    unfold wl_X0_alone_90
    rw [sh1 n hn, if_pos (nI_le (by omega) (by omega))]
    have hR' : a = R := hR
    rw [hR']; exact h M hK
  | succ j ih =>
    intro r a M hK hr hR
    have hR' : lpF (alF S.2.2.2.2.2 S.1 n) j (r + 1) (alF S.2.2.2.2.2 S.1 n r a) = R := hR
    unfold wl_X0_alone_90
    rw [sh1 n hn, if_neg (nI_ge (by omega) (by omega))]
    refine ⟨n + 2, l0_al104 hn n 0 M hK (by omega) (fun e M1 hK1 => ?_) (fun e M1 hK1 => ?_)⟩
    · unfold wb_X0_alone_152
      rw [if_neg n10]
      unfold alF at hR'
      rw [if_pos e] at hR'
      simp only [forall_eq, ap1]
      by_cases e2 : a.1 = 0
      · rw [if_pos e2] at hR' ⊢; exact ih (r + 1) (a.1 + 1, nI r) M1 hK1 (by omega) hR'
      · rw [if_neg e2] at hR' ⊢; exact ih (r + 1) (a.1 + 1, a.2) M1 hK1 (by omega) hR'
    · unfold wb_X0_alone_152
      rw [if_pos rfl]
      unfold alF at hR'
      rw [if_neg (by simp [e])] at hR'
      simp only [forall_eq, ap1]
      exact ih (r + 1) a M1 hK1 (by omega) hR'
theorem C_alone {o : Nat} {M : MM} {S : St} {n w : Int32} {Post : Int32 → MM → Prop} (hC : CR o M S) (h0 : (inS n 2 6 && inS w 0 2) = false → Post (-1) M) (h1 : ∀ n', 2 ≤ n' → n' ≤ 6 → n = nI n' → (inS n 2 6 && inS w 0 2) = true → ∀ M', kX o M M' → CR o M' S → Post (aoS S.2.2.2.2.2 S.1 n' w) M') : wp_X0_alone M o n w Post := by
  unfold wp_X0_alone
  rw [w0_within]
  by_cases e1 : inS n 2 6 = true
  · rw [if_pos e1, if_neg n10, in_3]
    by_cases e2 : inS w 0 2 = true
    · rw [if_pos e2, if_neg n10]
      obtain ⟨n', hn1, hn2, rfl⟩ := inS_ab (a := 2) (b := 6) (by omega) (by omega) e1
      have fin := fun M' (hK : Kc o M S M') => h1 n' hn1 hn2 rfl (by simp [e1, e2]) M' hK.1.x hK.2
      unfold aoS at fin
      by_cases e3 : w = 2
      · rw [if_pos e3] at fin ⊢
        obtain ⟨F, hF⟩ := l0_al28 hn2 (by omega) 11 (by omega) fin
        exact ⟨F, hF M (Kc.rf hC)⟩
      · rw [if_neg e3] at fin ⊢
        refine ⟨_, l0_al90 hn2 (fun M' hK => ?_) (2 ^ n') 0 (0, -2) M (Kc.rf hC) (by omega) rfl⟩
        have := fin M' hK
        by_cases e4 : w = 0
        · rw [if_pos e4] at this ⊢; exact this
        · rw [if_neg e4] at this ⊢; exact this
    · rw [if_neg e2, if_pos rfl]; exact h0 (by simp [e2])
  · rw [if_neg e1, if_pos rfl]; exact h0 (by simp [e1])
