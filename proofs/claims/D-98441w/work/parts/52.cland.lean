/-! the component: a landing, what texts are asked of -/
set_option maxRecDepth 100000
def LA (a : Nat) (M : MM) : Prop :=
  mkd M a = 3 ∧
  mgR M a 0 = some (a + 1) ∧
  mkd M (a + 1) = 103 ∧
  mln M (a + 1) = 4 ∧
  mgR M a 1 = some (a + 2) ∧
  mkd M (a + 2) = 104 ∧
  mln M (a + 2) = 8 ∧
  (∀ l, l < 4 → mgR M (a + 1) l = some (a + 3 + 2 * l) ∧ mkd M (a + 3 + 2 * l) = 4 ∧ mgR M (a + 3 + 2 * l) 0 = some (a + 4 + 2 * l) ∧ mkd M (a + 4 + 2 * l) = 100 ∧ mln M (a + 4 + 2 * l) = 7) ∧
  (∀ p, p < 8 → mgR M (a + 2) p = some (a + 11 + p) ∧ mkd M (a + 11 + p) = 5)
theorem LA_k {a : Nat} {M : MM} (h : LA a M) : mkd M a = 3 := h.1
theorem LA_r0 {a : Nat} {M : MM} (h : LA a M) : mgR M a 0 = some (a + 1) := h.2.1
theorem LA_k1 {a : Nat} {M : MM} (h : LA a M) : mkd M (a + 1) = 103 := h.2.2.1
theorem LA_l1 {a : Nat} {M : MM} (h : LA a M) : mln M (a + 1) = 4 := h.2.2.2.1
theorem LA_r1 {a : Nat} {M : MM} (h : LA a M) : mgR M a 1 = some (a + 2) := h.2.2.2.2.1
theorem LA_k2 {a : Nat} {M : MM} (h : LA a M) : mkd M (a + 2) = 104 := h.2.2.2.2.2.1
theorem LA_l2 {a : Nat} {M : MM} (h : LA a M) : mln M (a + 2) = 8 := h.2.2.2.2.2.2.1
theorem LA_P {a : Nat} {M : MM} (h : LA a M) : (∀ l, l < 4 → mgR M (a + 1) l = some (a + 3 + 2 * l) ∧ mkd M (a + 3 + 2 * l) = 4 ∧ mgR M (a + 3 + 2 * l) 0 = some (a + 4 + 2 * l) ∧ mkd M (a + 4 + 2 * l) = 100 ∧ mln M (a + 4 + 2 * l) = 7) := h.2.2.2.2.2.2.2.1
theorem LA_Q {a : Nat} {M : MM} (h : LA a M) : (∀ p, p < 8 → mgR M (a + 2) p = some (a + 11 + p) ∧ mkd M (a + 11 + p) = 5) := h.2.2.2.2.2.2.2.2
theorem LA_of {a : Nat} {M M' : MM} (e : M'.2.2 = M.2.2) (h : LA a M) : LA a M' := by
  unfold LA mgR mkd mln at h ⊢
  rw [e]; exact h
theorem LA_pl {a l : Nat} {M : MM} (h : LA a M) (hl : l < 4) : mgR M (a + 1) l = some (a + 3 + 2 * l) := (LA_P h l hl).1
theorem LA_pk {a l : Nat} {M : MM} (h : LA a M) (hl : l < 4) : mkd M (a + 3 + 2 * l) = 4 := (LA_P h l hl).2.1
theorem LA_lr {a l : Nat} {M : MM} (h : LA a M) (hl : l < 4) : mgR M (a + 3 + 2 * l) 0 = some (a + 4 + 2 * l) := (LA_P h l hl).2.2.1
theorem LA_lk {a l : Nat} {M : MM} (h : LA a M) (hl : l < 4) : mkd M (a + 4 + 2 * l) = 100 := (LA_P h l hl).2.2.2.1
theorem LA_ll {a l : Nat} {M : MM} (h : LA a M) (hl : l < 4) : mln M (a + 4 + 2 * l) = 7 := (LA_P h l hl).2.2.2.2
theorem LA_er {a p : Nat} {M : MM} (h : LA a M) (hp : p < 8) : mgR M (a + 2) p = some (a + 11 + p) := (LA_Q h p hp).1
theorem LA_ek {a p : Nat} {M : MM} (h : LA a M) (hp : p < 8) : mkd M (a + 11 + p) = 5 := (LA_Q h p hp).2
def OU (o : Nat) (M : MM) : Prop :=
  mkd M o = 1 ∧
  mgR M o 0 = some (o + 1) ∧
  mkd M (o + 1) = 2 ∧
  mgR M (o + 1) 13 = some o ∧
  mgR M o 5 = some (o + 60) ∧
  mkd M (o + 60) = 105 ∧
  mln M (o + 60) = 4
theorem OU_k {o : Nat} {M : MM} (h : OU o M) : mkd M o = 1 := h.1
theorem OU_r0 {o : Nat} {M : MM} (h : OU o M) : mgR M o 0 = some (o + 1) := h.2.1
theorem OU_k1 {o : Nat} {M : MM} (h : OU o M) : mkd M (o + 1) = 2 := h.2.2.1
theorem OU_r13 {o : Nat} {M : MM} (h : OU o M) : mgR M (o + 1) 13 = some o := h.2.2.2.1
theorem OU_r5 {o : Nat} {M : MM} (h : OU o M) : mgR M o 5 = some (o + 60) := h.2.2.2.2.1
theorem OU_k60 {o : Nat} {M : MM} (h : OU o M) : mkd M (o + 60) = 105 := h.2.2.2.2.2.1
theorem OU_l60 {o : Nat} {M : MM} (h : OU o M) : mln M (o + 60) = 4 := h.2.2.2.2.2.2
theorem OU_of {o : Nat} {M M' : MM} (e : M'.2.2 = M.2.2) (h : OU o M) : OU o M' := by
  unfold OU mgR mkd mln at h ⊢
  rw [e]; exact h
def plD (s : Nat → Int32) (l : Nat) : Bool := decide (s (8 + l) ≤ s (12 + l)) || decide (s (8 + l) ≤ s (16 + l))
/-- the card of a plant, by whether there is one and what is written -/
def caS (h w : Int32) : Int32 := if h = 0 then -2 else if w = -1 then -3 else w
def PlT (M : MM) (a : Nat) (s : Nat → Int32) (l : Nat) : Prop := mgI M (a + 3 + 2 * l) 1 = s l ∧ mgI M (a + 3 + 2 * l) 2 = s (4 + l) ∧ mgI M (a + 3 + 2 * l) 3 = s (8 + l) ∧ mgI M (a + 3 + 2 * l) 4 = s (12 + l) ∧ mgI M (a + 3 + 2 * l) 5 = s (16 + l) ∧ caS (mgI M (a + 3 + 2 * l) 9) (mgI M (a + 3 + 2 * l) 7) = s (20 + l) ∧ (mgI M (a + 3 + 2 * l) 7 = -1 ∨ 0 ≤ mgI M (a + 3 + 2 * l) 7) ∧ ∃ q, q < 7 ∧ mgI M (a + 3 + 2 * l) 6 = nI q ∧ ∀ j, j < 7 → mgI M (a + 4 + 2 * l) ((q + 6 - j) % 7) = s (24 + 7 * l + j)
def PlR (M : MM) (a : Nat) (s : Nat → Int32) (l : Nat) : Prop := (mgI M (a + 3 + 2 * l) 9 = 0 ∨ mgI M (a + 3 + 2 * l) 9 = 1) ∧ ((isPl s (nI l) = true ∧ mgI M (a + 3 + 2 * l) 8 = 1 ∧ PlT M a s l) ∨ (isPl s (nI l) = false ∧ mgI M (a + 3 + 2 * l) 8 = 0))
def PeR (M : MM) (a : Nat) (s : Nat → Int32) (p : Nat) : Prop := (isPe s (nI p) = true ∧ mgI M (a + 11 + p) 3 = 1 ∧ mgI M (a + 11 + p) 0 = s (52 + p) ∧ mgI M (a + 11 + p) 1 = s (60 + p) ∧ mgI M (a + 11 + p) 2 = s (68 + p)) ∨ (isPe s (nI p) = false ∧ mgI M (a + 11 + p) 3 = 0)
/-- the landing at a is as the row tells -/
def LdR (M : MM) (a : Nat) (s : Nat → Int32) : Prop := (∀ l, l < 4 → PlR M a s l) ∧ (∀ p, p < 8 → PeR M a s p) ∧ mgI M a 2 = s 79 ∧ mgI M a 3 = s 80
theorem PlR.e {M M' : MM} {a l : Nat} {s : Nat → Int32} (h : PlR M a s l) (e : ∀ k, mgI M' (a + 3 + 2 * l) k = mgI M (a + 3 + 2 * l) k) (e2 : ∀ k, mgI M' (a + 4 + 2 * l) k = mgI M (a + 4 + 2 * l) k) : PlR M' a s l := by
  unfold PlR PlT at h ⊢
  rw [e 9, e 8, e 1, e 2, e 3, e 4, e 5, e 7, e 6]
  refine ⟨h.1, h.2.imp (fun ⟨h1, h2, h3, h4, h5, h6, h7, h8, h9, q, h10, h11, h12⟩ => ⟨h1, h2, h3, h4, h5, h6, h7, h8, h9, q, h10, h11, fun j hj => (e2 _).trans (h12 j hj)⟩) id⟩
theorem PeR.e {M M' : MM} {a p : Nat} {s : Nat → Int32} (h : PeR M a s p) (e : ∀ k, mgI M' (a + 11 + p) k = mgI M (a + 11 + p) k) : PeR M' a s p := by
  unfold PeR at h ⊢
  rw [e 3, e 0, e 1, e 2]
  exact h
theorem LdR.f {M M' : MM} {a : Nat} {s : Nat → Int32} {P : Nat → Nat → Prop} (h : LdR M a s) (hF : fI P M M') (hp : ∀ b k, a ≤ b → b < a + 19 → ¬ (b = a ∧ k ≠ 2 ∧ k ≠ 3) → ¬ P b k) : LdR M' a s := by
  obtain ⟨h1, h2, h3, h4⟩ := h
  refine ⟨fun l hl => (h1 l hl).e (fun k => hF.2 _ _ (hp _ _ (by omega) (by omega) (by omega))) (fun k => hF.2 _ _ (hp _ _ (by omega) (by omega) (by omega))), fun p hp' => (h2 p hp').e (fun k => hF.2 _ _ (hp _ _ (by omega) (by omega) (by omega))), (hF.2 _ _ (hp _ _ (by omega) (by omega) (by omega))).trans h3, (hF.2 _ _ (hp _ _ (by omega) (by omega) (by omega))).trans h4⟩
def peO (s : Nat → Int32) : Prop := ∃ e, e < 256 ∧ s 78 = nI e
/-- a told plant's numbers -/
def tdO (s : Nat → Int32) (l : Nat) : Prop := ∃ pot w br d r, s l = nI pot ∧ s (4 + l) = nI w ∧ s (8 + l) = nI br ∧ s (12 + l) = nI d ∧ s (16 + l) = nI r ∧ 4 ≤ pot ∧ pot ≤ 24 ∧ w ≤ pot ∧ 1 ≤ br ∧ br ≤ 9 ∧ d ≤ br ∧ r ≤ br
/-- what holds of a row all through -/
def RowOk (s : Nat → Int32) : Prop := pdO s ∧ peO s ∧ RuOk s ∧ ∀ l, l < 4 → (isPl s (nI l) = true → tdO s l ∧ hs_ (s 77) (nI l) = plD s l) ∧ (isPl s (nI l) = false → hs_ (s 77) (nI l) = false)
theorem livS_iff {s : Nat → Int32} {l : Nat} (h : RowOk s) (hl : l < 4) (hp : isPl s (nI l) = true) : livS s (nI l) = !plD s l := by
  unfold livS
  rw [hp, ((h.2.2.2 l hl).1 hp).2, Bool.true_and]
theorem w4_isDead {M : MM} {a l : Nat} {s : Nat → Int32} {Post : Int32 → MM → Prop} (h : PlT M a s l) : wp_X4_isDead M (a + 3 + 2 * l) Post = if plD s l = true then Post 1 M else Post 0 M := by
  obtain ⟨_, _, h3, h4, h5, _⟩ := h
  unfold wp_X4_isDead plD
  rw [h3, h4, h5]
  by_cases e1 : s (8 + l) ≤ s (12 + l)
  · simp [e1]
  · rw [if_neg e1]
    by_cases e2 : s (8 + l) ≤ s (16 + l)
    · rw [if_neg (i32_nlt.mpr e2)]; simp [e2]
    · rw [if_pos (i32_nle.mp e2)]; simp [e1, e2]
theorem w4_lives {M : MM} {a l : Nat} {s : Nat → Int32} {Post : Int32 → MM → Prop} (hR : RowOk s) (hl : l < 4) (h : PlR M a s l) : wp_X4_lives M (a + 3 + 2 * l) Post = if livS s (nI l) = true then Post 1 M else Post 0 M := by
  unfold wp_X4_lives
  rcases h.2 with ⟨h1, h2, h3⟩ | ⟨h1, h2⟩
  · rw [h2, if_neg n10, w4_isDead h3, livS_iff hR hl h1]
    by_cases e : plD s l = true <;> simp [e]
  · rw [h2, if_pos rfl]
    have : livS s (nI l) = false := by unfold livS; rw [h1]; rfl
    rw [this]; rfl
/-- how many are told -/
def cnP (s : Nat → Int32) : Nat → Int32
  | 0 => 0
  | p + 1 => cnP s p + (if isPe s (nI p) = true then 1 else 0)
theorem in07 : ∀ p, p < 8 → inS (nI p) 0 7 = true := by decide
theorem bit01 {x k : Int32} : ((x >>> (k &&& 31)) &&& (1 : Int32)) = if hs_ x k = true then 1 else 0 := by
  unfold hs_
  obtain ⟨j, h1, h2⟩ := pk_andE (x >>> (k &&& 31)) (m := 1) 1 (by decide)
  rw [h2]
  have : j = 0 ∨ j = 1 := by omega
  rcases this with rfl | rfl
  · rw [if_neg (by decide)]; rfl
  · rw [if_pos (by decide)]; rfl
theorem cnP_bits {s : Nat → Int32} : cnP s 8 = bitsS (s 78) := by
  have e : ∀ p, p < 8 → isPe s (nI p) = hs_ (s 78) (nI p) := fun p hp => by unfold isPe; rw [in07 p hp, Bool.true_and]
  unfold bitsS
  simp only [bit01]
  show 0 + _ + _ + _ + _ + _ + _ + _ + _ = _
  rw [e 0 (by omega), e 1 (by omega), e 2 (by omega), e 3 (by omega), e 4 (by omega), e 5 (by omega), e 6 (by omega), e 7 (by omega)]
  rfl
theorem w3_toldPeople {M : MM} {a : Nat} {s : Nat → Int32} {Post : Int32 → MM → Prop} (hA : LA a M) (hR : LdR M a s) (h : Post (bitsS (s 78)) M) : wp_X3_toldPeople M a Post := by
  have key : ∀ (X47 : MM → Int32 → Prop), X47 M (cnP s 8) → ∃ n, wl_X3_toldPeople_13 (a + 2) (nI 8) X47 n M 0 (nI 0) := by
    intro X47 hX
    refine cl_ (fun n (v : Int32) p => wl_X3_toldPeople_13 (a + 2) (nI 8) X47 n M v (nI p)) (fun p v => v = cnP s p) 8 ?_ ?_ 0 0 (by omega) rfl
    · intro n p v hp hv hs'
      show wl_X3_toldPeople_13 (a + 2) (nI 8) X47 (n + 1) M v (nI p)
      unfold wl_X3_toldPeople_13
      rw [if_neg (nI_ge hp (by omega))]
      simp (disch := first | assumption | omega) only [mgR_sI, mgR_sL, mkd_sI, mkd_sL, mln_sI, mln_sL, Option.some.injEq, exists_eq_left', forall_eq, true_and, and_true, Nat.reduceLT, exists_eq_left, LA_k, LA_r0, LA_k1, LA_l1, LA_r1, LA_k2, LA_l2, LA_pl, LA_pk, LA_lr, LA_lk, LA_ll, LA_er, LA_ek, OU_k, OU_r0, OU_k1, OU_r13, OU_r5, OU_k60, OU_l60, ia0, ia4, ia8, ia12, ia16, ia20, ia24, ia52, ia60, ia68, im7, im14, ap6, iaN, ap1, ixN, vpN]
      have hu : cnP s (p + 1) = cnP s p + (if isPe s (nI p) = true then 1 else 0) := rfl
      rcases hR.2.1 p hp with ⟨h1, h2, _⟩ | ⟨h1, h2⟩
      · rw [h2, if_neg n10]
        refine hs' _ ?_
        rw [hu, h1, hv]; rfl
      · rw [h2, if_pos rfl]
        refine hs' _ ?_
        rw [hu, h1, hv]; rfl
    · intro n v hv
      show wl_X3_toldPeople_13 (a + 2) (nI 8) X47 (n + 1) M v (nI 8)
      unfold wl_X3_toldPeople_13
      rw [if_pos (nI_le (Nat.le_refl _) (by omega)), hv]
      exact hX
  unfold wp_X3_toldPeople
  simp (disch := first | assumption | omega) only [mgR_sI, mgR_sL, mkd_sI, mkd_sL, mln_sI, mln_sL, Option.some.injEq, exists_eq_left', forall_eq, true_and, and_true, Nat.reduceLT, exists_eq_left, LA_k, LA_r0, LA_k1, LA_l1, LA_r1, LA_k2, LA_l2, LA_pl, LA_pk, LA_lr, LA_lk, LA_ll, LA_er, LA_ek, OU_k, OU_r0, OU_k1, OU_r13, OU_r5, OU_k60, OU_l60]
  refine key _ ?_
  rw [cnP_bits]; exact h
theorem w4_looked {M : MM} {a l : Nat} {s : Nat → Int32} {j : Nat} {x : Int32} {Post : Int32 → MM → Prop} (hA : LA a M) (hl : l < 4) (h : PlT M a s l) (hj : j < 7) (hx : x = nI j) (hP : Post (s (24 + 7 * l + j)) M) : wp_X4_looked M (a + 3 + 2 * l) x Post := by
  obtain ⟨_, _, _, _, _, _, _, q, q1, q2, q3⟩ := h
  unfold wp_X4_looked
  have hi : rm_ (((nI q + (7 : Int32)) - (1 : Int32)) - x) (7 : Int32) = nI ((q + 6 - j) % 7) := by
    rw [hx, show nI q + (7 : Int32) = nI (q + 7) from nI_add q 7, as1 (by omega), show nI (q + 7 - 1) - nI j = nI (q + 7 - 1 - j) from pk_sub (by omega), show q + 7 - 1 - j = q + 6 - j by omega]
    exact (pk_rem (d := 7) (by omega) (by omega) (by omega))
  rw [q2, hi]
  have hlt : (q + 6 - j) % 7 < 7 := Nat.mod_lt _ (by omega)
  simp (disch := first | assumption | omega) only [mgR_sI, mgR_sL, mkd_sI, mkd_sL, mln_sI, mln_sL, Option.some.injEq, exists_eq_left', forall_eq, true_and, and_true, Nat.reduceLT, exists_eq_left, LA_k, LA_r0, LA_k1, LA_l1, LA_r1, LA_k2, LA_l2, LA_pl, LA_pk, LA_lr, LA_lk, LA_ll, LA_er, LA_ek, OU_k, OU_r0, OU_k1, OU_r13, OU_r5, OU_k60, OU_l60, vpN, ixN, q3 j hj]
  exact hP
def oM (o : Nat) : Nat → Nat → Prop := fun x k => x = o + 1 ∧ k ≠ 13
theorem f1M {o k : Nat} {M M1 : MM} {v : Int32} (h : fI (oM o) M M1) (hk : k < 13) : fI (oM o) M (msI M1 (o + 1) k v) := h.s ⟨rfl, by omega⟩
theorem mg1 {o j k : Nat} {M : MM} {v : Int32} (h : j < k ∨ k < j) : mgI (msI M (o + 1) k v) (o + 1) j = mgI M (o + 1) j := by
  rw [mgI_sI, if_neg (by omega)]
theorem mg1e {o k : Nat} {M : MM} {v : Int32} : mgI (msI M (o + 1) k v) (o + 1) k = v := by rw [mgI_sI, if_pos ⟨rfl, rfl⟩]
/-- the moment of a day -/
def moD (o : Nat) (M : MM) (d n : Int32) : MM := msI (msI (msI (msI (msI (msI (msI (msI (msI (msI (msI (msI M (o + 1) 1 d) (o + 1) 2 n) (o + 1) 3 0) (o + 1) 4 0) (o + 1) 5 0) (o + 1) 6 0) (o + 1) 7 0) (o + 1) 8 0) (o + 1) 9 0) (o + 1) 10 0) (o + 1) 11 0) (o + 1) 12 0
theorem moD_f {o : Nat} {M : MM} {d n : Int32} : fI (oM o) M (moD o M d n) := by
  unfold moD
  exact f1M (f1M (f1M (f1M (f1M (f1M (f1M (f1M (f1M (f1M (f1M (f1M fI.rf (by omega)) (by omega)) (by omega)) (by omega)) (by omega)) (by omega)) (by omega)) (by omega)) (by omega)) (by omega)) (by omega)) (by omega)
theorem moD_E {o : Nat} {M : MM} {s : Nat → Int32} : MoE (moD o M (s 79) (bitsS (s 78))) (o + 1) (fcD s) := by
  unfold moD MoE fcD
  simp (disch := first | assumption | omega) only [mg1, mg1e, up_ne, up_eq, and_self]
theorem w2_of {o : Nat} {M : MM} {d n : Int32} {Post : Option Nat → MM → Prop} (h : Post (some (o + 1)) (moD o M d n)) : wp_X2_of M (o + 1) d n Post := by
  unfold wp_X2_of
  simp only [forall_eq]
  exact h
def moP (o : Nat) (M : MM) (x1 x2 x3 x4 x5 x6 x7 : Int32) : MM := msI (msI (msI (msI (msI (msI (msI M (o + 1) 3 x1) (o + 1) 4 x2) (o + 1) 5 x3) (o + 1) 6 x4) (o + 1) 7 x5) (o + 1) 8 x6) (o + 1) 11 x7
theorem moP_f {o : Nat} {M M0 : MM} {x1 x2 x3 x4 x5 x6 x7 : Int32} (h : fI (oM o) M0 M) : fI (oM o) M0 (moP o M x1 x2 x3 x4 x5 x6 x7) := by
  unfold moP
  exact f1M (f1M (f1M (f1M (f1M (f1M (f1M h (by omega)) (by omega)) (by omega)) (by omega)) (by omega)) (by omega)) (by omega)
theorem moP_E {o l : Nat} {M : MM} {s : Nat → Int32} (h : MoE M (o + 1) (fcD s)) : MoE (moP o M (nI l) (s l) (s (4 + l)) (s (24 + 7 * l + 6)) (s (12 + l)) (s (16 + l)) (if 0 ≤ s (20 + l) then s 79 - s (20 + l) else 99)) (o + 1) (fcP s l) := by
  obtain ⟨h1, h2, h3, h4, h5, h6, h7, h8, h9, h10, h11, h12, h13⟩ := h
  unfold moP MoE fcP
  simp (disch := first | assumption | omega) only [mg1, mg1e, up_ne, up_eq, and_self, h1, h2, h3, h9, h10, h11, h13]
theorem caS_ago {h w d : Int32} (hw : w = -1 ∨ 0 ≤ w) : (if 0 ≤ caS h w then d - caS h w else 99) = if h = 0 then 99 else if w = -1 then 99 else d - w := by
  unfold caS
  by_cases e1 : h = 0
  · rw [if_pos e1, if_pos e1]; rfl
  · rw [if_neg e1, if_neg e1]
    by_cases e2 : w = -1
    · rw [if_pos e2, if_pos e2]; rfl
    · rw [if_neg e2, if_neg e2, if_pos (hw.resolve_left e2)]
/-- the moment of a plant -/
theorem w3_at {o a l : Nat} {M : MM} {s : Nat → Int32} {Post : Option Nat → MM → Prop} (hA : LA a M) (hO : OU o M) (h7 : mgR M a 7 = some o) (hao : o + 1 < a) (hl : l < 4) (hR : LdR M a s) (hp : isPl s (nI l) = true) (h : ∀ M', fI (oM o) M M' → MoE M' (o + 1) (fcP s l) → Post (some (o + 1)) M') : wp_X3_at M a (nI l) Post := by
  have hT : PlT M a s l := by
    rcases (hR.1 l hl).2 with ⟨_, _, h3⟩ | ⟨h1, _⟩
    · exact h3
    · rw [hp] at h1; cases h1
  have hTT := hT
  obtain ⟨t1, t2, t3, t4, t5, t6, t7, t8⟩ := hTT
  have ago := caS_ago (h := mgI M (a + 3 + 2 * l) 9) (w := mgI M (a + 3 + 2 * l) 7) (d := s 79) t7
  rw [t6] at ago
  have w36 : ∀ x, x = (if 0 ≤ s (20 + l) then s 79 - s (20 + l) else 99) → wb_X3_at_36 M a (nI l) (a + 3 + 2 * l) x Post := by
    intro x hx
    unfold wb_X3_at_36
    simp (disch := first | assumption | omega) only [h7, mgR_sI, mgR_sL, mkd_sI, mkd_sL, mln_sI, mln_sL, Option.some.injEq, exists_eq_left', forall_eq, true_and, and_true, Nat.reduceLT, exists_eq_left, LA_k, LA_r0, LA_k1, LA_l1, LA_r1, LA_k2, LA_l2, LA_pl, LA_pk, LA_lr, LA_lk, LA_ll, LA_er, LA_ek, OU_k, OU_r0, OU_k1, OU_r13, OU_r5, OU_k60, OU_l60]
    refine w3_toldPeople hA hR ?_
    rw [hR.2.2.1]
    refine w2_of ?_
    have hF : fI (oM o) M (moD o M (s 79) (bitsS (s 78))) := moD_f
    have hE : MoE (moD o M (s 79) (bitsS (s 78))) (o + 1) (fcD s) := moD_E
    generalize moD o M (s 79) (bitsS (s 78)) = M1 at hF hE ⊢
    have hA1 : LA a M1 := LA_of hF.e hA
    have hO1 : OU o M1 := OU_of hF.e hO
    have eP : ∀ k, mgI M1 (a + 3 + 2 * l) k = mgI M (a + 3 + 2 * l) k := fun k => hF.2 _ _ (by unfold oM; omega)
    have hT1 : PlT M1 a s l := by
      have := ((hR.1 l hl).e (M' := M1) eP (fun k => hF.2 _ _ (by unfold oM; omega))).2
      rcases this with ⟨_, _, h3⟩ | ⟨h1, _⟩
      · exact h3
      · rw [hp] at h1; cases h1
    simp (disch := first | assumption | omega) only [mgR_sI, mgR_sL, mkd_sI, mkd_sL, mln_sI, mln_sL, Option.some.injEq, exists_eq_left', forall_eq, true_and, and_true, Nat.reduceLT, exists_eq_left, LA_k, LA_r0, LA_k1, LA_l1, LA_r1, LA_k2, LA_l2, LA_pl, LA_pk, LA_lr, LA_lk, LA_ll, LA_er, LA_ek, OU_k, OU_r0, OU_k1, OU_r13, OU_r5, OU_k60, OU_l60]
    refine w4_looked (j := 6) hA1 hl hT1 (by omega) rfl ?_
    rw [eP 1, eP 2, eP 4, eP 5, t1, t2, t4, t5, hx]
    unfold wp_X2_ofPlant
    simp only [forall_eq]
    have hF2 : fI (oM o) M (moP o M1 (nI l) (s l) (s (4 + l)) (s (24 + 7 * l + 6)) (s (12 + l)) (s (16 + l)) (if 0 ≤ s (20 + l) then s 79 - s (20 + l) else 99)) := moP_f hF
    have hO2 : OU o (moP o M1 (nI l) (s l) (s (4 + l)) (s (24 + 7 * l + 6)) (s (12 + l)) (s (16 + l)) (if 0 ≤ s (20 + l) then s 79 - s (20 + l) else 99)) := OU_of hF2.e hO
    exact ⟨o + 1, rfl, OU_k1 hO2, h _ hF2 (moP_E hE)⟩
  unfold wp_X3_at
  simp (disch := first | assumption | omega) only [mgR_sI, mgR_sL, mkd_sI, mkd_sL, mln_sI, mln_sL, Option.some.injEq, exists_eq_left', forall_eq, true_and, and_true, Nat.reduceLT, exists_eq_left, LA_k, LA_r0, LA_k1, LA_l1, LA_r1, LA_k2, LA_l2, LA_pl, LA_pk, LA_lr, LA_lk, LA_ll, LA_er, LA_ek, OU_k, OU_r0, OU_k1, OU_r13, OU_r5, OU_k60, OU_l60, ia0, ia4, ia8, ia12, ia16, ia20, ia24, ia52, ia60, ia68, im7, im14, ap6, iaN, ap1, ixN, vpN, hR.2.2.1]
  unfold wb_X3_at_22
  by_cases e1 : mgI M (a + 3 + 2 * l) 9 = 0
  · rw [if_pos e1] at ago ⊢; exact w36 _ ago.symm
  · rw [if_neg e1] at ago ⊢
    by_cases e2 : mgI M (a + 3 + 2 * l) 7 = -1
    · rw [if_pos e2] at ago ⊢; exact w36 _ ago.symm
    · rw [if_neg e2] at ago ⊢; exact w36 _ ago.symm
theorem f0M {o : Nat} {M M1 : MM} (h : fI (f0 (o + 1)) M M1) : fI (oM o) M M1 := h.mono (fun a k e => ⟨e.1, by have := e.2; omega⟩)
theorem w2_tells {o : Nat} {M : MM} {T : Nat → Txt} {c h : Int32} {f : Nat → Int32} {Post : Int32 → MM → Prop} (hO : OU o M) (hT : CT o M T) (hf : MoE M (o + 1) f) (hh : 0 ≤ h) (hP : ∀ M', fI (oM o) M M' → MoE M' (o + 1) f → Post (byS (T 0) c h f) M') : wp_X2_tells M (o + 1) c h Post := by
  obtain ⟨⟨b, h1, lo, hi, h2, h3, h4⟩, _⟩ := hT
  unfold wp_X2_tells
  simp (disch := first | assumption | omega) only [mgR_sI, mgR_sL, mkd_sI, mkd_sL, mln_sI, mln_sL, Option.some.injEq, exists_eq_left', forall_eq, true_and, and_true, Nat.reduceLT, exists_eq_left, LA_k, LA_r0, LA_k1, LA_l1, LA_r1, LA_k2, LA_l2, LA_pl, LA_pk, LA_lr, LA_lk, LA_ll, LA_er, LA_ek, OU_k, OU_r0, OU_k1, OU_r13, OU_r5, OU_k60, OU_l60, h1, h4.2.1]
  refine w6_tells h4 h3 hf (fun M' hF => ?_)
  rw [w0_held hh, ← byS_R hh]
  exact hP M' (f0M hF) (hf.f0 hF)
theorem w2_givesBy {o r : Nat} {M : MM} {T : Nat → Txt} {f : Nat → Int32} {Post : Int32 → MM → Prop} (hO : OU o M) (hT : CT o M T) (hr : r < 4) (hf : MoE M (o + 1) f) (hP : ∀ M', fI (oM o) M M' → MoE M' (o + 1) f → Post (byS (T (r + 1)) 103 9 f) M') : wp_X2_givesBy M (o + 1) (nI r) Post := by
  unfold wp_X2_givesBy
  rcases hT.2 r hr with ⟨h1, h2⟩ | ⟨b, h1, h2, lo, hi, h3, h4, h5⟩
  · simp (disch := first | assumption | omega) only [mgR_sI, mgR_sL, mkd_sI, mkd_sL, mln_sI, mln_sL, Option.some.injEq, exists_eq_left', forall_eq, true_and, and_true, Nat.reduceLT, exists_eq_left, LA_k, LA_r0, LA_k1, LA_l1, LA_r1, LA_k2, LA_l2, LA_pl, LA_pk, LA_lr, LA_lk, LA_ll, LA_er, LA_ek, OU_k, OU_r0, OU_k1, OU_r13, OU_r5, OU_k60, OU_l60, ia0, ia4, ia8, ia12, ia16, ia20, ia24, ia52, ia60, ia68, im7, im14, ap6, iaN, ap1, ixN, vpN, h1, if_true]
    have := hP M fI.rf hf
    rw [h2] at this; exact this
  · simp (disch := first | assumption | omega) only [mgR_sI, mgR_sL, mkd_sI, mkd_sL, mln_sI, mln_sL, Option.some.injEq, exists_eq_left', forall_eq, true_and, and_true, Nat.reduceLT, exists_eq_left, LA_k, LA_r0, LA_k1, LA_l1, LA_r1, LA_k2, LA_l2, LA_pl, LA_pk, LA_lr, LA_lk, LA_ll, LA_er, LA_ek, OU_k, OU_r0, OU_k1, OU_r13, OU_r5, OU_k60, OU_l60, ia0, ia4, ia8, ia12, ia16, ia20, ia24, ia52, ia60, ia68, im7, im14, ap6, iaN, ap1, ixN, vpN, h1, h2]
    rw [if_neg (by simp)]
    refine w6_tells h5 h4 hf (fun M' hF => ?_)
    rw [w0_held (by decide), ← byS_R (by decide)]
    exact hP M' (f0M hF) (hf.f0 hF)
