/-! the component: who did it -/
set_option maxRecDepth 100000
theorem w0_fits {o d k : Nat} {M : MM} {t : Nat → Int32} {c g : Int32} {Post : Int32 → MM → Prop} (hL : CL o M) (ht : ∀ k, mgI M (o + 59) k = t k) (hd : d < 100) (hk : k < 256) (h : Post (if fiP t c g d k then 1 else 0) M) : wp_X0_fits M o (nI d) (nI k) c g Post := by
  unfold wp_X0_fits
  have hd1 : d < 220 := by omega
  have hd2 : d + 1 < 220 := by omega
  refine ⟨o + 59, CL_r4 hL, CL_k59 hL, ?_, ?_⟩
  · rw [CL_l59 hL]; simp (disch := first | assumption | omega) only [ia0, ia4, ia8, ia12, ia16, ia20, ia24, ia52, ia60, ia68, im7, im14, ap6, iaN, ap1, ixN, vpN, vpN]
  refine bitC hk ?_
  refine ⟨o + 59, CL_r4 hL, CL_k59 hL, ?_, ?_⟩
  · rw [CL_l59 hL]; simp (disch := first | assumption | omega) only [ia0, ia4, ia8, ia12, ia16, ia20, ia24, ia52, ia60, ia68, im7, im14, ap6, iaN, ap1, ixN, vpN, vpN]
  rw [mx_ma, ixN (by omega), ap1, ixN (by omega), ht, ht]
  by_cases e : fiP t c g d k
  · rw [if_pos e] at h
    rw [if_pos (show ma_ 0 (((t d &&& 255) + c * bitsS (nI k)) - g) = (t (d + 1) &&& 255) from e)]; exact h
  · rw [if_neg e] at h
    rw [if_neg (show ¬ ma_ 0 (((t d &&& 255) + c * bitsS (nI k)) - g) = (t (d + 1) &&& 255) from e)]; exact h
/-- a set counts, but for one -/
abbrev scP (t : Nat → Int32) (P c g : Int32) (d : Nat) (q : Int32) (k : Nat) : Prop := suP P k ∧ (q = -1 ∨ ¬ hs_ (nI k) q = true) ∧ fiP t c g d k
def scF (t : Nat → Int32) (P c g : Int32) (d : Nat) (q : Int32) (k : Nat) (a : Int32) : Int32 := if scP t P c g d q k then a + 1 else a
def scS (t : Nat → Int32) (p : Nat) (c g : Int32) (d : Nat) (q : Int32) : Int32 := lpF (scF t (nI p) c g d q) (p + 1) 0 0
theorem w0_setsFor {o d p : Nat} {M : MM} {t : Nat → Int32} {c g q : Int32} {Post : Int32 → MM → Prop} (hL : CL o M) (ht : ∀ k, mgI M (o + 59) k = t k) (hd : d < 100) (hp : p < 256) (h : Post (scS t p c g d q) M) : wp_X0_setsFor M o (nI d) (nI p) q c g Post := by
  have key : ∀ j k (a : Int32), k + j = p + 1 → lpF (scF t (nI p) c g d q) j k a = scS t p c g d q → wl_X0_setsFor_6 o (nI d) (nI p) q c g (fun M_23 x6_25 => Post x6_25 M_23) (j + 1) M a (nI k) := by
    intro j
    induction j with
    | zero =>
      intro k a hk hR
      unfold wl_X0_setsFor_6
      rw [if_pos (nI_lt (by omega) (by omega))]
      have hR' : a = scS t p c g d q := hR
      rw [hR']; exact h
    | succ j ih =>
      intro k a hk hR
      have hR' : lpF (scF t (nI p) c g d q) j (k + 1) (scF t (nI p) c g d q k a) = scS t p c g d q := hR
      unfold scF at hR'
      have fit : (q = -1 ∨ ¬ hs_ (nI k) q = true) → suP (nI p) k → wb_X0_setsFor_35 M o (nI d) (nI p) q c g a (nI k) (wl_X0_setsFor_6 o (nI d) (nI p) q c g (fun M_23 x6_25 => Post x6_25 M_23) (j + 1)) (fun M_23 x6_25 => Post x6_25 M_23) := by
        intro e1 e0
        unfold wb_X0_setsFor_35
        refine w0_fits hL ht hd (by omega) ?_
        by_cases e2 : fiP t c g d k
        · rw [if_pos e2, if_neg n10]
          rw [if_pos ⟨e0, e1, e2⟩] at hR'
          simp only [forall_eq, ap1]
          exact ih (k + 1) _ (by omega) hR'
        · rw [if_neg e2, if_pos rfl]
          rw [if_neg (fun x => e2 x.2.2)] at hR'
          simp only [forall_eq, ap1]
          exact ih (k + 1) _ (by omega) hR'
      unfold wl_X0_setsFor_6
      rw [if_neg (nI_nlt (by omega) (by omega))]
      by_cases e : suP (nI p) k
      · rw [if_pos (show nI k &&& (nI p ^^^ (-1 : Int32)) = 0 from e)]
        by_cases e1 : q = -1
        · rw [if_pos e1]; exact fit (Or.inl e1) e
        · rw [if_neg e1, w0_has]
          by_cases e2 : hs_ (nI k) q = true
          · rw [if_pos e2, if_neg n10]
            rw [if_neg (fun x => x.2.1.elim e1 (fun y => y e2))] at hR'
            simp only [forall_eq, ap1]
            exact ih (k + 1) _ (by omega) hR'
          · rw [if_neg e2, if_pos rfl]; exact fit (Or.inr e2) e
      · rw [if_neg (show ¬ nI k &&& (nI p ^^^ (-1 : Int32)) = 0 from e)]
        rw [if_neg (fun x => e x.1)] at hR'
        simp only [forall_eq, ap1]
        exact ih (k + 1) _ (by omega) hR'
  unfold wp_X0_setsFor
  exact ⟨p + 2, key (p + 1) 0 0 (by omega) rfl⟩
theorem scF_n {t : Nat → Int32} {P c g q : Int32} {d : Nat} : ∀ j i a, ∃ m, m ≤ j ∧ lpF (scF t P c g d q) j i (nI a) = nI (a + m) ∧ (m = 0 ↔ ∀ k, i ≤ k → k < i + j → ¬ scP t P c g d q k) := by
  intro j
  induction j with
  | zero => intro i a; exact ⟨0, by omega, rfl, ⟨fun _ k h1 h2 => by omega, fun _ => rfl⟩⟩
  | succ j ih =>
    intro i a
    show ∃ m, m ≤ j + 1 ∧ lpF (scF t P c g d q) j (i + 1) (scF t P c g d q i (nI a)) = nI (a + m) ∧ _
    unfold scF
    by_cases e : scP t P c g d q i
    · rw [if_pos e, ap1]
      obtain ⟨m, h1, h2, h3⟩ := ih (i + 1) (a + 1)
      refine ⟨m + 1, by omega, ?_, ⟨fun x => by omega, fun x => absurd e (x i (by omega) (by omega))⟩⟩
      have : lpF (scF t P c g d q) j (i + 1) (nI (a + 1)) = nI (a + (m + 1)) := by rw [h2]; exact congrArg nI (by omega)
      exact this
    · rw [if_neg e]
      obtain ⟨m, h1, h2, h3⟩ := ih (i + 1) a
      refine ⟨m, by omega, h2, ⟨fun x k k1 k2 => ?_, fun x => h3.mpr (fun k k1 k2 => x k (by omega) (by omega))⟩⟩
      by_cases ek : k = i
      · rw [ek]; exact e
      · exact h3.mp x k (by omega) (by omega)
theorem scS_n {t : Nat → Int32} {c g q : Int32} {d p : Nat} : ∃ m, m ≤ p + 1 ∧ scS t p c g d q = nI m ∧ (m = 0 ↔ ∀ k, k < p + 1 → ¬ scP t (nI p) c g d q k) := by
  obtain ⟨m, h1, h2, h3⟩ := scF_n (t := t) (P := nI p) (c := c) (g := g) (q := q) (d := d) (p + 1) 0 0
  refine ⟨m, h1, ?_, ⟨fun x k hk => h3.mp x k (by omega) (by omega), fun x => h3.mpr (fun k _ hk => x k (by omega))⟩⟩
  rw [Nat.zero_add] at h2
  exact h2
/-- the model's count is the component's -/
theorem wd1_1 {t : Nat → Int32} {c g : Int32} {d p : Nat} (hp : p < 256) : (wd1 t (nI p) c g d).1 = scS t p c g d (-1) := by
  have k1 : ∀ j i a, (lpF (wd1F t (nI p) c g d) j i a).1 = lpF (scF t (nI p) c g d (-1)) j i a.1 := by
    intro j
    induction j with
    | zero => intro i a; rfl
    | succ j ih =>
      intro i a
      show (lpF (wd1F t (nI p) c g d) j (i + 1) (wd1F t (nI p) c g d i a)).1 = lpF (scF t (nI p) c g d (-1)) j (i + 1) (scF t (nI p) c g d (-1) i a.1)
      rw [ih]
      have : (wd1F t (nI p) c g d i a).1 = scF t (nI p) c g d (-1) i a.1 := by
        unfold wd1F scF
        by_cases e : suP (nI p) i ∧ fiP t c g d i
        · rw [if_pos e, if_pos ⟨e.1, Or.inl rfl, e.2⟩]
        · rw [if_neg e, if_neg (fun x => e ⟨x.1, x.2.2⟩)]
      rw [this]
  unfold wd1 scS
  rw [k1, show 256 = (p + 1) + (255 - p) by omega, lpF_add]
  refine lpF_id _ _ _ (fun k h1 h2 b => ?_)
  unfold scF
  rw [if_neg (fun x => ?_)]
  have := su_le hp (by omega) x.1
  omega
theorem wd1_2 {t : Nat → Int32} {P c g : Int32} {d : Nat} : ∀ j i (a : Int32 × Int32), i + j ≤ 256 → m8 a.2 → m8 (lpF (wd1F t P c g d) j i a).2 ∧ ∀ q, hs_ (lpF (wd1F t P c g d) j i a).2 q = true ↔ (hs_ a.2 q = true ∧ ∀ k, i ≤ k → k < i + j → suP P k → fiP t c g d k → hs_ (nI k) q = true) := by
  intro j
  induction j with
  | zero => intro i a _ hm; exact ⟨hm, fun q => ⟨fun h => ⟨h, fun k h1 h2 => by omega⟩, fun h => h.1⟩⟩
  | succ j ih =>
    intro i a hij hm
    have hu : lpF (wd1F t P c g d) (j + 1) i a = lpF (wd1F t P c g d) j (i + 1) (wd1F t P c g d i a) := rfl
    rw [hu]
    unfold wd1F
    by_cases e : suP P i ∧ fiP t c g d i
    · rw [if_pos e]
      obtain ⟨h1, h2⟩ := ih (i + 1) (a.1 + 1, a.2 &&& nI i) (by omega) (hm.an (m8_nI (by omega)))
      refine ⟨h1, fun q => ?_⟩
      refine (h2 q).trans ?_
      show (hs_ (a.2 &&& nI i) q = true ∧ _) ↔ _
      rw [hs_and, Bool.and_eq_true]
      constructor
      · rintro ⟨⟨x1, x2⟩, x3⟩
        refine ⟨x1, fun k k1 k2 k3 k4 => ?_⟩
        by_cases ek : k = i
        · rw [ek]; exact x2
        · exact x3 k (by omega) (by omega) k3 k4
      · rintro ⟨x1, x3⟩
        exact ⟨⟨x1, x3 i (by omega) (by omega) e.1 e.2⟩, fun k k1 k2 k3 k4 => x3 k (by omega) (by omega) k3 k4⟩
    · rw [if_neg e]
      obtain ⟨h1, h2⟩ := ih (i + 1) a (by omega) hm
      refine ⟨h1, fun q => (h2 q).trans ?_⟩
      constructor
      · rintro ⟨x1, x3⟩
        refine ⟨x1, fun k k1 k2 k3 k4 => ?_⟩
        by_cases ek : k = i
        · rw [ek] at k3 k4; exact absurd ⟨k3, k4⟩ e
        · exact x3 k (by omega) (by omega) k3 k4
      · rintro ⟨x1, x3⟩
        exact ⟨x1, fun k k1 k2 k3 k4 => x3 k (by omega) (by omega) k3 k4⟩
theorem wd1_b {t : Nat → Int32} {c g : Int32} {d p q : Nat} (hp : p < 256) (hq : q < 8) : m8 (wd1 t (nI p) c g d).2 ∧ hs_ (wd1 t (nI p) c g d).2 (nI q) = (hs_ (nI p) (nI q) && decide (scS t p c g d (nI q) = 0)) := by
  obtain ⟨h1, h2⟩ := wd1_2 (t := t) (P := nI p) (c := c) (g := g) (d := d) 256 0 (0, nI p) (by omega) (m8_nI hp)
  refine ⟨h1, ?_⟩
  refine Bool.eq_iff_iff.mpr ?_
  refine (h2 (nI q)).trans ?_
  rw [Bool.and_eq_true, decide_eq_true_eq]
  obtain ⟨m, m1, m2, m3⟩ := scS_n (t := t) (c := c) (g := g) (q := nI q) (d := d) (p := p)
  have e0 : scS t p c g d (nI q) = 0 ↔ m = 0 := by
    rw [m2]
    exact (show nI m = nI 0 ↔ m = 0 from nI_eq (by omega) (by omega))
  rw [e0, m3]
  have nq : ¬ nI q = (-1 : Int32) := by
    have k : ∀ q, q < 8 → ¬ nI q = (-1 : Int32) := by decide
    exact k q hq
  refine and_congr_right (fun _ => ⟨fun x k hk y => ?_, fun x k _ hk s1 s2 => ?_⟩)
  · exact (y.2.1.resolve_left nq) (x k (by omega) (by omega) y.1 y.2.2)
  · have hle := su_le hp (by omega) s1
    by_cases e : hs_ (nI k) (nI q) = true
    · exact e
    · exact absurd ⟨s1, Or.inr e, s2⟩ (x k (by omega))
