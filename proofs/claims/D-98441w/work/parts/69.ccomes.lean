/-! the component: how many come; what a can holds -/
set_option maxRecDepth 100000
def fLc (o : Nat) (M M' : MM) : Prop := M'.2.2 = M.2.2 ∧ (∀ a k, mgI M' a k = mgI M a k) ∧ ∀ a k, a ≠ o + 281 → mgL M' a k = mgL M a k
theorem fLc.rf {o : Nat} {M : MM} : fLc o M M := ⟨rfl, fun _ _ => rfl, fun _ _ _ => rfl⟩
theorem fLc.s {o k : Nat} {v : Int64} {M M1 : MM} (h : fLc o M M1) : fLc o M (msL M1 (o + 281) k v) := ⟨h.1, fun a j => h.2.1 a j, fun a j e => by
  rw [mgL_sL, if_neg (fun x => e x.1)]; exact h.2.2 a j e⟩
theorem fLc.g {o : Nat} {M M1 : MM} (h : fLc o M M1) : cG o M M1 := ⟨h.1, fun a k _ => h.2.1 a k, fun a k e => h.2.2 a k (by omega)⟩
theorem CR.L {o : Nat} {M M1 : MM} {S : St} (hC : CR o M S) (h : fLc o M M1) : CR o M1 S := hC.g (s' := S.1) h.g (hC.2.2.2.1.g (fun b k _ _ => h.2.1 b k))
theorem l0_tens48 {o m : Nat} {x2 x3 : Int32} {M : MM} {t : Nat → Int32} {X70 X80 : MM → Prop} (hL : CL o M) (ht : ∀ k, mgI M (o + 59) k = t k) (hm : m < 100) : ∀ j k, k + j = m → (tkB t j k = false → X70 M) → (tkB t j k = true → X80 M) → wl_X0_comes_48 o (nI m) x2 x3 X70 X80 (j + 1) M (nI k) := by
  intro j
  induction j with
  | zero =>
    intro k hk a b
    unfold wl_X0_comes_48
    rw [if_pos (nI_le (by omega) (by omega))]
    exact b rfl
  | succ j ih =>
    intro k hk a b
    unfold wl_X0_comes_48
    rw [if_neg (nI_ge (by omega) (by omega))]
    refine ⟨o + 59, CL_r4 hL, CL_k59 hL, ?_, ?_⟩
    · rw [CL_l59 hL]; have : k < 220 := by omega
      simp (disch := first | assumption | omega) only [ia0, ia4, ia8, ia12, ia16, ia20, ia24, ia52, ia60, ia68, im7, im14, ap6, iaN, ap1, ixN, vpN, vpN]
    rw [ixN (by omega), ht, w0_within]
    unfold tkB at a b
    by_cases e : inS (t k) 0 10 = true
    · rw [e, Bool.true_and] at a b
      rw [if_pos e, if_neg n10]
      simp only [forall_eq, ap1]
      exact ih (k + 1) (by omega) a b
    · rw [show inS (t k) 0 10 = false by simpa using e, Bool.false_and] at a b
      rw [if_neg e, if_pos rfl]
      exact a rfl
theorem l0_com83 {o : Nat} {x1 x2 x3 : Int32} {M : MM} {X : MM → Prop} (hL : CL o M) (h : ∀ M', fLc o M M' → (∀ n, n ≤ 12 → mgL M' (o + 281) n = if n = 0 then 1 else 0) → X M') : ∃ F, wl_X0_comes_83 o x1 x2 x3 X F M (nI 0) := by
  refine cl_ (fun F M1 i => wl_X0_comes_83 o x1 x2 x3 X F M1 (nI i)) (fun i M1 => fLc o M M1 ∧ ∀ n, n < i → mgL M1 (o + 281) n = if n = 0 then 1 else 0) 13 ?_ ?_ M 0 (by omega) ⟨fLc.rf, fun n hn => by omega⟩
  · intro F i M1 hi ⟨hF, hr⟩ hs'
    have hL1 : CL o M1 := CL_of hF.1 hL
    show wl_X0_comes_83 o x1 x2 x3 X (F + 1) M1 (nI i)
    unfold wl_X0_comes_83 wb_X0_comes_106
    rw [if_neg (show ¬ (12 : Int32) < nI i from (show ¬ nI 12 < nI i from nI_nlt (by omega) (by omega)))]
    have go : ∀ v : Int64, v = (if i = 0 then 1 else 0) → wl_X0_comes_83 o x1 x2 x3 X F (msL M1 (o + 281) i v) (nI (i + 1)) := by
      intro v hv
      refine hs' _ ⟨hF.s, fun n hn => ?_⟩
      rw [mgL_sL]
      by_cases e : n = i
      · rw [if_pos ⟨rfl, e⟩, e]; exact hv
      · rw [if_neg (fun x => e x.2)]; exact hr n (by omega)
    refine ⟨o + 281, CL_r32 hL1, CL_k281 hL1, ?_⟩
    have e0 : nI i = 0 ↔ i = 0 := (show nI i = nI 0 ↔ i = 0 from nI_eq (by omega) (by omega))
    by_cases e : nI i = 0
    · rw [if_pos e]
      refine ⟨by rw [CL_l281 hL1]; simp (disch := first | assumption | omega) only [ia0, ia4, ia8, ia12, ia16, ia20, ia24, ia52, ia60, ia68, im7, im14, ap6, iaN, ap1, ixN, vpN, vpN], ?_⟩
      rw [ixN (by omega)]
      simp only [forall_eq, ap1]
      exact go 1 (by rw [if_pos (e0.mp e)])
    · rw [if_neg e]
      refine ⟨by rw [CL_l281 hL1]; simp (disch := first | assumption | omega) only [ia0, ia4, ia8, ia12, ia16, ia20, ia24, ia52, ia60, ia68, im7, im14, ap6, iaN, ap1, ixN, vpN, vpN], ?_⟩
      rw [ixN (by omega)]
      simp only [forall_eq, ap1]
      exact go 0 (by rw [if_neg (fun x => e (e0.mpr x))])
  · intro F M1 ⟨hF, hr⟩
    show wl_X0_comes_83 o x1 x2 x3 X (F + 1) M1 (nI 13)
    unfold wl_X0_comes_83
    rw [if_pos (show (12 : Int32) < nI 13 from by decide)]
    exact h M1 hF (fun n hn => hr n (by omega))
theorem l0_com126 {o k : Nat} {x1 x2 x3 : Int32} {M0 : MM} {t : Nat → Int32} {X : MM → Prop} (hL : CL o M0) (ht : ∀ k, mgI M0 (o + 59) k = t k) (hk : k < 100) : ∀ j, j ≤ 13 → (∀ M', fLc o M0 M' → (∀ n, n ≤ 12 → mgL M' (o + 281) n = cmV t (k + 1) n) → X M') → ∃ F, ∀ M, fLc o M0 M → (∀ n, n ≤ 12 → mgL M (o + 281) n = if j ≤ n then cmV t (k + 1) n else cmV t k n) → wl_X0_comes_126 o x1 x2 x3 (nI k) X F M (nI j + (-1)) := by
  intro j
  induction j with
  | zero =>
    intro hj h
    refine ⟨1, fun M hF hr => ?_⟩
    unfold wl_X0_comes_126
    rw [if_pos (show nI 0 + (-1) < 0 from by decide)]
    exact h M hF (fun n hn => by rw [hr n hn, if_pos (by omega)])
  | succ j ih =>
    intro hj h
    rw [am1]
    obtain ⟨F, hF0⟩ := ih (by omega) h
    refine ⟨F + 1, fun M hF hr => ?_⟩
    have hL1 : CL o M := CL_of hF.1 hL
    have ht1 : ∀ k, mgI M (o + 59) k = t k := fun k => (hF.2.1 _ _).trans (ht k)
    unfold wl_X0_comes_126 wb_X0_comes_183
    rw [if_neg (nI_pos (by omega))]
    have hj13 : j < 13 := by omega
    have hk2 : k < 220 := by omega
    have v1 : vp_in (nI j) (mln M (o + 281)) := by rw [CL_l281 hL1]; simp (disch := first | assumption | omega) only [ia0, ia4, ia8, ia12, ia16, ia20, ia24, ia52, ia60, ia68, im7, im14, ap6, iaN, ap1, ixN, vpN, vpN]
    have v2 : vp_in (nI k) (mln M (o + 59)) := by rw [CL_l59 hL1]; simp (disch := first | assumption | omega) only [ia0, ia4, ia8, ia12, ia16, ia20, ia24, ia52, ia60, ia68, im7, im14, ap6, iaN, ap1, ixN, vpN, vpN]
    refine ⟨o + 281, CL_r32 hL1, CL_k281 hL1, o + 281, CL_r32 hL1, CL_k281 hL1, v1, o + 59, CL_r4 hL1, CL_k59 hL1, v2, ?_⟩
    have a0 : mgL M (o + 281) j = cmV t k j := by rw [hr j (by omega), if_neg (by omega)]
    rw [ixN (by omega), ixN (by omega), ht1, a0]
    have go : ∀ v : Int64, v = cmV t (k + 1) j → wl_X0_comes_126 o x1 x2 x3 (nI k) X F (msL M (o + 281) j v) (nI j + (-1)) := by
      intro v hv
      refine hF0 _ hF.s (fun n hn => ?_)
      rw [mgL_sL]
      by_cases e : n = j
      · rw [if_pos ⟨rfl, e⟩, if_pos (by omega), e]; exact hv
      · rw [if_neg (fun x => e x.2), hr n hn]
        by_cases e2 : j + 1 ≤ n
        · rw [if_pos e2, if_pos (by omega)]
        · rw [if_neg e2, if_neg (by omega)]
    have e0 : nI j = 0 ↔ j = 0 := (show nI j = nI 0 ↔ j = 0 from nI_eq (by omega) (by omega))
    by_cases e : nI j = 0
    · rw [if_pos e]
      refine ⟨v1, ?_⟩
      simp only [forall_eq]
      refine go _ ?_
      show _ = cmV t k j * ((10 : Int32) - t k).toInt64 + (if j = 0 then 0 else cmV t k (j - 1) * (t k).toInt64)
      rw [if_pos (e0.mp e)]
    · rw [if_neg e]
      have hj0 : 0 < j := Nat.pos_of_ne_zero (fun x => e (e0.mpr x))
      have g1 : nI j - (1 : Int32) = nI (j - 1) := as1 hj0
      have hj1 : j - 1 < 13 := by omega
      have v3 : vp_in (nI j - (1 : Int32)) (mln M (o + 281)) := by rw [g1, CL_l281 hL1]; simp (disch := first | assumption | omega) only [ia0, ia4, ia8, ia12, ia16, ia20, ia24, ia52, ia60, ia68, im7, im14, ap6, iaN, ap1, ixN, vpN, vpN]
      refine ⟨o + 281, CL_r32 hL1, CL_k281 hL1, v3, o + 59, CL_r4 hL1, CL_k59 hL1, v2, v1, ?_⟩
      have a1 : mgL M (o + 281) (j - 1) = cmV t k (j - 1) := by rw [hr (j - 1) (by omega), if_neg (by omega)]
      rw [g1, ixN (by omega), a1]
      simp only [forall_eq]
      refine go _ ?_
      show _ = cmV t k j * ((10 : Int32) - t k).toInt64 + (if j = 0 then 0 else cmV t k (j - 1) * (t k).toInt64)
      rw [if_neg (by omega), ht1]
theorem l0_com116 {o m : Nat} {x2 x3 : Int32} {M0 : MM} {t : Nat → Int32} {X : MM → Prop} (hL : CL o M0) (ht : ∀ k, mgI M0 (o + 59) k = t k) (hm : m < 100) (h : ∀ M', fLc o M0 M' → (∀ n, n ≤ 12 → mgL M' (o + 281) n = cmV t m n) → X M') : ∀ j k M, k + j = m → fLc o M0 M → (∀ n, n ≤ 12 → mgL M (o + 281) n = cmV t k n) → wl_X0_comes_116 o (nI m) x2 x3 X (j + 1) M (nI k) := by
  intro j
  induction j with
  | zero =>
    intro k M hk hF hr
    unfold wl_X0_comes_116
    rw [if_pos (nI_le (by omega) (by omega))]
    rw [show k = m by omega] at hr
    exact h M hF hr
  | succ j ih =>
    intro k M hk hF hr
    unfold wl_X0_comes_116
    rw [if_neg (nI_ge (by omega) (by omega))]
    rw [show (12 : Int32) = nI 13 + (-1) from by decide]
    obtain ⟨F, hF0⟩ := l0_com126 (o := o) (k := k) (x1 := nI m) (x2 := x2) (x3 := x3) (X := fun (M_73 : MM) => ∀ x4_75, x4_75 = nI k + 1 → wl_X0_comes_116 o (nI m) x2 x3 X (j + 1) M_73 x4_75) hL ht (by omega) 13 (by omega) (fun M' hF' hr' => by
      simp only [forall_eq, ap1]
      exact ih (k + 1) M' (by omega) hF' hr')
    exact ⟨F, hF0 M hF (fun n hn => by rw [if_neg (by omega)]; exact hr n hn)⟩
theorem pw_10 {k : Nat} (hk : k ≤ 12) : pwL (10 : Int32).toInt64 k = tenL k := by
  have h : ∀ k, k ≤ 12 → pwL (10 : Int32).toInt64 k = tenL k := by decide +kernel
  exact h k hk
theorem C_nt {o : Nat} {M : MM} {S : St} (hC : CR o M S) (hS : SOk S) : kX o M (msI M o 7 0) ∧ CR o (msI M o 7 0) (nt S) ∧ SOk (nt S) ∧ ∀ k, mgI (msI M o 7 0) (o + 59) k = S.2.2.2.1 k := by
  have hF : fI (tpC o) M (msI M o 7 0) := fI.rf.s (Or.inr ⟨rfl, rfl⟩)
  have m4' : ∀ k, mgI (msI M o 7 0) (o + 59) k = S.2.2.2.1 k := fun k => by rw [mgI_sI, if_neg (by omega)]; exact hC.2.2.2.2.2.2.1 k
  exact ⟨hF.kx, hC.tp (n := 0) hF m4' fd_e, ⟨hS.1, hS.2.1, hS.2.2.1, hS.2.2.2.1, by show 0 ≤ 220; omega, hS.2.2.2.2.2⟩, m4'⟩
theorem C_comes {o : Nat} {M : MM} {S : St} {m many w : Int32} {Post : Int64 → MM → Prop} (hC : CR o M S) (hS : SOk S) (h0 : cvV S m many w = false → Post (-1) M)
    (h2 : ∀ m', 1 ≤ m' → m' ≤ 12 → m = nI m' → cvV S m many w = true → areS S.2.2.2.1 m' = false → ∀ M', kX o M M' → CR o M' (nt S) → SOk (nt S) → Post (-2) M')
    (h1 : ∀ m' k, 1 ≤ m' → m' ≤ 12 → k ≤ 12 → m = nI m' → many = nI k → cvV S m many w = true → areS S.2.2.2.1 m' = true → ∀ M', kX o M M' → CR o M' (nt S) → SOk (nt S) → Post (thS (cmV S.2.2.2.1 m' k) (tenL m') w) M') : wp_X0_comes M o m many w Post := by
  have m5 := hC.2.2.2.2.2.2.2.1
  unfold wp_X0_comes
  unfold cvV at h0 h1 h2
  rw [w0_within]
  by_cases e1 : inS m 1 12 = true
  · rw [if_pos e1, if_neg n10, w0_within]
    by_cases e2 : inS many 0 12 = true
    · rw [if_pos e2, if_neg n10, in_2]
      by_cases e3 : inS w 0 1 = true
      · rw [if_pos e3, if_neg n10, m5]
        by_cases e4 : m ≤ nI S.2.2.2.2.1
        · rw [if_pos e4]
          obtain ⟨m', hm1, hm2, rfl⟩ := inS_ab (a := 1) (b := 12) (by omega) (by omega) e1
          obtain ⟨k, hk, rfl⟩ := inS_n (n := 12) (by omega) e2
          have ev : (inS (nI m') 1 12 && inS (nI k) 0 12 && inS w 0 1 && decide (nI m' ≤ nI S.2.2.2.2.1)) = true := by simp [e1, e2, e3, e4]
          simp only [forall_eq]
          obtain ⟨hX, hC1, hS1, ht1⟩ := C_nt hC hS
          have hL1 := hC1.1
          refine ⟨m' + 1, l0_tens48 hL1 ht1 (by omega) m' 0 (by omega) (fun e => ?_) (fun e => ?_)⟩
          · exact h2 m' hm1 hm2 rfl ev e _ hX hC1 hS1
          · refine l0_com83 hL1 (fun M1 hF1 hr1 => ?_)
            have hL2 : CL o M1 := CL_of hF1.1 hL1
            have ht2 : ∀ k, mgI M1 (o + 59) k = S.2.2.2.1 k := fun k => (hF1.2.1 _ _).trans (ht1 k)
            refine ⟨m' + 1, l0_com116 hL2 ht2 (by omega) (fun M2 hF2 hr2 => ?_) m' 0 M1 (by omega) fLc.rf hr1⟩
            have hF12 : fLc o (msI M o 7 0) M2 := ⟨hF2.1.trans hF1.1, fun a k => (hF2.2.1 a k).trans (hF1.2.1 a k), fun a k e => (hF2.2.2 a k e).trans (hF1.2.2 a k e)⟩
            have hL3 : CL o M2 := CL_of hF12.1 hL1
            have fin := h1 m' k hm1 hm2 hk rfl rfl ev e M2 (hX.tr hF12.g.x) (hC1.L hF12) hS1
            have hk13 : k < 13 := by omega
            have v1 : vp_in (nI k) (mln M2 (o + 281)) := by rw [CL_l281 hL3]; simp (disch := first | assumption | omega) only [ia0, ia4, ia8, ia12, ia16, ia20, ia24, ia52, ia60, ia68, im7, im14, ap6, iaN, ap1, ixN, vpN, vpN]
            refine w0_power (by omega) ?_
            refine ⟨o + 281, CL_r32 hL3, CL_k281 hL3, v1, ?_⟩
            rw [ixN (by omega), hr2 k hk, pw_10 hm2]
            refine w0_divisor ?_
            have hg := gcS_ne (x := cmV S.2.2.2.1 m' k) (ten_ne m' (by omega))
            unfold thS at fin
            by_cases e5 : w = 0
            · rw [if_pos e5] at fin ⊢
              refine ⟨o + 281, CL_r32 hL3, CL_k281 hL3, v1, hg, ?_⟩
              rw [hr2 k hk]; exact fin
            · rw [if_neg e5] at fin ⊢
              exact ⟨hg, fin⟩
        · rw [if_neg e4]; exact h0 (by simp [e4])
      · rw [if_neg e3, if_pos rfl]; exact h0 (by simp [e3])
    · rw [if_neg e2, if_pos rfl]; exact h0 (by simp [e2])
  · rw [if_neg e1, if_pos rfl]; exact h0 (by simp [e1])
