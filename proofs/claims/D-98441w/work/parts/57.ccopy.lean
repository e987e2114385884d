/-! the component: a landing taken over; kept, undone, tried -/
set_option maxRecDepth 100000
theorem w4_takes {a b l : Nat} {M : MM} {Post : MM → Prop} (hA : LA a M) (hB : LA b M) (hab : a + 19 ≤ b ∨ b + 19 ≤ a) (hl : l < 4) (h8 : isB_ (mgI M (b + 3 + 2 * l) 8)) (h9 : isB_ (mgI M (b + 3 + 2 * l) 9)) (hP : ∀ M', fI (plM a l) M M' → (∀ k, 1 ≤ k → k ≤ 9 → mgI M' (a + 3 + 2 * l) k = mgI M (b + 3 + 2 * l) k) → (∀ k, k < 7 → mgI M' (a + 4 + 2 * l) k = mgI M (b + 4 + 2 * l) k) → Post M') : wp_X4_takes M (a + 3 + 2 * l) (b + 3 + 2 * l) Post := by
  have key : ∀ X : MM → Prop, (∀ M', fI (fun x _ => x = a + 4 + 2 * l) M M' → (∀ k, k < 7 → mgI M' (a + 4 + 2 * l) k = mgI M (b + 4 + 2 * l) k) → X M') → ∃ n, wl_X4_takes_2 (a + 3 + 2 * l) (b + 3 + 2 * l) X n M (nI 0) := by
    intro X hX
    refine cl_ (fun n M1 i => wl_X4_takes_2 (a + 3 + 2 * l) (b + 3 + 2 * l) X n M1 (nI i)) (fun i M1 => fI (fun x _ => x = a + 4 + 2 * l) M M1 ∧ ∀ k, k < i → mgI M1 (a + 4 + 2 * l) k = mgI M (b + 4 + 2 * l) k) 7 ?_ ?_ M 0 (by omega) ⟨fI.rf, fun k hk => by omega⟩
    · intro n i M1 hi ⟨hF, hr⟩ hs'
      have hA1 : LA a M1 := LA_of hF.e hA
      have hB1 : LA b M1 := LA_of hF.e hB
      have e : mgI M1 (b + 4 + 2 * l) i = mgI M (b + 4 + 2 * l) i := hF.2 _ _ (by omega)
      show wl_X4_takes_2 (a + 3 + 2 * l) (b + 3 + 2 * l) X (n + 1) M1 (nI i)
      unfold wl_X4_takes_2
      rw [if_neg (show ¬ (7 : Int32) ≤ nI i from (show ¬ nI 7 ≤ nI i from nI_ge (by omega) (by omega)))]
      simp (disch := first | assumption | omega) only [mgR_sI, mgR_sL, mkd_sI, mkd_sL, mln_sI, mln_sL, Option.some.injEq, exists_eq_left', forall_eq, true_and, and_true, Nat.reduceLT, exists_eq_left, LA_k, LA_r0, LA_k1, LA_l1, LA_r1, LA_k2, LA_l2, LA_pl, LA_pk, LA_lr, LA_lk, LA_ll, LA_er, LA_ek, OU_k, OU_r0, OU_k1, OU_r13, OU_r5, OU_k60, OU_l60, ia0, ia4, ia8, ia12, ia16, ia20, ia24, ia52, ia60, ia68, im7, im14, ap6, iaN, ap1, ixN, vpN, e]
      refine hs' _ ⟨hF.s rfl, fun k hk => ?_⟩
      rw [mgI_sI]
      by_cases ek : k = i
      · rw [if_pos ⟨rfl, ek⟩, ek]
      · rw [if_neg (fun x => ek x.2)]; exact hr k (by omega)
    · intro n M1 ⟨hF, hr⟩
      show wl_X4_takes_2 (a + 3 + 2 * l) (b + 3 + 2 * l) X (n + 1) M1 (nI 7)
      unfold wl_X4_takes_2
      rw [if_pos (show (7 : Int32) ≤ nI 7 from by decide)]
      exact hX M1 hF hr
  unfold wp_X4_takes
  refine key _ (fun M1 hF1 hr => ?_)
  have eb : ∀ k, mgI M1 (b + 3 + 2 * l) k = mgI M (b + 3 + 2 * l) k := fun k => hF1.2 _ _ (by omega)
  have nb : ∀ (M2 : MM) j k v, mgI (msI M2 (a + 3 + 2 * l) k v) (b + 3 + 2 * l) j = mgI M2 (b + 3 + 2 * l) j := fun M2 j k v => by rw [mgI_sI, if_neg (by omega)]
  simp only [forall_eq, nb, eb]
  refine ⟨h8, h9, ?_⟩
  refine hP _ ?_ (fun k k1 k2 => ?_) (fun k hk => ?_)
  · have h0 : fI (plM a l) M M1 := hF1.mono (fun x k e => Or.inr e)
    exact ((((((((h0.s (Or.inl rfl)).s (Or.inl rfl)).s (Or.inl rfl)).s (Or.inl rfl)).s (Or.inl rfl)).s (Or.inl rfl)).s (Or.inl rfl)).s (Or.inl rfl)).s (Or.inl rfl)
  · have : k = 1 ∨ k = 2 ∨ k = 3 ∨ k = 4 ∨ k = 5 ∨ k = 6 ∨ k = 7 ∨ k = 8 ∨ k = 9 := by omega
    rcases this with rfl | rfl | rfl | rfl | rfl | rfl | rfl | rfl | rfl <;> simp only [mgI_sI, Nat.reduceEqDiff, and_false, and_true, and_self, if_true, if_false]
  · rw [← hr k hk]
    have nl : ∀ (M2 : MM) j v, mgI (msI M2 (a + 3 + 2 * l) j v) (a + 4 + 2 * l) k = mgI M2 (a + 4 + 2 * l) k := fun M2 j v => by rw [mgI_sI, if_neg (by omega)]
    simp only [nl]
theorem PlR.cp {M M' : MM} {a b l : Nat} {s : Nat → Int32} (h : PlR M b s l) (e : ∀ k, 1 ≤ k → k ≤ 9 → mgI M' (a + 3 + 2 * l) k = mgI M (b + 3 + 2 * l) k) (e2 : ∀ k, k < 7 → mgI M' (a + 4 + 2 * l) k = mgI M (b + 4 + 2 * l) k) : PlR M' a s l := by
  unfold PlR PlT at h ⊢
  rw [e 9 (by omega) (by omega), e 8 (by omega) (by omega), e 1 (by omega) (by omega), e 2 (by omega) (by omega), e 3 (by omega) (by omega), e 4 (by omega) (by omega), e 5 (by omega) (by omega), e 7 (by omega) (by omega), e 6 (by omega) (by omega)]
  refine ⟨h.1, h.2.imp (fun ⟨h1, h2, h3, h4, h5, h6, h7, h8, h9, q, h10, h11, h12⟩ => ⟨h1, h2, h3, h4, h5, h6, h7, h8, h9, q, h10, h11, fun j hj => (e2 _ (Nat.mod_lt _ (by omega))).trans (h12 j hj)⟩) id⟩
theorem PlR.b {M : MM} {b l : Nat} {s : Nat → Int32} (h : PlR M b s l) : isB_ (mgI M (b + 3 + 2 * l) 8) ∧ isB_ (mgI M (b + 3 + 2 * l) 9) := by
  refine ⟨?_, h.1⟩
  rcases h.2 with ⟨_, h2, _⟩ | ⟨_, h2⟩
  · exact Or.inr h2
  · exact Or.inl h2
def ldM (a : Nat) : Nat → Nat → Prop := fun x k => (a + 3 ≤ x ∧ x < a + 19) ∨ (x = a ∧ (k = 2 ∨ k = 3))
/-- a landing takes over another -/
theorem w3_takes {a b : Nat} {M : MM} {s : Nat → Int32} {Post : Option Nat → MM → Prop} (hA : LA a M) (hB : LA b M) (hab : a + 19 ≤ b ∨ b + 19 ≤ a) (hR : LdR M b s) (hP : ∀ M', fI (ldM a) M M' → LdR M' a s → Post (some a) M') : wp_X3_takes M a b Post := by
  have k2 : ∀ (X : MM → Prop) (M0 : MM), fI (ldM a) M M0 → (∀ l, l < 4 → PlR M0 a s l) → (∀ M', fI (ldM a) M M' → (∀ l, l < 4 → PlR M' a s l) → (∀ p, p < 8 → PeR M' a s p) → X M') → ∃ n, wl_X3_takes_30 a b X n M0 (nI 0) := by
    intro X M0 hF0 hpl hX
    refine cl_ (fun n M1 i => wl_X3_takes_30 a b X n M1 (nI i)) (fun i M1 => fI (ldM a) M M1 ∧ (∀ l, l < 4 → PlR M1 a s l) ∧ ∀ p, p < i → PeR M1 a s p) 8 ?_ ?_ M0 0 (by omega) ⟨hF0, hpl, fun p hp => by omega⟩
    · intro n i M1 hi ⟨hF, hr1, hr2⟩ hs'
      have hA1 : LA a M1 := LA_of hF.e hA
      have hB1 : LA b M1 := LA_of hF.e hB
      have hpe : PeR M1 b s i := (hR.2.1 i hi).e (fun k => hF.2 _ _ (by unfold ldM; omega))
      show wl_X3_takes_30 a b X (n + 1) M1 (nI i)
      unfold wl_X3_takes_30
      rw [if_neg (show ¬ (8 : Int32) ≤ nI i from (show ¬ nI 8 ≤ nI i from nI_ge (by omega) (by omega)))]
      simp (disch := first | assumption | omega) only [mgR_sI, mgR_sL, mkd_sI, mkd_sL, mln_sI, mln_sL, Option.some.injEq, exists_eq_left', forall_eq, true_and, and_true, Nat.reduceLT, exists_eq_left, LA_k, LA_r0, LA_k1, LA_l1, LA_r1, LA_k2, LA_l2, LA_pl, LA_pk, LA_lr, LA_lk, LA_ll, LA_er, LA_ek, OU_k, OU_r0, OU_k1, OU_r13, OU_r5, OU_k60, OU_l60, ia0, ia4, ia8, ia12, ia16, ia20, ia24, ia52, ia60, ia68, im7, im14, ap6, iaN, ap1, ixN, vpN]
      unfold wp_X5_takes
      have nb : ∀ (M2 : MM) j k v, mgI (msI M2 (a + 11 + i) k v) (b + 11 + i) j = mgI M2 (b + 11 + i) j := fun M2 j k v => by rw [mgI_sI, if_neg (by omega)]
      simp only [forall_eq, nb]
      have hb3 : isB_ (mgI M1 (b + 11 + i) 3) := by
        rcases hpe with ⟨_, h2, _⟩ | ⟨_, h2⟩
        · exact Or.inr h2
        · exact Or.inl h2
      refine ⟨hb3, ?_⟩
      have hF2 : fI (fun x _ => x = a + 11 + i) M1 (msI (msI (msI (msI M1 (a + 11 + i) 0 (mgI M1 (b + 11 + i) 0)) (a + 11 + i) 1 (mgI M1 (b + 11 + i) 1)) (a + 11 + i) 2 (mgI M1 (b + 11 + i) 2)) (a + 11 + i) 3 (mgI M1 (b + 11 + i) 3)) := fI.s (fI.s (fI.s (fI.s fI.rf (by rfl)) (by rfl)) (by rfl)) (by rfl)
      have c0 : ∀ k, k < 4 → mgI (msI (msI (msI (msI M1 (a + 11 + i) 0 (mgI M1 (b + 11 + i) 0)) (a + 11 + i) 1 (mgI M1 (b + 11 + i) 1)) (a + 11 + i) 2 (mgI M1 (b + 11 + i) 2)) (a + 11 + i) 3 (mgI M1 (b + 11 + i) 3)) (a + 11 + i) k = mgI M1 (b + 11 + i) k := by
        intro k hk
        have : k = 0 ∨ k = 1 ∨ k = 2 ∨ k = 3 := by omega
        rcases this with rfl | rfl | rfl | rfl <;> simp only [mgI_sI, Nat.reduceEqDiff, and_false, and_true, and_self, if_true, if_false]
      generalize msI (msI (msI (msI M1 (a + 11 + i) 0 (mgI M1 (b + 11 + i) 0)) (a + 11 + i) 1 (mgI M1 (b + 11 + i) 1)) (a + 11 + i) 2 (mgI M1 (b + 11 + i) 2)) (a + 11 + i) 3 (mgI M1 (b + 11 + i) 3) = M2 at hF2 c0 ⊢
      refine hs' M2 ⟨hF.tr (hF2.mono (fun x k e => by unfold ldM; omega)), fun l hl => (hr1 l hl).e (fun k => hF2.2 _ _ (by omega)) (fun k => hF2.2 _ _ (by omega)), fun p hp => ?_⟩
      by_cases ep : p = i
      · subst ep
        unfold PeR at hpe ⊢
        rw [c0 3 (by omega), c0 0 (by omega), c0 1 (by omega), c0 2 (by omega)]
        exact hpe
      · exact (hr2 p (by omega)).e (fun k => hF2.2 _ _ (by omega))
    · intro n M1 ⟨hF, hr1, hr2⟩
      show wl_X3_takes_30 a b X (n + 1) M1 (nI 8)
      unfold wl_X3_takes_30
      rw [if_pos (show (8 : Int32) ≤ nI 8 from by decide)]
      exact hX M1 hF hr1 hr2
  have k1 : ∀ (X : MM → Prop), (∀ M', fI (ldM a) M M' → (∀ l, l < 4 → PlR M' a s l) → X M') → ∃ n, wl_X3_takes_2 a b X n M (nI 0) := by
    intro X hX
    refine cl_ (fun n M1 i => wl_X3_takes_2 a b X n M1 (nI i)) (fun i M1 => fI (ldM a) M M1 ∧ ∀ l, l < i → PlR M1 a s l) 4 ?_ ?_ M 0 (by omega) ⟨fI.rf, fun p hp => by omega⟩
    · intro n i M1 hi ⟨hF, hr⟩ hs'
      have hA1 : LA a M1 := LA_of hF.e hA
      have hB1 : LA b M1 := LA_of hF.e hB
      have hpl : PlR M1 b s i := (hR.1 i hi).e (fun k => hF.2 _ _ (by unfold ldM; omega)) (fun k => hF.2 _ _ (by unfold ldM; omega))
      show wl_X3_takes_2 a b X (n + 1) M1 (nI i)
      unfold wl_X3_takes_2
      rw [if_neg (show ¬ (4 : Int32) ≤ nI i from (show ¬ nI 4 ≤ nI i from nI_ge (by omega) (by omega)))]
      simp (disch := first | assumption | omega) only [mgR_sI, mgR_sL, mkd_sI, mkd_sL, mln_sI, mln_sL, Option.some.injEq, exists_eq_left', forall_eq, true_and, and_true, Nat.reduceLT, exists_eq_left, LA_k, LA_r0, LA_k1, LA_l1, LA_r1, LA_k2, LA_l2, LA_pl, LA_pk, LA_lr, LA_lk, LA_ll, LA_er, LA_ek, OU_k, OU_r0, OU_k1, OU_r13, OU_r5, OU_k60, OU_l60, ia0, ia4, ia8, ia12, ia16, ia20, ia24, ia52, ia60, ia68, im7, im14, ap6, iaN, ap1, ixN, vpN]
      refine w4_takes hA1 hB1 hab hi hpl.b.1 hpl.b.2 (fun M2 hF2 e1 e2 => hs' M2 ⟨hF.tr (hF2.mono (fun x k e => by unfold plM at e; unfold ldM; omega)), fun l hl => ?_⟩)
      by_cases el : l = i
      · subst el; exact hpl.cp e1 e2
      · exact (hr l (by omega)).e (fun k => hF2.2 _ _ (by unfold plM; omega)) (fun k => hF2.2 _ _ (by unfold plM; omega))
    · intro n M1 ⟨hF, hr⟩
      show wl_X3_takes_2 a b X (n + 1) M1 (nI 4)
      unfold wl_X3_takes_2
      rw [if_pos (show (4 : Int32) ≤ nI 4 from by decide)]
      exact hX M1 hF hr
  unfold wp_X3_takes
  refine k1 _ (fun M1 hF1 hr1 => ?_)
  refine k2 _ M1 hF1 hr1 (fun M2 hF2 hr2 hr3 => ?_)
  simp only [forall_eq]
  have b2 : mgI M2 b 2 = s 79 := (hF2.2 _ _ (by unfold ldM; omega)).trans hR.2.2.1
  have b3 : ∀ v, mgI (msI M2 a 2 v) b 3 = s 80 := fun v => by
    rw [mgI_sI, if_neg (by omega), hF2.2 _ _ (by unfold ldM; omega)]; exact hR.2.2.2
  rw [b2, b3]
  refine hP _ ((hF2.s (by unfold ldM; omega)).s (by unfold ldM; omega)) ⟨fun l hl => ?_, fun p hp => ?_, ?_, fd_e⟩
  · exact (hr2 l hl).e (fun k => by rw [mgI_sI, if_neg (by omega), mgI_sI, if_neg (by omega)]) (fun k => by rw [mgI_sI, if_neg (by omega), mgI_sI, if_neg (by omega)])
  · exact (hr3 p hp).e (fun k => by rw [mgI_sI, if_neg (by omega), mgI_sI, if_neg (by omega)])
  · rw [fd_n (by omega), fd_e]
/-- rows alike below 81 -/
theorem LdR.r {M : MM} {a : Nat} {s s' : Nat → Int32} (h : LdR M a s) (e : ∀ k, k < 81 → s' k = s k) : LdR M a s' :=
  ⟨fun l hl => (h.1 l hl).se hl (fun k hk => e k (by omega)), fun p hp => (h.2.1 p hp).se (fun k hk => e k (by omega)), h.2.2.1.trans (e 79 (by omega)).symm, h.2.2.2.trans (e 80 (by omega)).symm⟩
theorem C_undo {o : Nat} {M : MM} {S : St} {Post : Int32 → MM → Prop} (hC : CR o M S) (hS : SOk S) (h0 : S.2.2.1 = 0 → Post 0 M) (h1 : ¬ S.2.2.1 = 0 → ∀ M', kX o M M' → CR o M' (cpS S.2.1 S.1, S.2) → SOk (cpS S.2.1 S.1, S.2) → Post 1 M') : wp_X0_undo M o Post := by
  have hL := hC.1
  have hA := CL_A2 hL
  have hB := CL_A40 hL
  unfold wp_X0_undo
  rw [hC.2.2.2.2.2.1]
  by_cases e : S.2.2.1 = 0
  · rw [if_pos e]; exact h0 e
  · rw [if_neg e]
    simp (disch := first | assumption | omega) only [CL_t2, CL_t21, CL_t40, CL_r1, CL_r2, CL_r3, CL_r4, CL_k59, CL_l59, CL_r9, CL_k65, CL_l65, CL_r10, CL_k91, CL_l91, CL_r11, CL_k117, CL_l117, CL_r12, CL_k118, CL_l118, CL_r23, CL_k119, CL_l119, CL_r24, CL_k120, CL_l120, CL_r27, CL_k121, CL_l121, CL_r28, CL_k274, CL_l274, CL_r29, CL_k279, CL_l279, CL_r30, CL_k280, CL_l280, CL_r32, CL_k281, CL_l281, mgR_sI, mgR_sL, mkd_sI, mkd_sL, mln_sI, mln_sL, Option.some.injEq, exists_eq_left', forall_eq, true_and, and_true, Nat.reduceLT, exists_eq_left, LA_k, LA_r0, LA_k1, LA_l1, LA_r1, LA_k2, LA_l2, LA_pl, LA_pk, LA_lr, LA_lk, LA_ll, LA_er, LA_ek, OU_k, OU_r0, OU_k1, OU_r13, OU_r5, OU_k60, OU_l60]
    refine w3_takes hA hB (Or.inl (by omega)) hC.2.2.2.2.1 (fun M' hF hR => ?_)
    have hG : cG o M M' := hF.cg (fun a k e => by unfold ldM at e; unfold cF; omega)
    refine ⟨o + 2, rfl, LA_k (LA_of hF.e hA), ?_⟩
    refine h1 e M' hG.x (hC.g hG (hR.r (fun k hk => cpS_lt hk))) ?_
    obtain ⟨k1, k2, k3, ⟨d, k4, k5⟩, k6⟩ := hS
    exact ⟨k2.se (fun k hk => cpS_lt (by omega)), k2, ⟨d, k4, (cpS_lt (s := S.2.1) (t := S.1) (k := 79) (by omega)).trans k5⟩, ⟨d, k4, k5⟩, k6⟩
theorem l0_keep {o : Nat} {M : MM} {s : Nat → Int32} {X : MM → Int32 → Prop} (hA : LA (o + 2) M) (hR : LdR M (o + 2) s) (h : X M (kpS s)) : wl_X0_keep_33 (o + 2 + 1) (nI 4) X 5 M 0 0 := by
  have key : ∀ n l (v : Int32), l < 4 → wl_X0_keep_33 (o + 2 + 1) (nI 4) X n M (v + if isPl s (nI l) = true then s (4 + l) else 0) (nI (l + 1)) → wl_X0_keep_33 (o + 2 + 1) (nI 4) X (n + 1) M v (nI l) := by
    intro n l v hl hk
    unfold wl_X0_keep_33
    rw [if_neg (nI_ge hl (by omega))]
    simp (disch := first | assumption | omega) only [mgR_sI, mgR_sL, mkd_sI, mkd_sL, mln_sI, mln_sL, Option.some.injEq, exists_eq_left', forall_eq, true_and, and_true, Nat.reduceLT, exists_eq_left, LA_k, LA_r0, LA_k1, LA_l1, LA_r1, LA_k2, LA_l2, LA_pl, LA_pk, LA_lr, LA_lk, LA_ll, LA_er, LA_ek, OU_k, OU_r0, OU_k1, OU_r13, OU_r5, OU_k60, OU_l60, ia0, ia4, ia8, ia12, ia16, ia20, ia24, ia52, ia60, ia68, im7, im14, ap6, iaN, ap1, ixN, vpN]
    rcases (hR.1 l hl).2 with ⟨h1, h2, h3⟩ | ⟨h1, h2⟩
    · rw [if_pos h1] at hk
      rw [h2, if_neg n10, h3.2.1]; exact hk
    · rw [if_neg (by rw [h1]; decide)] at hk
      rw [h2, if_pos rfl]; exact hk
  refine key 4 0 0 (by omega) (key 3 1 _ (by omega) (key 2 2 _ (by omega) (key 1 3 _ (by omega) ?_)))
  unfold wl_X0_keep_33
  rw [if_pos (nI_le (by omega) (by omega))]
  exact h
theorem C_keep {o : Nat} {M : MM} {S : St} {Post : Int32 → MM → Prop} (hC : CR o M S) (hS : SOk S) (h : ∀ M', kX o M M' → CR o M' (S.1, cpS S.1 S.2.1, 1, S.2.2.2) → SOk (S.1, cpS S.1 S.2.1, 1, S.2.2.2) → Post (kpS S.1) M') : wp_X0_keep M o Post := by
  obtain ⟨h1, h2, h3, h4, h5, h6, h7, h8, h9⟩ := id hC
  have hL : CL o M := h1
  have hA := CL_A2 hL
  have hB := CL_A40 hL
  unfold wp_X0_keep
  simp (disch := first | assumption | omega) only [CL_t2, CL_t21, CL_t40, CL_r1, CL_r2, CL_r3, CL_r4, CL_k59, CL_l59, CL_r9, CL_k65, CL_l65, CL_r10, CL_k91, CL_l91, CL_r11, CL_k117, CL_l117, CL_r12, CL_k118, CL_l118, CL_r23, CL_k119, CL_l119, CL_r24, CL_k120, CL_l120, CL_r27, CL_k121, CL_l121, CL_r28, CL_k274, CL_l274, CL_r29, CL_k279, CL_l279, CL_r30, CL_k280, CL_l280, CL_r32, CL_k281, CL_l281, mgR_sI, mgR_sL, mkd_sI, mkd_sL, mln_sI, mln_sL, Option.some.injEq, exists_eq_left', forall_eq, true_and, and_true, Nat.reduceLT, exists_eq_left, LA_k, LA_r0, LA_k1, LA_l1, LA_r1, LA_k2, LA_l2, LA_pl, LA_pk, LA_lr, LA_lk, LA_ll, LA_er, LA_ek, OU_k, OU_r0, OU_k1, OU_r13, OU_r5, OU_k60, OU_l60]
  have hF0 : fI (fun x k => x = o ∧ k = 8) M (msI M o 8 1) := fI.rf.s ⟨rfl, rfl⟩
  have hL0 : CL o (msI M o 8 1) := CL_of rfl h1
  have hR0 : LdR (msI M o 8 1) (o + 2) S.1 := h4.g (fun b k q1 q2 => by rw [mgI_sI, if_neg (by omega)])
  refine w3_takes (CL_A40 hL0) (CL_A2 hL0) (Or.inr (by omega)) hR0 (fun M' hF hR => ?_)
  have hF2 : fI (fun x k => (x = o ∧ k = 8) ∨ ldM (o + 40) x k) M M' := (hF0.mono (fun x k e => Or.inl e)).tr (hF.mono (fun x k e => Or.inr e))
  have hL2 : CL o M' := CL_of hF2.e h1
  have hA2 := CL_A2 hL2
  have hA40 := CL_A40 hL2
  have hR2 : LdR M' (o + 2) S.1 := hR0.g (fun b k q1 q2 => hF.2 _ _ (by unfold ldM; omega))
  refine ⟨o + 40, rfl, LA_k hA40, ?_⟩
  simp (disch := first | assumption | omega) only [CL_t2, CL_t21, CL_t40, CL_r1, CL_r2, CL_r3, CL_r4, CL_k59, CL_l59, CL_r9, CL_k65, CL_l65, CL_r10, CL_k91, CL_l91, CL_r11, CL_k117, CL_l117, CL_r12, CL_k118, CL_l118, CL_r23, CL_k119, CL_l119, CL_r24, CL_k120, CL_l120, CL_r27, CL_k121, CL_l121, CL_r28, CL_k274, CL_l274, CL_r29, CL_k279, CL_l279, CL_r30, CL_k280, CL_l280, CL_r32, CL_k281, CL_l281, mgR_sI, mgR_sL, mkd_sI, mkd_sL, mln_sI, mln_sL, Option.some.injEq, exists_eq_left', forall_eq, true_and, and_true, Nat.reduceLT, exists_eq_left, LA_k, LA_r0, LA_k1, LA_l1, LA_r1, LA_k2, LA_l2, LA_pl, LA_pk, LA_lr, LA_lk, LA_ll, LA_er, LA_ek, OU_k, OU_r0, OU_k1, OU_r13, OU_r5, OU_k60, OU_l60]
  refine ⟨5, l0_keep hA2 hR2 (h M' ?_ ?_ ?_)⟩
  · exact ⟨hF2.e, fun a k e => ⟨hF2.2 _ _ (by unfold ldM; omega), hF2.L _ _⟩⟩
  · refine ⟨hL2, OU_of hF2.e h2, h3.g hF2.e (fun a k hx => hF2.2 _ _ (by unfold Prt at hx; unfold ldM; omega)), hR2, hR.r (fun k hk => cpS_lt hk), ?_, fun k => ?_, ?_, ?_⟩
    · rw [hF.2 _ _ (by unfold ldM; omega)]; exact fd_e
    · rw [hF2.2 _ _ (by unfold ldM; omega)]; exact h7 k
    · rw [hF2.2 _ _ (by unfold ldM; omega)]; exact h8
    · rw [hF2.2 _ _ (by unfold ldM; omega)]; exact h9
  · obtain ⟨k1, k2, ⟨d, k3, k4⟩, _, k6, k7⟩ := hS
    exact ⟨k1, k1.se (fun k hk => cpS_lt (by omega)), ⟨d, k3, k4⟩, ⟨d, k3, (cpS_lt (s := S.1) (t := S.2.1) (k := 79) (by omega)).trans k4⟩, k6, Or.inr rfl⟩
