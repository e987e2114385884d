/-! the model: factors, products, sums are read -/
set_option maxRecDepth 100000
theorem w7_factOf {M : MM} {c : Int32} {Post : Int32 → MM → Prop} : wp_X7_factOf M c Post = Post (match facO c with | none => -1 | some k => nI k) M := by
  by_cases h97 : c = 97
  · subst h97; rfl
  by_cases h98 : c = 98
  · subst h98; rfl
  by_cases h99 : c = 99
  · subst h99; rfl
  by_cases h100 : c = 100
  · subst h100; rfl
  by_cases h101 : c = 101
  · subst h101; rfl
  by_cases h102 : c = 102
  · subst h102; rfl
  by_cases h103 : c = 103
  · subst h103; rfl
  by_cases h104 : c = 104
  · subst h104; rfl
  by_cases h105 : c = 105
  · subst h105; rfl
  by_cases h106 : c = 106
  · subst h106; rfl
  by_cases h107 : c = 107
  · subst h107; rfl
  by_cases h108 : c = 108
  · subst h108; rfl
  by_cases h109 : c = 109
  · subst h109; rfl
  by_cases h110 : c = 110
  · subst h110; rfl
  by_cases h111 : c = 111
  · subst h111; rfl
  by_cases h112 : c = 112
  · subst h112; rfl
  by_cases h113 : c = 113
  · subst h113; rfl
  by_cases h114 : c = 114
  · subst h114; rfl
  by_cases h115 : c = 115
  · subst h115; rfl
  by_cases h116 : c = 116
  · subst h116; rfl
  by_cases h117 : c = 117
  · subst h117; rfl
  by_cases h118 : c = 118
  · subst h118; rfl
  by_cases h119 : c = 119
  · subst h119; rfl
  by_cases h120 : c = 120
  · subst h120; rfl
  by_cases h121 : c = 121
  · subst h121; rfl
  by_cases h122 : c = 122
  · subst h122; rfl
  unfold wp_X7_factOf facO
  simp only [h97, h98, h99, h100, h101, h102, h103, h104, h105, h106, h107, h108, h109, h110, h111, h112, h113, h114, h115, h116, h117, h118, h119, h120, h121, h122, if_false]
def sgV (c : Int32) : Int32 := match addO c with
  | some q => nI q
  | none => match mulO c with
    | some q => nI q
    | none => -1
theorem w7_sumSign {M : MM} {c : Int32} {Post : Int32 → MM → Prop} : wp_X7_sumSign M c Post = Post (sgV c) M := by
  by_cases h1 : c = 43
  · subst h1; rfl
  by_cases h2 : c = 45
  · subst h2; rfl
  by_cases h3 : c = 42
  · subst h3; rfl
  by_cases h4 : c = 47
  · subst h4; rfl
  by_cases h5 : c = 37
  · subst h5; rfl
  unfold wp_X7_sumSign sgV addO mulO
  simp only [h1, h2, h3, h4, h5, if_false]
theorem w7_isDigit {o n p c r : Nat} {z : Nat} {M0 M : MM} {st : List Nat} {t : Nat → Int32} {Post : Int32 → MM → Prop} (h : pE o M0 z n p c r st M) (hc : cx o M0 t n) : wp_X7_isDigit M o Post = if digC (chS t n p) = true then Post 1 M else Post 0 M := by
  unfold wp_X7_isDigit
  rw [h.here hc, h.here hc]
  exact (w7_in (M := M) (v := chS t n p) (lo := 48) (hi := 57) (Post := Post))
theorem pE.f8 {o n p c r : Nat} {z : Nat} {M0 M : MM} {st : List Nat} {v : Int32} (h : pE o M0 z n p c r st M) : pE o M0 z n p c r st (msI M o 8 v) := by
  obtain ⟨h1, h2, h3, h4, h5, h6, h7⟩ := h
  exact ⟨h1.s (by unfold pF; omega), (fd_n (by omega)).trans h2, (fd_n (by omega)).trans h3, (fd_n (by omega)).trans h4, (fd_n (by omega)).trans h5, h6.n (by omega), h7⟩
theorem l7_num {o n c r fr : Nat} {z : Nat} {M0 Ma : MM} {st : List Nat} {t : Nat → Int32} {R : PR Nat} {X27 X69 : MM → Prop} (hfr : fr < 1000) (hc : cx o M0 t n) (h69 : ∀ M' v' p', R = .inr (v', p') → pE o M0 z n p' c r st M' → kp o c Ma M' → mgI M' o 8 = nI v' → X69 M') (h27 : ∀ M' p', R = .inl (2, p') → pE o M0 z n p' c r st M' → X27 M') : ∀ j p v M, p + j = fr + 5 → pE o M0 z n p c r st M → kp o c Ma M → mgI M o 8 = nI v → numL t n j p v = R → wl_X7_readsNumber_10 o (nI fr) X27 X69 (j + 1) M := by
  intro j
  induction j with
  | zero =>
    intro p v M hj h hk h8 hR
    have hb := h.b hc
    unfold wl_X7_readsNumber_10
    rw [w7_isDigit h hc]
    unfold numL at hR
    by_cases e : digC (chS t n p) = true
    · rw [if_pos e] at hR
      have := digC_lt e
      rw [if_pos e, if_neg n10, h.2.1, show nI fr + (5 : Int32) = nI (fr + 5) from nI_add fr 5, if_pos (by rw [← hj]; rfl)]
      exact h27 M p hR.symm h
    · rw [if_neg e] at hR
      rw [if_neg e, if_pos rfl]
      exact h69 M v p hR.symm h hk h8
  | succ j ih =>
    intro p v M hj h hk h8 hR
    have hb := h.b hc
    unfold wl_X7_readsNumber_10
    rw [w7_isDigit h hc]
    unfold numL at hR
    by_cases e : digC (chS t n p) = true
    · rw [if_pos e] at hR
      have hlt := digC_lt e
      rw [if_pos e, if_neg n10, h.2.1, show nI fr + (5 : Int32) = nI (fr + 5) from nI_add fr 5, if_neg (fun x => by have := (nI_eq (by omega) (by omega)).mp x; omega), h.here hc, h8]
      obtain ⟨q, q1, q2, q3⟩ := inS_ab (a := 48) (b := 57) (by omega) (by omega) (show inS (chS t n p) (nI 48) (nI 57) = true from e)
      rw [q3, show nI q - (48 : Int32) = nI (q - 48) from (show nI q - nI 48 = _ from pk_sub (by omega)), ixN (by omega)] at hR
      rw [q3, show (10 : Int32) * nI v = nI (10 * v) from pk_mul 10 v, iaN, show nI (10 * v + q) - (48 : Int32) = nI (10 * v + (q - 48)) from (show nI (10 * v + q) - nI 48 = _ from (pk_sub (by omega)).trans (by congr 1; omega))]
      simp only [forall_eq]
      rw [fd_n (by omega), h.2.1, ap1]
      refine ih (p + 1) _ _ (by omega) (h.f8.go (by omega) (by omega)) ((hk.n (by omega)).n (by omega)) ?_ hR
      rw [fd_n (by omega), fd_e]
    · rw [if_neg e] at hR
      rw [if_neg e, if_pos rfl]
      exact h69 M v p hR.symm h hk h8
/-- what follows a factor -/
def SLp (o b n : Nat) (Post : Int32 → MM → Prop) (p : Nat) (M : MM) : Prop := ∀ F, n < p + F → wl_X7_readsSum_14 o (nI b) (fun M => Post 0 M) (fun M => wb_X7_readsSum_138 M o (nI b) Post) F M
/-- a factor is due -/
def FLp (o b n : Nat) (Post : Int32 → MM → Prop) (p : Nat) (M : MM) : Prop := ∀ Q : Int32 → MM → Prop, (∀ M', Post 0 M' → Q 0 M') → (∀ p' M', p < p' → SLp o b n Post p' M' → Q 1 M') → wp_X7_readsFactor M o Q
def erK (o : Nat) (M0 : MM) (Post : Int32 → MM → Prop) (e : Nat × Nat) : Prop := ∀ M', fI (pF o) M0 M' → mgI M' o 7 = erV e.1 e.2 → Post 0 M'
theorem pE.wrong {o n p c r w : Nat} {z : Nat} {M0 M : MM} {st : List Nat} {Post P : Int32 → MM → Prop} (h : pE o M0 z n p c r st M) (hK : erK o M0 Post (w, p)) (hP : ∀ M', Post 0 M' → P 0 M') : wp_X7_wrongAt M o (nI w) (mgI M o 5) (fun r M' => isB_ r ∧ P r M') := by
  rw [w7_wrongAt, h.2.1]
  exact ⟨Or.inl rfl, hP _ (hK _ (h.1.s (by unfold pF; omega)) fd_e)⟩
def FacSim (z o b n : Nat) (M0 : MM) (t : Nat → Int32) (Post : Int32 → MM → Prop) (r : Nat) : Prop := ∀ p c st M, pE o M0 z n p c r st M → b ≤ st.length → (∀ d p', facS t n r p = .inr (d, p') → ∀ M' c', pE o M0 z n p' c' r st M' → c < c' → kp o c M M' → SegS (sdM o M') c c' d → SLp o b n Post p' M') → (∀ e, facS t n r p = .inl e → erK o M0 Post e) → FLp o b n Post p M
theorem sim_prL {o b n r : Nat} {z : Nat} {M0 : MM} {t : Nat → Int32} {Post : Int32 → MM → Prop} (hc : cx o M0 t n) (hF : FacSim z o b n M0 t Post r) : ∀ f d p c c0 m W M, n < p + f → pE o M0 z n p c r (pu m W) M → ¬ (4 ≤ topQ W ∧ topQ W ≤ 6) → b ≤ W.length → PdM (sdM o M) c0 c d m → c0 < c → (∀ d' p', prL t n (facS t n r) f d p = .inr (d', p') → ∀ M' c' m', pE o M0 z n p' c' r (pu m' W) M' → c0 < c' → kp o c0 M M' → PdM (sdM o M') c0 c' d' m' → mulO (chS t n p') = none → SLp o b n Post p' M') → (∀ e, prL t n (facS t n r) f d p = .inl e → erK o M0 Post e) → SLp o b n Post p M := by
  intro f
  induction f with
  | zero => intro d p c c0 m W M hf h; have := h.b hc; omega
  | succ f ih =>
    intro d p c c0 m W M hf h hW hbW hP h0 hK hE
    have hb := h.b hc
    unfold prL at hK hE
    cases hm : mulO (chS t n p) with
    | none =>
      rw [hm] at hK
      exact hK d p rfl M c m h h0 kp.rf hP hm
    | some q =>
      rw [hm] at hK hE
      dsimp only at hK hE
      have hlt := mulO_lt hm
      have hq : 4 ≤ q ∧ q ≤ 6 ∧ addO (chS t n p) = none := by
        unfold mulO at hm
        split at hm
        · cases hm; rename_i e; exact ⟨by omega, by omega, by rw [e]; decide⟩
        · split at hm
          · cases hm; rename_i e; exact ⟨by omega, by omega, by rw [e]; decide⟩
          · split at hm
            · cases hm; rename_i e; exact ⟨by omega, by omega, by rw [e]; decide⟩
            · cases hm
      intro F hFn
      cases F with
      | zero => omega
      | succ F =>
        unfold wl_X7_readsSum_14
        rw [h.here hc, w7_sumSign]
        have hs : sgV (chS t n p) = nI q := by unfold sgV; rw [hq.2.2, hm]
        rw [hs, if_neg (nI_m1 (by omega)), if_pos (show (4 : Int32) ≤ nI q from (show nI 4 ≤ nI q from nI_le (by omega) (by omega)))]
        unfold wb_X7_readsSum_38
        refine close_0 h hc hW hP h0 (fun M1 c1 k1 k2 k3 k4 => ?_)
        have hb1 := k1.b hc
        have hL1 := k1.L hc
        have h11 : mgI M1 o 11 = nI W.length := k1.2.2.2.2.1
        rw [h11, mk20]
        simp (disch := first | assumption | omega) only [mgR_sI, mgR_sL, mkd_sI, mkd_sL, mln_sI, mln_sL, Option.some.injEq, exists_eq_left', forall_eq, true_and, and_true, Nat.reduceLT, exists_eq_left, ML_r0, ML_k1, ML_l1, ML_r1, ML_k2, ML_l2, ML_r2, ML_k3, ML_l3, ML_r3, ML_k4, ML_l4, ML_r13, ML_k5, ML_l5, ML_r14, ML_k6, ML_l6, ML_r15, ML_k7, ML_l7, ML_r16, ML_k8, ML_l8, ML_r17, ML_k9, ML_l9, ML_r18, ML_k10, ML_l10, ML_r19, ML_k11, ML_l11, ML_r20, ML_k12, ML_l12, ML_r21, ML_k13, ML_l13, ML_r22, ML_k14, ML_l14, ML_r23, ML_k15, ML_l15, ML_r24, ML_k16, ML_l16, ML_r25, ML_k17, ML_l17, ML_r26, ML_k18, ML_l18, ML_r30, ML_k19, ML_l19, ML_r35, ML_k20, ML_l20, ML_r36, ML_k21, ML_l21, ML_r37, ML_k22, ML_l22, ML_r38, ML_k23, ML_l23, ML_r40, ML_k24, ML_l24, ML_r41, ML_k25, ML_l25, ML_r42, ML_k26, ML_l26, ML_r43, ML_k27, ML_l27, ML_r44, ML_k28, ML_l28, ML_r45, ML_k29, ML_l29, ML_r48, ML_k30, ML_l30, ML_r51, ML_k31, ML_l31, ML_r52, ML_k32, ML_l32, ia0, ia4, ia8, ia12, ia16, ia20, ia24, ia52, ia60, ia68, im7, im14, ap6, iaN, ap1, ixN, vpN, fd_c, fd_n, h11, k1.2.1]
        have hp2 := k1.push (e := 1048576 * q) hlt (by omega)
        unfold puM at hp2
        generalize hM2 : msI (msI (msI M1 (o + 6) W.length (nI (1048576 * q))) o 11 (nI (W.length + 1))) o 5 (nI (p + 1)) = M2 at hp2 ⊢
        have hk2 : kp o c1 M1 M2 := by rw [← hM2]; exact ((kp.rf.n (by omega)).n (by omega)).n (by omega)
        have hbW2 : b ≤ (1048576 * q :: W).length := by rw [List.length_cons]; omega
        refine hF (p + 1) c1 (1048576 * q :: W) M2 hp2 hbW2 (fun d2 p' e2 M3 c3 j1 j2 j3 j4 => ?_) (fun e e2 => ?_) _ (fun M' hM' => by rw [if_pos rfl]; exact hM') (fun p' M' hp' hS => by rw [if_neg n10]; exact hS F (by omega))
        · have hgo := facS_ok r _ _ _ e2
          rw [e2] at hK hE
          have s1 : SegS (sdM o M3) c0 c1 d := (k4.kp hk2 (by omega)).kp j3 (by omega)
          refine ih (opD q d d2) p' c3 c0 (some q) W M3 (by omega) j1 hW hbW ⟨hq.1, hq.2.1, c1, d, d2, by omega, j2, s1, j4, rfl⟩ (by omega) (fun d' p'' e3 M' c' m' l1 l2 l3 l4 l5 => ?_) hE
          exact hK d' p'' e3 M' c' m' l1 l2 (((k3.le (by omega)).tr (hk2.le (by omega))).tr ((j3.le (by omega)).tr l3)) l4 l5
        · rw [e2] at hE
          exact hE e rfl
theorem sim_prS {o b n r : Nat} {z : Nat} {M0 : MM} {t : Nat → Int32} {Post : Int32 → MM → Prop} (hc : cx o M0 t n) (hF : FacSim z o b n M0 t Post r) {p c : Nat} {W : List Nat} {M : MM} (h : pE o M0 z n p c r W M) (hW : ¬ (4 ≤ topQ W ∧ topQ W ≤ 6)) (hbW : b ≤ W.length) (hK : ∀ d' p', prS t n (facS t n r) p = .inr (d', p') → ∀ M' c' m', pE o M0 z n p' c' r (pu m' W) M' → c < c' → kp o c M M' → PdM (sdM o M') c c' d' m' → mulO (chS t n p') = none → SLp o b n Post p' M') (hE : ∀ e, prS t n (facS t n r) p = .inl e → erK o M0 Post e) : FLp o b n Post p M := by
  unfold prS at hK hE
  refine hF p c W M h hbW (fun d p' e M1 c1 k1 k2 k3 k4 => ?_) (fun e e2 => ?_)
  · rw [e] at hK hE
    have hgo := facS_ok r _ _ _ e
    have hb := h.b hc
    refine sim_prL hc hF (n + 1) d p' c1 c none W M1 (by omega) k1 hW hbW k4 k2 (fun d' p'' e3 M' c' m' l1 l2 l3 l4 l5 => ?_) hE
    exact hK d' p'' e3 M' c' m' l1 l2 (k3.tr l3) l4 l5
  · rw [e2] at hE
    exact hE e rfl
theorem sim_smL {o b n r : Nat} {z : Nat} {M0 : MM} {t : Nat → Int32} {Post : Int32 → MM → Prop} (hc : cx o M0 t n) (hF : FacSim z o b n M0 t Post r) : ∀ f d p c c0 a m W M, n < p + f → pE o M0 z n p c r (pu m (pu a W)) M → wOk W → b ≤ W.length → PdS (sdM o M) c0 c d a m → c0 < c → mulO (chS t n p) = none → (∀ d' p', smL t n (facS t n r) f d p = .inr (d', p') → ∀ M' c' a' m', pE o M0 z n p' c' r (pu m' (pu a' W)) M' → c0 < c' → kp o c0 M M' → PdS (sdM o M') c0 c' d' a' m' → sgV (chS t n p') = -1 → SLp o b n Post p' M') → (∀ e, smL t n (facS t n r) f d p = .inl e → erK o M0 Post e) → SLp o b n Post p M := by
  intro f
  induction f with
  | zero => intro d p c c0 a m W M hf h; have := h.b hc; omega
  | succ f ih =>
    intro d p c c0 a m W M hf h hW hbW hP h0 hmul hK hE
    have hb := h.b hc
    unfold smL at hK hE
    cases hm : addO (chS t n p) with
    | none =>
      rw [hm] at hK
      exact hK d p rfl M c a m h h0 kp.rf hP (by unfold sgV; rw [hm, hmul])
    | some q =>
      rw [hm] at hK hE
      dsimp only at hK hE
      have hlt := addO_lt hm
      have hq : 2 ≤ q ∧ q ≤ 3 := by
        unfold addO at hm
        split at hm
        · cases hm; omega
        · split at hm
          · cases hm; omega
          · cases hm
      intro F hFn
      cases F with
      | zero => omega
      | succ F =>
        unfold wl_X7_readsSum_14
        rw [h.here hc, w7_sumSign]
        have hs : sgV (chS t n p) = nI q := by unfold sgV; rw [hm]
        rw [hs, if_neg (nI_m1 (by omega)), if_neg (show ¬ (4 : Int32) ≤ nI q from (show ¬ nI 4 ≤ nI q from nI_ge (by omega) (by omega)))]
        unfold wb_X7_readsSum_38
        refine close_1 h hc hW hP h0 (fun M1 c1 k1 k2 k3 k4 => ?_)
        have hb1 := k1.b hc
        have hL1 := k1.L hc
        have h11 : mgI M1 o 11 = nI W.length := k1.2.2.2.2.1
        rw [h11, mk20]
        simp (disch := first | assumption | omega) only [mgR_sI, mgR_sL, mkd_sI, mkd_sL, mln_sI, mln_sL, Option.some.injEq, exists_eq_left', forall_eq, true_and, and_true, Nat.reduceLT, exists_eq_left, ML_r0, ML_k1, ML_l1, ML_r1, ML_k2, ML_l2, ML_r2, ML_k3, ML_l3, ML_r3, ML_k4, ML_l4, ML_r13, ML_k5, ML_l5, ML_r14, ML_k6, ML_l6, ML_r15, ML_k7, ML_l7, ML_r16, ML_k8, ML_l8, ML_r17, ML_k9, ML_l9, ML_r18, ML_k10, ML_l10, ML_r19, ML_k11, ML_l11, ML_r20, ML_k12, ML_l12, ML_r21, ML_k13, ML_l13, ML_r22, ML_k14, ML_l14, ML_r23, ML_k15, ML_l15, ML_r24, ML_k16, ML_l16, ML_r25, ML_k17, ML_l17, ML_r26, ML_k18, ML_l18, ML_r30, ML_k19, ML_l19, ML_r35, ML_k20, ML_l20, ML_r36, ML_k21, ML_l21, ML_r37, ML_k22, ML_l22, ML_r38, ML_k23, ML_l23, ML_r40, ML_k24, ML_l24, ML_r41, ML_k25, ML_l25, ML_r42, ML_k26, ML_l26, ML_r43, ML_k27, ML_l27, ML_r44, ML_k28, ML_l28, ML_r45, ML_k29, ML_l29, ML_r48, ML_k30, ML_l30, ML_r51, ML_k31, ML_l31, ML_r52, ML_k32, ML_l32, ia0, ia4, ia8, ia12, ia16, ia20, ia24, ia52, ia60, ia68, im7, im14, ap6, iaN, ap1, ixN, vpN, fd_c, fd_n, h11, k1.2.1]
        have hp2 := k1.push (e := 1048576 * q) hlt (by omega)
        unfold puM at hp2
        generalize hM2 : msI (msI (msI M1 (o + 6) W.length (nI (1048576 * q))) o 11 (nI (W.length + 1))) o 5 (nI (p + 1)) = M2 at hp2 ⊢
        have hk2 : kp o c1 M1 M2 := by rw [← hM2]; exact ((kp.rf.n (by omega)).n (by omega)).n (by omega)
        have hbW2 : b ≤ (1048576 * q :: W).length := by rw [List.length_cons]; omega
        have htop : ¬ (4 ≤ topQ (1048576 * q :: W) ∧ topQ (1048576 * q :: W) ≤ 6) := by
          have : topQ (1048576 * q :: W) = q := by show 1048576 * q / 1048576 = q; omega
          rw [this]; omega
        refine sim_prS hc hF hp2 htop hbW2 (fun d2 p' e2 M3 c3 m3 j1 j2 j3 j4 j5 => ?_) (fun e e2 => ?_) _ (fun M' hM' => by rw [if_pos rfl]; exact hM') (fun p' M' hp' hS => by rw [if_neg n10]; exact hS F (by omega))
        · have hgo := prS_ok (facS_ok r) _ _ _ e2
          rw [e2] at hK hE
          have s1 : SegS (sdM o M3) c0 c1 d := (k4.kp hk2 (by omega)).kp j3 (by omega)
          refine ih (opD q d d2) p' c3 c0 (some q) m3 W M3 (by omega) j1 hW hbW ⟨hq.1, hq.2, c1, d, d2, by omega, j2, s1, j4, rfl⟩ (by omega) j5 (fun d' p'' e3 M' c' a' m' l1 l2 l3 l4 l5 => ?_) hE
          exact hK d' p'' e3 M' c' a' m' l1 l2 (((k3.le (by omega)).tr (hk2.le (by omega))).tr ((j3.le (by omega)).tr l3)) l4 l5
        · rw [e2] at hE
          exact hE e rfl
theorem sim_suS {o b n r : Nat} {z : Nat} {M0 : MM} {t : Nat → Int32} {Post : Int32 → MM → Prop} (hc : cx o M0 t n) (hF : FacSim z o b n M0 t Post r) {p c : Nat} {W : List Nat} {M : MM} (h : pE o M0 z n p c r W M) (hW : wOk W) (hbW : b ≤ W.length) (hK : ∀ d' p', suS t n (facS t n r) p = .inr (d', p') → ∀ M' c' a' m', pE o M0 z n p' c' r (pu m' (pu a' W)) M' → c < c' → kp o c M M' → PdS (sdM o M') c c' d' a' m' → sgV (chS t n p') = -1 → SLp o b n Post p' M') (hE : ∀ e, suS t n (facS t n r) p = .inl e → erK o M0 Post e) : FLp o b n Post p M := by
  unfold suS at hK hE
  have hW' : ¬ (4 ≤ topQ W ∧ topQ W ≤ 6) := by unfold wOk at hW; omega
  refine sim_prS hc hF h hW' hbW (fun d p' e M1 c1 m1 k1 k2 k3 k4 k5 => ?_) (fun e e2 => ?_)
  · rw [e] at hK hE
    have hgo := prS_ok (facS_ok r) _ _ _ e
    have hb := h.b hc
    refine sim_smL hc hF (n + 1) d p' c1 c none m1 W M1 (by omega) k1 hW hbW k4 k2 k5 (fun d' p'' e3 M' c' a' m' l1 l2 l3 l4 l5 => ?_) hE
    exact hK d' p'' e3 M' c' a' m' l1 l2 (k3.tr l3) l4 l5
  · rw [e2] at hE
    exact hE e rfl
/-- whether one of those that wait begins a sum -/
theorem ho_true {o n p c r : Nat} {z : Nat} {M0 M : MM} {st W : List Nat} {t : Nat → Int32} {b : Nat} {Post : Int32 → MM → Prop} (h : pE o M0 z n p c r st M) (hc : cx o M0 t n) (hb : b ≤ W.length) (hW : W.length < st.length) (hw : mgI M (o + 6) W.length = nI (1048576 * 14)) (hP : Post 1 M) : wp_X7_hasOpenSum M o (nI b) Post := by
  have hL := h.L hc
  have hbb := h.b hc
  have h11 : mgI M o 11 = nI st.length := h.2.2.2.2.1
  have key : ∀ (X24 X32 : MM → Prop), X24 M → ∀ j k, k + j = W.length → wl_X7_hasOpenSum_2 o X24 X32 (j + 1) M (nI k) := by
    intro X24 X32 hX j
    induction j with
    | zero =>
      intro k hk
      unfold wl_X7_hasOpenSum_2
      rw [h11, if_neg (nI_ge (by omega) (by omega))]
      rw [Nat.add_zero] at hk
      subst hk
      simp (disch := first | assumption | omega) only [mgR_sI, mgR_sL, mkd_sI, mkd_sL, mln_sI, mln_sL, Option.some.injEq, exists_eq_left', forall_eq, true_and, and_true, Nat.reduceLT, exists_eq_left, ML_r0, ML_k1, ML_l1, ML_r1, ML_k2, ML_l2, ML_r2, ML_k3, ML_l3, ML_r3, ML_k4, ML_l4, ML_r13, ML_k5, ML_l5, ML_r14, ML_k6, ML_l6, ML_r15, ML_k7, ML_l7, ML_r16, ML_k8, ML_l8, ML_r17, ML_k9, ML_l9, ML_r18, ML_k10, ML_l10, ML_r19, ML_k11, ML_l11, ML_r20, ML_k12, ML_l12, ML_r21, ML_k13, ML_l13, ML_r22, ML_k14, ML_l14, ML_r23, ML_k15, ML_l15, ML_r24, ML_k16, ML_l16, ML_r25, ML_k17, ML_l17, ML_r26, ML_k18, ML_l18, ML_r30, ML_k19, ML_l19, ML_r35, ML_k20, ML_l20, ML_r36, ML_k21, ML_l21, ML_r37, ML_k22, ML_l22, ML_r38, ML_k23, ML_l23, ML_r40, ML_k24, ML_l24, ML_r41, ML_k25, ML_l25, ML_r42, ML_k26, ML_l26, ML_r43, ML_k27, ML_l27, ML_r44, ML_k28, ML_l28, ML_r45, ML_k29, ML_l29, ML_r48, ML_k30, ML_l30, ML_r51, ML_k31, ML_l31, ML_r52, ML_k32, ML_l32, ia0, ia4, ia8, ia12, ia16, ia20, ia24, ia52, ia60, ia68, im7, im14, ap6, iaN, ap1, ixN, vpN, hw]
      rw [if_pos (show nI (1048576 * 14) / (1048576 : Int32) = 14 from cd_div (q := 14) (v := 0) (by omega) (by omega))]
      exact hX
    | succ j ih =>
      intro k hk
      unfold wl_X7_hasOpenSum_2
      rw [h11, if_neg (nI_ge (by omega) (by omega))]
      simp (disch := first | assumption | omega) only [mgR_sI, mgR_sL, mkd_sI, mkd_sL, mln_sI, mln_sL, Option.some.injEq, exists_eq_left', forall_eq, true_and, and_true, Nat.reduceLT, exists_eq_left, ML_r0, ML_k1, ML_l1, ML_r1, ML_k2, ML_l2, ML_r2, ML_k3, ML_l3, ML_r3, ML_k4, ML_l4, ML_r13, ML_k5, ML_l5, ML_r14, ML_k6, ML_l6, ML_r15, ML_k7, ML_l7, ML_r16, ML_k8, ML_l8, ML_r17, ML_k9, ML_l9, ML_r18, ML_k10, ML_l10, ML_r19, ML_k11, ML_l11, ML_r20, ML_k12, ML_l12, ML_r21, ML_k13, ML_l13, ML_r22, ML_k14, ML_l14, ML_r23, ML_k15, ML_l15, ML_r24, ML_k16, ML_l16, ML_r25, ML_k17, ML_l17, ML_r26, ML_k18, ML_l18, ML_r30, ML_k19, ML_l19, ML_r35, ML_k20, ML_l20, ML_r36, ML_k21, ML_l21, ML_r37, ML_k22, ML_l22, ML_r38, ML_k23, ML_l23, ML_r40, ML_k24, ML_l24, ML_r41, ML_k25, ML_l25, ML_r42, ML_k26, ML_l26, ML_r43, ML_k27, ML_l27, ML_r44, ML_k28, ML_l28, ML_r45, ML_k29, ML_l29, ML_r48, ML_k30, ML_l30, ML_r51, ML_k31, ML_l31, ML_r52, ML_k32, ML_l32, ia0, ia4, ia8, ia12, ia16, ia20, ia24, ia52, ia60, ia68, im7, im14, ap6, iaN, ap1, ixN, vpN]
      split
      · exact hX
      · exact ih (k + 1) (by omega)
  unfold wp_X7_hasOpenSum
  exact ⟨_, key _ _ hP (W.length - b) b (by omega)⟩
theorem WtE.at' {o : Nat} {M : MM} {e : Nat} {r : List Nat} : ∀ {l : List Nat}, WtE o M (l ++ e :: r) → mgI M (o + 6) r.length = nI e := by
  intro l
  induction l with
  | nil => intro h; exact h.1
  | cons x l ih => intro h; exact ih h.2
/-- none of those from b on -/
theorem ho_false {o n p c r : Nat} {z : Nat} {M0 M : MM} {st W : List Nat} {t : Nat → Int32} {Post : Int32 → MM → Prop} (h : pE o M0 z n p c r st M) (hc : cx o M0 t n) (hWl : W.length < 1000) (hw : ∀ k, W.length ≤ k → k < st.length → ∃ q, q ≤ 6 ∧ mgI M (o + 6) k = nI (1048576 * q)) (hP : Post 0 M) : wp_X7_hasOpenSum M o (nI W.length) Post := by
  have hL := h.L hc
  have hbb := h.b hc
  have h11 : mgI M o 11 = nI st.length := h.2.2.2.2.1
  have key : ∀ (X24 X32 : MM → Prop), X32 M → ∀ j k, st.length ≤ k + j → W.length ≤ k → k < 1000 → wl_X7_hasOpenSum_2 o X24 X32 (j + 1) M (nI k) := by
    intro X24 X32 hX j
    induction j with
    | zero =>
      intro k hk _ hk2
      unfold wl_X7_hasOpenSum_2
      rw [h11, if_pos (nI_le (by omega) (by omega))]
      exact hX
    | succ j ih =>
      intro k hk hWk hk2
      unfold wl_X7_hasOpenSum_2
      rw [h11]
      by_cases e : st.length ≤ k
      · rw [if_pos (nI_le e (by omega))]; exact hX
      · obtain ⟨q, q1, q2⟩ := hw k hWk (by omega)
        rw [if_neg (nI_ge (by omega) (by omega))]
        simp (disch := first | assumption | omega) only [mgR_sI, mgR_sL, mkd_sI, mkd_sL, mln_sI, mln_sL, Option.some.injEq, exists_eq_left', forall_eq, true_and, and_true, Nat.reduceLT, exists_eq_left, ML_r0, ML_k1, ML_l1, ML_r1, ML_k2, ML_l2, ML_r2, ML_k3, ML_l3, ML_r3, ML_k4, ML_l4, ML_r13, ML_k5, ML_l5, ML_r14, ML_k6, ML_l6, ML_r15, ML_k7, ML_l7, ML_r16, ML_k8, ML_l8, ML_r17, ML_k9, ML_l9, ML_r18, ML_k10, ML_l10, ML_r19, ML_k11, ML_l11, ML_r20, ML_k12, ML_l12, ML_r21, ML_k13, ML_l13, ML_r22, ML_k14, ML_l14, ML_r23, ML_k15, ML_l15, ML_r24, ML_k16, ML_l16, ML_r25, ML_k17, ML_l17, ML_r26, ML_k18, ML_l18, ML_r30, ML_k19, ML_l19, ML_r35, ML_k20, ML_l20, ML_r36, ML_k21, ML_l21, ML_r37, ML_k22, ML_l22, ML_r38, ML_k23, ML_l23, ML_r40, ML_k24, ML_l24, ML_r41, ML_k25, ML_l25, ML_r42, ML_k26, ML_l26, ML_r43, ML_k27, ML_l27, ML_r44, ML_k28, ML_l28, ML_r45, ML_k29, ML_l29, ML_r48, ML_k30, ML_l30, ML_r51, ML_k31, ML_l31, ML_r52, ML_k32, ML_l32, ia0, ia4, ia8, ia12, ia16, ia20, ia24, ia52, ia60, ia68, im7, im14, ap6, iaN, ap1, ixN, vpN, q2]
        rw [if_neg (show ¬ nI (1048576 * q) / (1048576 : Int32) = 14 from by
          rw [show nI (1048576 * q) / (1048576 : Int32) = nI q from cd_div (q := q) (v := 0) (by omega) (by omega)]
          exact fun e => by have := (nI_eq (a := q) (b := 14) (by omega) (by omega)).mp e; omega)]
        exact ih (k + 1) (by omega) (by omega) (by omega)
  unfold wp_X7_hasOpenSum
  by_cases e : st.length ≤ W.length
  · exact ⟨1, key _ _ hP 0 W.length e (Nat.le_refl _) hWl⟩
  · exact ⟨_, key _ _ hP (st.length - W.length) W.length (by omega) (Nat.le_refl _) (by omega)⟩
theorem pu_len {q : Option Nat} {W : List Nat} : W.length ≤ (pu q W).length := by
  cases q with
  | none => exact Nat.le_refl _
  | some q => exact Nat.le_succ _
/-- the level and a letter -/
def opM (o : Nat) (M : MM) (len q p r : Nat) : MM := msI (puM o (msI M o 9 (nI (6 - r))) len (1048576 * q)) o 5 (nI (p + 1))
theorem opM_E {o n p c r q : Nat} {z : Nat} {M0 M : MM} {st : List Nat} (h : pE o M0 z n p c (r + 1) st M) (hp : p < n) (hq : q < 16) (hr : r < 6) : pE o M0 z n (p + 1) c r (1048576 * q :: st) (opM o M st.length q p r) ∧ kp o c M (opM o M st.length q p r) := by
  refine ⟨(h.lev (r' := r) (by omega)).push (e := 1048576 * q) hp (by omega), ?_⟩
  unfold opM puM
  exact (((kp.rf.n (by omega)).n (by omega)).n (by omega)).n (by omega)
theorem w7_opens1 {o n p c r q : Nat} {z : Nat} {M0 M : MM} {st : List Nat} {t : Nat → Int32} {P : Int32 → MM → Prop} (h : pE o M0 z n p c (r + 1) st M) (hc : cx o M0 t n) (hP : P 1 (opM o M st.length q p r)) : wp_X7_opens M o (nI q) P := by
  have hb := h.b hc
  have hL := h.L hc
  have h9 : mgI M o 9 = nI (6 - (r + 1)) := h.2.2.1
  have h11 : mgI M o 11 = nI st.length := h.2.2.2.2.1
  unfold wp_X7_opens
  rw [h9, if_neg (show ¬ nI (6 - (r + 1)) = (6 : Int32) from fun e => by have := (nI_eq (a := 6 - (r + 1)) (b := 6) (by omega) (by omega)).mp e; omega)]
  have g1 : nI (6 - (r + 1)) + (1 : Int32) = nI (6 - r) := by rw [ap1]; congr 1; omega
  simp (disch := first | assumption | omega) only [mgR_sI, mgR_sL, mkd_sI, mkd_sL, mln_sI, mln_sL, Option.some.injEq, exists_eq_left', forall_eq, true_and, and_true, Nat.reduceLT, exists_eq_left, ML_r0, ML_k1, ML_l1, ML_r1, ML_k2, ML_l2, ML_r2, ML_k3, ML_l3, ML_r3, ML_k4, ML_l4, ML_r13, ML_k5, ML_l5, ML_r14, ML_k6, ML_l6, ML_r15, ML_k7, ML_l7, ML_r16, ML_k8, ML_l8, ML_r17, ML_k9, ML_l9, ML_r18, ML_k10, ML_l10, ML_r19, ML_k11, ML_l11, ML_r20, ML_k12, ML_l12, ML_r21, ML_k13, ML_l13, ML_r22, ML_k14, ML_l14, ML_r23, ML_k15, ML_l15, ML_r24, ML_k16, ML_l16, ML_r25, ML_k17, ML_l17, ML_r26, ML_k18, ML_l18, ML_r30, ML_k19, ML_l19, ML_r35, ML_k20, ML_l20, ML_r36, ML_k21, ML_l21, ML_r37, ML_k22, ML_l22, ML_r38, ML_k23, ML_l23, ML_r40, ML_k24, ML_l24, ML_r41, ML_k25, ML_l25, ML_r42, ML_k26, ML_l26, ML_r43, ML_k27, ML_l27, ML_r44, ML_k28, ML_l28, ML_r45, ML_k29, ML_l29, ML_r48, ML_k30, ML_l30, ML_r51, ML_k31, ML_l31, ML_r52, ML_k32, ML_l32, ia0, ia4, ia8, ia12, ia16, ia20, ia24, ia52, ia60, ia68, im7, im14, ap6, iaN, ap1, ixN, vpN, fd_c, fd_n, h11, g1, mk20, h.2.1]
  exact hP
theorem w7_opens0 {o n p c q : Nat} {z : Nat} {M0 M : MM} {st : List Nat} {P Post : Int32 → MM → Prop} (h : pE o M0 z n p c 0 st M) (h0 : erK o M0 Post (5, p)) (h00 : ∀ M', Post 0 M' → P 0 M') : wp_X7_opens M o (nI q) P := by
  unfold wp_X7_opens
  rw [h.2.2.1, if_pos (show nI (6 - 0) = (6 : Int32) from rfl)]
  exact h.wrong (w := 5) h0 h00
theorem WtE.dr {o : Nat} {M : MM} {q : Option Nat} {W : List Nat} (h : WtE o M (pu q W)) : WtE o M W := by
  cases q with
  | none => exact h
  | some q => exact h.2
theorem facO_13 {c : Int32} {k : Nat} (hf : facO c = some k) : k < 13 := by
  unfold facO at hf
  by_cases h100 : c = 100
  · rw [if_pos h100] at hf; cases hf; omega
  rw [if_neg h100] at hf
  by_cases h119 : c = 119
  · rw [if_pos h119] at hf; cases hf; omega
  rw [if_neg h119] at hf
  by_cases h108 : c = 108
  · rw [if_pos h108] at hf; cases hf; omega
  rw [if_neg h108] at hf
  by_cases h111 : c = 111
  · rw [if_pos h111] at hf; cases hf; omega
  rw [if_neg h111] at hf
  by_cases h102 : c = 102
  · rw [if_pos h102] at hf; cases hf; omega
  rw [if_neg h102] at hf
  by_cases h115 : c = 115
  · rw [if_pos h115] at hf; cases hf; omega
  rw [if_neg h115] at hf
  by_cases h121 : c = 121
  · rw [if_pos h121] at hf; cases hf; omega
  rw [if_neg h121] at hf
  by_cases h122 : c = 122
  · rw [if_pos h122] at hf; cases hf; omega
  rw [if_neg h122] at hf
  by_cases h112 : c = 112
  · rw [if_pos h112] at hf; cases hf; omega
  rw [if_neg h112] at hf
  by_cases h116 : c = 116
  · rw [if_pos h116] at hf; cases hf; omega
  rw [if_neg h116] at hf
  by_cases h110 : c = 110
  · rw [if_pos h110] at hf; cases hf; omega
  rw [if_neg h110] at hf
  by_cases h97 : c = 97
  · rw [if_pos h97] at hf; cases hf; omega
  rw [if_neg h97] at hf
  by_cases h113 : c = 113
  · rw [if_pos h113] at hf; cases hf; omega
  rw [if_neg h113] at hf
  cases hf
theorem sim_leaf {o b n p c r : Nat} {z : Nat} {M0 M : MM} {st : List Nat} {t : Nat → Int32} {Post Q : Int32 → MM → Prop} {S : Option (Nat → PR Den)} (hc : cx o M0 t n) (h : pE o M0 z n p c r st M) (hne : ¬ chS t n p = 91) (hK : ∀ d p', facB t n S p = .inr (d, p') → ∀ M' c', pE o M0 z n p' c' r st M' → c < c' → kp o c M M' → SegS (sdM o M') c c' d → SLp o b n Post p' M') (hE : ∀ e, facB t n S p = .inl e → erK o M0 Post e) (hQ0 : ∀ M', Post 0 M' → Q 0 M') (hQ1 : ∀ p' M', p < p' → SLp o b n Post p' M' → Q 1 M') : wp_X7_readsFactor M o Q := by
  have hb := h.b hc
  have hL := h.L hc
  unfold wp_X7_readsFactor
  refine ⟨1, ?_⟩
  unfold wl_X7_readsFactor_0
  rw [h.here hc, if_neg hne, w7_isDigit h hc]
  unfold facB at hK hE
  rw [if_neg hne] at hK hE
  by_cases e : digC (chS t n p) = true
  · rw [if_pos e] at hK hE
    rw [if_pos e, if_neg n10]
    unfold wp_X7_readsNumber
    simp only [forall_eq]
    rw [h.2.1]
    refine ⟨6, l7_num (fr := p) (c := c) (Ma := M) (r := r) (st := st) (R := numL t n 5 p 0) (by omega) hc (fun M' v' p' hR hE' hk h8 => ?_) (fun M' p' hR hE' => ?_) 5 p 0 _ (by omega) h.f8 (kp.rf.n (by omega)) fd_e rfl⟩
    · rw [hR] at hK
      obtain ⟨k1, k2, k3⟩ := numL_ok 5 p 0 v' p' (by omega) hR
      have hv := numL_lt 5 p 0 v' p' 0 (by omega) hR
      have hv2 : v' < 100000 := hv
      have k3 := k3 e
      rw [if_neg n10, h8]
      refine hE'.notes hc (hQ1 p' _ k3 (hK (numD v') p' rfl _ (c + 1) (hE'.nt (by omega)) (by omega) (hk.nt (Nat.le_refl _)) ?_))
      exact seg_num nt_at (by omega)
    · rw [hR] at hE
      exact hE'.wrong (w := 2) (P := fun r M => if r = 0 then Q 0 M else _) (hE _ rfl) (fun M'' k => by rw [if_pos rfl]; exact hQ0 _ k)
  · rw [if_neg e] at hK hE
    rw [if_neg e, if_pos rfl, h.here hc, w7_factOf]
    cases hf : facO (chS t n p) with
    | none =>
      rw [hf] at hE
      dsimp only
      rw [if_pos rfl]
      exact h.wrong (w := 1) (hE _ rfl) hQ0
    | some k =>
      rw [hf] at hK
      dsimp only
      have hlt := facO_lt hf
      have hk13 : k < 13 := facO_13 hf
      rw [if_neg (nI_m1 (by omega))]
      refine h.notes (q := 1) hc ?_
      simp only [forall_eq]
      have h5 : mgI (ntM o M c (1048576 * 1 + k)) o 5 = nI p := by
        unfold ntM
        rw [fd_n (by omega), fd_c (by omega)]; exact h.2.1
      rw [h5, ap1]
      have hgo := h.go (p' := p + 1) (by omega) (by omega)
      refine hQ1 (p + 1) _ (by omega) (hK (facD k) (p + 1) rfl _ (c + 1) ?_ (by omega) ((kp.rf.nt (Nat.le_refl _)).n (by omega)) ?_)
      · obtain ⟨a1, a2, a3, a4, a5, a6, a7, a8, a9, a10, a11⟩ := h
        unfold ntM
        refine ⟨((a1.s (by unfold pF; omega)).s (by unfold pF; omega)).s (by unfold pF; omega), fd_e, ?_, ?_, ?_, ((a6.n (by omega)).n (by omega)).n (by omega), a7, by omega, by omega, by omega, a11⟩
        · rw [fd_n (by omega), fd_n (by omega), fd_c (by omega)]; exact a3
        · rw [fd_n (by omega), fd_e]
        · rw [fd_n (by omega), fd_n (by omega), fd_c (by omega)]; exact a5
      · refine seg_fac (v := k) (show sdM o (msI (ntM o M c (1048576 * 1 + k)) o 5 (nI (p + 1))) c = _ from ?_) hk13
        show mgI _ _ _ = _
        rw [mgI_sI, if_neg (by omega)]; exact nt_at
theorem sim_fac {o b n : Nat} {z : Nat} {M0 : MM} {t : Nat → Int32} {Post : Int32 → MM → Prop} (hc : cx o M0 t n) : ∀ r, FacSim z o b n M0 t Post r := by
  intro r
  induction r with
  | zero =>
    intro p c st M h hb hK hE Q hQ0 hQ1
    by_cases e : chS t n p = 91
    · unfold wp_X7_readsFactor
      refine ⟨1, ?_⟩
      unfold wl_X7_readsFactor_0
      rw [h.here hc, if_pos e]
      refine w7_opens0 (q := 14) h (hE (5, p) ?_) (fun M' k => ?_)
      · show facB t n none p = _
        unfold facB; rw [if_pos e]
      · rw [if_pos rfl]; exact hQ0 _ k
    · exact sim_leaf (S := none) hc h e hK hE hQ0 hQ1
  | succ r ih =>
    intro p c st M h hb hK hE Q hQ0 hQ1
    by_cases e : chS t n p = 91
    · have hlt := ch_lt e (by decide)
      have hr6 : r < 6 := by have := h.b hc; omega
      obtain ⟨hE1, hk1⟩ := opM_E (q := 14) h hlt (by omega) hr6
      have hf : ∀ x, facS t n (r + 1) p = x ↔ (match suS t n (facS t n r) (p + 1) with
        | .inl e => .inl e
        | .inr (d, p1) => if chS t n p1 = 93 then .inr (d, p1 + 1) else .inl (1, p1)) = x := by
        intro x
        show facB t n (some (suS t n (facS t n r))) p = x ↔ _
        unfold facB
        rw [if_pos e]
        exact Iff.rfl
      have hinner : wp_X7_readsFactor (opM o M st.length 14 p r) o Q := by
        have hbb := h.b hc
        refine sim_suS (b := b) (Post := Post) hc ih hE1 (show 7 ≤ topQ (1048576 * 14 :: st) from by show 7 ≤ 1048576 * 14 / 1048576; omega) (by rw [List.length_cons]; omega) (fun d p1 e1 M1 c1 a1 m1 k1 k2 k3 k4 k5 => ?_) (fun x e1 => ?_) Q hQ0 (fun p' M' hp' hS => hQ1 p' M' (by omega) hS)
        · intro F hFn
          have hb1 := k1.b hc
          have hst : st.length < (pu m1 (pu a1 (1048576 * 14 :: st))).length := by
            have u1 := pu_len (q := a1) (W := 1048576 * 14 :: st)
            have u2 := pu_len (q := m1) (W := pu a1 (1048576 * 14 :: st))
            rw [List.length_cons] at u1
            omega
          have hw14 : mgI M1 (o + 6) st.length = nI (1048576 * 14) := k1.2.2.2.2.2.1.dr.dr.1
          cases F with
          | zero => omega
          | succ F =>
            unfold wl_X7_readsSum_14
            rw [k1.here hc, w7_sumSign, k5, if_pos rfl, k1.here hc]
            by_cases e3 : chS t n p1 = 93
            · rw [if_pos e3]
              have hlt1 := ch_lt e3 (by decide)
              refine ho_true (W := st) k1 hc hb hst hw14 ?_
              rw [if_neg n10]
              refine close_1 k1 hc (show 7 ≤ topQ (1048576 * 14 :: st) from by show 7 ≤ 1048576 * 14 / 1048576; omega) k4 k2 (fun M2 c2 j1 j2 j3 j4 => ?_)
              have hj11 : mgI M2 o 11 = nI (st.length + 1) := j1.2.2.2.2.1
              have hj9 : mgI M2 o 9 = nI (6 - r) := j1.2.2.1
              simp only [forall_eq]
              rw [hj11, as1 (by omega), Nat.add_sub_cancel, fd_n (by omega), hj9, fd_n (by omega), fd_n (by omega), j1.2.1, ap1, as1 (by omega), show 6 - r - 1 = 6 - (r + 1) by omega]
              refine hK d (p1 + 1) ((hf _).mpr (by rw [e1]; dsimp only; rw [if_pos e3])) _ c2 ((j1.pop.lev (r' := r + 1) (by omega)).go (by omega) (by omega)) (by omega) ?_ ?_ F (by omega)
              · exact (((hk1.tr (k3.tr (j3.le (by omega)))).n (by omega)).n (by omega)).n (by omega)
              · exact j4.kp (((kp.rf.n (by omega)).n (by omega)).n (by omega)) (Nat.le_refl _)
            · rw [if_neg e3]
              unfold wb_X7_readsSum_138
              refine ho_true (W := st) k1 hc hb hst hw14 ?_
              rw [if_neg n10]
              exact k1.wrong (w := 1) (hE _ ((hf _).mpr (by rw [e1]; dsimp only; rw [if_neg e3]))) (fun _ k => k)
        · exact hE x ((hf _).mpr (by rw [e1]))
      unfold wp_X7_readsFactor at hinner ⊢
      obtain ⟨Fl, hFl⟩ := hinner
      refine ⟨Fl + 1, ?_⟩
      unfold wl_X7_readsFactor_0
      rw [h.here hc, if_pos e]
      refine w7_opens1 (q := 14) h hc ?_
      rw [if_neg n10]
      exact hFl
    · exact sim_leaf (S := some (suS t n (facS t n r))) hc h e hK hE hQ0 hQ1
/-- a sum -/
theorem w7_readsSum {o n p c r : Nat} {z : Nat} {M0 M : MM} {t : Nat → Int32} {W : List Nat} {Post : Int32 → MM → Prop} (hc : cx o M0 t n) (h : pE o M0 z n p c r W M) (hW : wOk W) (hK : ∀ d p', suS t n (facS t n r) p = .inr (d, p') → ∀ M' c', pE o M0 z n p' c' r W M' → c < c' → kp o c M M' → SegS (sdM o M') c c' d → Post 1 M') (hE : ∀ e, suS t n (facS t n r) p = .inl e → erK o M0 Post e) : wp_X7_readsSum M o Post := by
  have h11 : mgI M o 11 = nI W.length := h.2.2.2.2.1
  have hb := h.b hc
  unfold wp_X7_readsSum
  simp only [forall_eq]
  rw [h11]
  refine sim_suS (b := W.length) (Post := Post) hc (sim_fac hc r) h hW (Nat.le_refl _) (fun d p1 e1 M1 c1 a1 m1 k1 k2 k3 k4 k5 => ?_) hE _ (fun M' k => by rw [if_pos rfl]; exact k) (fun p' M' hp' hS => by rw [if_neg n10]; exact ⟨n + 1, hS (n + 1) (by omega)⟩)
  intro F hFn
  have hb1 := k1.b hc
  have hno : ∀ k, W.length ≤ k → k < (pu m1 (pu a1 W)).length → ∃ q, q ≤ 6 ∧ mgI M1 (o + 6) k = nI (1048576 * q) := by
    intro k hk1 hk2
    have hwt := k1.2.2.2.2.2.1
    cases a1 with
    | none =>
      cases m1 with
      | none => exact absurd hk2 (by show ¬ k < W.length; omega)
      | some q =>
        have hq := k4.2.1
        have hk2' : k < W.length + 1 := hk2
        have : k = W.length := by omega
        subst this
        exact ⟨q, hq, hwt.1⟩
    | some qa =>
      have hqa := k4.2.1
      cases m1 with
      | none =>
        have hk2' : k < W.length + 1 := hk2
        have : k = W.length := by omega
        subst this
        exact ⟨qa, by omega, hwt.1⟩
      | some q =>
        obtain ⟨_, _, k0, d1, d2, _, _, _, k8, _⟩ := k4
        have hq := k8.2.1
        have hk2' : k < W.length + 1 + 1 := hk2
        by_cases e : k = W.length
        · subst e; exact ⟨qa, by omega, hwt.2.1⟩
        · have : k = W.length + 1 := by omega
          subst this
          exact ⟨q, hq, hwt.1⟩
  have fin : wb_X7_readsSum_138 M1 o (nI W.length) Post := by
    unfold wb_X7_readsSum_138
    refine ho_false k1 hc (by omega) hno ?_
    rw [if_pos rfl]
    refine close_1 k1 hc hW k4 k2 (fun M2 c2 j1 j2 j3 j4 => ?_)
    exact hK d p1 e1 M2 c2 j1 (by omega) (k3.tr (j3.le (by omega))) j4
  cases F with
  | zero => omega
  | succ F =>
    unfold wl_X7_readsSum_14
    rw [k1.here hc, w7_sumSign, k5, if_pos rfl, k1.here hc]
    by_cases e3 : chS t n p1 = 93
    · rw [if_pos e3]
      refine ho_false k1 hc (by omega) hno ?_
      rw [if_pos rfl]
      exact fin
    · rw [if_neg e3]
      exact fin
