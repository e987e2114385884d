/-! the component: a trial of days; the tape -/
set_option maxRecDepth 100000
theorem andl_sub {s : Nat → Int32} {w : Int32} {c : Nat} (h : c + 3 < 2147483648) : (inS w (nI c) (nI (c + 3)) && isPl s (w - nI c)) = isPl s (w - nI c) := by
  by_cases e : isPl s (w - nI c) = true
  · rw [isPl_sub h e, e]; rfl
  · rw [show isPl s (w - nI c) = false by simpa using e, Bool.and_false]
theorem wb_tried {o n : Nat} {M : MM} {S : St} {w : Int32} {Post : Int32 → MM → Prop} (hC : CR o M S) (hS : SOk S) (hn : n ≤ 60) (hk : inS w 0 3 = true ∨ isPl S.1 (w - 10) = true ∨ isPe S.1 (w - 20) = true) (h1 : ∀ M', kX o M M' → CR o M' S → Post (tkS (goN S.2.2.2.2.2 n (dy0 S.1)) w) M') : wb_X0_tried_42 M o (nI n) w Post := by
  have hL := hC.1
  have hA := CL_A2 hL
  have hB := CL_A21 hL
  have hO := hC.2.1
  have hT := hC.2.2.1
  have hR := hC.2.2.2.1
  obtain ⟨k1, k2, ⟨d, k3, k4⟩, k5⟩ := id hS
  unfold wb_X0_tried_42
  refine ⟨o + 21, CL_r2 hL, LA_k hB, o + 2, CL_r1 hL, LA_k hA, ?_⟩
  refine w3_takes hB hA (Or.inr (by omega)) hR (fun M1 hF1 hR1 => ?_)
  have hL1 : CL o M1 := CL_of hF1.e hL
  have hB1 := CL_A21 hL1
  refine ⟨o + 21, rfl, LA_k hB1, ?_⟩
  have hLC : LC o (o + 21) M1 S.2.2.2.2.2 S.1 := ⟨hB1, OU_of hF1.e hO, CL_t21 hL1, hT.g hF1.e (fun a k hx => hF1.2 _ _ (by unfold Prt at hx; unfold ldM; omega)), hR1⟩
  refine w3_goes aOk21 hLC k1 k4 k3 (by omega) (fun M2 d' hG hd' => ?_)
  have hGV : gvI S.1 (goN S.2.2.2.2.2 n (dy0 S.1)) := gvI_go n _ gvI_z
  unfold tkS at h1
  generalize goN S.2.2.2.2.2 n (dy0 S.1) = D at hG hGV h1
  obtain ⟨hF2, ⟨hR2, q4, q5, q6⟩, hK2, hD2⟩ := hG
  have hcG : cG o M M2 := cG.tr (hF1.cg (fun a k e => by unfold ldM at e; unfold cF; omega)) (hF2.cg (fun a k e => lM_cF (Or.inr (Or.inl rfl)) e))
  have hR0 : LdR M2 (o + 2) S.1 := hR.g (fun b k e1 e2 => (hF2.2 _ _ (by unfold lM; omega)).trans (hF1.2 _ _ (by unfold ldM; omega)))
  have hC2 : CR o M2 S := hC.g (s' := S.1) hcG hR0
  have hL2 := hC2.1
  have hA2 := CL_A2 hL2
  have hB2 := CL_A21 hL2
  have h2 := h1 M2 hcG.x hC2
  clear h1
  refine ⟨o + 21, rfl, LA_k hB2, ?_⟩
  by_cases c0 : w = 0
  · rw [if_pos c0] at h2 ⊢
    refine ⟨o + 21, CL_r2 hL2, LA_k hB2, ?_⟩
    rw [q4]; exact h2
  rw [if_neg c0] at h2 ⊢
  by_cases c1 : w = 1
  · rw [if_pos c1] at h2 ⊢
    refine ⟨o + 21, CL_r2 hL2, LA_k hB2, ?_⟩
    rw [q5]; exact h2
  rw [if_neg c1] at h2 ⊢
  by_cases c2 : w = 2
  · rw [if_pos c2] at h2 ⊢
    refine ⟨o + 21, CL_r2 hL2, LA_k hB2, w3_dead hB2 hK2 hR2 ?_⟩
    obtain ⟨p, dd, e1, e2, e3, e4⟩ := hK2.1
    rw [e4] at h2 ⊢
    exact bitC (by omega) h2
  rw [if_neg c2] at h2 ⊢
  by_cases c3 : w = 3
  · rw [if_pos c3] at h2 ⊢
    refine ⟨o + 21, CL_r2 hL2, LA_k hB2, ?_⟩
    rw [q6]; exact h2
  rw [if_neg c3] at h2 ⊢
  have n03 : ¬ inS w 0 3 = true := by
    intro e
    obtain ⟨j, hj1, rfl⟩ := inS_n (n := 3) (by omega) e
    have : j = 0 ∨ j = 1 ∨ j = 2 ∨ j = 3 := by omega
    rcases this with rfl | rfl | rfl | rfl
    · exact c0 rfl
    · exact c1 rfl
    · exact c2 rfl
    · exact c3 rfl
  rcases hk.resolve_left n03 with hpl | hpe
  · have e10 : inS w 10 13 = true := isPl_sub (c := 10) (by omega) hpl
    obtain ⟨j, hj1, hj2, rfl⟩ := inS_ab (a := 10) (b := 13) (by omega) (by omega) e10
    have ge : ¬ (20 : Int32) ≤ nI j := (show ¬ nI 20 ≤ nI j from nI_ge (by omega) (by omega))
    have g1 : nI j - (10 : Int32) = nI (j - 10) := pk_sub hj1
    rw [if_neg ge] at h2 ⊢
    rw [g1] at hpl h2 ⊢
    have hpl2 : isPl D.1 (nI (j - 10)) = true := by
      unfold isPl at hpl ⊢
      rw [hGV.1]; exact hpl
    have t2 := (hR2.pl (by omega) hpl2).2.2.1
    rw [ixN (by omega)] at h2
    have hj : j - 10 < 4 := by omega
    simp (disch := first | assumption | omega) only [CL_t2, CL_t21, CL_t40, CL_r1, CL_r2, CL_r3, CL_r4, CL_k59, CL_l59, CL_r9, CL_k65, CL_l65, CL_r10, CL_k91, CL_l91, CL_r11, CL_k117, CL_l117, CL_r12, CL_k118, CL_l118, CL_r23, CL_k119, CL_l119, CL_r24, CL_k120, CL_l120, CL_r27, CL_k121, CL_l121, CL_r28, CL_k274, CL_l274, CL_r29, CL_k279, CL_l279, CL_r30, CL_k280, CL_l280, CL_r32, CL_k281, CL_l281, mgR_sI, mgR_sL, mkd_sI, mkd_sL, mln_sI, mln_sL, Option.some.injEq, exists_eq_left', forall_eq, true_and, and_true, Nat.reduceLT, exists_eq_left, LA_k, LA_r0, LA_k1, LA_l1, LA_r1, LA_k2, LA_l2, LA_pl, LA_pk, LA_lr, LA_lk, LA_ll, LA_er, LA_ek, OU_k, OU_r0, OU_k1, OU_r13, OU_r5, OU_k60, OU_l60, ia0, ia4, ia8, ia12, ia16, ia20, ia24, ia52, ia60, ia68, im7, im14, ap6, iaN, ap1, ixN, vpN, t2]
    exact h2
  · have e20 : inS w 20 27 = true := isPe_sub (c := 20) (by omega) hpe
    obtain ⟨j, hj1, hj2, rfl⟩ := inS_ab (a := 20) (b := 27) (by omega) (by omega) e20
    have ge : (20 : Int32) ≤ nI j := (inS_iff.mp e20).1
    have g1 : nI j - (20 : Int32) = nI (j - 20) := pk_sub hj1
    rw [if_pos ge] at h2 ⊢
    rw [g1] at hpe h2 ⊢
    have hpe2 : isPe D.1 (nI (j - 20)) = true := by
      unfold isPe at hpe ⊢
      rw [hGV.2.1]; exact hpe
    have t2 := (hR2.pe (by omega) hpe2).2.2.2
    have t3 := (hR0.pe (by omega) hpe).2.2.2
    rw [ixN (by omega)] at h2
    have hj : j - 20 < 8 := by omega
    have e : D.1 (68 + (j - 20)) - S.1 (68 + (j - 20)) = D.2.2.2.2 (j - 20) := by
      rw [hGV.2.2 _ hj, Int32.add_comm, Int32.add_sub_cancel]
    simp (disch := first | assumption | omega) only [CL_t2, CL_t21, CL_t40, CL_r1, CL_r2, CL_r3, CL_r4, CL_k59, CL_l59, CL_r9, CL_k65, CL_l65, CL_r10, CL_k91, CL_l91, CL_r11, CL_k117, CL_l117, CL_r12, CL_k118, CL_l118, CL_r23, CL_k119, CL_l119, CL_r24, CL_k120, CL_l120, CL_r27, CL_k121, CL_l121, CL_r28, CL_k274, CL_l274, CL_r29, CL_k279, CL_l279, CL_r30, CL_k280, CL_l280, CL_r32, CL_k281, CL_l281, mgR_sI, mgR_sL, mkd_sI, mkd_sL, mln_sI, mln_sL, Option.some.injEq, exists_eq_left', forall_eq, true_and, and_true, Nat.reduceLT, exists_eq_left, LA_k, LA_r0, LA_k1, LA_l1, LA_r1, LA_k2, LA_l2, LA_pl, LA_pk, LA_lr, LA_lk, LA_ll, LA_er, LA_ek, OU_k, OU_r0, OU_k1, OU_r13, OU_r5, OU_k60, OU_l60, ia0, ia4, ia8, ia12, ia16, ia20, ia24, ia52, ia60, ia68, im7, im14, ap6, iaN, ap1, ixN, vpN, t2, t3, e]
    exact h2
theorem C_tried {o : Nat} {M : MM} {S : St} {x w : Int32} {Post : Int32 → MM → Prop} (hC : CR o M S) (hS : SOk S) (h0 : tkV S.1 x w = false → Post (-1) M) (h1 : ∀ n, n ≤ 60 → x = nI n → tkV S.1 x w = true → ∀ M', kX o M M' → CR o M' S → Post (tkS (goN S.2.2.2.2.2 n (dy0 S.1)) w) M') : wp_X0_tried M o x w Post := by
  have hL := hC.1
  have hR := hC.2.2.2.1
  unfold wp_X0_tried
  unfold tkV at h0 h1
  rw [show (inS w 10 13 && isPl S.1 (w - 10)) = isPl S.1 (w - 10) from andl_sub (c := 10) (by omega), show (inS w 20 27 && isPe S.1 (w - 20)) = isPe S.1 (w - 20) from and_sub (c := 20) (by omega)] at h0 h1
  rw [w0_within]
  by_cases e1 : inS x 1 60 = true
  · obtain ⟨n, hn1, hn2, rfl⟩ := inS_ab (a := 1) (b := 60) (by omega) (by omega) e1
    rw [if_pos e1, if_neg n10, in_4]
    by_cases e2 : inS w 0 3 = true
    · rw [if_pos e2, if_neg n10]
      exact wb_tried hC hS hn2 (Or.inl e2) (h1 n hn2 rfl (by simp [e1, e2]))
    · rw [if_neg e2, if_pos rfl, w0_isPlant hL hR]
      by_cases e3 : isPl S.1 (w - 10) = true
      · rw [if_pos e3, if_neg n10]
        exact wb_tried hC hS hn2 (Or.inr (Or.inl e3)) (h1 n hn2 rfl (by simp [e1, e3]))
      · rw [if_neg e3, if_pos rfl, w0_isPerson hL hR]
        by_cases e4 : isPe S.1 (w - 20) = true
        · rw [if_pos e4, if_neg n10]
          exact wb_tried hC hS hn2 (Or.inr (Or.inr e4)) (h1 n hn2 rfl (by simp [e1, e4]))
        · rw [if_neg e4, if_pos rfl]
          exact h0 (by simp [e2, e3, e4])
  · rw [if_neg e1, if_pos rfl]; exact h0 (by simp [e1])
/-! the tape -/
def tpC (o : Nat) : Nat → Nat → Prop := fun a k => a = o + 59 ∨ (a = o ∧ k = 7)
theorem CR.tp {o n : Nat} {M M' : MM} {S : St} {t : Nat → Int32} (h : CR o M S) (hF : fI (tpC o) M M') (ht : ∀ k, mgI M' (o + 59) k = t k) (hn : mgI M' o 7 = nI n) : CR o M' (S.1, S.2.1, S.2.2.1, t, n, S.2.2.2.2.2) := by
  obtain ⟨h1, h2, h3, h4, h5, h6, h7, h8, h9⟩ := h
  refine ⟨CL_of hF.e h1, OU_of hF.e h2, h3.g hF.e (fun a k hx => hF.2 _ _ (by unfold Prt at hx; unfold tpC; omega)), h4.g (fun b k _ _ => hF.2 _ _ (by unfold tpC; omega)), h5.g (fun b k _ _ => hF.2 _ _ (by unfold tpC; omega)), (hF.2 _ _ (by unfold tpC; omega)).trans h6, ht, hn, (hF.2 _ _ (by unfold tpC; omega)).trans h9⟩
theorem fI.kx {o : Nat} {M M' : MM} (hF : fI (tpC o) M M') : kX o M M' := ⟨hF.e, fun a k e => ⟨hF.2 _ _ (by unfold tpC; omega), hF.L _ _⟩⟩
theorem l0_push1 {o n f : Nat} {M0 M : MM} {t : Nat → Int32} {v j i : Int32} {X : MM → Prop} (hL : CL o M0) (hF : fI (tpC o) M0 M) (ht : ∀ k, mgI M (o + 59) k = t k) (hn : mgI M o 7 = nI n) (hn2 : n < 220) (hj : ¬ j < 0) (hi : i = j + (-8)) (h : ∀ M', fI (tpC o) M0 M' → (∀ k, mgI M' (o + 59) k = up t n (bt8 v j) k) → mgI M' o 7 = nI (n + 1) → wl_X0_push_3 o v X f M' i) : wl_X0_push_3 o v X (f + 1) M j := by
  have h1 : CL o M := CL_of hF.e hL
  have ne : ∀ v, mgI (msI M (o + 59) n v) o 7 = nI n := fun v => by rw [mgI_sI, if_neg (by omega)]; exact hn
  unfold wl_X0_push_3
  rw [if_neg hj]
  simp (disch := first | assumption | omega) only [CL_t2, CL_t21, CL_t40, CL_r1, CL_r2, CL_r3, CL_r4, CL_k59, CL_l59, CL_r9, CL_k65, CL_l65, CL_r10, CL_k91, CL_l91, CL_r11, CL_k117, CL_l117, CL_r12, CL_k118, CL_l118, CL_r23, CL_k119, CL_l119, CL_r24, CL_k120, CL_l120, CL_r27, CL_k121, CL_l121, CL_r28, CL_k274, CL_l274, CL_r29, CL_k279, CL_l279, CL_r30, CL_k280, CL_l280, CL_r32, CL_k281, CL_l281, mgR_sI, mgR_sL, mkd_sI, mkd_sL, mln_sI, mln_sL, Option.some.injEq, exists_eq_left', forall_eq, true_and, and_true, Nat.reduceLT, exists_eq_left, LA_k, LA_r0, LA_k1, LA_l1, LA_r1, LA_k2, LA_l2, LA_pl, LA_pk, LA_lr, LA_lk, LA_ll, LA_er, LA_ek, OU_k, OU_r0, OU_k1, OU_r13, OU_r5, OU_k60, OU_l60, hn, ia0, ia4, ia8, ia12, ia16, ia20, ia24, ia52, ia60, ia68, im7, im14, ap6, iaN, ap1, ixN, vpN, ne, ap1]
  rw [← hi]
  refine h _ ((hF.s (Or.inl rfl)).s (Or.inr ⟨rfl, rfl⟩)) (fun k => ?_) fd_e
  rw [mgI_sI, if_neg (by omega), mgI_sI]
  by_cases e : k = n
  · subst e; rw [if_pos ⟨rfl, rfl⟩, up_eq]; rfl
  · rw [if_neg (fun x => e x.2), up_ne (by omega), ht]
theorem w0_push {o n : Nat} {M0 M : MM} {t : Nat → Int32} {v : Int32} {Post : MM → Prop} (hL : CL o M0) (hF : fI (tpC o) M0 M) (ht : ∀ k, mgI M (o + 59) k = t k) (hn : mgI M o 7 = nI n) (hn2 : n + 4 ≤ 220) (h : ∀ M', fI (tpC o) M0 M' → (∀ k, mgI M' (o + 59) k = tyS t n v k) → mgI M' o 7 = nI (n + 4) → Post M') : wp_X0_push M o v Post := by
  unfold wp_X0_push
  refine ⟨5, ?_⟩
  refine l0_push1 hL hF ht hn (by omega) (by decide) (i := 16) (by decide) (fun M1 k1 k2 k3 => ?_)
  refine l0_push1 hL k1 k2 k3 (by omega) (by decide) (i := 8) (by decide) (fun M1 k1 k2 k3 => ?_)
  refine l0_push1 hL k1 k2 k3 (by omega) (by decide) (i := 0) (by decide) (fun M1 k1 k2 k3 => ?_)
  refine l0_push1 hL k1 k2 k3 (by omega) (by decide) (i := -8) (by decide) (fun M1 k1 k2 k3 => ?_)
  unfold wl_X0_push_3
  rw [if_pos (by decide)]
  exact h M1 k1 k2 k3
theorem C_feed {o : Nat} {M : MM} {S : St} {a b c d e : Int32} {Post : Int32 → MM → Prop} (hC : CR o M S) (hS : SOk S) (h0 : ¬ S.2.2.2.2.1 + 20 ≤ 220 → Post (-1) M) (h1 : S.2.2.2.2.1 + 20 ≤ 220 → ∀ M', kX o M M' → CR o M' (S.1, S.2.1, S.2.2.1, feS S.2.2.2.1 S.2.2.2.2.1 a b c d e, S.2.2.2.2.1 + 20, S.2.2.2.2.2) → SOk (S.1, S.2.1, S.2.2.1, feS S.2.2.2.1 S.2.2.2.2.1 a b c d e, S.2.2.2.2.1 + 20, S.2.2.2.2.2) → Post (nI (S.2.2.2.2.1 + 20)) M') : wp_X0_feed M o a b c d e Post := by
  have hb : S.2.2.2.2.1 ≤ 220 := hS.2.2.2.2.1
  have hL := hC.1
  have m4 := hC.2.2.2.2.2.2.1
  have m5 := hC.2.2.2.2.2.2.2.1
  unfold wp_X0_feed
  rw [m5, show nI S.2.2.2.2.1 + (20 : Int32) = nI (S.2.2.2.2.1 + 20) from nI_add _ 20]
  by_cases e1 : S.2.2.2.2.1 + 20 ≤ 220
  · rw [if_pos (show nI (S.2.2.2.2.1 + 20) ≤ (220 : Int32) from (show nI (S.2.2.2.2.1 + 20) ≤ nI 220 from nI_le e1 (by omega)))]
    refine w0_push hL fI.rf m4 m5 (by omega) (fun M1 k1 k2 k3 => ?_)
    refine w0_push hL k1 k2 k3 (by omega) (fun M1 k1 k2 k3 => ?_)
    refine w0_push hL k1 k2 k3 (by omega) (fun M1 k1 k2 k3 => ?_)
    refine w0_push hL k1 k2 k3 (by omega) (fun M1 k1 k2 k3 => ?_)
    refine w0_push hL k1 k2 k3 (by omega) (fun M1 k1 k2 k3 => ?_)
    rw [k3]
    exact h1 e1 M1 k1.kx (hC.tp k1 k2 k3) ⟨hS.1, hS.2.1, hS.2.2.1, hS.2.2.2.1, e1, hS.2.2.2.2.2⟩
  · rw [if_neg (show ¬ nI (S.2.2.2.2.1 + 20) ≤ (220 : Int32) from (show ¬ nI (S.2.2.2.2.1 + 20) ≤ nI 220 from nI_ge (by omega) (by omega)))]
    exact h0 e1
theorem w0_num {o k : Nat} {M : MM} {t : Nat → Int32} {Post : Int32 → MM → Prop} (hL : CL o M) (ht : ∀ k, mgI M (o + 59) k = t k) (hk : k < 55) (h : Post (tnS t k) M) : wp_X0_numberAt M o (nI k) Post := by
  have i4 : (4 : Int32) * nI k = nI (4 * k) := pk_mul 4 k
  unfold wp_X0_numberAt
  have key : ∀ f j v, j < 4 → wl_X0_numberAt_4 o (nI k) (fun M_13 x2_15 => Post x2_15 M_13) f M (tnF t k j v) (nI (j + 1)) → wl_X0_numberAt_4 o (nI k) (fun M_13 x2_15 => Post x2_15 M_13) (f + 1) M v (nI j) := by
    intro f j v hj hh
    unfold wl_X0_numberAt_4
    rw [i4, if_neg (show ¬ (4 : Int32) ≤ nI j from (show ¬ nI 4 ≤ nI j from nI_ge (by omega) (by omega)))]
    have hlt : 4 * k + j < 220 := by omega
    simp (disch := first | assumption | omega) only [CL_t2, CL_t21, CL_t40, CL_r1, CL_r2, CL_r3, CL_r4, CL_k59, CL_l59, CL_r9, CL_k65, CL_l65, CL_r10, CL_k91, CL_l91, CL_r11, CL_k117, CL_l117, CL_r12, CL_k118, CL_l118, CL_r23, CL_k119, CL_l119, CL_r24, CL_k120, CL_l120, CL_r27, CL_k121, CL_l121, CL_r28, CL_k274, CL_l274, CL_r29, CL_k279, CL_l279, CL_r30, CL_k280, CL_l280, CL_r32, CL_k281, CL_l281, mgR_sI, mgR_sL, mkd_sI, mkd_sL, mln_sI, mln_sL, Option.some.injEq, exists_eq_left', forall_eq, true_and, and_true, Nat.reduceLT, exists_eq_left, LA_k, LA_r0, LA_k1, LA_l1, LA_r1, LA_k2, LA_l2, LA_pl, LA_pk, LA_lr, LA_lk, LA_ll, LA_er, LA_ek, OU_k, OU_r0, OU_k1, OU_r13, OU_r5, OU_k60, OU_l60, ia0, ia4, ia8, ia12, ia16, ia20, ia24, ia52, ia60, ia68, im7, im14, ap6, iaN, ap1, ixN, vpN, ht]
    exact hh
  refine ⟨5, key 4 0 0 (by omega) (key 3 1 _ (by omega) (key 2 2 _ (by omega) (key 1 3 _ (by omega) ?_)))⟩
  unfold wl_X0_numberAt_4
  rw [if_pos (show (4 : Int32) ≤ nI (3 + 1) from by decide)]
  exact h
theorem l0_check {o l n : Nat} {M : MM} {t s : Nat → Int32} {Post : Int32 → MM → Prop} (hL : CL o M) (hR : LdR M (o + 2) s) (hl : l < 4) (hpl : isPl s (nI l) = true) (hn : n ≤ 7) (ht : ∀ k, mgI M (o + 59) k = t k) : ∀ j k, k + j = n → Post (ckS t s l j k) M → wl_X0_check_38 o (nI l) (nI n) (fun M_24 x3_26 => Post x3_26 M_24) (fun M_27 => Post (-1 : Int32) M_27) (j + 1) M (nI k) := by
  have hA := CL_A2 hL
  have hT := (hR.pl hl hpl).2
  intro j
  induction j with
  | zero =>
    intro k hk h
    unfold wl_X0_check_38
    rw [if_pos (nI_le (by omega) (by omega))]
    exact h
  | succ j ih =>
    intro k hk h
    unfold wl_X0_check_38
    rw [if_neg (nI_ge (by omega) (by omega))]
    refine w0_num hL ht (by omega) ?_
    have g1 : (6 : Int32) - nI k = nI (6 - k) := (show nI 6 - nI k = _ from pk_sub (by omega))
    refine ⟨o + 2, CL_r1 hL, LA_k hA, o + 2 + 1, LA_r0 hA, LA_k1 hA, ?_, o + 2 + 3 + 2 * l, ?_, LA_pk hA hl, ?_⟩
    · simp (disch := first | assumption | omega) only [mgR_sI, mgR_sL, mkd_sI, mkd_sL, mln_sI, mln_sL, Option.some.injEq, exists_eq_left', forall_eq, true_and, and_true, Nat.reduceLT, exists_eq_left, LA_k, LA_r0, LA_k1, LA_l1, LA_r1, LA_k2, LA_l2, LA_pl, LA_pk, LA_lr, LA_lk, LA_ll, LA_er, LA_ek, OU_k, OU_r0, OU_k1, OU_r13, OU_r5, OU_k60, OU_l60, ia0, ia4, ia8, ia12, ia16, ia20, ia24, ia52, ia60, ia68, im7, im14, ap6, iaN, ap1, ixN, vpN]
    · simp (disch := first | assumption | omega) only [mgR_sI, mgR_sL, mkd_sI, mkd_sL, mln_sI, mln_sL, Option.some.injEq, exists_eq_left', forall_eq, true_and, and_true, Nat.reduceLT, exists_eq_left, LA_k, LA_r0, LA_k1, LA_l1, LA_r1, LA_k2, LA_l2, LA_pl, LA_pk, LA_lr, LA_lk, LA_ll, LA_er, LA_ek, OU_k, OU_r0, OU_k1, OU_r13, OU_r5, OU_k60, OU_l60, ia0, ia4, ia8, ia12, ia16, ia20, ia24, ia52, ia60, ia68, im7, im14, ap6, iaN, ap1, ixN, vpN]
    rw [g1]
    refine w4_looked (j := 6 - k) hA hl hT (by omega) rfl ?_
    rw [show 24 + 7 * l + (6 - k) = 24 + 7 * l + 6 - k by omega]
    unfold ckS at h
    by_cases e : tnS t k = s (24 + 7 * l + 6 - k)
    · rw [if_pos e] at h ⊢
      simp only [forall_eq, ap1]
      exact ih (k + 1) (by omega) h
    · rw [if_neg e] at h ⊢; exact h
theorem C_check {o : Nat} {M : MM} {S : St} {x n : Int32} {Post : Int32 → MM → Prop} (hC : CR o M S) (hS : SOk S) (h0 : ckV S x n = false → Post (-2) M) (h1 : ∀ l' n', l' < 4 → n' ≤ 7 → x = nI l' → n = nI n' → ckV S x n = true → ∀ M', kX o M M' → CR o M' (S.1, S.2.1, S.2.2.1, S.2.2.2.1, 0, S.2.2.2.2.2) → SOk (S.1, S.2.1, S.2.2.1, S.2.2.2.1, 0, S.2.2.2.2.2) → Post (ckS S.2.2.2.1 S.1 l' n' 0) M') : wp_X0_check M o x n Post := by
  have hL := hC.1
  have hR := hC.2.2.2.1
  have m4 := hC.2.2.2.2.2.2.1
  have m5 := hC.2.2.2.2.2.2.2.1
  have hb : S.2.2.2.2.1 ≤ 220 := hS.2.2.2.2.1
  have hd : nI S.2.2.2.2.1 / (4 : Int32) = nI (S.2.2.2.2.1 / 4) := (show nI S.2.2.2.2.1 / nI 4 = _ from pk_div (by omega) (by omega) (by omega))
  unfold wp_X0_check
  unfold ckV at h0 h1
  rw [w0_isPlant hL hR]
  by_cases e1 : isPl S.1 x = true
  · rw [if_pos e1, if_neg n10, w0_within]
    by_cases e2 : inS n 0 7 = true
    · rw [if_pos e2, if_neg n10, m5, hd]
      by_cases e3 : n ≤ nI (S.2.2.2.2.1 / 4)
      · rw [if_pos e3]
        obtain ⟨l', hl', rfl⟩ := isPl_n e1
        obtain ⟨n', hn', rfl⟩ := inS_n (n := 7) (by omega) e2
        simp only [forall_eq]
        have hF : fI (tpC o) M (msI M o 7 0) := fI.rf.s (Or.inr ⟨rfl, rfl⟩)
        have m4' : ∀ k, mgI (msI M o 7 0) (o + 59) k = S.2.2.2.1 k := fun k => by rw [mgI_sI, if_neg (by omega)]; exact m4 k
        have hC2 := hC.tp (n := 0) hF m4' fd_e
        exact ⟨n' + 1, l0_check hC2.1 hC2.2.2.2.1 hl' e1 hn' m4' n' 0 (by omega) (h1 l' n' hl' hn' rfl rfl (by simp [e1, e2, e3]) _ hF.kx hC2 ⟨hS.1, hS.2.1, hS.2.2.1, hS.2.2.2.1, by show 0 ≤ 220; omega, hS.2.2.2.2.2⟩)⟩
      · rw [if_neg e3]; exact h0 (by simp [e3])
    · rw [if_neg e2, if_pos rfl]; exact h0 (by simp [e2])
  · rw [if_neg e1, if_pos rfl]; exact h0 (by simp [e1])
