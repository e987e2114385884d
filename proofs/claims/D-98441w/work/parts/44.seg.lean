/-! the model: codes run -/
set_option maxRecDepth 100000
theorem cd_div {q v : Nat} (hq : q < 16) (hv : v < 1048576) : nI (1048576 * q + v) / (1048576 : Int32) = nI q := by
  rw [show nI (1048576 * q + v) / (1048576 : Int32) = nI ((1048576 * q + v) / 1048576) from (show nI (1048576 * q + v) / nI 1048576 = _ from pk_div (by omega) (by omega) (by omega))]
  congr 1; omega
theorem cd_rem {q v : Nat} (hq : q < 16) (hv : v < 1048576) : rm_ (nI (1048576 * q + v)) (1048576 : Int32) = nI v := by
  rw [show rm_ (nI (1048576 * q + v)) (1048576 : Int32) = nI ((1048576 * q + v) % 1048576) from (show nI (1048576 * q + v) - nI (1048576 * q + v) / nI 1048576 * nI 1048576 = _ from pk_rem (by omega) (by omega) (by omega))]
  congr 1; omega
theorem qn2_0 : (nI 2 = (0 : Int32)) = False := eq_false (by decide)
theorem qn2_1 : (nI 2 = (1 : Int32)) = False := eq_false (by decide)
theorem qn2_3 : (nI 2 = (3 : Int32)) = False := eq_false (by decide)
theorem qn2_4 : (nI 2 = (4 : Int32)) = False := eq_false (by decide)
theorem qn2_5 : (nI 2 = (5 : Int32)) = False := eq_false (by decide)
theorem qn2_6 : (nI 2 = (6 : Int32)) = False := eq_false (by decide)
theorem qn2_7 : (nI 2 = (7 : Int32)) = False := eq_false (by decide)
theorem qn2_8 : (nI 2 = (8 : Int32)) = False := eq_false (by decide)
theorem qn2_10 : (nI 2 = (10 : Int32)) = False := eq_false (by decide)
theorem qn2_11 : (nI 2 = (11 : Int32)) = False := eq_false (by decide)
theorem qn2_12 : (nI 2 = (12 : Int32)) = False := eq_false (by decide)
theorem qn3_0 : (nI 3 = (0 : Int32)) = False := eq_false (by decide)
theorem qn3_1 : (nI 3 = (1 : Int32)) = False := eq_false (by decide)
theorem qn3_2 : (nI 3 = (2 : Int32)) = False := eq_false (by decide)
theorem qn3_4 : (nI 3 = (4 : Int32)) = False := eq_false (by decide)
theorem qn3_5 : (nI 3 = (5 : Int32)) = False := eq_false (by decide)
theorem qn3_6 : (nI 3 = (6 : Int32)) = False := eq_false (by decide)
theorem qn3_7 : (nI 3 = (7 : Int32)) = False := eq_false (by decide)
theorem qn3_8 : (nI 3 = (8 : Int32)) = False := eq_false (by decide)
theorem qn3_10 : (nI 3 = (10 : Int32)) = False := eq_false (by decide)
theorem qn3_11 : (nI 3 = (11 : Int32)) = False := eq_false (by decide)
theorem qn3_12 : (nI 3 = (12 : Int32)) = False := eq_false (by decide)
theorem qn4_0 : (nI 4 = (0 : Int32)) = False := eq_false (by decide)
theorem qn4_1 : (nI 4 = (1 : Int32)) = False := eq_false (by decide)
theorem qn4_2 : (nI 4 = (2 : Int32)) = False := eq_false (by decide)
theorem qn4_3 : (nI 4 = (3 : Int32)) = False := eq_false (by decide)
theorem qn4_5 : (nI 4 = (5 : Int32)) = False := eq_false (by decide)
theorem qn4_6 : (nI 4 = (6 : Int32)) = False := eq_false (by decide)
theorem qn4_7 : (nI 4 = (7 : Int32)) = False := eq_false (by decide)
theorem qn4_8 : (nI 4 = (8 : Int32)) = False := eq_false (by decide)
theorem qn4_10 : (nI 4 = (10 : Int32)) = False := eq_false (by decide)
theorem qn4_11 : (nI 4 = (11 : Int32)) = False := eq_false (by decide)
theorem qn4_12 : (nI 4 = (12 : Int32)) = False := eq_false (by decide)
theorem qn5_0 : (nI 5 = (0 : Int32)) = False := eq_false (by decide)
theorem qn5_1 : (nI 5 = (1 : Int32)) = False := eq_false (by decide)
theorem qn5_2 : (nI 5 = (2 : Int32)) = False := eq_false (by decide)
theorem qn5_3 : (nI 5 = (3 : Int32)) = False := eq_false (by decide)
theorem qn5_4 : (nI 5 = (4 : Int32)) = False := eq_false (by decide)
theorem qn5_6 : (nI 5 = (6 : Int32)) = False := eq_false (by decide)
theorem qn5_7 : (nI 5 = (7 : Int32)) = False := eq_false (by decide)
theorem qn5_8 : (nI 5 = (8 : Int32)) = False := eq_false (by decide)
theorem qn5_10 : (nI 5 = (10 : Int32)) = False := eq_false (by decide)
theorem qn5_11 : (nI 5 = (11 : Int32)) = False := eq_false (by decide)
theorem qn5_12 : (nI 5 = (12 : Int32)) = False := eq_false (by decide)
theorem qn6_0 : (nI 6 = (0 : Int32)) = False := eq_false (by decide)
theorem qn6_1 : (nI 6 = (1 : Int32)) = False := eq_false (by decide)
theorem qn6_2 : (nI 6 = (2 : Int32)) = False := eq_false (by decide)
theorem qn6_3 : (nI 6 = (3 : Int32)) = False := eq_false (by decide)
theorem qn6_4 : (nI 6 = (4 : Int32)) = False := eq_false (by decide)
theorem qn6_5 : (nI 6 = (5 : Int32)) = False := eq_false (by decide)
theorem qn6_7 : (nI 6 = (7 : Int32)) = False := eq_false (by decide)
theorem qn6_8 : (nI 6 = (8 : Int32)) = False := eq_false (by decide)
theorem qn6_10 : (nI 6 = (10 : Int32)) = False := eq_false (by decide)
theorem qn6_11 : (nI 6 = (11 : Int32)) = False := eq_false (by decide)
theorem qn6_12 : (nI 6 = (12 : Int32)) = False := eq_false (by decide)
theorem qn7_0 : (nI 7 = (0 : Int32)) = False := eq_false (by decide)
theorem qn7_1 : (nI 7 = (1 : Int32)) = False := eq_false (by decide)
theorem qn7_2 : (nI 7 = (2 : Int32)) = False := eq_false (by decide)
theorem qn7_3 : (nI 7 = (3 : Int32)) = False := eq_false (by decide)
theorem qn7_4 : (nI 7 = (4 : Int32)) = False := eq_false (by decide)
theorem qn7_5 : (nI 7 = (5 : Int32)) = False := eq_false (by decide)
theorem qn7_6 : (nI 7 = (6 : Int32)) = False := eq_false (by decide)
theorem qn7_8 : (nI 7 = (8 : Int32)) = False := eq_false (by decide)
theorem qn7_10 : (nI 7 = (10 : Int32)) = False := eq_false (by decide)
theorem qn7_11 : (nI 7 = (11 : Int32)) = False := eq_false (by decide)
theorem qn7_12 : (nI 7 = (12 : Int32)) = False := eq_false (by decide)
theorem qn8_0 : (nI 8 = (0 : Int32)) = False := eq_false (by decide)
theorem qn8_1 : (nI 8 = (1 : Int32)) = False := eq_false (by decide)
theorem qn8_2 : (nI 8 = (2 : Int32)) = False := eq_false (by decide)
theorem qn8_3 : (nI 8 = (3 : Int32)) = False := eq_false (by decide)
theorem qn8_4 : (nI 8 = (4 : Int32)) = False := eq_false (by decide)
theorem qn8_5 : (nI 8 = (5 : Int32)) = False := eq_false (by decide)
theorem qn8_6 : (nI 8 = (6 : Int32)) = False := eq_false (by decide)
theorem qn8_7 : (nI 8 = (7 : Int32)) = False := eq_false (by decide)
theorem qn8_10 : (nI 8 = (10 : Int32)) = False := eq_false (by decide)
theorem qn8_11 : (nI 8 = (11 : Int32)) = False := eq_false (by decide)
theorem qn8_12 : (nI 8 = (12 : Int32)) = False := eq_false (by decide)
theorem qn9_0 : (nI 9 = (0 : Int32)) = False := eq_false (by decide)
theorem qn9_1 : (nI 9 = (1 : Int32)) = False := eq_false (by decide)
theorem qn9_2 : (nI 9 = (2 : Int32)) = False := eq_false (by decide)
theorem qn9_3 : (nI 9 = (3 : Int32)) = False := eq_false (by decide)
theorem qn9_4 : (nI 9 = (4 : Int32)) = False := eq_false (by decide)
theorem qn9_5 : (nI 9 = (5 : Int32)) = False := eq_false (by decide)
theorem qn9_6 : (nI 9 = (6 : Int32)) = False := eq_false (by decide)
theorem qn9_7 : (nI 9 = (7 : Int32)) = False := eq_false (by decide)
theorem qn9_8 : (nI 9 = (8 : Int32)) = False := eq_false (by decide)
theorem qn9_10 : (nI 9 = (10 : Int32)) = False := eq_false (by decide)
theorem qn9_11 : (nI 9 = (11 : Int32)) = False := eq_false (by decide)
theorem qn9_12 : (nI 9 = (12 : Int32)) = False := eq_false (by decide)
theorem qt2 : (nI 2 = (2 : Int32)) = True := eq_true rfl
theorem qt3 : (nI 3 = (3 : Int32)) = True := eq_true rfl
theorem qt4 : (nI 4 = (4 : Int32)) = True := eq_true rfl
theorem qt5 : (nI 5 = (5 : Int32)) = True := eq_true rfl
theorem qt6 : (nI 6 = (6 : Int32)) = True := eq_true rfl
theorem qt7 : (nI 7 = (7 : Int32)) = True := eq_true rfl
theorem qt8 : (nI 8 = (8 : Int32)) = True := eq_true rfl
def WLc (o e base : Nat) (X201 X233 : MM → Prop) (M : MM) (n k : Nat) : Prop := ∃ F, wl_X7_comesTo_16 o (nI e) (nI base) X201 X233 F M (nI n) (nI k)
theorem q_ne {a b : Nat} (h : a < 1000) (hb : b < 1000) (hne : a ≠ b) : ¬ nI a = nI b := fun e => hne ((nI_eq (by omega) (by omega)).mp e)
theorem ct_num {o e base n k v : Nat} {X201 X233 : MM → Prop} {M : MM} (hL : ML o M) (hk : k < e) (he : e ≤ 1100) (hn : n < 220) (hc : mgI M (o + 11) k = nI (1048576 * 0 + v)) (hv : v < 1048576) (h : WLc o e base X201 X233 (msI M (o + 17) n (nI v)) (n + 1) (k + 1)) : WLc o e base X201 X233 M n k := by
  obtain ⟨F, hF⟩ := h
  refine ⟨F + 1, ?_⟩
  unfold wl_X7_comesTo_16
  rw [if_neg (nI_ge hk (by omega))]
  simp (disch := first | assumption | omega) only [mgR_sI, mgR_sL, mkd_sI, mkd_sL, mln_sI, mln_sL, Option.some.injEq, exists_eq_left', forall_eq, true_and, and_true, Nat.reduceLT, exists_eq_left, ML_r0, ML_k1, ML_l1, ML_r1, ML_k2, ML_l2, ML_r2, ML_k3, ML_l3, ML_r3, ML_k4, ML_l4, ML_r13, ML_k5, ML_l5, ML_r14, ML_k6, ML_l6, ML_r15, ML_k7, ML_l7, ML_r16, ML_k8, ML_l8, ML_r17, ML_k9, ML_l9, ML_r18, ML_k10, ML_l10, ML_r19, ML_k11, ML_l11, ML_r20, ML_k12, ML_l12, ML_r21, ML_k13, ML_l13, ML_r22, ML_k14, ML_l14, ML_r23, ML_k15, ML_l15, ML_r24, ML_k16, ML_l16, ML_r25, ML_k17, ML_l17, ML_r26, ML_k18, ML_l18, ML_r30, ML_k19, ML_l19, ML_r35, ML_k20, ML_l20, ML_r36, ML_k21, ML_l21, ML_r37, ML_k22, ML_l22, ML_r38, ML_k23, ML_l23, ML_r40, ML_k24, ML_l24, ML_r41, ML_k25, ML_l25, ML_r42, ML_k26, ML_l26, ML_r43, ML_k27, ML_l27, ML_r44, ML_k28, ML_l28, ML_r45, ML_k29, ML_l29, ML_r48, ML_k30, ML_l30, ML_r51, ML_k31, ML_l31, ML_r52, ML_k32, ML_l32, ia0, ia4, ia8, ia12, ia16, ia20, ia24, ia52, ia60, ia68, im7, im14, ap6, iaN, ap1, ixN, vpN, hc, cd_div (q := 0) (by omega) hv, cd_rem (q := 0) (by omega) hv]
  rw [if_pos (show nI 0 = 0 from rfl)]
  unfold wb_X7_comesTo_63 wb_X7_comesTo_85
  simp (disch := first | assumption | omega) only [mgR_sI, mgR_sL, mkd_sI, mkd_sL, mln_sI, mln_sL, Option.some.injEq, exists_eq_left', forall_eq, true_and, and_true, Nat.reduceLT, exists_eq_left, ML_r0, ML_k1, ML_l1, ML_r1, ML_k2, ML_l2, ML_r2, ML_k3, ML_l3, ML_r3, ML_k4, ML_l4, ML_r13, ML_k5, ML_l5, ML_r14, ML_k6, ML_l6, ML_r15, ML_k7, ML_l7, ML_r16, ML_k8, ML_l8, ML_r17, ML_k9, ML_l9, ML_r18, ML_k10, ML_l10, ML_r19, ML_k11, ML_l11, ML_r20, ML_k12, ML_l12, ML_r21, ML_k13, ML_l13, ML_r22, ML_k14, ML_l14, ML_r23, ML_k15, ML_l15, ML_r24, ML_k16, ML_l16, ML_r25, ML_k17, ML_l17, ML_r26, ML_k18, ML_l18, ML_r30, ML_k19, ML_l19, ML_r35, ML_k20, ML_l20, ML_r36, ML_k21, ML_l21, ML_r37, ML_k22, ML_l22, ML_r38, ML_k23, ML_l23, ML_r40, ML_k24, ML_l24, ML_r41, ML_k25, ML_l25, ML_r42, ML_k26, ML_l26, ML_r43, ML_k27, ML_l27, ML_r44, ML_k28, ML_l28, ML_r45, ML_k29, ML_l29, ML_r48, ML_k30, ML_l30, ML_r51, ML_k31, ML_l31, ML_r52, ML_k32, ML_l32, ia0, ia4, ia8, ia12, ia16, ia20, ia24, ia52, ia60, ia68, im7, im14, ap6, iaN, ap1, ixN, vpN]
  rw [if_pos (show nI 0 = 0 from rfl)]
  exact hF
theorem ct_fac {o e base n k v : Nat} {x : Int32} {X201 X233 : MM → Prop} {M : MM} (hL : ML o M) (hk : k < e) (he : e ≤ 1100) (hn : n < 220) (hc : mgI M (o + 11) k = nI (1048576 * 1 + v)) (hv : v < 13) (hx : mgI M (o + 18) v = x) (h : WLc o e base X201 X233 (msI M (o + 17) n x) (n + 1) (k + 1)) : WLc o e base X201 X233 M n k := by
  obtain ⟨F, hF⟩ := h
  refine ⟨F + 1, ?_⟩
  unfold wl_X7_comesTo_16
  rw [if_neg (nI_ge hk (by omega))]
  simp (disch := first | assumption | omega) only [mgR_sI, mgR_sL, mkd_sI, mkd_sL, mln_sI, mln_sL, Option.some.injEq, exists_eq_left', forall_eq, true_and, and_true, Nat.reduceLT, exists_eq_left, ML_r0, ML_k1, ML_l1, ML_r1, ML_k2, ML_l2, ML_r2, ML_k3, ML_l3, ML_r3, ML_k4, ML_l4, ML_r13, ML_k5, ML_l5, ML_r14, ML_k6, ML_l6, ML_r15, ML_k7, ML_l7, ML_r16, ML_k8, ML_l8, ML_r17, ML_k9, ML_l9, ML_r18, ML_k10, ML_l10, ML_r19, ML_k11, ML_l11, ML_r20, ML_k12, ML_l12, ML_r21, ML_k13, ML_l13, ML_r22, ML_k14, ML_l14, ML_r23, ML_k15, ML_l15, ML_r24, ML_k16, ML_l16, ML_r25, ML_k17, ML_l17, ML_r26, ML_k18, ML_l18, ML_r30, ML_k19, ML_l19, ML_r35, ML_k20, ML_l20, ML_r36, ML_k21, ML_l21, ML_r37, ML_k22, ML_l22, ML_r38, ML_k23, ML_l23, ML_r40, ML_k24, ML_l24, ML_r41, ML_k25, ML_l25, ML_r42, ML_k26, ML_l26, ML_r43, ML_k27, ML_l27, ML_r44, ML_k28, ML_l28, ML_r45, ML_k29, ML_l29, ML_r48, ML_k30, ML_l30, ML_r51, ML_k31, ML_l31, ML_r52, ML_k32, ML_l32, ia0, ia4, ia8, ia12, ia16, ia20, ia24, ia52, ia60, ia68, im7, im14, ap6, iaN, ap1, ixN, vpN, hc, cd_div (q := 1) (show 1 < 16 by omega) (show v < 1048576 by omega), cd_rem (q := 1) (show 1 < 16 by omega) (show v < 1048576 by omega)]
  rw [if_neg (show ¬ nI 1 = 0 by decide), if_pos (show nI 1 = (1 : Int32) from rfl)]
  unfold wb_X7_comesTo_63 wb_X7_comesTo_85
  simp (disch := first | assumption | omega) only [mgR_sI, mgR_sL, mkd_sI, mkd_sL, mln_sI, mln_sL, Option.some.injEq, exists_eq_left', forall_eq, true_and, and_true, Nat.reduceLT, exists_eq_left, ML_r0, ML_k1, ML_l1, ML_r1, ML_k2, ML_l2, ML_r2, ML_k3, ML_l3, ML_r3, ML_k4, ML_l4, ML_r13, ML_k5, ML_l5, ML_r14, ML_k6, ML_l6, ML_r15, ML_k7, ML_l7, ML_r16, ML_k8, ML_l8, ML_r17, ML_k9, ML_l9, ML_r18, ML_k10, ML_l10, ML_r19, ML_k11, ML_l11, ML_r20, ML_k12, ML_l12, ML_r21, ML_k13, ML_l13, ML_r22, ML_k14, ML_l14, ML_r23, ML_k15, ML_l15, ML_r24, ML_k16, ML_l16, ML_r25, ML_k17, ML_l17, ML_r26, ML_k18, ML_l18, ML_r30, ML_k19, ML_l19, ML_r35, ML_k20, ML_l20, ML_r36, ML_k21, ML_l21, ML_r37, ML_k22, ML_l22, ML_r38, ML_k23, ML_l23, ML_r40, ML_k24, ML_l24, ML_r41, ML_k25, ML_l25, ML_r42, ML_k26, ML_l26, ML_r43, ML_k27, ML_l27, ML_r44, ML_k28, ML_l28, ML_r45, ML_k29, ML_l29, ML_r48, ML_k30, ML_l30, ML_r51, ML_k31, ML_l31, ML_r52, ML_k32, ML_l32, ia0, ia4, ia8, ia12, ia16, ia20, ia24, ia52, ia60, ia68, im7, im14, ap6, iaN, ap1, ixN, vpN, hx]
  rw [if_neg (show ¬ nI 1 = 0 by decide)]
  exact hF
theorem ct_not {o e base n k : Nat} {x : Int32} {X201 X233 : MM → Prop} {M : MM} (hL : ML o M) (hk : k < e) (he : e ≤ 1100) (hn : n < 220) (hc : mgI M (o + 11) k = nI (1048576 * 10 + 0)) (hx : mgI M (o + 17) n = x) (h : WLc o e base X201 X233 (msI M (o + 17) n (1 - x)) (n + 1) (k + 1)) : WLc o e base X201 X233 M (n + 1) k := by
  obtain ⟨F, hF⟩ := h
  refine ⟨F + 1, ?_⟩
  unfold wl_X7_comesTo_16
  rw [if_neg (nI_ge hk (by omega))]
  have g1 : nI (n + 1) - (1 : Int32) = nI n := as1 (by omega)
  simp (disch := first | assumption | omega) only [mgR_sI, mgR_sL, mkd_sI, mkd_sL, mln_sI, mln_sL, Option.some.injEq, exists_eq_left', forall_eq, true_and, and_true, Nat.reduceLT, exists_eq_left, ML_r0, ML_k1, ML_l1, ML_r1, ML_k2, ML_l2, ML_r2, ML_k3, ML_l3, ML_r3, ML_k4, ML_l4, ML_r13, ML_k5, ML_l5, ML_r14, ML_k6, ML_l6, ML_r15, ML_k7, ML_l7, ML_r16, ML_k8, ML_l8, ML_r17, ML_k9, ML_l9, ML_r18, ML_k10, ML_l10, ML_r19, ML_k11, ML_l11, ML_r20, ML_k12, ML_l12, ML_r21, ML_k13, ML_l13, ML_r22, ML_k14, ML_l14, ML_r23, ML_k15, ML_l15, ML_r24, ML_k16, ML_l16, ML_r25, ML_k17, ML_l17, ML_r26, ML_k18, ML_l18, ML_r30, ML_k19, ML_l19, ML_r35, ML_k20, ML_l20, ML_r36, ML_k21, ML_l21, ML_r37, ML_k22, ML_l22, ML_r38, ML_k23, ML_l23, ML_r40, ML_k24, ML_l24, ML_r41, ML_k25, ML_l25, ML_r42, ML_k26, ML_l26, ML_r43, ML_k27, ML_l27, ML_r44, ML_k28, ML_l28, ML_r45, ML_k29, ML_l29, ML_r48, ML_k30, ML_l30, ML_r51, ML_k31, ML_l31, ML_r52, ML_k32, ML_l32, ia0, ia4, ia8, ia12, ia16, ia20, ia24, ia52, ia60, ia68, im7, im14, ap6, iaN, ap1, ixN, vpN, hc, cd_div (q := 10) (v := 0) (by omega) (by omega), cd_rem (q := 10) (v := 0) (by omega) (by omega), g1, hx]
  rw [if_neg (show ¬ nI 10 = 0 by decide), if_neg (show ¬ nI 10 = (1 : Int32) by decide), if_pos (show nI 10 = (10 : Int32) from rfl)]
  exact hF
/-- a jump, if what is on top is b -/
theorem ct_jmp {o e base n k v q : Nat} {b x : Int32} {X201 X233 : MM → Prop} {M : MM} (hL : ML o M) (hk : k < e) (he : e ≤ 1100) (hn : n < 220) (hq : (q = 11 ∧ b = 0) ∨ (q = 12 ∧ b = 1)) (hc : mgI M (o + 11) k = nI (1048576 * q + v)) (hv : v < 1048576) (hx : mgI M (o + 17) n = x) (h1 : x = b → WLc o e base X201 X233 M (n + 1) (base + v)) (h0 : ¬ x = b → WLc o e base X201 X233 M n (k + 1)) : WLc o e base X201 X233 M (n + 1) k := by
  have g1 : nI (n + 1) - (1 : Int32) = nI n := as1 (by omega)
  have hq2 : q < 16 := by omega
  have key : ∀ F, (x = b → wl_X7_comesTo_16 o (nI e) (nI base) X201 X233 F M (nI (n + 1)) (nI (base + v))) → (¬ x = b → wl_X7_comesTo_16 o (nI e) (nI base) X201 X233 F M (nI n) (nI (k + 1))) → wl_X7_comesTo_16 o (nI e) (nI base) X201 X233 (F + 1) M (nI (n + 1)) (nI k) := by
    intro F k1 k0
    unfold wl_X7_comesTo_16
    rw [if_neg (nI_ge hk (by omega))]
    simp (disch := first | assumption | omega) only [mgR_sI, mgR_sL, mkd_sI, mkd_sL, mln_sI, mln_sL, Option.some.injEq, exists_eq_left', forall_eq, true_and, and_true, Nat.reduceLT, exists_eq_left, ML_r0, ML_k1, ML_l1, ML_r1, ML_k2, ML_l2, ML_r2, ML_k3, ML_l3, ML_r3, ML_k4, ML_l4, ML_r13, ML_k5, ML_l5, ML_r14, ML_k6, ML_l6, ML_r15, ML_k7, ML_l7, ML_r16, ML_k8, ML_l8, ML_r17, ML_k9, ML_l9, ML_r18, ML_k10, ML_l10, ML_r19, ML_k11, ML_l11, ML_r20, ML_k12, ML_l12, ML_r21, ML_k13, ML_l13, ML_r22, ML_k14, ML_l14, ML_r23, ML_k15, ML_l15, ML_r24, ML_k16, ML_l16, ML_r25, ML_k17, ML_l17, ML_r26, ML_k18, ML_l18, ML_r30, ML_k19, ML_l19, ML_r35, ML_k20, ML_l20, ML_r36, ML_k21, ML_l21, ML_r37, ML_k22, ML_l22, ML_r38, ML_k23, ML_l23, ML_r40, ML_k24, ML_l24, ML_r41, ML_k25, ML_l25, ML_r42, ML_k26, ML_l26, ML_r43, ML_k27, ML_l27, ML_r44, ML_k28, ML_l28, ML_r45, ML_k29, ML_l29, ML_r48, ML_k30, ML_l30, ML_r51, ML_k31, ML_l31, ML_r52, ML_k32, ML_l32, ia0, ia4, ia8, ia12, ia16, ia20, ia24, ia52, ia60, ia68, im7, im14, ap6, iaN, ap1, ixN, vpN, hc, cd_div hq2 hv, cd_rem hq2 hv]
    rcases hq with ⟨rfl, rfl⟩ | ⟨rfl, rfl⟩
    · rw [if_neg (show ¬ nI 11 = 0 by decide), if_neg (show ¬ nI 11 = (1 : Int32) by decide), if_neg (show ¬ nI 11 = (10 : Int32) by decide), if_pos (show nI 11 = (11 : Int32) from rfl)]
      unfold wb_X7_comesTo_135 wb_X7_comesTo_155
      simp (disch := first | assumption | omega) only [mgR_sI, mgR_sL, mkd_sI, mkd_sL, mln_sI, mln_sL, Option.some.injEq, exists_eq_left', forall_eq, true_and, and_true, Nat.reduceLT, exists_eq_left, ML_r0, ML_k1, ML_l1, ML_r1, ML_k2, ML_l2, ML_r2, ML_k3, ML_l3, ML_r3, ML_k4, ML_l4, ML_r13, ML_k5, ML_l5, ML_r14, ML_k6, ML_l6, ML_r15, ML_k7, ML_l7, ML_r16, ML_k8, ML_l8, ML_r17, ML_k9, ML_l9, ML_r18, ML_k10, ML_l10, ML_r19, ML_k11, ML_l11, ML_r20, ML_k12, ML_l12, ML_r21, ML_k13, ML_l13, ML_r22, ML_k14, ML_l14, ML_r23, ML_k15, ML_l15, ML_r24, ML_k16, ML_l16, ML_r25, ML_k17, ML_l17, ML_r26, ML_k18, ML_l18, ML_r30, ML_k19, ML_l19, ML_r35, ML_k20, ML_l20, ML_r36, ML_k21, ML_l21, ML_r37, ML_k22, ML_l22, ML_r38, ML_k23, ML_l23, ML_r40, ML_k24, ML_l24, ML_r41, ML_k25, ML_l25, ML_r42, ML_k26, ML_l26, ML_r43, ML_k27, ML_l27, ML_r44, ML_k28, ML_l28, ML_r45, ML_k29, ML_l29, ML_r48, ML_k30, ML_l30, ML_r51, ML_k31, ML_l31, ML_r52, ML_k32, ML_l32, ia0, ia4, ia8, ia12, ia16, ia20, ia24, ia52, ia60, ia68, im7, im14, ap6, iaN, ap1, ixN, vpN, g1, hx]
      rw [if_neg (show ¬ nI 11 = (12 : Int32) by decide)]
      by_cases e : x = 0
      · rw [if_pos e]; exact k1 e
      · rw [if_neg e]; exact k0 e
    · rw [if_neg (show ¬ nI 12 = 0 by decide), if_neg (show ¬ nI 12 = (1 : Int32) by decide), if_neg (show ¬ nI 12 = (10 : Int32) by decide), if_neg (show ¬ nI 12 = (11 : Int32) by decide), if_pos (show nI 12 = (12 : Int32) from rfl)]
      unfold wb_X7_comesTo_135 wb_X7_comesTo_155
      simp (disch := first | assumption | omega) only [mgR_sI, mgR_sL, mkd_sI, mkd_sL, mln_sI, mln_sL, Option.some.injEq, exists_eq_left', forall_eq, true_and, and_true, Nat.reduceLT, exists_eq_left, ML_r0, ML_k1, ML_l1, ML_r1, ML_k2, ML_l2, ML_r2, ML_k3, ML_l3, ML_r3, ML_k4, ML_l4, ML_r13, ML_k5, ML_l5, ML_r14, ML_k6, ML_l6, ML_r15, ML_k7, ML_l7, ML_r16, ML_k8, ML_l8, ML_r17, ML_k9, ML_l9, ML_r18, ML_k10, ML_l10, ML_r19, ML_k11, ML_l11, ML_r20, ML_k12, ML_l12, ML_r21, ML_k13, ML_l13, ML_r22, ML_k14, ML_l14, ML_r23, ML_k15, ML_l15, ML_r24, ML_k16, ML_l16, ML_r25, ML_k17, ML_l17, ML_r26, ML_k18, ML_l18, ML_r30, ML_k19, ML_l19, ML_r35, ML_k20, ML_l20, ML_r36, ML_k21, ML_l21, ML_r37, ML_k22, ML_l22, ML_r38, ML_k23, ML_l23, ML_r40, ML_k24, ML_l24, ML_r41, ML_k25, ML_l25, ML_r42, ML_k26, ML_l26, ML_r43, ML_k27, ML_l27, ML_r44, ML_k28, ML_l28, ML_r45, ML_k29, ML_l29, ML_r48, ML_k30, ML_l30, ML_r51, ML_k31, ML_l31, ML_r52, ML_k32, ML_l32, ia0, ia4, ia8, ia12, ia16, ia20, ia24, ia52, ia60, ia68, im7, im14, ap6, iaN, ap1, ixN, vpN, g1, hx]
      rw [if_pos (show nI 12 = (12 : Int32) from rfl)]
      by_cases e : x = 1
      · rw [if_pos e]; exact k1 e
      · rw [if_neg e]; exact k0 e
  by_cases e : x = b
  · obtain ⟨F, hF⟩ := h1 e
    exact ⟨F + 1, key F (fun _ => hF) (fun y => absurd e y)⟩
  · obtain ⟨F, hF⟩ := h0 e
    exact ⟨F + 1, key F (fun y => absurd y e) (fun _ => hF)⟩
/-- two are reckoned to one -/
def rkV (q : Nat) (x y : Int32) : Option Int32 := if q < 7 then opV q x y else some (cmV2 q x y)
theorem ct_op {o e base n k q : Nat} {x y : Int32} {X201 X233 : MM → Prop} {M : MM} (hL : ML o M) (hk : k < e) (he : e ≤ 1100) (hn : n + 1 < 220) (hq : 2 ≤ q) (hq2 : q ≤ 9) (hc : mgI M (o + 11) k = nI (1048576 * q + 0)) (hx : mgI M (o + 17) n = x) (hy : mgI M (o + 17) (n + 1) = y) (h1 : ∀ z, rkV q x y = some z → WLc o e base X201 X233 (msI M (o + 17) n z) (n + 1) (k + 1)) (h0 : rkV q x y = none → X201 M) : WLc o e base X201 X233 M (n + 2) k := by
  have g1 : nI (n + 1) - (1 : Int32) = nI n := as1 (by omega)
  have g2 : nI (n + 2) - (1 : Int32) = nI (n + 1) := as1 (n := n + 2) (by omega)
  have hq16 : q < 16 := by omega
  have key : ∀ F, (∀ z, rkV q x y = some z → wl_X7_comesTo_16 o (nI e) (nI base) X201 X233 F (msI M (o + 17) n z) (nI (n + 1)) (nI (k + 1))) → wl_X7_comesTo_16 o (nI e) (nI base) X201 X233 (F + 1) M (nI (n + 2)) (nI k) := by
    intro F k1
    unfold wl_X7_comesTo_16
    rw [if_neg (nI_ge hk (by omega))]
    simp (disch := first | assumption | omega) only [mgR_sI, mgR_sL, mkd_sI, mkd_sL, mln_sI, mln_sL, Option.some.injEq, exists_eq_left', forall_eq, true_and, and_true, Nat.reduceLT, exists_eq_left, ML_r0, ML_k1, ML_l1, ML_r1, ML_k2, ML_l2, ML_r2, ML_k3, ML_l3, ML_r3, ML_k4, ML_l4, ML_r13, ML_k5, ML_l5, ML_r14, ML_k6, ML_l6, ML_r15, ML_k7, ML_l7, ML_r16, ML_k8, ML_l8, ML_r17, ML_k9, ML_l9, ML_r18, ML_k10, ML_l10, ML_r19, ML_k11, ML_l11, ML_r20, ML_k12, ML_l12, ML_r21, ML_k13, ML_l13, ML_r22, ML_k14, ML_l14, ML_r23, ML_k15, ML_l15, ML_r24, ML_k16, ML_l16, ML_r25, ML_k17, ML_l17, ML_r26, ML_k18, ML_l18, ML_r30, ML_k19, ML_l19, ML_r35, ML_k20, ML_l20, ML_r36, ML_k21, ML_l21, ML_r37, ML_k22, ML_l22, ML_r38, ML_k23, ML_l23, ML_r40, ML_k24, ML_l24, ML_r41, ML_k25, ML_l25, ML_r42, ML_k26, ML_l26, ML_r43, ML_k27, ML_l27, ML_r44, ML_k28, ML_l28, ML_r45, ML_k29, ML_l29, ML_r48, ML_k30, ML_l30, ML_r51, ML_k31, ML_l31, ML_r52, ML_k32, ML_l32, ia0, ia4, ia8, ia12, ia16, ia20, ia24, ia52, ia60, ia68, im7, im14, ap6, iaN, ap1, ixN, vpN, hc, cd_div (v := 0) hq16 (by omega), cd_rem (v := 0) hq16 (by omega), g2]
    have hr : q = 2 ∨ q = 3 ∨ q = 4 ∨ q = 5 ∨ q = 6 ∨ q = 7 ∨ q = 8 ∨ q = 9 := by omega
    rcases hr with rfl | rfl | rfl | rfl | rfl | rfl | rfl | rfl
    · have := k1 (x + y) rfl
      simp (disch := first | assumption | omega) only [qn2_0, qn2_1, qn2_3, qn2_4, qn2_5, qn2_6, qn2_7, qn2_8, qn2_10, qn2_11, qn2_12, qn3_0, qn3_1, qn3_2, qn3_4, qn3_5, qn3_6, qn3_7, qn3_8, qn3_10, qn3_11, qn3_12, qn4_0, qn4_1, qn4_2, qn4_3, qn4_5, qn4_6, qn4_7, qn4_8, qn4_10, qn4_11, qn4_12, qn5_0, qn5_1, qn5_2, qn5_3, qn5_4, qn5_6, qn5_7, qn5_8, qn5_10, qn5_11, qn5_12, qn6_0, qn6_1, qn6_2, qn6_3, qn6_4, qn6_5, qn6_7, qn6_8, qn6_10, qn6_11, qn6_12, qn7_0, qn7_1, qn7_2, qn7_3, qn7_4, qn7_5, qn7_6, qn7_8, qn7_10, qn7_11, qn7_12, qn8_0, qn8_1, qn8_2, qn8_3, qn8_4, qn8_5, qn8_6, qn8_7, qn8_10, qn8_11, qn8_12, qn9_0, qn9_1, qn9_2, qn9_3, qn9_4, qn9_5, qn9_6, qn9_7, qn9_8, qn9_10, qn9_11, qn9_12, qt2, qt3, qt4, qt5, qt6, qt7, qt8, if_false, wb_X7_comesTo_203, wp_X7_reckon, if_true, mgR_sI, mgR_sL, mkd_sI, mkd_sL, mln_sI, mln_sL, Option.some.injEq, exists_eq_left', forall_eq, true_and, and_true, Nat.reduceLT, exists_eq_left, ML_r0, ML_k1, ML_l1, ML_r1, ML_k2, ML_l2, ML_r2, ML_k3, ML_l3, ML_r3, ML_k4, ML_l4, ML_r13, ML_k5, ML_l5, ML_r14, ML_k6, ML_l6, ML_r15, ML_k7, ML_l7, ML_r16, ML_k8, ML_l8, ML_r17, ML_k9, ML_l9, ML_r18, ML_k10, ML_l10, ML_r19, ML_k11, ML_l11, ML_r20, ML_k12, ML_l12, ML_r21, ML_k13, ML_l13, ML_r22, ML_k14, ML_l14, ML_r23, ML_k15, ML_l15, ML_r24, ML_k16, ML_l16, ML_r25, ML_k17, ML_l17, ML_r26, ML_k18, ML_l18, ML_r30, ML_k19, ML_l19, ML_r35, ML_k20, ML_l20, ML_r36, ML_k21, ML_l21, ML_r37, ML_k22, ML_l22, ML_r38, ML_k23, ML_l23, ML_r40, ML_k24, ML_l24, ML_r41, ML_k25, ML_l25, ML_r42, ML_k26, ML_l26, ML_r43, ML_k27, ML_l27, ML_r44, ML_k28, ML_l28, ML_r45, ML_k29, ML_l29, ML_r48, ML_k30, ML_l30, ML_r51, ML_k31, ML_l31, ML_r52, ML_k32, ML_l32, ia0, ia4, ia8, ia12, ia16, ia20, ia24, ia52, ia60, ia68, im7, im14, ap6, iaN, ap1, ixN, vpN, g1, hx, hy]
      exact this
    · have := k1 (x - y) rfl
      simp (disch := first | assumption | omega) only [qn2_0, qn2_1, qn2_3, qn2_4, qn2_5, qn2_6, qn2_7, qn2_8, qn2_10, qn2_11, qn2_12, qn3_0, qn3_1, qn3_2, qn3_4, qn3_5, qn3_6, qn3_7, qn3_8, qn3_10, qn3_11, qn3_12, qn4_0, qn4_1, qn4_2, qn4_3, qn4_5, qn4_6, qn4_7, qn4_8, qn4_10, qn4_11, qn4_12, qn5_0, qn5_1, qn5_2, qn5_3, qn5_4, qn5_6, qn5_7, qn5_8, qn5_10, qn5_11, qn5_12, qn6_0, qn6_1, qn6_2, qn6_3, qn6_4, qn6_5, qn6_7, qn6_8, qn6_10, qn6_11, qn6_12, qn7_0, qn7_1, qn7_2, qn7_3, qn7_4, qn7_5, qn7_6, qn7_8, qn7_10, qn7_11, qn7_12, qn8_0, qn8_1, qn8_2, qn8_3, qn8_4, qn8_5, qn8_6, qn8_7, qn8_10, qn8_11, qn8_12, qn9_0, qn9_1, qn9_2, qn9_3, qn9_4, qn9_5, qn9_6, qn9_7, qn9_8, qn9_10, qn9_11, qn9_12, qt2, qt3, qt4, qt5, qt6, qt7, qt8, if_false, wb_X7_comesTo_203, wp_X7_reckon, if_true, mgR_sI, mgR_sL, mkd_sI, mkd_sL, mln_sI, mln_sL, Option.some.injEq, exists_eq_left', forall_eq, true_and, and_true, Nat.reduceLT, exists_eq_left, ML_r0, ML_k1, ML_l1, ML_r1, ML_k2, ML_l2, ML_r2, ML_k3, ML_l3, ML_r3, ML_k4, ML_l4, ML_r13, ML_k5, ML_l5, ML_r14, ML_k6, ML_l6, ML_r15, ML_k7, ML_l7, ML_r16, ML_k8, ML_l8, ML_r17, ML_k9, ML_l9, ML_r18, ML_k10, ML_l10, ML_r19, ML_k11, ML_l11, ML_r20, ML_k12, ML_l12, ML_r21, ML_k13, ML_l13, ML_r22, ML_k14, ML_l14, ML_r23, ML_k15, ML_l15, ML_r24, ML_k16, ML_l16, ML_r25, ML_k17, ML_l17, ML_r26, ML_k18, ML_l18, ML_r30, ML_k19, ML_l19, ML_r35, ML_k20, ML_l20, ML_r36, ML_k21, ML_l21, ML_r37, ML_k22, ML_l22, ML_r38, ML_k23, ML_l23, ML_r40, ML_k24, ML_l24, ML_r41, ML_k25, ML_l25, ML_r42, ML_k26, ML_l26, ML_r43, ML_k27, ML_l27, ML_r44, ML_k28, ML_l28, ML_r45, ML_k29, ML_l29, ML_r48, ML_k30, ML_l30, ML_r51, ML_k31, ML_l31, ML_r52, ML_k32, ML_l32, ia0, ia4, ia8, ia12, ia16, ia20, ia24, ia52, ia60, ia68, im7, im14, ap6, iaN, ap1, ixN, vpN, g1, hx, hy]
      exact this
    · have := k1 (x * y) rfl
      simp (disch := first | assumption | omega) only [qn2_0, qn2_1, qn2_3, qn2_4, qn2_5, qn2_6, qn2_7, qn2_8, qn2_10, qn2_11, qn2_12, qn3_0, qn3_1, qn3_2, qn3_4, qn3_5, qn3_6, qn3_7, qn3_8, qn3_10, qn3_11, qn3_12, qn4_0, qn4_1, qn4_2, qn4_3, qn4_5, qn4_6, qn4_7, qn4_8, qn4_10, qn4_11, qn4_12, qn5_0, qn5_1, qn5_2, qn5_3, qn5_4, qn5_6, qn5_7, qn5_8, qn5_10, qn5_11, qn5_12, qn6_0, qn6_1, qn6_2, qn6_3, qn6_4, qn6_5, qn6_7, qn6_8, qn6_10, qn6_11, qn6_12, qn7_0, qn7_1, qn7_2, qn7_3, qn7_4, qn7_5, qn7_6, qn7_8, qn7_10, qn7_11, qn7_12, qn8_0, qn8_1, qn8_2, qn8_3, qn8_4, qn8_5, qn8_6, qn8_7, qn8_10, qn8_11, qn8_12, qn9_0, qn9_1, qn9_2, qn9_3, qn9_4, qn9_5, qn9_6, qn9_7, qn9_8, qn9_10, qn9_11, qn9_12, qt2, qt3, qt4, qt5, qt6, qt7, qt8, if_false, wb_X7_comesTo_203, wp_X7_reckon, if_true, mgR_sI, mgR_sL, mkd_sI, mkd_sL, mln_sI, mln_sL, Option.some.injEq, exists_eq_left', forall_eq, true_and, and_true, Nat.reduceLT, exists_eq_left, ML_r0, ML_k1, ML_l1, ML_r1, ML_k2, ML_l2, ML_r2, ML_k3, ML_l3, ML_r3, ML_k4, ML_l4, ML_r13, ML_k5, ML_l5, ML_r14, ML_k6, ML_l6, ML_r15, ML_k7, ML_l7, ML_r16, ML_k8, ML_l8, ML_r17, ML_k9, ML_l9, ML_r18, ML_k10, ML_l10, ML_r19, ML_k11, ML_l11, ML_r20, ML_k12, ML_l12, ML_r21, ML_k13, ML_l13, ML_r22, ML_k14, ML_l14, ML_r23, ML_k15, ML_l15, ML_r24, ML_k16, ML_l16, ML_r25, ML_k17, ML_l17, ML_r26, ML_k18, ML_l18, ML_r30, ML_k19, ML_l19, ML_r35, ML_k20, ML_l20, ML_r36, ML_k21, ML_l21, ML_r37, ML_k22, ML_l22, ML_r38, ML_k23, ML_l23, ML_r40, ML_k24, ML_l24, ML_r41, ML_k25, ML_l25, ML_r42, ML_k26, ML_l26, ML_r43, ML_k27, ML_l27, ML_r44, ML_k28, ML_l28, ML_r45, ML_k29, ML_l29, ML_r48, ML_k30, ML_l30, ML_r51, ML_k31, ML_l31, ML_r52, ML_k32, ML_l32, ia0, ia4, ia8, ia12, ia16, ia20, ia24, ia52, ia60, ia68, im7, im14, ap6, iaN, ap1, ixN, vpN, g1, hx, hy]
      exact this
    · by_cases ey : y = 0
      · have := h0 (by simp [rkV, opV, ey])
        simp (disch := first | assumption | omega) only [qn2_0, qn2_1, qn2_3, qn2_4, qn2_5, qn2_6, qn2_7, qn2_8, qn2_10, qn2_11, qn2_12, qn3_0, qn3_1, qn3_2, qn3_4, qn3_5, qn3_6, qn3_7, qn3_8, qn3_10, qn3_11, qn3_12, qn4_0, qn4_1, qn4_2, qn4_3, qn4_5, qn4_6, qn4_7, qn4_8, qn4_10, qn4_11, qn4_12, qn5_0, qn5_1, qn5_2, qn5_3, qn5_4, qn5_6, qn5_7, qn5_8, qn5_10, qn5_11, qn5_12, qn6_0, qn6_1, qn6_2, qn6_3, qn6_4, qn6_5, qn6_7, qn6_8, qn6_10, qn6_11, qn6_12, qn7_0, qn7_1, qn7_2, qn7_3, qn7_4, qn7_5, qn7_6, qn7_8, qn7_10, qn7_11, qn7_12, qn8_0, qn8_1, qn8_2, qn8_3, qn8_4, qn8_5, qn8_6, qn8_7, qn8_10, qn8_11, qn8_12, qn9_0, qn9_1, qn9_2, qn9_3, qn9_4, qn9_5, qn9_6, qn9_7, qn9_8, qn9_10, qn9_11, qn9_12, qt2, qt3, qt4, qt5, qt6, qt7, qt8, if_false, wb_X7_comesTo_192, wb_X7_comesTo_203, wp_X7_reckon, if_true, mgR_sI, mgR_sL, mkd_sI, mkd_sL, mln_sI, mln_sL, Option.some.injEq, exists_eq_left', forall_eq, true_and, and_true, Nat.reduceLT, exists_eq_left, ML_r0, ML_k1, ML_l1, ML_r1, ML_k2, ML_l2, ML_r2, ML_k3, ML_l3, ML_r3, ML_k4, ML_l4, ML_r13, ML_k5, ML_l5, ML_r14, ML_k6, ML_l6, ML_r15, ML_k7, ML_l7, ML_r16, ML_k8, ML_l8, ML_r17, ML_k9, ML_l9, ML_r18, ML_k10, ML_l10, ML_r19, ML_k11, ML_l11, ML_r20, ML_k12, ML_l12, ML_r21, ML_k13, ML_l13, ML_r22, ML_k14, ML_l14, ML_r23, ML_k15, ML_l15, ML_r24, ML_k16, ML_l16, ML_r25, ML_k17, ML_l17, ML_r26, ML_k18, ML_l18, ML_r30, ML_k19, ML_l19, ML_r35, ML_k20, ML_l20, ML_r36, ML_k21, ML_l21, ML_r37, ML_k22, ML_l22, ML_r38, ML_k23, ML_l23, ML_r40, ML_k24, ML_l24, ML_r41, ML_k25, ML_l25, ML_r42, ML_k26, ML_l26, ML_r43, ML_k27, ML_l27, ML_r44, ML_k28, ML_l28, ML_r45, ML_k29, ML_l29, ML_r48, ML_k30, ML_l30, ML_r51, ML_k31, ML_l31, ML_r52, ML_k32, ML_l32, ia0, ia4, ia8, ia12, ia16, ia20, ia24, ia52, ia60, ia68, im7, im14, ap6, iaN, ap1, ixN, vpN, g1, hx, hy, ey]
        exact this
      · have := k1 (x / y) (by simp [rkV, opV, ey])
        simp (disch := first | assumption | omega) only [qn2_0, qn2_1, qn2_3, qn2_4, qn2_5, qn2_6, qn2_7, qn2_8, qn2_10, qn2_11, qn2_12, qn3_0, qn3_1, qn3_2, qn3_4, qn3_5, qn3_6, qn3_7, qn3_8, qn3_10, qn3_11, qn3_12, qn4_0, qn4_1, qn4_2, qn4_3, qn4_5, qn4_6, qn4_7, qn4_8, qn4_10, qn4_11, qn4_12, qn5_0, qn5_1, qn5_2, qn5_3, qn5_4, qn5_6, qn5_7, qn5_8, qn5_10, qn5_11, qn5_12, qn6_0, qn6_1, qn6_2, qn6_3, qn6_4, qn6_5, qn6_7, qn6_8, qn6_10, qn6_11, qn6_12, qn7_0, qn7_1, qn7_2, qn7_3, qn7_4, qn7_5, qn7_6, qn7_8, qn7_10, qn7_11, qn7_12, qn8_0, qn8_1, qn8_2, qn8_3, qn8_4, qn8_5, qn8_6, qn8_7, qn8_10, qn8_11, qn8_12, qn9_0, qn9_1, qn9_2, qn9_3, qn9_4, qn9_5, qn9_6, qn9_7, qn9_8, qn9_10, qn9_11, qn9_12, qt2, qt3, qt4, qt5, qt6, qt7, qt8, if_false, wb_X7_comesTo_192, wb_X7_comesTo_203, wp_X7_reckon, if_true, mgR_sI, mgR_sL, mkd_sI, mkd_sL, mln_sI, mln_sL, Option.some.injEq, exists_eq_left', forall_eq, true_and, and_true, Nat.reduceLT, exists_eq_left, ML_r0, ML_k1, ML_l1, ML_r1, ML_k2, ML_l2, ML_r2, ML_k3, ML_l3, ML_r3, ML_k4, ML_l4, ML_r13, ML_k5, ML_l5, ML_r14, ML_k6, ML_l6, ML_r15, ML_k7, ML_l7, ML_r16, ML_k8, ML_l8, ML_r17, ML_k9, ML_l9, ML_r18, ML_k10, ML_l10, ML_r19, ML_k11, ML_l11, ML_r20, ML_k12, ML_l12, ML_r21, ML_k13, ML_l13, ML_r22, ML_k14, ML_l14, ML_r23, ML_k15, ML_l15, ML_r24, ML_k16, ML_l16, ML_r25, ML_k17, ML_l17, ML_r26, ML_k18, ML_l18, ML_r30, ML_k19, ML_l19, ML_r35, ML_k20, ML_l20, ML_r36, ML_k21, ML_l21, ML_r37, ML_k22, ML_l22, ML_r38, ML_k23, ML_l23, ML_r40, ML_k24, ML_l24, ML_r41, ML_k25, ML_l25, ML_r42, ML_k26, ML_l26, ML_r43, ML_k27, ML_l27, ML_r44, ML_k28, ML_l28, ML_r45, ML_k29, ML_l29, ML_r48, ML_k30, ML_l30, ML_r51, ML_k31, ML_l31, ML_r52, ML_k32, ML_l32, ia0, ia4, ia8, ia12, ia16, ia20, ia24, ia52, ia60, ia68, im7, im14, ap6, iaN, ap1, ixN, vpN, g1, hx, hy, ey, not_false_eq_true]
        exact this
    · by_cases ey : y = 0
      · have := h0 (by simp [rkV, opV, ey])
        simp (disch := first | assumption | omega) only [qn2_0, qn2_1, qn2_3, qn2_4, qn2_5, qn2_6, qn2_7, qn2_8, qn2_10, qn2_11, qn2_12, qn3_0, qn3_1, qn3_2, qn3_4, qn3_5, qn3_6, qn3_7, qn3_8, qn3_10, qn3_11, qn3_12, qn4_0, qn4_1, qn4_2, qn4_3, qn4_5, qn4_6, qn4_7, qn4_8, qn4_10, qn4_11, qn4_12, qn5_0, qn5_1, qn5_2, qn5_3, qn5_4, qn5_6, qn5_7, qn5_8, qn5_10, qn5_11, qn5_12, qn6_0, qn6_1, qn6_2, qn6_3, qn6_4, qn6_5, qn6_7, qn6_8, qn6_10, qn6_11, qn6_12, qn7_0, qn7_1, qn7_2, qn7_3, qn7_4, qn7_5, qn7_6, qn7_8, qn7_10, qn7_11, qn7_12, qn8_0, qn8_1, qn8_2, qn8_3, qn8_4, qn8_5, qn8_6, qn8_7, qn8_10, qn8_11, qn8_12, qn9_0, qn9_1, qn9_2, qn9_3, qn9_4, qn9_5, qn9_6, qn9_7, qn9_8, qn9_10, qn9_11, qn9_12, qt2, qt3, qt4, qt5, qt6, qt7, qt8, if_false, wb_X7_comesTo_192, wb_X7_comesTo_203, wp_X7_reckon, if_true, mgR_sI, mgR_sL, mkd_sI, mkd_sL, mln_sI, mln_sL, Option.some.injEq, exists_eq_left', forall_eq, true_and, and_true, Nat.reduceLT, exists_eq_left, ML_r0, ML_k1, ML_l1, ML_r1, ML_k2, ML_l2, ML_r2, ML_k3, ML_l3, ML_r3, ML_k4, ML_l4, ML_r13, ML_k5, ML_l5, ML_r14, ML_k6, ML_l6, ML_r15, ML_k7, ML_l7, ML_r16, ML_k8, ML_l8, ML_r17, ML_k9, ML_l9, ML_r18, ML_k10, ML_l10, ML_r19, ML_k11, ML_l11, ML_r20, ML_k12, ML_l12, ML_r21, ML_k13, ML_l13, ML_r22, ML_k14, ML_l14, ML_r23, ML_k15, ML_l15, ML_r24, ML_k16, ML_l16, ML_r25, ML_k17, ML_l17, ML_r26, ML_k18, ML_l18, ML_r30, ML_k19, ML_l19, ML_r35, ML_k20, ML_l20, ML_r36, ML_k21, ML_l21, ML_r37, ML_k22, ML_l22, ML_r38, ML_k23, ML_l23, ML_r40, ML_k24, ML_l24, ML_r41, ML_k25, ML_l25, ML_r42, ML_k26, ML_l26, ML_r43, ML_k27, ML_l27, ML_r44, ML_k28, ML_l28, ML_r45, ML_k29, ML_l29, ML_r48, ML_k30, ML_l30, ML_r51, ML_k31, ML_l31, ML_r52, ML_k32, ML_l32, ia0, ia4, ia8, ia12, ia16, ia20, ia24, ia52, ia60, ia68, im7, im14, ap6, iaN, ap1, ixN, vpN, g1, hx, hy, ey]
        exact this
      · have := k1 (rm_ x y) (by simp [rkV, opV, ey])
        simp (disch := first | assumption | omega) only [qn2_0, qn2_1, qn2_3, qn2_4, qn2_5, qn2_6, qn2_7, qn2_8, qn2_10, qn2_11, qn2_12, qn3_0, qn3_1, qn3_2, qn3_4, qn3_5, qn3_6, qn3_7, qn3_8, qn3_10, qn3_11, qn3_12, qn4_0, qn4_1, qn4_2, qn4_3, qn4_5, qn4_6, qn4_7, qn4_8, qn4_10, qn4_11, qn4_12, qn5_0, qn5_1, qn5_2, qn5_3, qn5_4, qn5_6, qn5_7, qn5_8, qn5_10, qn5_11, qn5_12, qn6_0, qn6_1, qn6_2, qn6_3, qn6_4, qn6_5, qn6_7, qn6_8, qn6_10, qn6_11, qn6_12, qn7_0, qn7_1, qn7_2, qn7_3, qn7_4, qn7_5, qn7_6, qn7_8, qn7_10, qn7_11, qn7_12, qn8_0, qn8_1, qn8_2, qn8_3, qn8_4, qn8_5, qn8_6, qn8_7, qn8_10, qn8_11, qn8_12, qn9_0, qn9_1, qn9_2, qn9_3, qn9_4, qn9_5, qn9_6, qn9_7, qn9_8, qn9_10, qn9_11, qn9_12, qt2, qt3, qt4, qt5, qt6, qt7, qt8, if_false, wb_X7_comesTo_192, wb_X7_comesTo_203, wp_X7_reckon, if_true, mgR_sI, mgR_sL, mkd_sI, mkd_sL, mln_sI, mln_sL, Option.some.injEq, exists_eq_left', forall_eq, true_and, and_true, Nat.reduceLT, exists_eq_left, ML_r0, ML_k1, ML_l1, ML_r1, ML_k2, ML_l2, ML_r2, ML_k3, ML_l3, ML_r3, ML_k4, ML_l4, ML_r13, ML_k5, ML_l5, ML_r14, ML_k6, ML_l6, ML_r15, ML_k7, ML_l7, ML_r16, ML_k8, ML_l8, ML_r17, ML_k9, ML_l9, ML_r18, ML_k10, ML_l10, ML_r19, ML_k11, ML_l11, ML_r20, ML_k12, ML_l12, ML_r21, ML_k13, ML_l13, ML_r22, ML_k14, ML_l14, ML_r23, ML_k15, ML_l15, ML_r24, ML_k16, ML_l16, ML_r25, ML_k17, ML_l17, ML_r26, ML_k18, ML_l18, ML_r30, ML_k19, ML_l19, ML_r35, ML_k20, ML_l20, ML_r36, ML_k21, ML_l21, ML_r37, ML_k22, ML_l22, ML_r38, ML_k23, ML_l23, ML_r40, ML_k24, ML_l24, ML_r41, ML_k25, ML_l25, ML_r42, ML_k26, ML_l26, ML_r43, ML_k27, ML_l27, ML_r44, ML_k28, ML_l28, ML_r45, ML_k29, ML_l29, ML_r48, ML_k30, ML_l30, ML_r51, ML_k31, ML_l31, ML_r52, ML_k32, ML_l32, ia0, ia4, ia8, ia12, ia16, ia20, ia24, ia52, ia60, ia68, im7, im14, ap6, iaN, ap1, ixN, vpN, g1, hx, hy, ey, not_false_eq_true]
        exact this
    · have := k1 (if x < y then 1 else 0) rfl
      simp (disch := first | assumption | omega) only [qn2_0, qn2_1, qn2_3, qn2_4, qn2_5, qn2_6, qn2_7, qn2_8, qn2_10, qn2_11, qn2_12, qn3_0, qn3_1, qn3_2, qn3_4, qn3_5, qn3_6, qn3_7, qn3_8, qn3_10, qn3_11, qn3_12, qn4_0, qn4_1, qn4_2, qn4_3, qn4_5, qn4_6, qn4_7, qn4_8, qn4_10, qn4_11, qn4_12, qn5_0, qn5_1, qn5_2, qn5_3, qn5_4, qn5_6, qn5_7, qn5_8, qn5_10, qn5_11, qn5_12, qn6_0, qn6_1, qn6_2, qn6_3, qn6_4, qn6_5, qn6_7, qn6_8, qn6_10, qn6_11, qn6_12, qn7_0, qn7_1, qn7_2, qn7_3, qn7_4, qn7_5, qn7_6, qn7_8, qn7_10, qn7_11, qn7_12, qn8_0, qn8_1, qn8_2, qn8_3, qn8_4, qn8_5, qn8_6, qn8_7, qn8_10, qn8_11, qn8_12, qn9_0, qn9_1, qn9_2, qn9_3, qn9_4, qn9_5, qn9_6, qn9_7, qn9_8, qn9_10, qn9_11, qn9_12, qt2, qt3, qt4, qt5, qt6, qt7, qt8, if_false, wb_X7_comesTo_203, wp_X7_reckon, if_true, mgR_sI, mgR_sL, mkd_sI, mkd_sL, mln_sI, mln_sL, Option.some.injEq, exists_eq_left', forall_eq, true_and, and_true, Nat.reduceLT, exists_eq_left, ML_r0, ML_k1, ML_l1, ML_r1, ML_k2, ML_l2, ML_r2, ML_k3, ML_l3, ML_r3, ML_k4, ML_l4, ML_r13, ML_k5, ML_l5, ML_r14, ML_k6, ML_l6, ML_r15, ML_k7, ML_l7, ML_r16, ML_k8, ML_l8, ML_r17, ML_k9, ML_l9, ML_r18, ML_k10, ML_l10, ML_r19, ML_k11, ML_l11, ML_r20, ML_k12, ML_l12, ML_r21, ML_k13, ML_l13, ML_r22, ML_k14, ML_l14, ML_r23, ML_k15, ML_l15, ML_r24, ML_k16, ML_l16, ML_r25, ML_k17, ML_l17, ML_r26, ML_k18, ML_l18, ML_r30, ML_k19, ML_l19, ML_r35, ML_k20, ML_l20, ML_r36, ML_k21, ML_l21, ML_r37, ML_k22, ML_l22, ML_r38, ML_k23, ML_l23, ML_r40, ML_k24, ML_l24, ML_r41, ML_k25, ML_l25, ML_r42, ML_k26, ML_l26, ML_r43, ML_k27, ML_l27, ML_r44, ML_k28, ML_l28, ML_r45, ML_k29, ML_l29, ML_r48, ML_k30, ML_l30, ML_r51, ML_k31, ML_l31, ML_r52, ML_k32, ML_l32, ia0, ia4, ia8, ia12, ia16, ia20, ia24, ia52, ia60, ia68, im7, im14, ap6, iaN, ap1, ixN, vpN, g1, hx, hy]
      by_cases ey : x < y
      · rw [if_pos ey] at this; rw [if_neg (i32_nle.mpr ey)]; exact this
      · rw [if_neg ey] at this; rw [if_pos (i32_nlt.mp ey)]; exact this
    · have := k1 (if y < x then 1 else 0) rfl
      simp (disch := first | assumption | omega) only [qn2_0, qn2_1, qn2_3, qn2_4, qn2_5, qn2_6, qn2_7, qn2_8, qn2_10, qn2_11, qn2_12, qn3_0, qn3_1, qn3_2, qn3_4, qn3_5, qn3_6, qn3_7, qn3_8, qn3_10, qn3_11, qn3_12, qn4_0, qn4_1, qn4_2, qn4_3, qn4_5, qn4_6, qn4_7, qn4_8, qn4_10, qn4_11, qn4_12, qn5_0, qn5_1, qn5_2, qn5_3, qn5_4, qn5_6, qn5_7, qn5_8, qn5_10, qn5_11, qn5_12, qn6_0, qn6_1, qn6_2, qn6_3, qn6_4, qn6_5, qn6_7, qn6_8, qn6_10, qn6_11, qn6_12, qn7_0, qn7_1, qn7_2, qn7_3, qn7_4, qn7_5, qn7_6, qn7_8, qn7_10, qn7_11, qn7_12, qn8_0, qn8_1, qn8_2, qn8_3, qn8_4, qn8_5, qn8_6, qn8_7, qn8_10, qn8_11, qn8_12, qn9_0, qn9_1, qn9_2, qn9_3, qn9_4, qn9_5, qn9_6, qn9_7, qn9_8, qn9_10, qn9_11, qn9_12, qt2, qt3, qt4, qt5, qt6, qt7, qt8, if_false, wb_X7_comesTo_203, wp_X7_reckon, if_true, mgR_sI, mgR_sL, mkd_sI, mkd_sL, mln_sI, mln_sL, Option.some.injEq, exists_eq_left', forall_eq, true_and, and_true, Nat.reduceLT, exists_eq_left, ML_r0, ML_k1, ML_l1, ML_r1, ML_k2, ML_l2, ML_r2, ML_k3, ML_l3, ML_r3, ML_k4, ML_l4, ML_r13, ML_k5, ML_l5, ML_r14, ML_k6, ML_l6, ML_r15, ML_k7, ML_l7, ML_r16, ML_k8, ML_l8, ML_r17, ML_k9, ML_l9, ML_r18, ML_k10, ML_l10, ML_r19, ML_k11, ML_l11, ML_r20, ML_k12, ML_l12, ML_r21, ML_k13, ML_l13, ML_r22, ML_k14, ML_l14, ML_r23, ML_k15, ML_l15, ML_r24, ML_k16, ML_l16, ML_r25, ML_k17, ML_l17, ML_r26, ML_k18, ML_l18, ML_r30, ML_k19, ML_l19, ML_r35, ML_k20, ML_l20, ML_r36, ML_k21, ML_l21, ML_r37, ML_k22, ML_l22, ML_r38, ML_k23, ML_l23, ML_r40, ML_k24, ML_l24, ML_r41, ML_k25, ML_l25, ML_r42, ML_k26, ML_l26, ML_r43, ML_k27, ML_l27, ML_r44, ML_k28, ML_l28, ML_r45, ML_k29, ML_l29, ML_r48, ML_k30, ML_l30, ML_r51, ML_k31, ML_l31, ML_r52, ML_k32, ML_l32, ia0, ia4, ia8, ia12, ia16, ia20, ia24, ia52, ia60, ia68, im7, im14, ap6, iaN, ap1, ixN, vpN, g1, hx, hy]
      by_cases ey : y < x
      · rw [if_pos ey] at this; rw [if_neg (i32_nle.mpr ey)]; exact this
      · rw [if_neg ey] at this; rw [if_pos (i32_nlt.mp ey)]; exact this
    · have := k1 (if x = y then 1 else 0) rfl
      simp (disch := first | assumption | omega) only [qn2_0, qn2_1, qn2_3, qn2_4, qn2_5, qn2_6, qn2_7, qn2_8, qn2_10, qn2_11, qn2_12, qn3_0, qn3_1, qn3_2, qn3_4, qn3_5, qn3_6, qn3_7, qn3_8, qn3_10, qn3_11, qn3_12, qn4_0, qn4_1, qn4_2, qn4_3, qn4_5, qn4_6, qn4_7, qn4_8, qn4_10, qn4_11, qn4_12, qn5_0, qn5_1, qn5_2, qn5_3, qn5_4, qn5_6, qn5_7, qn5_8, qn5_10, qn5_11, qn5_12, qn6_0, qn6_1, qn6_2, qn6_3, qn6_4, qn6_5, qn6_7, qn6_8, qn6_10, qn6_11, qn6_12, qn7_0, qn7_1, qn7_2, qn7_3, qn7_4, qn7_5, qn7_6, qn7_8, qn7_10, qn7_11, qn7_12, qn8_0, qn8_1, qn8_2, qn8_3, qn8_4, qn8_5, qn8_6, qn8_7, qn8_10, qn8_11, qn8_12, qn9_0, qn9_1, qn9_2, qn9_3, qn9_4, qn9_5, qn9_6, qn9_7, qn9_8, qn9_10, qn9_11, qn9_12, qt2, qt3, qt4, qt5, qt6, qt7, qt8, if_false, wb_X7_comesTo_203, wp_X7_reckon, if_true, mgR_sI, mgR_sL, mkd_sI, mkd_sL, mln_sI, mln_sL, Option.some.injEq, exists_eq_left', forall_eq, true_and, and_true, Nat.reduceLT, exists_eq_left, ML_r0, ML_k1, ML_l1, ML_r1, ML_k2, ML_l2, ML_r2, ML_k3, ML_l3, ML_r3, ML_k4, ML_l4, ML_r13, ML_k5, ML_l5, ML_r14, ML_k6, ML_l6, ML_r15, ML_k7, ML_l7, ML_r16, ML_k8, ML_l8, ML_r17, ML_k9, ML_l9, ML_r18, ML_k10, ML_l10, ML_r19, ML_k11, ML_l11, ML_r20, ML_k12, ML_l12, ML_r21, ML_k13, ML_l13, ML_r22, ML_k14, ML_l14, ML_r23, ML_k15, ML_l15, ML_r24, ML_k16, ML_l16, ML_r25, ML_k17, ML_l17, ML_r26, ML_k18, ML_l18, ML_r30, ML_k19, ML_l19, ML_r35, ML_k20, ML_l20, ML_r36, ML_k21, ML_l21, ML_r37, ML_k22, ML_l22, ML_r38, ML_k23, ML_l23, ML_r40, ML_k24, ML_l24, ML_r41, ML_k25, ML_l25, ML_r42, ML_k26, ML_l26, ML_r43, ML_k27, ML_l27, ML_r44, ML_k28, ML_l28, ML_r45, ML_k29, ML_l29, ML_r48, ML_k30, ML_l30, ML_r51, ML_k31, ML_l31, ML_r52, ML_k32, ML_l32, ia0, ia4, ia8, ia12, ia16, ia20, ia24, ia52, ia60, ia68, im7, im14, ap6, iaN, ap1, ixN, vpN, g1, hx, hy]
      by_cases ey : x = y
      · rw [if_pos ey] at this; rw [if_pos ey]; exact this
      · rw [if_neg ey] at this; rw [if_neg ey]; exact this
  cases hz : rkV q x y with
  | none => exact ⟨1, key 0 (fun z e => by rw [hz] at e; cases e)⟩
  | some z =>
    obtain ⟨F, hF⟩ := h1 z hz
    exact ⟨F + 1, key F (fun z' e => by rw [hz] at e; cases e; exact hF)⟩
/-- codes c0 .. c1 run: they lay one number, or are refused -/
def SegS (sd : Nat → Int32) (c0 c1 : Nat) (d : Den) : Prop := ∀ (cd : Nat → Int32) (o base e n : Nat) (M : MM) (f : Nat → Int32) (X201 X233 : MM → Prop), (∀ k, c0 ≤ k → k < c1 → cd (base + k) = sd k) → ML o M → (∀ k, k < 1100 → mgI M (o + 11) k = cd k) → fcE o M f → base + c1 ≤ e → e ≤ 1100 → n + (c1 - c0) ≤ 220 →
  (∀ M' v, fI (fun a _ => a = o + 17) M M' → d f = some v → (∀ j, j < n → mgI M' (o + 17) j = mgI M (o + 17) j) → mgI M' (o + 17) n = v → WLc o e base X201 X233 M' (n + 1) (base + c1)) →
  (∀ M', fI (fun a _ => a = o + 17) M M' → d f = none → X201 M') → WLc o e base X201 X233 M n (base + c0)
theorem SegS.eq {sd sd' : Nat → Int32} {c0 c1 : Nat} {d : Den} (h : SegS sd c0 c1 d) (e : ∀ k, c0 ≤ k → k < c1 → sd' k = sd k) : SegS sd' c0 c1 d :=
  fun cd o base x n M f X201 X233 h1 h2 h3 h4 h5 h6 h7 h8 h9 => h cd o base x n M f X201 X233 (fun k a b => (h1 k a b).trans (e k a b)) h2 h3 h4 h5 h6 h7 h8 h9
theorem f17 {o k : Nat} {M M1 : MM} {v : Int32} (h : fI (fun a _ => a = o + 17) M M1) : fI (fun a _ => a = o + 17) M (msI M1 (o + 17) k v) := h.s rfl
theorem seg_num {sd : Nat → Int32} {c v : Nat} (hc : sd c = nI (1048576 * 0 + v)) (hv : v < 1048576) : SegS sd c (c + 1) (numD v) := by
  intro cd o base e n M f X201 X233 h1 hL h3 h4 h5 h6 h7 h8 h9
  refine ct_num hL (by omega) h6 (by omega) (by rw [h3 _ (by omega), h1 c (by omega) (by omega)]; exact hc) hv ?_
  refine h8 _ (nI v) (f17 fI.rf) rfl (fun j hj => ?_) ?_
  · rw [mgI_sI, if_neg (by omega)]
  · rw [mgI_sI, if_pos ⟨rfl, rfl⟩]
theorem seg_fac {sd : Nat → Int32} {c v : Nat} (hc : sd c = nI (1048576 * 1 + v)) (hv : v < 13) : SegS sd c (c + 1) (facD v) := by
  intro cd o base e n M f X201 X233 h1 hL h3 h4 h5 h6 h7 h8 h9
  refine ct_fac hL (by omega) h6 (by omega) (by rw [h3 _ (by omega), h1 c (by omega) (by omega)]; exact hc) hv (h4 v hv) ?_
  refine h8 _ (f v) (f17 fI.rf) rfl (fun j hj => ?_) ?_
  · rw [mgI_sI, if_neg (by omega)]
  · rw [mgI_sI, if_pos ⟨rfl, rfl⟩]
def rkD (q : Nat) (d e : Den) : Den := if q < 7 then opD q d e else cmpD q d e
theorem seg_op {sd : Nat → Int32} {c0 m c1 q : Nat} {d1 d2 : Den} (h1 : SegS sd c0 m d1) (h2 : SegS sd m c1 d2) (h01 : c0 < m) (h12 : m < c1) (hq : 2 ≤ q) (hq9 : q ≤ 9) (hc : sd c1 = nI (1048576 * q + 0)) : SegS sd c0 (c1 + 1) (rkD q d1 d2) := by
  intro cd o base e n M f X201 X233 a1 hL a3 a4 a5 a6 a7 a8 a9
  have hnone : ∀ (x : Int32), d1 f = some x → d2 f = none → rkD q d1 d2 f = none := by
    intro x e1 e2
    unfold rkD opD cmpD
    split <;> simp only [e1, e2]
  have hsome : ∀ (x y : Int32), d1 f = some x → d2 f = some y → rkD q d1 d2 f = rkV q x y := by
    intro x y e1 e2
    unfold rkD rkV opD cmpD
    split <;> simp only [e1, e2]
  have hnone1 : d1 f = none → rkD q d1 d2 f = none := by
    intro e1
    unfold rkD opD cmpD
    split <;> simp only [e1]
  refine h1 cd o base e n M f X201 X233 (fun k x y => a1 k x (by omega)) hL a3 a4 (by omega) a6 (by omega) (fun M1 x hF1 e1 g1 g2 => ?_) (fun M1 hF1 e1 => a9 M1 hF1 (hnone1 e1))
  refine h2 cd o base e (n + 1) M1 f X201 X233 (fun k x y => a1 k (by omega) (by omega)) (ML_of hF1.e hL) (fun k hk => (hF1.2 _ _ (by omega)).trans (a3 k hk)) (hF1.fc (fun k => by omega) a4) (by omega) a6 (by omega) (fun M2 y hF2 e2 k1 k2 => ?_) (fun M2 hF2 e2 => a9 M2 (hF1.tr hF2) (hnone x e1 e2))
  have hF12 := hF1.tr hF2
  refine ct_op (q := q) (x := x) (y := y) (ML_of hF12.e hL) (by omega) a6 (by omega) hq hq9 ?_ ((k1 n (by omega)).trans g2) k2 (fun z ez => ?_) (fun ez => a9 M2 hF12 ((hsome x y e1 e2).trans ez))
  · rw [hF12.2 _ _ (by omega), a3 _ (by omega), a1 c1 (by omega) (by omega)]; exact hc
  · refine a8 _ z (f17 hF12) ((hsome x y e1 e2).trans ez) (fun j hj => ?_) ?_
    · rw [mgI_sI, if_neg (by omega), k1 j (by omega)]; exact g1 j hj
    · rw [mgI_sI, if_pos ⟨rfl, rfl⟩]
theorem seg_not {sd : Nat → Int32} {c0 c1 : Nat} {d : Den} (h1 : SegS sd c0 c1 d) (h01 : c0 ≤ c1) (hc : sd c1 = nI (1048576 * 10 + 0)) : SegS sd c0 (c1 + 1) (negD d) := by
  intro cd o base e n M f X201 X233 a1 hL a3 a4 a5 a6 a7 a8 a9
  refine h1 cd o base e n M f X201 X233 (fun k x y => a1 k x (by omega)) hL a3 a4 (by omega) a6 (by omega) (fun M1 x hF1 e1 g1 g2 => ?_) (fun M1 hF1 e1 => a9 M1 hF1 (by unfold negD; rw [e1]))
  refine ct_not (ML_of hF1.e hL) (by omega) a6 (by omega) ?_ g2 ?_
  · rw [hF1.2 _ _ (by omega), a3 _ (by omega), a1 c1 (by omega) (by omega)]; exact hc
  · refine a8 _ (1 - x) (f17 hF1) (by unfold negD; rw [e1]) (fun j hj => ?_) ?_
    · rw [mgI_sI, if_neg (by omega)]; exact g1 j hj
    · rw [mgI_sI, if_pos ⟨rfl, rfl⟩]
theorem seg_and {sd : Nat → Int32} {c0 m c1 q : Nat} {b : Int32} {d1 d2 D : Den} (h1 : SegS sd c0 m d1) (h2 : SegS sd (m + 1) c1 d2) (h01 : c0 ≤ m) (h12 : m + 1 ≤ c1) (hc1 : c1 < 1048576) (hq : (q = 11 ∧ b = 0 ∧ D = andD d1 d2) ∨ (q = 12 ∧ b = 1 ∧ D = orD d1 d2)) (hc : sd m = nI (1048576 * q + c1)) : SegS sd c0 c1 D := by
  intro cd o base e n M f X201 X233 a1 hL a3 a4 a5 a6 a7 a8 a9
  have hn1 : d1 f = none → D f = none := by
    intro e1
    rcases hq with ⟨_, _, rfl⟩ | ⟨_, _, rfl⟩
    · unfold andD; rw [e1]
    · unfold orD; rw [e1]
  have hb : d1 f = some b → D f = some b := by
    intro e1
    rcases hq with ⟨_, rfl, rfl⟩ | ⟨_, rfl, rfl⟩
    · unfold andD; rw [e1]; rfl
    · unfold orD; rw [e1]; rfl
  have hnb : ∀ x, d1 f = some x → ¬ x = b → D f = d2 f := by
    intro x e1 hx
    rcases hq with ⟨_, rfl, rfl⟩ | ⟨_, rfl, rfl⟩
    · unfold andD; rw [e1]; exact if_neg hx
    · unfold orD; rw [e1]; exact if_neg hx
  refine h1 cd o base e n M f X201 X233 (fun k x y => a1 k x (by omega)) hL a3 a4 (by omega) a6 (by omega) (fun M1 x hF1 e1 g1 g2 => ?_) (fun M1 hF1 e1 => a9 M1 hF1 (hn1 e1))
  have hL1 := ML_of hF1.e hL
  refine ct_jmp (q := q) (b := b) (v := c1) hL1 (by omega) a6 (by omega) (hq.imp (fun h => ⟨h.1, h.2.1⟩) (fun h => ⟨h.1, h.2.1⟩)) ?_ hc1 g2 (fun ex => ?_) (fun ex => ?_)
  · rw [hF1.2 _ _ (by omega), a3 _ (by omega), a1 m (by omega) (by omega)]; exact hc
  · exact a8 M1 x hF1 (by rw [ex]; rw [ex] at e1; exact hb e1) g1 g2
  · refine h2 cd o base e n M1 f X201 X233 (fun k x y => a1 k (by omega) (by omega)) hL1 (fun k hk => (hF1.2 _ _ (by omega)).trans (a3 k hk)) (hF1.fc (fun k => by omega) a4) (by omega) a6 (by omega) (fun M2 y hF2 e2 k1 k2 => ?_) (fun M2 hF2 e2 => a9 M2 (hF1.tr hF2) ((hnb x e1 ex).trans e2))
    exact a8 M2 y (hF1.tr hF2) ((hnb x e1 ex).trans e2) (fun j hj => (k1 j hj).trans (g1 j hj)) k2
theorem SegS.runs {sd cd : Nat → Int32} {t c0 c1 : Nat} {d : Den} (h : SegS sd c0 c1 d) (h01 : c0 ≤ c1) (hc0 : c0 < 220) (hc1 : c1 ≤ 220) (ht : t < 5) (hcd : ∀ k, c0 ≤ k → k < c1 → cd (220 * t + k) = sd k) : Runs cd (220 * t + c0) (220 * t + c1) d := by
  intro o M f Post hL h3 h4 hP
  unfold wp_X7_comesTo
  have hd : nI (220 * t + c0) / (220 : Int32) = nI t := by
    rw [show nI (220 * t + c0) / (220 : Int32) = nI ((220 * t + c0) / 220) from (show nI (220 * t + c0) / nI 220 = _ from pk_div (by omega) (by omega) (by omega))]
    congr 1; omega
  rw [hd, show (220 : Int32) * nI t = nI (220 * t) from pk_mul 220 t]
  simp only [forall_eq]
  refine h (fun k => mgI M (o + 11) k) o (220 * t) (220 * t + c1) 0 M f _ _ (fun k x y => (h3 _ (by omega) (by omega)).trans (hcd k x y)) hL (fun k _ => rfl) h4 (Nat.le_refl _) (by omega) (by omega) (fun M1 v hF e _ g2 => ?_) (fun M1 hF e => ?_)
  · refine ⟨1, ?_⟩
    unfold wl_X7_comesTo_16
    rw [if_pos (nI_le (Nat.le_refl _) (by omega))]
    have h1 : ML o M1 := ML_of hF.e hL
    simp (disch := first | assumption | omega) only [mgR_sI, mgR_sL, mkd_sI, mkd_sL, mln_sI, mln_sL, Option.some.injEq, exists_eq_left', forall_eq, true_and, and_true, Nat.reduceLT, exists_eq_left, ML_r0, ML_k1, ML_l1, ML_r1, ML_k2, ML_l2, ML_r2, ML_k3, ML_l3, ML_r3, ML_k4, ML_l4, ML_r13, ML_k5, ML_l5, ML_r14, ML_k6, ML_l6, ML_r15, ML_k7, ML_l7, ML_r16, ML_k8, ML_l8, ML_r17, ML_k9, ML_l9, ML_r18, ML_k10, ML_l10, ML_r19, ML_k11, ML_l11, ML_r20, ML_k12, ML_l12, ML_r21, ML_k13, ML_l13, ML_r22, ML_k14, ML_l14, ML_r23, ML_k15, ML_l15, ML_r24, ML_k16, ML_l16, ML_r25, ML_k17, ML_l17, ML_r26, ML_k18, ML_l18, ML_r30, ML_k19, ML_l19, ML_r35, ML_k20, ML_l20, ML_r36, ML_k21, ML_l21, ML_r37, ML_k22, ML_l22, ML_r38, ML_k23, ML_l23, ML_r40, ML_k24, ML_l24, ML_r41, ML_k25, ML_l25, ML_r42, ML_k26, ML_l26, ML_r43, ML_k27, ML_l27, ML_r44, ML_k28, ML_l28, ML_r45, ML_k29, ML_l29, ML_r48, ML_k30, ML_l30, ML_r51, ML_k31, ML_l31, ML_r52, ML_k32, ML_l32]
    rw [g2]
    have := hP M1 hF
    rw [e] at this
    exact this
  · have := hP M1 hF
    rw [e] at this
    exact this
