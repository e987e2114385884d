/-! the model: the end of a day, days -/
set_option maxRecDepth 100000
def shS (s : Nat → Int32) (l : Nat) (w : Int32) : Nat → Int32 := fun j => if 24 + 7 * l ≤ j ∧ j < 24 + 7 * l + 7 then (if j = 24 + 7 * l then w else s (j - 1)) else s j
def dedR (s : Nat → Int32) (l : Nat) : Nat → Int32 := up s 77 (s 77 ||| ((1 : Int32) <<< (nI l &&& 31)))
def dS (s : Nat → Int32) (l : Nat) (less : Int32) : Nat → Int32 :=
  let w := ma_ 0 (s (4 + l) - less)
  let D := if w = 0 then s (12 + l) + 1 else 0
  let W := if w = s l then s (16 + l) + 1 else 0
  let s3 := up (up (up s (4 + l) w) (12 + l) D) (16 + l) W
  shS (if s (8 + l) ≤ D ∨ s (8 + l) ≤ W then dedR s3 l else s3) l w
def lessS (T : Nat → Txt) (s : Nat → Int32) (l : Nat) (sn : Int32) : Int32 :=
  if sn = 0 then byS (T 0) 101 9 (fcP s l) else byS (T 0) 101 9 (fcP s l) + byS (T 0) 104 9 (fcP s l)
theorem fI.ro {o k : Nat} {M M' : MM} {v : Int32} (h : fI (fun a _ => a = o + 1) M M') : fI (fun a _ => a = o + 1) M (msI M' (o + 1) k v) := h.s rfl
theorem l7_dries {o l : Nat} {M : MM} {w : Int32} {s : Nat → Int32} {X : MM → Prop} (hL : ML o M) (hl : l < 4) (hs : ar o 1 M = s) (h : ∀ M', fI (fun a _ => a = o + 1) M M' → ar o 1 M' = (fun j => if 24 + 7 * l < j ∧ j < 24 + 7 * l + 7 then s (j - 1) else s j) → X M') : ∃ n, wl_X7_dries_187 o (nI l) w X n M (nI 6) := by
  refine cd_ (fun n M1 i => wl_X7_dries_187 o (nI l) w X n M1 (nI i)) (fun i M1 => i ≤ 6 ∧ fI (fun a _ => a = o + 1) M M1 ∧ ar o 1 M1 = (fun j => if 24 + 7 * l + i < j ∧ j < 24 + 7 * l + 7 then s (j - 1) else s j)) ?_ ?_ M 6 ⟨by omega, fI.rf, ?_⟩
  · intro n i M1 ⟨hi, hF, hr⟩ hs'
    have h1 : ML o M1 := ML_of hF.e hL
    show wl_X7_dries_187 o (nI l) w X (n + 1) M1 (nI (i + 1))
    unfold wl_X7_dries_187
    rw [if_neg (show ¬ nI (i + 1) ≤ 0 from nI_nle (by omega) (by omega))]
    simp (disch := first | assumption | omega) only [mgR_sI, mgR_sL, mkd_sI, mkd_sL, mln_sI, mln_sL, Option.some.injEq, exists_eq_left', forall_eq, true_and, and_true, Nat.reduceLT, exists_eq_left, ML_r0, ML_k1, ML_l1, ML_r1, ML_k2, ML_l2, ML_r2, ML_k3, ML_l3, ML_r3, ML_k4, ML_l4, ML_r13, ML_k5, ML_l5, ML_r14, ML_k6, ML_l6, ML_r15, ML_k7, ML_l7, ML_r16, ML_k8, ML_l8, ML_r17, ML_k9, ML_l9, ML_r18, ML_k10, ML_l10, ML_r19, ML_k11, ML_l11, ML_r20, ML_k12, ML_l12, ML_r21, ML_k13, ML_l13, ML_r22, ML_k14, ML_l14, ML_r23, ML_k15, ML_l15, ML_r24, ML_k16, ML_l16, ML_r25, ML_k17, ML_l17, ML_r26, ML_k18, ML_l18, ML_r30, ML_k19, ML_l19, ML_r35, ML_k20, ML_l20, ML_r36, ML_k21, ML_l21, ML_r37, ML_k22, ML_l22, ML_r38, ML_k23, ML_l23, ML_r40, ML_k24, ML_l24, ML_r41, ML_k25, ML_l25, ML_r42, ML_k26, ML_l26, ML_r43, ML_k27, ML_l27, ML_r44, ML_k28, ML_l28, ML_r45, ML_k29, ML_l29, ML_r48, ML_k30, ML_l30, ML_r51, ML_k31, ML_l31, ML_r52, ML_k32, ML_l32, im7, ia24, iaN, as1, am1, vpN, ixN, arE (o := o) (c := 1)]
    refine hs' _ ⟨by omega, hF.ro, ?_⟩
    rw [ar_s, if_pos rfl, hr]
    funext j
    unfold up
    simp only []
    by_cases e : j = 24 + 7 * l + (i + 1)
    · rw [if_pos e, if_neg (by omega), if_pos (by omega), e]
    · rw [if_neg e]
      by_cases e2 : 24 + 7 * l + (i + 1) < j ∧ j < 24 + 7 * l + 7
      · rw [if_pos e2, if_pos (by omega)]
      · rw [if_neg e2, if_neg (by omega)]
  · intro n M1 ⟨hi, hF, hr⟩
    show wl_X7_dries_187 o (nI l) w X (n + 1) M1 (nI 0)
    unfold wl_X7_dries_187
    rw [if_pos (show nI 0 ≤ 0 from by decide)]
    exact h M1 hF hr
  · rw [hs]; funext j; rw [if_neg (by omega)]
theorem w7_dsh {o l : Nat} {M0 M : MM} {w : Int32} {s : Nat → Int32} {Post : MM → Prop} (hL : ML o M0) (hF0 : fI (fun a _ => a = o + 1) M0 M) (hl : l < 4) (hs : ar o 1 M = s) (h : ∀ M', fI (fun a _ => a = o + 1) M0 M' → ar o 1 M' = shS s l w → Post M') : ∃ n, wl_X7_dries_187 o (nI l) w (fun (M_72 : MM) => ∃ b_74, mgR M_72 o 0 = some b_74 ∧ mkd M_72 b_74 = 100 ∧ vp_in ((24 : Int32) + ((7 : Int32) * nI l)) (mln M_72 b_74) ∧ ∀ M_78, M_78 = msI M_72 b_74 (ix_ ((24 : Int32) + ((7 : Int32) * nI l))) w → Post M_78) n M (6 : Int32) := by
  refine l7_dries (ML_of hF0.e hL) hl hs (fun M' hF hr => ?_)
  have h1 : ML o M' := ML_of (hF0.tr hF).e hL
  simp (disch := first | assumption | omega) only [mgR_sI, mgR_sL, mkd_sI, mkd_sL, mln_sI, mln_sL, Option.some.injEq, exists_eq_left', forall_eq, true_and, and_true, Nat.reduceLT, exists_eq_left, ML_r0, ML_k1, ML_l1, ML_r1, ML_k2, ML_l2, ML_r2, ML_k3, ML_l3, ML_r3, ML_k4, ML_l4, ML_r13, ML_k5, ML_l5, ML_r14, ML_k6, ML_l6, ML_r15, ML_k7, ML_l7, ML_r16, ML_k8, ML_l8, ML_r17, ML_k9, ML_l9, ML_r18, ML_k10, ML_l10, ML_r19, ML_k11, ML_l11, ML_r20, ML_k12, ML_l12, ML_r21, ML_k13, ML_l13, ML_r22, ML_k14, ML_l14, ML_r23, ML_k15, ML_l15, ML_r24, ML_k16, ML_l16, ML_r25, ML_k17, ML_l17, ML_r26, ML_k18, ML_l18, ML_r30, ML_k19, ML_l19, ML_r35, ML_k20, ML_l20, ML_r36, ML_k21, ML_l21, ML_r37, ML_k22, ML_l22, ML_r38, ML_k23, ML_l23, ML_r40, ML_k24, ML_l24, ML_r41, ML_k25, ML_l25, ML_r42, ML_k26, ML_l26, ML_r43, ML_k27, ML_l27, ML_r44, ML_k28, ML_l28, ML_r45, ML_k29, ML_l29, ML_r48, ML_k30, ML_l30, ML_r51, ML_k31, ML_l31, ML_r52, ML_k32, ML_l32, im7, ia24, vpN, ixN]
  refine h _ (hF0.tr hF).ro ?_
  rw [ar_s, if_pos rfl, hr]
  funext j
  unfold up shS
  simp only []
  by_cases e : j = 24 + 7 * l
  · rw [if_pos e, if_pos (by omega), if_pos e]
  · rw [if_neg e]
    by_cases e2 : 24 + 7 * l < j ∧ j < 24 + 7 * l + 7
    · rw [if_pos e2, if_pos (by omega), if_neg e]
    · rw [if_neg e2, if_neg (by omega)]
theorem w7_d165 {o l : Nat} {M0 M : MM} {w : Int32} {s : Nat → Int32} {Post : MM → Prop} (hL : ML o M0) (hF0 : fI (fun a _ => a = o + 1) M0 M) (hl : l < 4) (hs : ar o 1 M = s) (h : ∀ M', fI (fun a _ => a = o + 1) M0 M' → ar o 1 M' = shS (dedR s l) l w → Post M') : wb_X7_dries_165 M o (nI l) w Post := by
  have h1 : ML o M := ML_of hF0.e hL
  unfold wb_X7_dries_165
  simp (disch := first | assumption | omega) only [mgR_sI, mgR_sL, mkd_sI, mkd_sL, mln_sI, mln_sL, Option.some.injEq, exists_eq_left', forall_eq, true_and, and_true, Nat.reduceLT, exists_eq_left, ML_r0, ML_k1, ML_l1, ML_r1, ML_k2, ML_l2, ML_r2, ML_k3, ML_l3, ML_r3, ML_k4, ML_l4, ML_r13, ML_k5, ML_l5, ML_r14, ML_k6, ML_l6, ML_r15, ML_k7, ML_l7, ML_r16, ML_k8, ML_l8, ML_r17, ML_k9, ML_l9, ML_r18, ML_k10, ML_l10, ML_r19, ML_k11, ML_l11, ML_r20, ML_k12, ML_l12, ML_r21, ML_k13, ML_l13, ML_r22, ML_k14, ML_l14, ML_r23, ML_k15, ML_l15, ML_r24, ML_k16, ML_l16, ML_r25, ML_k17, ML_l17, ML_r26, ML_k18, ML_l18, ML_r30, ML_k19, ML_l19, ML_r35, ML_k20, ML_l20, ML_r36, ML_k21, ML_l21, ML_r37, ML_k22, ML_l22, ML_r38, ML_k23, ML_l23, ML_r40, ML_k24, ML_l24, ML_r41, ML_k25, ML_l25, ML_r42, ML_k26, ML_l26, ML_r43, ML_k27, ML_l27, ML_r44, ML_k28, ML_l28, ML_r45, ML_k29, ML_l29, ML_r48, ML_k30, ML_l30, ML_r51, ML_k31, ML_l31, ML_r52, ML_k32, ML_l32, arE (o := o) (c := 1), hs]
  have := w7_dsh (s := dedR s l) (w := w) (Post := Post) hL (hF0.ro (k := 77) (v := s 77 ||| ((1 : Int32) <<< (nI l &&& 31)))) hl (by rw [ar_s, if_pos rfl, hs]; rfl) h
  simpa (disch := first | assumption | omega) only [mgR_sI, mgR_sL, mkd_sI, mkd_sL, mln_sI, mln_sL, Option.some.injEq, exists_eq_left', forall_eq, true_and, and_true, Nat.reduceLT, exists_eq_left, ML_r0, ML_k1, ML_l1, ML_r1, ML_k2, ML_l2, ML_r2, ML_k3, ML_l3, ML_r3, ML_k4, ML_l4, ML_r13, ML_k5, ML_l5, ML_r14, ML_k6, ML_l6, ML_r15, ML_k7, ML_l7, ML_r16, ML_k8, ML_l8, ML_r17, ML_k9, ML_l9, ML_r18, ML_k10, ML_l10, ML_r19, ML_k11, ML_l11, ML_r20, ML_k12, ML_l12, ML_r21, ML_k13, ML_l13, ML_r22, ML_k14, ML_l14, ML_r23, ML_k15, ML_l15, ML_r24, ML_k16, ML_l16, ML_r25, ML_k17, ML_l17, ML_r26, ML_k18, ML_l18, ML_r30, ML_k19, ML_l19, ML_r35, ML_k20, ML_l20, ML_r36, ML_k21, ML_l21, ML_r37, ML_k22, ML_l22, ML_r38, ML_k23, ML_l23, ML_r40, ML_k24, ML_l24, ML_r41, ML_k25, ML_l25, ML_r42, ML_k26, ML_l26, ML_r43, ML_k27, ML_l27, ML_r44, ML_k28, ML_l28, ML_r45, ML_k29, ML_l29, ML_r48, ML_k30, ML_l30, ML_r51, ML_k31, ML_l31, ML_r52, ML_k32, ML_l32, arE (o := o) (c := 1)] using this
theorem w7_d122 {o l : Nat} {M0 M : MM} {w W D B : Int32} {s2 : Nat → Int32} {Post : MM → Prop} (hL : ML o M0) (hF0 : fI (fun a _ => a = o + 1) M0 M) (hl : l < 4) (hs : ar o 1 M = s2) (hD : s2 (12 + l) = D) (hB : s2 (8 + l) = B) (h : ∀ M', fI (fun a _ => a = o + 1) M0 M' → ar o 1 M' = shS (if B ≤ D ∨ B ≤ W then dedR (up s2 (16 + l) W) l else up s2 (16 + l) W) l w → Post M') : wb_X7_dries_122 M o (nI l) w (o + 1) (nI (16 + l)) W Post := by
  have h1 : ML o M := ML_of hF0.e hL
  unfold wb_X7_dries_122
  simp (disch := first | assumption | omega) only [mgR_sI, mgR_sL, mkd_sI, mkd_sL, mln_sI, mln_sL, Option.some.injEq, exists_eq_left', forall_eq, true_and, and_true, Nat.reduceLT, exists_eq_left, ML_r0, ML_k1, ML_l1, ML_r1, ML_k2, ML_l2, ML_r2, ML_k3, ML_l3, ML_r3, ML_k4, ML_l4, ML_r13, ML_k5, ML_l5, ML_r14, ML_k6, ML_l6, ML_r15, ML_k7, ML_l7, ML_r16, ML_k8, ML_l8, ML_r17, ML_k9, ML_l9, ML_r18, ML_k10, ML_l10, ML_r19, ML_k11, ML_l11, ML_r20, ML_k12, ML_l12, ML_r21, ML_k13, ML_l13, ML_r22, ML_k14, ML_l14, ML_r23, ML_k15, ML_l15, ML_r24, ML_k16, ML_l16, ML_r25, ML_k17, ML_l17, ML_r26, ML_k18, ML_l18, ML_r30, ML_k19, ML_l19, ML_r35, ML_k20, ML_l20, ML_r36, ML_k21, ML_l21, ML_r37, ML_k22, ML_l22, ML_r38, ML_k23, ML_l23, ML_r40, ML_k24, ML_l24, ML_r41, ML_k25, ML_l25, ML_r42, ML_k26, ML_l26, ML_r43, ML_k27, ML_l27, ML_r44, ML_k28, ML_l28, ML_r45, ML_k29, ML_l29, ML_r48, ML_k30, ML_l30, ML_r51, ML_k31, ML_l31, ML_r52, ML_k32, ML_l32, ia0, ia4, ia8, ia12, ia16, ia20, ia24, ia52, ia60, ia68, im7, im14, ap6, iaN, ap1, ixN, vpN, arE (o := o) (c := 1), ar_s, hs, up_ne, up_eq, if_true, hD, hB]
  by_cases e1 : B ≤ D
  · rw [if_pos e1]
    rw [if_pos (Or.inl e1)] at h
    exact w7_d165 hL hF0.ro hl (by rw [ar_s, if_pos rfl, hs]) h
  · rw [if_neg e1]
    by_cases e2 : W < B
    · have e3 : ¬ B ≤ W := by rw [Int32.lt_iff_toInt_lt] at e2; rw [Int32.le_iff_toInt_le]; omega
      rw [if_pos e2]
      rw [if_neg (fun x => x.elim e1 e3)] at h
      have := w7_dsh (w := w) (Post := Post) hL (hF0.ro (k := 16 + l) (v := W)) hl (by rw [ar_s, if_pos rfl, hs]) h
      simpa (disch := first | assumption | omega) only [mgR_sI, mgR_sL, mkd_sI, mkd_sL, mln_sI, mln_sL, Option.some.injEq, exists_eq_left', forall_eq, true_and, and_true, Nat.reduceLT, exists_eq_left, ML_r0, ML_k1, ML_l1, ML_r1, ML_k2, ML_l2, ML_r2, ML_k3, ML_l3, ML_r3, ML_k4, ML_l4, ML_r13, ML_k5, ML_l5, ML_r14, ML_k6, ML_l6, ML_r15, ML_k7, ML_l7, ML_r16, ML_k8, ML_l8, ML_r17, ML_k9, ML_l9, ML_r18, ML_k10, ML_l10, ML_r19, ML_k11, ML_l11, ML_r20, ML_k12, ML_l12, ML_r21, ML_k13, ML_l13, ML_r22, ML_k14, ML_l14, ML_r23, ML_k15, ML_l15, ML_r24, ML_k16, ML_l16, ML_r25, ML_k17, ML_l17, ML_r26, ML_k18, ML_l18, ML_r30, ML_k19, ML_l19, ML_r35, ML_k20, ML_l20, ML_r36, ML_k21, ML_l21, ML_r37, ML_k22, ML_l22, ML_r38, ML_k23, ML_l23, ML_r40, ML_k24, ML_l24, ML_r41, ML_k25, ML_l25, ML_r42, ML_k26, ML_l26, ML_r43, ML_k27, ML_l27, ML_r44, ML_k28, ML_l28, ML_r45, ML_k29, ML_l29, ML_r48, ML_k30, ML_l30, ML_r51, ML_k31, ML_l31, ML_r52, ML_k32, ML_l32, ia0, ia4, ia8, ia12, ia16, ia20, ia24, ia52, ia60, ia68, im7, im14, ap6, iaN, ap1, ixN, vpN, arE (o := o) (c := 1)] using this
    · rw [if_neg e2]
      rw [if_pos (Or.inr (i32_nlt.mp e2))] at h
      exact w7_d165 hL hF0.ro hl (by rw [ar_s, if_pos rfl, hs]) h
theorem w7_d31 {o l : Nat} {M : MM} {less : Int32} {s : Nat → Int32} {Post : MM → Prop} (hL : ML o M) (hl : l < 4) (hs : ar o 1 M = s) (h : ∀ M', fI (fun a _ => a = o + 1) M M' → ar o 1 M' = dS s l less → Post M') : wb_X7_dries_31 M o (nI l) less Post := by
  unfold wb_X7_dries_31 wb_X7_dries_85
  have h85 : ∀ D, D = (if ma_ 0 (s (4 + l) - less) = 0 then s (12 + l) + 1 else 0) → wb_X7_dries_85 (msI M (o + 1) (4 + l) (ma_ 0 (s (4 + l) - less))) o (nI l) (ma_ 0 (s (4 + l) - less)) (o + 1) (nI (12 + l)) D Post := by
    intro D hD
    unfold wb_X7_dries_85
    simp (disch := first | assumption | omega) only [mgR_sI, mgR_sL, mkd_sI, mkd_sL, mln_sI, mln_sL, Option.some.injEq, exists_eq_left', forall_eq, true_and, and_true, Nat.reduceLT, exists_eq_left, ML_r0, ML_k1, ML_l1, ML_r1, ML_k2, ML_l2, ML_r2, ML_k3, ML_l3, ML_r3, ML_k4, ML_l4, ML_r13, ML_k5, ML_l5, ML_r14, ML_k6, ML_l6, ML_r15, ML_k7, ML_l7, ML_r16, ML_k8, ML_l8, ML_r17, ML_k9, ML_l9, ML_r18, ML_k10, ML_l10, ML_r19, ML_k11, ML_l11, ML_r20, ML_k12, ML_l12, ML_r21, ML_k13, ML_l13, ML_r22, ML_k14, ML_l14, ML_r23, ML_k15, ML_l15, ML_r24, ML_k16, ML_l16, ML_r25, ML_k17, ML_l17, ML_r26, ML_k18, ML_l18, ML_r30, ML_k19, ML_l19, ML_r35, ML_k20, ML_l20, ML_r36, ML_k21, ML_l21, ML_r37, ML_k22, ML_l22, ML_r38, ML_k23, ML_l23, ML_r40, ML_k24, ML_l24, ML_r41, ML_k25, ML_l25, ML_r42, ML_k26, ML_l26, ML_r43, ML_k27, ML_l27, ML_r44, ML_k28, ML_l28, ML_r45, ML_k29, ML_l29, ML_r48, ML_k30, ML_l30, ML_r51, ML_k31, ML_l31, ML_r52, ML_k32, ML_l32, ia0, ia4, ia8, ia12, ia16, ia20, ia24, ia52, ia60, ia68, im7, im14, ap6, iaN, ap1, ixN, vpN, arE (o := o) (c := 1), ar_s, hs, up_ne, up_eq, if_true]
    have hF1 : fI (fun a _ => a = o + 1) M (msI (msI M (o + 1) (4 + l) (ma_ 0 (s (4 + l) - less))) (o + 1) (12 + l) D) := (fI.rf.ro).ro
    by_cases e : ma_ 0 (s (4 + l) - less) = s l
    · rw [if_pos e]
      refine w7_d122 hL hF1 hl (s2 := up (up s (4 + l) (ma_ 0 (s (4 + l) - less))) (12 + l) D) (by simp only [ar_s, if_true, hs]) up_eq ((up_ne (by omega)).trans (up_ne (by omega))) (fun M' k1 k2 => h M' k1 ?_)
      unfold dS; simp only [← hD, if_pos e]; exact k2
    · rw [if_neg e]
      refine w7_d122 hL hF1 hl (s2 := up (up s (4 + l) (ma_ 0 (s (4 + l) - less))) (12 + l) D) (by simp only [ar_s, if_true, hs]) up_eq ((up_ne (by omega)).trans (up_ne (by omega))) (fun M' k1 k2 => h M' k1 ?_)
      unfold dS; simp only [← hD, if_neg e]; exact k2
  by_cases e : ma_ 0 (s (4 + l) - less) = 0
  · have := h85 _ (if_pos e).symm
    simp (disch := first | assumption | omega) only [mgR_sI, mgR_sL, mkd_sI, mkd_sL, mln_sI, mln_sL, Option.some.injEq, exists_eq_left', forall_eq, true_and, and_true, Nat.reduceLT, exists_eq_left, ML_r0, ML_k1, ML_l1, ML_r1, ML_k2, ML_l2, ML_r2, ML_k3, ML_l3, ML_r3, ML_k4, ML_l4, ML_r13, ML_k5, ML_l5, ML_r14, ML_k6, ML_l6, ML_r15, ML_k7, ML_l7, ML_r16, ML_k8, ML_l8, ML_r17, ML_k9, ML_l9, ML_r18, ML_k10, ML_l10, ML_r19, ML_k11, ML_l11, ML_r20, ML_k12, ML_l12, ML_r21, ML_k13, ML_l13, ML_r22, ML_k14, ML_l14, ML_r23, ML_k15, ML_l15, ML_r24, ML_k16, ML_l16, ML_r25, ML_k17, ML_l17, ML_r26, ML_k18, ML_l18, ML_r30, ML_k19, ML_l19, ML_r35, ML_k20, ML_l20, ML_r36, ML_k21, ML_l21, ML_r37, ML_k22, ML_l22, ML_r38, ML_k23, ML_l23, ML_r40, ML_k24, ML_l24, ML_r41, ML_k25, ML_l25, ML_r42, ML_k26, ML_l26, ML_r43, ML_k27, ML_l27, ML_r44, ML_k28, ML_l28, ML_r45, ML_k29, ML_l29, ML_r48, ML_k30, ML_l30, ML_r51, ML_k31, ML_l31, ML_r52, ML_k32, ML_l32, ia0, ia4, ia8, ia12, ia16, ia20, ia24, ia52, ia60, ia68, im7, im14, ap6, iaN, ap1, ixN, vpN, w7_max, arE (o := o) (c := 1), ar_s, hs, up_ne, up_eq, if_true]
    rw [if_pos e]
    unfold wb_X7_dries_85 at this
    simpa (disch := first | assumption | omega) only [mgR_sI, mgR_sL, mkd_sI, mkd_sL, mln_sI, mln_sL, Option.some.injEq, exists_eq_left', forall_eq, true_and, and_true, Nat.reduceLT, exists_eq_left, ML_r0, ML_k1, ML_l1, ML_r1, ML_k2, ML_l2, ML_r2, ML_k3, ML_l3, ML_r3, ML_k4, ML_l4, ML_r13, ML_k5, ML_l5, ML_r14, ML_k6, ML_l6, ML_r15, ML_k7, ML_l7, ML_r16, ML_k8, ML_l8, ML_r17, ML_k9, ML_l9, ML_r18, ML_k10, ML_l10, ML_r19, ML_k11, ML_l11, ML_r20, ML_k12, ML_l12, ML_r21, ML_k13, ML_l13, ML_r22, ML_k14, ML_l14, ML_r23, ML_k15, ML_l15, ML_r24, ML_k16, ML_l16, ML_r25, ML_k17, ML_l17, ML_r26, ML_k18, ML_l18, ML_r30, ML_k19, ML_l19, ML_r35, ML_k20, ML_l20, ML_r36, ML_k21, ML_l21, ML_r37, ML_k22, ML_l22, ML_r38, ML_k23, ML_l23, ML_r40, ML_k24, ML_l24, ML_r41, ML_k25, ML_l25, ML_r42, ML_k26, ML_l26, ML_r43, ML_k27, ML_l27, ML_r44, ML_k28, ML_l28, ML_r45, ML_k29, ML_l29, ML_r48, ML_k30, ML_l30, ML_r51, ML_k31, ML_l31, ML_r52, ML_k32, ML_l32, ia0, ia4, ia8, ia12, ia16, ia20, ia24, ia52, ia60, ia68, im7, im14, ap6, iaN, ap1, ixN, vpN, arE (o := o) (c := 1), ar_s, hs, up_ne, up_eq, if_true] using this
  · have := h85 _ (if_neg e).symm
    simp (disch := first | assumption | omega) only [mgR_sI, mgR_sL, mkd_sI, mkd_sL, mln_sI, mln_sL, Option.some.injEq, exists_eq_left', forall_eq, true_and, and_true, Nat.reduceLT, exists_eq_left, ML_r0, ML_k1, ML_l1, ML_r1, ML_k2, ML_l2, ML_r2, ML_k3, ML_l3, ML_r3, ML_k4, ML_l4, ML_r13, ML_k5, ML_l5, ML_r14, ML_k6, ML_l6, ML_r15, ML_k7, ML_l7, ML_r16, ML_k8, ML_l8, ML_r17, ML_k9, ML_l9, ML_r18, ML_k10, ML_l10, ML_r19, ML_k11, ML_l11, ML_r20, ML_k12, ML_l12, ML_r21, ML_k13, ML_l13, ML_r22, ML_k14, ML_l14, ML_r23, ML_k15, ML_l15, ML_r24, ML_k16, ML_l16, ML_r25, ML_k17, ML_l17, ML_r26, ML_k18, ML_l18, ML_r30, ML_k19, ML_l19, ML_r35, ML_k20, ML_l20, ML_r36, ML_k21, ML_l21, ML_r37, ML_k22, ML_l22, ML_r38, ML_k23, ML_l23, ML_r40, ML_k24, ML_l24, ML_r41, ML_k25, ML_l25, ML_r42, ML_k26, ML_l26, ML_r43, ML_k27, ML_l27, ML_r44, ML_k28, ML_l28, ML_r45, ML_k29, ML_l29, ML_r48, ML_k30, ML_l30, ML_r51, ML_k31, ML_l31, ML_r52, ML_k32, ML_l32, ia0, ia4, ia8, ia12, ia16, ia20, ia24, ia52, ia60, ia68, im7, im14, ap6, iaN, ap1, ixN, vpN, w7_max, arE (o := o) (c := 1), ar_s, hs, up_ne, up_eq, if_true]
    rw [if_neg e]
    unfold wb_X7_dries_85 at this
    simpa (disch := first | assumption | omega) only [mgR_sI, mgR_sL, mkd_sI, mkd_sL, mln_sI, mln_sL, Option.some.injEq, exists_eq_left', forall_eq, true_and, and_true, Nat.reduceLT, exists_eq_left, ML_r0, ML_k1, ML_l1, ML_r1, ML_k2, ML_l2, ML_r2, ML_k3, ML_l3, ML_r3, ML_k4, ML_l4, ML_r13, ML_k5, ML_l5, ML_r14, ML_k6, ML_l6, ML_r15, ML_k7, ML_l7, ML_r16, ML_k8, ML_l8, ML_r17, ML_k9, ML_l9, ML_r18, ML_k10, ML_l10, ML_r19, ML_k11, ML_l11, ML_r20, ML_k12, ML_l12, ML_r21, ML_k13, ML_l13, ML_r22, ML_k14, ML_l14, ML_r23, ML_k15, ML_l15, ML_r24, ML_k16, ML_l16, ML_r25, ML_k17, ML_l17, ML_r26, ML_k18, ML_l18, ML_r30, ML_k19, ML_l19, ML_r35, ML_k20, ML_l20, ML_r36, ML_k21, ML_l21, ML_r37, ML_k22, ML_l22, ML_r38, ML_k23, ML_l23, ML_r40, ML_k24, ML_l24, ML_r41, ML_k25, ML_l25, ML_r42, ML_k26, ML_l26, ML_r43, ML_k27, ML_l27, ML_r44, ML_k28, ML_l28, ML_r45, ML_k29, ML_l29, ML_r48, ML_k30, ML_l30, ML_r51, ML_k31, ML_l31, ML_r52, ML_k32, ML_l32, ia0, ia4, ia8, ia12, ia16, ia20, ia24, ia52, ia60, ia68, im7, im14, ap6, iaN, ap1, ixN, vpN, arE (o := o) (c := 1), ar_s, hs, up_ne, up_eq, if_true] using this
theorem fI.ow {o : Nat} {M M' : MM} {s : Dy} {R : Nat → Int32} (hF : fI (fun a _ => a = o + 1) M M') (h : dyE o M s) (hr : ar o 1 M' = R) : dyE o M' (R, s.2) :=
  ⟨hr, (hF.2 _ _ (by omega)).trans h.2.1, (hF.2 _ _ (by omega)).trans h.2.2.1, (hF.2 _ _ (by omega)).trans h.2.2.2.1, fun q hq => (hF.2 _ _ (by omega)).trans (h.2.2.2.2 q hq)⟩
theorem fI.PD2 {o : Nat} {M M' : MM} (h : fI (fun a _ => a = o + 1) M M') : fI (PD o) M M' := h.mono (fun a k e => by simp [PD, e])
def driA (T : Nat → Txt) (s : Dy) (l : Nat) (sn : Int32) : Dy := (dS s.1 l (lessS T s.1 l sn), s.2)
theorem w7_dries {o l : Nat} {sn : Int32} {M : MM} {T : Nat → Txt} {s : Dy} {Post : MM → Prop} (hL : ML o M) (hT : TM o M T) (hs : dyE o M s) (hl : l < 4) (h : ∀ M', fI (PD o) M M' → dyE o M' (driA T s l sn) → Post M') : wp_X7_dries M o (nI l) sn Post := by
  unfold wp_X7_dries
  refine w7_feelsPlant hL hl (fun M1 hF h0 => ?_)
  have hn : nw o M = s.1 := hs.1
  rw [hn] at h0
  have hF1 : fI (fun a _ => a = o + 17 ∨ a = o + 18) M M1 := hF.mono (fun a k e => Or.inr e)
  refine w7_byText (T := T) (t := 0) (ML_of hF.e hL) (hF.tm (fun c h1 h2 k => by omega) hT) (by omega) h0 (fun M2 hF2 => ?_)
  have hF2' := hF1.tr (hF2.mono (fun a k e => Or.inl e))
  have hd2 := hs.fc hF2'
  by_cases e : sn = 0
  · rw [if_pos e]
    refine w7_d31 (ML_of hF2'.e hL) hl hd2.1 (fun M' k1 k2 => h M' (hF2'.PD1.tr k1.PD2) ?_)
    have := k1.ow hd2 k2
    unfold driA lessS; rw [if_pos e]; exact this
  · rw [if_neg e]
    refine w7_byText (T := T) (t := 0) (ML_of hF2'.e hL) (hF2'.tm (fun c h1 h2 k => by omega) hT) (by omega) (hF2.fc (fun k => by omega) h0) (fun M3 hF3 => ?_)
    have hF3' := hF2'.tr (hF3.mono (fun a k e => Or.inl e))
    have hd3 := hs.fc hF3'
    simp only [forall_eq]
    refine w7_d31 (ML_of hF3'.e hL) hl hd3.1 (fun M' k1 k2 => h M' (hF3'.PD1.tr k1.PD2) ?_)
    have := k1.ow hd3 k2
    unfold driA lessS; rw [if_neg e]; exact this

theorem shS_perm {s0 s : Nat → Int32} {l : Nat} {w : Int32} (hl : l < 4) (h : perm s0 s) : perm s0 (shS s l w) := fun k h1 => by
  unfold shS; rw [if_neg (by omega)]; exact h k h1
theorem perm.ite {s a b : Nat → Int32} {c : Prop} [Decidable c] (h : perm s a) (g : perm s b) : perm s (if c then a else b) := by split <;> assumption
theorem dS_perm {s : Nat → Int32} {l : Nat} {less : Int32} (hl : l < 4) : perm s (dS s l less) := by
  unfold dS
  refine shS_perm hl ?_
  have h3 : ∀ a b c, perm s (up (up (up s (4 + l) a) (12 + l) b) (16 + l) c) := fun a b c => ((perm.rf.up (by omega)).up (by omega)).up (by omega)
  exact perm.ite (by unfold dedR; exact (h3 _ _ _).up (by omega)) (h3 _ _ _)
theorem itN_perm {F : Nat → Dy → Dy} {n : Nat} (h : ∀ i s, i < n → perm s.1 (F i s).1) : ∀ m, m ≤ n → ∀ s, perm s.1 (itN F m s).1 := by
  intro m
  induction m with
  | zero => intro _ s; exact perm.rf
  | succ m ih => intro hm s; exact (ih (by omega) s).tr (h m _ (by omega))
def lotA (s : Dy) : Dy := (lotS s.1, s.2)
def wtrs (T : Nat → Txt) (p : Nat) : Nat → Dy → Dy := fun l s => if livS s.1 (nI l) = true then watA T s p l else s
def dayP (T : Nat → Txt) : Nat → Dy → Dy := fun p s =>
  if isPe s.1 (nI p) = true then (if drwS s.1 < s.1 (52 + p) then itN (wtrs T p) 4 (lotA s) else lotA s) else s
def sunA (s : Dy) (sn : Int32) : Dy := (s.1, s.2.1, s.2.2.1, s.2.2.2.1 + sn, s.2.2.2.2)
def snS (s : Nat → Int32) : Int32 := if 5 ≤ drwS s then 0 else 1
def dayD (T : Nat → Txt) : Nat → Dy → Dy := fun l s =>
  if livS s.1 (nI l) = true then driA T (sunA (lotA s) (snS s.1)) l (snS s.1) else s
def dayU (s : Dy) : Dy := (up s.1 79 (s.1 79 + 1), s.2)
def dayG (T : Nat → Txt) (s : Dy) : Dy := dayU (itN (dayD T) 4 (itN (dayP T) 8 s))
def goN (T : Nat → Txt) : Nat → Dy → Dy
  | 0, s => s
  | n + 1, s => if 9999 ≤ s.1 79 then s else goN T n (dayG T s)
theorem lot_perm {s : Dy} : perm s.1 (lotA s).1 := perm.rf.up (by omega)
theorem wtrs_perm {T : Nat → Txt} {p l : Nat} {s : Dy} (hp : p < 8) (hl : l < 4) : perm s.1 (wtrs T p l s).1 := by
  unfold wtrs; split
  · exact watR_perm hp hl
  · exact perm.rf
theorem dayP_perm {T : Nat → Txt} {p : Nat} {s : Dy} (hp : p < 8) : perm s.1 (dayP T p s).1 := by
  unfold dayP; split
  · split
    · exact lot_perm.tr (itN_perm (n := 4) (fun i s hi => wtrs_perm hp hi) 4 (by omega) _)
    · exact lot_perm
  · exact perm.rf
theorem dayD_perm {T : Nat → Txt} {l : Nat} {s : Dy} (hl : l < 4) : perm s.1 (dayD T l s).1 := by
  unfold dayD; split
  · exact (lot_perm (s := s)).tr (dS_perm hl)
  · exact perm.rf
theorem dayG_perm {T : Nat → Txt} {s : Dy} : perm s.1 (dayG T s).1 := by
  unfold dayG dayU
  exact ((itN_perm (n := 8) (fun i s hi => dayP_perm hi) 8 (by omega) s).tr (itN_perm (n := 4) (fun i s hi => dayD_perm hi) 4 (by omega) _)).up (by omega)
theorem dyE.lot {o : Nat} {M : MM} {s : Dy} (h : dyE o M s) : dyE o (msI M (o + 1) 80 (lotS s.1 80)) (lotA s) := by
  have hF : fI (fun a _ => a = o + 1) M (msI M (o + 1) 80 (lotS s.1 80)) := fI.rf.ro
  refine hF.ow h ?_
  have h1 : ar o 1 M = s.1 := h.1
  rw [ar_s, if_pos rfl, h1]
  funext j; unfold lotS up; simp only []
  by_cases e : j = 80
  · rw [if_pos e, if_pos e]; simp
  · rw [if_neg e, if_neg e]
theorem wtrs_t {T : Nat → Txt} {p l : Nat} {s : Dy} (h : livS s.1 (nI l) = true) : wtrs T p l s = watA T s p l := if_pos h
theorem wtrs_f {T : Nat → Txt} {p l : Nat} {s : Dy} (h : ¬ livS s.1 (nI l) = true) : wtrs T p l s = s := if_neg h
theorem l7_wtrs {o p : Nat} {M0 M : MM} {T : Nat → Txt} {s : Dy} {X : MM → Prop} (hL : ML o M0) (hT : TM o M0 T) (hF0 : fI (PD o) M0 M) (hs : dyE o M s) (hr : RuOk s.1) (hp : p < 8) (h : ∀ M', fI (PD o) M0 M' → dyE o M' (itN (wtrs T p) 4 s) → X M') : ∃ n, wl_X7_dayGoes_37 o (nI p) X n M (nI 0) := by
  refine cl_ (fun n M1 i => wl_X7_dayGoes_37 o (nI p) X n M1 (nI i)) (fun i M1 => fI (PD o) M0 M1 ∧ dyE o M1 (itN (wtrs T p) i s)) 4 ?_ ?_ M 0 (by omega) ⟨hF0, hs⟩
  · intro n i M1 hi ⟨hF, hd⟩ hs'
    have h1 : ML o M1 := ML_of hF.e hL
    have ht1 : TM o M1 T := hF.tm (fun c h1 h2 k => by simp [PD]; omega) hT
    show wl_X7_dayGoes_37 o (nI p) X (n + 1) M1 (nI i)
    unfold wl_X7_dayGoes_37
    rw [if_neg (show ¬ (4 : Int32) ≤ nI i from nI_ge hi (by decide)), w7_lives h1]
    have hr1 : RuOk (itN (wtrs T p) i s).1 := (itN_perm (n := 4) (fun i s hi => wtrs_perm hp hi) i (by omega) s).ru hr
    have hstep : itN (wtrs T p) (i + 1) s = wtrs T p i (itN (wtrs T p) i s) := rfl
    have hd0 : nw o M1 = (itN (wtrs T p) i s).1 := hd.1
    rw [hd0]
    by_cases e : livS (itN (wtrs T p) i s).1 (nI i) = true
    · simp only [e, if_true, forall_eq, ap1, if_neg (show ¬ (1 : Int32) = 0 by decide)]
      refine w7_waters h1 ht1 hd hr1 hp hi (fun M2 hF2 hd2 => hs' M2 ⟨hF.tr hF2, ?_⟩)
      rw [hstep, wtrs_t e]; exact hd2
    · rw [if_neg e]
      simp only [if_true, forall_eq, ap1]
      refine hs' M1 ⟨hF, ?_⟩
      rw [hstep, wtrs_f e]; exact hd
  · intro n M1 ⟨hF, hd⟩
    show wl_X7_dayGoes_37 o (nI p) X (n + 1) M1 (nI 4)
    unfold wl_X7_dayGoes_37
    rw [if_pos (show (4 : Int32) ≤ nI 4 from by decide)]
    exact h M1 hF hd

theorem l7_dayP {o : Nat} {M : MM} {T : Nat → Txt} {s : Dy} {X : MM → Prop} (hL : ML o M) (hT : TM o M T) (hs : dyE o M s) (hr : RuOk s.1) (h : ∀ M', fI (PD o) M M' → dyE o M' (itN (dayP T) 8 s) → X M') : ∃ n, wl_X7_dayGoes_2 o X n M (nI 0) := by
  refine cl_ (fun n M1 i => wl_X7_dayGoes_2 o X n M1 (nI i)) (fun i M1 => fI (PD o) M M1 ∧ dyE o M1 (itN (dayP T) i s)) 8 ?_ ?_ M 0 (by omega) ⟨fI.rf, hs⟩
  · intro n i M1 hi ⟨hF, hd⟩ hs'
    have h1 : ML o M1 := ML_of hF.e hL
    show wl_X7_dayGoes_2 o X (n + 1) M1 (nI i)
    unfold wl_X7_dayGoes_2
    have hr1 : RuOk (itN (dayP T) i s).1 := (itN_perm (n := 8) (fun i s hi => dayP_perm hi) i (by omega) s).ru hr
    have hstep : itN (dayP T) (i + 1) s = dayP T i (itN (dayP T) i s) := rfl
    generalize itN (dayP T) i s = s1 at hd hr1 hstep
    rw [hstep] at hs'
    have hd0 : nw o M1 = s1.1 := hd.1
    rw [if_neg (show ¬ (8 : Int32) ≤ nI i from nI_ge hi (by decide)), w7_isPerson h1, hd0]
    unfold dayP at hs'
    by_cases e : isPe s1.1 (nI i) = true
    · simp only [e, if_true, forall_eq, ap1, if_neg (show ¬ (1 : Int32) = 0 by decide), w7_draws h1] at hs' ⊢
      rw [hd0]
      have hdl := hd.lot
      have hFl : fI (PD o) M (msI M1 (o + 1) 80 (lotS s1.1 80)) := hF.s (by simp [PD])
      have ha1 : ar o 1 M1 = s1.1 := hd0
      simp (disch := first | assumption | omega) only [mgR_sI, mgR_sL, mkd_sI, mkd_sL, mln_sI, mln_sL, Option.some.injEq, exists_eq_left', forall_eq, true_and, and_true, Nat.reduceLT, exists_eq_left, ML_r0, ML_k1, ML_l1, ML_r1, ML_k2, ML_l2, ML_r2, ML_k3, ML_l3, ML_r3, ML_k4, ML_l4, ML_r13, ML_k5, ML_l5, ML_r14, ML_k6, ML_l6, ML_r15, ML_k7, ML_l7, ML_r16, ML_k8, ML_l8, ML_r17, ML_k9, ML_l9, ML_r18, ML_k10, ML_l10, ML_r19, ML_k11, ML_l11, ML_r20, ML_k12, ML_l12, ML_r21, ML_k13, ML_l13, ML_r22, ML_k14, ML_l14, ML_r23, ML_k15, ML_l15, ML_r24, ML_k16, ML_l16, ML_r25, ML_k17, ML_l17, ML_r26, ML_k18, ML_l18, ML_r30, ML_k19, ML_l19, ML_r35, ML_k20, ML_l20, ML_r36, ML_k21, ML_l21, ML_r37, ML_k22, ML_l22, ML_r38, ML_k23, ML_l23, ML_r40, ML_k24, ML_l24, ML_r41, ML_k25, ML_l25, ML_r42, ML_k26, ML_l26, ML_r43, ML_k27, ML_l27, ML_r44, ML_k28, ML_l28, ML_r45, ML_k29, ML_l29, ML_r48, ML_k30, ML_l30, ML_r51, ML_k31, ML_l31, ML_r52, ML_k32, ML_l32, ia0, ia4, ia8, ia12, ia16, ia20, ia24, ia52, ia60, ia68, im7, im14, ap6, iaN, ap1, ixN, vpN, arE (o := o) (c := 1), ar_s, up_ne, if_true, ha1]
      by_cases e2 : drwS s1.1 < s1.1 (52 + i)
      · rw [if_pos e2]
        rw [if_pos e2] at hs'
        exact l7_wtrs hL hT hFl hdl (lot_perm.ru hr1) hi (fun M2 hF2 hd2 => hs' M2 ⟨hF2, hd2⟩)
      · rw [if_neg e2]
        rw [if_neg e2] at hs'
        exact hs' _ ⟨hFl, hdl⟩
    · rw [if_neg e]
      rw [if_neg e] at hs'
      simp only [if_true, forall_eq, ap1]
      exact hs' M1 ⟨hF, hd⟩
  · intro n M1 ⟨hF, hd⟩
    show wl_X7_dayGoes_2 o X (n + 1) M1 (nI 8)
    unfold wl_X7_dayGoes_2
    rw [if_pos (show (8 : Int32) ≤ nI 8 from by decide)]
    exact h M1 hF hd
theorem dyE.sun {o : Nat} {M : MM} {s : Dy} {sn : Int32} (h : dyE o M s) : dyE o (msI M o 29 (s.2.2.2.1 + sn)) (sunA s sn) := by
  obtain ⟨h1, h2, h3, h4, h5⟩ := h
  refine ⟨(nw_0).trans h1, ?_, ?_, fd_e, ?_⟩
  · rw [fd_n (by omega)]; exact h2
  · rw [fd_n (by omega)]; exact h3
  · intro q hq; rw [ar_0 (c := 19) (by omega)]; exact h5 q hq
theorem l7_dayD {o : Nat} {M0 M : MM} {T : Nat → Txt} {s : Dy} {X : MM → Prop} (hL : ML o M0) (hT : TM o M0 T) (hF0 : fI (PD o) M0 M) (hs : dyE o M s) (h : ∀ M', fI (PD o) M0 M' → dyE o M' (itN (dayD T) 4 s) → X M') : ∃ n, wl_X7_dayGoes_70 o X n M (nI 0) := by
  refine cl_ (fun n M1 i => wl_X7_dayGoes_70 o X n M1 (nI i)) (fun i M1 => fI (PD o) M0 M1 ∧ dyE o M1 (itN (dayD T) i s)) 4 ?_ ?_ M 0 (by omega) ⟨hF0, hs⟩
  · intro n i M1 hi ⟨hF, hd⟩ hs'
    have h1 : ML o M1 := ML_of hF.e hL
    show wl_X7_dayGoes_70 o X (n + 1) M1 (nI i)
    unfold wl_X7_dayGoes_70
    have hstep : itN (dayD T) (i + 1) s = dayD T i (itN (dayD T) i s) := rfl
    generalize itN (dayD T) i s = s1 at hd hstep
    rw [hstep] at hs'
    have hd0 : nw o M1 = s1.1 := hd.1
    rw [if_neg (show ¬ (4 : Int32) ≤ nI i from nI_ge hi (by decide)), w7_lives h1, hd0]
    unfold dayD at hs'
    by_cases e : livS s1.1 (nI i) = true
    · rw [if_pos e] at hs'
      simp only [e, if_true, forall_eq, ap1, if_neg (show ¬ (1 : Int32) = 0 by decide), w7_draws h1]
      rw [hd0]
      have hdl := hd.lot
      have hFl : fI (PD o) M0 (msI M1 (o + 1) 80 (lotS s1.1 80)) := hF.s (by simp [PD])
      have hsn : ∀ sn, mgI (msI M1 (o + 1) 80 (lotS s1.1 80)) o 29 + sn = (lotA s1).2.2.2.1 + sn := fun sn => by rw [hdl.2.2.2.1]
      have fin : ∀ sn, sn = snS s1.1 → wp_X7_dries (msI (msI M1 (o + 1) 80 (lotS s1.1 80)) o 29 ((lotA s1).2.2.2.1 + sn)) o (nI i) sn (fun M_50 => wl_X7_dayGoes_70 o X n M_50 (nI (i + 1))) := by
        intro sn e3
        have hFm : fI (PD o) M0 (msI (msI M1 (o + 1) 80 (lotS s1.1 80)) o 29 ((lotA s1).2.2.2.1 + sn)) := hFl.s (by simp [PD])
        refine w7_dries (ML_of hFm.e hL) (hFm.tm (fun c h1 h2 k => by simp [PD]; omega) hT) (hdl.sun (sn := sn)) hi (fun M2 hF2 hd2 => hs' M2 ⟨hFm.tr hF2, ?_⟩)
        rw [← e3]; exact hd2
      unfold wb_X7_dayGoes_99 wb_X7_dayGoes_114
      by_cases e2 : 5 ≤ drwS s1.1
      · rw [if_pos e2]
        simp only [if_true, forall_eq, ap1, hsn]
        exact fin 0 (by unfold snS; rw [if_pos e2])
      · rw [if_neg e2]
        simp only [forall_eq, ap1, hsn, if_neg (show ¬ (1 : Int32) = 0 by decide)]
        exact fin 1 (by unfold snS; rw [if_neg e2])
    · rw [if_neg e]
      rw [if_neg e] at hs'
      simp only [if_true, forall_eq, ap1]
      exact hs' M1 ⟨hF, hd⟩
  · intro n M1 ⟨hF, hd⟩
    show wl_X7_dayGoes_70 o X (n + 1) M1 (nI 4)
    unfold wl_X7_dayGoes_70
    rw [if_pos (show (4 : Int32) ≤ nI 4 from by decide)]
    exact h M1 hF hd
theorem w7_dayGoes {o : Nat} {M : MM} {T : Nat → Txt} {s : Dy} {Post : MM → Prop} (hL : ML o M) (hT : TM o M T) (hs : dyE o M s) (hr : RuOk s.1) (h : ∀ M', fI (PD o) M M' → dyE o M' (dayG T s) → Post M') : wp_X7_dayGoes M o Post := by
  unfold wp_X7_dayGoes
  refine l7_dayP hL hT hs hr (fun M1 hF1 hd1 => ?_)
  refine l7_dayD hL hT hF1 hd1 (fun M2 hF2 hd2 => ?_)
  have h2 : ML o M2 := ML_of hF2.e hL
  have ha : ar o 1 M2 = (itN (dayD T) 4 (itN (dayP T) 8 s)).1 := hd2.1
  simp (disch := first | assumption | omega) only [mgR_sI, mgR_sL, mkd_sI, mkd_sL, mln_sI, mln_sL, Option.some.injEq, exists_eq_left', forall_eq, true_and, and_true, Nat.reduceLT, exists_eq_left, ML_r0, ML_k1, ML_l1, ML_r1, ML_k2, ML_l2, ML_r2, ML_k3, ML_l3, ML_r3, ML_k4, ML_l4, ML_r13, ML_k5, ML_l5, ML_r14, ML_k6, ML_l6, ML_r15, ML_k7, ML_l7, ML_r16, ML_k8, ML_l8, ML_r17, ML_k9, ML_l9, ML_r18, ML_k10, ML_l10, ML_r19, ML_k11, ML_l11, ML_r20, ML_k12, ML_l12, ML_r21, ML_k13, ML_l13, ML_r22, ML_k14, ML_l14, ML_r23, ML_k15, ML_l15, ML_r24, ML_k16, ML_l16, ML_r25, ML_k17, ML_l17, ML_r26, ML_k18, ML_l18, ML_r30, ML_k19, ML_l19, ML_r35, ML_k20, ML_l20, ML_r36, ML_k21, ML_l21, ML_r37, ML_k22, ML_l22, ML_r38, ML_k23, ML_l23, ML_r40, ML_k24, ML_l24, ML_r41, ML_k25, ML_l25, ML_r42, ML_k26, ML_l26, ML_r43, ML_k27, ML_l27, ML_r44, ML_k28, ML_l28, ML_r45, ML_k29, ML_l29, ML_r48, ML_k30, ML_l30, ML_r51, ML_k31, ML_l31, ML_r52, ML_k32, ML_l32, arE (o := o) (c := 1), ha]
  refine h _ (hF2.s (by simp [PD])) ?_
  unfold dayG dayU
  refine fI.ow (fI.rf.ro) hd2 ?_
  rw [ar_s, if_pos rfl, ha]
theorem l7_goN {o n : Nat} {M : MM} {T : Nat → Txt} {X : MM → Prop} (hL : ML o M) (hT : TM o M T) (hn : n < 2147483648) : ∀ j i M1 s, i + j = n → fI (PD o) M M1 → dyE o M1 s → RuOk s.1 → (∀ M', fI (PD o) M M' → dyE o M' (goN T j s) → X M') → wl_X7_daysGo_38 o (nI n) X (j + 1) M1 (nI i) := by
  intro j
  induction j with
  | zero =>
    intro i M1 s hij hF hd hr h
    unfold wl_X7_daysGo_38
    rw [if_pos (nI_le (by omega) (by omega))]
    exact h M1 hF hd
  | succ j ih =>
    intro i M1 s hij hF hd hr h
    have h1 : ML o M1 := ML_of hF.e hL
    have ha : ar o 1 M1 = s.1 := hd.1
    unfold wl_X7_daysGo_38
    rw [if_neg (nI_ge (by omega) (by omega))]
    simp (disch := first | assumption | omega) only [mgR_sI, mgR_sL, mkd_sI, mkd_sL, mln_sI, mln_sL, Option.some.injEq, exists_eq_left', forall_eq, true_and, and_true, Nat.reduceLT, exists_eq_left, ML_r0, ML_k1, ML_l1, ML_r1, ML_k2, ML_l2, ML_r2, ML_k3, ML_l3, ML_r3, ML_k4, ML_l4, ML_r13, ML_k5, ML_l5, ML_r14, ML_k6, ML_l6, ML_r15, ML_k7, ML_l7, ML_r16, ML_k8, ML_l8, ML_r17, ML_k9, ML_l9, ML_r18, ML_k10, ML_l10, ML_r19, ML_k11, ML_l11, ML_r20, ML_k12, ML_l12, ML_r21, ML_k13, ML_l13, ML_r22, ML_k14, ML_l14, ML_r23, ML_k15, ML_l15, ML_r24, ML_k16, ML_l16, ML_r25, ML_k17, ML_l17, ML_r26, ML_k18, ML_l18, ML_r30, ML_k19, ML_l19, ML_r35, ML_k20, ML_l20, ML_r36, ML_k21, ML_l21, ML_r37, ML_k22, ML_l22, ML_r38, ML_k23, ML_l23, ML_r40, ML_k24, ML_l24, ML_r41, ML_k25, ML_l25, ML_r42, ML_k26, ML_l26, ML_r43, ML_k27, ML_l27, ML_r44, ML_k28, ML_l28, ML_r45, ML_k29, ML_l29, ML_r48, ML_k30, ML_l30, ML_r51, ML_k31, ML_l31, ML_r52, ML_k32, ML_l32, arE (o := o) (c := 1), ha]
    by_cases e : 9999 ≤ s.1 79
    · rw [if_pos e]
      refine h M1 hF ?_
      unfold goN; rw [if_pos e]; exact hd
    · rw [if_neg e]
      refine w7_dayGoes h1 (hF.tm (fun c h1 h2 k => by simp [PD]; omega) hT) hd hr (fun M2 hF2 hd2 => ?_)
      simp only [ap1]
      refine ih (i + 1) M2 _ (by omega) (hF.tr hF2) hd2 (dayG_perm.ru hr) (fun M' k1 k2 => h M' k1 ?_)
      unfold goN; rw [if_neg e]; exact k2
def dy0 (s : Nat → Int32) : Dy := (s, 0, 0, 0, fun _ => 0)

theorem goN_perm {T : Nat → Txt} : ∀ n (s : Dy), perm s.1 (goN T n s).1 := by
  intro n
  induction n with
  | zero => intro s; exact perm.rf
  | succ n ih =>
    intro s
    unfold goN
    split
    · exact perm.rf
    · exact dayG_perm.tr (ih _)
theorem l7_zero {o : Nat} {x1 : Int32} {M0 M : MM} {X : MM → Prop} (hL : ML o M0) (hF0 : fI (PD o) M0 M) (h : ∀ M', fI (PD o) M0 M' → fI (fun a _ => a = o + 19) M M' → (∀ q, q < 8 → ar o 19 M' q = 0) → X M') : ∃ n, wl_X7_daysGo_17 o x1 X n M (nI 0) := by
  refine cl_ (fun n M1 i => wl_X7_daysGo_17 o x1 X n M1 (nI i)) (fun i M1 => fI (fun a _ => a = o + 19) M M1 ∧ ∀ q, q < i → ar o 19 M1 q = 0) 8 ?_ ?_ M 0 (by omega) ⟨fI.rf, fun q hq => by omega⟩
  · intro n i M1 hi ⟨hF, hr⟩ hs'
    have h1 : ML o M1 := ML_of (hF.e.trans hF0.e) hL
    show wl_X7_daysGo_17 o x1 X (n + 1) M1 (nI i)
    unfold wl_X7_daysGo_17
    rw [if_neg (show ¬ (8 : Int32) ≤ nI i from nI_ge hi (by decide))]
    simp (disch := first | assumption | omega) only [mgR_sI, mgR_sL, mkd_sI, mkd_sL, mln_sI, mln_sL, Option.some.injEq, exists_eq_left', forall_eq, true_and, and_true, Nat.reduceLT, exists_eq_left, ML_r0, ML_k1, ML_l1, ML_r1, ML_k2, ML_l2, ML_r2, ML_k3, ML_l3, ML_r3, ML_k4, ML_l4, ML_r13, ML_k5, ML_l5, ML_r14, ML_k6, ML_l6, ML_r15, ML_k7, ML_l7, ML_r16, ML_k8, ML_l8, ML_r17, ML_k9, ML_l9, ML_r18, ML_k10, ML_l10, ML_r19, ML_k11, ML_l11, ML_r20, ML_k12, ML_l12, ML_r21, ML_k13, ML_l13, ML_r22, ML_k14, ML_l14, ML_r23, ML_k15, ML_l15, ML_r24, ML_k16, ML_l16, ML_r25, ML_k17, ML_l17, ML_r26, ML_k18, ML_l18, ML_r30, ML_k19, ML_l19, ML_r35, ML_k20, ML_l20, ML_r36, ML_k21, ML_l21, ML_r37, ML_k22, ML_l22, ML_r38, ML_k23, ML_l23, ML_r40, ML_k24, ML_l24, ML_r41, ML_k25, ML_l25, ML_r42, ML_k26, ML_l26, ML_r43, ML_k27, ML_l27, ML_r44, ML_k28, ML_l28, ML_r45, ML_k29, ML_l29, ML_r48, ML_k30, ML_l30, ML_r51, ML_k31, ML_l31, ML_r52, ML_k32, ML_l32, ia0, ia4, ia8, ia12, ia16, ia20, ia24, ia52, ia60, ia68, im7, im14, ap6, iaN, ap1, ixN, vpN]
    refine hs' _ ⟨hF.s rfl, fun q hq => ?_⟩
    rw [ar_s, if_pos rfl]
    unfold up
    by_cases e : q = i
    · rw [if_pos e]
    · rw [if_neg e]; exact hr q (by omega)
  · intro n M1 ⟨hF, hr⟩
    show wl_X7_daysGo_17 o x1 X (n + 1) M1 (nI 8)
    unfold wl_X7_daysGo_17
    rw [if_pos (show (8 : Int32) ≤ nI 8 from by decide)]
    exact h M1 (hF0.tr (hF.mono (fun a k e => by simp [PD, e]))) hF hr
theorem w7_daysGo {o n : Nat} {M : MM} {T : Nat → Txt} {s : Nat → Int32} {Post : MM → Prop} (hL : ML o M) (hT : TM o M T) (hs : ar o 1 M = s) (hr : RuOk s) (hn : n < 2147483648) (h : ∀ M', fI (PD o) M M' → dyE o M' (goN T n (dy0 s)) → Post M') : wp_X7_daysGo M o (nI n) Post := by
  unfold wp_X7_daysGo
  simp only [forall_eq]
  have hF0 : fI (PD o) M (msI (msI (msI M o 27 0) o 28 0) o 29 0) := ((fI.rf.s (by simp [PD])).s (by simp [PD])).s (by simp [PD])
  refine l7_zero (M0 := M) hL hF0 (fun M1 hF1 hF2 hz => ?_)
  have hd : dyE o M1 (dy0 s) := by
    refine ⟨?_, ?_, ?_, ?_, hz⟩
    · refine (hF2.nw (fun k => by omega)).trans ?_
      rw [nw_0, nw_0, nw_0]; exact hs
    · rw [hF2.2 _ _ (by omega), fd_n (by omega), fd_n (by omega), fd_e]; rfl
    · rw [hF2.2 _ _ (by omega), fd_n (by omega), fd_e]; rfl
    · rw [hF2.2 _ _ (by omega), fd_e]; rfl
  exact ⟨n + 1, l7_goN hL hT hn n 0 M1 (dy0 s) (by omega) hF1 hd hr h⟩
