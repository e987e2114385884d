/-! the model: the tape, the check, how long it lasts -/
set_option maxRecDepth 100000
def bt8 (v k : Int32) : Int32 := ((v >>> (k &&& 31)).toInt8.toInt32).toInt8.toInt32
def tyS (t : Nat → Int32) (n : Nat) (v : Int32) : Nat → Int32 := up (up (up (up t n (bt8 v 24)) (n + 1) (bt8 v 16)) (n + 2) (bt8 v 8)) (n + 3) (bt8 v 0)
def tpF (o : Nat) : Nat → Nat → Prop := fun a k => a = o + 4 ∨ (a = o ∧ k = 4)
theorem l7_types1 {o n f : Nat} {M0 M : MM} {t : Nat → Int32} {v j i : Int32} {X : MM → Prop} (hL : ML o M0) (hF : fI (tpF o) M0 M) (ht : ar o 4 M = t) (hn : mgI M o 4 = nI n) (hn2 : n < 220) (hj : ¬ j < 0) (hi : i = j + (-1)) (h : ∀ M', fI (tpF o) M0 M' → ar o 4 M' = up t n (bt8 v (8 * j)) → mgI M' o 4 = nI (n + 1) → wl_X7_types_2 o v X f M' i) : wl_X7_types_2 o v X (f + 1) M j := by
  have h1 : ML o M := ML_of hF.e hL
  unfold wl_X7_types_2
  rw [if_neg hj]
  simp (disch := first | assumption | omega) only [mgR_sI, mgR_sL, mkd_sI, mkd_sL, mln_sI, mln_sL, Option.some.injEq, exists_eq_left', forall_eq, true_and, and_true, Nat.reduceLT, exists_eq_left, ML_r0, ML_k1, ML_l1, ML_r1, ML_k2, ML_l2, ML_r2, ML_k3, ML_l3, ML_r3, ML_k4, ML_l4, ML_r13, ML_k5, ML_l5, ML_r14, ML_k6, ML_l6, ML_r15, ML_k7, ML_l7, ML_r16, ML_k8, ML_l8, ML_r17, ML_k9, ML_l9, ML_r18, ML_k10, ML_l10, ML_r19, ML_k11, ML_l11, ML_r20, ML_k12, ML_l12, ML_r21, ML_k13, ML_l13, ML_r22, ML_k14, ML_l14, ML_r23, ML_k15, ML_l15, ML_r24, ML_k16, ML_l16, ML_r25, ML_k17, ML_l17, ML_r26, ML_k18, ML_l18, ML_r30, ML_k19, ML_l19, ML_r35, ML_k20, ML_l20, ML_r36, ML_k21, ML_l21, ML_r37, ML_k22, ML_l22, ML_r38, ML_k23, ML_l23, ML_r40, ML_k24, ML_l24, ML_r41, ML_k25, ML_l25, ML_r42, ML_k26, ML_l26, ML_r43, ML_k27, ML_l27, ML_r44, ML_k28, ML_l28, ML_r45, ML_k29, ML_l29, ML_r48, ML_k30, ML_l30, ML_r51, ML_k31, ML_l31, ML_r52, ML_k32, ML_l32, hn, ia0, ia4, ia8, ia12, ia16, ia20, ia24, ia52, ia60, ia68, im7, im14, ap6, iaN, ap1, ixN, vpN, fd_c, ap1]
  rw [← hi]
  refine h _ ((hF.s (Or.inl rfl)).s (Or.inr ⟨rfl, rfl⟩)) ?_ fd_e
  rw [ar_0 (by omega), ar_s, if_pos rfl, ht]; rfl
theorem w7_types {o n : Nat} {M0 M : MM} {t : Nat → Int32} {v : Int32} {Post : MM → Prop} (hL : ML o M0) (hF : fI (tpF o) M0 M) (ht : ar o 4 M = t) (hn : mgI M o 4 = nI n) (hn2 : n + 4 ≤ 220) (h : ∀ M', fI (tpF o) M0 M' → ar o 4 M' = tyS t n v → mgI M' o 4 = nI (n + 4) → Post M') : wp_X7_types M o v Post := by
  unfold wp_X7_types
  refine ⟨5, ?_⟩
  refine l7_types1 hL hF ht hn (by omega) (by decide) (i := 2) (by decide) (fun M1 k1 k2 k3 => ?_)
  refine l7_types1 hL k1 k2 k3 (by omega) (by decide) (i := 1) (by decide) (fun M1 k1 k2 k3 => ?_)
  refine l7_types1 hL k1 k2 k3 (by omega) (by decide) (i := 0) (by decide) (fun M1 k1 k2 k3 => ?_)
  refine l7_types1 hL k1 k2 k3 (by omega) (by decide) (i := -1) (by decide) (fun M1 k1 k2 k3 => ?_)
  unfold wl_X7_types_2
  rw [if_pos (by decide)]
  exact h M1 k1 k2 k3
def feS (t : Nat → Int32) (n : Nat) (a b c d e : Int32) : Nat → Int32 := tyS (tyS (tyS (tyS (tyS t n a) (n + 4) b) (n + 8) c) (n + 12) d) (n + 16) e
theorem M_feed {o : Nat} {M : MM} {S : St} {a b c d e : Int32} {Post : Int32 → MM → Prop} (hM : MR o M S) (hb : S.2.2.2.2.1 ≤ 220) (h0 : ¬ S.2.2.2.2.1 + 20 ≤ 220 → Post (-1) M) (h1 : S.2.2.2.2.1 + 20 ≤ 220 → ∀ M', mFr o M M' → MR o M' (S.1, S.2.1, S.2.2.1, feS S.2.2.2.1 S.2.2.2.2.1 a b c d e, S.2.2.2.2.1 + 20, S.2.2.2.2.2) → Post (nI (S.2.2.2.2.1 + 20)) M') : wp_X7_feed M o a b c d e Post := by
  obtain ⟨hL, m1, m2, m3, m4, m5, m6, m7⟩ := hM
  unfold wp_X7_feed
  rw [m5, show nI S.2.2.2.2.1 + (20 : Int32) = nI (S.2.2.2.2.1 + 20) from nI_add _ 20]
  by_cases e1 : S.2.2.2.2.1 + 20 ≤ 220
  · rw [if_pos (show nI (S.2.2.2.2.1 + 20) ≤ (220 : Int32) from (show nI (S.2.2.2.2.1 + 20) ≤ nI 220 from nI_le e1 (by omega)))]
    refine w7_types hL fI.rf m4 m5 (by omega) (fun M1 k1 k2 k3 => ?_)
    refine w7_types hL k1 k2 k3 (by omega) (fun M1 k1 k2 k3 => ?_)
    refine w7_types hL k1 k2 k3 (by omega) (fun M1 k1 k2 k3 => ?_)
    refine w7_types hL k1 k2 k3 (by omega) (fun M1 k1 k2 k3 => ?_)
    refine w7_types hL k1 k2 k3 (by omega) (fun M1 k1 k2 k3 => ?_)
    rw [k3]
    refine h1 e1 M1 ⟨k1.e, fun x k e => ⟨k1.2 _ _ (by unfold tpF; omega), k1.L _ _⟩⟩ ⟨ML_of k1.e hL, ?_, ?_, ?_, k2, k3, ?_, ?_⟩
    · exact (funext fun k => k1.2 _ _ (by unfold tpF; omega)).trans m1
    · exact (funext fun k => k1.2 _ _ (by unfold tpF; omega)).trans m2
    · exact (k1.2 _ _ (by unfold tpF; omega)).trans m3
    · exact (k1.2 _ _ (by unfold tpF; omega)).trans m6
    · exact m7.of (fun c h1 h2 k => k1.2 _ _ (by unfold tpF; omega))
  · rw [if_neg (show ¬ nI (S.2.2.2.2.1 + 20) ≤ (220 : Int32) from (show ¬ nI (S.2.2.2.2.1 + 20) ≤ nI 220 from nI_ge (by omega) (by omega)))]
    exact h0 e1
def tnF (t : Nat → Int32) (k j : Nat) (v : Int32) : Int32 := (v <<< ((8 : Int32) &&& 31)) ||| (t (4 * k + j) &&& (255 : Int32))
def tnS (t : Nat → Int32) (k : Nat) : Int32 := tnF t k 3 (tnF t k 2 (tnF t k 1 (tnF t k 0 0)))
theorem w7_tnum {o k : Nat} {M : MM} {t : Nat → Int32} {Post : Int32 → MM → Prop} (hL : ML o M) (ht : ar o 4 M = t) (hk : k < 55) (h : Post (tnS t k) M) : wp_X7_tapeNumber M o (nI k) Post := by
  have i4 : (4 : Int32) * nI k = nI (4 * k) := pk_mul 4 k
  have p4 : nI (4 * k) + (4 : Int32) = nI (4 * k + 4) := nI_add _ 4
  unfold wp_X7_tapeNumber
  simp only [forall_eq, i4]
  have key : ∀ f j v, j < 4 → wl_X7_tapeNumber_6 o (nI k) (fun M_13 x2_15 => Post x2_15 M_13) f M (tnF t k j v) (nI (4 * k + (j + 1))) → wl_X7_tapeNumber_6 o (nI k) (fun M_13 x2_15 => Post x2_15 M_13) (f + 1) M v (nI (4 * k + j)) := by
    intro f j v hj hh
    unfold wl_X7_tapeNumber_6
    rw [i4, p4, if_neg (nI_ge (by omega) (by omega))]
    simp (disch := first | assumption | omega) only [mgR_sI, mgR_sL, mkd_sI, mkd_sL, mln_sI, mln_sL, Option.some.injEq, exists_eq_left', forall_eq, true_and, and_true, Nat.reduceLT, exists_eq_left, ML_r0, ML_k1, ML_l1, ML_r1, ML_k2, ML_l2, ML_r2, ML_k3, ML_l3, ML_r3, ML_k4, ML_l4, ML_r13, ML_k5, ML_l5, ML_r14, ML_k6, ML_l6, ML_r15, ML_k7, ML_l7, ML_r16, ML_k8, ML_l8, ML_r17, ML_k9, ML_l9, ML_r18, ML_k10, ML_l10, ML_r19, ML_k11, ML_l11, ML_r20, ML_k12, ML_l12, ML_r21, ML_k13, ML_l13, ML_r22, ML_k14, ML_l14, ML_r23, ML_k15, ML_l15, ML_r24, ML_k16, ML_l16, ML_r25, ML_k17, ML_l17, ML_r26, ML_k18, ML_l18, ML_r30, ML_k19, ML_l19, ML_r35, ML_k20, ML_l20, ML_r36, ML_k21, ML_l21, ML_r37, ML_k22, ML_l22, ML_r38, ML_k23, ML_l23, ML_r40, ML_k24, ML_l24, ML_r41, ML_k25, ML_l25, ML_r42, ML_k26, ML_l26, ML_r43, ML_k27, ML_l27, ML_r44, ML_k28, ML_l28, ML_r45, ML_k29, ML_l29, ML_r48, ML_k30, ML_l30, ML_r51, ML_k31, ML_l31, ML_r52, ML_k32, ML_l32, ia0, ia4, ia8, ia12, ia16, ia20, ia24, ia52, ia60, ia68, im7, im14, ap6, iaN, ap1, ixN, vpN, arE (o := o) (c := 4), ht]
    exact hh
  refine ⟨5, key 4 0 0 (by omega) (key 3 1 _ (by omega) (key 2 2 _ (by omega) (key 1 3 _ (by omega) ?_)))⟩
  unfold wl_X7_tapeNumber_6
  rw [i4, p4, if_pos (nI_le (by omega) (by omega))]
  exact h
def ckS (t s : Nat → Int32) (l : Nat) : Nat → Nat → Int32
  | 0, _ => -1
  | j + 1, k => if tnS t k = s (24 + 7 * l + 6 - k) then ckS t s l j (k + 1) else nI k
def ckV (S : St) (x n : Int32) : Bool := isPl S.1 x && inS n 0 7 && decide (n ≤ nI (S.2.2.2.2.1 / 4))
theorem l7_check {o l n : Nat} {M : MM} {t s : Nat → Int32} {Post : Int32 → MM → Prop} (hL : ML o M) (hl : l < 4) (hn : n ≤ 7) (ht : ar o 4 M = t) (hs : ar o 1 M = s) : ∀ j k, k + j = n → Post (ckS t s l j k) M → wl_X7_check_38 o (nI l) (nI n) (fun M_24 x3_26 => Post x3_26 M_24) (fun M_27 => Post (-1 : Int32) M_27) (j + 1) M (nI k) := by
  intro j
  induction j with
  | zero =>
    intro k hk h
    unfold wl_X7_check_38
    rw [if_pos (nI_le (by omega) (by omega))]
    exact h
  | succ j ih =>
    intro k hk h
    unfold wl_X7_check_38
    rw [if_neg (nI_ge (by omega) (by omega))]
    refine w7_tnum hL ht (by omega) ?_
    have g1 : nI (24 + 7 * l + 6) - nI k = nI (24 + 7 * l + 6 - k) := pk_sub (by omega)
    simp (disch := first | assumption | omega) only [mgR_sI, mgR_sL, mkd_sI, mkd_sL, mln_sI, mln_sL, Option.some.injEq, exists_eq_left', forall_eq, true_and, and_true, Nat.reduceLT, exists_eq_left, ML_r0, ML_k1, ML_l1, ML_r1, ML_k2, ML_l2, ML_r2, ML_k3, ML_l3, ML_r3, ML_k4, ML_l4, ML_r13, ML_k5, ML_l5, ML_r14, ML_k6, ML_l6, ML_r15, ML_k7, ML_l7, ML_r16, ML_k8, ML_l8, ML_r17, ML_k9, ML_l9, ML_r18, ML_k10, ML_l10, ML_r19, ML_k11, ML_l11, ML_r20, ML_k12, ML_l12, ML_r21, ML_k13, ML_l13, ML_r22, ML_k14, ML_l14, ML_r23, ML_k15, ML_l15, ML_r24, ML_k16, ML_l16, ML_r25, ML_k17, ML_l17, ML_r26, ML_k18, ML_l18, ML_r30, ML_k19, ML_l19, ML_r35, ML_k20, ML_l20, ML_r36, ML_k21, ML_l21, ML_r37, ML_k22, ML_l22, ML_r38, ML_k23, ML_l23, ML_r40, ML_k24, ML_l24, ML_r41, ML_k25, ML_l25, ML_r42, ML_k26, ML_l26, ML_r43, ML_k27, ML_l27, ML_r44, ML_k28, ML_l28, ML_r45, ML_k29, ML_l29, ML_r48, ML_k30, ML_l30, ML_r51, ML_k31, ML_l31, ML_r52, ML_k32, ML_l32, ia0, ia4, ia8, ia12, ia16, ia20, ia24, ia52, ia60, ia68, im7, im14, ap6, iaN, ap1, ixN, vpN, g1, arE (o := o) (c := 1), hs]
    unfold ckS at h
    by_cases e : tnS t k = s (24 + 7 * l + 6 - k)
    · rw [if_pos e] at h ⊢; exact ih (k + 1) (by omega) h
    · rw [if_neg e] at h ⊢; exact h
theorem MR.n0 {o : Nat} {M : MM} {S : St} (h : MR o M S) : MR o (msI M o 4 0) (S.1, S.2.1, S.2.2.1, S.2.2.2.1, 0, S.2.2.2.2.2) ∧ mFr o M (msI M o 4 0) := by
  obtain ⟨hL, m1, m2, m3, m4, m5, m6, m7⟩ := h
  refine ⟨⟨ML_of rfl hL, (ar_0 (by omega)).trans m1, (ar_0 (by omega)).trans m2, (fd_n (by omega)).trans m3, (ar_0 (by omega)).trans m4, fd_e, (fd_n (by omega)).trans m6, ?_⟩, mFr.rf.s (by omega)⟩
  exact m7.of (fun c h1 h2 k => by rw [mgI_sI, if_neg (by omega)])
theorem M_check {o : Nat} {M : MM} {S : St} {x n : Int32} {Post : Int32 → MM → Prop} (hM : MR o M S) (hb : S.2.2.2.2.1 ≤ 220) (h0 : ckV S x n = false → Post (-2) M) (h1 : ∀ l' n', l' < 4 → n' ≤ 7 → x = nI l' → n = nI n' → ckV S x n = true → ∀ M', mFr o M M' → MR o M' (S.1, S.2.1, S.2.2.1, S.2.2.2.1, 0, S.2.2.2.2.2) → Post (ckS S.2.2.2.1 S.1 l' n' 0) M') : wp_X7_check M o x n Post := by
  have hn0 := hM.n0
  obtain ⟨hL, m1, m2, m3, m4, m5, m6, m7⟩ := hM
  have hs' : nw o M = S.1 := m1
  have hd : nI S.2.2.2.2.1 / (4 : Int32) = nI (S.2.2.2.2.1 / 4) := (show nI S.2.2.2.2.1 / nI 4 = _ from pk_div (by omega) (by omega) (by omega))
  unfold wp_X7_check
  unfold ckV at h0 h1
  rw [w7_isPlant hL, hs']
  by_cases e1 : isPl S.1 x = true
  · by_cases e2 : inS n 0 7 = true
    · simp only [e1, e2, if_true, n10, if_false, w7_in, m5, hd]
      by_cases e3 : n ≤ nI (S.2.2.2.2.1 / 4)
      · rw [if_pos e3]
        obtain ⟨l', hl', rfl⟩ := isPl_n e1
        obtain ⟨n', hn', rfl⟩ := inS_n (n := 7) (by omega) e2
        simp only [forall_eq]
        exact ⟨n' + 1, l7_check (M := msI M o 4 0) (ML_of rfl hL) hl' hn' ((ar_0 (by omega)).trans m4) ((ar_0 (by omega)).trans m1) n' 0 (by omega) (h1 l' n' hl' hn' rfl rfl (by simp [e1, e2, e3]) _ hn0.2 hn0.1)⟩
      · rw [if_neg e3]; exact h0 (by simp [e3])
    · simp only [e1, e2, if_true, n10, if_false, w7_in, Bool.false_eq_true]; exact h0 (by simp [e2])
  · simp only [e1, if_true, if_false, Bool.false_eq_true]; exact h0 (by simp [e1])
def laS (T : Nat → Txt) (l : Nat) : Nat → Nat → (Nat → Int32) → Int32
  | 0, d, _ => nI d
  | j + 1, d, s => if livS (dS s l (lessS T s l 0)) (nI l) = true then laS T l j (d + 1) (up (dS s l (lessS T s l 0)) 79 (dS s l (lessS T s l 0) 79 + 1)) else nI d
def lwS (T : Nat → Txt) (s : Nat → Int32) (l : Nat) (c : Int32) : Int32 := laS T l 60 0 (up s (4 + l) (mi_ (s l) (s (4 + l) + c)))
theorem w7_bk {o : Nat} {M0 M : MM} {s t : Nat → Int32} {x : Int32} {Post : Int32 → MM → Prop} (hL : ML o M0) (hF : gF o M0 M) (hs : ar o 1 M = t) (h2 : ar o 2 M = cpS s (ar o 2 M0)) (hp : perm s t) (h : ∀ M', gF o M0 M' → ar o 1 M' = s → Post x M') : wb_X7_lastsWith_88 M o x Post :=
  (show wb_X7_tried_173 M o x Post from w7_back hL hF hs h2 (fun k hk => hp k (Or.inr hk)) h)
theorem l7_lasts {o l : Nat} {M0 : MM} {T : Nat → Txt} {s0 : Nat → Int32} {Post : Int32 → MM → Prop} (hL : ML o M0) (hT : TM o M0 T) (hl : l < 4) : ∀ j d M s, d + j = 60 → gF o M0 M → ar o 1 M = s → ar o 2 M = cpS s0 (ar o 2 M0) → perm s0 s → (∀ M', gF o M0 M' → ar o 1 M' = s0 → Post (laS T l j d s) M') →
    wl_X7_lastsWith_42 o (nI l) (fun M_48 x3_50 => wb_X7_lastsWith_88 M_48 o x3_50 Post) (fun M_60 x3_62 => wb_X7_lastsWith_88 M_60 o x3_62 Post) (j + 1) M (nI d) := by
  intro j
  induction j with
  | zero =>
    intro d M s hd hF hs h2 hp h
    unfold wl_X7_lastsWith_42
    rw [if_pos (show (60 : Int32) ≤ nI d from (show nI 60 ≤ nI d from nI_le (by omega) (by omega)))]
    exact w7_bk hL hF hs h2 hp h
  | succ j ih =>
    intro d M s hd hF hs h2 hp h
    have h1 : ML o M := ML_of hF.1 hL
    have ht1 : TM o M T := hT.of (fun c a b k => hF.2.1 _ _ (by unfold PSc; omega))
    unfold wl_X7_lastsWith_42
    rw [if_neg (show ¬ (60 : Int32) ≤ nI d from (show ¬ nI 60 ≤ nI d from nI_ge (by omega) (by omega)))]
    refine w7_dries (s := (s, mgI M o 27, mgI M o 28, mgI M o 29, ar o 19 M)) h1 ht1 ⟨hs, rfl, rfl, rfl, fun _ _ => rfl⟩ hl (fun M2 hF2 hd2 => ?_)
    have h12 : ML o M2 := ML_of hF2.e h1
    have hF02 : gF o M0 M2 := hF.tr (hF2.g (fun a k e => PD_PSc e))
    have ha2 : ar o 1 M2 = dS s l (lessS T s l 0) := hd2.1
    have hn2 : nw o M2 = dS s l (lessS T s l 0) := hd2.1
    have h22 : ar o 2 M2 = cpS s0 (ar o 2 M0) := (funext fun k => hF2.2 _ _ (by simp [PD])).trans h2
    rw [w7_lives h12, hn2]
    unfold laS at h
    by_cases e : livS (dS s l (lessS T s l 0)) (nI l) = true
    · rw [if_pos e] at h
      simp (disch := first | assumption | omega) only [e, if_true, n10, if_false, mgR_sI, mgR_sL, mkd_sI, mkd_sL, mln_sI, mln_sL, Option.some.injEq, exists_eq_left', forall_eq, true_and, and_true, Nat.reduceLT, exists_eq_left, ML_r0, ML_k1, ML_l1, ML_r1, ML_k2, ML_l2, ML_r2, ML_k3, ML_l3, ML_r3, ML_k4, ML_l4, ML_r13, ML_k5, ML_l5, ML_r14, ML_k6, ML_l6, ML_r15, ML_k7, ML_l7, ML_r16, ML_k8, ML_l8, ML_r17, ML_k9, ML_l9, ML_r18, ML_k10, ML_l10, ML_r19, ML_k11, ML_l11, ML_r20, ML_k12, ML_l12, ML_r21, ML_k13, ML_l13, ML_r22, ML_k14, ML_l14, ML_r23, ML_k15, ML_l15, ML_r24, ML_k16, ML_l16, ML_r25, ML_k17, ML_l17, ML_r26, ML_k18, ML_l18, ML_r30, ML_k19, ML_l19, ML_r35, ML_k20, ML_l20, ML_r36, ML_k21, ML_l21, ML_r37, ML_k22, ML_l22, ML_r38, ML_k23, ML_l23, ML_r40, ML_k24, ML_l24, ML_r41, ML_k25, ML_l25, ML_r42, ML_k26, ML_l26, ML_r43, ML_k27, ML_l27, ML_r44, ML_k28, ML_l28, ML_r45, ML_k29, ML_l29, ML_r48, ML_k30, ML_l30, ML_r51, ML_k31, ML_l31, ML_r52, ML_k32, ML_l32, ap1, arE (o := o) (c := 1), ha2]
      refine ih (d + 1) _ _ (by omega) (hF02.s PSc1) (by rw [ar_s, if_pos rfl, ha2]) (by rw [ar_s, if_neg (by omega)]; exact h22) ((hp.tr (dS_perm hl)).up (by omega)) h
    · rw [if_neg e] at h
      simp only [e, if_true, if_false, Bool.false_eq_true]
      exact w7_bk hL hF02 ha2 h22 (hp.tr (dS_perm hl)) h
theorem w7_lastsWith {o l : Nat} {M : MM} {T : Nat → Txt} {s : Nat → Int32} {c : Int32} {Post : Int32 → MM → Prop} (hL : ML o M) (hT : TM o M T) (hl : l < 4) (hs : ar o 1 M = s) (h : ∀ M', gF o M M' → ar o 1 M' = s → Post (lwS T s l c) M') : wp_X7_lastsWith M o (nI l) c Post := by
  unfold wp_X7_lastsWith
  simp (disch := first | assumption | omega) only [mgR_sI, mgR_sL, mkd_sI, mkd_sL, mln_sI, mln_sL, Option.some.injEq, exists_eq_left', forall_eq, true_and, and_true, Nat.reduceLT, exists_eq_left, ML_r0, ML_k1, ML_l1, ML_r1, ML_k2, ML_l2, ML_r2, ML_k3, ML_l3, ML_r3, ML_k4, ML_l4, ML_r13, ML_k5, ML_l5, ML_r14, ML_k6, ML_l6, ML_r15, ML_k7, ML_l7, ML_r16, ML_k8, ML_l8, ML_r17, ML_k9, ML_l9, ML_r18, ML_k10, ML_l10, ML_r19, ML_k11, ML_l11, ML_r20, ML_k12, ML_l12, ML_r21, ML_k13, ML_l13, ML_r22, ML_k14, ML_l14, ML_r23, ML_k15, ML_l15, ML_r24, ML_k16, ML_l16, ML_r25, ML_k17, ML_l17, ML_r26, ML_k18, ML_l18, ML_r30, ML_k19, ML_l19, ML_r35, ML_k20, ML_l20, ML_r36, ML_k21, ML_l21, ML_r37, ML_k22, ML_l22, ML_r38, ML_k23, ML_l23, ML_r40, ML_k24, ML_l24, ML_r41, ML_k25, ML_l25, ML_r42, ML_k26, ML_l26, ML_r43, ML_k27, ML_l27, ML_r44, ML_k28, ML_l28, ML_r45, ML_k29, ML_l29, ML_r48, ML_k30, ML_l30, ML_r51, ML_k31, ML_l31, ML_r52, ML_k32, ML_l32]
  refine w7_copies (M0 := M) (s := s) (t := ar o 2 M) (ML_l1 hL) (ML_l2 hL) (by omega) fI.rf hs rfl (fun M1 hF1 hr1 hr2 => ?_)
  have hL1 : ML o M1 := ML_of hF1.e hL
  have hX := l7_lasts (Post := Post) (T := T) (s0 := s) hL hT hl 60 0 (msI M1 (o + 1) (4 + l) (mi_ (s l) (s (4 + l) + c))) (up s (4 + l) (mi_ (s l) (s (4 + l) + c))) (by omega) (hF1.g2.s PSc1) (by rw [ar_s, if_pos rfl, hr1]) (by rw [ar_s, if_neg (by omega)]; exact hr2) (perm.rf.up (by omega)) h
  simp (disch := first | assumption | omega) only [mgR_sI, mgR_sL, mkd_sI, mkd_sL, mln_sI, mln_sL, Option.some.injEq, exists_eq_left', forall_eq, true_and, and_true, Nat.reduceLT, exists_eq_left, ML_r0, ML_k1, ML_l1, ML_r1, ML_k2, ML_l2, ML_r2, ML_k3, ML_l3, ML_r3, ML_k4, ML_l4, ML_r13, ML_k5, ML_l5, ML_r14, ML_k6, ML_l6, ML_r15, ML_k7, ML_l7, ML_r16, ML_k8, ML_l8, ML_r17, ML_k9, ML_l9, ML_r18, ML_k10, ML_l10, ML_r19, ML_k11, ML_l11, ML_r20, ML_k12, ML_l12, ML_r21, ML_k13, ML_l13, ML_r22, ML_k14, ML_l14, ML_r23, ML_k15, ML_l15, ML_r24, ML_k16, ML_l16, ML_r25, ML_k17, ML_l17, ML_r26, ML_k18, ML_l18, ML_r30, ML_k19, ML_l19, ML_r35, ML_k20, ML_l20, ML_r36, ML_k21, ML_l21, ML_r37, ML_k22, ML_l22, ML_r38, ML_k23, ML_l23, ML_r40, ML_k24, ML_l24, ML_r41, ML_k25, ML_l25, ML_r42, ML_k26, ML_l26, ML_r43, ML_k27, ML_l27, ML_r44, ML_k28, ML_l28, ML_r45, ML_k29, ML_l29, ML_r48, ML_k30, ML_l30, ML_r51, ML_k31, ML_l31, ML_r52, ML_k32, ML_l32, ia0, ia4, ia8, ia12, ia16, ia20, ia24, ia52, ia60, ia68, im7, im14, ap6, iaN, ap1, ixN, vpN, w7_min, arE (o := o) (c := 1), hr1]
  exact ⟨_, hX⟩
theorem M_lasts {o : Nat} {M : MM} {T : Nat → Txt} {s : Nat → Int32} {x c : Int32} {Post : Int32 → MM → Prop} (hL : ML o M) (hT : TM o M T) (hs : ar o 1 M = s) (h0 : (livS s x && inS c 0 24) = false → Post (-1) M) (h1 : ∀ l, l < 4 → x = nI l → (livS s x && inS c 0 24) = true → ∀ M', gF o M M' → ar o 1 M' = s → Post (lwS T s l c) M') : wp_X7_lasts M o x c Post := by
  have hs' : nw o M = s := hs
  unfold wp_X7_lasts
  rw [w7_lives hL, hs']
  by_cases e1 : livS s x = true
  · by_cases e2 : inS c 0 24 = true
    · obtain ⟨l, hl, rfl⟩ := isPl_n (livS_pl e1)
      simp only [e1, e2, if_true, n10, if_false, w7_in]
      exact w7_lastsWith hL hT hl hs (h1 l hl rfl (by simp [e1, e2]))
    · simp only [e1, e2, if_true, n10, if_false, w7_in, Bool.false_eq_true]; exact h0 (by simp [e2])
  · simp only [e1, if_true, if_false, Bool.false_eq_true]; exact h0 (by simp [e1])
def neS (T : Nat → Txt) (s : Nat → Int32) (l : Nat) (days : Int32) : Nat → Nat → Int32
  | 0, _ => -2
  | j + 1, c => if lwS T s l (nI c) < days then neS T s l days j (c + 1) else nI c
theorem l7_needs {o l : Nat} {M0 : MM} {T : Nat → Txt} {s : Nat → Int32} {days : Int32} {Post : Int32 → MM → Prop} (hL : ML o M0) (hT : TM o M0 T) (hl : l < 4) : ∀ j c M, c + j = 25 → gF o M0 M → ar o 1 M = s → (∀ M', gF o M0 M' → ar o 1 M' = s → Post (neS T s l days j c) M') → wl_X7_needs_22 o (nI l) days (fun M_17 x3_19 => Post x3_19 M_17) (fun M_20 => Post (-2 : Int32) M_20) (j + 1) M (nI c) := by
  intro j
  induction j with
  | zero =>
    intro c M hc hF hs h
    unfold wl_X7_needs_22
    rw [if_pos (show (24 : Int32) < nI c from (show nI 24 < nI c from nI_lt (by omega) (by omega)))]
    exact h M hF hs
  | succ j ih =>
    intro c M hc hF hs h
    unfold wl_X7_needs_22
    rw [if_neg (show ¬ (24 : Int32) < nI c from (show ¬ nI 24 < nI c from nI_nlt (by omega) (by omega)))]
    refine w7_lastsWith (T := T) (ML_of hF.1 hL) (hT.of (fun c a b k => hF.2.1 _ _ (by unfold PSc; omega))) hl hs (fun M2 hF2 hs2 => ?_)
    unfold neS at h
    by_cases e : lwS T s l (nI c) < days
    · rw [if_pos e] at h ⊢
      simp only [forall_eq, ap1]
      exact ih (c + 1) M2 (by omega) (hF.tr hF2) hs2 h
    · rw [if_neg e] at h ⊢
      exact h M2 (hF.tr hF2) hs2
theorem M_needs {o : Nat} {M : MM} {T : Nat → Txt} {s : Nat → Int32} {x c : Int32} {Post : Int32 → MM → Prop} (hL : ML o M) (hT : TM o M T) (hs : ar o 1 M = s) (h0 : (livS s x && inS c 1 60) = false → Post (-1) M) (h1 : ∀ l, l < 4 → x = nI l → (livS s x && inS c 1 60) = true → ∀ M', gF o M M' → ar o 1 M' = s → Post (neS T s l c 25 0) M') : wp_X7_needs M o x c Post := by
  have hs' : nw o M = s := hs
  unfold wp_X7_needs
  rw [w7_lives hL, hs']
  by_cases e1 : livS s x = true
  · by_cases e2 : inS c 1 60 = true
    · obtain ⟨l, hl, rfl⟩ := isPl_n (livS_pl e1)
      simp only [e1, e2, if_true, n10, if_false, w7_in]
      exact ⟨26, l7_needs hL hT hl 25 0 M (by omega) gF.rf hs (h1 l hl rfl (by simp [e1, e2]))⟩
    · simp only [e1, e2, if_true, n10, if_false, w7_in, Bool.false_eq_true]; exact h0 (by simp [e2])
  · simp only [e1, if_true, if_false, Bool.false_eq_true]; exact h0 (by simp [e1])
