/-! the model: a spread -/
set_option maxRecDepth 100000
def lF (o : Nat) : Nat → Nat → Prop := fun a k => PD o a k ∨ a = o + 2
theorem lF_PSc {o a k : Nat} (h : lF o a k) : PSc o a k := by unfold lF PD at h; unfold PSc; omega
theorem w7_bkF {o : Nat} {M0 M : MM} {s t : Nat → Int32} {x : Int32} {Post : Int32 → MM → Prop} (hL : ML o M0) (hF : fI (lF o) M0 M) (hs : ar o 1 M = t) (h2 : ar o 2 M = cpS s (ar o 2 M0)) (hp : perm s t) (h : ∀ M', fI (lF o) M0 M' → ar o 1 M' = s → Post x M') : wb_X7_lastsWith_88 M o x Post := by
  have h1 : ML o M := ML_of hF.e hL
  show wb_X7_tried_173 M o x Post
  unfold wb_X7_tried_173
  simp (disch := first | assumption | omega) only [mgR_sI, mgR_sL, mkd_sI, mkd_sL, mln_sI, mln_sL, Option.some.injEq, exists_eq_left', forall_eq, true_and, and_true, Nat.reduceLT, exists_eq_left, ML_r0, ML_k1, ML_l1, ML_r1, ML_k2, ML_l2, ML_r2, ML_k3, ML_l3, ML_r3, ML_k4, ML_l4, ML_r13, ML_k5, ML_l5, ML_r14, ML_k6, ML_l6, ML_r15, ML_k7, ML_l7, ML_r16, ML_k8, ML_l8, ML_r17, ML_k9, ML_l9, ML_r18, ML_k10, ML_l10, ML_r19, ML_k11, ML_l11, ML_r20, ML_k12, ML_l12, ML_r21, ML_k13, ML_l13, ML_r22, ML_k14, ML_l14, ML_r23, ML_k15, ML_l15, ML_r24, ML_k16, ML_l16, ML_r25, ML_k17, ML_l17, ML_r26, ML_k18, ML_l18, ML_r30, ML_k19, ML_l19, ML_r35, ML_k20, ML_l20, ML_r36, ML_k21, ML_l21, ML_r37, ML_k22, ML_l22, ML_r38, ML_k23, ML_l23, ML_r40, ML_k24, ML_l24, ML_r41, ML_k25, ML_l25, ML_r42, ML_k26, ML_l26, ML_r43, ML_k27, ML_l27, ML_r44, ML_k28, ML_l28, ML_r45, ML_k29, ML_l29, ML_r48, ML_k30, ML_l30, ML_r51, ML_k31, ML_l31, ML_r52, ML_k32, ML_l32]
  refine w7_copies (M0 := M) (s := cpS s (ar o 2 M0)) (t := t) (ML_l2 h1) (ML_l1 h1) (by omega) fI.rf h2 hs (fun M' hF2 _ hr => h M' (hF.tr (hF2.mono (fun a k e => by unfold lF PD; omega))) ?_)
  rw [hr]
  funext k
  unfold cpS
  by_cases e : k < 81
  · rw [if_pos e, if_pos e]
  · rw [if_neg e]; exact hp k (by omega)
theorem l7_lastsF {o l : Nat} {M0 : MM} {T : Nat → Txt} {s0 : Nat → Int32} {Post : Int32 → MM → Prop} (hL : ML o M0) (hT : TM o M0 T) (hl : l < 4) : ∀ j d M s, d + j = 60 → fI (lF o) M0 M → ar o 1 M = s → ar o 2 M = cpS s0 (ar o 2 M0) → perm s0 s → (∀ M', fI (lF o) M0 M' → ar o 1 M' = s0 → Post (laS T l j d s) M') →
    wl_X7_lastsWith_42 o (nI l) (fun M_48 x3_50 => wb_X7_lastsWith_88 M_48 o x3_50 Post) (fun M_60 x3_62 => wb_X7_lastsWith_88 M_60 o x3_62 Post) (j + 1) M (nI d) := by
  intro j
  induction j with
  | zero =>
    intro d M s hd hF hs h2 hp h
    unfold wl_X7_lastsWith_42
    rw [if_pos (show (60 : Int32) ≤ nI d from (show nI 60 ≤ nI d from nI_le (by omega) (by omega)))]
    exact w7_bkF hL hF hs h2 hp h
  | succ j ih =>
    intro d M s hd hF hs h2 hp h
    have h1 : ML o M := ML_of hF.e hL
    have ht1 : TM o M T := hF.tm (fun c a b k => by unfold lF PD; omega) hT
    unfold wl_X7_lastsWith_42
    rw [if_neg (show ¬ (60 : Int32) ≤ nI d from (show ¬ nI 60 ≤ nI d from nI_ge (by omega) (by omega)))]
    refine w7_dries (s := (s, mgI M o 27, mgI M o 28, mgI M o 29, ar o 19 M)) h1 ht1 ⟨hs, rfl, rfl, rfl, fun _ _ => rfl⟩ hl (fun M2 hF2 hd2 => ?_)
    have h12 : ML o M2 := ML_of hF2.e h1
    have hF02 : fI (lF o) M0 M2 := hF.tr (hF2.mono (fun a k e => Or.inl e))
    have ha2 : ar o 1 M2 = dS s l (lessS T s l 0) := hd2.1
    have hn2 : nw o M2 = dS s l (lessS T s l 0) := hd2.1
    have h22 : ar o 2 M2 = cpS s0 (ar o 2 M0) := (funext fun k => hF2.2 _ _ (by simp [PD])).trans h2
    rw [w7_lives h12, hn2]
    unfold laS at h
    by_cases e : livS (dS s l (lessS T s l 0)) (nI l) = true
    · rw [if_pos e] at h
      simp (disch := first | assumption | omega) only [e, if_true, n10, if_false, mgR_sI, mgR_sL, mkd_sI, mkd_sL, mln_sI, mln_sL, Option.some.injEq, exists_eq_left', forall_eq, true_and, and_true, Nat.reduceLT, exists_eq_left, ML_r0, ML_k1, ML_l1, ML_r1, ML_k2, ML_l2, ML_r2, ML_k3, ML_l3, ML_r3, ML_k4, ML_l4, ML_r13, ML_k5, ML_l5, ML_r14, ML_k6, ML_l6, ML_r15, ML_k7, ML_l7, ML_r16, ML_k8, ML_l8, ML_r17, ML_k9, ML_l9, ML_r18, ML_k10, ML_l10, ML_r19, ML_k11, ML_l11, ML_r20, ML_k12, ML_l12, ML_r21, ML_k13, ML_l13, ML_r22, ML_k14, ML_l14, ML_r23, ML_k15, ML_l15, ML_r24, ML_k16, ML_l16, ML_r25, ML_k17, ML_l17, ML_r26, ML_k18, ML_l18, ML_r30, ML_k19, ML_l19, ML_r35, ML_k20, ML_l20, ML_r36, ML_k21, ML_l21, ML_r37, ML_k22, ML_l22, ML_r38, ML_k23, ML_l23, ML_r40, ML_k24, ML_l24, ML_r41, ML_k25, ML_l25, ML_r42, ML_k26, ML_l26, ML_r43, ML_k27, ML_l27, ML_r44, ML_k28, ML_l28, ML_r45, ML_k29, ML_l29, ML_r48, ML_k30, ML_l30, ML_r51, ML_k31, ML_l31, ML_r52, ML_k32, ML_l32, ap1, arE (o := o) (c := 1), ha2]
      refine ih (d + 1) _ _ (by omega) (hF02.s (by unfold lF PD; omega)) (by rw [ar_s, if_pos rfl, ha2]) (by rw [ar_s, if_neg (by omega)]; exact h22) ((hp.tr (dS_perm hl)).up (by omega)) h
    · rw [if_neg e] at h
      simp only [e, if_true, if_false, Bool.false_eq_true]
      exact w7_bkF hL hF02 ha2 h22 (hp.tr (dS_perm hl)) h
theorem w7_lastsF {o l : Nat} {M : MM} {T : Nat → Txt} {s : Nat → Int32} {c : Int32} {Post : Int32 → MM → Prop} (hL : ML o M) (hT : TM o M T) (hl : l < 4) (hs : ar o 1 M = s) (h : ∀ M', fI (lF o) M M' → ar o 1 M' = s → Post (lwS T s l c) M') : wp_X7_lastsWith M o (nI l) c Post := by
  unfold wp_X7_lastsWith
  simp (disch := first | assumption | omega) only [mgR_sI, mgR_sL, mkd_sI, mkd_sL, mln_sI, mln_sL, Option.some.injEq, exists_eq_left', forall_eq, true_and, and_true, Nat.reduceLT, exists_eq_left, ML_r0, ML_k1, ML_l1, ML_r1, ML_k2, ML_l2, ML_r2, ML_k3, ML_l3, ML_r3, ML_k4, ML_l4, ML_r13, ML_k5, ML_l5, ML_r14, ML_k6, ML_l6, ML_r15, ML_k7, ML_l7, ML_r16, ML_k8, ML_l8, ML_r17, ML_k9, ML_l9, ML_r18, ML_k10, ML_l10, ML_r19, ML_k11, ML_l11, ML_r20, ML_k12, ML_l12, ML_r21, ML_k13, ML_l13, ML_r22, ML_k14, ML_l14, ML_r23, ML_k15, ML_l15, ML_r24, ML_k16, ML_l16, ML_r25, ML_k17, ML_l17, ML_r26, ML_k18, ML_l18, ML_r30, ML_k19, ML_l19, ML_r35, ML_k20, ML_l20, ML_r36, ML_k21, ML_l21, ML_r37, ML_k22, ML_l22, ML_r38, ML_k23, ML_l23, ML_r40, ML_k24, ML_l24, ML_r41, ML_k25, ML_l25, ML_r42, ML_k26, ML_l26, ML_r43, ML_k27, ML_l27, ML_r44, ML_k28, ML_l28, ML_r45, ML_k29, ML_l29, ML_r48, ML_k30, ML_l30, ML_r51, ML_k31, ML_l31, ML_r52, ML_k32, ML_l32]
  refine w7_copies (M0 := M) (s := s) (t := ar o 2 M) (ML_l1 hL) (ML_l2 hL) (by omega) fI.rf hs rfl (fun M1 hF1 hr1 hr2 => ?_)
  have hL1 : ML o M1 := ML_of hF1.e hL
  have hF1' : fI (lF o) M M1 := hF1.mono (fun a k e => Or.inr e)
  have hX := l7_lastsF (Post := Post) (T := T) (s0 := s) hL hT hl 60 0 (msI M1 (o + 1) (4 + l) (mi_ (s l) (s (4 + l) + c))) (up s (4 + l) (mi_ (s l) (s (4 + l) + c))) (by omega) (hF1'.s (by unfold lF PD; omega)) (by rw [ar_s, if_pos rfl, hr1]) (by rw [ar_s, if_neg (by omega)]; exact hr2) (perm.rf.up (by omega)) h
  simp (disch := first | assumption | omega) only [mgR_sI, mgR_sL, mkd_sI, mkd_sL, mln_sI, mln_sL, Option.some.injEq, exists_eq_left', forall_eq, true_and, and_true, Nat.reduceLT, exists_eq_left, ML_r0, ML_k1, ML_l1, ML_r1, ML_k2, ML_l2, ML_r2, ML_k3, ML_l3, ML_r3, ML_k4, ML_l4, ML_r13, ML_k5, ML_l5, ML_r14, ML_k6, ML_l6, ML_r15, ML_k7, ML_l7, ML_r16, ML_k8, ML_l8, ML_r17, ML_k9, ML_l9, ML_r18, ML_k10, ML_l10, ML_r19, ML_k11, ML_l11, ML_r20, ML_k12, ML_l12, ML_r21, ML_k13, ML_l13, ML_r22, ML_k14, ML_l14, ML_r23, ML_k15, ML_l15, ML_r24, ML_k16, ML_l16, ML_r25, ML_k17, ML_l17, ML_r26, ML_k18, ML_l18, ML_r30, ML_k19, ML_l19, ML_r35, ML_k20, ML_l20, ML_r36, ML_k21, ML_l21, ML_r37, ML_k22, ML_l22, ML_r38, ML_k23, ML_l23, ML_r40, ML_k24, ML_l24, ML_r41, ML_k25, ML_l25, ML_r42, ML_k26, ML_l26, ML_r43, ML_k27, ML_l27, ML_r44, ML_k28, ML_l28, ML_r45, ML_k29, ML_l29, ML_r48, ML_k30, ML_l30, ML_r51, ML_k31, ML_l31, ML_r52, ML_k32, ML_l32, ia0, ia4, ia8, ia12, ia16, ia20, ia24, ia52, ia60, ia68, im7, im14, ap6, iaN, ap1, ixN, vpN, w7_min, arE (o := o) (c := 1), hr1]
  exact ⟨_, hX⟩
theorem laS_nI {T : Nat → Txt} {l : Nat} : ∀ j d s, ∃ g, d ≤ g ∧ g ≤ d + j ∧ laS T l j d s = nI g := by
  intro j
  induction j with
  | zero => intro d s; exact ⟨d, by omega, by omega, rfl⟩
  | succ j ih =>
    intro d s
    unfold laS
    split
    · obtain ⟨g, h1, h2, h3⟩ := ih (d + 1) (up (dS s l (lessS T s l 0)) 79 (dS s l (lessS T s l 0) 79 + 1))
      exact ⟨g, by omega, by omega, h3⟩
    · exact ⟨d, by omega, by omega, rfl⟩
theorem lwS_nI {T : Nat → Txt} {s : Nat → Int32} {l : Nat} {c : Int32} : ∃ g, g ≤ 60 ∧ lwS T s l c = nI g := by
  obtain ⟨g, _, h2, h3⟩ := laS_nI (T := T) (l := l) 60 0 (up s (4 + l) (mi_ (s l) (s (4 + l) + c)))
  exact ⟨g, by omega, h3⟩
/-- a loop that counts up -/
def lpF {α : Type} (f : Nat → α → α) : Nat → Nat → α → α
  | 0, _, a => a
  | j + 1, i, a => lpF f j (i + 1) (f i a)
def r4 (a b c d : Nat) : Nat → Nat := fun l => if l = 0 then a else if l = 1 then b else if l = 2 then c else d
/-- how long the one lasts that lasts least, by a row -/
def lbF (T : Nat → Txt) (s : Nat → Int32) (r : Nat → Nat) : Nat → Int32 → Int32 := fun l v => if livS s (nI l) = true then mi_ v (lwS T s l (nI (r l))) else v
def lbS (T : Nat → Txt) (s : Nat → Int32) (r : Nat → Nat) : Int32 := itN (lbF T s r) 4 60
theorem lbF_nI {T : Nat → Txt} {s : Nat → Int32} {r : Nat → Nat} {l : Nat} {v : Int32} (h : ∃ g, g ≤ 60 ∧ v = nI g) : ∃ g, g ≤ 60 ∧ lbF T s r l v = nI g := by
  obtain ⟨g, h1, rfl⟩ := h
  unfold lbF
  split
  · obtain ⟨q, h2, h3⟩ := lwS_nI (T := T) (s := s) (l := l) (c := nI (r l))
    rw [h3, mi_nI (by omega) (by omega)]
    exact ⟨min g q, by omega, rfl⟩
  · exact ⟨g, h1, rfl⟩
theorem lbS_nI {T : Nat → Txt} {s : Nat → Int32} {r : Nat → Nat} : ∃ g, g ≤ 60 ∧ lbS T s r = nI g :=
  lbF_nI (l := 3) (lbF_nI (l := 2) (lbF_nI (l := 1) (lbF_nI (l := 0) ⟨60, by omega, rfl⟩)))
def okC (s : Nat → Int32) (r : Nat → Nat) (l : Nat) : Bool := livS s (nI l) || decide (r l = 0)
def okB (s : Nat → Int32) (r : Nat → Nat) : Bool := okC s r 0 && okC s r 1 && okC s r 2 && okC s r 3
theorem w7_mayBe {o cups : Nat} {M : MM} {s : Nat → Int32} {r : Nat → Nat} {Post : Int32 → MM → Prop} (hL : ML o M) (hs : ar o 1 M = s) (hr : ∀ l, l < 4 → ar o 27 M l = nI (r l)) (hb : r 0 + r 1 + r 2 + r 3 = cups) (hc : cups ≤ 24) (h1 : okB s r = true → Post 1 M) (h0 : okB s r = false → Post 0 M) : wp_X7_mayBe M o (nI cups) Post := by
  have hn : nw o M = s := hs
  unfold wp_X7_mayBe
  refine ⟨5, ?_⟩
  have key : ∀ (X43 : MM → Int32 → Prop) n l v, l < 4 → (okC s r l = true → wl_X7_mayBe_4 o (nI cups) (fun M_20 => Post 0 M_20) X43 n M (nI (v + r l)) (nI (l + 1))) → (okC s r l = false → Post 0 M) → wl_X7_mayBe_4 o (nI cups) (fun M_20 => Post 0 M_20) X43 (n + 1) M (nI v) (nI l) := by
    intro X43 n l v hl k1 k0
    have hrl := hr l hl
    have hle : r l ≤ 24 := by
      have : l = 0 ∨ l = 1 ∨ l = 2 ∨ l = 3 := by omega
      rcases this with rfl | rfl | rfl | rfl <;> omega
    unfold wl_X7_mayBe_4 wb_X7_mayBe_28
    rw [if_neg (show ¬ (4 : Int32) ≤ nI l from (show ¬ nI 4 ≤ nI l from nI_ge (by omega) (by omega))), w7_lives hL, hn]
    unfold okC at k1 k0
    by_cases e : livS s (nI l) = true
    · rw [if_pos e, if_neg n10]
      simp (disch := first | assumption | omega) only [mgR_sI, mgR_sL, mkd_sI, mkd_sL, mln_sI, mln_sL, Option.some.injEq, exists_eq_left', forall_eq, true_and, and_true, Nat.reduceLT, exists_eq_left, ML_r0, ML_k1, ML_l1, ML_r1, ML_k2, ML_l2, ML_r2, ML_k3, ML_l3, ML_r3, ML_k4, ML_l4, ML_r13, ML_k5, ML_l5, ML_r14, ML_k6, ML_l6, ML_r15, ML_k7, ML_l7, ML_r16, ML_k8, ML_l8, ML_r17, ML_k9, ML_l9, ML_r18, ML_k10, ML_l10, ML_r19, ML_k11, ML_l11, ML_r20, ML_k12, ML_l12, ML_r21, ML_k13, ML_l13, ML_r22, ML_k14, ML_l14, ML_r23, ML_k15, ML_l15, ML_r24, ML_k16, ML_l16, ML_r25, ML_k17, ML_l17, ML_r26, ML_k18, ML_l18, ML_r30, ML_k19, ML_l19, ML_r35, ML_k20, ML_l20, ML_r36, ML_k21, ML_l21, ML_r37, ML_k22, ML_l22, ML_r38, ML_k23, ML_l23, ML_r40, ML_k24, ML_l24, ML_r41, ML_k25, ML_l25, ML_r42, ML_k26, ML_l26, ML_r43, ML_k27, ML_l27, ML_r44, ML_k28, ML_l28, ML_r45, ML_k29, ML_l29, ML_r48, ML_k30, ML_l30, ML_r51, ML_k31, ML_l31, ML_r52, ML_k32, ML_l32, ia0, ia4, ia8, ia12, ia16, ia20, ia24, ia52, ia60, ia68, im7, im14, ap6, iaN, ap1, ixN, vpN, arE (o := o) (c := 27), hrl]
      exact k1 (by simp [e])
    · rw [if_neg e, if_pos rfl]
      simp (disch := first | assumption | omega) only [mgR_sI, mgR_sL, mkd_sI, mkd_sL, mln_sI, mln_sL, Option.some.injEq, exists_eq_left', forall_eq, true_and, and_true, Nat.reduceLT, exists_eq_left, ML_r0, ML_k1, ML_l1, ML_r1, ML_k2, ML_l2, ML_r2, ML_k3, ML_l3, ML_r3, ML_k4, ML_l4, ML_r13, ML_k5, ML_l5, ML_r14, ML_k6, ML_l6, ML_r15, ML_k7, ML_l7, ML_r16, ML_k8, ML_l8, ML_r17, ML_k9, ML_l9, ML_r18, ML_k10, ML_l10, ML_r19, ML_k11, ML_l11, ML_r20, ML_k12, ML_l12, ML_r21, ML_k13, ML_l13, ML_r22, ML_k14, ML_l14, ML_r23, ML_k15, ML_l15, ML_r24, ML_k16, ML_l16, ML_r25, ML_k17, ML_l17, ML_r26, ML_k18, ML_l18, ML_r30, ML_k19, ML_l19, ML_r35, ML_k20, ML_l20, ML_r36, ML_k21, ML_l21, ML_r37, ML_k22, ML_l22, ML_r38, ML_k23, ML_l23, ML_r40, ML_k24, ML_l24, ML_r41, ML_k25, ML_l25, ML_r42, ML_k26, ML_l26, ML_r43, ML_k27, ML_l27, ML_r44, ML_k28, ML_l28, ML_r45, ML_k29, ML_l29, ML_r48, ML_k30, ML_l30, ML_r51, ML_k31, ML_l31, ML_r52, ML_k32, ML_l32, ia0, ia4, ia8, ia12, ia16, ia20, ia24, ia52, ia60, ia68, im7, im14, ap6, iaN, ap1, ixN, vpN, arE (o := o) (c := 27), hrl]
      by_cases e2 : r l = 0
      · rw [if_pos (by rw [e2]; decide)]
        exact k1 (by simp [e2])
      · rw [if_neg (nI_nle (by omega) (by omega))]
        exact k0 (by simp [e, e2])
  refine key _ 4 0 0 (by omega) (fun c0 => key _ 3 1 _ (by omega) (fun c1 => key _ 2 2 _ (by omega) (fun c2 => key _ 1 3 _ (by omega) (fun c3 => ?_) ?_) ?_) ?_) ?_
  · unfold wl_X7_mayBe_4
    rw [if_pos (show (4 : Int32) ≤ nI (3 + 1) from by decide), if_pos (by rw [← hb]; congr 1; omega)]
    exact h1 (by unfold okB; simp [c0, c1, c2, c3])
  · exact fun c3 => h0 (by unfold okB; simp [c3])
  · exact fun c3 => h0 (by unfold okB; simp [c3])
  · exact fun c3 => h0 (by unfold okB; simp [c3])
  · exact fun c3 => h0 (by unfold okB; simp [c3])
/-- how long each lasts by each is laid -/
def lsA (o : Nat) (M : MM) (T : Nat → Txt) (s : Nat → Int32) (p : Nat) : Prop := ∀ l c, l < 4 → c ≤ 24 → 25 * l + c < p → livS s (nI l) = true → ar o 26 M (25 * l + c) = lwS T s l (nI c)
theorem w7_leastBy {o : Nat} {M : MM} {T : Nat → Txt} {s : Nat → Int32} {r : Nat → Nat} {Post : Int32 → MM → Prop} (hL : ML o M) (hs : ar o 1 M = s) (hA : lsA o M T s 100) (hr : ∀ l, l < 4 → ar o 27 M l = nI (r l)) (hb : ∀ l, l < 4 → r l ≤ 24) (h : Post (lbS T s r) M) : wp_X7_leastBy M o Post := by
  have hn : nw o M = s := hs
  unfold wp_X7_leastBy
  refine ⟨5, ?_⟩
  have key : ∀ (X45 : MM → Int32 → Prop) n l v, l < 4 → wl_X7_leastBy_5 o X45 n M (lbF T s r l v) (nI (l + 1)) → wl_X7_leastBy_5 o X45 (n + 1) M v (nI l) := by
    intro X45 n l v hl k
    have hrl := hr l hl
    have hle := hb l hl
    unfold wl_X7_leastBy_5
    rw [if_neg (show ¬ (4 : Int32) ≤ nI l from (show ¬ nI 4 ≤ nI l from nI_ge (by omega) (by omega))), w7_lives hL, hn]
    unfold lbF at k
    by_cases e : livS s (nI l) = true
    · rw [if_pos e] at k
      rw [if_pos e, if_neg n10]
      have hv := hA l (r l) hl hle (by omega) e
      simp (disch := first | assumption | omega) only [mgR_sI, mgR_sL, mkd_sI, mkd_sL, mln_sI, mln_sL, Option.some.injEq, exists_eq_left', forall_eq, true_and, and_true, Nat.reduceLT, exists_eq_left, ML_r0, ML_k1, ML_l1, ML_r1, ML_k2, ML_l2, ML_r2, ML_k3, ML_l3, ML_r3, ML_k4, ML_l4, ML_r13, ML_k5, ML_l5, ML_r14, ML_k6, ML_l6, ML_r15, ML_k7, ML_l7, ML_r16, ML_k8, ML_l8, ML_r17, ML_k9, ML_l9, ML_r18, ML_k10, ML_l10, ML_r19, ML_k11, ML_l11, ML_r20, ML_k12, ML_l12, ML_r21, ML_k13, ML_l13, ML_r22, ML_k14, ML_l14, ML_r23, ML_k15, ML_l15, ML_r24, ML_k16, ML_l16, ML_r25, ML_k17, ML_l17, ML_r26, ML_k18, ML_l18, ML_r30, ML_k19, ML_l19, ML_r35, ML_k20, ML_l20, ML_r36, ML_k21, ML_l21, ML_r37, ML_k22, ML_l22, ML_r38, ML_k23, ML_l23, ML_r40, ML_k24, ML_l24, ML_r41, ML_k25, ML_l25, ML_r42, ML_k26, ML_l26, ML_r43, ML_k27, ML_l27, ML_r44, ML_k28, ML_l28, ML_r45, ML_k29, ML_l29, ML_r48, ML_k30, ML_l30, ML_r51, ML_k31, ML_l31, ML_r52, ML_k32, ML_l32, ia0, ia4, ia8, ia12, ia16, ia20, ia24, ia52, ia60, ia68, im7, im14, ap6, iaN, ap1, ixN, vpN, arE (o := o) (c := 27), arE (o := o) (c := 26), hrl, show (25 : Int32) * nI l = nI (25 * l) from pk_mul 25 l, w7_min, hv]
      exact k
    · rw [if_neg e] at k
      rw [if_neg e, if_pos rfl]
      simp only [forall_eq, ap1]
      exact k
  refine key _ 4 0 60 (by omega) (key _ 3 1 _ (by omega) (key _ 2 2 _ (by omega) (key _ 1 3 _ (by omega) ?_)))
  unfold wl_X7_leastBy_5
  rw [if_pos (show (4 : Int32) ≤ nI (3 + 1) from by decide)]
  exact h
def sF (o : Nat) : Nat → Nat → Prop := fun a k => lF o a k ∨ a = o + 26 ∨ a = o + 27 ∨ a = o + 28
theorem sF_PSc {o a k : Nat} (h : sF o a k) : PSc o a k := by unfold sF lF PD at h; unfold PSc; omega
theorem l7_ls12 {o l : Nat} {x1 x2 : Int32} {M0 M : MM} {T : Nat → Txt} {s : Nat → Int32} {X : MM → Prop} (hL : ML o M0) (hT : TM o M0 T) (hl : l < 4) (hF0 : fI (sF o) M0 M) (hs : ar o 1 M = s) (hA : lsA o M T s (25 * l)) (h : ∀ M', fI (sF o) M0 M' → ar o 1 M' = s → lsA o M' T s (25 * (l + 1)) → X M') : ∃ n, wl_X7_laysSpread_12 o x1 x2 (nI l) X n M (nI 0) := by
  refine cl_ (fun n M1 i => wl_X7_laysSpread_12 o x1 x2 (nI l) X n M1 (nI i)) (fun i M1 => fI (sF o) M0 M1 ∧ ar o 1 M1 = s ∧ lsA o M1 T s (25 * l + i)) 25 ?_ ?_ M 0 (by omega) ⟨hF0, hs, hA⟩
  · intro n i M1 hi ⟨hF, hr, hA1⟩ hs'
    have h1 : ML o M1 := ML_of hF.e hL
    have ht1 : TM o M1 T := hF.tm (fun c a b k => by unfold sF lF PD; omega) hT
    have hn : nw o M1 = s := hr
    show wl_X7_laysSpread_12 o x1 x2 (nI l) X (n + 1) M1 (nI i)
    unfold wl_X7_laysSpread_12 wb_X7_laysSpread_49
    rw [if_neg (show ¬ (24 : Int32) < nI i from (show ¬ nI 24 < nI i from nI_nlt (by omega) (by omega)))]
    have fin : ∀ M2 v, fI (lF o) M1 M2 → ar o 1 M2 = s → (livS s (nI l) = true → v = lwS T s l (nI i)) → wl_X7_laysSpread_12 o x1 x2 (nI l) X n (msI M2 (o + 26) (25 * l + i) v) (nI (i + 1)) := by
      intro M2 v hF2 hs2 hv
      refine hs' _ ⟨(hF.tr (hF2.mono (fun a k e => Or.inl e))).s (by unfold sF; omega), ?_, ?_⟩
      · rw [ar_s, if_neg (by omega)]; exact hs2
      · intro l' c' hl' hc' hlt hlv
        rw [ar_s, if_pos rfl]
        unfold up
        by_cases e : 25 * l' + c' = 25 * l + i
        · have e1 : l' = l := by omega
          have e2 : c' = i := by omega
          subst e1; subst e2
          rw [if_pos rfl]; exact hv hlv
        · rw [if_neg e]
          exact (hF2.2 _ _ (by unfold lF PD; omega)).trans (hA1 l' c' hl' hc' (by omega) hlv)
    have i25 : (25 : Int32) * nI l = nI (25 * l) := pk_mul 25 l
    simp (disch := first | assumption | omega) only [mgR_sI, mgR_sL, mkd_sI, mkd_sL, mln_sI, mln_sL, Option.some.injEq, exists_eq_left', forall_eq, true_and, and_true, Nat.reduceLT, exists_eq_left, ML_r0, ML_k1, ML_l1, ML_r1, ML_k2, ML_l2, ML_r2, ML_k3, ML_l3, ML_r3, ML_k4, ML_l4, ML_r13, ML_k5, ML_l5, ML_r14, ML_k6, ML_l6, ML_r15, ML_k7, ML_l7, ML_r16, ML_k8, ML_l8, ML_r17, ML_k9, ML_l9, ML_r18, ML_k10, ML_l10, ML_r19, ML_k11, ML_l11, ML_r20, ML_k12, ML_l12, ML_r21, ML_k13, ML_l13, ML_r22, ML_k14, ML_l14, ML_r23, ML_k15, ML_l15, ML_r24, ML_k16, ML_l16, ML_r25, ML_k17, ML_l17, ML_r26, ML_k18, ML_l18, ML_r30, ML_k19, ML_l19, ML_r35, ML_k20, ML_l20, ML_r36, ML_k21, ML_l21, ML_r37, ML_k22, ML_l22, ML_r38, ML_k23, ML_l23, ML_r40, ML_k24, ML_l24, ML_r41, ML_k25, ML_l25, ML_r42, ML_k26, ML_l26, ML_r43, ML_k27, ML_l27, ML_r44, ML_k28, ML_l28, ML_r45, ML_k29, ML_l29, ML_r48, ML_k30, ML_l30, ML_r51, ML_k31, ML_l31, ML_r52, ML_k32, ML_l32, w7_lives h1, hn]
    by_cases e : livS s (nI l) = true
    · rw [if_pos e, if_neg n10]
      refine w7_lastsF h1 ht1 hl hr (fun M2 hF2 hs2 => ?_)
      have hL2 : ML o M2 := ML_of hF2.e h1
      simp (disch := first | assumption | omega) only [mgR_sI, mgR_sL, mkd_sI, mkd_sL, mln_sI, mln_sL, Option.some.injEq, exists_eq_left', forall_eq, true_and, and_true, Nat.reduceLT, exists_eq_left, ML_r0, ML_k1, ML_l1, ML_r1, ML_k2, ML_l2, ML_r2, ML_k3, ML_l3, ML_r3, ML_k4, ML_l4, ML_r13, ML_k5, ML_l5, ML_r14, ML_k6, ML_l6, ML_r15, ML_k7, ML_l7, ML_r16, ML_k8, ML_l8, ML_r17, ML_k9, ML_l9, ML_r18, ML_k10, ML_l10, ML_r19, ML_k11, ML_l11, ML_r20, ML_k12, ML_l12, ML_r21, ML_k13, ML_l13, ML_r22, ML_k14, ML_l14, ML_r23, ML_k15, ML_l15, ML_r24, ML_k16, ML_l16, ML_r25, ML_k17, ML_l17, ML_r26, ML_k18, ML_l18, ML_r30, ML_k19, ML_l19, ML_r35, ML_k20, ML_l20, ML_r36, ML_k21, ML_l21, ML_r37, ML_k22, ML_l22, ML_r38, ML_k23, ML_l23, ML_r40, ML_k24, ML_l24, ML_r41, ML_k25, ML_l25, ML_r42, ML_k26, ML_l26, ML_r43, ML_k27, ML_l27, ML_r44, ML_k28, ML_l28, ML_r45, ML_k29, ML_l29, ML_r48, ML_k30, ML_l30, ML_r51, ML_k31, ML_l31, ML_r52, ML_k32, ML_l32, i25, ia0, ia4, ia8, ia12, ia16, ia20, ia24, ia52, ia60, ia68, im7, im14, ap6, iaN, ap1, ixN, vpN]
      exact fin M2 _ hF2 hs2 (fun _ => rfl)
    · rw [if_neg e]
      simp (disch := first | assumption | omega) only [if_true, mgR_sI, mgR_sL, mkd_sI, mkd_sL, mln_sI, mln_sL, Option.some.injEq, exists_eq_left', forall_eq, true_and, and_true, Nat.reduceLT, exists_eq_left, ML_r0, ML_k1, ML_l1, ML_r1, ML_k2, ML_l2, ML_r2, ML_k3, ML_l3, ML_r3, ML_k4, ML_l4, ML_r13, ML_k5, ML_l5, ML_r14, ML_k6, ML_l6, ML_r15, ML_k7, ML_l7, ML_r16, ML_k8, ML_l8, ML_r17, ML_k9, ML_l9, ML_r18, ML_k10, ML_l10, ML_r19, ML_k11, ML_l11, ML_r20, ML_k12, ML_l12, ML_r21, ML_k13, ML_l13, ML_r22, ML_k14, ML_l14, ML_r23, ML_k15, ML_l15, ML_r24, ML_k16, ML_l16, ML_r25, ML_k17, ML_l17, ML_r26, ML_k18, ML_l18, ML_r30, ML_k19, ML_l19, ML_r35, ML_k20, ML_l20, ML_r36, ML_k21, ML_l21, ML_r37, ML_k22, ML_l22, ML_r38, ML_k23, ML_l23, ML_r40, ML_k24, ML_l24, ML_r41, ML_k25, ML_l25, ML_r42, ML_k26, ML_l26, ML_r43, ML_k27, ML_l27, ML_r44, ML_k28, ML_l28, ML_r45, ML_k29, ML_l29, ML_r48, ML_k30, ML_l30, ML_r51, ML_k31, ML_l31, ML_r52, ML_k32, ML_l32, i25, ia0, ia4, ia8, ia12, ia16, ia20, ia24, ia52, ia60, ia68, im7, im14, ap6, iaN, ap1, ixN, vpN]
      exact fin M1 0 fI.rf hr (fun x => absurd x e)
  · intro n M1 ⟨hF, hr, hA1⟩
    show wl_X7_laysSpread_12 o x1 x2 (nI l) X (n + 1) M1 (nI 25)
    unfold wl_X7_laysSpread_12
    rw [if_pos (show (24 : Int32) < nI 25 from by decide)]
    exact h M1 hF hr (by rw [Nat.mul_add]; exact hA1)
theorem l7_ls4 {o : Nat} {x1 x2 : Int32} {M : MM} {T : Nat → Txt} {s : Nat → Int32} {X : MM → Prop} (hL : ML o M) (hT : TM o M T) (hs : ar o 1 M = s) (h : ∀ M', fI (sF o) M M' → ar o 1 M' = s → lsA o M' T s 100 → X M') : ∃ n, wl_X7_laysSpread_4 o x1 x2 X n M (nI 0) := by
  refine cl_ (fun n M1 i => wl_X7_laysSpread_4 o x1 x2 X n M1 (nI i)) (fun i M1 => fI (sF o) M M1 ∧ ar o 1 M1 = s ∧ lsA o M1 T s (25 * i)) 4 ?_ ?_ M 0 (by omega) ⟨fI.rf, hs, fun l c hl hc hlt => by omega⟩
  · intro n i M1 hi ⟨hF, hr, hA1⟩ hs'
    show wl_X7_laysSpread_4 o x1 x2 X (n + 1) M1 (nI i)
    unfold wl_X7_laysSpread_4
    rw [if_neg (show ¬ (4 : Int32) ≤ nI i from (show ¬ nI 4 ≤ nI i from nI_ge (by omega) (by omega)))]
    refine l7_ls12 hL hT hi hF hr hA1 (fun M2 hF2 hs2 hA2 => ?_)
    simp only [forall_eq, ap1]
    exact hs' M2 ⟨hF2, hs2, hA2⟩
  · intro n M1 ⟨hF, hr, hA1⟩
    show wl_X7_laysSpread_4 o x1 x2 X (n + 1) M1 (nI 4)
    unfold wl_X7_laysSpread_4
    rw [if_pos (show (4 : Int32) ≤ nI 4 from by decide)]
    exact h M1 hF hr hA1
/-- the best row so far -/
abbrev Ra : Type := Option (Nat → Nat)
def mst (T : Nat → Txt) (s : Nat → Int32) : Ra → Int32
  | none => -1
  | some q => lbS T s q
def updS (T : Nat → Txt) (s : Nat → Int32) (r : Nat → Nat) : Ra → Ra
  | none => some r
  | some q => if lbS T s q < lbS T s r then some r else some q
def stpS (T : Nat → Txt) (s : Nat → Int32) (r : Nat → Nat) (A : Ra) : Ra := if okB s r = true then updS T s r A else A
theorem mst_lt {T : Nat → Txt} {s : Nat → Int32} {r : Nat → Nat} {A : Ra} : updS T s r A = if mst T s A < lbS T s r then some r else A := by
  cases A with
  | none =>
    obtain ⟨g, h1, h2⟩ := lbS_nI (T := T) (s := s) (r := r)
    have : (-1 : Int32) < lbS T s r := by
      rw [h2, Int32.lt_iff_toInt_lt, nI_toInt (by omega), show (-1 : Int32).toInt = -1 from rfl]; omega
    show some r = if (-1 : Int32) < lbS T s r then some r else none
    rw [if_pos this]
  | some q => rfl
def spI (o : Nat) (M0 M : MM) (T : Nat → Txt) (s : Nat → Int32) (A : Ra) : Prop := fI (sF o) M0 M ∧ ar o 1 M = s ∧ lsA o M T s 100 ∧ ∀ q, A = some q → ∀ l, l < 4 → ar o 28 M l = nI (q l)
theorem l7_ls159 {o : Nat} {x1 x2 x3 x4 x5 : Int32} {M : MM} {X : MM → Prop} (hL : ML o M) (h : ∀ M', fI (fun a _ => a = o + 28) M M' → (∀ l, l < 4 → ar o 28 M' l = ar o 27 M l) → X M') : ∃ n, wl_X7_laysSpread_159 o x1 x2 x3 x4 x5 X n M (nI 0) := by
  refine cl_ (fun n M1 i => wl_X7_laysSpread_159 o x1 x2 x3 x4 x5 X n M1 (nI i)) (fun i M1 => fI (fun a _ => a = o + 28) M M1 ∧ ∀ l, l < i → ar o 28 M1 l = ar o 27 M l) 4 ?_ ?_ M 0 (by omega) ⟨fI.rf, fun l hl => by omega⟩
  · intro n i M1 hi ⟨hF, hr⟩ hs'
    have h1 : ML o M1 := ML_of hF.e hL
    have h27 : ar o 27 M1 = ar o 27 M := funext fun k => hF.2 _ _ (by omega)
    show wl_X7_laysSpread_159 o x1 x2 x3 x4 x5 X (n + 1) M1 (nI i)
    unfold wl_X7_laysSpread_159
    rw [if_neg (show ¬ (4 : Int32) ≤ nI i from (show ¬ nI 4 ≤ nI i from nI_ge (by omega) (by omega)))]
    simp (disch := first | assumption | omega) only [mgR_sI, mgR_sL, mkd_sI, mkd_sL, mln_sI, mln_sL, Option.some.injEq, exists_eq_left', forall_eq, true_and, and_true, Nat.reduceLT, exists_eq_left, ML_r0, ML_k1, ML_l1, ML_r1, ML_k2, ML_l2, ML_r2, ML_k3, ML_l3, ML_r3, ML_k4, ML_l4, ML_r13, ML_k5, ML_l5, ML_r14, ML_k6, ML_l6, ML_r15, ML_k7, ML_l7, ML_r16, ML_k8, ML_l8, ML_r17, ML_k9, ML_l9, ML_r18, ML_k10, ML_l10, ML_r19, ML_k11, ML_l11, ML_r20, ML_k12, ML_l12, ML_r21, ML_k13, ML_l13, ML_r22, ML_k14, ML_l14, ML_r23, ML_k15, ML_l15, ML_r24, ML_k16, ML_l16, ML_r25, ML_k17, ML_l17, ML_r26, ML_k18, ML_l18, ML_r30, ML_k19, ML_l19, ML_r35, ML_k20, ML_l20, ML_r36, ML_k21, ML_l21, ML_r37, ML_k22, ML_l22, ML_r38, ML_k23, ML_l23, ML_r40, ML_k24, ML_l24, ML_r41, ML_k25, ML_l25, ML_r42, ML_k26, ML_l26, ML_r43, ML_k27, ML_l27, ML_r44, ML_k28, ML_l28, ML_r45, ML_k29, ML_l29, ML_r48, ML_k30, ML_l30, ML_r51, ML_k31, ML_l31, ML_r52, ML_k32, ML_l32, ia0, ia4, ia8, ia12, ia16, ia20, ia24, ia52, ia60, ia68, im7, im14, ap6, iaN, ap1, ixN, vpN, arE (o := o) (c := 27), h27]
    refine hs' _ ⟨hF.s rfl, fun l hl => ?_⟩
    rw [ar_s, if_pos rfl]
    unfold up
    by_cases e : l = i
    · rw [if_pos e, e]
    · rw [if_neg e]; exact hr l (by omega)
  · intro n M1 ⟨hF, hr⟩
    show wl_X7_laysSpread_159 o x1 x2 x3 x4 x5 X (n + 1) M1 (nI 4)
    unfold wl_X7_laysSpread_159
    rw [if_pos (show (4 : Int32) ≤ nI 4 from by decide)]
    exact h M1 hF hr
theorem f27 {o k : Nat} {M M1 : MM} {v : Int32} (h : fI (fun x _ => x = o + 27) M M1) : fI (fun x _ => x = o + 27) M (msI M1 (o + 27) k v) := h.s rfl
theorem l7_ls83 {o cups a b : Nat} {M0 : MM} {T : Nat → Txt} {s : Nat → Int32} {R : Ra} {X : MM → Int32 → Prop} (hL : ML o M0) (hab : a + b ≤ cups) (hc : cups ≤ 24) (h : ∀ M', spI o M0 M' T s R → X M' (mst T s R)) : ∀ j c M A, a + b + c + j = cups + 1 → spI o M0 M T s A → lpF (fun c => stpS T s (r4 a b c (cups - a - b - c))) j c A = R → wl_X7_laysSpread_83 o (nI cups) (nI a) (nI b) X (j + 1) M (mst T s A) (nI c) := by
  intro j
  induction j with
  | zero =>
    intro c M A hj hI hR
    unfold wl_X7_laysSpread_83
    rw [iaN, iaN, if_pos (nI_lt (by omega) (by omega))]
    have hR' : A = R := hR
    rw [hR']; rw [hR'] at hI
    exact h M hI
  | succ j ih =>
    intro c M A hj ⟨hF, hs, hA, hq⟩ hR
    have h1 : ML o M := ML_of hF.e hL
    have g1 : nI cups - nI a = nI (cups - a) := pk_sub (by omega)
    have g2 : nI (cups - a) - nI b = nI (cups - a - b) := pk_sub (by omega)
    have g3 : nI (cups - a - b) - nI c = nI (cups - a - b - c) := pk_sub (by omega)
    unfold wl_X7_laysSpread_83
    rw [iaN, iaN, if_neg (nI_nlt (by omega) (by omega)), g1, g2, g3]
    simp (disch := first | assumption | omega) only [mgR_sI, mgR_sL, mkd_sI, mkd_sL, mln_sI, mln_sL, Option.some.injEq, exists_eq_left', forall_eq, true_and, and_true, Nat.reduceLT, exists_eq_left, ML_r0, ML_k1, ML_l1, ML_r1, ML_k2, ML_l2, ML_r2, ML_k3, ML_l3, ML_r3, ML_k4, ML_l4, ML_r13, ML_k5, ML_l5, ML_r14, ML_k6, ML_l6, ML_r15, ML_k7, ML_l7, ML_r16, ML_k8, ML_l8, ML_r17, ML_k9, ML_l9, ML_r18, ML_k10, ML_l10, ML_r19, ML_k11, ML_l11, ML_r20, ML_k12, ML_l12, ML_r21, ML_k13, ML_l13, ML_r22, ML_k14, ML_l14, ML_r23, ML_k15, ML_l15, ML_r24, ML_k16, ML_l16, ML_r25, ML_k17, ML_l17, ML_r26, ML_k18, ML_l18, ML_r30, ML_k19, ML_l19, ML_r35, ML_k20, ML_l20, ML_r36, ML_k21, ML_l21, ML_r37, ML_k22, ML_l22, ML_r38, ML_k23, ML_l23, ML_r40, ML_k24, ML_l24, ML_r41, ML_k25, ML_l25, ML_r42, ML_k26, ML_l26, ML_r43, ML_k27, ML_l27, ML_r44, ML_k28, ML_l28, ML_r45, ML_k29, ML_l29, ML_r48, ML_k30, ML_l30, ML_r51, ML_k31, ML_l31, ML_r52, ML_k32, ML_l32]
    have hF2 : fI (fun x _ => x = o + 27) M (msI (msI (msI (msI M (o + 27) 0 (nI a)) (o + 27) 1 (nI b)) (o + 27) 2 (nI c)) (o + 27) 3 (nI (cups - a - b - c))) := f27 (f27 (f27 (f27 fI.rf)))
    have hr27 : ∀ l, l < 4 → ar o 27 (msI (msI (msI (msI M (o + 27) 0 (nI a)) (o + 27) 1 (nI b)) (o + 27) 2 (nI c)) (o + 27) 3 (nI (cups - a - b - c))) l = nI (r4 a b c (cups - a - b - c) l) := by
      intro l hl
      simp only [ar_s, if_true]
      have : l = 0 ∨ l = 1 ∨ l = 2 ∨ l = 3 := by omega
      rcases this with rfl | rfl | rfl | rfl <;> simp [up, r4]
    generalize msI (msI (msI (msI M (o + 27) 0 (nI a)) (o + 27) 1 (nI b)) (o + 27) 2 (nI c)) (o + 27) 3 (nI (cups - a - b - c)) = M2 at hF2 hr27 ⊢
    have hI2 : spI o M0 M2 T s A := ⟨hF.tr (hF2.mono (fun x k e => by unfold sF; omega)), (funext fun k => hF2.2 _ _ (by omega)).trans hs, fun l c hl hc hlt hlv => (hF2.2 _ _ (by omega)).trans (hA l c hl hc hlt hlv), fun q e l hl => (hF2.2 _ _ (by omega)).trans (hq q e l hl)⟩
    have h2 : ML o M2 := ML_of hF2.e h1
    have hle : ∀ l, l < 4 → r4 a b c (cups - a - b - c) l ≤ 24 := by
      intro l hl
      have : l = 0 ∨ l = 1 ∨ l = 2 ∨ l = 3 := by omega
      rcases this with rfl | rfl | rfl | rfl <;> simp [r4] <;> omega
    have hsum : r4 a b c (cups - a - b - c) 0 + r4 a b c (cups - a - b - c) 1 + r4 a b c (cups - a - b - c) 2 + r4 a b c (cups - a - b - c) 3 = cups := by simp [r4]; omega
    have hR2 : lpF (fun c => stpS T s (r4 a b c (cups - a - b - c))) j (c + 1) (stpS T s (r4 a b c (cups - a - b - c)) A) = R := hR
    generalize r4 a b c (cups - a - b - c) = r at hr27 hle hsum hR2
    refine w7_mayBe h2 hI2.2.1 hr27 hsum hc (fun e => ?_) (fun e => ?_)
    · rw [if_neg n10]
      refine w7_leastBy h2 hI2.2.1 hI2.2.2.1 hr27 hle ?_
      unfold stpS at hR2
      rw [if_pos e, mst_lt] at hR2
      by_cases e2 : mst T s A < lbS T s r
      · rw [if_pos e2] at hR2 ⊢
        refine w7_leastBy h2 hI2.2.1 hI2.2.2.1 hr27 hle ?_
        refine l7_ls159 h2 (fun M3 hF3 h28 => ?_)
        simp only [forall_eq, ap1]
        refine ih (c + 1) M3 (some r) (by omega) ⟨hI2.1.tr (hF3.mono (fun x k e => by unfold sF; omega)), (funext fun k => hF3.2 _ _ (by omega)).trans hI2.2.1, fun l c hl hc hlt hlv => (hF3.2 _ _ (by omega)).trans (hI2.2.2.1 l c hl hc hlt hlv), fun q e l hl => ?_⟩ hR2
        cases e
        rw [h28 l hl]; exact hr27 l hl
      · rw [if_neg e2] at hR2 ⊢
        simp only [forall_eq, ap1]
        exact ih (c + 1) M2 A (by omega) hI2 hR2
    · rw [if_pos rfl]
      simp only [forall_eq, ap1]
      unfold stpS at hR2
      rw [if_neg (by rw [e]; decide)] at hR2
      exact ih (c + 1) M2 A (by omega) hI2 hR2
def spC (T : Nat → Txt) (s : Nat → Int32) (cups a b : Nat) : Ra → Ra := lpF (fun c => stpS T s (r4 a b c (cups - a - b - c))) (cups - a - b + 1) 0
def spB (T : Nat → Txt) (s : Nat → Int32) (cups a : Nat) : Ra → Ra := lpF (fun b => spC T s cups a b) (cups - a + 1) 0
def spA (T : Nat → Txt) (s : Nat → Int32) (cups : Nat) : Ra := lpF (fun a => spB T s cups a) (cups + 1) 0 none
theorem l7_ls72 {o cups a : Nat} {M0 : MM} {T : Nat → Txt} {s : Nat → Int32} {R : Ra} {X : MM → Int32 → Prop} (hL : ML o M0) (ha : a ≤ cups) (hc : cups ≤ 24) (h : ∀ M', spI o M0 M' T s R → X M' (mst T s R)) : ∀ j b M A, a + b + j = cups + 1 → spI o M0 M T s A → lpF (fun b => spC T s cups a b) j b A = R → wl_X7_laysSpread_72 o (nI cups) (nI a) X (j + 1) M (mst T s A) (nI b) := by
  intro j
  induction j with
  | zero =>
    intro b M A hj hI hR
    unfold wl_X7_laysSpread_72
    rw [iaN, if_pos (nI_lt (by omega) (by omega))]
    have hR' : A = R := hR
    rw [hR']; rw [hR'] at hI
    exact h M hI
  | succ j ih =>
    intro b M A hj hI hR
    unfold wl_X7_laysSpread_72
    rw [iaN, if_neg (nI_nlt (by omega) (by omega))]
    refine ⟨_, l7_ls83 (R := spC T s cups a b A) hL (by omega) hc (fun M2 hI2 => ?_) (cups - a - b + 1) 0 M A (by omega) hI rfl⟩
    simp only [forall_eq, ap1]
    exact ih (b + 1) M2 _ (by omega) hI2 hR
theorem l7_ls64 {o cups : Nat} {M0 : MM} {T : Nat → Txt} {s : Nat → Int32} {R : Ra} {X : MM → Int32 → Prop} (hL : ML o M0) (hc : cups ≤ 24) (h : ∀ M', spI o M0 M' T s R → X M' (mst T s R)) : ∀ j a M A, a + j = cups + 1 → spI o M0 M T s A → lpF (fun a => spB T s cups a) j a A = R → wl_X7_laysSpread_64 o (nI cups) X (j + 1) M (mst T s A) (nI a) := by
  intro j
  induction j with
  | zero =>
    intro b M A hj hI hR
    unfold wl_X7_laysSpread_64
    rw [if_pos (nI_lt (by omega) (by omega))]
    have hR' : A = R := hR
    rw [hR']; rw [hR'] at hI
    exact h M hI
  | succ j ih =>
    intro b M A hj hI hR
    unfold wl_X7_laysSpread_64
    rw [if_neg (nI_nlt (by omega) (by omega))]
    refine ⟨_, l7_ls72 (R := spB T s cups b A) hL (by omega) hc (fun M2 hI2 => ?_) (cups - b + 1) 0 M A (by omega) hI rfl⟩
    simp only [forall_eq, ap1]
    exact ih (b + 1) M2 _ (by omega) hI2 hR
/-- the sets of told and of dead plants are small -/
def pdO (s : Nat → Int32) : Prop := ∃ p d, p < 16 ∧ d < 16 ∧ s 76 = nI p ∧ s 77 = nI d
theorem pd_iff : ∀ p, p < 16 → ∀ d, d < 16 → ((nI p &&& (nI d ^^^ (-1 : Int32)) = 0) ↔ ∀ l, l < 4 → (hs_ (nI p) (nI l) && !hs_ (nI d) (nI l)) = false) := by decide +kernel
def noL (s : Nat → Int32) : Prop := ∀ l, l < 4 → livS s (nI l) = false
theorem in03 : ∀ l, l < 4 → inS (nI l) 0 3 = true := by decide
theorem pdO_iff {s : Nat → Int32} (h : pdO s) : (s 76 &&& (s 77 ^^^ (-1 : Int32)) = 0) ↔ noL s := by
  obtain ⟨p, d, h1, h2, h3, h4⟩ := h
  rw [h3, h4, pd_iff p h1 d h2]
  unfold noL livS isPl
  rw [h3, h4]
  constructor
  · intro k l hl; rw [in03 l hl, Bool.true_and]; exact k l hl
  · intro k l hl; have := k l hl; rw [in03 l hl, Bool.true_and] at this; exact this
/-- what a spread tells -/
def spS (T : Nat → Txt) (s : Nat → Int32) (cups : Nat) (w : Int32) : Int32 := match spA T s cups with
  | none => -1
  | some q => if w = 10 then lbS T s q else nI (q (ix_ w))
def spV (c w : Int32) : Bool := inS c 0 24 && (decide (w = 10) || inS w 0 3)
theorem w7_sp27 {o cups : Nat} {M : MM} {T : Nat → Txt} {s : Nat → Int32} {w : Int32} {Post : Int32 → MM → Prop} (hL : ML o M) (hT : TM o M T) (hs : ar o 1 M = s) (hp : pdO s) (hc : cups ≤ 24) (hw : (decide (w = 10) || inS w 0 3) = true) (hne : ¬ noL s → ∃ q, spA T s cups = some q) (h0 : noL s → Post (-2) M) (h1 : ¬ noL s → ∀ M', gF o M M' → ar o 1 M' = s → Post (spS T s cups w) M') : wb_X7_spread_27 M o (nI cups) w Post := by
  unfold wb_X7_spread_27
  simp (disch := first | assumption | omega) only [mgR_sI, mgR_sL, mkd_sI, mkd_sL, mln_sI, mln_sL, Option.some.injEq, exists_eq_left', forall_eq, true_and, and_true, Nat.reduceLT, exists_eq_left, ML_r0, ML_k1, ML_l1, ML_r1, ML_k2, ML_l2, ML_r2, ML_k3, ML_l3, ML_r3, ML_k4, ML_l4, ML_r13, ML_k5, ML_l5, ML_r14, ML_k6, ML_l6, ML_r15, ML_k7, ML_l7, ML_r16, ML_k8, ML_l8, ML_r17, ML_k9, ML_l9, ML_r18, ML_k10, ML_l10, ML_r19, ML_k11, ML_l11, ML_r20, ML_k12, ML_l12, ML_r21, ML_k13, ML_l13, ML_r22, ML_k14, ML_l14, ML_r23, ML_k15, ML_l15, ML_r24, ML_k16, ML_l16, ML_r25, ML_k17, ML_l17, ML_r26, ML_k18, ML_l18, ML_r30, ML_k19, ML_l19, ML_r35, ML_k20, ML_l20, ML_r36, ML_k21, ML_l21, ML_r37, ML_k22, ML_l22, ML_r38, ML_k23, ML_l23, ML_r40, ML_k24, ML_l24, ML_r41, ML_k25, ML_l25, ML_r42, ML_k26, ML_l26, ML_r43, ML_k27, ML_l27, ML_r44, ML_k28, ML_l28, ML_r45, ML_k29, ML_l29, ML_r48, ML_k30, ML_l30, ML_r51, ML_k31, ML_l31, ML_r52, ML_k32, ML_l32, arE (o := o) (c := 1), hs]
  by_cases e : s 76 &&& (s 77 ^^^ (-1 : Int32)) = 0
  · rw [if_pos e]; exact h0 ((pdO_iff hp).mp e)
  · rw [if_neg e]
    have hl : ¬ noL s := fun x => e ((pdO_iff hp).mpr x)
    obtain ⟨q, hq⟩ := hne hl
    unfold wp_X7_laysSpread
    refine l7_ls4 hL hT hs (fun M1 hF1 hs1 hA1 => ?_)
    refine ⟨_, l7_ls64 (M0 := M) (R := some q) hL hc (fun M2 hI2 => ?_) (cups + 1) 0 M1 none (by omega) ⟨hF1, hs1, hA1, fun q e => by cases e⟩ hq⟩
    have hL2 : ML o M2 := ML_of hI2.1.e hL
    have fin := h1 hl M2 (hI2.1.g (fun a k e => sF_PSc e)) hI2.2.1
    unfold spS at fin
    rw [hq] at fin
    dsimp only at fin
    dsimp only
    by_cases e1 : w = 10
    · rw [if_pos e1] at fin ⊢; exact fin
    · rw [if_neg e1] at fin ⊢
      have e2 : inS w 0 3 = true := by simpa [e1] using hw
      obtain ⟨k, hk, rfl⟩ := inS_n (n := 3) (by omega) e2
      have h28 := hI2.2.2.2 q rfl k (by omega)
      rw [ixN (by omega)] at fin
      simp (disch := first | assumption | omega) only [mgR_sI, mgR_sL, mkd_sI, mkd_sL, mln_sI, mln_sL, Option.some.injEq, exists_eq_left', forall_eq, true_and, and_true, Nat.reduceLT, exists_eq_left, ML_r0, ML_k1, ML_l1, ML_r1, ML_k2, ML_l2, ML_r2, ML_k3, ML_l3, ML_r3, ML_k4, ML_l4, ML_r13, ML_k5, ML_l5, ML_r14, ML_k6, ML_l6, ML_r15, ML_k7, ML_l7, ML_r16, ML_k8, ML_l8, ML_r17, ML_k9, ML_l9, ML_r18, ML_k10, ML_l10, ML_r19, ML_k11, ML_l11, ML_r20, ML_k12, ML_l12, ML_r21, ML_k13, ML_l13, ML_r22, ML_k14, ML_l14, ML_r23, ML_k15, ML_l15, ML_r24, ML_k16, ML_l16, ML_r25, ML_k17, ML_l17, ML_r26, ML_k18, ML_l18, ML_r30, ML_k19, ML_l19, ML_r35, ML_k20, ML_l20, ML_r36, ML_k21, ML_l21, ML_r37, ML_k22, ML_l22, ML_r38, ML_k23, ML_l23, ML_r40, ML_k24, ML_l24, ML_r41, ML_k25, ML_l25, ML_r42, ML_k26, ML_l26, ML_r43, ML_k27, ML_l27, ML_r44, ML_k28, ML_l28, ML_r45, ML_k29, ML_l29, ML_r48, ML_k30, ML_l30, ML_r51, ML_k31, ML_l31, ML_r52, ML_k32, ML_l32, ia0, ia4, ia8, ia12, ia16, ia20, ia24, ia52, ia60, ia68, im7, im14, ap6, iaN, ap1, ixN, vpN, arE (o := o) (c := 28), h28]
      exact fin
/-! a spread is found -/
theorem lpF_some {f : Nat → Ra → Ra} (hm : ∀ i A, (∃ q, A = some q) → ∃ q, f i A = some q) : ∀ j i A, (∃ q, A = some q) → ∃ q, lpF f j i A = some q := by
  intro j
  induction j with
  | zero => intro i A h; exact h
  | succ j ih => intro i A h; exact ih (i + 1) _ (hm i A h)
theorem lpF_hit {f : Nat → Ra → Ra} (hm : ∀ i A, (∃ q, A = some q) → ∃ q, f i A = some q) {k : Nat} (hk : ∀ A, ∃ q, f k A = some q) : ∀ j i A, i ≤ k → k < i + j → ∃ q, lpF f j i A = some q := by
  intro j
  induction j with
  | zero => intro i A h1 h2; omega
  | succ j ih =>
    intro i A h1 h2
    by_cases e : i = k
    · subst e; exact lpF_some hm j (i + 1) _ (hk A)
    · exact ih (i + 1) _ (by omega) (by omega)
theorem stp_some {T : Nat → Txt} {s : Nat → Int32} {r : Nat → Nat} {A : Ra} (h : ∃ q, A = some q) : ∃ q, stpS T s r A = some q := by
  obtain ⟨q, rfl⟩ := h
  unfold stpS
  split
  · unfold updS
    dsimp only
    split
    · exact ⟨r, rfl⟩
    · exact ⟨q, rfl⟩
  · exact ⟨q, rfl⟩
theorem stp_hit {T : Nat → Txt} {s : Nat → Int32} {r : Nat → Nat} (h : okB s r = true) (A : Ra) : ∃ q, stpS T s r A = some q := by
  unfold stpS
  rw [if_pos h]
  cases A with
  | none => exact ⟨r, rfl⟩
  | some q => unfold updS; dsimp only; split <;> exact ⟨_, rfl⟩
theorem spC_some {T : Nat → Txt} {s : Nat → Int32} {cups a b : Nat} {A : Ra} (h : ∃ q, A = some q) : ∃ q, spC T s cups a b A = some q := lpF_some (fun i A h => stp_some h) _ _ _ h
theorem spB_some {T : Nat → Txt} {s : Nat → Int32} {cups a : Nat} {A : Ra} (h : ∃ q, A = some q) : ∃ q, spB T s cups a A = some q := lpF_some (fun i A h => spC_some h) _ _ _ h
theorem spC_hit {T : Nat → Txt} {s : Nat → Int32} {cups a b c : Nat} (habc : a + b + c ≤ cups) (h : okB s (r4 a b c (cups - a - b - c)) = true) (A : Ra) : ∃ q, spC T s cups a b A = some q := by
  unfold spC
  exact lpF_hit (f := fun c => stpS T s (r4 a b c (cups - a - b - c))) (fun i A h => stp_some h) (k := c) (fun A => stp_hit h A) _ _ _ (by omega) (by omega)
theorem spB_hit {T : Nat → Txt} {s : Nat → Int32} {cups a b c : Nat} (habc : a + b + c ≤ cups) (h : okB s (r4 a b c (cups - a - b - c)) = true) (A : Ra) : ∃ q, spB T s cups a A = some q := by
  unfold spB
  exact lpF_hit (f := fun b => spC T s cups a b) (fun i A h => spC_some h) (k := b) (fun A => spC_hit habc h A) _ _ _ (by omega) (by omega)
theorem sp_hit {T : Nat → Txt} {s : Nat → Int32} {cups a b c : Nat} (habc : a + b + c ≤ cups) (h : okB s (r4 a b c (cups - a - b - c)) = true) : ∃ q, spA T s cups = some q := by
  unfold spA
  exact lpF_hit (f := fun a => spB T s cups a) (fun i A h => spB_some h) (k := a) (fun A => spB_hit habc h A) _ _ _ (by omega) (by omega)
theorem sp_any {T : Nat → Txt} {s : Nat → Int32} {cups : Nat} (h : ¬ noL s) : ∃ q, spA T s cups = some q := by
  by_cases e0 : livS s (nI 0) = true
  · exact sp_hit (a := cups) (b := 0) (c := 0) (by omega) (by simp [okB, okC, r4, e0])
  by_cases e1 : livS s (nI 1) = true
  · exact sp_hit (a := 0) (b := cups) (c := 0) (by omega) (by simp [okB, okC, r4, e1])
  by_cases e2 : livS s (nI 2) = true
  · exact sp_hit (a := 0) (b := 0) (c := cups) (by omega) (by simp [okB, okC, r4, e2])
  by_cases e3 : livS s (nI 3) = true
  · exact sp_hit (a := 0) (b := 0) (c := 0) (by omega) (by simp [okB, okC, r4, e3])
  · exfalso
    refine h (fun l hl => ?_)
    have : l = 0 ∨ l = 1 ∨ l = 2 ∨ l = 3 := by omega
    rcases this with rfl | rfl | rfl | rfl
    · simpa using e0
    · simpa using e1
    · simpa using e2
    · simpa using e3
theorem M_spread {o : Nat} {M : MM} {T : Nat → Txt} {s : Nat → Int32} {c w : Int32} {Post : Int32 → MM → Prop} (hL : ML o M) (hT : TM o M T) (hs : ar o 1 M = s) (hp : pdO s) (h0 : spV c w = false → Post (-1) M) (h2 : spV c w = true → noL s → Post (-2) M)
    (h1 : ∀ cups, cups ≤ 24 → c = nI cups → spV c w = true → ¬ noL s → ∀ M', gF o M M' → ar o 1 M' = s → Post (spS T s cups w) M') : wp_X7_spread M o c w Post := by
  unfold wp_X7_spread
  rw [w7_in]
  unfold spV at h0 h1 h2
  by_cases e1 : inS c 0 24 = true
  · obtain ⟨cups, hc, rfl⟩ := inS_n (n := 24) (by omega) e1
    rw [if_pos e1, if_neg n10]
    by_cases e2 : w = 10
    · rw [if_pos e2]
      exact w7_sp27 hL hT hs hp hc (by simp [e2]) sp_any (h2 (by simp [e1, e2])) (h1 cups hc rfl (by simp [e1, e2]))
    · rw [if_neg e2, w7_in]
      by_cases e3 : inS w 0 3 = true
      · rw [if_pos e3, if_neg n10]
        exact w7_sp27 hL hT hs hp hc (by simp [e3]) sp_any (h2 (by simp [e1, e3])) (h1 cups hc rfl (by simp [e1, e3]))
      · rw [if_neg e3, if_pos rfl]; exact h0 (by simp [e2, e3])
  · rw [if_neg e1, if_pos rfl]; exact h0 (by simp [e1])
