/-! the model: the week -/
set_option maxRecDepth 100000
def dgN (m c k : Nat) : Nat := (c / (m + 1) ^ (6 - k)) % (m + 1)
theorem w7_comingIn {M : MM} {c m k : Nat} {Post : Int32 → MM → Prop} (hc : c < 1000000) (hm : m < 1000) (hk : k ≤ 6) (h : Post (nI (dgN m c k)) M) : wp_X7_comingIn M (nI c) (nI m) (nI k) Post := by
  have hne : ¬ nI m + (1 : Int32) = 0 := by rw [ap1]; exact nI_ne0 (by omega) (by omega)
  have key : ∀ j v, k + j ≤ 6 → v < 1000000 → (∀ X : MM → Int32 → Prop, X M (nI (v / (m + 1) ^ j)) → wl_X7_comingIn_6 (nI m) (nI k) X (j + 1) M (nI v) (nI (k + j))) := by
    intro j
    induction j with
    | zero =>
      intro v _ hv X hX
      unfold wl_X7_comingIn_6
      rw [if_pos (nI_le (by omega) (by omega))]
      rw [Nat.pow_zero, Nat.div_one] at hX
      exact hX
    | succ j ih =>
      intro v hkj hv X hX
      unfold wl_X7_comingIn_6
      rw [if_neg (nI_ge (by omega) (by omega))]
      refine ⟨hne, ?_⟩
      simp only [forall_eq]
      have hd : nI v / (nI m + (1 : Int32)) = nI (v / (m + 1)) := by rw [ap1]; exact pk_div (by omega) (by omega) (by omega)
      have hdl : v / (m + 1) ≤ v := Nat.div_le_self _ _
      rw [hd, show k + (j + 1) = (k + j) + 1 by omega, am1]
      refine ih (v / (m + 1)) (by omega) (by omega) X ?_
      rw [Nat.div_div_eq_div_mul, ← Nat.pow_succ']
      exact hX
  unfold wp_X7_comingIn
  have hb : c / (m + 1) ^ (6 - k) ≤ c := Nat.div_le_self _ _
  have k1 := key (6 - k) c (by omega) hc (fun M_8 x3_10 => ¬ (nI m + (1 : Int32)) = 0 ∧ Post (rm_ x3_10 (nI m + (1 : Int32))) M_8) ⟨hne, by
    rw [ap1, show rm_ (nI (c / (m + 1) ^ (6 - k))) (nI (m + 1)) = nI (c / (m + 1) ^ (6 - k) % (m + 1)) from pk_rem (by omega) (by omega) (by omega)]
    exact h⟩
  rw [show k + (6 - k) = 6 by omega] at k1
  exact ⟨_, k1⟩
/-- how many come by a code -/
def cmN (m c : Nat) : Nat → Nat
  | 0 => 0
  | k + 1 => cmN m c k + (if dgN m c k < m then 1 else 0)
theorem cmN_le {m c : Nat} : ∀ k, cmN m c k ≤ k := by
  intro k
  induction k with
  | zero => exact Nat.le_refl _
  | succ k ih => unfold cmN; split <;> omega
theorem w7_comings {M : MM} {c m : Nat} {Post : Int32 → MM → Prop} (hc : c < 1000000) (hm : m < 1000) (h : Post (nI (cmN m c 7)) M) : wp_X7_comings M (nI c) (nI m) Post := by
  unfold wp_X7_comings
  refine cl_ (fun n (v : Int32) k => wl_X7_comings_4 (nI c) (nI m) (fun M_15 x2_17 => Post x2_17 M_15) n M v (nI k)) (fun k v => v = nI (cmN m c k)) 7 ?_ ?_ 0 0 (by omega) rfl
  · intro n k v hk hv hs'
    show wl_X7_comings_4 (nI c) (nI m) _ (n + 1) M v (nI k)
    unfold wl_X7_comings_4
    rw [if_neg (show ¬ (7 : Int32) ≤ nI k from (show ¬ nI 7 ≤ nI k from nI_ge (by omega) (by omega)))]
    refine w7_comingIn hc hm (by omega) ?_
    have hdg : dgN m c k < m + 1 := Nat.mod_lt _ (by omega)
    by_cases e : dgN m c k < m
    · rw [if_neg (nI_ge e (by omega))]
      simp only [forall_eq, ap1]
      refine hs' _ ?_
      rw [hv, ap1]; show _ = nI (cmN m c k + (if dgN m c k < m then 1 else 0)); rw [if_pos e]
    · rw [if_pos (nI_le (by omega) (by omega))]
      simp only [forall_eq, ap1]
      refine hs' _ ?_
      rw [hv, show nI (cmN m c k) + (0 : Int32) = nI (cmN m c k) from nI_add _ 0]
      show _ = nI (cmN m c k + (if dgN m c k < m then 1 else 0)); rw [if_neg e, Nat.add_zero]
  · intro n v hv
    show wl_X7_comings_4 (nI c) (nI m) _ (n + 1) M v (nI 7)
    unfold wl_X7_comings_4
    rw [if_pos (show (7 : Int32) ≤ nI 7 from by decide), hv]
    exact h
/-- a day of a week: one comes or nobody, then its end -/
def wkD (T : Nat → Txt) (l m : Nat) (who : Nat → Nat) (d : Nat) (s : Nat → Int32) : Nat → Int32 :=
  let s1 := if d < m then watR s (gvS T s (who d) l) (who d) l else s
  dUp (dS s1 l (lessS T s1 l 0))
def wkR (T : Nat → Txt) (l m : Nat) (who : Nat → Nat) (c : Nat) (s : Nat → Int32) : Nat → (Nat → Int32)
  | 0 => s
  | k + 1 => if livS (wkR T l m who c s k) (nI l) = true then wkD T l m who (dgN m c k) (wkR T l m who c s k) else wkR T l m who c s k
/-- how wet it is behind a week; -1: it is dead -/
def wbS (T : Nat → Txt) (l m : Nat) (who : Nat → Nat) (c : Nat) (s : Nat → Int32) : Int32 := if livS (wkR T l m who c s 7) (nI l) = true then wkR T l m who c s 7 (4 + l) else -1
theorem wkD_perm {T : Nat → Txt} {l m d : Nat} {who : Nat → Nat} {s : Nat → Int32} (hl : l < 4) (hw : d < m → who d < 8) : perm s (wkD T l m who d s) := by
  unfold wkD
  by_cases e : d < m
  · simp only [if_pos e]
    exact ((watR_perm (hw e) hl).tr (dS_perm hl)).up (by omega)
  · simp only [if_neg e]
    exact (dS_perm hl).up (by omega)

theorem wkR_perm {T : Nat → Txt} {l m c : Nat} {who : Nat → Nat} {s : Nat → Int32} (hl : l < 4) (hw : ∀ d, d < m → who d < 8) : ∀ k, perm s (wkR T l m who c s k) := by
  intro k
  induction k with
  | zero => exact perm.rf
  | succ k ih =>
    show perm s (if livS (wkR T l m who c s k) (nI l) = true then _ else _)
    split
    · exact ih.tr (wkD_perm hl (hw _))
    · exact ih
theorem wkR_dead {T : Nat → Txt} {l m c : Nat} {who : Nat → Nat} {s : Nat → Int32} {k : Nat} (h : ¬ livS (wkR T l m who c s k) (nI l) = true) : ∀ j, wkR T l m who c s (k + j) = wkR T l m who c s k := by
  intro j
  induction j with
  | zero => rfl
  | succ j ih =>
    show (if livS (wkR T l m who c s (k + j)) (nI l) = true then _ else wkR T l m who c s (k + j)) = _
    rw [ih, if_neg h]
def dy1 (o : Nat) (M : MM) (s : Nat → Int32) : Dy := (s, mgI M o 27, mgI M o 28, mgI M o 29, ar o 19 M)
theorem dy1E {o : Nat} {M : MM} {s : Nat → Int32} (h : ar o 1 M = s) : dyE o M (dy1 o M s) := ⟨h, rfl, rfl, rfl, fun _ _ => rfl⟩
theorem w7_wb56 {o l m c k : Nat} {M : MM} {T : Nat → Txt} {s : Nat → Int32} {R : MM → Int32 → Prop} {X : MM → Prop} (hL : ML o M) (hT : TM o M T) (hl : l < 4) (hs : ar o 1 M = s) (h : ∀ M', gF o M M' → (∀ c, 20 ≤ c → c < 22 → ar o c M' = ar o c M) → ar o 2 M' = ar o 2 M → ar o 1 M' = dUp (dS s l (lessS T s l 0)) → R M' (nI (k + 1))) : wb_X7_wetBehind_56 M o (nI l) (nI m) (nI c) (nI k) R X := by
  unfold wb_X7_wetBehind_56
  refine w7_dries (s := dy1 o M s) hL hT (dy1E hs) hl (fun M2 hF2 hd2 => ?_)
  have hL2 : ML o M2 := ML_of hF2.e hL
  have ha2 : ar o 1 M2 = dS s l (lessS T s l 0) := hd2.1
  simp (disch := first | assumption | omega) only [mgR_sI, mgR_sL, mkd_sI, mkd_sL, mln_sI, mln_sL, Option.some.injEq, exists_eq_left', forall_eq, true_and, and_true, Nat.reduceLT, exists_eq_left, ML_r0, ML_k1, ML_l1, ML_r1, ML_k2, ML_l2, ML_r2, ML_k3, ML_l3, ML_r3, ML_k4, ML_l4, ML_r13, ML_k5, ML_l5, ML_r14, ML_k6, ML_l6, ML_r15, ML_k7, ML_l7, ML_r16, ML_k8, ML_l8, ML_r17, ML_k9, ML_l9, ML_r18, ML_k10, ML_l10, ML_r19, ML_k11, ML_l11, ML_r20, ML_k12, ML_l12, ML_r21, ML_k13, ML_l13, ML_r22, ML_k14, ML_l14, ML_r23, ML_k15, ML_l15, ML_r24, ML_k16, ML_l16, ML_r25, ML_k17, ML_l17, ML_r26, ML_k18, ML_l18, ML_r30, ML_k19, ML_l19, ML_r35, ML_k20, ML_l20, ML_r36, ML_k21, ML_l21, ML_r37, ML_k22, ML_l22, ML_r38, ML_k23, ML_l23, ML_r40, ML_k24, ML_l24, ML_r41, ML_k25, ML_l25, ML_r42, ML_k26, ML_l26, ML_r43, ML_k27, ML_l27, ML_r44, ML_k28, ML_l28, ML_r45, ML_k29, ML_l29, ML_r48, ML_k30, ML_l30, ML_r51, ML_k31, ML_l31, ML_r52, ML_k32, ML_l32, ap1, arE (o := o) (c := 1), ha2]
  refine h _ ((hF2.g (fun a k e => PD_PSc e)).s PSc1) (fun c h1 h2 => ?_) ?_ ?_
  · rw [ar_s, if_neg (by omega)]; exact funext fun k => hF2.2 _ _ (by unfold PD; omega)
  · rw [ar_s, if_neg (by omega)]; exact funext fun k => hF2.2 _ _ (by unfold PD; omega)
  · rw [ar_s, if_pos rfl, ha2]; rfl
theorem l7_wb14 {o l m c : Nat} {M0 : MM} {T : Nat → Txt} {s0 : Nat → Int32} {X : MM → Prop} (hL : ML o M0) (hT : TM o M0 T) (hl : l < 4) (hr : RuOk s0) (hml : m ≤ (flS s0 8).length) (hw : ∀ i, i < m → ar o 20 M0 i = nI (whoS s0 i)) (hc : c < 1000000) (hm : m < 1000)
    (h : ∀ M', gF o M0 M' → (∀ c, 20 ≤ c → c < 22 → ar o c M' = ar o c M0) → ar o 2 M' = ar o 2 M0 → ar o 1 M' = wkR T l m (whoS s0) c s0 7 → X M') : ∀ j k M, k + j = 7 → gF o M0 M → (∀ c, 20 ≤ c → c < 22 → ar o c M = ar o c M0) → ar o 2 M = ar o 2 M0 → ar o 1 M = wkR T l m (whoS s0) c s0 k → wl_X7_wetBehind_14 o (nI l) (nI m) (nI c) X (j + 1) M (nI k) := by
  have hlen := flS_len (s := s0) 8
  have hwl : ∀ d, d < m → whoS s0 d < 8 := fun d hd => flS_lt 8 d (by omega)
  intro j
  induction j with
  | zero =>
    intro k M hk hF h20 h2 hs
    unfold wl_X7_wetBehind_14
    rw [if_pos (show (7 : Int32) ≤ nI k from (show nI 7 ≤ nI k from nI_le (by omega) (by omega)))]
    exact h M hF h20 h2 (by rw [hs, show k = 7 by omega])
  | succ j ih =>
    intro k M hk hF h20 h2 hs
    have h1 : ML o M := ML_of hF.1 hL
    have ht1 : TM o M T := hT.of (fun c a b k => hF.2.1 _ _ (by unfold PSc; omega))
    have hn : nw o M = wkR T l m (whoS s0) c s0 k := hs
    unfold wl_X7_wetBehind_14
    rw [if_neg (show ¬ (7 : Int32) ≤ nI k from (show ¬ nI 7 ≤ nI k from nI_ge (by omega) (by omega))), w7_lives h1, hn]
    by_cases e : livS (wkR T l m (whoS s0) c s0 k) (nI l) = true
    · rw [if_pos e, if_neg n10]
      have hR : wkR T l m (whoS s0) c s0 (k + 1) = wkD T l m (whoS s0) (dgN m c k) (wkR T l m (whoS s0) c s0 k) := if_pos e
      have hru : RuOk (wkR T l m (whoS s0) c s0 k) := (wkR_perm hl hwl k).ru hr
      refine w7_comingIn hc hm (by omega) ?_
      have hdg : dgN m c k < m + 1 := Nat.mod_lt _ (by omega)
      by_cases e2 : dgN m c k < m
      · rw [if_neg (nI_ge e2 (by omega))]
        have hw1 : ar o 20 M (dgN m c k) = nI (whoS s0 (dgN m c k)) := by rw [h20 20 (by omega) (by omega)]; exact hw _ e2
        simp (disch := first | assumption | omega) only [mgR_sI, mgR_sL, mkd_sI, mkd_sL, mln_sI, mln_sL, Option.some.injEq, exists_eq_left', forall_eq, true_and, and_true, Nat.reduceLT, exists_eq_left, ML_r0, ML_k1, ML_l1, ML_r1, ML_k2, ML_l2, ML_r2, ML_k3, ML_l3, ML_r3, ML_k4, ML_l4, ML_r13, ML_k5, ML_l5, ML_r14, ML_k6, ML_l6, ML_r15, ML_k7, ML_l7, ML_r16, ML_k8, ML_l8, ML_r17, ML_k9, ML_l9, ML_r18, ML_k10, ML_l10, ML_r19, ML_k11, ML_l11, ML_r20, ML_k12, ML_l12, ML_r21, ML_k13, ML_l13, ML_r22, ML_k14, ML_l14, ML_r23, ML_k15, ML_l15, ML_r24, ML_k16, ML_l16, ML_r25, ML_k17, ML_l17, ML_r26, ML_k18, ML_l18, ML_r30, ML_k19, ML_l19, ML_r35, ML_k20, ML_l20, ML_r36, ML_k21, ML_l21, ML_r37, ML_k22, ML_l22, ML_r38, ML_k23, ML_l23, ML_r40, ML_k24, ML_l24, ML_r41, ML_k25, ML_l25, ML_r42, ML_k26, ML_l26, ML_r43, ML_k27, ML_l27, ML_r44, ML_k28, ML_l28, ML_r45, ML_k29, ML_l29, ML_r48, ML_k30, ML_l30, ML_r51, ML_k31, ML_l31, ML_r52, ML_k32, ML_l32, ia0, ia4, ia8, ia12, ia16, ia20, ia24, ia52, ia60, ia68, im7, im14, ap6, iaN, ap1, ixN, vpN, arE (o := o) (c := 20), hw1]
        refine w7_waters (s := dy1 o M (wkR T l m (whoS s0) c s0 k)) h1 ht1 (dy1E hs) hru (hwl _ e2) hl (fun M2 hF2 hd2 => ?_)
        have hg2 : gF o M M2 := hF2.g (fun a k e => PD_PSc e)
        refine w7_wb56 (s := watR (wkR T l m (whoS s0) c s0 k) (gvS T (wkR T l m (whoS s0) c s0 k) (whoS s0 (dgN m c k)) l) (whoS s0 (dgN m c k)) l) (ML_of hF2.e h1) (hF2.tm (fun c a b k => by simp [PD]; omega) ht1) hl hd2.1 (fun M3 hF3 h320 h32 hs3 => ?_)
        refine ih (k + 1) M3 (by omega) (hF.tr (hg2.tr hF3)) (fun c a b => ?_) ?_ ?_
        · rw [h320 c a b, ← h20 c a b]; exact funext fun k => hF2.2 _ _ (by unfold PD; omega)
        · rw [h32, ← h2]; exact funext fun k => hF2.2 _ _ (by unfold PD; omega)
        · rw [hs3, hR]; unfold wkD; simp only [if_pos e2]
      · rw [if_pos (nI_le (by omega) (by omega))]
        refine w7_wb56 h1 ht1 hl hs (fun M3 hF3 h320 h32 hs3 => ?_)
        refine ih (k + 1) M3 (by omega) (hF.tr hF3) (fun c a b => (h320 c a b).trans (h20 c a b)) (h32.trans h2) ?_
        rw [hs3, hR]; unfold wkD; simp only [if_neg e2]
    · rw [if_neg e, if_pos rfl]
      have hd := wkR_dead e (j + 1)
      rw [show k + (j + 1) = 7 by omega] at hd
      exact h M hF h20 h2 (by rw [hs, hd])
theorem w7_wetBehind {o l m c : Nat} {M : MM} {T : Nat → Txt} {s : Nat → Int32} {Post : Int32 → MM → Prop} (hL : ML o M) (hT : TM o M T) (hl : l < 4) (hs : ar o 1 M = s) (hr : RuOk s) (hml : m ≤ (flS s 8).length) (hw : ∀ i, i < m → ar o 20 M i = nI (whoS s i)) (hc : c < 1000000) (hm : m < 1000)
    (h : ∀ M', gF o M M' → ar o 20 M' = ar o 20 M → ar o 1 M' = s → Post (wbS T l m (whoS s) c s) M') : wp_X7_wetBehind M o (nI l) (nI m) (nI c) Post := by
  have hlen := flS_len (s := s) 8
  unfold wp_X7_wetBehind
  simp (disch := first | assumption | omega) only [mgR_sI, mgR_sL, mkd_sI, mkd_sL, mln_sI, mln_sL, Option.some.injEq, exists_eq_left', forall_eq, true_and, and_true, Nat.reduceLT, exists_eq_left, ML_r0, ML_k1, ML_l1, ML_r1, ML_k2, ML_l2, ML_r2, ML_k3, ML_l3, ML_r3, ML_k4, ML_l4, ML_r13, ML_k5, ML_l5, ML_r14, ML_k6, ML_l6, ML_r15, ML_k7, ML_l7, ML_r16, ML_k8, ML_l8, ML_r17, ML_k9, ML_l9, ML_r18, ML_k10, ML_l10, ML_r19, ML_k11, ML_l11, ML_r20, ML_k12, ML_l12, ML_r21, ML_k13, ML_l13, ML_r22, ML_k14, ML_l14, ML_r23, ML_k15, ML_l15, ML_r24, ML_k16, ML_l16, ML_r25, ML_k17, ML_l17, ML_r26, ML_k18, ML_l18, ML_r30, ML_k19, ML_l19, ML_r35, ML_k20, ML_l20, ML_r36, ML_k21, ML_l21, ML_r37, ML_k22, ML_l22, ML_r38, ML_k23, ML_l23, ML_r40, ML_k24, ML_l24, ML_r41, ML_k25, ML_l25, ML_r42, ML_k26, ML_l26, ML_r43, ML_k27, ML_l27, ML_r44, ML_k28, ML_l28, ML_r45, ML_k29, ML_l29, ML_r48, ML_k30, ML_l30, ML_r51, ML_k31, ML_l31, ML_r52, ML_k32, ML_l32]
  refine w7_copies (M0 := M) (s := s) (t := ar o 2 M) (ML_l1 hL) (ML_l2 hL) (by omega) fI.rf hs rfl (fun M1 hF1 hr1 hr2 => ?_)
  have hL1 : ML o M1 := ML_of hF1.e hL
  have h201 : ∀ c, 20 ≤ c → c < 22 → ar o c M1 = ar o c M := fun c a b => funext fun k => hF1.2 _ _ (by omega)
  refine ⟨8, l7_wb14 (M0 := M1) (s0 := s) (T := T) hL1 (hF1.tm (fun c a b k => by omega) hT) hl hr hml (fun i hi => by rw [h201 20 (by omega) (by omega)]; exact hw i hi) hc hm (fun M2 hF2 h20 h2 hs2 => ?_) 7 0 M1 (by omega) gF.rf (fun _ _ _ => rfl) rfl hr1⟩
  have hL2 : ML o M2 := ML_of hF2.1 hL1
  have hn2 : nw o M2 = wkR T l m (whoS s) c s 7 := hs2
  have bk : ∀ y, y = wbS T l m (whoS s) c s → wb_X7_wetBehind_104 M2 o y Post := by
    intro y hy
    show wb_X7_tried_173 M2 o y Post
    unfold wb_X7_tried_173
    simp (disch := first | assumption | omega) only [mgR_sI, mgR_sL, mkd_sI, mkd_sL, mln_sI, mln_sL, Option.some.injEq, exists_eq_left', forall_eq, true_and, and_true, Nat.reduceLT, exists_eq_left, ML_r0, ML_k1, ML_l1, ML_r1, ML_k2, ML_l2, ML_r2, ML_k3, ML_l3, ML_r3, ML_k4, ML_l4, ML_r13, ML_k5, ML_l5, ML_r14, ML_k6, ML_l6, ML_r15, ML_k7, ML_l7, ML_r16, ML_k8, ML_l8, ML_r17, ML_k9, ML_l9, ML_r18, ML_k10, ML_l10, ML_r19, ML_k11, ML_l11, ML_r20, ML_k12, ML_l12, ML_r21, ML_k13, ML_l13, ML_r22, ML_k14, ML_l14, ML_r23, ML_k15, ML_l15, ML_r24, ML_k16, ML_l16, ML_r25, ML_k17, ML_l17, ML_r26, ML_k18, ML_l18, ML_r30, ML_k19, ML_l19, ML_r35, ML_k20, ML_l20, ML_r36, ML_k21, ML_l21, ML_r37, ML_k22, ML_l22, ML_r38, ML_k23, ML_l23, ML_r40, ML_k24, ML_l24, ML_r41, ML_k25, ML_l25, ML_r42, ML_k26, ML_l26, ML_r43, ML_k27, ML_l27, ML_r44, ML_k28, ML_l28, ML_r45, ML_k29, ML_l29, ML_r48, ML_k30, ML_l30, ML_r51, ML_k31, ML_l31, ML_r52, ML_k32, ML_l32]
    refine w7_copies (M0 := M2) (s := cpS s (ar o 2 M)) (t := wkR T l m (whoS s) c s 7) (ML_l2 hL2) (ML_l1 hL2) (by omega) fI.rf (h2.trans hr2) hs2 (fun M' hF' _ hr' => ?_)
    rw [hy]
    refine h M' (hF1.g2.tr (hF2.tr hF'.g1)) ?_ ?_
    · refine (funext fun k => hF'.2 _ _ (by omega)).trans ((h20 20 (by omega) (by omega)).trans (h201 20 (by omega) (by omega)))
    · rw [hr']
      funext k
      unfold cpS
      by_cases e : k < 81
      · rw [if_pos e, if_pos e]
      · rw [if_neg e]; exact wkR_perm hl (fun d hd => flS_lt 8 d (by omega)) 7 k (by omega)
  unfold wb_X7_wetBehind_84
  rw [w7_lives hL2, hn2]
  unfold wbS at bk
  by_cases e : livS (wkR T l m (whoS s) c s 7) (nI l) = true
  · rw [if_pos e] at bk ⊢
    simp (disch := first | assumption | omega) only [n10, if_false, mgR_sI, mgR_sL, mkd_sI, mkd_sL, mln_sI, mln_sL, Option.some.injEq, exists_eq_left', forall_eq, true_and, and_true, Nat.reduceLT, exists_eq_left, ML_r0, ML_k1, ML_l1, ML_r1, ML_k2, ML_l2, ML_r2, ML_k3, ML_l3, ML_r3, ML_k4, ML_l4, ML_r13, ML_k5, ML_l5, ML_r14, ML_k6, ML_l6, ML_r15, ML_k7, ML_l7, ML_r16, ML_k8, ML_l8, ML_r17, ML_k9, ML_l9, ML_r18, ML_k10, ML_l10, ML_r19, ML_k11, ML_l11, ML_r20, ML_k12, ML_l12, ML_r21, ML_k13, ML_l13, ML_r22, ML_k14, ML_l14, ML_r23, ML_k15, ML_l15, ML_r24, ML_k16, ML_l16, ML_r25, ML_k17, ML_l17, ML_r26, ML_k18, ML_l18, ML_r30, ML_k19, ML_l19, ML_r35, ML_k20, ML_l20, ML_r36, ML_k21, ML_l21, ML_r37, ML_k22, ML_l22, ML_r38, ML_k23, ML_l23, ML_r40, ML_k24, ML_l24, ML_r41, ML_k25, ML_l25, ML_r42, ML_k26, ML_l26, ML_r43, ML_k27, ML_l27, ML_r44, ML_k28, ML_l28, ML_r45, ML_k29, ML_l29, ML_r48, ML_k30, ML_l30, ML_r51, ML_k31, ML_l31, ML_r52, ML_k32, ML_l32, ia0, ia4, ia8, ia12, ia16, ia20, ia24, ia52, ia60, ia68, im7, im14, ap6, iaN, ap1, ixN, vpN, arE (o := o) (c := 1), hs2]
    exact bk _ rfl
  · rw [if_neg e] at bk ⊢
    rw [if_pos rfl]
    exact bk _ rfl
