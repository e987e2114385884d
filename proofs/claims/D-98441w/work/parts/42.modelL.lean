/-! the model: a rota -/
set_option maxRecDepth 100000
/-- a day by a rota -/
def rgD (T : Nat → Txt) (l : Nat) (who : Int32) (s : Nat → Int32) : Nat → Int32 :=
  let s1 := if who = -1 then s else watR s (gvS T s (ix_ who) l) (ix_ who) l
  dUp (dS (lotS s1) l (lessS T (lotS s1) l (snS s1)))
def rgS (T : Nat → Txt) (l : Nat) (row : Nat → Int32) : Nat → Nat → (Nat → Int32) → Int32 → (Nat → Int32) × Int32
  | 0, _, s, d => (s, d)
  | j + 1, k, s, d => if livS s (nI l) = true then rgS T l row j (k + 1) (rgD T l (row k) s) (if livS (rgD T l (row k) s) (nI l) = true then d else nI k) else (s, d)
theorem livS_dUp {s : Nat → Int32} {x : Int32} : livS (dUp s) x = livS s x := by
  unfold livS isPl dUp
  rw [up_ne (by omega), up_ne (by omega)]
theorem rgD_perm {T : Nat → Txt} {l : Nat} {who : Int32} {s : Nat → Int32} (hl : l < 4) (hw : rvO who) : perm s (rgD T l who s) := by
  have h2 : ∀ s1 x, perm s s1 → perm s (dUp (dS (lotS s1) l x)) := fun s1 x h => ((h.up (k := 80) (by omega)).tr (dS_perm hl)).up (by omega)
  unfold rgD
  by_cases e : who = -1
  · simp only [if_pos e]; exact h2 s _ perm.rf
  · simp only [if_neg e]
    obtain ⟨p, hp, rfl⟩ := hw.resolve_left e
    rw [ixN (by omega)]
    exact h2 _ _ (watR_perm hp hl)
theorem w7_gb56 {o l k : Nat} {d : Int32} {M : MM} {T : Nat → Txt} {s : Nat → Int32} {R : MM → Int32 → Prop} {X : MM → Prop} (hL : ML o M) (hT : TM o M T) (hl : l < 4) (hs : ar o 1 M = s) (hd : mgI M o 49 = d) (h : ∀ M', fI (fun a k => PD o a k ∨ (a = o ∧ k = 49)) M M' → ar o 1 M' = dUp (dS (lotS s) l (lessS T (lotS s) l (snS s))) → mgI M' o 49 = (if livS (dUp (dS (lotS s) l (lessS T (lotS s) l (snS s)))) (nI l) = true then d else nI k) → R M' (nI (k + 1))) : wb_X7_goesByRota_56 M o (nI l) (nI k) R X := by
  have hn : nw o M = s := hs
  unfold wb_X7_goesByRota_56
  rw [w7_draws hL, hn]
  have ha1 : ar o 1 (msI M (o + 1) 80 (lotS s 80)) = lotS s := by
    rw [ar_s, if_pos rfl, hs]
    funext j
    unfold lotS up
    by_cases e : j = 80
    · rw [if_pos e, if_pos e]; simp
    · rw [if_neg e, if_neg e]
  have hF1 : fI (PD o) M (msI M (o + 1) 80 (lotS s 80)) := fI.rf.s (by simp [PD])
  have h49 : mgI (msI M (o + 1) 80 (lotS s 80)) o 49 = d := by rw [mgI_sI, if_neg (by omega)]; exact hd
  generalize msI M (o + 1) 80 (lotS s 80) = M1 at ha1 hF1 h49 ⊢
  have h1 : ML o M1 := ML_of hF1.e hL
  have fin : ∀ sn, sn = snS s → wb_X7_goesByRota_71 M1 o (nI l) (nI k) o (nI l) sn R X := by
    intro sn hsn
    unfold wb_X7_goesByRota_71
    refine w7_dries (s := dy1 o M1 (lotS s)) h1 (hF1.tm (fun c a b k => by simp [PD]; omega) hT) (dy1E ha1) hl (fun M2 hF2 hd2 => ?_)
    have h2 : ML o M2 := ML_of hF2.e h1
    have ha2 : ar o 1 M2 = dS (lotS s) l (lessS T (lotS s) l sn) := hd2.1
    have hn2 : nw o M2 = dS (lotS s) l (lessS T (lotS s) l sn) := hd2.1
    have h492 : mgI M2 o 49 = d := (hF2.2 _ _ (by simp [PD])).trans h49
    have hF02 : fI (fun a k => PD o a k ∨ (a = o ∧ k = 49)) M M2 := (hF1.tr hF2).mono (fun a k e => Or.inl e)
    rw [w7_lives h2, hn2]
    rw [livS_dUp, ← hsn] at h
    unfold wb_X7_goesByRota_87
    by_cases e : livS (dS (lotS s) l (lessS T (lotS s) l sn)) (nI l) = true
    · rw [if_pos e, if_neg n10]
      simp only [if_pos e] at h
      simp (disch := first | assumption | omega) only [mgR_sI, mgR_sL, mkd_sI, mkd_sL, mln_sI, mln_sL, Option.some.injEq, exists_eq_left', forall_eq, true_and, and_true, Nat.reduceLT, exists_eq_left, ML_r0, ML_k1, ML_l1, ML_r1, ML_k2, ML_l2, ML_r2, ML_k3, ML_l3, ML_r3, ML_k4, ML_l4, ML_r13, ML_k5, ML_l5, ML_r14, ML_k6, ML_l6, ML_r15, ML_k7, ML_l7, ML_r16, ML_k8, ML_l8, ML_r17, ML_k9, ML_l9, ML_r18, ML_k10, ML_l10, ML_r19, ML_k11, ML_l11, ML_r20, ML_k12, ML_l12, ML_r21, ML_k13, ML_l13, ML_r22, ML_k14, ML_l14, ML_r23, ML_k15, ML_l15, ML_r24, ML_k16, ML_l16, ML_r25, ML_k17, ML_l17, ML_r26, ML_k18, ML_l18, ML_r30, ML_k19, ML_l19, ML_r35, ML_k20, ML_l20, ML_r36, ML_k21, ML_l21, ML_r37, ML_k22, ML_l22, ML_r38, ML_k23, ML_l23, ML_r40, ML_k24, ML_l24, ML_r41, ML_k25, ML_l25, ML_r42, ML_k26, ML_l26, ML_r43, ML_k27, ML_l27, ML_r44, ML_k28, ML_l28, ML_r45, ML_k29, ML_l29, ML_r48, ML_k30, ML_l30, ML_r51, ML_k31, ML_l31, ML_r52, ML_k32, ML_l32, arE (o := o) (c := 1), ha2, ap1]
      refine h _ (hF02.s (by simp [PD])) ?_ ?_
      · rw [ar_s, if_pos rfl, ha2]; rfl
      · rw [mgI_sI, if_neg (by omega)]; exact h492
    · rw [if_neg e, if_pos rfl]
      simp only [if_neg e] at h
      simp (disch := first | assumption | omega) only [mgR_sI, mgR_sL, mkd_sI, mkd_sL, mln_sI, mln_sL, Option.some.injEq, exists_eq_left', forall_eq, true_and, and_true, Nat.reduceLT, exists_eq_left, ML_r0, ML_k1, ML_l1, ML_r1, ML_k2, ML_l2, ML_r2, ML_k3, ML_l3, ML_r3, ML_k4, ML_l4, ML_r13, ML_k5, ML_l5, ML_r14, ML_k6, ML_l6, ML_r15, ML_k7, ML_l7, ML_r16, ML_k8, ML_l8, ML_r17, ML_k9, ML_l9, ML_r18, ML_k10, ML_l10, ML_r19, ML_k11, ML_l11, ML_r20, ML_k12, ML_l12, ML_r21, ML_k13, ML_l13, ML_r22, ML_k14, ML_l14, ML_r23, ML_k15, ML_l15, ML_r24, ML_k16, ML_l16, ML_r25, ML_k17, ML_l17, ML_r26, ML_k18, ML_l18, ML_r30, ML_k19, ML_l19, ML_r35, ML_k20, ML_l20, ML_r36, ML_k21, ML_l21, ML_r37, ML_k22, ML_l22, ML_r38, ML_k23, ML_l23, ML_r40, ML_k24, ML_l24, ML_r41, ML_k25, ML_l25, ML_r42, ML_k26, ML_l26, ML_r43, ML_k27, ML_l27, ML_r44, ML_k28, ML_l28, ML_r45, ML_k29, ML_l29, ML_r48, ML_k30, ML_l30, ML_r51, ML_k31, ML_l31, ML_r52, ML_k32, ML_l32, arE (o := o) (c := 1), ar_0, ha2, ap1]
      refine h _ ((hF02.s (by simp)).s (by simp [PD])) ?_ ?_
      · rw [ar_s, if_pos rfl, ar_0 (by omega), ha2]; rfl
      · rw [mgI_sI, if_neg (by omega)]; exact fd_e
  by_cases e : 5 ≤ drwS s
  · rw [if_pos e]; exact fin 0 (by unfold snS; rw [if_pos e])
  · rw [if_neg e]; exact fin 1 (by unfold snS; rw [if_neg e])
theorem l7_gb19 {o l q : Nat} {M0 : MM} {T : Nat → Txt} {s0 : Nat → Int32} {row : Nat → Int32} {R : (Nat → Int32) × Int32} {X : MM → Prop} (hL : ML o M0) (hT : TM o M0 T) (hl : l < 4) (hr : RuOk s0) (hq : mgI M0 o 46 = nI q) (hq84 : q ≤ 84) (hrow : ∀ j, j < q → ar o 30 M0 j = row j) (hv : ∀ j, j < q → rvO (row j))
    (h : ∀ M', gF o M0 M' → ar o 2 M' = ar o 2 M0 → ar o 1 M' = R.1 → mgI M' o 49 = R.2 → perm s0 R.1 → X M') : ∀ j k M s d, k + j = q → fI (fun a k => PD o a k ∨ (a = o ∧ k = 49)) M0 M → ar o 1 M = s → mgI M o 49 = d → perm s0 s → rgS T l row j k s d = R → wl_X7_goesByRota_19 o (nI l) X (j + 1) M (nI k) := by
  have fg : ∀ M', fI (fun a k => PD o a k ∨ (a = o ∧ k = 49)) M0 M' → gF o M0 M' ∧ ar o 2 M' = ar o 2 M0 := fun M' hF => ⟨hF.g (fun a k e => by unfold PD at e; unfold PSc; omega), funext fun k => hF.2 _ _ (by simp [PD])⟩
  intro j
  induction j with
  | zero =>
    intro k M s d hk hF hs hd hp hR
    unfold wl_X7_goesByRota_19
    rw [hF.2 _ _ (by simp [PD]), hq, if_pos (nI_le (by omega) (by omega))]
    have hR' : (s, d) = R := hR
    subst hR'
    exact h M (fg M hF).1 (fg M hF).2 hs hd hp
  | succ j ih =>
    intro k M s d hk hF hs hd hp hR
    have h1 : ML o M := ML_of hF.e hL
    have ht1 : TM o M T := hF.tm (fun c a b k => by simp [PD]; omega) hT
    have hn : nw o M = s := hs
    have hw1 : ar o 30 M k = row k := (hF.2 _ _ (by simp [PD])).trans (hrow k (by omega))
    unfold wl_X7_goesByRota_19
    rw [hF.2 o 46 (by simp [PD]), hq, if_neg (nI_ge (by omega) (by omega)), w7_lives h1, hn]
    unfold rgS at hR
    by_cases e : livS s (nI l) = true
    · rw [if_pos e] at hR
      rw [if_pos e, if_neg n10]
      simp (disch := first | assumption | omega) only [mgR_sI, mgR_sL, mkd_sI, mkd_sL, mln_sI, mln_sL, Option.some.injEq, exists_eq_left', forall_eq, true_and, and_true, Nat.reduceLT, exists_eq_left, ML_r0, ML_k1, ML_l1, ML_r1, ML_k2, ML_l2, ML_r2, ML_k3, ML_l3, ML_r3, ML_k4, ML_l4, ML_r13, ML_k5, ML_l5, ML_r14, ML_k6, ML_l6, ML_r15, ML_k7, ML_l7, ML_r16, ML_k8, ML_l8, ML_r17, ML_k9, ML_l9, ML_r18, ML_k10, ML_l10, ML_r19, ML_k11, ML_l11, ML_r20, ML_k12, ML_l12, ML_r21, ML_k13, ML_l13, ML_r22, ML_k14, ML_l14, ML_r23, ML_k15, ML_l15, ML_r24, ML_k16, ML_l16, ML_r25, ML_k17, ML_l17, ML_r26, ML_k18, ML_l18, ML_r30, ML_k19, ML_l19, ML_r35, ML_k20, ML_l20, ML_r36, ML_k21, ML_l21, ML_r37, ML_k22, ML_l22, ML_r38, ML_k23, ML_l23, ML_r40, ML_k24, ML_l24, ML_r41, ML_k25, ML_l25, ML_r42, ML_k26, ML_l26, ML_r43, ML_k27, ML_l27, ML_r44, ML_k28, ML_l28, ML_r45, ML_k29, ML_l29, ML_r48, ML_k30, ML_l30, ML_r51, ML_k31, ML_l31, ML_r52, ML_k32, ML_l32, ia0, ia4, ia8, ia12, ia16, ia20, ia24, ia52, ia60, ia68, im7, im14, ap6, iaN, ap1, ixN, vpN, arE (o := o) (c := 30), hw1]
      by_cases e2 : row k = -1
      · rw [if_pos e2]
        have hD : rgD T l (row k) s = dUp (dS (lotS s) l (lessS T (lotS s) l (snS s))) := by unfold rgD; simp only [if_pos e2]
        refine w7_gb56 h1 ht1 hl hs hd (fun M2 hF2 hs2 hd2 => ?_)
        rw [← hD] at hs2 hd2
        exact ih (k + 1) M2 _ _ (by omega) (hF.tr hF2) hs2 hd2 (hp.tr (rgD_perm hl (hv k (by omega)))) hR
      · rw [if_neg e2]
        obtain ⟨p, hp8, hpe⟩ := (hv k (by omega)).resolve_left e2
        rw [hpe]
        refine w7_waters (s := dy1 o M s) h1 ht1 (dy1E hs) (hp.ru hr) hp8 hl (fun M2 hF2 hd2 => ?_)
        have hs2 : ar o 1 M2 = watR s (gvS T s p l) p l := hd2.1
        have hD : rgD T l (row k) s = dUp (dS (lotS (watR s (gvS T s p l) p l)) l (lessS T (lotS (watR s (gvS T s p l) p l)) l (snS (watR s (gvS T s p l) p l)))) := by unfold rgD; simp only [hpe, if_neg (nI_m1 (n := p) (by omega)), ixN (show p < 2147483648 by omega)]
        refine w7_gb56 (ML_of hF2.e h1) (hF2.tm (fun c a b k => by simp [PD]; omega) ht1) hl hs2 ((hF2.2 _ _ (by simp [PD])).trans hd) (fun M3 hF3 hs3 hd3 => ?_)
        rw [← hD] at hs3 hd3
        exact ih (k + 1) M3 _ _ (by omega) (hF.tr ((hF2.mono (fun a k e => Or.inl e)).tr hF3)) hs3 hd3 (hp.tr (rgD_perm hl (hv k (by omega)))) hR
    · rw [if_neg e] at hR
      rw [if_neg e, if_pos rfl]
      subst hR
      exact h M (fg M hF).1 (fg M hF).2 hs hd hp
theorem w7_goesByRota {o l q : Nat} {M : MM} {T : Nat → Txt} {s : Nat → Int32} {row : Nat → Int32} {Post : MM → Prop} (hL : ML o M) (hT : TM o M T) (hl : l < 4) (hr : RuOk s) (hs : ar o 1 M = s) (hq : mgI M o 46 = nI q) (hq84 : q ≤ 84) (hrow : ∀ j, j < q → ar o 30 M j = row j) (hv : ∀ j, j < q → rvO (row j))
    (h : ∀ M', gF o M M' → ar o 1 M' = s → mgI M' o 49 = (rgS T l row q 0 s (-2)).2 → mgI M' o 50 = (rgS T l row q 0 s (-2)).1 (4 + l) → Post M') : wp_X7_goesByRota M o (nI l) Post := by
  unfold wp_X7_goesByRota
  simp (disch := first | assumption | omega) only [mgR_sI, mgR_sL, mkd_sI, mkd_sL, mln_sI, mln_sL, Option.some.injEq, exists_eq_left', forall_eq, true_and, and_true, Nat.reduceLT, exists_eq_left, ML_r0, ML_k1, ML_l1, ML_r1, ML_k2, ML_l2, ML_r2, ML_k3, ML_l3, ML_r3, ML_k4, ML_l4, ML_r13, ML_k5, ML_l5, ML_r14, ML_k6, ML_l6, ML_r15, ML_k7, ML_l7, ML_r16, ML_k8, ML_l8, ML_r17, ML_k9, ML_l9, ML_r18, ML_k10, ML_l10, ML_r19, ML_k11, ML_l11, ML_r20, ML_k12, ML_l12, ML_r21, ML_k13, ML_l13, ML_r22, ML_k14, ML_l14, ML_r23, ML_k15, ML_l15, ML_r24, ML_k16, ML_l16, ML_r25, ML_k17, ML_l17, ML_r26, ML_k18, ML_l18, ML_r30, ML_k19, ML_l19, ML_r35, ML_k20, ML_l20, ML_r36, ML_k21, ML_l21, ML_r37, ML_k22, ML_l22, ML_r38, ML_k23, ML_l23, ML_r40, ML_k24, ML_l24, ML_r41, ML_k25, ML_l25, ML_r42, ML_k26, ML_l26, ML_r43, ML_k27, ML_l27, ML_r44, ML_k28, ML_l28, ML_r45, ML_k29, ML_l29, ML_r48, ML_k30, ML_l30, ML_r51, ML_k31, ML_l31, ML_r52, ML_k32, ML_l32]
  refine w7_copies (M0 := M) (s := s) (t := ar o 2 M) (ML_l1 hL) (ML_l2 hL) (by omega) fI.rf hs rfl (fun M1 hF1 hr1 hr2 => ?_)
  have hL1 : ML o M1 := ML_of hF1.e hL
  have hF01 : gF o M (msI M1 o 49 (-2)) := hF1.g2.s (by unfold PSc; omega)
  have hLa : ML o (msI M1 o 49 (-2)) := ML_of hF01.1 hL
  refine ⟨q + 1, l7_gb19 (M0 := msI M1 o 49 (-2)) (s0 := s) (T := T) (R := rgS T l row q 0 s (-2)) (row := row) hLa (hT.of (fun c a b k => hF01.2.1 _ _ (by unfold PSc; omega))) hl hr (by rw [fd_n (by omega), hF1.2 _ _ (by omega)]; exact hq) hq84 (fun j hj => by rw [ar_0 (by omega)]; exact (hF1.2 _ _ (by omega)).trans (hrow j hj)) hv (fun M2 hF2 h2 hs2 hd2 hp => ?_) q 0 _ s (-2) (by omega) fI.rf ((ar_0 (by omega)).trans hr1) fd_e perm.rf rfl⟩
  have hL2 : ML o M2 := ML_of hF2.1 hLa
  unfold wb_X7_goesByRota_109
  simp (disch := first | assumption | omega) only [mgR_sI, mgR_sL, mkd_sI, mkd_sL, mln_sI, mln_sL, Option.some.injEq, exists_eq_left', forall_eq, true_and, and_true, Nat.reduceLT, exists_eq_left, ML_r0, ML_k1, ML_l1, ML_r1, ML_k2, ML_l2, ML_r2, ML_k3, ML_l3, ML_r3, ML_k4, ML_l4, ML_r13, ML_k5, ML_l5, ML_r14, ML_k6, ML_l6, ML_r15, ML_k7, ML_l7, ML_r16, ML_k8, ML_l8, ML_r17, ML_k9, ML_l9, ML_r18, ML_k10, ML_l10, ML_r19, ML_k11, ML_l11, ML_r20, ML_k12, ML_l12, ML_r21, ML_k13, ML_l13, ML_r22, ML_k14, ML_l14, ML_r23, ML_k15, ML_l15, ML_r24, ML_k16, ML_l16, ML_r25, ML_k17, ML_l17, ML_r26, ML_k18, ML_l18, ML_r30, ML_k19, ML_l19, ML_r35, ML_k20, ML_l20, ML_r36, ML_k21, ML_l21, ML_r37, ML_k22, ML_l22, ML_r38, ML_k23, ML_l23, ML_r40, ML_k24, ML_l24, ML_r41, ML_k25, ML_l25, ML_r42, ML_k26, ML_l26, ML_r43, ML_k27, ML_l27, ML_r44, ML_k28, ML_l28, ML_r45, ML_k29, ML_l29, ML_r48, ML_k30, ML_l30, ML_r51, ML_k31, ML_l31, ML_r52, ML_k32, ML_l32, ia0, ia4, ia8, ia12, ia16, ia20, ia24, ia52, ia60, ia68, im7, im14, ap6, iaN, ap1, ixN, vpN, arE (o := o) (c := 1), hs2]
  refine w7_copies (M0 := msI M2 o 50 ((rgS T l row q 0 s (-2)).1 (4 + l))) (s := cpS s (ar o 2 M)) (t := (rgS T l row q 0 s (-2)).1) (ML_l2 (ML_of rfl hL2)) (ML_l1 (ML_of rfl hL2)) (by omega) fI.rf ?_ ?_ (fun M3 hF3 _ hr3 => ?_)
  · rw [ar_0 (by omega), h2, ar_0 (by omega)]; exact hr2
  · rw [ar_0 (by omega)]; exact hs2
  · refine h M3 (hF01.tr ((hF2.s (by unfold PSc; omega)).tr hF3.g1)) ?_ ?_ ?_
    · rw [hr3]
      funext k
      unfold cpS
      by_cases e : k < 81
      · rw [if_pos e, if_pos e]
      · rw [if_neg e]; exact hp k (by omega)
    · rw [hF3.2 _ _ (by omega), fd_n (by omega)]; exact hd2
    · rw [hF3.2 _ _ (by omega), fd_e]
/-- how many days of a rota are one's -/
def rcS (row : Nat → Int32) (x : Int32) : Nat → Int32
  | 0 => 0
  | k + 1 => rcS row x k + (if row k = x then 1 else 0)
def rtV (S : St) (x n w : Int32) : Bool := livS S.1 x && inS n 1 90 && (inS w 0 2 || inS w 10 17) && decide (¬ nI S.2.2.2.2.1 < n) && decide (S.1 79 ≤ 9915)
def rtR (S : St) (n : Nat) : Rs := rpS S.1 S.2.2.2.1 n 100 (rkS S.1 S.2.2.2.1 n 0 0 (fun _ => 0))
def rtS (S : St) (l n : Nat) (w : Int32) : Int32 := match rtR S n with
  | .inl e => erV e.1 e.2
  | .inr (_, q, row) => if w = 0 then nI q else if w < 10 then (if w = 1 then (rgS S.2.2.2.2.2 l row q 0 S.1 (-2)).2 else (rgS S.2.2.2.2.2 l row q 0 S.1 (-2)).1 (4 + l)) else rcS row (w - 10) q
theorem w7_ro38 {o l n : Nat} {M : MM} {S : St} {w : Int32} {Post : Int32 → MM → Prop} (hM : MR o M S) (hb : S.2.2.2.2.1 ≤ 220) (hr : RuOk S.1) (hl : l < 4) (hn : n ≤ 90)
    (h0 : ¬ (¬ nI S.2.2.2.2.1 < nI n ∧ S.1 79 ≤ 9915) → Post (-1) M) (h1 : (¬ nI S.2.2.2.2.1 < nI n ∧ S.1 79 ≤ 9915) → ∀ M', mFr o M M' → MR o M' (nt S) → Post (rtS S l n w) M') : wb_X7_rota_38 M o (nI l) (nI n) w Post := by
  obtain ⟨hL, m1, m2, m3, m4, m5, m6, m7⟩ := id hM
  unfold wb_X7_rota_38
  rw [m5]
  by_cases e1 : nI S.2.2.2.2.1 < nI n
  · rw [if_pos e1]; exact h0 (fun x => x.1 e1)
  rw [if_neg e1]
  simp (disch := first | assumption | omega) only [mgR_sI, mgR_sL, mkd_sI, mkd_sL, mln_sI, mln_sL, Option.some.injEq, exists_eq_left', forall_eq, true_and, and_true, Nat.reduceLT, exists_eq_left, ML_r0, ML_k1, ML_l1, ML_r1, ML_k2, ML_l2, ML_r2, ML_k3, ML_l3, ML_r3, ML_k4, ML_l4, ML_r13, ML_k5, ML_l5, ML_r14, ML_k6, ML_l6, ML_r15, ML_k7, ML_l7, ML_r16, ML_k8, ML_l8, ML_r17, ML_k9, ML_l9, ML_r18, ML_k10, ML_l10, ML_r19, ML_k11, ML_l11, ML_r20, ML_k12, ML_l12, ML_r21, ML_k13, ML_l13, ML_r22, ML_k14, ML_l14, ML_r23, ML_k15, ML_l15, ML_r24, ML_k16, ML_l16, ML_r25, ML_k17, ML_l17, ML_r26, ML_k18, ML_l18, ML_r30, ML_k19, ML_l19, ML_r35, ML_k20, ML_l20, ML_r36, ML_k21, ML_l21, ML_r37, ML_k22, ML_l22, ML_r38, ML_k23, ML_l23, ML_r40, ML_k24, ML_l24, ML_r41, ML_k25, ML_l25, ML_r42, ML_k26, ML_l26, ML_r43, ML_k27, ML_l27, ML_r44, ML_k28, ML_l28, ML_r45, ML_k29, ML_l29, ML_r48, ML_k30, ML_l30, ML_r51, ML_k31, ML_l31, ML_r52, ML_k32, ML_l32, arE (o := o) (c := 1), m1]
  by_cases e2 : S.1 79 ≤ 9915
  · rw [if_pos e2]
    have fin := h1 ⟨e1, e2⟩
    have hFa : fI (fun a k => rG o a k ∨ (a = o ∧ k = 6)) M (msI (msI (msI (msI M o 5 0) o 6 (nI n)) o 46 0) o 47 0) := (((fI.rf.s (by unfold rG; omega)).s (by omega)).s (by unfold rG; omega)).s (by unfold rG; omega)
    have f5 : mgI (msI (msI (msI (msI M o 5 0) o 6 (nI n)) o 46 0) o 47 0) o 5 = nI 0 := by rw [fd_n (by omega), fd_n (by omega), fd_n (by omega), fd_e]; rfl
    have f6 : mgI (msI (msI (msI (msI M o 5 0) o 6 (nI n)) o 46 0) o 47 0) o 6 = nI n := by rw [fd_n (by omega), fd_n (by omega), fd_e]
    have f46 : mgI (msI (msI (msI (msI M o 5 0) o 6 (nI n)) o 46 0) o 47 0) o 46 = nI 0 := by rw [fd_n (by omega), fd_e]; rfl
    have f47 : mgI (msI (msI (msI (msI M o 5 0) o 6 (nI n)) o 46 0) o 47 0) o 47 = nI 0 := by rw [fd_e]; rfl
    generalize msI (msI (msI (msI M o 5 0) o 6 (nI n)) o 46 0) o 47 0 = Ma at hFa f5 f6 f46 f47 ⊢
    have gG : ∀ M', fI (rG o) Ma M' → gF o M M' := fun M' hF => (hFa.tr (hF.mono (fun a k e => Or.inl e))).g (fun a k e => by unfold rG at e; unfold PSc; omega)
    have hsa : ar o 1 Ma = S.1 := (funext fun k => hFa.2 _ _ (by unfold rG; omega)).trans m1
    have hta : ar o 4 Ma = S.2.2.2.1 := (funext fun k => hFa.2 _ _ (by unfold rG; omega)).trans m4
    have hLa : ML o Ma := ML_of hFa.e hL
    have mg : ∀ M', fI (rG o) Ma M' → MR o M' S := fun M' hF => hM.g (gG M' hF) ((funext fun k => hF.2 _ _ (by unfold rG; omega)).trans hsa)
    unfold rtS rtR at fin
    have bad : ∀ e M', fI (rG o) Ma M' → rpS S.1 S.2.2.2.1 n 100 (rkS S.1 S.2.2.2.1 n 0 0 (fun _ => 0)) = .inl e → mgI M' o 7 = erV e.1 e.2 → wb_X7_rota_129 M' o (nI l) w 0 Post := by
      intro e M' hF he h7
      rw [he] at fin
      unfold wb_X7_rota_129
      simp only [forall_eq]
      rw [if_pos True.intro, fd_n (by omega), h7]
      have hz := (mg M' hF).n0
      exact fin _ ((gG M' hF).m.tr hz.2) hz.1
    refine w7_readsWeek (M := Ma) (s := S.1) (t := S.2.2.2.1) (row := fun _ => 0) (n := n) (p := 0) (q := 0) (w := 0) hLa hsa hta f6 (by omega) (by omega) f5 f46 (fun j hj => by omega) f47 rfl (by omega) (fun j hj => by omega) (fun e M2 hF2 hE h7 => ?_) (fun p' q' row' M2 hE hF2 hp2 hq2 hr2 hw2 => ?_)
    · refine ⟨1, ?_⟩
      unfold wl_X7_rota_87
      rw [if_pos rfl]
      exact bad e M2 hF2 (by rw [hE]; rfl) h7
    · obtain ⟨k1, k2, k3, k4, k5⟩ := rkS_ok (by omega) hE (fun j hj => by omega)
      refine ⟨101, l7_ro87 (M0 := Ma) (s := S.1) (t := S.2.2.2.1) (n := n) (R := rpS S.1 S.2.2.2.1 n 100 (rkS S.1 S.2.2.2.1 n 0 0 (fun _ => 0))) hLa hsa hta f6 (by omega) (fun e M3 hF3 hE3 h7 => bad e M3 hF3 hE3 h7) (fun p3 q3 row3 M3 hE3 hF3 hq3 hq84 hr3 hv3 => ?_) 100 p' q' 1 row' M2 (by omega) k2 hF2 hp2 hq2 hr2 hw2 (by omega) (by omega) k4 (by rw [hE])⟩
      rw [hE3] at fin
      dsimp only at fin
      have hz := (mg M3 hF3).n0
      have hfr := (gG M3 hF3).m.tr hz.2
      have h46 : mgI (msI M3 o 4 0) o 46 = nI q3 := (fd_n (by omega)).trans hq3
      have h30 : ∀ j, j < q3 → ar o 30 (msI M3 o 4 0) j = row3 j := fun j hj => by rw [ar_0 (by omega)]; exact hr3 j hj
      unfold wb_X7_rota_129
      simp only [forall_eq]
      rw [if_neg n10, h46]
      generalize msI M3 o 4 0 = M4 at hz hfr h46 h30 ⊢
      by_cases c0 : w = 0
      · rw [if_pos c0] at fin ⊢; exact fin _ hfr hz.1
      rw [if_neg c0] at fin ⊢
      by_cases c1 : w < 10
      · rw [if_pos c1] at fin ⊢
        refine w7_goesByRota hz.1.1 hz.1.2.2.2.2.2.2.2 hl hr hz.1.2.1 h46 hq84 h30 hv3 (fun M5 hF5 hs5 h49 h50 => ?_)
        have hM5 : MR o M5 (nt S) := hz.1.g hF5 hs5
        have fin5 := fin M5 (hfr.tr hF5.m) hM5
        rw [h49, h50]
        by_cases c2 : w = 1
        · rw [if_pos c2] at fin5 ⊢; exact fin5
        · rw [if_neg c2] at fin5 ⊢; exact fin5
      · rw [if_neg c1] at fin ⊢
        have hL4 : ML o M4 := hz.1.1
        have key : ∀ (X : MM → Int32 → Prop) j k, k + j = q3 → X M4 (rcS row3 (w - 10) q3) → wl_X7_rota_165 o w X (j + 1) M4 (rcS row3 (w - 10) k) (nI k) := by
          intro X j
          induction j with
          | zero =>
            intro k hk hX
            unfold wl_X7_rota_165
            rw [h46, if_pos (nI_le (by omega) (by omega)), show k = q3 by omega]
            exact hX
          | succ j ih =>
            intro k hk hX
            have hv := h30 k (by omega)
            unfold wl_X7_rota_165
            rw [h46, if_neg (nI_ge (by omega) (by omega))]
            simp (disch := first | assumption | omega) only [mgR_sI, mgR_sL, mkd_sI, mkd_sL, mln_sI, mln_sL, Option.some.injEq, exists_eq_left', forall_eq, true_and, and_true, Nat.reduceLT, exists_eq_left, ML_r0, ML_k1, ML_l1, ML_r1, ML_k2, ML_l2, ML_r2, ML_k3, ML_l3, ML_r3, ML_k4, ML_l4, ML_r13, ML_k5, ML_l5, ML_r14, ML_k6, ML_l6, ML_r15, ML_k7, ML_l7, ML_r16, ML_k8, ML_l8, ML_r17, ML_k9, ML_l9, ML_r18, ML_k10, ML_l10, ML_r19, ML_k11, ML_l11, ML_r20, ML_k12, ML_l12, ML_r21, ML_k13, ML_l13, ML_r22, ML_k14, ML_l14, ML_r23, ML_k15, ML_l15, ML_r24, ML_k16, ML_l16, ML_r25, ML_k17, ML_l17, ML_r26, ML_k18, ML_l18, ML_r30, ML_k19, ML_l19, ML_r35, ML_k20, ML_l20, ML_r36, ML_k21, ML_l21, ML_r37, ML_k22, ML_l22, ML_r38, ML_k23, ML_l23, ML_r40, ML_k24, ML_l24, ML_r41, ML_k25, ML_l25, ML_r42, ML_k26, ML_l26, ML_r43, ML_k27, ML_l27, ML_r44, ML_k28, ML_l28, ML_r45, ML_k29, ML_l29, ML_r48, ML_k30, ML_l30, ML_r51, ML_k31, ML_l31, ML_r52, ML_k32, ML_l32, ia0, ia4, ia8, ia12, ia16, ia20, ia24, ia52, ia60, ia68, im7, im14, ap6, iaN, ap1, ixN, vpN, arE (o := o) (c := 30), hv]
            have ih2 := ih (k + 1) (by omega) hX
            unfold rcS at ih2
            by_cases e : row3 k = w - 10
            · rw [if_pos e] at ih2 ⊢; exact ih2
            · rw [if_neg e] at ih2 ⊢; exact ih2
        exact ⟨_, key _ q3 0 (by omega) (fin _ hfr hz.1)⟩
  · rw [if_neg e2]; exact h0 (fun x => e2 x.2)
theorem M_rota {o : Nat} {M : MM} {S : St} {x n w : Int32} {Post : Int32 → MM → Prop} (hM : MR o M S) (hb : S.2.2.2.2.1 ≤ 220) (hr : RuOk S.1) (h0 : rtV S x n w = false → Post (-1) M)
    (h1 : ∀ l n', l < 4 → n' ≤ 90 → x = nI l → n = nI n' → rtV S x n w = true → ∀ M', mFr o M M' → MR o M' (nt S) → Post (rtS S l n' w) M') : wp_X7_rota M o x n w Post := by
  have hs' : nw o M = S.1 := hM.2.1
  unfold wp_X7_rota
  rw [w7_lives hM.1, hs']
  unfold rtV at h0 h1
  by_cases e1 : livS S.1 x = true
  · rw [if_pos e1, if_neg n10, w7_in]
    by_cases e2 : inS n 1 90 = true
    · rw [if_pos e2, if_neg n10, w7_in]
      obtain ⟨l, hl, rfl⟩ := isPl_n (livS_pl e1)
      obtain ⟨n', hn1, hn2, rfl⟩ := inS_ab (a := 1) (b := 90) (by omega) (by omega) e2
      have go : (inS w 0 2 || inS w 10 17) = true → wb_X7_rota_38 M o (nI l) (nI n') w Post := fun hw => w7_ro38 hM hb hr hl hn2
        (fun hx => h0 (by
          by_cases c1 : nI S.2.2.2.2.1 < nI n'
          · simp [c1]
          · have : ¬ S.1 79 ≤ 9915 := fun c2 => hx ⟨c1, c2⟩
            simp [this]))
        (fun hx => h1 l n' hl hn2 rfl rfl (by rw [hw]; simp [e1, e2, hx.1, hx.2]))
      by_cases e3 : inS w 0 2 = true
      · rw [if_pos e3, if_neg n10]; exact go (by simp [e3])
      · rw [if_neg e3, if_pos rfl, w7_in]
        by_cases e4 : inS w 10 17 = true
        · rw [if_pos e4, if_neg n10]; exact go (by simp [e4])
        · rw [if_neg e4, if_pos rfl]; exact h0 (by simp [e3, e4])
    · rw [if_neg e2, if_pos rfl]; exact h0 (by simp [e2])
  · rw [if_neg e1, if_pos rfl]; exact h0 (by simp [e1])
