/-! the component: how long it lasts, what it needs -/
set_option maxRecDepth 100000
theorem w2_tells9 {o l : Nat} {M : MM} {T : Nat → Txt} {s : Nat → Int32} {Post : Int32 → MM → Prop} (hO : OU o M) (hT : CT o M T) (hf : MoE M (o + 1) (fcP s l)) (hP : ∀ M', fI (oM o) M M' → Post (lessS T s l 0) M') : wp_X2_tells M (o + 1) 101 9 Post := by
  refine w2_tells hO hT hf (by decide) (fun M' hF _ => ?_)
  have := hP M' hF
  unfold lessS at this
  rw [if_pos rfl] at this
  exact this
theorem l0_lasts {o l : Nat} {M0 : MM} {T : Nat → Txt} {s0 : Nat → Int32} {X : MM → Int32 → Prop} (hC : LC o (o + 21) M0 T s0) (hr2 : mgR M0 o 2 = some (o + 21)) (hl : l < 4) : ∀ j d M s e, d + j = 60 → fI (lM o (o + 21)) M0 M → LdR M (o + 21) s → RowOk s → s 79 = nI e → livS s (nI l) = true → (∀ M', fI (lM o (o + 21)) M0 M' → X M' (laS T l j d s)) → wl_X0_lastsWith_31 o (nI l) (o + 21 + 3 + 2 * l) X (j + 1) M (nI d) := by
  intro j
  induction j with
  | zero =>
    intro d M s e hd hF hR hK he hv h
    unfold wl_X0_lastsWith_31
    rw [if_pos (show (60 : Int32) ≤ nI d from (show nI 60 ≤ nI d from nI_le (by omega) (by omega)))]
    exact h M hF
  | succ j ih =>
    intro d M s e hd hF hR hK he hv h
    have hp := livS_pl hv
    have hC1 : LC o (o + 21) M T s := hC.f aOk21 hF hR
    have hT1 := (hR.pl hl hp).2
    have hnd : plD s l = false := by
      have := livS_iff hK hl hp
      rw [hv] at this
      simpa using this.symm
    have n60 : ¬ (60 : Int32) ≤ nI d := (show ¬ nI 60 ≤ nI d from nI_ge (by omega) (by omega))
    unfold wl_X0_lastsWith_31
    rw [if_neg n60, w4_isDead hT1, if_neg (by rw [hnd]; decide), if_pos rfl]
    refine ⟨o + 21, (hF.R _ _).trans hr2, LA_k hC1.1, ?_⟩
    refine w3_at hC1.1 hC1.2.1 hC1.2.2.1 (by omega) hl hR hp (fun M1 hF1 hE1 => ?_)
    have hF01 := hF.tr (oM_lM (a := o + 21) hF1)
    have hC2 := hC1.o aOk21 hF1
    refine ⟨o + 1, rfl, OU_k1 hC2.2.1, ?_⟩
    refine w2_tells9 hC2.2.1 hC2.2.2.2.1 hE1 (fun M2 hF2 => ?_)
    have hF02 := hF01.tr (oM_lM (a := o + 21) hF2)
    have hC3 := hC2.o aOk21 hF2
    refine w4_dayEnds hC3.1 hC3.2.2.2.2 hl hp (fun M3 hF3 hR3 => ?_)
    have hF03 : fI (lM o (o + 21)) M0 M3 := hF02.tr (hF3.mono (fun x k e => by unfold plM at e; unfold lM; omega))
    have hA3 : LA (o + 21) M3 := LA_of hF3.e hC3.1
    refine ⟨o + 21, (hF03.R _ _).trans hr2, LA_k hA3, ?_⟩
    have hK3 : RowOk (dS s l (lessS T s l 0)) := dsL_ok hK hl hv
    have h79 : dS s l (lessS T s l 0) 79 = nI e := (dS_ne (by omega) (by omega) (by omega) (by omega) (by omega)).trans he
    have h76 : dS s l (lessS T s l 0) 76 = s 76 := dS_ne (by omega) (by omega) (by omega) (by omega) (by omega)
    unfold laS at h
    generalize dS s l (lessS T s l 0) = s3 at hR3 hK3 h79 h76 h
    intro M4 hM4
    have hF34 : fI (fun x k => x = o + 21 ∧ k = 2) M3 M4 := by rw [hM4]; exact fI.rf.s ⟨rfl, rfl⟩
    have hF04 : fI (lM o (o + 21)) M0 M4 := hF03.tr (hF34.mono (fun x k e => by unfold lM; omega))
    have hR4 : LdR M4 (o + 21) (up s3 79 (s3 79 + 1)) := by
      refine ⟨fun l2 hl2 => ?_, fun p hp => ?_, ?_, ?_⟩
      · exact ((hR3.1 l2 hl2).e (fun k => hF34.2 _ _ (by omega)) (fun k => hF34.2 _ _ (by omega))).se hl2 (fun k hk => up_ne (by omega))
      · exact ((hR3.2.1 p hp).e (fun k => hF34.2 _ _ (by omega))).se (fun k hk => up_ne (by omega))
      · rw [hM4, fd_e, up_eq, hR3.2.2.1]
      · rw [up_ne (by omega)]; exact (hF34.2 _ _ (by omega)).trans hR3.2.2.2
    have hK4 : RowOk (up s3 79 (s3 79 + 1)) := hK3.se (fun k hk => up_ne (by omega))
    have hp4 : isPl (up s3 79 (s3 79 + 1)) (nI l) = true := by
      unfold isPl at hp ⊢
      rw [up_ne (by omega), h76]; exact hp
    have hv4 : livS (up s3 79 (s3 79 + 1)) (nI l) = livS s3 (nI l) := by
      unfold livS isPl
      rw [up_ne (by omega), up_ne (by omega)]
    have hlv4 := livS_iff hK4 hl hp4
    have hT4 := (hR4.pl hl hp4).2
    have he4 : up s3 79 (s3 79 + 1) 79 = nI (e + 1) := by rw [up_eq, h79, ap1]
    rw [w4_isDead hT4]
    generalize up s3 79 (s3 79 + 1) = s4 at hR4 hK4 hp4 hv4 hlv4 hT4 he4 h
    by_cases ed : livS s3 (nI l) = true
    · rw [if_pos ed] at h
      have hn4 : plD s4 l = false := by
        rw [hlv4, ed] at hv4
        simpa using hv4
      rw [if_neg (by rw [hn4]; decide), if_pos rfl]
      simp only [forall_eq, ap1]
      exact ih (d + 1) M4 s4 (e + 1) (by omega) hF04 hR4 hK4 he4 (by rw [hv4]; exact ed) h
    · rw [if_neg ed] at h
      have hn4 : plD s4 l = true := by
        rw [hlv4, show livS s3 (nI l) = false by simpa using ed] at hv4
        simpa using hv4
      rw [if_pos hn4, if_neg n10]
      simp only [forall_eq, Int32.add_zero]
      unfold wl_X0_lastsWith_31
      rw [if_neg n60, w4_isDead hT4, if_pos hn4, if_neg n10]
      exact h M4 hF04
theorem w0_lastsWith {o l c : Nat} {M : MM} {S : St} {Post : Int32 → MM → Prop} (hC : CR o M S) (hS : SOk S) (hl : l < 4) (hc : c ≤ 24) (hv : livS S.1 (nI l) = true) (h : ∀ M', cG o M M' → CR o M' S → Post (lwS S.2.2.2.2.2 S.1 l (nI c)) M') : wp_X0_lastsWith M o (nI l) (nI c) Post := by
  have hL := hC.1
  have hA := CL_A2 hL
  have hB := CL_A21 hL
  have hO := hC.2.1
  have hT := hC.2.2.1
  have hR := hC.2.2.2.1
  have hp := livS_pl hv
  obtain ⟨k1, k2, ⟨d, k3, k4⟩, k5⟩ := id hS
  unfold wp_X0_lastsWith
  refine ⟨o + 21, CL_r2 hL, LA_k hB, o + 2, CL_r1 hL, LA_k hA, ?_⟩
  refine w3_takes hB hA (Or.inr (by omega)) hR (fun M1 hF1 hR1 => ?_)
  have hL1 : CL o M1 := CL_of hF1.e hL
  have hB1 := CL_A21 hL1
  refine ⟨o + 21, rfl, LA_k hB1, o + 21, CL_r2 hL1, LA_k hB1, o + 21 + 1, LA_r0 hB1, LA_k1 hB1, ?_, o + 21 + 3 + 2 * l, ?_, LA_pk hB1 hl, ?_⟩
  · simp (disch := first | assumption | omega) only [mgR_sI, mgR_sL, mkd_sI, mkd_sL, mln_sI, mln_sL, Option.some.injEq, exists_eq_left', forall_eq, true_and, and_true, Nat.reduceLT, exists_eq_left, LA_k, LA_r0, LA_k1, LA_l1, LA_r1, LA_k2, LA_l2, LA_pl, LA_pk, LA_lr, LA_lk, LA_ll, LA_er, LA_ek, OU_k, OU_r0, OU_k1, OU_r13, OU_r5, OU_k60, OU_l60, ia0, ia4, ia8, ia12, ia16, ia20, ia24, ia52, ia60, ia68, im7, im14, ap6, iaN, ap1, ixN, vpN]
  · simp (disch := first | assumption | omega) only [mgR_sI, mgR_sL, mkd_sI, mkd_sL, mln_sI, mln_sL, Option.some.injEq, exists_eq_left', forall_eq, true_and, and_true, Nat.reduceLT, exists_eq_left, LA_k, LA_r0, LA_k1, LA_l1, LA_r1, LA_k2, LA_l2, LA_pl, LA_pk, LA_lr, LA_lk, LA_ll, LA_er, LA_ek, OU_k, OU_r0, OU_k1, OU_r13, OU_r5, OU_k60, OU_l60, ia0, ia4, ia8, ia12, ia16, ia20, ia24, ia52, ia60, ia68, im7, im14, ap6, iaN, ap1, ixN, vpN]
  have hLC : LC o (o + 21) M1 S.2.2.2.2.2 S.1 := ⟨hB1, OU_of hF1.e hO, CL_t21 hL1, hT.g hF1.e (fun a k hx => hF1.2 _ _ (by unfold Prt at hx; unfold ldM; omega)), hR1⟩
  refine w4_gets (hR1.pl hl hp).2 (k1.td hl hp) rfl hc (fun b => ?_)
  have hR2 := hR1.wet (v := mi_ (S.1 l) (S.1 (4 + l) + nI c)) hl hp
  have hF2 : fI (lM o (o + 21)) M1 (msI M1 (o + 21 + 3 + 2 * l) 2 (mi_ (S.1 l) (S.1 (4 + l) + nI c))) := fI.rf.s (by unfold lM; omega)
  have hK2 := up_wet_ok k1 hl hp hc
  have hv2 : livS (up S.1 (4 + l) (mi_ (S.1 l) (S.1 (4 + l) + nI c))) (nI l) = true := by
    unfold livS isPl at hv ⊢
    rw [up_ne (by omega), up_ne (by omega)]; exact hv
  have h79 : up S.1 (4 + l) (mi_ (S.1 l) (S.1 (4 + l) + nI c)) 79 = nI d := (up_ne (by omega)).trans k4
  refine ⟨61, l0_lasts hLC (CL_r2 hL1) hl 60 0 _ _ d (by omega) hF2 hR2 hK2 h79 hv2 (fun M' hF' => ?_)⟩
  have hG : cG o M M' := cG.tr (hF1.cg (fun a k e => by unfold ldM at e; unfold cF; omega)) (hF'.cg (fun a k e => lM_cF (Or.inr (Or.inl rfl)) e))
  exact h M' hG (hC.g (s' := S.1) hG (hR.g (fun b k e1 e2 => (hF'.2 _ _ (by unfold lM; omega)).trans (hF1.2 _ _ (by unfold ldM; omega)))))
theorem C_lasts {o : Nat} {M : MM} {S : St} {x c : Int32} {Post : Int32 → MM → Prop} (hC : CR o M S) (hS : SOk S) (h0 : (livS S.1 x && inS c 0 24) = false → Post (-1) M) (h1 : ∀ l, l < 4 → x = nI l → (livS S.1 x && inS c 0 24) = true → ∀ M', kX o M M' → CR o M' S → Post (lwS S.2.2.2.2.2 S.1 l c) M') : wp_X0_lasts M o x c Post := by
  have hL := hC.1
  have hA := CL_A2 hL
  have hR := hC.2.2.2.1
  unfold wp_X0_lasts
  rw [w0_isPlant hL hR]
  by_cases e1 : isPl S.1 x = true
  · rw [if_pos e1, if_neg n10]
    obtain ⟨l, hl, rfl⟩ := isPl_n e1
    have hlv := livS_iff hS.1 hl e1
    refine ⟨o + 2, CL_r1 hL, LA_k hA, o + 2 + 1, LA_r0 hA, LA_k1 hA, ?_, o + 2 + 3 + 2 * l, ?_, LA_pk hA hl, ?_⟩
    · simp (disch := first | assumption | omega) only [mgR_sI, mgR_sL, mkd_sI, mkd_sL, mln_sI, mln_sL, Option.some.injEq, exists_eq_left', forall_eq, true_and, and_true, Nat.reduceLT, exists_eq_left, LA_k, LA_r0, LA_k1, LA_l1, LA_r1, LA_k2, LA_l2, LA_pl, LA_pk, LA_lr, LA_lk, LA_ll, LA_er, LA_ek, OU_k, OU_r0, OU_k1, OU_r13, OU_r5, OU_k60, OU_l60, ia0, ia4, ia8, ia12, ia16, ia20, ia24, ia52, ia60, ia68, im7, im14, ap6, iaN, ap1, ixN, vpN]
    · simp (disch := first | assumption | omega) only [mgR_sI, mgR_sL, mkd_sI, mkd_sL, mln_sI, mln_sL, Option.some.injEq, exists_eq_left', forall_eq, true_and, and_true, Nat.reduceLT, exists_eq_left, LA_k, LA_r0, LA_k1, LA_l1, LA_r1, LA_k2, LA_l2, LA_pl, LA_pk, LA_lr, LA_lk, LA_ll, LA_er, LA_ek, OU_k, OU_r0, OU_k1, OU_r13, OU_r5, OU_k60, OU_l60, ia0, ia4, ia8, ia12, ia16, ia20, ia24, ia52, ia60, ia68, im7, im14, ap6, iaN, ap1, ixN, vpN]
    rw [w4_isDead (hR.pl hl e1).2]
    by_cases e2 : plD S.1 l = true
    · rw [if_pos e2, if_neg n10]; exact h0 (by rw [hlv, e2]; rfl)
    · have hv : livS S.1 (nI l) = true := by rw [hlv]; simpa using e2
      rw [if_neg e2, if_pos rfl, w0_within]
      by_cases e3 : inS c 0 24 = true
      · rw [if_pos e3, if_neg n10]
        obtain ⟨c', hc', rfl⟩ := inS_n (n := 24) (by omega) e3
        exact w0_lastsWith hC hS hl hc' hv (fun M' hG hC' => h1 l hl rfl (by rw [hv, e3]; rfl) M' hG.x hC')
      · rw [if_neg e3, if_pos rfl]; exact h0 (by simp [e3])
  · rw [if_neg e1, if_pos rfl]; exact h0 (by unfold livS; simp [e1])
theorem l0_needs {o l : Nat} {M0 : MM} {S : St} {days : Int32} {Post : Int32 → MM → Prop} (hC : CR o M0 S) (hS : SOk S) (hl : l < 4) (hv : livS S.1 (nI l) = true) : ∀ j c M, c + j = 25 → cG o M0 M → CR o M S → (∀ M', cG o M0 M' → CR o M' S → Post (neS S.2.2.2.2.2 S.1 l days j c) M') → wl_X0_needs_37 o (nI l) days (fun M_17 x3_19 => Post x3_19 M_17) (fun M_20 => Post (-2 : Int32) M_20) (j + 1) M (nI c) := by
  intro j
  induction j with
  | zero =>
    intro c M hc hG hC1 h
    unfold wl_X0_needs_37
    rw [if_pos (show (24 : Int32) < nI c from (show nI 24 < nI c from nI_lt (by omega) (by omega)))]
    exact h M hG hC1
  | succ j ih =>
    intro c M hc hG hC1 h
    unfold wl_X0_needs_37
    rw [if_neg (show ¬ (24 : Int32) < nI c from (show ¬ nI 24 < nI c from nI_nlt (by omega) (by omega)))]
    refine w0_lastsWith hC1 hS hl (by omega) hv (fun M2 hG2 hC2 => ?_)
    unfold neS at h
    by_cases e : lwS S.2.2.2.2.2 S.1 l (nI c) < days
    · rw [if_pos e] at h ⊢
      simp only [forall_eq, ap1]
      exact ih (c + 1) M2 (by omega) (hG.tr hG2) hC2 h
    · rw [if_neg e] at h ⊢
      exact h M2 (hG.tr hG2) hC2
theorem C_needs {o : Nat} {M : MM} {S : St} {x c : Int32} {Post : Int32 → MM → Prop} (hC : CR o M S) (hS : SOk S) (h0 : (livS S.1 x && inS c 1 60) = false → Post (-1) M) (h1 : ∀ l, l < 4 → x = nI l → (livS S.1 x && inS c 1 60) = true → ∀ M', kX o M M' → CR o M' S → Post (neS S.2.2.2.2.2 S.1 l c 25 0) M') : wp_X0_needs M o x c Post := by
  have hL := hC.1
  have hA := CL_A2 hL
  have hR := hC.2.2.2.1
  unfold wp_X0_needs
  rw [w0_isPlant hL hR]
  by_cases e1 : isPl S.1 x = true
  · rw [if_pos e1, if_neg n10]
    obtain ⟨l, hl, rfl⟩ := isPl_n e1
    have hlv := livS_iff hS.1 hl e1
    refine ⟨o + 2, CL_r1 hL, LA_k hA, o + 2 + 1, LA_r0 hA, LA_k1 hA, ?_, o + 2 + 3 + 2 * l, ?_, LA_pk hA hl, ?_⟩
    · simp (disch := first | assumption | omega) only [mgR_sI, mgR_sL, mkd_sI, mkd_sL, mln_sI, mln_sL, Option.some.injEq, exists_eq_left', forall_eq, true_and, and_true, Nat.reduceLT, exists_eq_left, LA_k, LA_r0, LA_k1, LA_l1, LA_r1, LA_k2, LA_l2, LA_pl, LA_pk, LA_lr, LA_lk, LA_ll, LA_er, LA_ek, OU_k, OU_r0, OU_k1, OU_r13, OU_r5, OU_k60, OU_l60, ia0, ia4, ia8, ia12, ia16, ia20, ia24, ia52, ia60, ia68, im7, im14, ap6, iaN, ap1, ixN, vpN]
    · simp (disch := first | assumption | omega) only [mgR_sI, mgR_sL, mkd_sI, mkd_sL, mln_sI, mln_sL, Option.some.injEq, exists_eq_left', forall_eq, true_and, and_true, Nat.reduceLT, exists_eq_left, LA_k, LA_r0, LA_k1, LA_l1, LA_r1, LA_k2, LA_l2, LA_pl, LA_pk, LA_lr, LA_lk, LA_ll, LA_er, LA_ek, OU_k, OU_r0, OU_k1, OU_r13, OU_r5, OU_k60, OU_l60, ia0, ia4, ia8, ia12, ia16, ia20, ia24, ia52, ia60, ia68, im7, im14, ap6, iaN, ap1, ixN, vpN]
    rw [w4_isDead (hR.pl hl e1).2]
    by_cases e2 : plD S.1 l = true
    · rw [if_pos e2, if_neg n10]; exact h0 (by rw [hlv, e2]; rfl)
    · have hv : livS S.1 (nI l) = true := by rw [hlv]; simpa using e2
      rw [if_neg e2, if_pos rfl, w0_within]
      by_cases e3 : inS c 1 60 = true
      · rw [if_pos e3, if_neg n10]
        exact ⟨26, l0_needs hC hS hl hv 25 0 M (by omega) cG.rf hC (fun M' hG hC' => h1 l hl rfl (by rw [hv, e3]; rfl) M' hG.x hC')⟩
      · rw [if_neg e3, if_pos rfl]; exact h0 (by simp [e3])
  · rw [if_neg e1, if_pos rfl]; exact h0 (by unfold livS; simp [e1])
