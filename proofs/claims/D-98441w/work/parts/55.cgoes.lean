/-! the component: a day's end, days -/
set_option maxRecDepth 100000
def deM (M : MM) (a l q : Nat) (w D W : Int32) : MM := msI (msI (msI (msI (msI M (a + 3 + 2 * l) 2 w) (a + 3 + 2 * l) 4 D) (a + 3 + 2 * l) 5 W) (a + 4 + 2 * l) q w) (a + 3 + 2 * l) 6 (nI ((q + 1) % 7))
def plM (a l : Nat) : Nat → Nat → Prop := fun x _ => x = a + 3 + 2 * l ∨ x = a + 4 + 2 * l
theorem w4_dayEnds {a l : Nat} {M : MM} {s : Nat → Int32} {less : Int32} {Post : MM → Prop} (hA : LA a M) (hR : LdR M a s) (hl : l < 4) (hp : isPl s (nI l) = true) (hP : ∀ M', fI (plM a l) M M' → LdR M' a (dS s l less) → Post M') : wp_X4_dayEnds M (a + 3 + 2 * l) less Post := by
  obtain ⟨h8, t1, t2, t3, t4, t5, t6, t7, q, t8, t9, t10⟩ := hR.pl hl hp
  have fin : Post (deM M a l q (dSw s l less) (dSD s l less) (dSW s l less)) := by
    have hF : fI (plM a l) M (deM M a l q (dSw s l less) (dSD s l less) (dSW s l less)) := by
      unfold deM
      exact ((((fI.rf.s (Or.inl rfl)).s (Or.inl rfl)).s (Or.inl rfl)).s (Or.inr rfl)).s (Or.inl rfl)
    have c2 : mgI (deM M a l q (dSw s l less) (dSD s l less) (dSW s l less)) (a + 3 + 2 * l) 2 = dSw s l less := by
      unfold deM
      rw [mgI_sI, if_neg (by omega), mgI_sI, if_neg (by omega), mgI_sI, if_neg (by omega), mgI_sI, if_neg (by omega), mgI_sI, if_pos ⟨rfl, rfl⟩]
    have c4 : mgI (deM M a l q (dSw s l less) (dSD s l less) (dSW s l less)) (a + 3 + 2 * l) 4 = dSD s l less := by
      unfold deM
      rw [mgI_sI, if_neg (by omega), mgI_sI, if_neg (by omega), mgI_sI, if_neg (by omega), mgI_sI, if_pos ⟨rfl, rfl⟩]
    have c5 : mgI (deM M a l q (dSw s l less) (dSD s l less) (dSW s l less)) (a + 3 + 2 * l) 5 = dSW s l less := by
      unfold deM
      rw [mgI_sI, if_neg (by omega), mgI_sI, if_neg (by omega), mgI_sI, if_pos ⟨rfl, rfl⟩]
    have c6 : mgI (deM M a l q (dSw s l less) (dSD s l less) (dSW s l less)) (a + 3 + 2 * l) 6 = nI ((q + 1) % 7) := by
      unfold deM
      rw [mgI_sI, if_pos ⟨rfl, rfl⟩]
    have cn : ∀ k, k ≠ 2 → k ≠ 4 → k ≠ 5 → k ≠ 6 → mgI (deM M a l q (dSw s l less) (dSD s l less) (dSW s l less)) (a + 3 + 2 * l) k = mgI M (a + 3 + 2 * l) k := by
      intro k k1 k2 k3 k4
      unfold deM
      rw [mgI_sI, if_neg (by omega), mgI_sI, if_neg (by omega), mgI_sI, if_neg (by omega), mgI_sI, if_neg (by omega), mgI_sI, if_neg (by omega)]
    have cl : ∀ k, mgI (deM M a l q (dSw s l less) (dSD s l less) (dSW s l less)) (a + 4 + 2 * l) k = if k = q then dSw s l less else mgI M (a + 4 + 2 * l) k := by
      intro k
      unfold deM
      rw [mgI_sI, if_neg (by omega), mgI_sI]
      by_cases e : k = q
      · rw [if_pos ⟨rfl, e⟩, if_pos e]
      · rw [if_neg (fun x => e x.2), if_neg e, mgI_sI, if_neg (by omega), mgI_sI, if_neg (by omega), mgI_sI, if_neg (by omega)]
    generalize deM M a l q (dSw s l less) (dSD s l less) (dSW s l less) = M' at hF c2 c4 c5 c6 cn cl ⊢
    obtain ⟨d1, d2, d3⟩ := dS_at (s := s) (less := less) hl
    have e76 : dS s l less 76 = s 76 := dS_ne (by omega) (by omega) (by omega) (by omega) (by omega)
    refine hP M' hF ⟨fun l' hl' => ?_, fun p hp' => ?_, ?_, ?_⟩
    · by_cases el : l' = l
      · subst el
        refine ⟨by rw [cn 9 (by omega) (by omega) (by omega) (by omega)]; exact (hR.1 l' hl).1, Or.inl ⟨?_, ?_, ?_, ?_, ?_, ?_, ?_, ?_, ?_, (q + 1) % 7, Nat.mod_lt _ (by omega), c6, fun j hj => ?_⟩⟩
        · unfold isPl; rw [e76]; exact hp
        · rw [cn 8 (by omega) (by omega) (by omega) (by omega)]; exact h8
        · rw [cn 1 (by omega) (by omega) (by omega) (by omega), dS_ne (by omega) (by omega) (by omega) (by omega) (by omega)]; exact t1
        · rw [c2, d1]
        · rw [cn 3 (by omega) (by omega) (by omega) (by omega), dS_ne (by omega) (by omega) (by omega) (by omega) (by omega)]; exact t3
        · rw [c4, d2]
        · rw [c5, d3]
        · rw [cn 9 (by omega) (by omega) (by omega) (by omega), cn 7 (by omega) (by omega) (by omega) (by omega), dS_ne (by omega) (by omega) (by omega) (by omega) (by omega)]; exact t6
        · rw [cn 7 (by omega) (by omega) (by omega) (by omega)]; exact t7
        · rw [cl, dS_look hl hj]
          by_cases e : j = 0
          · rw [if_pos e, if_pos (by omega)]
          · rw [if_neg e, if_neg (by omega), ← t10 (j - 1) (by omega)]
            congr 1; omega
      · exact ((hR.1 l' hl').e (fun k => hF.2 _ _ (by unfold plM; omega)) (fun k => hF.2 _ _ (by unfold plM; omega))).se hl' (fun k hk => dS_ne (by omega) (by omega) (by omega) (by omega) (by omega))
    · exact ((hR.2.1 p hp').e (fun k => hF.2 _ _ (by unfold plM; omega))).se (fun k hk => dS_ne (by omega) (by omega) (by omega) (by omega) (by omega))
    · rw [hF.2 _ _ (by unfold plM; omega), dS_ne (by omega) (by omega) (by omega) (by omega) (by omega)]; exact hR.2.2.1
    · rw [hF.2 _ _ (by unfold plM; omega), dS_ne (by omega) (by omega) (by omega) (by omega) (by omega)]; exact hR.2.2.2
  have i7 : rm_ (nI q + (1 : Int32)) (7 : Int32) = nI ((q + 1) % 7) := by
    rw [ap1]; exact pk_rem (d := 7) (by omega) (by omega) (by omega)
  have hw : mx_ (0 : Int32) (mgI M (a + 3 + 2 * l) 2 - less) = dSw s l less := by rw [mx_ma, t2]; rfl
  have w57 : ∀ D W, D = dSD s l less → W = dSW s l less → wb_X4_dayEnds_57 (msI (msI M (a + 3 + 2 * l) 2 (dSw s l less)) (a + 3 + 2 * l) 4 D) (a + 3 + 2 * l) (a + 3 + 2 * l) W Post := by
    intro D W hD hW
    unfold wb_X4_dayEnds_57
    have g6 : ∀ M2, M2 = msI (msI (msI M (a + 3 + 2 * l) 2 (dSw s l less)) (a + 3 + 2 * l) 4 D) (a + 3 + 2 * l) 5 W → mgI M2 (a + 3 + 2 * l) 6 = nI q ∧ mgI M2 (a + 3 + 2 * l) 2 = dSw s l less := by
      intro M2 e
      rw [e]
      constructor
      · rw [mgI_sI, if_neg (by omega), mgI_sI, if_neg (by omega), mgI_sI, if_neg (by omega)]; exact t9
      · rw [mgI_sI, if_neg (by omega), mgI_sI, if_neg (by omega), mgI_sI, if_pos ⟨rfl, rfl⟩]
    obtain ⟨g1, g2⟩ := g6 _ rfl
    simp (disch := first | assumption | omega) only [mgR_sI, mgR_sL, mkd_sI, mkd_sL, mln_sI, mln_sL, Option.some.injEq, exists_eq_left', forall_eq, true_and, and_true, Nat.reduceLT, exists_eq_left, LA_k, LA_r0, LA_k1, LA_l1, LA_r1, LA_k2, LA_l2, LA_pl, LA_pk, LA_lr, LA_lk, LA_ll, LA_er, LA_ek, OU_k, OU_r0, OU_k1, OU_r13, OU_r5, OU_k60, OU_l60]
    rw [g1, g2]
    have g3 : mgI (msI (msI (msI (msI M (a + 3 + 2 * l) 2 (dSw s l less)) (a + 3 + 2 * l) 4 D) (a + 3 + 2 * l) 5 W) (a + 4 + 2 * l) q (dSw s l less)) (a + 3 + 2 * l) 6 = nI q := by
      rw [mgI_sI, if_neg (by omega)]; exact g1
    simp (disch := first | assumption | omega) only [vpN, ixN, true_and]
    rw [g3, i7, hD, hW]
    exact fin
  have w32 : ∀ D, D = dSD s l less → wb_X4_dayEnds_32 (msI M (a + 3 + 2 * l) 2 (dSw s l less)) (a + 3 + 2 * l) (a + 3 + 2 * l) D Post := by
    intro D hD
    unfold wb_X4_dayEnds_32
    simp only [forall_eq]
    have g2 : mgI (msI (msI M (a + 3 + 2 * l) 2 (dSw s l less)) (a + 3 + 2 * l) 4 D) (a + 3 + 2 * l) 2 = dSw s l less := by rw [mgI_sI, if_neg (by omega), mgI_sI, if_pos ⟨rfl, rfl⟩]
    have g1 : mgI (msI (msI M (a + 3 + 2 * l) 2 (dSw s l less)) (a + 3 + 2 * l) 4 D) (a + 3 + 2 * l) 1 = s l := by rw [mgI_sI, if_neg (by omega), mgI_sI, if_neg (by omega)]; exact t1
    have g5 : mgI (msI (msI M (a + 3 + 2 * l) 2 (dSw s l less)) (a + 3 + 2 * l) 4 D) (a + 3 + 2 * l) 5 = s (16 + l) := by rw [mgI_sI, if_neg (by omega), mgI_sI, if_neg (by omega)]; exact t5
    rw [g2, g1, g5]
    by_cases e : dSw s l less = s l
    · rw [if_pos e]; exact w57 D _ hD (by unfold dSW; rw [if_pos e])
    · rw [if_neg e]; exact w57 D _ hD (by unfold dSW; rw [if_neg e])
  unfold wp_X4_dayEnds
  simp only [forall_eq]
  rw [hw]
  have g2 : mgI (msI M (a + 3 + 2 * l) 2 (dSw s l less)) (a + 3 + 2 * l) 2 = dSw s l less := by rw [mgI_sI, if_pos ⟨rfl, rfl⟩]
  have g4 : mgI (msI M (a + 3 + 2 * l) 2 (dSw s l less)) (a + 3 + 2 * l) 4 = s (12 + l) := by rw [mgI_sI, if_neg (by omega)]; exact t4
  rw [g2, g4]
  by_cases e : dSw s l less = 0
  · rw [if_pos e]; exact w32 _ (by unfold dSD; rw [if_pos e])
  · rw [if_neg e]; exact w32 _ (by unfold dSD; rw [if_neg e])
theorem plM_lM {o a l : Nat} {M M' : MM} (hl : l < 4) (h : fI (plM a l) M M') : fI (lM o a) M M' := h.mono (fun x k e => by unfold plM at e; unfold lM; omega)
theorem lotS_ne {s : Nat → Int32} {k : Nat} (h : k ≠ 80) : lotS s k = s k := up_ne (by omega)
theorem dUp_ne {s : Nat → Int32} {k : Nat} (h : k ≠ 79) : dUp s k = s k := up_ne (by omega)
/-- the lot is drawn -/
theorem w3_draw {o a : Nat} {M : MM} {s : Dy} {Post : Int32 → MM → Prop} (h : cdE M a s) (hP : ∀ M', fI (lM o a) M M' → cdE M' a (lotA s) → Post (drwS s.1) M') : wp_X3_draw M a Post := by
  obtain ⟨hR, h4, h5, h6⟩ := h
  unfold wp_X3_draw
  simp only [forall_eq]
  have hv : rm_ ((25173 : Int32) * mgI M a 3 + (13849 : Int32)) (65536 : Int32) = lotS s.1 80 := by
    rw [hR.2.2.2]
    exact (up_eq (s := s.1) (k := 80)).symm
  rw [hv, fd_e]
  refine hP _ (fI.rf.s (by unfold lM; omega)) ⟨⟨fun l hl => ?_, fun p hp => ?_, ?_, fd_e⟩, (fd_n (by omega)).trans h4, (fd_n (by omega)).trans h5, (fd_n (by omega)).trans h6⟩
  · exact ((hR.1 l hl).e (fun k => by rw [mgI_sI, if_neg (by omega)]) (fun k => by rw [mgI_sI, if_neg (by omega)])).se hl (fun k hk => lotS_ne (by omega))
  · exact ((hR.2.1 p hp).e (fun k => by rw [mgI_sI, if_neg (by omega)])).se (fun k hk => lotS_ne (by omega))
  · rw [fd_n (by omega)]; exact hR.2.2.1.trans (lotS_ne (s := s.1) (k := 79) (by omega)).symm
/-- the end of a landing's day, for a plant -/
theorem w3_de60 {o a l : Nat} {M2 : MM} {T : Nat → Txt} {r : Nat → Int32} {c ov sy sn less : Int32} {Post : MM → Prop} (hA : LA a M2) (hR : LdR M2 a r) (h4 : mgI M2 a 4 = c) (h5 : mgI M2 a 5 = ov) (h6 : mgI M2 a 6 = sy) (hl : l < 4) (hp : isPl r (nI l) = true) (hP : ∀ M', fI (lM o a) M2 M' → LdR M' a (dS r l less) → mgI M' a 4 = c → mgI M' a 5 = ov → mgI M' a 6 = sy + sn → Post M') : wb_X3_dayEnds_60 M2 a (nI l) less a (mgI M2 a 6) sn Post := by
  unfold wb_X3_dayEnds_60
  rw [h6]
  simp only [forall_eq]
  have hF : fI (fun x k => x = a ∧ k = 6) M2 (msI M2 a 6 (sy + sn)) := fI.rf.s ⟨rfl, rfl⟩
  have hLa : LA a (msI M2 a 6 (sy + sn)) := LA_of hF.e hA
  have hR3 : LdR (msI M2 a 6 (sy + sn)) a r := hR.f hF (fun b k q1 q2 q3 q4 => by omega)
  have d4 : mgI (msI M2 a 6 (sy + sn)) a 4 = c := (fd_n (by omega)).trans h4
  have d5 : mgI (msI M2 a 6 (sy + sn)) a 5 = ov := (fd_n (by omega)).trans h5
  have d6 : mgI (msI M2 a 6 (sy + sn)) a 6 = sy + sn := fd_e
  generalize msI M2 a 6 (sy + sn) = M3 at hF hLa hR3 d4 d5 d6 ⊢
  simp (disch := first | assumption | omega) only [mgR_sI, mgR_sL, mkd_sI, mkd_sL, mln_sI, mln_sL, Option.some.injEq, exists_eq_left', forall_eq, true_and, and_true, Nat.reduceLT, exists_eq_left, LA_k, LA_r0, LA_k1, LA_l1, LA_r1, LA_k2, LA_l2, LA_pl, LA_pk, LA_lr, LA_lk, LA_ll, LA_er, LA_ek, OU_k, OU_r0, OU_k1, OU_r13, OU_r5, OU_k60, OU_l60, ia0, ia4, ia8, ia12, ia16, ia20, ia24, ia52, ia60, ia68, im7, im14, ap6, iaN, ap1, ixN, vpN]
  refine w4_dayEnds hLa hR3 hl hp (fun M4 hF4 hR4 => ?_)
  have e : ∀ k, mgI M4 a k = mgI M3 a k := fun k => hF4.2 _ _ (by unfold plM; omega)
  exact hP M4 ((hF.mono (fun x k e => by unfold lM; omega)).tr (plM_lM hl hF4)) hR4 ((e 4).trans d4) ((e 5).trans d5) ((e 6).trans d6)
theorem w3_de46 {o a l : Nat} {M2 : MM} {r : Nat → Int32} {c ov sy sn less : Int32} {Post : MM → Prop} (hA : LA a M2) (hR : LdR M2 a r) (h4 : mgI M2 a 4 = c) (h5 : mgI M2 a 5 = ov) (h6 : mgI M2 a 6 = sy) (hl : l < 4) (hp : isPl r (nI l) = true) (hsn : sn = 0 ∨ sn = 1) (hP : ∀ M', fI (lM o a) M2 M' → LdR M' a (dS r l less) → mgI M' a 4 = c → mgI M' a 5 = ov → mgI M' a 6 = sy + sn → Post M') : wb_X3_dayEnds_46 M2 a (nI l) sn less Post := by
  have w60 := w3_de60 (o := o) (T := fun _ => []) (sn := sn) (less := less) hA hR h4 h5 h6 hl hp hP
  unfold wb_X3_dayEnds_46
  rcases hsn with e | e
  · rw [if_pos e]; rw [e] at w60; exact w60
  · rw [if_neg (by rw [e]; decide)]; rw [e] at w60; exact w60
/-- texts asked of a plant -/
theorem w3_asks {o a l : Nat} {M : MM} {T : Nat → Txt} {r : Nat → Int32} {c : Int32} {K : Int32 → MM → Prop} (ha : aOk o a) (hC : LC o a M T r) (hl : l < 4) (hp : isPl r (nI l) = true) (hP : ∀ M', fI (oM o) M M' → K (byS (T 0) c 9 (fcP r l)) M') : wp_X3_at M a (nI l) (fun r_6 M_5 => ∃ b_8, r_6 = some b_8 ∧ mkd M_5 b_8 = 2 ∧ wp_X2_tells M_5 b_8 c (9 : Int32) (fun r_12 M_11 => K r_12 M_11)) := by
  obtain ⟨hA, hO, h7, hT, hR⟩ := id hC
  refine w3_at hA hO h7 ha.1 hl hR hp (fun M2 hF2 hm2 => ?_)
  have hC2 := hC.o ha hF2
  have hO2 := hC2.2.1
  refine ⟨o + 1, rfl, OU_k1 hO2, ?_⟩
  exact w2_tells hO2 hC2.2.2.2.1 hm2 (by decide) (fun M3 hF3 _ => hP M3 (hF2.tr hF3))
theorem w3_de13 {o a l : Nat} {M1 : MM} {T : Nat → Txt} {r : Nat → Int32} {c ov sy sn : Int32} {Post : MM → Prop} (ha : aOk o a) (hC : LC o a M1 T r) (h4 : mgI M1 a 4 = c) (h5 : mgI M1 a 5 = ov) (h6 : mgI M1 a 6 = sy) (hl : l < 4) (hp : isPl r (nI l) = true) (hsn : sn = 0 ∨ sn = 1) (hP : ∀ M', fI (lM o a) M1 M' → LdR M' a (dS r l (lessS T r l sn)) → mgI M' a 4 = c → mgI M' a 5 = ov → mgI M' a 6 = sy + sn → Post M') : wb_X3_dayEnds_13 M1 a (nI l) sn Post := by
  have w46 : ∀ M2 less, fI (oM o) M1 M2 → less = lessS T r l sn → wb_X3_dayEnds_46 M2 a (nI l) sn less Post := by
    intro M2 less hF2 hless
    have hC2 := hC.o ha hF2
    have e : ∀ k, mgI M2 a k = mgI M1 a k := fun k => hF2.2 _ _ (by unfold oM; unfold aOk at ha; omega)
    refine w3_de46 (o := o) hC2.1 hC2.2.2.2.2 ((e 4).trans h4) ((e 5).trans h5) ((e 6).trans h6) hl hp hsn (fun M' k1 k2 k3 k4 k5 => hP M' ((oM_lM hF2).tr k1) (by rw [← hless]; exact k2) k3 k4 k5)
  unfold wb_X3_dayEnds_13
  refine w3_asks ha hC hl hp (fun M3 hF3 => ?_)
  by_cases e : sn = 0
  · rw [if_pos e]
    refine w46 M3 _ hF3 ?_
    unfold lessS; rw [if_pos e]
  · rw [if_neg e]
    refine w3_asks ha (hC.o ha hF3) hl hp (fun M5 hF5 => ?_)
    simp only [forall_eq]
    refine w46 M5 _ (hF3.tr hF5) ?_
    unfold lessS; rw [if_neg e]
theorem driA_E {T : Nat → Txt} {s : Dy} {l : Nat} {n : Int32} : driA T (sunA (lotA s) n) l n = (dS (lotS s.1) l (lessS T (lotS s.1) l n), s.2.1, s.2.2.1, s.2.2.2.1 + n, s.2.2.2.2) := by
  unfold driA sunA lotA
  rfl
theorem w3_dayEnds {o a l : Nat} {M0 M : MM} {T : Nat → Txt} {s0 : Nat → Int32} {s : Dy} {Post : MM → Prop} (ha : aOk o a) (hC : LC o a M0 T s0) (hF0 : fI (lM o a) M0 M) (hE : cdE M a s) (hl : l < 4) (hp : isPl s.1 (nI l) = true) (hP : ∀ M', fI (lM o a) M0 M' → cdE M' a (driA T (sunA (lotA s) (snS s.1)) l (snS s.1)) → Post M') : wp_X3_dayEnds M a (nI l) Post := by
  have hp1 : isPl (lotS s.1) (nI l) = true := by
    unfold isPl
    rw [lotS_ne (by omega)]; exact hp
  have hP2 : ∀ M', fI (lM o a) M0 M' → LdR M' a (dS (lotS s.1) l (lessS T (lotS s.1) l (snS s.1))) → mgI M' a 4 = s.2.1 → mgI M' a 5 = s.2.2.1 → mgI M' a 6 = s.2.2.2.1 + snS s.1 → Post M' := by
    intro M' a1 a2 a3 a4 a5
    refine hP M' a1 ?_
    rw [driA_E]
    exact ⟨a2, a3, a4, a5⟩
  clear hP
  unfold wp_X3_dayEnds
  refine w3_draw (o := o) hE (fun M1 hF1 hE1 => ?_)
  have hF01 := hF0.tr hF1
  have hC1 : LC o a M1 T (lotS s.1) := hC.f ha hF01 hE1.1
  have go : ∀ sn, sn = snS s.1 → (sn = 0 ∨ sn = 1) → wb_X3_dayEnds_13 M1 a (nI l) sn Post := by
    intro sn e1 e2
    refine w3_de13 ha hC1 hE1.2.1 hE1.2.2.1 hE1.2.2.2 hl hp1 e2 (fun M' k1 k2 k3 k4 k5 => ?_)
    rw [e1] at k2 k5
    exact hP2 M' (hF01.tr k1) k2 k3 k4 k5
  by_cases e : 5 ≤ drwS s.1
  · rw [if_pos e]; exact go 0 (by unfold snS; rw [if_pos e]) (Or.inl rfl)
  · rw [if_neg e]; exact go 1 (by unfold snS; rw [if_neg e]) (Or.inr rfl)
/-- what stands while days go -/
def gC (o a : Nat) (M0 M : MM) (s : Dy) (d : Nat) : Prop := fI (lM o a) M0 M ∧ cdE M a s ∧ RowOk s.1 ∧ s.1 79 = nI d
theorem l0_wtrs {o a p d : Nat} {M0 M : MM} {T : Nat → Txt} {s0 : Nat → Int32} {s : Dy} {X : MM → Prop} (ha : aOk o a) (hC : LC o a M0 T s0) (h : gC o a M0 M s d) (hd : d < 1000000) (hp : p < 8) (hpe : isPe s.1 (nI p) = true) (hX : ∀ M', gC o a M0 M' (itN (wtrs T p) 4 s) d → X M') : ∃ n, wl_X3_dayGoes_41 a (nI p) X n M (nI 0) := by
  refine cl_ (fun n M1 i => wl_X3_dayGoes_41 a (nI p) X n M1 (nI i)) (fun i M1 => gC o a M0 M1 (itN (wtrs T p) i s) d ∧ (itN (wtrs T p) i s).1 78 = s.1 78) 4 ?_ ?_ M 0 (by omega) ⟨h, rfl⟩
  · intro n i M1 hi ⟨hG, h78⟩ hs'
    obtain ⟨hF, hE, hK, hd1⟩ := id hG
    have hC1 := hC.f ha hF hE.1
    have hA1 := hC1.1
    show wl_X3_dayGoes_41 a (nI p) X (n + 1) M1 (nI i)
    unfold wl_X3_dayGoes_41
    rw [if_neg (show ¬ (4 : Int32) ≤ nI i from (show ¬ nI 4 ≤ nI i from nI_ge (by omega) (by omega)))]
    have hstep : itN (wtrs T p) (i + 1) s = wtrs T p i (itN (wtrs T p) i s) := rfl
    rw [hstep] at hs'
    generalize itN (wtrs T p) i s = s1 at hE hK hd1 h78 hs' hG
    simp (disch := first | assumption | omega) only [mgR_sI, mgR_sL, mkd_sI, mkd_sL, mln_sI, mln_sL, Option.some.injEq, exists_eq_left', forall_eq, true_and, and_true, Nat.reduceLT, exists_eq_left, LA_k, LA_r0, LA_k1, LA_l1, LA_r1, LA_k2, LA_l2, LA_pl, LA_pk, LA_lr, LA_lk, LA_ll, LA_er, LA_ek, OU_k, OU_r0, OU_k1, OU_r13, OU_r5, OU_k60, OU_l60, ia0, ia4, ia8, ia12, ia16, ia20, ia24, ia52, ia60, ia68, im7, im14, ap6, iaN, ap1, ixN, vpN, w4_lives hK hi (hE.1.1 i hi)]
    unfold wtrs at hs'
    by_cases e : livS s1.1 (nI i) = true
    · rw [if_pos e] at hs'
      rw [if_pos e, if_neg n10]
      have hpe1 : isPe s1.1 (nI p) = true := by unfold isPe; rw [h78]; exact hpe
      refine w3_waters ha (hC.f ha hF hE.1) hE hK ⟨d, hd, hd1⟩ hp hi hpe1 e (fun M2 hF2 hE2 => ?_)
      refine hs' M2 ⟨⟨hF.tr hF2, hE2, ?_, ?_⟩, ?_⟩
      · exact wat_ok hK hp hi
      · show watR _ _ _ _ 79 = _
        rw [watR_ne (by omega) (by omega) (by omega)]; exact hd1
      · show watR _ _ _ _ 78 = _
        rw [watR_ne (by omega) (by omega) (by omega)]; exact h78
    · rw [if_neg e] at hs'
      rw [if_neg e]
      simp only [if_true]
      exact hs' M1 ⟨hG, h78⟩
  · intro n M1 ⟨hG, _⟩
    show wl_X3_dayGoes_41 a (nI p) X (n + 1) M1 (nI 4)
    unfold wl_X3_dayGoes_41
    rw [if_pos (show (4 : Int32) ≤ nI 4 from by decide)]
    exact hX M1 hG
theorem l0_dayP {o a d : Nat} {M0 M : MM} {T : Nat → Txt} {s0 : Nat → Int32} {s : Dy} {X : MM → Prop} (ha : aOk o a) (hC : LC o a M0 T s0) (h : gC o a M0 M s d) (hd : d < 1000000) (hX : ∀ M', gC o a M0 M' (itN (dayP T) 8 s) d → X M') : ∃ n, wl_X3_dayGoes_2 a X n M (nI 0) := by
  refine cl_ (fun n M1 i => wl_X3_dayGoes_2 a X n M1 (nI i)) (fun i M1 => gC o a M0 M1 (itN (dayP T) i s) d) 8 ?_ ?_ M 0 (by omega) h
  · intro n i M1 hi hG hs'
    obtain ⟨hF, hE, hK, hd1⟩ := id hG
    have hA1 := (hC.f ha hF hE.1).1
    show wl_X3_dayGoes_2 a X (n + 1) M1 (nI i)
    unfold wl_X3_dayGoes_2
    rw [if_neg (show ¬ (8 : Int32) ≤ nI i from (show ¬ nI 8 ≤ nI i from nI_ge (by omega) (by omega)))]
    have hstep : itN (dayP T) (i + 1) s = dayP T i (itN (dayP T) i s) := rfl
    rw [hstep] at hs'
    generalize itN (dayP T) i s = s1 at hE hK hd1 hs' hG
    simp (disch := first | assumption | omega) only [mgR_sI, mgR_sL, mkd_sI, mkd_sL, mln_sI, mln_sL, Option.some.injEq, exists_eq_left', forall_eq, true_and, and_true, Nat.reduceLT, exists_eq_left, LA_k, LA_r0, LA_k1, LA_l1, LA_r1, LA_k2, LA_l2, LA_pl, LA_pk, LA_lr, LA_lk, LA_ll, LA_er, LA_ek, OU_k, OU_r0, OU_k1, OU_r13, OU_r5, OU_k60, OU_l60, ia0, ia4, ia8, ia12, ia16, ia20, ia24, ia52, ia60, ia68, im7, im14, ap6, iaN, ap1, ixN, vpN]
    unfold dayP at hs'
    rcases hE.1.2.1 i hi with ⟨e, e3, e0, e1, e2⟩ | ⟨e, e3⟩
    · rw [if_pos e] at hs'
      rw [e3, if_neg n10]
      refine w3_draw (o := o) hE (fun M2 hF2 hE2 => ?_)
      have hF02 := hF.tr hF2
      have hA2 := (hC.f ha hF02 hE2.1).1
      have hG2 : gC o a M0 M2 (lotA s1) d := ⟨hF02, hE2, lotS_ok hK, (lotS_ne (s := s1.1) (k := 79) (by omega)).trans hd1⟩
      have hpe2 : isPe (lotA s1).1 (nI i) = true := by
        show isPe (lotS s1.1) (nI i) = true
        unfold isPe lotS
        rw [up_ne (by omega)]; exact e
      have ht : mgI M2 (a + 11 + i) 0 = s1.1 (52 + i) := by
        rw [(hE2.1.pe hi hpe2).2.1]; exact lotS_ne (s := s1.1) (by omega)
      simp (disch := first | assumption | omega) only [mgR_sI, mgR_sL, mkd_sI, mkd_sL, mln_sI, mln_sL, Option.some.injEq, exists_eq_left', forall_eq, true_and, and_true, Nat.reduceLT, exists_eq_left, LA_k, LA_r0, LA_k1, LA_l1, LA_r1, LA_k2, LA_l2, LA_pl, LA_pk, LA_lr, LA_lk, LA_ll, LA_er, LA_ek, OU_k, OU_r0, OU_k1, OU_r13, OU_r5, OU_k60, OU_l60, ia0, ia4, ia8, ia12, ia16, ia20, ia24, ia52, ia60, ia68, im7, im14, ap6, iaN, ap1, ixN, vpN, ht]
      by_cases c : drwS s1.1 < s1.1 (52 + i)
      · rw [if_pos c] at hs' ⊢
        exact l0_wtrs ha hC hG2 hd hi hpe2 (fun M3 hG3 => hs' M3 hG3)
      · rw [if_neg c] at hs' ⊢
        exact hs' M2 hG2
    · rw [if_neg (by rw [e]; decide)] at hs'
      rw [e3, if_pos rfl]
      exact hs' M1 hG
  · intro n M1 hG
    show wl_X3_dayGoes_2 a X (n + 1) M1 (nI 8)
    unfold wl_X3_dayGoes_2
    rw [if_pos (show (8 : Int32) ≤ nI 8 from by decide)]
    exact hX M1 hG
theorem livS_lot {s : Nat → Int32} {x : Int32} : livS (lotS s) x = livS s x := by
  unfold livS isPl lotS
  rw [up_ne (by omega), up_ne (by omega)]
theorem l0_dayD {o a d : Nat} {M0 M : MM} {T : Nat → Txt} {s0 : Nat → Int32} {s : Dy} {X : MM → Prop} (ha : aOk o a) (hC : LC o a M0 T s0) (h : gC o a M0 M s d) (hX : ∀ M', gC o a M0 M' (itN (dayD T) 4 s) d → X M') : ∃ n, wl_X3_dayGoes_78 a X n M (nI 0) := by
  refine cl_ (fun n M1 i => wl_X3_dayGoes_78 a X n M1 (nI i)) (fun i M1 => gC o a M0 M1 (itN (dayD T) i s) d) 4 ?_ ?_ M 0 (by omega) h
  · intro n i M1 hi hG hs'
    obtain ⟨hF, hE, hK, hd1⟩ := id hG
    have hA1 := (hC.f ha hF hE.1).1
    show wl_X3_dayGoes_78 a X (n + 1) M1 (nI i)
    unfold wl_X3_dayGoes_78
    rw [if_neg (show ¬ (4 : Int32) ≤ nI i from (show ¬ nI 4 ≤ nI i from nI_ge (by omega) (by omega)))]
    have hstep : itN (dayD T) (i + 1) s = dayD T i (itN (dayD T) i s) := rfl
    rw [hstep] at hs'
    generalize itN (dayD T) i s = s1 at hE hK hd1 hs' hG
    simp (disch := first | assumption | omega) only [mgR_sI, mgR_sL, mkd_sI, mkd_sL, mln_sI, mln_sL, Option.some.injEq, exists_eq_left', forall_eq, true_and, and_true, Nat.reduceLT, exists_eq_left, LA_k, LA_r0, LA_k1, LA_l1, LA_r1, LA_k2, LA_l2, LA_pl, LA_pk, LA_lr, LA_lk, LA_ll, LA_er, LA_ek, OU_k, OU_r0, OU_k1, OU_r13, OU_r5, OU_k60, OU_l60, ia0, ia4, ia8, ia12, ia16, ia20, ia24, ia52, ia60, ia68, im7, im14, ap6, iaN, ap1, ixN, vpN, w4_lives hK hi (hE.1.1 i hi)]
    unfold dayD at hs'
    by_cases e : livS s1.1 (nI i) = true
    · rw [if_pos e] at hs'
      rw [if_pos e, if_neg n10]
      refine w3_dayEnds ha hC hF hE hi (livS_pl e) (fun M2 hF2 hE2 => hs' M2 ⟨hF2, hE2, ?_, ?_⟩)
      · rw [driA_E]
        exact dsL_ok (lotS_ok hK) hi (by rw [livS_lot]; exact e)
      · rw [driA_E]
        show dS _ _ _ 79 = _
        rw [dS_ne (by omega) (by omega) (by omega) (by omega) (by omega)]
        exact (lotS_ne (s := s1.1) (k := 79) (by omega)).trans hd1
    · rw [if_neg e] at hs'
      rw [if_neg e]
      simp only [if_true]
      exact hs' M1 hG
  · intro n M1 hG
    show wl_X3_dayGoes_78 a X (n + 1) M1 (nI 4)
    unfold wl_X3_dayGoes_78
    rw [if_pos (show (4 : Int32) ≤ nI 4 from by decide)]
    exact hX M1 hG
theorem LdR.day {M : MM} {a : Nat} {s : Nat → Int32} (h : LdR M a s) : LdR (msI M a 2 (s 79 + 1)) a (dUp s) := by
  refine ⟨fun l hl => ?_, fun p hp => ?_, ?_, ?_⟩
  · exact ((h.1 l hl).e (fun k => by rw [mgI_sI, if_neg (by omega)]) (fun k => by rw [mgI_sI, if_neg (by omega)])).se hl (fun k hk => dUp_ne (by omega))
  · exact ((h.2.1 p hp).e (fun k => by rw [mgI_sI, if_neg (by omega)])).se (fun k hk => dUp_ne (by omega))
  · rw [fd_e]; exact (up_eq (s := s) (k := 79)).symm
  · rw [fd_n (by omega)]; exact h.2.2.2.trans (dUp_ne (s := s) (k := 80) (by omega)).symm
theorem w3_dayGoes {o a d : Nat} {M0 M : MM} {T : Nat → Txt} {s0 : Nat → Int32} {s : Dy} {Post : MM → Prop} (ha : aOk o a) (hC : LC o a M0 T s0) (h : gC o a M0 M s d) (hd : d < 1000000) (hP : ∀ M', gC o a M0 M' (dayG T s) (d + 1) → Post M') : wp_X3_dayGoes M a Post := by
  unfold wp_X3_dayGoes
  refine l0_dayP ha hC h hd (fun M1 hG1 => ?_)
  refine l0_dayD ha hC hG1 (fun M2 hG2 => ?_)
  obtain ⟨hF, hE, hK, hd1⟩ := hG2
  simp only [forall_eq]
  rw [hE.1.2.2.1]
  refine hP _ ⟨hF.s (by unfold lM; omega), ⟨hE.1.day, (fd_n (by omega)).trans hE.2.1, (fd_n (by omega)).trans hE.2.2.1, (fd_n (by omega)).trans hE.2.2.2⟩, dUp_ok hK, ?_⟩
  show dUp _ 79 = _
  unfold dUp
  rw [up_eq, hd1, ap1]
theorem l0_goN {o a n : Nat} {M0 : MM} {T : Nat → Txt} {s0 : Nat → Int32} {X : MM → Prop} (ha : aOk o a) (hC : LC o a M0 T s0) (hn : n < 2147483648) : ∀ j i M1 s d, i + j = n → gC o a M0 M1 s d → d ≤ 9999 → (∀ M' d', gC o a M0 M' (goN T j s) d' → d' ≤ 9999 → X M') → wl_X3_goes_17 a (nI n) X (j + 1) M1 (nI i) := by
  intro j
  induction j with
  | zero =>
    intro i M1 s d hij hG hd h
    unfold wl_X3_goes_17
    rw [if_pos (nI_le (by omega) (by omega))]
    exact h M1 d hG hd
  | succ j ih =>
    intro i M1 s d hij hG hd h
    obtain ⟨hF, hE, hK, hd1⟩ := id hG
    unfold wl_X3_goes_17
    rw [if_neg (nI_ge (by omega) (by omega)), hE.1.2.2.1]
    by_cases e : 9999 ≤ s.1 79
    · rw [if_pos e]
      refine h M1 d ?_ hd
      unfold goN; rw [if_pos e]; exact hG
    · rw [if_neg e]
      have hlt : d < 9999 := by
        rw [hd1] at e
        exact Nat.lt_of_not_le (fun x => e (show nI 9999 ≤ nI d from nI_le x (by omega)))
      refine w3_dayGoes ha hC hG (by omega) (fun M2 hG2 => ?_)
      simp only [forall_eq, ap1]
      refine ih (i + 1) M2 _ (d + 1) (by omega) hG2 (by omega) (fun M' d' k1 k2 => h M' d' ?_ k2)
      unfold goN; rw [if_neg e]; exact k1
theorem w3_goes {o a n d : Nat} {M : MM} {T : Nat → Txt} {s : Nat → Int32} {Post : Option Nat → MM → Prop} (ha : aOk o a) (hC : LC o a M T s) (hK : RowOk s) (hd : s 79 = nI d) (hd2 : d ≤ 9999) (hn : n < 2147483648) (hP : ∀ M' d', gC o a M M' (goN T n (dy0 s)) d' → d' ≤ 9999 → Post (some a) M') : wp_X3_goes M a (nI n) Post := by
  unfold wp_X3_goes
  simp only [forall_eq]
  have hF : fI (fun x k => x = a ∧ (k = 4 ∨ k = 5 ∨ k = 6)) M (msI (msI (msI M a 4 0) a 5 0) a 6 0) := ((fI.rf.s (by omega)).s (by omega)).s (by omega)
  refine ⟨n + 1, l0_goN ha hC hn n 0 _ (dy0 s) d (by omega) ⟨hF.mono (fun x k e => by unfold lM; omega), ⟨hC.2.2.2.2.f hF (fun b k q1 q2 q3 q4 => by omega), ?_, ?_, fd_e⟩, hK, hd⟩ hd2 (fun M' d' k1 k2 => hP M' d' k1 k2)⟩
  · rw [fd_n (by omega), fd_n (by omega), fd_e]; rfl
  · rw [fd_n (by omega), fd_e]; rfl
