/-! the component: who gives, waters; a day's end -/
set_option maxRecDepth 100000
def LC (o a : Nat) (M : MM) (T : Nat → Txt) (s : Nat → Int32) : Prop := LA a M ∧ OU o M ∧ mgR M a 7 = some o ∧ CT o M T ∧ LdR M a s
def aOk (o a : Nat) : Prop := o + 1 < a ∧ (a + 19 ≤ o + 61 ∨ (o + 65 ≤ a ∧ a + 19 ≤ o + 315))
def lM (o a : Nat) : Nat → Nat → Prop := fun x k => (x = o + 1 ∧ k ≠ 13) ∨ (a ≤ x ∧ x < a + 19)
theorem oM_lM {o a : Nat} {M M' : MM} (h : fI (oM o) M M') : fI (lM o a) M M' := h.mono (fun x k e => Or.inl e)
theorem LC.f {o a : Nat} {M M' : MM} {T : Nat → Txt} {s s' : Nat → Int32} (h : LC o a M T s) (ha : aOk o a) (hF : fI (lM o a) M M') (hR : LdR M' a s') : LC o a M' T s' := by
  obtain ⟨h1, h2, h3, h4, _⟩ := h
  refine ⟨LA_of hF.e h1, OU_of hF.e h2, (hF.R _ _).trans h3, h4.f hF (fun x k hx => ?_), hR⟩
  unfold Prt at hx; unfold aOk at ha; unfold lM; omega
theorem LC.o {o a : Nat} {M M' : MM} {T : Nat → Txt} {s : Nat → Int32} (h : LC o a M T s) (ha : aOk o a) (hF : fI (oM o) M M') : LC o a M' T s :=
  h.f ha (oM_lM hF) (h.2.2.2.2.f hF (fun b k h1 h2 _ => by unfold oM; unfold aOk at ha; omega))
theorem PlR.se {M : MM} {a l : Nat} {s s' : Nat → Int32} (h : PlR M a s l) (hl : l < 4) (e : ∀ k, (k = 76 ∨ (k < 24 ∧ k % 4 = l) ∨ (24 + 7 * l ≤ k ∧ k < 24 + 7 * l + 7)) → s' k = s k) : PlR M a s' l := by
  have hip : isPl s' (nI l) = isPl s (nI l) := by unfold isPl; rw [e 76 (by omega)]
  unfold PlR PlT at h ⊢
  rw [hip, e l (by omega), e (4 + l) (by omega), e (8 + l) (by omega), e (12 + l) (by omega), e (16 + l) (by omega), e (20 + l) (by omega)]
  refine ⟨h.1, h.2.imp (fun ⟨h1, h2, h3, h4, h5, h6, h7, h8, h9, q, h10, h11, h12⟩ => ⟨h1, h2, h3, h4, h5, h6, h7, h8, h9, q, h10, h11, fun j hj => (h12 j hj).trans (e _ (by omega)).symm⟩) id⟩
theorem PeR.se {M : MM} {a p : Nat} {s s' : Nat → Int32} (h : PeR M a s p) (e : ∀ k, (k = 78 ∨ k = 52 + p ∨ k = 60 + p ∨ k = 68 + p) → s' k = s k) : PeR M a s' p := by
  have hip : isPe s' (nI p) = isPe s (nI p) := by unfold isPe; rw [e 78 (by omega)]
  unfold PeR at h ⊢
  rw [hip, e (52 + p) (by omega), e (60 + p) (by omega), e (68 + p) (by omega)]
  exact h
theorem LdR.pl {M : MM} {a l : Nat} {s : Nat → Int32} (h : LdR M a s) (hl : l < 4) (hp : isPl s (nI l) = true) : mgI M (a + 3 + 2 * l) 8 = 1 ∧ PlT M a s l := by
  rcases (h.1 l hl).2 with ⟨_, h2, h3⟩ | ⟨h1, _⟩
  · exact ⟨h2, h3⟩
  · rw [hp] at h1; cases h1
theorem LdR.pe {M : MM} {a p : Nat} {s : Nat → Int32} (h : LdR M a s) (hp8 : p < 8) (hp : isPe s (nI p) = true) : mgI M (a + 11 + p) 3 = 1 ∧ mgI M (a + 11 + p) 0 = s (52 + p) ∧ mgI M (a + 11 + p) 1 = s (60 + p) ∧ mgI M (a + 11 + p) 2 = s (68 + p) := by
  rcases h.2.1 p hp8 with ⟨_, h2⟩ | ⟨h1, _⟩
  · exact h2
  · rw [hp] at h1; cases h1
def moB (o : Nat) (M : MM) (x1 x2 x3 : Int32) : MM := msI (msI (msI M (o + 1) 9 x1) (o + 1) 10 x2) (o + 1) 12 x3
theorem moB_E {o l p : Nat} {M : MM} {s : Nat → Int32} (h : MoE M (o + 1) (fcP s l)) : MoE (moB o M (nI p) (s (52 + p)) (s (68 + p))) (o + 1) (fcG s p l) := by
  obtain ⟨h1, h2, h3, h4, h5, h6, h7, h8, h9, h10, h11, h12, h13⟩ := h
  unfold moB MoE fcG
  simp (disch := first | assumption | omega) only [mg1, mg1e, up_ne, up_eq, and_self, h1, h2, h3, h4, h5, h6, h7, h8, h11, h12]
theorem moB_f {o : Nat} {M M0 : MM} {x1 x2 x3 : Int32} (h : fI (oM o) M0 M) : fI (oM o) M0 (moB o M x1 x2 x3) := by
  unfold moB
  exact f1M (f1M (f1M h (by omega)) (by omega)) (by omega)
theorem w3_givesTo {o a p l : Nat} {M : MM} {T : Nat → Txt} {s : Nat → Int32} {Post : Int32 → MM → Prop} (ha : aOk o a) (h : LC o a M T s) (hr : RuOk s) (hp : p < 8) (hl : l < 4) (hpe : isPe s (nI p) = true) (hpl : isPl s (nI l) = true) (hP : ∀ M', fI (oM o) M M' → Post (if plD s l = true then 0 else gvS T s p l) M') : wp_X3_givesTo M a (nI p) (nI l) Post := by
  obtain ⟨hA, hO, h7, hT, hR⟩ := id h
  have hT1 := (hR.pl hl hpl).2
  obtain ⟨r, r1, r2⟩ := hr p hp
  unfold wp_X3_givesTo
  simp (disch := first | assumption | omega) only [mgR_sI, mgR_sL, mkd_sI, mkd_sL, mln_sI, mln_sL, Option.some.injEq, exists_eq_left', forall_eq, true_and, and_true, Nat.reduceLT, exists_eq_left, LA_k, LA_r0, LA_k1, LA_l1, LA_r1, LA_k2, LA_l2, LA_pl, LA_pk, LA_lr, LA_lk, LA_ll, LA_er, LA_ek, OU_k, OU_r0, OU_k1, OU_r13, OU_r5, OU_k60, OU_l60, ia0, ia4, ia8, ia12, ia16, ia20, ia24, ia52, ia60, ia68, im7, im14, ap6, iaN, ap1, ixN, vpN, w4_isDead hT1]
  by_cases e : plD s l = true
  · rw [if_pos e, if_neg n10]
    have := hP M fI.rf
    rw [if_pos e] at this; exact this
  · rw [if_neg e, if_pos True.intro]
    rw [if_neg e] at hP
    refine w3_at hA hO h7 ha.1 hl hR hpl (fun M1 hF1 hE1 => ?_)
    have hC1 := h.o ha hF1
    obtain ⟨hA1, hO1, h71, hT1, hR1⟩ := id hC1
    obtain ⟨g1, g2, g3, g4⟩ := hR1.pe hp hpe
    simp (disch := first | assumption | omega) only [mgR_sI, mgR_sL, mkd_sI, mkd_sL, mln_sI, mln_sL, Option.some.injEq, exists_eq_left', forall_eq, true_and, and_true, Nat.reduceLT, exists_eq_left, LA_k, LA_r0, LA_k1, LA_l1, LA_r1, LA_k2, LA_l2, LA_pl, LA_pk, LA_lr, LA_lk, LA_ll, LA_er, LA_ek, OU_k, OU_r0, OU_k1, OU_r13, OU_r5, OU_k60, OU_l60, ia0, ia4, ia8, ia12, ia16, ia20, ia24, ia52, ia60, ia68, im7, im14, ap6, iaN, ap1, ixN, vpN, g2, g4]
    unfold wp_X2_by
    simp only [forall_eq]
    have hF2 : fI (oM o) M (moB o M1 (nI p) (s (52 + p)) (s (68 + p))) := moB_f hF1
    have hE2 : MoE (moB o M1 (nI p) (s (52 + p)) (s (68 + p))) (o + 1) (fcG s p l) := moB_E hE1
    show ∃ b_35, some (o + 1) = some b_35 ∧ mkd (moB o M1 (nI p) (s (52 + p)) (s (68 + p))) b_35 = 2 ∧ ∃ b_38, mgR (moB o M1 (nI p) (s (52 + p)) (s (68 + p))) a 1 = some b_38 ∧ mkd (moB o M1 (nI p) (s (52 + p)) (s (68 + p))) b_38 = 104 ∧ vp_in (nI p) (mln (moB o M1 (nI p) (s (52 + p)) (s (68 + p))) b_38) ∧ ∃ b_42, mgR (moB o M1 (nI p) (s (52 + p)) (s (68 + p))) b_38 p = some b_42 ∧ mkd (moB o M1 (nI p) (s (52 + p)) (s (68 + p))) b_42 = 5 ∧ wp_X2_givesBy (moB o M1 (nI p) (s (52 + p)) (s (68 + p))) b_35 (mgI (moB o M1 (nI p) (s (52 + p)) (s (68 + p))) b_42 1) (fun r_46 M_45 => Post r_46 M_45)
    generalize moB o M1 (nI p) (s (52 + p)) (s (68 + p)) = M2 at hF2 hE2 ⊢
    have hC2 := h.o ha hF2
    obtain ⟨hA2, hO2, h72, hT2, hR2⟩ := id hC2
    obtain ⟨q1, q2, q3, q4⟩ := hR2.pe hp hpe
    simp (disch := first | assumption | omega) only [mgR_sI, mgR_sL, mkd_sI, mkd_sL, mln_sI, mln_sL, Option.some.injEq, exists_eq_left', forall_eq, true_and, and_true, Nat.reduceLT, exists_eq_left, LA_k, LA_r0, LA_k1, LA_l1, LA_r1, LA_k2, LA_l2, LA_pl, LA_pk, LA_lr, LA_lk, LA_ll, LA_er, LA_ek, OU_k, OU_r0, OU_k1, OU_r13, OU_r5, OU_k60, OU_l60, ia0, ia4, ia8, ia12, ia16, ia20, ia24, ia52, ia60, ia68, im7, im14, ap6, iaN, ap1, ixN, vpN, q3, r2]
    refine w2_givesBy hO2 hT2 r1 hE2 (fun M' hF' _ => ?_)
    have := hP M' (hF2.tr hF')
    unfold gvS at this
    rw [r2, ixN (by omega)] at this
    exact this
theorem mx_ma {x : Int32} : mx_ (0 : Int32) x = ma_ 0 x := by
  unfold mx_ ma_
  by_cases e : 0 < x
  · rw [if_pos e, if_pos (i32_ltle e)]
  · rw [if_neg e]
    by_cases e2 : 0 ≤ x
    · rw [if_pos e2]; exact i32_eq e2 e
    · rw [if_neg e2]
/-- a landing with what its days come to -/
def cdE (M : MM) (a : Nat) (s : Dy) : Prop := LdR M a s.1 ∧ mgI M a 4 = s.2.1 ∧ mgI M a 5 = s.2.2.1 ∧ mgI M a 6 = s.2.2.2.1
theorem cdE.o {o a : Nat} {M M' : MM} {s : Dy} (ha : aOk o a) (h : cdE M a s) (hF : fI (oM o) M M') : cdE M' a s := by
  obtain ⟨h1, h2, h3, h4⟩ := h
  unfold aOk at ha
  exact ⟨h1.f hF (fun b k q1 q2 _ => by unfold oM; omega), (hF.2 _ _ (by unfold oM; omega)).trans h2, (hF.2 _ _ (by unfold oM; omega)).trans h3, (hF.2 _ _ (by unfold oM; omega)).trans h4⟩
theorem wat_out {pot w g : Nat} (h : w ≤ pot) (hp : pot ≤ 24) (hg : g ≤ 9) : ma_ 0 (nI (w + g) - nI pot) = nI (w + g - pot) ∧ nI (w + g) - nI (w + g - pot) = mi_ (nI pot) (nI (w + g)) ∧ ∀ ov : Int32, ov + nI (w + g - pot) = (ov + nI (w + g)) - mi_ (nI pot) (nI (w + g)) := by
  have h1 : nI (w + g) - nI (w + g - pot) = mi_ (nI pot) (nI (w + g)) := by
    rw [mi_nI (by omega) (by omega), pk_sub (by omega)]
    congr 1; omega
  refine ⟨ma_sub (by omega) (by omega), h1, fun ov => ?_⟩
  rw [mi_nI (by omega) (by omega), Int32.sub_eq_add_neg, Int32.add_assoc, ← Int32.sub_eq_add_neg, pk_sub (by omega)]
  congr 2; omega
def wtC (M : MM) (a p l : Nat) (w ov gv cu : Int32) : MM := msI (msI (msI (msI M (a + 3 + 2 * l) 2 w) a 5 ov) (a + 11 + p) 2 gv) a 4 cu
theorem w3_waters {o a p l : Nat} {M : MM} {T : Nat → Txt} {s : Dy} {Post : MM → Prop} (ha : aOk o a) (h : LC o a M T s.1) (hE : cdE M a s) (hK : RowOk s.1) (hd : ∃ d, d < 1000000 ∧ s.1 79 = nI d) (hp : p < 8) (hl : l < 4) (hpe : isPe s.1 (nI p) = true) (hlv : livS s.1 (nI l) = true) (hP : ∀ M', fI (lM o a) M M' → cdE M' a (watA T s p l) → Post M') : wp_X3_waters M a (nI p) (nI l) Post := by
  have hpl := livS_pl hlv
  obtain ⟨pot, w, br, d, r, k1, k2, k3, k4, k5, k6, k7, k8, k9, k10, k11, k12⟩ := livS_d hK hl hlv
  have hnd : ¬ plD s.1 l = true := by
    have := livS_iff hK hl hpl
    rw [hlv] at this
    intro x; rw [x] at this; cases this
  obtain ⟨g, hg1, hg2⟩ := gvS_nI (T := T) (s := s.1) (p := p) (l := l)
  unfold wp_X3_waters
  refine w3_givesTo ha h hK.2.2.1 hp hl hpe hpl (fun M1 hF1 => ?_)
  rw [if_neg hnd, hg2]
  have hC1 := h.o ha hF1
  have hE1 := hE.o ha hF1
  obtain ⟨hA1, hO1, h71, hT1, hR1⟩ := id hC1
  have hA : watA T s p l = (watR s.1 (nI g) p l, s.2.1 + nI g, (s.2.2.1 + (s.1 (4 + l) + nI g)) - mi_ (s.1 l) (s.1 (4 + l) + nI g), s.2.2.2.1, up s.2.2.2.2 p (s.2.2.2.2 p + nI g)) := by unfold watA; rw [hg2]
  have hP2 : ∀ M', fI (lM o a) M M' → LdR M' a (watR s.1 (nI g) p l) → mgI M' a 4 = s.2.1 + nI g → mgI M' a 5 = (s.2.2.1 + (s.1 (4 + l) + nI g)) - mi_ (s.1 l) (s.1 (4 + l) + nI g) → mgI M' a 6 = s.2.2.2.1 → Post M' := fun M' a1 a2 a3 a4 a5 => hP M' a1 (by rw [hA]; exact ⟨a2, a3, a4, a5⟩)
  by_cases e0 : nI g = 0
  · rw [if_pos e0]
    refine hP2 M1 (oM_lM hF1) (by rw [e0, watR_0 hK hp hl hpl]; exact hE1.1) (by rw [e0, hE1.2.1, Int32.add_zero]) ?_ hE1.2.2.2
    rw [e0, hE1.2.2.1, k1, k2, show nI w + (0 : Int32) = nI (w + 0) from nI_add w 0]
    have := (wat_out (g := 0) k8 k7 (by omega)).2.2 s.2.2.1
    rw [show w + 0 - pot = 0 by omega, show nI 0 = 0 from rfl, Int32.add_zero] at this
    exact this
  · rw [if_neg e0]
    have hgp : 0 < g := Nat.pos_of_ne_zero (fun x => e0 (by rw [x]; rfl))
    have hT1' := (hR1.pl hl hpl).2
    have hPe := hR1.pe hp hpe
    have q1 : mgI M1 (a + 3 + 2 * l) 1 = nI pot := hT1'.1.trans k1
    have q2 : mgI M1 (a + 3 + 2 * l) 2 = nI w := hT1'.2.1.trans k2
    obtain ⟨o1, o2, o3⟩ := wat_out (g := g) k8 k7 hg1
    unfold wp_X4_gets
    simp (disch := first | assumption | omega) only [mgR_sI, mgR_sL, mkd_sI, mkd_sL, mln_sI, mln_sL, Option.some.injEq, exists_eq_left', forall_eq, true_and, and_true, Nat.reduceLT, exists_eq_left, LA_k, LA_r0, LA_k1, LA_l1, LA_r1, LA_k2, LA_l2, LA_pl, LA_pk, LA_lr, LA_lk, LA_ll, LA_er, LA_ek, OU_k, OU_r0, OU_k1, OU_r13, OU_r5, OU_k60, OU_l60, ia0, ia4, ia8, ia12, ia16, ia20, ia24, ia52, ia60, ia68, im7, im14, ap6, iaN, ap1, ixN, vpN, q1, q2, mx_ma, o1, o2]
    have n5 : mgI (msI M1 (a + 3 + 2 * l) 2 (mi_ (nI pot) (nI (w + g)))) a 5 = mgI M1 a 5 := by rw [mgI_sI, if_neg (by omega)]
    have w5 : ∀ M2, M2 = wtC M1 a p l (mi_ (nI pot) (nI (w + g))) (s.2.2.1 + nI (w + g - pot)) (s.1 (68 + p) + nI g) (s.2.1 + nI g) → (LA a M2 → ∃ b_28, mgR M2 a 0 = some b_28 ∧ mkd M2 b_28 = 103 ∧ vp_in (nI l) (mln M2 b_28) ∧ ∃ b_32, mgR M2 b_28 (ix_ (nI l)) = some b_32 ∧ mkd M2 b_32 = 4 ∧ if (mgI M2 b_32 9) = 0 then (Post M2)
        else (∃ b_36, mgR M2 a 0 = some b_36 ∧ mkd M2 b_36 = 103 ∧ vp_in (nI l) (mln M2 b_36) ∧ ∃ b_40, mgR M2 b_36 (ix_ (nI l)) = some b_40 ∧ mkd M2 b_40 = 4 ∧ ∀ M_43, M_43 = msI M2 b_40 7 (mgI M2 a 2) → Post M_43)) := by
      intro M2 hM2 hA2
      have hF12 : fI (fun x k => (x = a + 3 + 2 * l ∧ k = 2) ∨ (x = a ∧ (k = 4 ∨ k = 5)) ∨ (x = a + 11 + p ∧ k = 2)) M1 M2 := by
        rw [hM2]; unfold wtC
        exact (((fI.rf.s (by omega)).s (by omega)).s (by omega)).s (by omega)
      have cW : mgI M2 (a + 3 + 2 * l) 2 = mi_ (nI pot) (nI (w + g)) := by
        rw [hM2]; unfold wtC
        rw [mgI_sI, if_neg (by omega), mgI_sI, if_neg (by omega), mgI_sI, if_neg (by omega), mgI_sI, if_pos ⟨rfl, rfl⟩]
      have cO : mgI M2 a 5 = s.2.2.1 + nI (w + g - pot) := by
        rw [hM2]; unfold wtC
        rw [mgI_sI, if_neg (by omega), mgI_sI, if_neg (by omega), mgI_sI, if_pos ⟨rfl, rfl⟩]
      have cG : mgI M2 (a + 11 + p) 2 = s.1 (68 + p) + nI g := by
        rw [hM2]; unfold wtC
        rw [mgI_sI, if_neg (by omega), mgI_sI, if_pos ⟨rfl, rfl⟩]
      have cC : mgI M2 a 4 = s.2.1 + nI g := by
        rw [hM2]; unfold wtC
        rw [mgI_sI, if_pos ⟨rfl, rfl⟩]
      have fin : ∀ M3, fI (fun x k => x = a + 3 + 2 * l ∧ k = 7) M2 M3 → caS (mgI M3 (a + 3 + 2 * l) 9) (mgI M3 (a + 3 + 2 * l) 7) = watR s.1 (nI g) p l (20 + l) → (mgI M3 (a + 3 + 2 * l) 7 = -1 ∨ 0 ≤ mgI M3 (a + 3 + 2 * l) 7) → Post M3 := by
        intro M3 hF3 hcard h7'
        have hF13 : fI (fun x k => (x = a + 3 + 2 * l ∧ (k = 2 ∨ k = 7)) ∨ (x = a ∧ (k = 4 ∨ k = 5)) ∨ (x = a + 11 + p ∧ k = 2)) M1 M3 := (hF12.mono (fun x k e => by omega)).tr (hF3.mono (fun x k e => by omega))
        refine hP2 M3 ((oM_lM hF1).tr (hF13.mono (fun x k e => by unfold lM; omega))) ⟨fun l' hl' => ?_, fun p' hp' => ?_, ?_, ?_⟩ ?_ ?_ ?_
        · by_cases el : l' = l
          · subst el
            obtain ⟨t1, t2, t3, t4, t5, t6, t7, q, t8, t9, t10⟩ := hT1'
            refine ⟨by rw [hF13.2 _ 9 (by omega)]; exact (hR1.1 l' hl).1, Or.inl ⟨?_, ?_, ?_, ?_, ?_, ?_, ?_, hcard, h7', q, t8, ?_, fun j hj => ?_⟩⟩
            · unfold isPl; rw [watR_ne (by omega) (by omega) (by omega)]; exact hpl
            · rw [hF13.2 _ _ (by omega)]; exact (hR1.pl hl hpl).1
            · rw [hF13.2 _ _ (by omega), watR_ne (by omega) (by omega) (by omega)]; exact t1
            · rw [hF3.2 _ _ (by omega), cW, watR_wet hp hl, k1, k2, iaN]
            · rw [hF13.2 _ _ (by omega), watR_ne (by omega) (by omega) (by omega)]; exact t3
            · rw [hF13.2 _ _ (by omega), watR_ne (by omega) (by omega) (by omega)]; exact t4
            · rw [hF13.2 _ _ (by omega), watR_ne (by omega) (by omega) (by omega)]; exact t5
            · rw [hF13.2 _ _ (by omega)]; exact t9
            · rw [hF13.2 _ _ (by omega), watR_ne (by omega) (by omega) (by omega)]; exact t10 j hj
          · exact ((hR1.1 l' hl').e (fun k => hF13.2 _ _ (by omega)) (fun k => hF13.2 _ _ (by omega))).se hl' (fun k hk => watR_ne (by omega) (by omega) (by omega))
        · by_cases ep : p' = p
          · subst ep
            refine Or.inl ⟨?_, ?_, ?_, ?_, ?_⟩
            · unfold isPe; rw [watR_ne (by omega) (by omega) (by omega)]; exact hpe
            · rw [hF13.2 _ _ (by omega)]; exact hPe.1
            · rw [hF13.2 _ _ (by omega), watR_ne (by omega) (by omega) (by omega)]; exact hPe.2.1
            · rw [hF13.2 _ _ (by omega), watR_ne (by omega) (by omega) (by omega)]; exact hPe.2.2.1
            · rw [hF3.2 _ _ (by omega), cG, watR_given hp hl]
          · exact ((hR1.2.1 p' hp').e (fun k => hF13.2 _ _ (by omega))).se (fun k hk => watR_ne (by omega) (by omega) (by omega))
        · rw [hF13.2 _ _ (by omega), watR_ne (by omega) (by omega) (by omega)]; exact hR1.2.2.1
        · rw [hF13.2 _ _ (by omega), watR_ne (by omega) (by omega) (by omega)]; exact hR1.2.2.2
        · rw [hF3.2 _ _ (by omega), cC]
        · rw [hF3.2 _ _ (by omega), cO, k1, k2, iaN]; exact o3 _
        · rw [hF13.2 _ _ (by omega)]; exact hE1.2.2.2
      simp (disch := first | assumption | omega) only [mgR_sI, mgR_sL, mkd_sI, mkd_sL, mln_sI, mln_sL, Option.some.injEq, exists_eq_left', forall_eq, true_and, and_true, Nat.reduceLT, exists_eq_left, LA_k, LA_r0, LA_k1, LA_l1, LA_r1, LA_k2, LA_l2, LA_pl, LA_pk, LA_lr, LA_lk, LA_ll, LA_er, LA_ek, OU_k, OU_r0, OU_k1, OU_r13, OU_r5, OU_k60, OU_l60, ia0, ia4, ia8, ia12, ia16, ia20, ia24, ia52, ia60, ia68, im7, im14, ap6, iaN, ap1, ixN, vpN]
      have e9 : mgI M2 (a + 3 + 2 * l) 9 = mgI M1 (a + 3 + 2 * l) 9 := hF12.2 _ _ (by omega)
      have e7 : mgI M2 (a + 3 + 2 * l) 7 = mgI M1 (a + 3 + 2 * l) 7 := hF12.2 _ _ (by omega)
      have ecar := hT1'.2.2.2.2.2.1
      have hgn : ¬ nI g ≤ 0 := nI_nle hgp (by omega)
      rw [e9]
      by_cases e : mgI M1 (a + 3 + 2 * l) 9 = 0
      · rw [if_pos e]
        refine fin M2 fI.rf ?_ (by rw [e7]; exact hT1'.2.2.2.2.2.2.1)
        rw [e9, e7, watR_card hp hl, if_neg hgn, ← ecar]
        unfold caS
        rw [if_pos e, if_pos rfl]
      · rw [if_neg e]
        have d2 : mgI M2 a 2 = s.1 79 := (hF12.2 _ _ (by omega)).trans hR1.2.2.1
        obtain ⟨dd, dd1, dd2⟩ := hd
        rw [d2]
        refine fin _ (fI.rf.s ⟨rfl, rfl⟩) ?_ ?_
        · rw [mgI_sI, if_neg (by omega), mgI_sI, if_pos ⟨rfl, rfl⟩, e9, watR_card hp hl, if_neg hgn, ← ecar]
          unfold caS
          rw [if_neg e, if_neg e, dd2, if_neg (nI_m1 (by omega))]
          have : ¬ (if mgI M1 (a + 3 + 2 * l) 7 = -1 then (-3 : Int32) else mgI M1 (a + 3 + 2 * l) 7) = -2 := by
            rcases hT1'.2.2.2.2.2.2.1 with x | x
            · rw [if_pos x]; decide
            · by_cases y : mgI M1 (a + 3 + 2 * l) 7 = -1
              · rw [if_pos y]; decide
              · rw [if_neg y]; intro z; rw [z] at x; exact absurd x (by decide)
          rw [if_neg this]
        · rw [mgI_sI, if_pos ⟨rfl, rfl⟩, dd2]; exact Or.inr (nI_pos' (by omega))
    have hm5 : mgI M1 a 5 = s.2.2.1 := hE1.2.2.1
    have hm4 : ∀ x y z, mgI (msI (msI (msI M1 (a + 3 + 2 * l) 2 x) a 5 y) (a + 11 + p) 2 z) a 4 = s.2.1 := fun x y z => by
      rw [mgI_sI, if_neg (by omega), mgI_sI, if_neg (by omega), mgI_sI, if_neg (by omega)]; exact hE1.2.1
    have hmg : ∀ x y, mgI (msI (msI M1 (a + 3 + 2 * l) 2 x) a 5 y) (a + 11 + p) 2 = s.1 (68 + p) := fun x y => by
      rw [mgI_sI, if_neg (by omega), mgI_sI, if_neg (by omega)]; exact hPe.2.2.2
    rw [hm5, hmg, hm4]
    have hfin := w5 _ rfl (LA_of rfl hA1)
    unfold wtC at hfin
    simpa (disch := first | assumption | omega) only [mgR_sI, mgR_sL, mkd_sI, mkd_sL, mln_sI, mln_sL, Option.some.injEq, exists_eq_left', forall_eq, true_and, and_true, Nat.reduceLT, exists_eq_left, LA_k, LA_r0, LA_k1, LA_l1, LA_r1, LA_k2, LA_l2, LA_pl, LA_pk, LA_lr, LA_lk, LA_ll, LA_er, LA_ek, OU_k, OU_r0, OU_k1, OU_r13, OU_r5, OU_k60, OU_l60, ia0, ia4, ia8, ia12, ia16, ia20, ia24, ia52, ia60, ia68, im7, im14, ap6, iaN, ap1, ixN, vpN] using hfin
