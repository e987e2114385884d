/-! the component: plants and people told; card, pour -/
set_option maxRecDepth 100000
theorem and_bit : ∀ d, d < 16 → ∀ l, l < 4 → ∃ d', d' < 16 ∧ nI d &&& (((1 : Int32) <<< (nI l &&& 31)) ^^^ (-1 : Int32)) = nI d' ∧ ∀ l', l' < 4 → hs_ (nI d') (nI l') = (!decide (l' = l) && hs_ (nI d) (nI l')) := by
  have k : ∀ d, d < 16 → ∀ l, l < 4 → nI d &&& (((1 : Int32) <<< (nI l &&& 31)) ^^^ (-1 : Int32)) = nI (d &&& (15 ^^^ 2 ^ l)) ∧ d &&& (15 ^^^ 2 ^ l) < 16 ∧ ∀ l', l' < 4 → hs_ (nI (d &&& (15 ^^^ 2 ^ l))) (nI l') = (!decide (l' = l) && hs_ (nI d) (nI l')) := by decide +kernel
  intro d hd l hl
  obtain ⟨h1, h2, h3⟩ := k d hd l hl
  exact ⟨_, h2, h1, h3⟩
theorem or_bit8 : ∀ d, d < 256 → ∀ l, l < 8 → nI d ||| ((1 : Int32) <<< (nI l &&& 31)) = nI (d ||| 2 ^ l) ∧ d ||| 2 ^ l < 256 ∧ ∀ l', l' < 8 → hs_ (nI (d ||| 2 ^ l)) (nI l') = (decide (l' = l) || hs_ (nI d) (nI l')) := by decide +kernel
theorem plS_ne {s : Nat → Int32} {l k : Nat} {a b c : Int32} (h1 : k ≠ 76) (h2 : k ≠ 77) (h3 : ¬ (k < 24 ∧ k % 4 = l)) (h4 : ¬ (24 + 7 * l ≤ k ∧ k < 24 + 7 * l + 7)) (hl : l < 4) : plS s l a b c k = s k := by
  unfold plS
  rw [if_neg h4, up_ne (by omega), up_ne (by omega), up_ne (by omega), up_ne (by omega), up_ne (by omega), up_ne (by omega), up_ne (by omega), up_ne (by omega)]
theorem plS_at {s : Nat → Int32} {l : Nat} {a b c : Int32} (hl : l < 4) : plS s l a b c 76 = (s 76 ||| ((1 : Int32) <<< (nI l &&& 31))) ∧ plS s l a b c 77 = (s 77 &&& (((1 : Int32) <<< (nI l &&& 31)) ^^^ (-1 : Int32))) ∧ plS s l a b c l = a ∧ plS s l a b c (4 + l) = b ∧ plS s l a b c (8 + l) = c ∧ plS s l a b c (12 + l) = 0 ∧ plS s l a b c (16 + l) = 0 ∧ plS s l a b c (20 + l) = -2 ∧ ∀ j, j < 7 → plS s l a b c (24 + 7 * l + j) = b := by
  refine ⟨?_, ?_, ?_, ?_, ?_, ?_, ?_, ?_, fun j hj => ?_⟩
  · unfold plS; rw [if_neg (by omega), up_ne (by omega), up_ne (by omega), up_ne (by omega), up_ne (by omega), up_ne (by omega), up_ne (by omega), up_ne (by omega), up_eq]
  · unfold plS; rw [if_neg (by omega), up_ne (by omega), up_ne (by omega), up_ne (by omega), up_ne (by omega), up_ne (by omega), up_ne (by omega), up_eq]
  · unfold plS; rw [if_neg (by omega), up_ne (by omega), up_ne (by omega), up_ne (by omega), up_ne (by omega), up_ne (by omega), up_eq]
  · unfold plS; rw [if_neg (by omega), up_ne (by omega), up_ne (by omega), up_ne (by omega), up_ne (by omega), up_eq]
  · unfold plS; rw [if_neg (by omega), up_ne (by omega), up_ne (by omega), up_ne (by omega), up_eq]
  · unfold plS; rw [if_neg (by omega), up_ne (by omega), up_ne (by omega), up_eq]
  · unfold plS; rw [if_neg (by omega), up_ne (by omega), up_eq]
  · unfold plS; rw [if_neg (by omega), up_eq]
  · unfold plS; rw [if_pos (by omega)]
theorem plS_pl {s : Nat → Int32} {l l' : Nat} {a b c : Int32} (h : pdO s) (hl : l < 4) (hl' : l' < 4) : isPl (plS s l a b c) (nI l') = (decide (l' = l) || isPl s (nI l')) := by
  obtain ⟨p, d, h1, h2, h3, h4⟩ := h
  obtain ⟨o1, o2, o3⟩ := or_bit p h1 l hl
  unfold isPl
  rw [(plS_at hl).1, h3, o1, o3 l' hl', in03 l' hl', Bool.true_and, Bool.true_and]
theorem plS_ok {s : Nat → Int32} {l : Nat} {a b c : Int32} (h : RowOk s) (hl : l < 4) (ha : inS a 4 24 = true) (hb : inS b 0 a = true) (hc : inS c 1 9 = true) : RowOk (plS s l a b c) := by
  obtain ⟨⟨p, d, h1, h2, h3, h4⟩, ⟨q, h5, h6⟩, h7, h8⟩ := id h
  obtain ⟨o1, o2, o3⟩ := or_bit p h1 l hl
  obtain ⟨d', d1, d2, d3⟩ := and_bit d h2 l hl
  obtain ⟨a1, a2, a3, a4, a5, a6, a7, a8, a9⟩ := plS_at (s := s) (a := a) (b := b) (c := c) hl
  obtain ⟨pot, pot1, pot2, rfl⟩ := inS_ab (a := 4) (b := 24) (by omega) (by omega) ha
  obtain ⟨w, w1, rfl⟩ := inS_n (n := pot) (by omega) hb
  obtain ⟨br, br1, br2, rfl⟩ := inS_ab (a := 1) (b := 9) (by omega) (by omega) hc
  refine ⟨⟨p ||| 2 ^ l, d', o2, d1, a1.trans (by rw [h3, o1]), a2.trans (by rw [h4, d2])⟩, ⟨q, h5, (plS_ne (by omega) (by omega) (by omega) (by omega) hl).trans h6⟩, fun p hp => ?_, fun l' hl' => ?_⟩
  · obtain ⟨r, r1, r2⟩ := h7 p hp
    exact ⟨r, r1, (plS_ne (by omega) (by omega) (by omega) (by omega) hl).trans r2⟩
  · rw [plS_pl h.1 hl hl', a2, h4, d2, d3 l' hl']
    by_cases e : l' = l
    · subst e
      refine ⟨fun _ => ⟨⟨pot, w, br, 0, 0, a3, a4, a5, a6, a7, pot1, pot2, by omega, br1, br2, by omega, by omega⟩, ?_⟩, fun x => by simp at x⟩
      have n1 : ¬ nI br ≤ (0 : Int32) := (show ¬ nI br ≤ nI 0 from nI_ge (by omega) (by omega))
      unfold plD
      rw [a5, a6, a7]
      simp [n1]
    · obtain ⟨g1, g2⟩ := h8 l' hl'
      rw [show decide (l' = l) = false by simp [e], Bool.false_or, Bool.not_false, Bool.true_and, ← h4]
      refine ⟨fun hx => ?_, g2⟩
      obtain ⟨⟨pot', w', br', dd, r, k1, k2, k3, k4, k5, k6⟩, k7⟩ := g1 hx
      have n : ∀ k, k < 20 → k % 4 = l' → plS s l (nI pot) (nI w) (nI br) k = s k := fun k q1 q2 => plS_ne (by omega) (by omega) (by omega) (by omega) hl
      refine ⟨⟨pot', w', br', dd, r, (n _ (by omega) (by omega)).trans k1, (n _ (by omega) (by omega)).trans k2, (n _ (by omega) (by omega)).trans k3, (n _ (by omega) (by omega)).trans k4, (n _ (by omega) (by omega)).trans k5, k6⟩, ?_⟩
      rw [k7]
      unfold plD
      rw [n (8 + l') (by omega) (by omega), n (12 + l') (by omega) (by omega), n (16 + l') (by omega) (by omega)]
theorem l0_plant {o l : Nat} {w : Int32} {M : MM} {X : MM → Prop} (hA : LA (o + 2) M) (hl : l < 4) (h : ∀ M', fI (fun a _ => a = o + 2 + 4 + 2 * l) M M' → (∀ j, j < 7 → mgI M' (o + 2 + 4 + 2 * l) j = w) → X M') : ∃ n, wl_X0_plant_109 w (o + 2 + 3 + 2 * l) X n M (nI 0) := by
  refine cl_ (fun n M1 i => wl_X0_plant_109 w (o + 2 + 3 + 2 * l) X n M1 (nI i)) (fun i M1 => fI (fun a _ => a = o + 2 + 4 + 2 * l) M M1 ∧ (∀ j, j < i → mgI M1 (o + 2 + 4 + 2 * l) j = w)) 7 ?_ ?_ M 0 (by omega) ⟨fI.rf, fun j hj => by omega⟩
  · intro n i M1 hi ⟨hF, hr⟩ hs'
    have hA1 : LA (o + 2) M1 := LA_of hF.e hA
    show wl_X0_plant_109 w (o + 2 + 3 + 2 * l) X (n + 1) M1 (nI i)
    unfold wl_X0_plant_109
    rw [if_neg (show ¬ (7 : Int32) ≤ nI i from (show ¬ nI 7 ≤ nI i from nI_ge (by omega) (by omega)))]
    simp (disch := first | assumption | omega) only [mgR_sI, mgR_sL, mkd_sI, mkd_sL, mln_sI, mln_sL, Option.some.injEq, exists_eq_left', forall_eq, true_and, and_true, Nat.reduceLT, exists_eq_left, LA_k, LA_r0, LA_k1, LA_l1, LA_r1, LA_k2, LA_l2, LA_pl, LA_pk, LA_lr, LA_lk, LA_ll, LA_er, LA_ek, OU_k, OU_r0, OU_k1, OU_r13, OU_r5, OU_k60, OU_l60, ia0, ia4, ia8, ia12, ia16, ia20, ia24, ia52, ia60, ia68, im7, im14, ap6, iaN, ap1, ixN, vpN]
    refine hs' _ ⟨hF.s rfl, fun j hj => ?_⟩
    rw [mgI_sI]
    by_cases ek : j = i
    · rw [if_pos ⟨rfl, ek⟩]
    · rw [if_neg (fun x => ek x.2)]; exact hr j (by omega)
  · intro n M1 ⟨hF, hr⟩
    show wl_X0_plant_109 w (o + 2 + 3 + 2 * l) X (n + 1) M1 (nI 7)
    unfold wl_X0_plant_109
    rw [if_pos (show (7 : Int32) ≤ nI 7 from by decide)]
    exact h M1 hF hr
theorem PlR.n {M : MM} {a l : Nat} {s s' : Nat → Int32} (h : PlR M a s l) (hi : isPl s' (nI l) = isPl s (nI l)) (e : ∀ k, ((k < 24 ∧ k % 4 = l) ∨ (24 + 7 * l ≤ k ∧ k < 24 + 7 * l + 7)) → s' k = s k) (hl : l < 4) : PlR M a s' l := by
  unfold PlR PlT at h ⊢
  rw [hi, e l (by omega), e (4 + l) (by omega), e (8 + l) (by omega), e (12 + l) (by omega), e (16 + l) (by omega), e (20 + l) (by omega)]
  refine ⟨h.1, h.2.imp (fun ⟨h1, h2, h3, h4, h5, h6, h7, h8, h9, q, h10, h11, h12⟩ => ⟨h1, h2, h3, h4, h5, h6, h7, h8, h9, q, h10, h11, fun j hj => (h12 j hj).trans (e _ (by omega)).symm⟩) id⟩
theorem PeR.n {M : MM} {a p : Nat} {s s' : Nat → Int32} (h : PeR M a s p) (hi : isPe s' (nI p) = isPe s (nI p)) (e : ∀ k, (k = 52 + p ∨ k = 60 + p ∨ k = 68 + p) → s' k = s k) : PeR M a s' p := by
  unfold PeR at h ⊢
  rw [hi, e (52 + p) (by omega), e (60 + p) (by omega), e (68 + p) (by omega)]
  exact h
theorem C_plant {o : Nat} {M : MM} {S : St} {l pot wet bears : Int32} {Post : Int32 → MM → Prop} (hC : CR o M S) (hS : SOk S) (h0 : plV l pot wet bears = false → Post 0 M) (h1 : ∀ l', l' < 4 → l = nI l' → plV l pot wet bears = true → ∀ M', kX o M M' → CR o M' (plS S.1 l' pot wet bears, S.2) → SOk (plS S.1 l' pot wet bears, S.2) → Post 1 M') : wp_X0_plant M o l pot wet bears Post := by
  have hL := hC.1
  have hA := CL_A2 hL
  have hR := hC.2.2.2.1
  obtain ⟨k1, k2, ⟨d, k3, k4⟩, k5⟩ := id hS
  unfold wp_X0_plant
  unfold plV at h0 h1
  rw [in_4]
  by_cases e1 : inS l 0 3 = true
  · rw [if_pos e1, if_neg n10, w0_within]
    by_cases e2 : inS pot 4 24 = true
    · rw [if_pos e2, if_neg n10, w0_within]
      by_cases e3 : inS wet 0 pot = true
      · rw [if_pos e3, if_neg n10, w0_within]
        by_cases e4 : inS bears 1 9 = true
        · rw [if_pos e4, if_neg n10]
          obtain ⟨l', hl1, rfl⟩ := inS_n (n := 3) (by omega) e1
          have hl' : l' < 4 := by omega
          have kk := h1 l' hl' rfl (by simp [e1, e2, e3, e4])
          obtain ⟨a1, a2, a3, a4, a5, a6, a7, a8, a9⟩ := plS_at (s := S.1) (a := pot) (b := wet) (c := bears) hl'
          simp (disch := first | assumption | omega) only [CL_t2, CL_t21, CL_t40, CL_r1, CL_r2, CL_r3, CL_r4, CL_k59, CL_l59, CL_r9, CL_k65, CL_l65, CL_r10, CL_k91, CL_l91, CL_r11, CL_k117, CL_l117, CL_r12, CL_k118, CL_l118, CL_r23, CL_k119, CL_l119, CL_r24, CL_k120, CL_l120, CL_r27, CL_k121, CL_l121, CL_r28, CL_k274, CL_l274, CL_r29, CL_k279, CL_l279, CL_r30, CL_k280, CL_l280, CL_r32, CL_k281, CL_l281, mgR_sI, mgR_sL, mkd_sI, mkd_sL, mln_sI, mln_sL, Option.some.injEq, exists_eq_left', forall_eq, true_and, and_true, Nat.reduceLT, exists_eq_left, LA_k, LA_r0, LA_k1, LA_l1, LA_r1, LA_k2, LA_l2, LA_pl, LA_pk, LA_lr, LA_lk, LA_ll, LA_er, LA_ek, OU_k, OU_r0, OU_k1, OU_r13, OU_r5, OU_k60, OU_l60, ia0, ia4, ia8, ia12, ia16, ia20, ia24, ia52, ia60, ia68, im7, im14, ap6, iaN, ap1, ixN, vpN]
          have hF0 : fI (fun a _ => a = o + 2 + 3 + 2 * l') M (msI (msI (msI (msI (msI (msI (msI (msI (msI M (o + 2 + 3 + 2 * l') 8 1) (o + 2 + 3 + 2 * l') 9 0) (o + 2 + 3 + 2 * l') 7 (-1)) (o + 2 + 3 + 2 * l') 1 pot) (o + 2 + 3 + 2 * l') 2 wet) (o + 2 + 3 + 2 * l') 3 bears) (o + 2 + 3 + 2 * l') 4 0) (o + 2 + 3 + 2 * l') 5 0) (o + 2 + 3 + 2 * l') 6 0) := fI.s (fI.s (fI.s (fI.s (fI.s (fI.s (fI.s (fI.s (fI.s fI.rf (by rfl)) (by rfl)) (by rfl)) (by rfl)) (by rfl)) (by rfl)) (by rfl)) (by rfl)) (by rfl)
          have hV : ∀ M1, M1 = (msI (msI (msI (msI (msI (msI (msI (msI (msI M (o + 2 + 3 + 2 * l') 8 1) (o + 2 + 3 + 2 * l') 9 0) (o + 2 + 3 + 2 * l') 7 (-1)) (o + 2 + 3 + 2 * l') 1 pot) (o + 2 + 3 + 2 * l') 2 wet) (o + 2 + 3 + 2 * l') 3 bears) (o + 2 + 3 + 2 * l') 4 0) (o + 2 + 3 + 2 * l') 5 0) (o + 2 + 3 + 2 * l') 6 0) → mgI M1 (o + 2 + 3 + 2 * l') 8 = 1 ∧ mgI M1 (o + 2 + 3 + 2 * l') 9 = 0 ∧ mgI M1 (o + 2 + 3 + 2 * l') 7 = -1 ∧ mgI M1 (o + 2 + 3 + 2 * l') 1 = pot ∧ mgI M1 (o + 2 + 3 + 2 * l') 2 = wet ∧ mgI M1 (o + 2 + 3 + 2 * l') 3 = bears ∧ mgI M1 (o + 2 + 3 + 2 * l') 4 = 0 ∧ mgI M1 (o + 2 + 3 + 2 * l') 5 = 0 ∧ mgI M1 (o + 2 + 3 + 2 * l') 6 = 0 := by
            intro M1 e
            subst e
            refine ⟨?_, ?_, ?_, ?_, ?_, ?_, ?_, ?_, ?_⟩ <;> simp only [mgI_sI, Nat.reduceEqDiff, and_false, and_true, and_self, if_true, if_false]
          replace hV := hV _ rfl
          generalize (msI (msI (msI (msI (msI (msI (msI (msI (msI M (o + 2 + 3 + 2 * l') 8 1) (o + 2 + 3 + 2 * l') 9 0) (o + 2 + 3 + 2 * l') 7 (-1)) (o + 2 + 3 + 2 * l') 1 pot) (o + 2 + 3 + 2 * l') 2 wet) (o + 2 + 3 + 2 * l') 3 bears) (o + 2 + 3 + 2 * l') 4 0) (o + 2 + 3 + 2 * l') 5 0) (o + 2 + 3 + 2 * l') 6 0) = M1 at hF0 hV ⊢
          have hA1 : LA (o + 2) M1 := LA_of hF0.e hA
          refine l0_plant hA1 hl' (fun M2 hF2 hr => ?_)
          obtain ⟨v1, v2, v3, v4, v5, v6, v7, v8, v9⟩ := hV
          have hF : fI (fun a _ => a = o + 2 + 3 + 2 * l' ∨ a = o + 2 + 4 + 2 * l') M M2 := (hF0.mono (fun a k e => Or.inl e)).tr (hF2.mono (fun a k e => Or.inr e))
          have hG : cG o M M2 := hF.cg (fun a k e => by unfold cF; omega)
          have n : ∀ k, mgI M2 (o + 2 + 3 + 2 * l') k = mgI M1 (o + 2 + 3 + 2 * l') k := fun k => hF2.2 _ _ (by omega)
          have hok := plS_ok k1 hl' e2 e3 e4
          refine kk M2 hG.x (hC.g hG ⟨fun l2 hl2 => ?_, fun p hp => ?_, ?_, ?_⟩) ⟨hok, k2, ⟨d, k3, (plS_ne (by omega) (by omega) (by omega) (by omega) hl').trans k4⟩, k5⟩
          · have hpl := plS_pl (a := pot) (b := wet) (c := bears) k1.1 hl' hl2
            by_cases el : l2 = l'
            · subst el
              unfold PlR PlT
              rw [n 9, n 8, n 1, n 2, n 3, n 4, n 5, n 7, n 6, v1, v2, v3, v4, v5, v6, v7, v8, v9, a3, a4, a5, a6, a7, a8, hpl]
              exact ⟨Or.inl rfl, Or.inl ⟨by simp, rfl, rfl, rfl, rfl, rfl, rfl, rfl, Or.inl rfl, 0, by omega, rfl, fun j hj => (hr _ (Nat.mod_lt _ (by omega))).trans (a9 j hj).symm⟩⟩
            · rw [show decide (l2 = l') = false by simp [el], Bool.false_or] at hpl
              exact ((hR.1 l2 hl2).e (fun k => hF.2 _ _ (by omega)) (fun k => hF.2 _ _ (by omega))).n hpl (fun k hk => plS_ne (by omega) (by omega) (by omega) (by omega) hl') hl2
          · exact ((hR.2.1 p hp).e (fun k => hF.2 _ _ (by omega))).se (fun k hk => plS_ne (by omega) (by omega) (by omega) (by omega) hl')
          · exact ((hF.2 _ _ (by omega)).trans hR.2.2.1).trans (plS_ne (by omega) (by omega) (by omega) (by omega) hl').symm
          · exact ((hF.2 _ _ (by omega)).trans hR.2.2.2).trans (plS_ne (by omega) (by omega) (by omega) (by omega) hl').symm
        · rw [if_neg e4, if_pos rfl]; exact h0 (by simp [e4])
      · rw [if_neg e3, if_pos rfl]; exact h0 (by simp [e3])
    · rw [if_neg e2, if_pos rfl]; exact h0 (by simp [e2])
  · rw [if_neg e1, if_pos rfl]; exact h0 (by simp [e1])
