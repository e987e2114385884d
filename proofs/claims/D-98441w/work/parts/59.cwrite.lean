/-! the component: people told; card, pour; what a plant is -/
set_option maxRecDepth 100000
theorem peS_ne {s : Nat → Int32} {p k : Nat} {a b : Int32} (h1 : k ≠ 78) (h2 : k ≠ 52 + p) (h3 : k ≠ 60 + p) (h4 : k ≠ 68 + p) : peS s p a b k = s k := by
  unfold peS
  rw [up_ne (by omega), up_ne (by omega), up_ne (by omega), up_ne (by omega)]
theorem peS_at {s : Nat → Int32} {p : Nat} {a b : Int32} (hp : p < 8) : peS s p a b 78 = (s 78 ||| ((1 : Int32) <<< (nI p &&& 31))) ∧ peS s p a b (52 + p) = a ∧ peS s p a b (60 + p) = b ∧ peS s p a b (68 + p) = 0 := by
  unfold peS
  refine ⟨?_, ?_, ?_, ?_⟩
  · rw [up_ne (by omega), up_ne (by omega), up_ne (by omega), up_eq]
  · rw [up_ne (by omega), up_ne (by omega), up_eq]
  · rw [up_ne (by omega), up_eq]
  · rw [up_eq]
theorem peS_pe {s : Nat → Int32} {p p' : Nat} {a b : Int32} (h : peO s) (hp : p < 8) (hp' : p' < 8) : isPe (peS s p a b) (nI p') = (decide (p' = p) || isPe s (nI p')) := by
  obtain ⟨q, h1, h2⟩ := h
  obtain ⟨o1, o2, o3⟩ := or_bit8 q h1 p hp
  unfold isPe
  rw [(peS_at hp).1, h2, o1, o3 p' hp', in07 p' hp', Bool.true_and, Bool.true_and]
theorem peS_ok {s : Nat → Int32} {p : Nat} {a b : Int32} (h : RowOk s) (hp : p < 8) (hb : inS b 0 3 = true) : RowOk (peS s p a b) := by
  obtain ⟨⟨pp, d, h1, h2, h3, h4⟩, ⟨q, h5, h6⟩, h7, h8⟩ := id h
  obtain ⟨o1, o2, o3⟩ := or_bit8 q h5 p hp
  obtain ⟨a1, a2, a3, a4⟩ := peS_at (s := s) (a := a) (b := b) hp
  obtain ⟨r, r1, rfl⟩ := inS_n (n := 3) (by omega) hb
  have n : ∀ k, k < 52 ∨ k = 76 ∨ k = 77 → peS s p a (nI r) k = s k := fun k hk => peS_ne (by omega) (by omega) (by omega) (by omega)
  have hip : ∀ x, isPl (peS s p a (nI r)) x = isPl s x := fun x => by unfold isPl; rw [n 76 (by omega)]
  refine ⟨⟨pp, d, h1, h2, (n _ (by omega)).trans h3, (n _ (by omega)).trans h4⟩, ⟨q ||| 2 ^ p, o2, a1.trans (by rw [h6, o1])⟩, fun p' hp' => ?_, fun l' hl' => ?_⟩
  · by_cases e : p' = p
    · subst e; exact ⟨r, by omega, a3⟩
    · obtain ⟨r', r1', r2'⟩ := h7 p' hp'
      exact ⟨r', r1', (peS_ne (by omega) (by omega) (by omega) (by omega)).trans r2'⟩
  · obtain ⟨g1, g2⟩ := h8 l' hl'
    rw [hip, n 77 (by omega)]
    refine ⟨fun hx => ?_, g2⟩
    obtain ⟨⟨pot', w', br', dd, r', k1, k2, k3, k4, k5, k6⟩, k7⟩ := g1 hx
    refine ⟨⟨pot', w', br', dd, r', (n _ (by omega)).trans k1, (n _ (by omega)).trans k2, (n _ (by omega)).trans k3, (n _ (by omega)).trans k4, (n _ (by omega)).trans k5, k6⟩, ?_⟩
    rw [k7]
    unfold plD
    rw [n (8 + l') (by omega), n (12 + l') (by omega), n (16 + l') (by omega)]
theorem C_person {o : Nat} {M : MM} {S : St} {p t r : Int32} {Post : Int32 → MM → Prop} (hC : CR o M S) (hS : SOk S) (h0 : peV p t r = false → Post 0 M) (h1 : ∀ p', p' < 8 → p = nI p' → peV p t r = true → ∀ M', kX o M M' → CR o M' (peS S.1 p' t r, S.2) → SOk (peS S.1 p' t r, S.2) → Post 1 M') : wp_X0_person M o p t r Post := by
  have hL := hC.1
  have hA := CL_A2 hL
  have hR := hC.2.2.2.1
  obtain ⟨k1, k2, ⟨d, k3, k4⟩, k5⟩ := id hS
  unfold wp_X0_person
  unfold peV at h0 h1
  rw [in_8]
  by_cases e1 : inS p 0 7 = true
  · rw [if_pos e1, if_neg n10, w0_within]
    by_cases e2 : inS t 0 10 = true
    · rw [if_pos e2, if_neg n10, in_4]
      by_cases e3 : inS r 0 3 = true
      · rw [if_pos e3, if_neg n10]
        obtain ⟨p', hp1, rfl⟩ := inS_n (n := 7) (by omega) e1
        have hp' : p' < 8 := by omega
        have kk := h1 p' hp' rfl (by simp [e1, e2, e3])
        obtain ⟨a1, a2, a3, a4⟩ := peS_at (s := S.1) (a := t) (b := r) hp'
        simp (disch := first | assumption | omega) only [CL_t2, CL_t21, CL_t40, CL_r1, CL_r2, CL_r3, CL_r4, CL_k59, CL_l59, CL_r9, CL_k65, CL_l65, CL_r10, CL_k91, CL_l91, CL_r11, CL_k117, CL_l117, CL_r12, CL_k118, CL_l118, CL_r23, CL_k119, CL_l119, CL_r24, CL_k120, CL_l120, CL_r27, CL_k121, CL_l121, CL_r28, CL_k274, CL_l274, CL_r29, CL_k279, CL_l279, CL_r30, CL_k280, CL_l280, CL_r32, CL_k281, CL_l281, mgR_sI, mgR_sL, mkd_sI, mkd_sL, mln_sI, mln_sL, Option.some.injEq, exists_eq_left', forall_eq, true_and, and_true, Nat.reduceLT, exists_eq_left, LA_k, LA_r0, LA_k1, LA_l1, LA_r1, LA_k2, LA_l2, LA_pl, LA_pk, LA_lr, LA_lk, LA_ll, LA_er, LA_ek, OU_k, OU_r0, OU_k1, OU_r13, OU_r5, OU_k60, OU_l60, ia0, ia4, ia8, ia12, ia16, ia20, ia24, ia52, ia60, ia68, im7, im14, ap6, iaN, ap1, ixN, vpN]
        have hF0 : fI (fun a _ => a = o + 2 + 11 + p') M (msI (msI (msI (msI M (o + 2 + 11 + p') 3 1) (o + 2 + 11 + p') 0 t) (o + 2 + 11 + p') 1 r) (o + 2 + 11 + p') 2 0) := fI.s (fI.s (fI.s (fI.s fI.rf (by rfl)) (by rfl)) (by rfl)) (by rfl)
        have hV : ∀ M1, M1 = (msI (msI (msI (msI M (o + 2 + 11 + p') 3 1) (o + 2 + 11 + p') 0 t) (o + 2 + 11 + p') 1 r) (o + 2 + 11 + p') 2 0) → mgI M1 (o + 2 + 11 + p') 3 = 1 ∧ mgI M1 (o + 2 + 11 + p') 0 = t ∧ mgI M1 (o + 2 + 11 + p') 1 = r ∧ mgI M1 (o + 2 + 11 + p') 2 = 0 := by
          intro M1 e
          subst e
          refine ⟨?_, ?_, ?_, ?_⟩ <;> simp only [mgI_sI, Nat.reduceEqDiff, and_false, and_true, and_self, if_true, if_false]
        replace hV := hV _ rfl
        generalize (msI (msI (msI (msI M (o + 2 + 11 + p') 3 1) (o + 2 + 11 + p') 0 t) (o + 2 + 11 + p') 1 r) (o + 2 + 11 + p') 2 0) = M2 at hF0 hV ⊢
        obtain ⟨v1, v2, v3, v4⟩ := hV
        have hG : cG o M M2 := hF0.cg (fun a k e => by unfold cF; omega)
        have n : ∀ k, k ≠ 78 → k < 52 ∨ 76 ≤ k → peS S.1 p' t r k = S.1 k := fun k q1 q2 => peS_ne q1 (by omega) (by omega) (by omega)
        refine kk M2 hG.x (hC.g hG ⟨fun l2 hl2 => ?_, fun p2 hp2 => ?_, ?_, ?_⟩) ⟨peS_ok k1 hp' e3, k2, ⟨d, k3, (n _ (by omega) (by omega)).trans k4⟩, k5⟩
        · exact ((hR.1 l2 hl2).e (fun k => hF0.2 _ _ (by omega)) (fun k => hF0.2 _ _ (by omega))).se hl2 (fun k hk => n k (by omega) (by omega))
        · have hpe := peS_pe (a := t) (b := r) k1.2.1 hp' hp2
          by_cases ep : p2 = p'
          · subst ep
            unfold PeR
            rw [v1, v2, v3, v4, a2, a3, a4, hpe]
            exact Or.inl ⟨by simp, rfl, rfl, rfl, rfl⟩
          · rw [show decide (p2 = p') = false by simp [ep], Bool.false_or] at hpe
            exact ((hR.2.1 p2 hp2).e (fun k => hF0.2 _ _ (by omega))).n hpe (fun k hk => peS_ne (by omega) (by omega) (by omega) (by omega))
        · exact ((hF0.2 _ _ (by omega)).trans hR.2.2.1).trans (n _ (by omega) (by omega)).symm
        · exact ((hF0.2 _ _ (by omega)).trans hR.2.2.2).trans (n _ (by omega) (by omega)).symm
      · rw [if_neg e3, if_pos rfl]; exact h0 (by simp [e3])
    · rw [if_neg e2, if_pos rfl]; exact h0 (by simp [e2])
  · rw [if_neg e1, if_pos rfl]; exact h0 (by simp [e1])
theorem caS_m2 {h w : Int32} (hb : h = 0 ∨ h = 1) (hw : w = -1 ∨ 0 ≤ w) : (if caS h w = -2 then (1 : Int32) else 0) = 1 - h := by
  unfold caS
  rcases hb with rfl | rfl
  · rfl
  · rw [if_neg (show ¬ (1 : Int32) = 0 by decide)]
    by_cases e : w = -1
    · rw [if_pos e]; rfl
    · rw [if_neg e]
      have n : ¬ w = -2 := by
        intro x
        rw [x] at hw
        exact absurd (hw.resolve_left (by decide)) (by decide)
      rw [if_neg n]; rfl
theorem C_card {o : Nat} {M : MM} {S : St} {l h : Int32} {Post : Int32 → MM → Prop} (hC : CR o M S) (hS : SOk S) (hh : h = 0 ∨ h = 1) (hn : (caV S.1 l h = false) → Post 0 M) (h1 : ∀ l', l' < 4 → l = nI l' → caV S.1 l h = true → ∀ M', kX o M M' → CR o M' (up S.1 (20 + l') (if h = 0 then -2 else -3), S.2) → SOk (up S.1 (20 + l') (if h = 0 then -2 else -3), S.2) → Post 1 M') : wp_X0_card M o l h Post := by
  have hL := hC.1
  have hA := CL_A2 hL
  have hR := hC.2.2.2.1
  obtain ⟨k1, k2, ⟨d, k3, k4⟩, k5⟩ := id hS
  unfold wp_X0_card
  unfold caV at hn h1
  rw [w0_isPlant hL hR]
  by_cases e1 : isPl S.1 l = true
  · rw [if_pos e1, if_neg n10]
    obtain ⟨l', hl', rfl⟩ := isPl_n e1
    obtain ⟨q8, t1, t2, t3, t4, t5, t6, t7, t8⟩ := hR.pl hl' e1
    have q9 := (hR.1 l' hl').1
    have hi : ix_ (20 + nI l') = 20 + l' := by rw [ia20, ixN (by omega)]
    rw [hi, ← t6, caS_m2 q9 t7, e1, Bool.true_and] at hn h1
    simp (disch := first | assumption | omega) only [CL_t2, CL_t21, CL_t40, CL_r1, CL_r2, CL_r3, CL_r4, CL_k59, CL_l59, CL_r9, CL_k65, CL_l65, CL_r10, CL_k91, CL_l91, CL_r11, CL_k117, CL_l117, CL_r12, CL_k118, CL_l118, CL_r23, CL_k119, CL_l119, CL_r24, CL_k120, CL_l120, CL_r27, CL_k121, CL_l121, CL_r28, CL_k274, CL_l274, CL_r29, CL_k279, CL_l279, CL_r30, CL_k280, CL_l280, CL_r32, CL_k281, CL_l281, mgR_sI, mgR_sL, mkd_sI, mkd_sL, mln_sI, mln_sL, Option.some.injEq, exists_eq_left', forall_eq, true_and, and_true, Nat.reduceLT, exists_eq_left, LA_k, LA_r0, LA_k1, LA_l1, LA_r1, LA_k2, LA_l2, LA_pl, LA_pk, LA_lr, LA_lk, LA_ll, LA_er, LA_ek, OU_k, OU_r0, OU_k1, OU_r13, OU_r5, OU_k60, OU_l60, ia0, ia4, ia8, ia12, ia16, ia20, ia24, ia52, ia60, ia68, im7, im14, ap6, iaN, ap1, ixN, vpN]
    by_cases e2 : mgI M (o + 2 + 3 + 2 * l') 9 = h
    · rw [if_pos e2]
      refine hn ?_
      rw [e2]
      rcases hh with rfl | rfl <;> decide
    · rw [if_neg e2]
      have e3 : (1 : Int32) - mgI M (o + 2 + 3 + 2 * l') 9 = h := by
        rcases hh with rfl | rfl
        · rcases q9 with x | x
          · exact absurd x e2
          · rw [x]; rfl
        · rcases q9 with x | x
          · rw [x]; rfl
          · exact absurd x e2
      refine ⟨hh, ?_⟩
      have hF0 : fI (fun a k => a = o + 2 + 3 + 2 * l' ∧ (k = 9 ∨ k = 7)) M (msI (msI M (o + 2 + 3 + 2 * l') 9 h) (o + 2 + 3 + 2 * l') 7 (-1)) := fI.s (fI.s fI.rf ⟨rfl, Or.inl rfl⟩) ⟨rfl, Or.inr rfl⟩
      have hV : mgI (msI (msI M (o + 2 + 3 + 2 * l') 9 h) (o + 2 + 3 + 2 * l') 7 (-1)) (o + 2 + 3 + 2 * l') 9 = h ∧ mgI (msI (msI M (o + 2 + 3 + 2 * l') 9 h) (o + 2 + 3 + 2 * l') 7 (-1)) (o + 2 + 3 + 2 * l') 7 = -1 := by
        constructor <;> simp only [mgI_sI, Nat.reduceEqDiff, and_false, and_true, and_self, if_true, if_false]
      have hA9 : LA (o + 2) (msI M (o + 2 + 3 + 2 * l') 9 h) := LA_of rfl hA
      have hL9 : CL o (msI M (o + 2 + 3 + 2 * l') 9 h) := CL_of rfl hL
      try simp only [forall_eq]
      generalize (msI (msI M (o + 2 + 3 + 2 * l') 9 h) (o + 2 + 3 + 2 * l') 7 (-1)) = M2 at hF0 hV ⊢
      obtain ⟨v1, v2⟩ := hV
      have hG : cG o M M2 := hF0.cg (fun a k e => by unfold cF; omega)
      have n : ∀ k, k ≠ 20 + l' → up S.1 (20 + l') (if h = 0 then -2 else -3) k = S.1 k := fun k q1 => up_ne (by omega)
      refine h1 l' hl' rfl (by rw [e3]; exact decide_eq_true rfl) M2 hG.x (hC.g hG ⟨fun l2 hl2 => ?_, fun p2 hp2 => ?_, ?_, ?_⟩) ⟨k1.se (fun k hk => n k (by omega)), k2, ⟨d, k3, (n _ (by omega)).trans k4⟩, k5⟩
      · by_cases el : l2 = l'
        · subst el
          have m : ∀ k, k ≠ 9 → k ≠ 7 → mgI M2 (o + 2 + 3 + 2 * l2) k = mgI M (o + 2 + 3 + 2 * l2) k := fun k x y => hF0.2 _ _ (by omega)
          have m2 : ∀ k, mgI M2 (o + 2 + 4 + 2 * l2) k = mgI M (o + 2 + 4 + 2 * l2) k := fun k => hF0.2 _ _ (by omega)
          have hip : isPl (up S.1 (20 + l2) (if h = 0 then -2 else -3)) (nI l2) = isPl S.1 (nI l2) := by unfold isPl; rw [n 76 (by omega)]
          unfold PlR PlT
          rw [v1, v2, m 8 (by omega) (by omega), m 1 (by omega) (by omega), m 2 (by omega) (by omega), m 3 (by omega) (by omega), m 4 (by omega) (by omega), m 5 (by omega) (by omega), m 6 (by omega) (by omega), hip, e1, n l2 (by omega), n (4 + l2) (by omega), n (8 + l2) (by omega), n (12 + l2) (by omega), n (16 + l2) (by omega), up_eq]
          refine ⟨hh, Or.inl ⟨rfl, q8, t1, t2, t3, t4, t5, ?_, Or.inl rfl, ?_⟩⟩
          · unfold caS
            rcases hh with rfl | rfl <;> rfl
          · obtain ⟨q, g1, g2, g3⟩ := t8
            exact ⟨q, g1, g2, fun j hj => ((m2 _).trans (g3 j hj)).trans (n _ (by omega)).symm⟩
        · exact ((hR.1 l2 hl2).e (fun k => hF0.2 _ _ (by omega)) (fun k => hF0.2 _ _ (by omega))).se hl2 (fun k hk => n k (by omega))
      · exact ((hR.2.1 p2 hp2).e (fun k => hF0.2 _ _ (by omega))).se (fun k hk => n k (by omega))
      · exact ((hF0.2 _ _ (by omega)).trans hR.2.2.1).trans (n _ (by omega)).symm
      · exact ((hF0.2 _ _ (by omega)).trans hR.2.2.2).trans (n _ (by omega)).symm
  · rw [if_neg e1, if_pos rfl]; exact hn (by simp [e1])
/-- a plant gets water -/
theorem w4_gets {M : MM} {a l : Nat} {s : Nat → Int32} {x : Int32} {c : Nat} {Post : Int32 → MM → Prop} (h : PlT M a s l) (ht : tdO s l) (hx : x = nI c) (hc : c ≤ 24) (hP : ∀ b, Post b (msI M (a + 3 + 2 * l) 2 (mi_ (s l) (s (4 + l) + x)))) : wp_X4_gets M (a + 3 + 2 * l) x Post := by
  obtain ⟨t1, t2, _⟩ := h
  obtain ⟨pot, w, br, d, r, k1, k2, k3, k4, k5, k6, k7, k8, k9⟩ := ht
  unfold wp_X4_gets
  rw [t1, t2]
  simp only [forall_eq]
  have e : (s (4 + l) + x) - mx_ (0 : Int32) ((s (4 + l) + x) - s l) = mi_ (s l) (s (4 + l) + x) := by
    rw [hx, k1, k2, iaN, mi_nI (by omega) (by omega), show mx_ (0 : Int32) (nI (w + c) - nI pot) = ma_ 0 (nI (w + c) - nI pot) from mx_ma, ma_sub (by omega) (by omega)]
    rw [pk_sub (by omega)]
    exact congrArg nI (by omega)
  rw [e]
  exact hP _
theorem up_wet_ok {s : Nat → Int32} {l c : Nat} (h : RowOk s) (hl : l < 4) (hx : isPl s (nI l) = true) (hc : c ≤ 24) : RowOk (up s (4 + l) (mi_ (s l) (s (4 + l) + nI c))) := by
  obtain ⟨pot, w, br, d, r, k1, k2, k3, k4, k5, k6, k7, k8, k9⟩ := h.td hl hx
  refine h.wet hl (fun k h1 h2 => up_ne (by omega)) (fun _ => ⟨pot, min pot (w + c), k1, k7, Nat.min_le_left _ _, ?_⟩)
  rw [up_eq, k1, k2, iaN, mi_nI (by omega) (by omega)]
/-- the landing after one wetness is set -/
theorem LdR.wet {M : MM} {a l : Nat} {s : Nat → Int32} {v : Int32} (h : LdR M a s) (hl : l < 4) (hp : isPl s (nI l) = true) : LdR (msI M (a + 3 + 2 * l) 2 v) a (up s (4 + l) v) := by
  have hF0 : fI (fun b k => b = a + 3 + 2 * l ∧ k = 2) M (msI M (a + 3 + 2 * l) 2 v) := fI.s fI.rf ⟨rfl, rfl⟩
  have hV : mgI (msI M (a + 3 + 2 * l) 2 v) (a + 3 + 2 * l) 2 = v := by rw [mgI_sI, if_pos ⟨rfl, rfl⟩]
  generalize msI M (a + 3 + 2 * l) 2 v = M2 at hF0 hV ⊢
  have n : ∀ k, k ≠ 4 + l → up s (4 + l) v k = s k := fun k q1 => up_ne (by omega)
  have hip : isPl (up s (4 + l) v) (nI l) = isPl s (nI l) := by unfold isPl; rw [n 76 (by omega)]
  refine ⟨fun l2 hl2 => ?_, fun p2 hp2 => ?_, ?_, ?_⟩
  · by_cases el : l2 = l
    · subst el
      obtain ⟨q8, t1, t2, t3, t4, t5, t6, t7, t8⟩ := h.pl hl hp
      have q9 := (h.1 l2 hl2).1
      have m : ∀ k, k ≠ 2 → mgI M2 (a + 3 + 2 * l2) k = mgI M (a + 3 + 2 * l2) k := fun k x => hF0.2 _ _ (by omega)
      have m2 : ∀ k, mgI M2 (a + 4 + 2 * l2) k = mgI M (a + 4 + 2 * l2) k := fun k => hF0.2 _ _ (by omega)
      unfold PlR PlT
      rw [hV, m 9 (by omega), m 8 (by omega), m 1 (by omega), m 7 (by omega), m 3 (by omega), m 4 (by omega), m 5 (by omega), m 6 (by omega), hip, n l2 (by omega), up_eq, n (8 + l2) (by omega), n (12 + l2) (by omega), n (16 + l2) (by omega), n (20 + l2) (by omega)]
      refine ⟨q9, Or.inl ⟨hp, q8, t1, rfl, t3, t4, t5, t6, t7, ?_⟩⟩
      obtain ⟨q, g1, g2, g3⟩ := t8
      exact ⟨q, g1, g2, fun j hj => ((m2 _).trans (g3 j hj)).trans (n _ (by omega)).symm⟩
    · exact ((h.1 l2 hl2).e (fun k => hF0.2 _ _ (by omega)) (fun k => hF0.2 _ _ (by omega))).se hl2 (fun k hk => n k (by omega))
  · exact ((h.2.1 p2 hp2).e (fun k => hF0.2 _ _ (by omega))).se (fun k hk => n k (by omega))
  · exact ((hF0.2 _ _ (by omega)).trans h.2.2.1).trans (n _ (by omega)).symm
  · exact ((hF0.2 _ _ (by omega)).trans h.2.2.2).trans (n _ (by omega)).symm
theorem C_pour {o : Nat} {M : MM} {S : St} {l c : Int32} {Post : Int32 → MM → Prop} (hC : CR o M S) (hS : SOk S) (h0 : (livS S.1 l && inS c 0 24) = false → Post (-1) M) (h1 : ∀ l', l' < 4 → l = nI l' → (livS S.1 l && inS c 0 24) = true → ∀ M', kX o M M' → CR o M' (up S.1 (4 + l') (mi_ (S.1 l') (S.1 (4 + l') + c)), S.2) → SOk (up S.1 (4 + l') (mi_ (S.1 l') (S.1 (4 + l') + c)), S.2) → Post (mi_ (S.1 l') (S.1 (4 + l') + c)) M') : wp_X0_pour M o l c Post := by
  have hL := hC.1
  have hA := CL_A2 hL
  have hR := hC.2.2.2.1
  obtain ⟨k1, k2, ⟨d, k3, k4⟩, k5⟩ := id hS
  unfold wp_X0_pour
  rw [w0_isPlant hL hR]
  by_cases e1 : isPl S.1 l = true
  · rw [if_pos e1, if_neg n10]
    obtain ⟨l', hl', rfl⟩ := isPl_n e1
    have hT := (hR.pl hl' e1).2
    have hlv := livS_iff k1 hl' e1
    simp (disch := first | assumption | omega) only [CL_t2, CL_t21, CL_t40, CL_r1, CL_r2, CL_r3, CL_r4, CL_k59, CL_l59, CL_r9, CL_k65, CL_l65, CL_r10, CL_k91, CL_l91, CL_r11, CL_k117, CL_l117, CL_r12, CL_k118, CL_l118, CL_r23, CL_k119, CL_l119, CL_r24, CL_k120, CL_l120, CL_r27, CL_k121, CL_l121, CL_r28, CL_k274, CL_l274, CL_r29, CL_k279, CL_l279, CL_r30, CL_k280, CL_l280, CL_r32, CL_k281, CL_l281, mgR_sI, mgR_sL, mkd_sI, mkd_sL, mln_sI, mln_sL, Option.some.injEq, exists_eq_left', forall_eq, true_and, and_true, Nat.reduceLT, exists_eq_left, LA_k, LA_r0, LA_k1, LA_l1, LA_r1, LA_k2, LA_l2, LA_pl, LA_pk, LA_lr, LA_lk, LA_ll, LA_er, LA_ek, OU_k, OU_r0, OU_k1, OU_r13, OU_r5, OU_k60, OU_l60, ia0, ia4, ia8, ia12, ia16, ia20, ia24, ia52, ia60, ia68, im7, im14, ap6, iaN, ap1, ixN, vpN]
    rw [w4_isDead hT]
    by_cases e2 : plD S.1 l' = true
    · rw [if_pos e2, if_neg n10]; exact h0 (by rw [hlv, e2]; rfl)
    · rw [if_neg e2, if_pos rfl, w0_within]
      by_cases e3 : inS c 0 24 = true
      · rw [if_pos e3, if_neg n10]
        obtain ⟨c', hc', rfl⟩ := inS_n (n := 24) (by omega) e3
        simp (disch := first | assumption | omega) only [CL_t2, CL_t21, CL_t40, CL_r1, CL_r2, CL_r3, CL_r4, CL_k59, CL_l59, CL_r9, CL_k65, CL_l65, CL_r10, CL_k91, CL_l91, CL_r11, CL_k117, CL_l117, CL_r12, CL_k118, CL_l118, CL_r23, CL_k119, CL_l119, CL_r24, CL_k120, CL_l120, CL_r27, CL_k121, CL_l121, CL_r28, CL_k274, CL_l274, CL_r29, CL_k279, CL_l279, CL_r30, CL_k280, CL_l280, CL_r32, CL_k281, CL_l281, mgR_sI, mgR_sL, mkd_sI, mkd_sL, mln_sI, mln_sL, Option.some.injEq, exists_eq_left', forall_eq, true_and, and_true, Nat.reduceLT, exists_eq_left, LA_k, LA_r0, LA_k1, LA_l1, LA_r1, LA_k2, LA_l2, LA_pl, LA_pk, LA_lr, LA_lk, LA_ll, LA_er, LA_ek, OU_k, OU_r0, OU_k1, OU_r13, OU_r5, OU_k60, OU_l60, ia0, ia4, ia8, ia12, ia16, ia20, ia24, ia52, ia60, ia68, im7, im14, ap6, iaN, ap1, ixN, vpN]
        refine w4_gets hT (k1.td hl' e1) rfl hc' (fun b => ?_)
        have hR2 := hR.wet (v := mi_ (S.1 l') (S.1 (4 + l') + nI c')) hl' e1
        have hG : cG o M (msI M (o + 2 + 3 + 2 * l') 2 (mi_ (S.1 l') (S.1 (4 + l') + nI c'))) := cG.rf.s (by unfold cF; omega)
        have hV : mgI (msI M (o + 2 + 3 + 2 * l') 2 (mi_ (S.1 l') (S.1 (4 + l') + nI c'))) (o + 2 + 3 + 2 * l') 2 = mi_ (S.1 l') (S.1 (4 + l') + nI c') := by rw [mgI_sI, if_pos ⟨rfl, rfl⟩]
        have hL9 : CL o (msI M (o + 2 + 3 + 2 * l') 2 (mi_ (S.1 l') (S.1 (4 + l') + nI c'))) := CL_of rfl hL
        have hA9 := CL_A2 hL9
        generalize msI M (o + 2 + 3 + 2 * l') 2 (mi_ (S.1 l') (S.1 (4 + l') + nI c')) = M2 at hR2 hG hV hL9 hA9 ⊢
        simp (disch := first | assumption | omega) only [CL_t2, CL_t21, CL_t40, CL_r1, CL_r2, CL_r3, CL_r4, CL_k59, CL_l59, CL_r9, CL_k65, CL_l65, CL_r10, CL_k91, CL_l91, CL_r11, CL_k117, CL_l117, CL_r12, CL_k118, CL_l118, CL_r23, CL_k119, CL_l119, CL_r24, CL_k120, CL_l120, CL_r27, CL_k121, CL_l121, CL_r28, CL_k274, CL_l274, CL_r29, CL_k279, CL_l279, CL_r30, CL_k280, CL_l280, CL_r32, CL_k281, CL_l281, mgR_sI, mgR_sL, mkd_sI, mkd_sL, mln_sI, mln_sL, Option.some.injEq, exists_eq_left', forall_eq, true_and, and_true, Nat.reduceLT, exists_eq_left, LA_k, LA_r0, LA_k1, LA_l1, LA_r1, LA_k2, LA_l2, LA_pl, LA_pk, LA_lr, LA_lk, LA_ll, LA_er, LA_ek, OU_k, OU_r0, OU_k1, OU_r13, OU_r5, OU_k60, OU_l60, ia0, ia4, ia8, ia12, ia16, ia20, ia24, ia52, ia60, ia68, im7, im14, ap6, iaN, ap1, ixN, vpN]
        rw [hV]
        exact h1 l' hl' rfl (by rw [hlv, e3]; simpa using e2) M2 hG.x (hC.g hG hR2) ⟨up_wet_ok k1 hl' e1 hc', k2, ⟨d, k3, (up_ne (by omega)).trans k4⟩, k5⟩
      · rw [if_neg e3, if_pos rfl]; exact h0 (by simp [e3])
  · rw [if_neg e1, if_pos rfl]; exact h0 (by unfold livS; simp [e1])
