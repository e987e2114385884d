/-! the component: counts, a trial of days -/
set_option maxRecDepth 100000
theorem cnt_lo {s : Nat → Int32} : ∀ j, j < 7 → inS (nI j - (10 : Int32)) 0 3 = false ∧ isPe s (nI j - (20 : Int32)) = false ∧ isPe s (nI j - (30 : Int32)) = false ∧ isPe s (nI j - (40 : Int32)) = false := by
  have k : ∀ j, j < 7 → inS (nI j - (10 : Int32)) 0 3 = false ∧ inS (nI j - (20 : Int32)) 0 7 = false ∧ inS (nI j - (30 : Int32)) 0 7 = false ∧ inS (nI j - (40 : Int32)) 0 7 = false := by decide
  intro j hj
  obtain ⟨h1, h2, h3, h4⟩ := k j hj
  unfold isPe
  rw [h2, h3, h4]
  exact ⟨h1, rfl, rfl, rfl⟩
theorem and_sub {s : Nat → Int32} {w : Int32} {c : Nat} (h : c + 7 < 2147483648) : (inS w (nI c) (nI (c + 7)) && isPe s (w - nI c)) = isPe s (w - nI c) := by
  by_cases e : isPe s (w - nI c) = true
  · rw [isPe_sub h e, e]; rfl
  · rw [show isPe s (w - nI c) = false by simpa using e, Bool.and_false]
theorem CT.ru {o r : Nat} {M : MM} {T : Nat → Txt} (h : CT o M T) (hr : r < 4) : (mgR M (o + 60) r = none ∧ (T (r + 1)).length = 0) ∨ ∃ b, mgR M (o + 60) r = some b ∧ mkd M b = 6 ∧ mgI M b 3 = nI (T (r + 1)).length := by
  rcases h.2 r hr with ⟨h1, h2⟩ | ⟨b, h1, h2, lo, hi, h3, h4, h5⟩
  · exact Or.inl ⟨h1, by rw [h2]; rfl⟩
  · exact Or.inr ⟨b, h1, h2, h5.2.2.1⟩
theorem CT.law {o : Nat} {M : MM} {T : Nat → Txt} (h : CT o M T) : ∃ b, mgR M o 6 = some b ∧ mkd M b = 6 ∧ mgI M b 3 = nI (T 0).length := by
  obtain ⟨⟨b, h1, lo, hi, h3, h4, h5⟩, _⟩ := h
  exact ⟨b, h1, h5.2.1, h5.2.2.1⟩
theorem C_count {o : Nat} {M : MM} {S : St} {w : Int32} {Post : Int32 → MM → Prop} (hC : CR o M S) (hS : SOk S) (h : Post (coS S w) M) : wp_X0_count M o w Post := by
  have hL := hC.1
  have hA := CL_A2 hL
  have hO := hC.2.1
  have hT := hC.2.2.1
  have hR := hC.2.2.2.1
  unfold wp_X0_count
  rw [in_4]
  by_cases hlo : ∃ j, j < 7 ∧ w = nI j
  · obtain ⟨j, hj, rfl⟩ := hlo
    obtain ⟨a1, a2, a3, a4⟩ := cnt_lo (s := S.1) j hj
    have ne : ∀ i, i < 7 → i ≠ j → ¬ nI j = nI i := fun i hi hij e => hij ((nI_eq (a := j) (b := i) (by omega) (by omega)).mp e).symm
    rw [if_neg (by rw [a1]; decide), if_pos rfl, w0_isPerson hL hR, if_neg (by rw [a2]; decide), if_pos rfl, w0_isPerson hL hR, if_neg (by rw [a3]; decide), if_pos rfl, w0_isPerson hL hR, if_neg (by rw [a4]; decide), if_pos rfl]
    unfold coS at h
    by_cases c0 : nI j = (0 : Int32)
    · rw [if_pos c0] at h ⊢
      refine ⟨o + 2, CL_r1 hL, LA_k hA, ?_⟩
      rw [hR.2.2.1]; exact h
    rw [if_neg c0] at h ⊢
    by_cases c1 : nI j = (1 : Int32)
    · rw [if_pos c1] at h ⊢
      exact w0_toldPlants hL hS.1 hR h
    rw [if_neg c1] at h ⊢
    by_cases c2 : nI j = (2 : Int32)
    · rw [if_pos c2] at h ⊢
      exact ⟨o + 2, CL_r1 hL, LA_k hA, w3_dead hA hS.1 hR h⟩
    rw [if_neg c2] at h ⊢
    by_cases c3 : nI j = (3 : Int32)
    · rw [if_pos c3] at h ⊢
      exact w0_toldPeople hL hS.1 hR h
    rw [if_neg c3] at h ⊢
    by_cases c4 : nI j = (4 : Int32)
    · rw [if_pos c4] at h ⊢
      obtain ⟨b, b1, b2, b3⟩ := hT.law
      refine ⟨b, b1, b2, ?_⟩
      rw [b3]; exact h
    rw [if_neg c4] at h ⊢
    by_cases c5 : nI j = (5 : Int32)
    · rw [if_pos c5] at h ⊢
      rw [hC.2.2.2.2.2.2.2.1]; exact h
    rw [if_neg c5] at h ⊢
    by_cases c6 : nI j = (6 : Int32)
    · rw [if_pos c6] at h ⊢
      refine ⟨o + 2, CL_r1 hL, LA_k hA, ?_⟩
      rw [hR.2.2.2]; exact h
    have : j = 0 ∨ j = 1 ∨ j = 2 ∨ j = 3 ∨ j = 4 ∨ j = 5 ∨ j = 6 := by omega
    rcases this with rfl | rfl | rfl | rfl | rfl | rfl | rfl
    · exact absurd rfl c0
    · exact absurd rfl c1
    · exact absurd rfl c2
    · exact absurd rfl c3
    · exact absurd rfl c4
    · exact absurd rfl c5
    · exact absurd rfl c6
  · have nz : ∀ k, k < 7 → ¬ w = nI k := fun k hk e => hlo ⟨k, hk, e⟩
    have n0 : ¬ w = (0 : Int32) := nz 0 (by omega)
    have n1 : ¬ w = (1 : Int32) := nz 1 (by omega)
    have n2 : ¬ w = (2 : Int32) := nz 2 (by omega)
    have n3 : ¬ w = (3 : Int32) := nz 3 (by omega)
    have n4 : ¬ w = (4 : Int32) := nz 4 (by omega)
    have n5 : ¬ w = (5 : Int32) := nz 5 (by omega)
    have n6 : ¬ w = (6 : Int32) := nz 6 (by omega)
    unfold coS at h
    rw [if_neg n0, if_neg n1, if_neg n2, if_neg n3, if_neg n4, if_neg n5, if_neg n6] at h
    have ei : inS (w - (10 : Int32)) 0 3 = inS w 10 13 := in_sub (w := w) (c := 10) (k := 3) (by omega)
    rw [ei]
    by_cases e1 : inS w 10 13 = true
    · rw [if_pos e1] at h
      rw [if_pos e1, if_neg n10]
      obtain ⟨j, hj1, hj2, rfl⟩ := inS_ab (a := 10) (b := 13) (by omega) (by omega) e1
      have g1 : nI j - (9 : Int32) = nI (j - 9) := (show nI j - nI 9 = _ from pk_sub (by omega))
      have g2 : nI j - (10 : Int32) = nI (j - 10) := (show nI j - nI 10 = _ from pk_sub (by omega))
      rw [g1, ixN (by omega)] at h
      rw [g2]
      have g3 : j - 9 = j - 10 + 1 := by omega
      rw [g3] at h
      rcases hT.ru (r := j - 10) (by omega) with ⟨q1, q2⟩ | ⟨b, q1, q2, q3⟩
      · rw [q2] at h
        simp (disch := first | assumption | omega) only [mgR_sI, mgR_sL, mkd_sI, mkd_sL, mln_sI, mln_sL, Option.some.injEq, exists_eq_left', forall_eq, true_and, and_true, Nat.reduceLT, exists_eq_left, LA_k, LA_r0, LA_k1, LA_l1, LA_r1, LA_k2, LA_l2, LA_pl, LA_pk, LA_lr, LA_lk, LA_ll, LA_er, LA_ek, OU_k, OU_r0, OU_k1, OU_r13, OU_r5, OU_k60, OU_l60, ia0, ia4, ia8, ia12, ia16, ia20, ia24, ia52, ia60, ia68, im7, im14, ap6, iaN, ap1, ixN, vpN, q1, if_true]
        exact h
      · rw [← q3] at h
        simp (disch := first | assumption | omega) only [mgR_sI, mgR_sL, mkd_sI, mkd_sL, mln_sI, mln_sL, Option.some.injEq, exists_eq_left', forall_eq, true_and, and_true, Nat.reduceLT, exists_eq_left, LA_k, LA_r0, LA_k1, LA_l1, LA_r1, LA_k2, LA_l2, LA_pl, LA_pk, LA_lr, LA_lk, LA_ll, LA_er, LA_ek, OU_k, OU_r0, OU_k1, OU_r13, OU_r5, OU_k60, OU_l60, ia0, ia4, ia8, ia12, ia16, ia20, ia24, ia52, ia60, ia68, im7, im14, ap6, iaN, ap1, ixN, vpN, q1]
        rw [if_neg (by simp)]
        exact ⟨q2, h⟩
    · rw [if_neg e1] at h
      rw [if_neg e1, if_pos rfl, w0_isPerson hL hR]
      unfold co2 at h
      rw [show (inS w 20 27 && isPe S.1 (w - 20)) = isPe S.1 (w - 20) from and_sub (c := 20) (by omega)] at h
      by_cases e2 : isPe S.1 (w - 20) = true
      · rw [if_pos e2] at h
        rw [if_pos e2, if_neg n10]
        obtain ⟨p, hp, ep⟩ := isPe_n e2
        rw [ep] at e2 h ⊢
        obtain ⟨g1, g2, g3, g4⟩ := hR.pe hp e2
        rw [ixN (by omega)] at h
        simp (disch := first | assumption | omega) only [CL_t2, CL_t21, CL_t40, CL_r1, CL_r2, CL_r3, CL_r4, CL_k59, CL_l59, CL_r9, CL_k65, CL_l65, CL_r10, CL_k91, CL_l91, CL_r11, CL_k117, CL_l117, CL_r12, CL_k118, CL_l118, CL_r23, CL_k119, CL_l119, CL_r24, CL_k120, CL_l120, CL_r27, CL_k121, CL_l121, CL_r28, CL_k274, CL_l274, CL_r29, CL_k279, CL_l279, CL_r30, CL_k280, CL_l280, CL_r32, CL_k281, CL_l281, mgR_sI, mgR_sL, mkd_sI, mkd_sL, mln_sI, mln_sL, Option.some.injEq, exists_eq_left', forall_eq, true_and, and_true, Nat.reduceLT, exists_eq_left, LA_k, LA_r0, LA_k1, LA_l1, LA_r1, LA_k2, LA_l2, LA_pl, LA_pk, LA_lr, LA_lk, LA_ll, LA_er, LA_ek, OU_k, OU_r0, OU_k1, OU_r13, OU_r5, OU_k60, OU_l60, ia0, ia4, ia8, ia12, ia16, ia20, ia24, ia52, ia60, ia68, im7, im14, ap6, iaN, ap1, ixN, vpN, g2]
        exact h
      · rw [if_neg e2] at h
        rw [if_neg e2, if_pos rfl, w0_isPerson hL hR]
        unfold co3 at h
        rw [show (inS w 30 37 && isPe S.1 (w - 30)) = isPe S.1 (w - 30) from and_sub (c := 30) (by omega)] at h
        by_cases e3 : isPe S.1 (w - 30) = true
        · rw [if_pos e3] at h
          rw [if_pos e3, if_neg n10]
          obtain ⟨p, hp, ep⟩ := isPe_n e3
          rw [ep] at e3 h ⊢
          obtain ⟨g1, g2, g3, g4⟩ := hR.pe hp e3
          rw [ixN (by omega)] at h
          simp (disch := first | assumption | omega) only [CL_t2, CL_t21, CL_t40, CL_r1, CL_r2, CL_r3, CL_r4, CL_k59, CL_l59, CL_r9, CL_k65, CL_l65, CL_r10, CL_k91, CL_l91, CL_r11, CL_k117, CL_l117, CL_r12, CL_k118, CL_l118, CL_r23, CL_k119, CL_l119, CL_r24, CL_k120, CL_l120, CL_r27, CL_k121, CL_l121, CL_r28, CL_k274, CL_l274, CL_r29, CL_k279, CL_l279, CL_r30, CL_k280, CL_l280, CL_r32, CL_k281, CL_l281, mgR_sI, mgR_sL, mkd_sI, mkd_sL, mln_sI, mln_sL, Option.some.injEq, exists_eq_left', forall_eq, true_and, and_true, Nat.reduceLT, exists_eq_left, LA_k, LA_r0, LA_k1, LA_l1, LA_r1, LA_k2, LA_l2, LA_pl, LA_pk, LA_lr, LA_lk, LA_ll, LA_er, LA_ek, OU_k, OU_r0, OU_k1, OU_r13, OU_r5, OU_k60, OU_l60, ia0, ia4, ia8, ia12, ia16, ia20, ia24, ia52, ia60, ia68, im7, im14, ap6, iaN, ap1, ixN, vpN, g3]
          exact h
        · rw [if_neg e3] at h
          rw [if_neg e3, if_pos rfl, w0_isPerson hL hR]
          unfold co4 at h
          rw [show (inS w 40 47 && isPe S.1 (w - 40)) = isPe S.1 (w - 40) from and_sub (c := 40) (by omega)] at h
          by_cases e4 : isPe S.1 (w - 40) = true
          · rw [if_pos e4] at h
            rw [if_pos e4, if_neg n10]
            obtain ⟨p, hp, ep⟩ := isPe_n e4
            rw [ep] at e4 h ⊢
            obtain ⟨g1, g2, g3, g4⟩ := hR.pe hp e4
            rw [ixN (by omega)] at h
            simp (disch := first | assumption | omega) only [CL_t2, CL_t21, CL_t40, CL_r1, CL_r2, CL_r3, CL_r4, CL_k59, CL_l59, CL_r9, CL_k65, CL_l65, CL_r10, CL_k91, CL_l91, CL_r11, CL_k117, CL_l117, CL_r12, CL_k118, CL_l118, CL_r23, CL_k119, CL_l119, CL_r24, CL_k120, CL_l120, CL_r27, CL_k121, CL_l121, CL_r28, CL_k274, CL_l274, CL_r29, CL_k279, CL_l279, CL_r30, CL_k280, CL_l280, CL_r32, CL_k281, CL_l281, mgR_sI, mgR_sL, mkd_sI, mkd_sL, mln_sI, mln_sL, Option.some.injEq, exists_eq_left', forall_eq, true_and, and_true, Nat.reduceLT, exists_eq_left, LA_k, LA_r0, LA_k1, LA_l1, LA_r1, LA_k2, LA_l2, LA_pl, LA_pk, LA_lr, LA_lk, LA_ll, LA_er, LA_ek, OU_k, OU_r0, OU_k1, OU_r13, OU_r5, OU_k60, OU_l60, ia0, ia4, ia8, ia12, ia16, ia20, ia24, ia52, ia60, ia68, im7, im14, ap6, iaN, ap1, ixN, vpN, g4]
            exact h
          · rw [if_neg e4] at h
            rw [if_neg e4, if_pos rfl, if_neg n0, if_neg n1, if_neg n2, if_neg n3, if_neg n4, if_neg n5, if_neg n6]
            exact h
/-- who is told stays, what was given is counted -/
def gvI (s : Nat → Int32) (D : Dy) : Prop := D.1 76 = s 76 ∧ D.1 78 = s 78 ∧ ∀ p, p < 8 → D.1 (68 + p) = s (68 + p) + D.2.2.2.2 p
theorem gvI_up {s r : Nat → Int32} {D : Dy} (h : gvI s D) (e : ∀ k, k = 76 ∨ 68 ≤ k ∧ k < 76 ∨ k = 78 → r k = D.1 k) : gvI s (r, D.2) :=
  ⟨(e 76 (by omega)).trans h.1, (e 78 (by omega)).trans h.2.1, fun p hp => (e _ (by omega)).trans (h.2.2 p hp)⟩
theorem gvI_it {s : Nat → Int32} {F : Nat → Dy → Dy} {n : Nat} (hF : ∀ i D, i < n → gvI s D → gvI s (F i D)) : ∀ m, m ≤ n → ∀ D, gvI s D → gvI s (itN F m D) := by
  intro m
  induction m with
  | zero => intro _ D h; exact h
  | succ m ih => intro hm D h; exact hF m _ (by omega) (ih (by omega) D h)
theorem gvI_wat {s : Nat → Int32} {T : Nat → Txt} {D : Dy} {p l : Nat} (h : gvI s D) (hp : p < 8) (hl : l < 4) : gvI s (watA T D p l) := by
  refine ⟨?_, ?_, fun q hq => ?_⟩
  · exact (watR_ne (by omega) (by omega) (by omega)).trans h.1
  · exact (watR_ne (by omega) (by omega) (by omega)).trans h.2.1
  · show watR D.1 (gvS T D.1 p l) p l (68 + q) = s (68 + q) + up D.2.2.2.2 p (D.2.2.2.2 p + gvS T D.1 p l) q
    by_cases e : q = p
    · subst e
      rw [watR_given hp hl, up_eq, h.2.2 q hq, Int32.add_assoc]
    · rw [up_ne (by omega), watR_ne (by omega) (by omega) (by omega)]
      exact h.2.2 q hq
theorem gvI_dayP {s : Nat → Int32} {T : Nat → Txt} {D : Dy} {p : Nat} (h : gvI s D) (hp : p < 8) : gvI s (dayP T p D) := by
  have hl : gvI s (lotA D) := gvI_up h (fun k hk => up_ne (by omega))
  show gvI s (if isPe D.1 (nI p) = true then (if drwS D.1 < D.1 (52 + p) then itN (wtrs T p) 4 (lotA D) else lotA D) else D)
  split
  · split
    · refine gvI_it (n := 4) (fun i D' hi h' => ?_) 4 (by omega) _ hl
      show gvI s (if livS D'.1 (nI i) = true then watA T D' p i else D')
      split
      · exact gvI_wat h' hp hi
      · exact h'
    · exact hl
  · exact h
theorem gvI_dayD {s : Nat → Int32} {T : Nat → Txt} {D : Dy} {l : Nat} (h : gvI s D) (hl : l < 4) : gvI s (dayD T l D) := by
  show gvI s (if livS D.1 (nI l) = true then driA T (sunA (lotA D) (snS D.1)) l (snS D.1) else D)
  split
  · have h2 : gvI s (sunA (lotA D) (snS D.1)) := by
      have h3 : gvI s (lotA D) := gvI_up h (fun k hk => up_ne (by omega))
      unfold gvI at h3 ⊢
      unfold sunA
      exact h3
    rw [driA_E]
    have e : ∀ X : Dy, gvI s X → ∀ g, gvI s (dS X.1 l g, X.2) := fun X hX g => gvI_up hX (fun k hk => dS_ne (by omega) (by omega) (by omega) (by omega) (by omega))
    exact e _ h2 _
  · exact h
theorem gvI_go {s : Nat → Int32} {T : Nat → Txt} : ∀ n D, gvI s D → gvI s (goN T n D) := by
  intro n
  induction n with
  | zero => intro D h; exact h
  | succ n ih =>
    intro D h
    unfold goN
    split
    · exact h
    · refine ih _ ?_
      have h1 := gvI_it (n := 8) (F := dayP T) (fun i D' hi h' => gvI_dayP h' hi) 8 (by omega) D h
      have h2 := gvI_it (n := 4) (F := dayD T) (fun i D' hi h' => gvI_dayD h' hi) 4 (by omega) _ h1
      unfold dayG dayU
      exact gvI_up h2 (fun k hk => up_ne (by omega))
theorem gvI_z {s : Nat → Int32} : gvI s (dy0 s) := ⟨rfl, rfl, fun p _ => (Int32.add_zero _).symm⟩
