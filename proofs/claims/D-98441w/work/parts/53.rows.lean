/-! rows: what holds of them all through -/
set_option maxRecDepth 100000
theorem RowOk.se {s s' : Nat → Int32} (h : RowOk s) (e : ∀ k, k < 20 ∨ (60 ≤ k ∧ k < 68) ∨ (76 ≤ k ∧ k ≤ 78) → s' k = s k) : RowOk s' := by
  obtain ⟨⟨p, d, h1, h2, h3, h4⟩, ⟨q, h5, h6⟩, h7, h8⟩ := h
  have e76 := e 76 (by omega)
  have hip : ∀ x, isPl s' x = isPl s x := fun x => by unfold isPl; rw [e76]
  refine ⟨⟨p, d, h1, h2, (e 76 (by omega)).trans h3, (e 77 (by omega)).trans h4⟩, ⟨q, h5, (e 78 (by omega)).trans h6⟩, fun p hp => ?_, fun l hl => ?_⟩
  · obtain ⟨r, r1, r2⟩ := h7 p hp
    exact ⟨r, r1, (e _ (by omega)).trans r2⟩
  · obtain ⟨g1, g2⟩ := h8 l hl
    rw [hip, e 77 (by omega)]
    refine ⟨fun hx => ?_, g2⟩
    obtain ⟨⟨pot, w, br, d, r, k1, k2, k3, k4, k5, k6⟩, k7⟩ := g1 hx
    refine ⟨⟨pot, w, br, d, r, (e _ (by omega)).trans k1, (e _ (by omega)).trans k2, (e _ (by omega)).trans k3, (e _ (by omega)).trans k4, (e _ (by omega)).trans k5, k6⟩, ?_⟩
    rw [k7]
    unfold plD
    rw [e (8 + l) (by omega), e (12 + l) (by omega), e (16 + l) (by omega)]
theorem RowOk.td {s : Nat → Int32} {l : Nat} (h : RowOk s) (hl : l < 4) (hp : isPl s (nI l) = true) : tdO s l := ((h.2.2.2 l hl).1 hp).1
theorem liv_pl {s : Nat → Int32} {x : Int32} (h : livS s x = true) : isPl s x = true := livS_pl h
/-- another wetness -/
theorem RowOk.wet {s s' : Nat → Int32} {l : Nat} (h : RowOk s) (hl : l < 4) (e : ∀ k, k ≠ 4 + l → k < 20 ∨ (60 ≤ k ∧ k < 68) ∨ (76 ≤ k ∧ k ≤ 78) → s' k = s k) (hw : isPl s (nI l) = true → ∃ pot w, s l = nI pot ∧ pot ≤ 24 ∧ w ≤ pot ∧ s' (4 + l) = nI w) : RowOk s' := by
  obtain ⟨⟨p, d, h1, h2, h3, h4⟩, ⟨q, h5, h6⟩, h7, h8⟩ := h
  have e76 := e 76 (by omega) (by omega)
  have hip : ∀ x, isPl s' x = isPl s x := fun x => by unfold isPl; rw [e76]
  refine ⟨⟨p, d, h1, h2, (e 76 (by omega) (by omega)).trans h3, (e 77 (by omega) (by omega)).trans h4⟩, ⟨q, h5, (e 78 (by omega) (by omega)).trans h6⟩, fun p hp => ?_, fun l' hl' => ?_⟩
  · obtain ⟨r, r1, r2⟩ := h7 p hp
    exact ⟨r, r1, (e _ (by omega) (by omega)).trans r2⟩
  · obtain ⟨g1, g2⟩ := h8 l' hl'
    rw [hip, e 77 (by omega) (by omega)]
    refine ⟨fun hx => ?_, g2⟩
    obtain ⟨⟨pot, w, br, d, r, k1, k2, k3, k4, k5, k6, k7, k8, k9⟩, k10⟩ := g1 hx
    have hpd : plD s' l' = plD s l' := by
      unfold plD
      rw [e (8 + l') (by omega) (by omega), e (12 + l') (by omega) (by omega), e (16 + l') (by omega) (by omega)]
    rw [hpd]
    refine ⟨?_, k10⟩
    by_cases el : l' = l
    · subst el
      obtain ⟨pot', w', q1, q2, q3, q4⟩ := hw hx
      have hpp : pot' = pot := (nI_eq (by omega) (by omega)).mp (q1.symm.trans k1)
      subst hpp
      exact ⟨pot', w', br, d, r, (e _ (by omega) (by omega)).trans k1, q4, (e _ (by omega) (by omega)).trans k3, (e _ (by omega) (by omega)).trans k4, (e _ (by omega) (by omega)).trans k5, k6, k7, q3, k9⟩
    · exact ⟨pot, w, br, d, r, (e _ (by omega) (by omega)).trans k1, (e _ (by omega) (by omega)).trans k2, (e _ (by omega) (by omega)).trans k3, (e _ (by omega) (by omega)).trans k4, (e _ (by omega) (by omega)).trans k5, k6, k7, k8, k9⟩
theorem watR_ne {s : Nat → Int32} {g : Int32} {p l k : Nat} (h1 : k ≠ 4 + l) (h2 : k ≠ 68 + p) (h3 : k ≠ 20 + l) : watR s g p l k = s k := by
  have h : ∀ a b, (up (up s (4 + l) a) (68 + p) b) k = s k := fun a b => (up_ne (by omega)).trans (up_ne (by omega))
  show (if g ≤ 0 then _ else if s (20 + l) = -2 then _ else up _ (20 + l) (s 79)) k = s k
  split
  · exact h _ _
  · split
    · exact h _ _
    · exact (up_ne (by omega)).trans (h _ _)
theorem watR_wet {s : Nat → Int32} {g : Int32} {p l : Nat} (hp : p < 8) (hl : l < 4) : watR s g p l (4 + l) = mi_ (s l) (s (4 + l) + g) := by
  have h : ∀ b, (up (up s (4 + l) (mi_ (s l) (s (4 + l) + g))) (68 + p) b) (4 + l) = mi_ (s l) (s (4 + l) + g) := fun b => (up_ne (by omega)).trans up_eq
  show (if g ≤ 0 then _ else if s (20 + l) = -2 then _ else up _ (20 + l) (s 79)) (4 + l) = _
  split
  · exact h _
  · split
    · exact h _
    · exact (up_ne (by omega)).trans (h _)
theorem watR_given {s : Nat → Int32} {g : Int32} {p l : Nat} (hp : p < 8) (hl : l < 4) : watR s g p l (68 + p) = s (68 + p) + g := by
  have h : ∀ a, (up (up s (4 + l) a) (68 + p) (s (68 + p) + g)) (68 + p) = s (68 + p) + g := fun a => up_eq
  show (if g ≤ 0 then _ else if s (20 + l) = -2 then _ else up _ (20 + l) (s 79)) (68 + p) = _
  split
  · exact h _
  · split
    · exact h _
    · exact (up_ne (by omega)).trans (h _)
theorem watR_card {s : Nat → Int32} {g : Int32} {p l : Nat} (hp : p < 8) (hl : l < 4) : watR s g p l (20 + l) = if g ≤ 0 then s (20 + l) else if s (20 + l) = -2 then -2 else s 79 := by
  have h : ∀ a b, (up (up s (4 + l) a) (68 + p) b) (20 + l) = s (20 + l) := fun a b => (up_ne (by omega)).trans (up_ne (by omega))
  show (if g ≤ 0 then _ else if s (20 + l) = -2 then _ else up _ (20 + l) (s 79)) (20 + l) = _
  by_cases e1 : g ≤ 0
  · rw [if_pos e1, if_pos e1]; exact h _ _
  · rw [if_neg e1, if_neg e1]
    by_cases e2 : s (20 + l) = -2
    · rw [if_pos e2, if_pos e2]; exact (h _ _).trans e2
    · rw [if_neg e2, if_neg e2]; exact up_eq
theorem gvS_nI {T : Nat → Txt} {s : Nat → Int32} {p l : Nat} : ∃ g, g ≤ 9 ∧ gvS T s p l = nI g := by9
theorem RowOk.wat {s : Nat → Int32} {g p l : Nat} (h : RowOk s) (hp : p < 8) (hl : l < 4) (hg : g ≤ 9) : RowOk (watR s (nI g) p l) := by
  refine h.wet hl (fun k h1 h2 => watR_ne h1 (by omega) (by omega)) (fun hx => ?_)
  obtain ⟨pot, w, br, d, r, k1, k2, k3, k4, k5, k6, k7, k8, k9⟩ := h.td hl hx
  refine ⟨pot, min pot (w + g), k1, k7, Nat.min_le_left _ _, ?_⟩
  rw [watR_wet hp hl, k1, k2, iaN, mi_nI (by omega) (by omega)]
theorem watR_0 {s : Nat → Int32} {p l : Nat} (h : RowOk s) (hp : p < 8) (hl : l < 4) (hx : isPl s (nI l) = true) : watR s 0 p l = s := by
  obtain ⟨pot, w, br, d, r, k1, k2, k3, k4, k5, k6, k7, k8, k9⟩ := h.td hl hx
  funext k
  by_cases e1 : k = 4 + l
  · rw [e1, watR_wet hp hl, k1, k2, show nI w + (0 : Int32) = nI (w + 0) from nI_add w 0, mi_nI (by omega) (by omega), Nat.add_zero, Nat.min_eq_right k8]
  by_cases e2 : k = 68 + p
  · rw [e2, watR_given hp hl, Int32.add_zero]
  by_cases e3 : k = 20 + l
  · rw [e3, watR_card hp hl, if_pos (by decide)]
  exact watR_ne e1 e2 e3
theorem lotS_ok {s : Nat → Int32} (h : RowOk s) : RowOk (lotS s) := h.se (fun k hk => up_ne (by omega))
theorem dUp_ok {s : Nat → Int32} (h : RowOk s) : RowOk (dUp s) := h.se (fun k hk => up_ne (by omega))
/-! a plant's day ends -/
def dSw (s : Nat → Int32) (l : Nat) (less : Int32) : Int32 := ma_ 0 (s (4 + l) - less)
def dSD (s : Nat → Int32) (l : Nat) (less : Int32) : Int32 := if dSw s l less = 0 then s (12 + l) + 1 else 0
def dSW (s : Nat → Int32) (l : Nat) (less : Int32) : Int32 := if dSw s l less = s l then s (16 + l) + 1 else 0
theorem dS_ne {s : Nat → Int32} {l k : Nat} {less : Int32} (h1 : k ≠ 4 + l) (h2 : k ≠ 12 + l) (h3 : k ≠ 16 + l) (h4 : ¬ (24 + 7 * l ≤ k ∧ k < 24 + 7 * l + 7)) (h5 : k ≠ 77) : dS s l less k = s k := by
  unfold dS shS
  rw [if_neg h4]
  have h : ∀ a b c, (up (up (up s (4 + l) a) (12 + l) b) (16 + l) c) k = s k := fun a b c => ((up_ne (by omega)).trans (up_ne (by omega))).trans (up_ne (by omega))
  show (if s (8 + l) ≤ dSD s l less ∨ s (8 + l) ≤ dSW s l less then _ else _ : Nat → Int32) k = s k
  split
  · exact (up_ne (by omega)).trans (h _ _ _)
  · exact h _ _ _
theorem dS_77 {s : Nat → Int32} {l : Nat} {less : Int32} (hl : l < 4) : dS s l less 77 = if s (8 + l) ≤ dSD s l less ∨ s (8 + l) ≤ dSW s l less then s 77 ||| ((1 : Int32) <<< (nI l &&& 31)) else s 77 := by
  unfold dS shS
  rw [if_neg (by omega)]
  have h : ∀ a b c, (up (up (up s (4 + l) a) (12 + l) b) (16 + l) c) 77 = s 77 := fun a b c => ((up_ne (by omega)).trans (up_ne (by omega))).trans (up_ne (by omega))
  show (if s (8 + l) ≤ dSD s l less ∨ s (8 + l) ≤ dSW s l less then _ else _ : Nat → Int32) 77 = _
  split
  · unfold dedR
    rw [up_eq, h]
  · exact h _ _ _
theorem dS_at {s : Nat → Int32} {l : Nat} {less : Int32} (hl : l < 4) : dS s l less (4 + l) = dSw s l less ∧ dS s l less (12 + l) = dSD s l less ∧ dS s l less (16 + l) = dSW s l less := by
  have g : ∀ k, k < 24 → k ≠ 77 → dS s l less k = (up (up (up s (4 + l) (dSw s l less)) (12 + l) (dSD s l less)) (16 + l) (dSW s l less)) k := by
    intro k hk hk2
    unfold dS shS
    rw [if_neg (by omega)]
    show (if s (8 + l) ≤ dSD s l less ∨ s (8 + l) ≤ dSW s l less then _ else _ : Nat → Int32) k = _
    split
    · exact up_ne (by omega)
    · rfl
  refine ⟨?_, ?_, ?_⟩
  · rw [g _ (by omega) (by omega)]; exact ((up_ne (by omega)).trans (up_ne (by omega))).trans up_eq
  · rw [g _ (by omega) (by omega)]; exact (up_ne (by omega)).trans up_eq
  · rw [g _ (by omega) (by omega)]; exact up_eq
theorem dS_look {s : Nat → Int32} {l j : Nat} {less : Int32} (hl : l < 4) (hj : j < 7) : dS s l less (24 + 7 * l + j) = if j = 0 then dSw s l less else s (24 + 7 * l + (j - 1)) := by
  unfold dS shS
  rw [if_pos (by omega)]
  by_cases e : j = 0
  · rw [if_pos (by omega), if_pos e]; rfl
  · rw [if_neg (by omega), if_neg e]
    have h : ∀ a b c, (up (up (up s (4 + l) a) (12 + l) b) (16 + l) c) (24 + 7 * l + j - 1) = s (24 + 7 * l + j - 1) := fun a b c => ((up_ne (by omega)).trans (up_ne (by omega))).trans (up_ne (by omega))
    rw [show 24 + 7 * l + (j - 1) = 24 + 7 * l + j - 1 by omega]
    show (if s (8 + l) ≤ dSD s l less ∨ s (8 + l) ≤ dSW s l less then _ else _ : Nat → Int32) (24 + 7 * l + j - 1) = _
    split
    · exact (up_ne (by omega)).trans (h _ _ _)
    · exact h _ _ _
theorem or_bit : ∀ d, d < 16 → ∀ l, l < 4 → nI d ||| ((1 : Int32) <<< (nI l &&& 31)) = nI (d ||| 2 ^ l) ∧ d ||| 2 ^ l < 16 ∧ ∀ l', l' < 4 → hs_ (nI (d ||| 2 ^ l)) (nI l') = (decide (l' = l) || hs_ (nI d) (nI l')) := by decide +kernel
theorem livS_d {s : Nat → Int32} {l : Nat} (h : RowOk s) (hl : l < 4) (hv : livS s (nI l) = true) : ∃ pot w br d r, s l = nI pot ∧ s (4 + l) = nI w ∧ s (8 + l) = nI br ∧ s (12 + l) = nI d ∧ s (16 + l) = nI r ∧ 4 ≤ pot ∧ pot ≤ 24 ∧ w ≤ pot ∧ 1 ≤ br ∧ br ≤ 9 ∧ d < br ∧ r < br := by
  have hp := livS_pl hv
  obtain ⟨pot, w, br, d, r, k1, k2, k3, k4, k5, k6, k7, k8, k9, k10, k11, k12⟩ := h.td hl hp
  rw [livS_iff h hl hp] at hv
  unfold plD at hv
  rw [k3, k4, k5] at hv
  refine ⟨pot, w, br, d, r, k1, k2, k3, k4, k5, k6, k7, k8, k9, k10, ?_, ?_⟩
  · refine Nat.lt_of_not_le (fun hc => ?_)
    have := nI_le (a := br) (b := d) hc (by omega)
    simp [this] at hv
  · refine Nat.lt_of_not_le (fun hc => ?_)
    have := nI_le (a := br) (b := r) hc (by omega)
    simp [this] at hv
theorem lvO_of {s : Nat → Int32} {l : Nat} (h : RowOk s) (hl : l < 4) (hv : livS s (nI l) = true) : lvO s l := by
  obtain ⟨pot, w, br, d, r, k1, k2, k3, k4, k5, k6, k7, k8, k9, k10, k11, k12⟩ := livS_d h hl hv
  exact ⟨pot, w, br, d, r, k1, k2, k3, k4, k5, k6, k7, k8, k10, k11, k12⟩
theorem RowOk.dsO {s : Nat → Int32} {l less : Nat} (h : RowOk s) (hl : l < 4) (hv : livS s (nI l) = true) (hle : less ≤ 18) : RowOk (dS s l (nI less)) := by
  have hp := livS_pl hv
  obtain ⟨pot, w, br, d, r, k1, k2, k3, k4, k5, k6, k7, k8, k9, k10, k11, k12⟩ := livS_d h hl hv
  obtain ⟨⟨pp, dd, h1, h2, h3, h4⟩, ⟨q, h5, h6⟩, h7, h8⟩ := id h
  have hw : dSw s l (nI less) = nI (w - less) := by unfold dSw; rw [k2]; exact ma_sub (by omega) (by omega)
  have hD : ∃ D, D ≤ br ∧ dSD s l (nI less) = nI D := by
    unfold dSD
    split
    · exact ⟨d + 1, by omega, by rw [k4, ap1]⟩
    · exact ⟨0, by omega, rfl⟩
  have hW : ∃ W, W ≤ br ∧ dSW s l (nI less) = nI W := by
    unfold dSW
    split
    · exact ⟨r + 1, by omega, by rw [k5, ap1]⟩
    · exact ⟨0, by omega, rfl⟩
  obtain ⟨D, D1, D2⟩ := hD
  obtain ⟨W, W1, W2⟩ := hW
  obtain ⟨a1, a2, a3⟩ := dS_at (s := s) (less := nI less) hl
  have e : ∀ k, k ≠ 4 + l → k ≠ 12 + l → k ≠ 16 + l → k < 20 ∨ (60 ≤ k ∧ k < 68) ∨ k = 76 ∨ k = 78 → dS s l (nI less) k = s k := fun k q1 q2 q3 q4 => dS_ne q1 q2 q3 (by omega) (by omega)
  have e76 : dS s l (nI less) 76 = s 76 := dS_ne (by omega) (by omega) (by omega) (by omega) (by omega)
  have hip : ∀ x, isPl (dS s l (nI less)) x = isPl s x := fun x => by unfold isPl; rw [e76]
  have s77 := dS_77 (s := s) (less := nI less) hl
  rw [D2, W2, k3, h4] at s77
  obtain ⟨o1, o2, o3⟩ := or_bit dd h2 l hl
  have hdead : ∃ d', d' < 16 ∧ dS s l (nI less) 77 = nI d' ∧ (∀ l', l' < 4 → l' ≠ l → hs_ (nI d') (nI l') = hs_ (nI dd) (nI l')) ∧ hs_ (nI d') (nI l) = (decide (nI br ≤ nI D) || decide (nI br ≤ nI W)) := by
    by_cases ed : nI br ≤ nI D ∨ nI br ≤ nI W
    · rw [if_pos ed, o1] at s77
      refine ⟨dd ||| 2 ^ l, o2, s77, fun l' hl' hne => ?_, ?_⟩
      · rw [o3 l' hl']; simp [hne]
      · rw [o3 l hl]
        rcases ed with ed | ed <;> simp [ed]
    · rw [if_neg ed] at s77
      refine ⟨dd, h2, s77, fun _ _ _ => rfl, ?_⟩
      have hl0 : hs_ (nI dd) (nI l) = false := by
        unfold livS at hv
        rw [h4, Bool.and_eq_true] at hv
        simpa using hv.2
      rw [hl0]
      have e1 : ¬ nI br ≤ nI D := fun x => ed (Or.inl x)
      have e2 : ¬ nI br ≤ nI W := fun x => ed (Or.inr x)
      simp [e1, e2]
  obtain ⟨d', hd1, hd2, hd3, hd4⟩ := hdead
  refine ⟨⟨pp, d', h1, hd1, e76.trans h3, hd2⟩, ⟨q, h5, (dS_ne (by omega) (by omega) (by omega) (by omega) (by omega)).trans h6⟩, fun p hp => ?_, fun l' hl' => ?_⟩
  · obtain ⟨r, r1, r2⟩ := h7 p hp
    exact ⟨r, r1, (e _ (by omega) (by omega) (by omega) (by omega)).trans r2⟩
  · obtain ⟨g1, g2⟩ := h8 l' hl'
    rw [hip, hd2]
    by_cases el : l' = l
    · subst el
      refine ⟨fun _ => ⟨⟨pot, w - less, br, D, W, (e _ (by omega) (by omega) (by omega) (by omega)).trans k1, a1.trans hw, (e _ (by omega) (by omega) (by omega) (by omega)).trans k3, a2.trans D2, a3.trans W2, k6, k7, by omega, k9, k10, D1, W1⟩, ?_⟩, fun x => by rw [hp] at x; cases x⟩
      rw [hd4]
      unfold plD
      rw [a2, a3, D2, W2, e (8 + l') (by omega) (by omega) (by omega) (by omega), k3]
    · rw [hd3 l' hl' el, ← h4]
      refine ⟨fun hx => ?_, g2⟩
      obtain ⟨⟨pot', w', br', d', r', q1, q2, q3, q4, q5, q6⟩, q7⟩ := g1 hx
      refine ⟨⟨pot', w', br', d', r', (e _ (by omega) (by omega) (by omega) (by omega)).trans q1, (e _ (by omega) (by omega) (by omega) (by omega)).trans q2, (e _ (by omega) (by omega) (by omega) (by omega)).trans q3, (e _ (by omega) (by omega) (by omega) (by omega)).trans q4, (e _ (by omega) (by omega) (by omega) (by omega)).trans q5, q6⟩, ?_⟩
      rw [q7]
      unfold plD
      rw [e (8 + l') (by omega) (by omega) (by omega) (by omega), e (12 + l') (by omega) (by omega) (by omega) (by omega), e (16 + l') (by omega) (by omega) (by omega) (by omega)]
theorem less_nI {T : Nat → Txt} {s : Nat → Int32} {l : Nat} {sn : Int32} : ∃ g, g ≤ 18 ∧ lessS T s l sn = nI g := by
  obtain ⟨a, a1, a2⟩ := by9 (t := T 0) (c := 101) (f := fcP s l)
  obtain ⟨b, b1, b2⟩ := by9 (t := T 0) (c := 104) (f := fcP s l)
  unfold lessS
  rw [a2, b2]
  split
  · exact ⟨a, by omega, rfl⟩
  · exact ⟨a + b, by omega, iaN⟩
theorem dsL_ok {T : Nat → Txt} {s : Nat → Int32} {l : Nat} {sn : Int32} (h : RowOk s) (hl : l < 4) (hv : livS s (nI l) = true) : RowOk (dS s l (lessS T s l sn)) := by
  obtain ⟨g, g1, g2⟩ := less_nI (T := T) (s := s) (l := l) (sn := sn)
  rw [g2]
  exact h.dsO hl hv g1
theorem wat_ok {T : Nat → Txt} {s : Nat → Int32} {p l : Nat} (h : RowOk s) (hp : p < 8) (hl : l < 4) : RowOk (watR s (gvS T s p l) p l) := by
  obtain ⟨g, g1, g2⟩ := gvS_nI (T := T) (s := s) (p := p) (l := l)
  rw [g2]
  exact h.wat hp hl g1
