/-! the model: a rota is read -/
set_option maxRecDepth 100000
/-- the letter at a place; -1 at the end -/
def chS (t : Nat → Int32) (n p : Nat) : Int32 := if n ≤ p then -1 else t p &&& 255
theorem w7_here {o n p : Nat} {M : MM} {t : Nat → Int32} {Post : Int32 → MM → Prop} (hL : ML o M) (ht : ar o 4 M = t) (hp : mgI M o 5 = nI p) (hn : mgI M o 6 = nI n) (hn2 : n ≤ 220) (hp2 : p < 1000) : wp_X7_here M o Post = Post (chS t n p) M := by
  unfold wp_X7_here chS
  rw [hp, hn]
  by_cases e : n ≤ p
  · rw [if_pos e, if_pos (nI_le e (by omega))]
  · rw [if_neg e, if_neg (nI_ge (by omega) (by omega))]
    simp (disch := first | assumption | omega) only [mgR_sI, mgR_sL, mkd_sI, mkd_sL, mln_sI, mln_sL, Option.some.injEq, exists_eq_left', forall_eq, true_and, and_true, Nat.reduceLT, exists_eq_left, ML_r0, ML_k1, ML_l1, ML_r1, ML_k2, ML_l2, ML_r2, ML_k3, ML_l3, ML_r3, ML_k4, ML_l4, ML_r13, ML_k5, ML_l5, ML_r14, ML_k6, ML_l6, ML_r15, ML_k7, ML_l7, ML_r16, ML_k8, ML_l8, ML_r17, ML_k9, ML_l9, ML_r18, ML_k10, ML_l10, ML_r19, ML_k11, ML_l11, ML_r20, ML_k12, ML_l12, ML_r21, ML_k13, ML_l13, ML_r22, ML_k14, ML_l14, ML_r23, ML_k15, ML_l15, ML_r24, ML_k16, ML_l16, ML_r25, ML_k17, ML_l17, ML_r26, ML_k18, ML_l18, ML_r30, ML_k19, ML_l19, ML_r35, ML_k20, ML_l20, ML_r36, ML_k21, ML_l21, ML_r37, ML_k22, ML_l22, ML_r38, ML_k23, ML_l23, ML_r40, ML_k24, ML_l24, ML_r41, ML_k25, ML_l25, ML_r42, ML_k26, ML_l26, ML_r43, ML_k27, ML_l27, ML_r44, ML_k28, ML_l28, ML_r45, ML_k29, ML_l29, ML_r48, ML_k30, ML_l30, ML_r51, ML_k31, ML_l31, ML_r52, ML_k32, ML_l32, ia0, ia4, ia8, ia12, ia16, ia20, ia24, ia52, ia60, ia68, im7, im14, ap6, iaN, ap1, ixN, vpN, arE (o := o) (c := 4), ht]
def dayC (c : Int32) : Bool := decide (c = 46) || (inS c 97 104 || inS c 50 55)
theorem w7_isDayAt {M : MM} {c : Int32} {Post : Int32 → MM → Prop} : wp_X7_isDayAt M c Post = if dayC c = true then Post 1 M else Post 0 M := by
  unfold wp_X7_isDayAt dayC
  simp only [w7_in]
  by_cases e1 : c = 46
  · simp [e1]
  · by_cases e2 : inS c 97 104 = true
    · simp [e1, e2]
    · by_cases e3 : inS c 50 55 = true <;> simp [e1, e2, e3]
def erV (w p : Nat) : Int32 := ((-1000 : Int32) * nI w) - nI p
abbrev Rs : Type := (Nat × Nat) ⊕ (Nat × Nat × (Nat → Int32))
def flR (row : Nat → Int32) (q m : Nat) (v : Int32) : Nat → Int32 := fun j => if q ≤ j ∧ j < q + m then v else row j
def tmC (c : Int32) : Nat := if inS c 50 55 = true then ix_ (c - 48) else 1
def whC (c : Int32) : Int32 := if c = 46 then -1 else c - 97
/-- the days of a week: fuel, place, days so far, rows so far -/
def rwS (s : Nat → Int32) (t : Nat → Int32) (n : Nat) : Nat → Nat → Nat → Nat → (Nat → Int32) → Rs
  | 0, p, _, _, _ => .inl (1, p)
  | f + 1, p, k, q, row =>
    if 7 ≤ k then .inr (p, q, row)
    else if dayC (chS t n p) = false then .inl (1, p)
    else if 7 < k + tmC (chS t n p) then .inl (6, p)
    else
      let p1 := if 1 < tmC (chS t n p) then p + 1 else p
      if ¬ chS t n p1 = 46 ∧ inS (chS t n p1) 97 104 = false then .inl (1, p1)
      else if ¬ chS t n p1 = 46 ∧ isPe s (chS t n p1 - 97) = false then .inl (7, p1)
      else rwS s t n f (p1 + 1) (k + tmC (chS t n p)) (q + tmC (chS t n p)) (flR row q (tmC (chS t n p)) (whC (chS t n p1)))
def rkS (s : Nat → Int32) (t : Nat → Int32) (n p q : Nat) (row : Nat → Int32) : Rs :=
  if dayC (chS t n p) = true ∧ q = 84 then .inl (4, p)
  else match rwS s t n 8 p 0 q row with
    | .inl e => .inl e
    | .inr (p', q', row') => if dayC (chS t n p') = true then .inl (6, p') else .inr (p', q', row')
def rpS (s : Nat → Int32) (t : Nat → Int32) (n : Nat) : Nat → Rs → Rs
  | 0, x => x
  | _ + 1, .inl e => .inl e
  | f + 1, .inr (p, q, row) => if n ≤ p then .inr (p, q, row) else if chS t n p = 47 then rpS s t n f (rkS s t n (p + 1) q row) else .inl (1, p)
def rF (o : Nat) : Nat → Nat → Prop := fun a k => (a = o ∧ (k = 5 ∨ k = 7 ∨ k = 46)) ∨ a = o + 30
/-- what stands while a rota is read -/
def rE (o : Nat) (M0 M : MM) (n p q : Nat) (row : Nat → Int32) : Prop := fI (rF o) M0 M ∧ mgI M o 5 = nI p ∧ mgI M o 46 = nI q ∧ ∀ j, j < q → ar o 30 M j = row j
theorem inS_c {c : Int32} {a b : Nat} (ha : a < 2147483648) (hb : b < 2147483648) (h : inS c (nI a) (nI b) = true) : ∃ j, a ≤ j ∧ j ≤ b ∧ c = nI j := inS_ab ha hb h
theorem tmC_b {c : Int32} : 1 ≤ tmC c ∧ tmC c ≤ 7 := by
  unfold tmC
  by_cases e : inS c 50 55 = true
  · rw [if_pos e]
    obtain ⟨j, h1, h2, rfl⟩ := inS_ab (a := 50) (b := 55) (by omega) (by omega) e
    rw [show nI j - (48 : Int32) = nI (j - 48) from (show nI j - nI 48 = _ from pk_sub (by omega)), ixN (by omega)]
    omega
  · rw [if_neg e]; omega
theorem w7_wrongAt {o : Nat} {M : MM} {w x : Int32} {Post : Int32 → MM → Prop} : wp_X7_wrongAt M o w x Post = Post 0 (msI M o 7 (((-1000 : Int32) * w) - x)) := by
  unfold wp_X7_wrongAt
  simp only [forall_eq]
theorem l7_rw176 {o n p q m : Nat} {x1 c : Int32} {M0 M : MM} {row : Nat → Int32} {X : MM → Prop} (hL : ML o M0) (hE : rE o M0 M n p q row) (hq : q + m ≤ 84) (h : ∀ M', fI (rF o) M0 M' → mgI M' o 5 = nI p → mgI M' o 46 = nI q → (∀ j, j < q + m → ar o 30 M' j = flR row q m (whC c) j) → X M') : ∃ f, wl_X7_readsWeek_176 o x1 c (nI m) X f M (nI 0) := by
  obtain ⟨hF0, hp, hq0, hr0⟩ := hE
  refine cl_ (fun f M1 i => wl_X7_readsWeek_176 o x1 c (nI m) X f M1 (nI i)) (fun i M1 => fI (fun a _ => a = o + 30) M M1 ∧ ∀ j, j < q + i → ar o 30 M1 j = flR row q m (whC c) j) m ?_ ?_ M 0 (by omega) ⟨fI.rf, fun j hj => ?_⟩
  · intro f i M1 hi ⟨hF, hr⟩ hs'
    have h1 : ML o M1 := ML_of (hF.e.trans hF0.e) hL
    have hq1 : mgI M1 o 46 = nI q := (hF.2 _ _ (by omega)).trans hq0
    show wl_X7_readsWeek_176 o x1 c (nI m) X (f + 1) M1 (nI i)
    unfold wl_X7_readsWeek_176 wb_X7_readsWeek_207
    rw [if_neg (nI_ge hi (by omega)), hq1]
    have fin : ∀ v, v = whC c → wl_X7_readsWeek_176 o x1 c (nI m) X f (msI M1 (o + 30) (q + i) v) (nI (i + 1)) := by
      intro v hv
      refine hs' _ ⟨hF.s rfl, fun j hj => ?_⟩
      rw [ar_s, if_pos rfl]
      unfold up
      by_cases e : j = q + i
      · rw [if_pos e, hv]; unfold flR; rw [if_pos (by omega)]
      · rw [if_neg e]; exact hr j (by omega)
    simp (disch := first | assumption | omega) only [mgR_sI, mgR_sL, mkd_sI, mkd_sL, mln_sI, mln_sL, Option.some.injEq, exists_eq_left', forall_eq, true_and, and_true, Nat.reduceLT, exists_eq_left, ML_r0, ML_k1, ML_l1, ML_r1, ML_k2, ML_l2, ML_r2, ML_k3, ML_l3, ML_r3, ML_k4, ML_l4, ML_r13, ML_k5, ML_l5, ML_r14, ML_k6, ML_l6, ML_r15, ML_k7, ML_l7, ML_r16, ML_k8, ML_l8, ML_r17, ML_k9, ML_l9, ML_r18, ML_k10, ML_l10, ML_r19, ML_k11, ML_l11, ML_r20, ML_k12, ML_l12, ML_r21, ML_k13, ML_l13, ML_r22, ML_k14, ML_l14, ML_r23, ML_k15, ML_l15, ML_r24, ML_k16, ML_l16, ML_r25, ML_k17, ML_l17, ML_r26, ML_k18, ML_l18, ML_r30, ML_k19, ML_l19, ML_r35, ML_k20, ML_l20, ML_r36, ML_k21, ML_l21, ML_r37, ML_k22, ML_l22, ML_r38, ML_k23, ML_l23, ML_r40, ML_k24, ML_l24, ML_r41, ML_k25, ML_l25, ML_r42, ML_k26, ML_l26, ML_r43, ML_k27, ML_l27, ML_r44, ML_k28, ML_l28, ML_r45, ML_k29, ML_l29, ML_r48, ML_k30, ML_l30, ML_r51, ML_k31, ML_l31, ML_r52, ML_k32, ML_l32, ia0, ia4, ia8, ia12, ia16, ia20, ia24, ia52, ia60, ia68, im7, im14, ap6, iaN, ap1, ixN, vpN]
    by_cases e : c = 46
    · rw [if_pos e]; exact fin _ (by unfold whC; rw [if_pos e])
    · rw [if_neg e]; exact fin _ (by unfold whC; rw [if_neg e])
  · intro f M1 ⟨hF, hr⟩
    show wl_X7_readsWeek_176 o x1 c (nI m) X (f + 1) M1 (nI m)
    unfold wl_X7_readsWeek_176
    rw [if_pos (nI_le (Nat.le_refl _) (by omega))]
    exact h M1 (hF0.tr (hF.mono (fun a k e => Or.inr e))) ((hF.2 _ _ (by omega)).trans hp) ((hF.2 _ _ (by omega)).trans hq0) hr
  · rw [hr0 j (by omega)]; unfold flR; rw [if_neg (by omega)]
theorem l7_rw31 {o n : Nat} {M0 : MM} {s t : Nat → Int32} {R : Rs} {X49 X87 X135 X162 X241 : MM → Prop} (hL : ML o M0) (hs : ar o 1 M0 = s) (ht : ar o 4 M0 = t) (hn : mgI M0 o 6 = nI n) (hn2 : n ≤ 220)
    (hX : ∀ M p' q' row', rE o M0 M n p' q' row' → p' < 1000 → R = .inr (p', q', row') → X241 M)
    (h1 : ∀ M p', fI (rF o) M0 M → mgI M o 5 = nI p' → R = .inl (1, p') → X49 M ∧ X135 M)
    (h6 : ∀ M p', fI (rF o) M0 M → mgI M o 5 = nI p' → R = .inl (6, p') → X87 M)
    (h7 : ∀ M p', fI (rF o) M0 M → mgI M o 5 = nI p' → R = .inl (7, p') → X162 M) :
    ∀ f p k q row M, 8 ≤ k + f → k ≤ 7 → (dayC (chS t n p) = true → q + 7 ≤ 84 + k) → p + 2 * f < 1000 → rE o M0 M n p q row → rwS s t n f p k q row = R → wl_X7_readsWeek_31 o X49 X87 X135 X162 X241 f M (nI k) := by
  intro f
  induction f with
  | zero => intro p k q row M h8 hk; omega
  | succ f ih =>
    intro p k q row M h8 hk hq hpf hE hR
    obtain ⟨hF, hp, hq0, hr⟩ := hE
    have hML : ML o M := ML_of hF.e hL
    have ht1 : ar o 4 M = t := (funext fun k => hF.2 _ _ (by unfold rF; omega)).trans ht
    have hs1 : nw o M = s := (hF.nw (fun k => by unfold rF; omega)).trans hs
    have hn1 : mgI M o 6 = nI n := (hF.2 _ _ (by unfold rF; omega)).trans hn
    unfold wl_X7_readsWeek_31
    unfold rwS at hR
    by_cases e1 : 7 ≤ k
    · rw [if_pos e1] at hR
      rw [if_pos (show (7 : Int32) ≤ nI k from (show nI 7 ≤ nI k from nI_le (by omega) (by omega)))]
      exact hX M p q row ⟨hF, hp, hq0, hr⟩ (by omega) hR.symm
    rw [if_neg e1] at hR
    rw [if_neg (show ¬ (7 : Int32) ≤ nI k from (show ¬ nI 7 ≤ nI k from nI_ge (by omega) (by omega))), w7_here hML ht1 hp hn1 hn2 (by omega), w7_isDayAt]
    by_cases e2 : dayC (chS t n p) = false
    · rw [if_pos e2] at hR
      rw [if_neg (by rw [e2]; decide), if_pos rfl]
      exact (h1 M p hF hp hR.symm).1
    rw [if_neg e2] at hR
    have hq := hq (by simpa using e2)
    rw [if_pos (by simpa using e2), if_neg n10, w7_in]
    have htb := tmC_b (c := chS t n p)
    have wb78 : wb_X7_readsWeek_78 M o (nI k) (nI (tmC (chS t n p))) (wl_X7_readsWeek_31 o X49 X87 X135 X162 X241 f) X49 X87 X135 X162 X241 := by
      unfold wb_X7_readsWeek_78
      rw [iaN]
      by_cases e3 : 7 < k + tmC (chS t n p)
      · rw [if_pos e3] at hR
        rw [if_neg (show ¬ nI (k + tmC (chS t n p)) ≤ (7 : Int32) from (show ¬ nI (k + tmC (chS t n p)) ≤ nI 7 from nI_ge (by omega) (by omega)))]
        exact h6 M p hF hp hR.symm
      rw [if_neg e3] at hR
      rw [if_pos (show nI (k + tmC (chS t n p)) ≤ (7 : Int32) from (show nI (k + tmC (chS t n p)) ≤ nI 7 from nI_le (by omega) (by omega)))]
      have wb113 : ∀ M2 p1, fI (rF o) M0 M2 → p1 = (if 1 < tmC (chS t n p) then p + 1 else p) → mgI M2 o 5 = nI p1 → mgI M2 o 46 = nI q → (∀ j, j < q → ar o 30 M2 j = row j) → wb_X7_readsWeek_113 M2 o (nI k) (nI (tmC (chS t n p))) (wl_X7_readsWeek_31 o X49 X87 X135 X162 X241 f) X49 X87 X135 X162 X241 := by
        intro M2 p1 hF2 hp1 hp2 hq2 hr2
        have hL2 : ML o M2 := ML_of hF2.e hL
        have ht2 : ar o 4 M2 = t := (funext fun k => hF2.2 _ _ (by unfold rF; omega)).trans ht
        have hs2 : nw o M2 = s := (hF2.nw (fun k => by unfold rF; omega)).trans hs
        have hn2' : mgI M2 o 6 = nI n := (hF2.2 _ _ (by unfold rF; omega)).trans hn
        have hp1b : p1 ≤ p + 1 := by rw [hp1]; split <;> omega
        simp only [← hp1] at hR
        unfold wb_X7_readsWeek_113
        rw [w7_here hL2 ht2 hp2 hn2' hn2 (by omega)]
        have go : ¬ (¬ chS t n p1 = 46 ∧ isPe s (chS t n p1 - 97) = false) → rwS s t n f (p1 + 1) (k + tmC (chS t n p)) (q + tmC (chS t n p)) (flR row q (tmC (chS t n p)) (whC (chS t n p1))) = R →
            ∃ n_37, wl_X7_readsWeek_176 o (nI k) (chS t n p1) (nI (tmC (chS t n p))) (fun (M_38 : MM) => ∀ M_40, M_40 = msI M_38 o 46 ((mgI M_38 o 46) + (nI (tmC (chS t n p)))) → ∀ x1_42, x1_42 = nI k + nI (tmC (chS t n p)) → ∀ M_44, M_44 = msI M_40 o 5 ((mgI M_40 o 5) + (1 : Int32)) → wl_X7_readsWeek_31 o X49 X87 X135 X162 X241 f M_44 x1_42) n_37 M2 (0 : Int32) := by
          intro _ hR2
          refine l7_rw176 (n := n) hL (⟨hF2, hp2, hq2, hr2⟩ : rE o M0 M2 n p1 q row) (by omega) (fun M3 hF3 hp3 hq3 hr3 => ?_)
          simp only [forall_eq]
          rw [fd_n (by omega), hp3, hq3, iaN, iaN, ap1]
          refine ih (p1 + 1) (k + tmC (chS t n p)) (q + tmC (chS t n p)) _ _ (by omega) (by omega) (fun _ => by omega) (by omega) ⟨(hF3.s (by unfold rF; omega)).s (by unfold rF; omega), fd_e, ?_, fun j hj => ?_⟩ hR2
          · rw [fd_n (by omega), fd_e]
          · rw [ar_0 (by omega), ar_0 (by omega)]; exact hr3 j hj
        by_cases e4 : chS t n p1 = 46
        · rw [if_pos e4]
          rw [if_neg (fun x => x.1 e4), if_neg (fun x => x.1 e4)] at hR
          unfold wb_X7_readsWeek_145
          rw [if_pos e4]
          exact go (fun x => x.1 e4) hR
        · rw [if_neg e4, w7_in]
          by_cases e5 : inS (chS t n p1) 97 104 = true
          · rw [if_pos e5, if_neg n10]
            rw [if_neg (fun x => by rw [e5] at x; exact absurd x.2 (by decide))] at hR
            unfold wb_X7_readsWeek_145
            rw [if_neg e4, w7_isPerson hL2, hs2]
            by_cases e6 : isPe s (chS t n p1 - 97) = true
            · rw [if_pos e6, if_neg n10]
              have e7 : ¬ (¬ chS t n p1 = 46 ∧ isPe s (chS t n p1 - 97) = false) := fun x => by rw [e6] at x; exact absurd x.2 (by decide)
              rw [if_neg e7] at hR
              exact go e7 hR
            · rw [if_neg e6, if_pos rfl]
              rw [if_pos ⟨e4, by simpa using e6⟩] at hR
              exact h7 M2 p1 hF2 hp2 hR.symm
          · rw [if_neg e5, if_pos rfl]
            rw [if_pos ⟨e4, by simpa using e5⟩] at hR
            exact (h1 M2 p1 hF2 hp2 hR.symm).2
      by_cases e4 : 1 < tmC (chS t n p)
      · rw [if_neg (show ¬ nI (tmC (chS t n p)) ≤ (1 : Int32) from (show ¬ nI (tmC (chS t n p)) ≤ nI 1 from nI_ge (by omega) (by omega)))]
        simp only [forall_eq]
        rw [hp, ap1]
        exact wb113 _ (p + 1) (hF.s (by unfold rF; omega)) (if_pos e4).symm fd_e ((fd_n (by omega)).trans hq0) (fun j hj => by rw [ar_0 (by omega)]; exact hr j hj)
      · rw [if_pos (show nI (tmC (chS t n p)) ≤ (1 : Int32) from (show nI (tmC (chS t n p)) ≤ nI 1 from nI_le (by omega) (by omega)))]
        exact wb113 M p hF (if_neg e4).symm hp hq0 hr
    by_cases e3 : inS (chS t n p) 50 55 = true
    · rw [if_pos e3, if_neg n10]
      obtain ⟨j, j1, j2, j3⟩ := inS_ab (a := 50) (b := 55) (by omega) (by omega) e3
      have ht : chS t n p - (48 : Int32) = nI (tmC (chS t n p)) := by
        unfold tmC
        rw [if_pos e3, j3, show nI j - (48 : Int32) = nI (j - 48) from (show nI j - nI 48 = _ from pk_sub (by omega)), ixN (by omega)]
      rw [ht]; exact wb78
    · rw [if_neg e3, if_pos rfl]
      have ht : (1 : Int32) = nI (tmC (chS t n p)) := by unfold tmC; rw [if_neg e3]; rfl
      rw [ht]; exact wb78
/-- who comes by a rota: nobody or a person -/
def rvO (x : Int32) : Prop := x = -1 ∨ ∃ p, p < 8 ∧ x = nI p
theorem chS_lt {t : Nat → Int32} {n p : Nat} (h : ¬ chS t n p = -1) : p < n := by
  by_cases e : n ≤ p
  · exact absurd (if_pos e) h
  · omega
theorem dayC_m1 : dayC (-1) = false := by decide
theorem dayC_lt {t : Nat → Int32} {n p : Nat} (h : dayC (chS t n p) = true) : p < n := chS_lt (fun e => by rw [e, dayC_m1] at h; exact absurd h (by decide))
theorem whC_ok {s : Nat → Int32} {c : Int32} (h : ¬ (¬ c = 46 ∧ isPe s (c - 97) = false)) : rvO (whC c) := by
  unfold whC
  by_cases e : c = 46
  · rw [if_pos e]; exact Or.inl rfl
  · rw [if_neg e]
    have : isPe s (c - 97) = true := by
      cases h2 : isPe s (c - 97) with
      | true => rfl
      | false => exact absurd ⟨e, h2⟩ h
    exact Or.inr (isPe_n this)
theorem rwS_ok {s t : Nat → Int32} {n : Nat} : ∀ f p k q row p' q' row', k ≤ 7 → p ≤ n → rwS s t n f p k q row = .inr (p', q', row') → (∀ j, j < q → rvO (row j)) → q' + k = q + 7 ∧ p' ≤ n ∧ p ≤ p' ∧ ∀ j, j < q' → rvO (row' j) := by
  intro f
  induction f with
  | zero => intro p k q row p' q' row' _ _ h; cases h
  | succ f ih =>
    intro p k q row p' q' row' hk hp h hv
    unfold rwS at h
    by_cases e1 : 7 ≤ k
    · rw [if_pos e1] at h
      cases h
      exact ⟨by omega, hp, by omega, hv⟩
    rw [if_neg e1] at h
    by_cases e2 : dayC (chS t n p) = false
    · rw [if_pos e2] at h; cases h
    rw [if_neg e2] at h
    by_cases e3 : 7 < k + tmC (chS t n p)
    · rw [if_pos e3] at h; cases h
    rw [if_neg e3] at h
    have htb := tmC_b (c := chS t n p)
    have hp1b : (if 1 < tmC (chS t n p) then p + 1 else p) ≤ p + 1 ∧ p ≤ (if 1 < tmC (chS t n p) then p + 1 else p) := by split <;> omega
    generalize (if 1 < tmC (chS t n p) then p + 1 else p) = p1 at h hp1b
    dsimp only at h
    by_cases e4 : ¬ chS t n p1 = 46 ∧ inS (chS t n p1) 97 104 = false
    · rw [if_pos e4] at h; cases h
    rw [if_neg e4] at h
    by_cases e5 : ¬ chS t n p1 = 46 ∧ isPe s (chS t n p1 - 97) = false
    · rw [if_pos e5] at h; cases h
    rw [if_neg e5] at h
    have hlt : p1 < n := chS_lt (fun e => e4 (by rw [e]; decide))
    obtain ⟨a, b, c, d⟩ := ih _ _ _ _ _ _ _ (by omega) (by omega) h (fun j hj => by
      unfold flR
      split
      · exact whC_ok e5
      · exact hv j (by omega))
    exact ⟨by omega, b, by omega, d⟩
theorem rkS_ok {s t : Nat → Int32} {n p q : Nat} {row : Nat → Int32} {p' q' : Nat} {row' : Nat → Int32} (hp : p ≤ n) (h : rkS s t n p q row = .inr (p', q', row')) (hv : ∀ j, j < q → rvO (row j)) : q' = q + 7 ∧ p' ≤ n ∧ p ≤ p' ∧ (∀ j, j < q' → rvO (row' j)) ∧ ¬ q = 84 := by
  unfold rkS at h
  by_cases e1 : dayC (chS t n p) = true ∧ q = 84
  · rw [if_pos e1] at h; cases h
  rw [if_neg e1] at h
  cases hr : rwS s t n 8 p 0 q row with
  | inl e => rw [hr] at h; cases h
  | inr x =>
    obtain ⟨a, b, c⟩ := x
    rw [hr] at h
    dsimp only at h
    split at h
    · cases h
    · cases h
      obtain ⟨k1, k2, k3, k4⟩ := rwS_ok 8 p 0 q row _ _ _ (by omega) hp hr hv
      refine ⟨by omega, k2, k3, k4, fun e => ?_⟩
      unfold rwS at hr
      rw [if_neg (by omega)] at hr
      by_cases e2 : dayC (chS t n p) = false
      · rw [if_pos e2] at hr; cases hr
      · exact e1 ⟨by simpa using e2, e⟩
def rG (o : Nat) : Nat → Nat → Prop := fun a k => (a = o ∧ (k = 5 ∨ k = 7 ∨ k = 46 ∨ k = 47)) ∨ a = o + 30
theorem rF_rG {o : Nat} {M M' : MM} (h : fI (rF o) M M') : fI (rG o) M M' := h.mono (fun a k e => by unfold rF at e; unfold rG; omega)
theorem w7_readsWeek {o n p q w : Nat} {M : MM} {s t : Nat → Int32} {row : Nat → Int32} {Post : Int32 → MM → Prop} (hL : ML o M) (hs : ar o 1 M = s) (ht : ar o 4 M = t) (hn : mgI M o 6 = nI n) (hn2 : n ≤ 220) (hpn : p ≤ n) (hp : mgI M o 5 = nI p) (hq : mgI M o 46 = nI q) (hr : ∀ j, j < q → ar o 30 M j = row j) (hwk : mgI M o 47 = nI w) (hw : q = 7 * w) (hw12 : w ≤ 12) (hv : ∀ j, j < q → rvO (row j))
    (h0 : ∀ e M', fI (rG o) M M' → rkS s t n p q row = .inl e → mgI M' o 7 = erV e.1 e.2 → Post 0 M')
    (h1 : ∀ p' q' row' M', rkS s t n p q row = .inr (p', q', row') → fI (rG o) M M' → mgI M' o 5 = nI p' → mgI M' o 46 = nI q' → (∀ j, j < q' → ar o 30 M' j = row' j) → mgI M' o 47 = nI (w + 1) → Post 1 M') : wp_X7_readsWeek M o Post := by
  have wr : ∀ (M1 : MM) (c : Nat) (p' : Nat) (P : Int32 → MM → Prop), fI (rG o) M M1 → mgI M1 o 5 = nI p' → rkS s t n p q row = .inl (c, p') → (∀ M', Post 0 M' → P 0 M') → wp_X7_wrongAt M1 o (nI c) (mgI M1 o 5) P := by
    intro M1 c p' P hF1 hp1 hR hP
    rw [w7_wrongAt, hp1]
    exact hP _ (h0 (c, p') _ (hF1.s (by unfold rG; omega)) hR fd_e)
  unfold wp_X7_readsWeek
  rw [w7_here hL ht hp hn hn2 (by omega), w7_isDayAt]
  have go : ¬ (dayC (chS t n p) = true ∧ q = 84) → ∀ (X : MM → Prop), (∀ M' p' q' row', rE o M M' n p' q' row' → rwS s t n 8 p 0 q row = .inr (p', q', row') → X M') → ∃ f, wl_X7_readsWeek_31 o
    (fun (M_66 : MM) => wp_X7_wrongAt M_66 o (1 : Int32) (mgI M_66 o 5) (fun r_69 M_68 => isB_ r_69 ∧ Post r_69 M_68))
    (fun (M_72 : MM) => wp_X7_wrongAt M_72 o (6 : Int32) (mgI M_72 o 5) (fun r_75 M_74 => isB_ r_75 ∧ Post r_75 M_74))
    (fun (M_78 : MM) => wp_X7_wrongAt M_78 o (1 : Int32) (mgI M_78 o 5) (fun r_81 M_80 => isB_ r_81 ∧ Post r_81 M_80))
    (fun (M_84 : MM) => wp_X7_wrongAt M_84 o (7 : Int32) (mgI M_84 o 5) (fun r_87 M_86 => isB_ r_87 ∧ Post r_87 M_86)) X f M (nI 0) := by
    intro hne X hX
    have hrk : ∀ e, rwS s t n 8 p 0 q row = .inl e → rkS s t n p q row = .inl e := by
      intro e he
      unfold rkS
      rw [if_neg hne, he]
    refine ⟨8, l7_rw31 (R := rwS s t n 8 p 0 q row) hL hs ht hn hn2 (fun M1 p' q' row' hE _ hR => hX M1 p' q' row' hE hR) (fun M1 p' hF1 hp1 hR => ?_) (fun M1 p' hF1 hp1 hR => ?_) (fun M1 p' hF1 hp1 hR => ?_) 8 p 0 q row M (by omega) (by omega) (fun e => ?_) (by omega) ⟨fI.rf, hp, hq, hr⟩ rfl⟩
    · exact ⟨wr M1 1 p' _ (rF_rG hF1) hp1 (hrk _ hR) (fun M' k => ⟨Or.inl rfl, k⟩), wr M1 1 p' _ (rF_rG hF1) hp1 (hrk _ hR) (fun M' k => ⟨Or.inl rfl, k⟩)⟩
    · exact wr M1 6 p' _ (rF_rG hF1) hp1 (hrk _ hR) (fun M' k => ⟨Or.inl rfl, k⟩)
    · exact wr M1 7 p' _ (rF_rG hF1) hp1 (hrk _ hR) (fun M' k => ⟨Or.inl rfl, k⟩)
    · have : ¬ q = 84 := fun x => hne ⟨e, x⟩
      omega
  have done : ¬ (dayC (chS t n p) = true ∧ q = 84) → ∀ M' p' q' row', rE o M M' n p' q' row' → rwS s t n 8 p 0 q row = .inr (p', q', row') → ∀ M_92, M_92 = msI M' o 47 ((mgI M' o 47) + (1 : Int32)) → wp_X7_here M_92 o (fun r_95 M_94 => wp_X7_isDayAt M_94 r_95 (fun r_98 M_97 => if r_98 = 0 then (Post (1 : Int32) M_97)
  else (wp_X7_wrongAt M_97 o (6 : Int32) (mgI M_97 o 5) (fun r_102 M_101 => if r_102 = 0 then (Post (0 : Int32) M_101)
  else (Post (1 : Int32) M_101))))) := by
    intro hne M1 p' q' row' ⟨hF, hp1, hq1, hr1⟩ hR M2 e2
    obtain ⟨_, hpn', _, _⟩ := rwS_ok 8 p 0 q row _ _ _ (by omega) hpn hR hv
    have h47 : mgI M1 o 47 = nI w := (hF.2 _ _ (by unfold rF; omega)).trans hwk
    rw [h47, ap1] at e2
    have hF2 : fI (rG o) M M2 := by rw [e2]; exact (rF_rG hF).s (by unfold rG; omega)
    have hL2 : ML o M2 := ML_of hF2.e hL
    have ht2 : ar o 4 M2 = t := (funext fun k => hF2.2 _ _ (by unfold rG; omega)).trans ht
    have hn2' : mgI M2 o 6 = nI n := (hF2.2 _ _ (by unfold rG; omega)).trans hn
    have hp2 : mgI M2 o 5 = nI p' := by rw [e2, fd_n (by omega)]; exact hp1
    rw [w7_here hL2 ht2 hp2 hn2' hn2 (by omega), w7_isDayAt]
    by_cases e3 : dayC (chS t n p') = true
    · rw [if_pos e3, if_neg n10]
      refine wr M2 6 p' _ hF2 hp2 ?_ (fun M' k => by rw [if_pos rfl]; exact k)
      unfold rkS
      rw [if_neg hne, hR]
      dsimp only
      rw [if_pos e3]
    · rw [if_neg e3, if_pos rfl]
      refine h1 p' q' row' M2 ?_ hF2 hp2 ?_ ?_ ?_
      · unfold rkS
        rw [if_neg hne, hR]
        dsimp only
        rw [if_neg e3]
      · rw [e2, fd_n (by omega)]; exact hq1
      · intro j hj; rw [e2, ar_0 (by omega)]; exact hr1 j hj
      · rw [e2]; exact fd_e
  by_cases e1 : dayC (chS t n p) = true
  · rw [if_pos e1, if_neg n10, hwk]
    by_cases e2 : w = 12
    · rw [if_pos (by rw [e2]; rfl)]
      refine wr M 4 p _ fI.rf hp ?_ (fun M' k => ⟨Or.inl rfl, k⟩)
      unfold rkS
      rw [if_pos ⟨e1, by omega⟩]
    · rw [if_neg (show ¬ nI w = (12 : Int32) from fun x => e2 ((nI_eq (a := w) (b := 12) (by omega) (by omega)).mp x))]
      have hne : ¬ (dayC (chS t n p) = true ∧ q = 84) := fun x => e2 (by omega)
      exact go hne _ (done hne)
  · rw [if_neg e1, if_pos rfl]
    have hne : ¬ (dayC (chS t n p) = true ∧ q = 84) := fun x => e1 x.1
    exact go hne _ (done hne)
theorem w7_takes {o n p : Nat} {M : MM} {t : Nat → Int32} {c : Int32} {Post : Int32 → MM → Prop} (hL : ML o M) (ht : ar o 4 M = t) (hp : mgI M o 5 = nI p) (hn : mgI M o 6 = nI n) (hn2 : n ≤ 220) (hp2 : p < 1000) (h1 : chS t n p = c → Post 1 (msI M o 5 (nI (p + 1)))) (h0 : ¬ chS t n p = c → Post 0 (msI M o 7 (erV 1 p))) : wp_X7_takes M o c Post := by
  unfold wp_X7_takes
  rw [w7_here hL ht hp hn hn2 hp2]
  by_cases e : chS t n p = c
  · rw [if_pos e]
    simp only [forall_eq]
    rw [hp, ap1]; exact h1 e
  · rw [if_neg e, w7_wrongAt, hp]
    exact ⟨Or.inl rfl, h0 e⟩
/-- all weeks are read -/
theorem l7_ro87 {o n : Nat} {x1 x3 : Int32} {M0 : MM} {s t : Nat → Int32} {R : Rs} {X : MM → Int32 → Prop} (hL : ML o M0) (hs : ar o 1 M0 = s) (ht : ar o 4 M0 = t) (hn : mgI M0 o 6 = nI n) (hn2 : n ≤ 220)
    (h0 : ∀ e M', fI (rG o) M0 M' → R = .inl e → mgI M' o 7 = erV e.1 e.2 → X M' 0)
    (h1 : ∀ p' q' row' M', R = .inr (p', q', row') → fI (rG o) M0 M' → mgI M' o 46 = nI q' → q' ≤ 84 → (∀ j, j < q' → ar o 30 M' j = row' j) → (∀ j, j < q' → rvO (row' j)) → X M' 1) :
    ∀ f p q w row M, n + 1 ≤ p + f → p ≤ n → fI (rG o) M0 M → mgI M o 5 = nI p → mgI M o 46 = nI q → (∀ j, j < q → ar o 30 M j = row j) → mgI M o 47 = nI w → q = 7 * w → w ≤ 12 → (∀ j, j < q → rvO (row j)) → rpS s t n f (.inr (p, q, row)) = R → wl_X7_rota_87 o x1 x3 X (f + 1) M 1 := by
  intro f
  induction f with
  | zero => intro p q w row M h1 h2; omega
  | succ f ih =>
    intro p q w row M hf hpn hF hp hq hr hw hqw hw12 hv hR
    have hML : ML o M := ML_of hF.e hL
    have ht1 : ar o 4 M = t := (funext fun k => hF.2 _ _ (by unfold rG; omega)).trans ht
    have hs1 : ar o 1 M = s := (funext fun k => hF.2 _ _ (by unfold rG; omega)).trans hs
    have hn1 : mgI M o 6 = nI n := (hF.2 _ _ (by unfold rG; omega)).trans hn
    unfold wl_X7_rota_87
    rw [if_neg n10, hn1, hp]
    unfold rpS at hR
    by_cases e1 : n ≤ p
    · rw [if_pos e1] at hR
      rw [if_pos (nI_le e1 (by omega))]
      exact h1 p q row M hR.symm hF hq (by omega) hr hv
    · rw [if_neg e1] at hR
      rw [if_neg (nI_ge (by omega) (by omega))]
      refine w7_takes hML ht1 hp hn1 hn2 (by omega) (fun e2 => ?_) (fun e2 => ?_)
      · rw [if_neg n10]
        rw [if_pos e2] at hR
        have hF2 : fI (rG o) M0 (msI M o 5 (nI (p + 1))) := hF.s (by unfold rG; omega)
        refine w7_readsWeek (M := msI M o 5 (nI (p + 1))) (s := s) (t := t) (row := row) (n := n) (p := p + 1) (q := q) (w := w) hML ((ar_0 (by omega)).trans hs1) ((ar_0 (by omega)).trans ht1) ((fd_n (by omega)).trans hn1) hn2 (by omega) fd_e ((fd_n (by omega)).trans hq) (fun j hj => by rw [ar_0 (by omega)]; exact hr j hj) ((fd_n (by omega)).trans hw) hqw hw12 hv (fun e M2 hF3 hE h7 => ?_) (fun p' q' row' M2 hE hF3 hp3 hq3 hr3 hw3 => ?_)
        · rw [if_pos rfl]
          rw [hE] at hR
          unfold wl_X7_rota_87
          rw [if_pos rfl]
          refine h0 e M2 (hF2.tr hF3) ?_ h7
          cases f <;> exact hR.symm
        · rw [if_neg n10]
          obtain ⟨k1, k2, k3, k4, k5⟩ := rkS_ok (by omega) hE hv
          rw [hE] at hR
          exact ih p' q' (w + 1) row' M2 (by omega) k2 (hF2.tr hF3) hp3 hq3 hr3 hw3 (by omega) (by omega) k4 hR
      · rw [if_pos rfl]
        rw [if_neg e2] at hR
        unfold wl_X7_rota_87
        rw [if_pos rfl]
        exact h0 (1, p) _ (hF.s (by unfold rG; omega)) hR.symm fd_e
