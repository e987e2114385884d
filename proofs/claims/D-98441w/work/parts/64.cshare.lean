/-! the component: shares -/
set_option maxRecDepth 100000
theorem gN_le : ∀ n (x y : Int64), y.toInt.natAbs < n → y ≠ 0 → gN n x y = y ∨ (gN n x y).toInt.natAbs < y.toInt.natAbs := by
  intro n
  induction n with
  | zero => intro x y h; omega
  | succ n ih =>
    intro x y h hy
    unfold gN
    rw [if_neg hy]
    by_cases e : rmL_ x y = 0
    · refine Or.inl ?_
      cases n with
      | zero => rfl
      | succ n => unfold gN; rw [if_pos e]
    · have hl := rmL_lt (x := x) hy
      rcases ih y (rmL_ x y) (by omega) e with k | k
      · rw [k]; exact Or.inr hl
      · exact Or.inr (by omega)
theorem gcS_32 {x : Int64} {y : Int32} (hy : y ≠ 0) : (gcS x y.toInt64).toInt32.toInt = (gcS x y.toInt64).toInt := by
  have h64 : y.toInt64.toInt = y.toInt := Int32.toInt_toInt64 y
  have hne : y.toInt64 ≠ 0 := by
    intro e
    have := congrArg Int64.toInt e
    rw [h64] at this
    exact hy (Int32.toInt_inj.mp this)
  have h1 := Int32.le_toInt y
  have h2 := Int32.toInt_lt y
  have hb : -2147483648 ≤ (gcS x y.toInt64).toInt ∧ (gcS x y.toInt64).toInt < 2147483648 := by
    unfold gcS
    rcases gN_le (y.toInt64.toInt.natAbs + 1) x y.toInt64 (by omega) hne with k | k
    · rw [k, h64]; omega
    · rw [h64] at k; rw [h64]; omega
  rw [Int64.toInt_toInt32]
  exact Int.bmod_eq_of_le (by omega) (by omega)
theorem div_32 {x : Int32} {g : Int64} (hg : g.toInt32.toInt = g.toInt) : (x.toInt64 / g).toInt32 = x / g.toInt32 := by
  refine Int32.toInt_inj.mp ?_
  rw [Int64.toInt_toInt32, Int64.toInt_div, Int32.toInt_div, hg, Int32.toInt_toInt64]
  exact Int.bmod_bmod_of_dvd (by decide)
theorem ne_32 {g : Int64} (hg : g.toInt32.toInt = g.toInt) (h : g ≠ 0) : g.toInt32 ≠ 0 := by
  intro e
  rw [e] at hg
  exact h (Int64.toInt_inj.mp hg.symm)
theorem l0_all {o : Nat} {M : MM} {s : Nat → Int32} {X : MM → Int32 → Prop} (hA : LA (o + 2) M) (hR : LdR M (o + 2) s) {x1 x2 : Int32} (h : X M (shA s)) : ∃ n, wl_X0_share_55 o x1 x2 (o + 2 + 2) (nI 8) X n M 0 (nI 0) := by
  refine cl_ (fun n (v : Int32) p => wl_X0_share_55 o x1 x2 (o + 2 + 2) (nI 8) X n M v (nI p)) (fun p v => v = itN (fun p v => if isPe s (nI p) = true then v + s (68 + p) else v) p 0) 8 ?_ ?_ 0 0 (by omega) rfl
  · intro n p v hp hv hs'
    show wl_X0_share_55 o x1 x2 (o + 2 + 2) (nI 8) X (n + 1) M v (nI p)
    unfold wl_X0_share_55
    rw [if_neg (nI_ge hp (by omega))]
    have hu : itN (fun p v => if isPe s (nI p) = true then v + s (68 + p) else v) (p + 1) 0 = if isPe s (nI p) = true then itN (fun p v => if isPe s (nI p) = true then v + s (68 + p) else v) p 0 + s (68 + p) else itN (fun p v => if isPe s (nI p) = true then v + s (68 + p) else v) p 0 := rfl
    rw [← hv] at hu
    simp (disch := first | assumption | omega) only [mgR_sI, mgR_sL, mkd_sI, mkd_sL, mln_sI, mln_sL, Option.some.injEq, exists_eq_left', forall_eq, true_and, and_true, Nat.reduceLT, exists_eq_left, LA_k, LA_r0, LA_k1, LA_l1, LA_r1, LA_k2, LA_l2, LA_pl, LA_pk, LA_lr, LA_lk, LA_ll, LA_er, LA_ek, OU_k, OU_r0, OU_k1, OU_r13, OU_r5, OU_k60, OU_l60, ia0, ia4, ia8, ia12, ia16, ia20, ia24, ia52, ia60, ia68, im7, im14, ap6, iaN, ap1, ixN, vpN]
    rcases hR.2.1 p hp with ⟨h1, h2, _, _, h5⟩ | ⟨h1, h2⟩
    · rw [h2, if_neg n10, h5]
      refine hs' _ ?_
      rw [hu, if_pos h1]
    · rw [h2, if_pos rfl]
      refine hs' _ ?_
      rw [hu, if_neg (by rw [h1]; decide), Int32.add_zero]
  · intro n v hv
    show wl_X0_share_55 o x1 x2 (o + 2 + 2) (nI 8) X (n + 1) M v (nI 8)
    unfold wl_X0_share_55
    rw [if_pos (nI_le (Nat.le_refl _) (by omega)), hv]
    exact h
/-- the one who gave most so far -/
def shI (s : Nat → Int32) (n : Nat) (b : Option Nat) : Prop := ∀ q, b = some q → q < n ∧ 0 < s (68 + q) ∧ isPe s (nI q) = true
theorem l0_one {o : Nat} {M : MM} {s : Nat → Int32} {X : MM → Int32 → Prop} (hL : CL o M) (hR : LdR M (o + 2) s) (h : X M (bO (shM s 8))) : ∃ n, wl_X0_theOne_5 o X n M (-2) (nI 0) := by
  have hA := CL_A2 hL
  refine cl_ (fun n (b : Option Nat) p => wl_X0_theOne_5 o X n M (bO b) (nI p)) (fun p b => b = shM s p ∧ shI s p b) 8 ?_ ?_ none 0 (by omega) ⟨rfl, fun q hq => by cases hq⟩
  · intro n p b hp ⟨hv, hI⟩ hs'
    show wl_X0_theOne_5 o X (n + 1) M (bO b) (nI p)
    unfold wl_X0_theOne_5
    rw [if_neg (show ¬ (8 : Int32) ≤ nI p from (show ¬ nI 8 ≤ nI p from nI_ge (by omega) (by omega)))]
    have hu : shM s (p + 1) = if isPe s (nI p) = true then shF s p (shM s p) else shM s p := rfl
    rw [← hv] at hu
    unfold wb_X0_theOne_51
    rw [w0_isPerson hL hR]
    by_cases e : isPe s (nI p) = true
    · rw [if_pos e] at hu
      rw [if_pos e, if_neg n10]
      have g5 := (hR.pe hp e).2.2.2
      cases b with
      | none =>
        rw [show bO none = (-2 : Int32) from rfl]
        simp (disch := first | assumption | omega) only [CL_t2, CL_t21, CL_t40, CL_r1, CL_r2, CL_r3, CL_r4, CL_k59, CL_l59, CL_r9, CL_k65, CL_l65, CL_r10, CL_k91, CL_l91, CL_r11, CL_k117, CL_l117, CL_r12, CL_k118, CL_l118, CL_r23, CL_k119, CL_l119, CL_r24, CL_k120, CL_l120, CL_r27, CL_k121, CL_l121, CL_r28, CL_k274, CL_l274, CL_r29, CL_k279, CL_l279, CL_r30, CL_k280, CL_l280, CL_r32, CL_k281, CL_l281, mgR_sI, mgR_sL, mkd_sI, mkd_sL, mln_sI, mln_sL, Option.some.injEq, exists_eq_left', forall_eq, true_and, and_true, Nat.reduceLT, exists_eq_left, LA_k, LA_r0, LA_k1, LA_l1, LA_r1, LA_k2, LA_l2, LA_pl, LA_pk, LA_lr, LA_lk, LA_ll, LA_er, LA_ek, OU_k, OU_r0, OU_k1, OU_r13, OU_r5, OU_k60, OU_l60, ia0, ia4, ia8, ia12, ia16, ia20, ia24, ia52, ia60, ia68, im7, im14, ap6, iaN, ap1, ixN, vpN]
        rw [if_neg (show ¬ (0 : Int32) ≤ -2 by decide), g5]
        have hu2 : shM s (p + 1) = if 0 < s (68 + p) then some p else none := hu
        by_cases e0 : s (68 + p) ≤ 0
        · rw [if_pos e0]
          rw [if_neg (i32_nlt.mpr e0)] at hu2
          exact hs' none ⟨hu2.symm, fun q hq => by cases hq⟩
        · rw [if_neg e0]
          have e0' : 0 < s (68 + p) := i32_nle.mp e0
          rw [if_pos e0'] at hu2
          exact hs' (some p) ⟨hu2.symm, fun q hq => by cases hq; exact ⟨by omega, e0', e⟩⟩
      | some q =>
        obtain ⟨q1, q2, q3⟩ := hI q rfl
        have hq8 : q < 8 := by omega
        have g6 := (hR.pe hq8 q3).2.2.2
        rw [show bO (some q) = nI q from rfl]
        simp (disch := first | assumption | omega) only [CL_t2, CL_t21, CL_t40, CL_r1, CL_r2, CL_r3, CL_r4, CL_k59, CL_l59, CL_r9, CL_k65, CL_l65, CL_r10, CL_k91, CL_l91, CL_r11, CL_k117, CL_l117, CL_r12, CL_k118, CL_l118, CL_r23, CL_k119, CL_l119, CL_r24, CL_k120, CL_l120, CL_r27, CL_k121, CL_l121, CL_r28, CL_k274, CL_l274, CL_r29, CL_k279, CL_l279, CL_r30, CL_k280, CL_l280, CL_r32, CL_k281, CL_l281, mgR_sI, mgR_sL, mkd_sI, mkd_sL, mln_sI, mln_sL, Option.some.injEq, exists_eq_left', forall_eq, true_and, and_true, Nat.reduceLT, exists_eq_left, LA_k, LA_r0, LA_k1, LA_l1, LA_r1, LA_k2, LA_l2, LA_pl, LA_pk, LA_lr, LA_lk, LA_ll, LA_er, LA_ek, OU_k, OU_r0, OU_k1, OU_r13, OU_r5, OU_k60, OU_l60, ia0, ia4, ia8, ia12, ia16, ia20, ia24, ia52, ia60, ia68, im7, im14, ap6, iaN, ap1, ixN, vpN]
        rw [if_pos (show (0 : Int32) ≤ nI q from (show nI 0 ≤ nI q from nI_le (by omega) (by omega))), g5, g6]
        have hu2 : shM s (p + 1) = if 0 < s (68 + p) then (if s (68 + q) < s (68 + p) then some p else some q) else some q := hu
        by_cases e0 : s (68 + p) ≤ s (68 + q)
        · rw [if_pos e0]
          rw [if_neg (i32_nlt.mpr e0)] at hu2
          refine hs' (some q) ⟨?_, fun r hr => by cases hr; exact ⟨by omega, q2, q3⟩⟩
          rw [hu2]
          split <;> rfl
        · rw [if_neg e0]
          have e0' : s (68 + q) < s (68 + p) := i32_nle.mp e0
          have e1 : 0 < s (68 + p) := by
            rw [Int32.lt_iff_toInt_lt] at q2 e0' ⊢
            omega
          rw [if_pos e0', if_pos e1] at hu2
          exact hs' (some p) ⟨hu2.symm, fun r hr => by cases hr; exact ⟨by omega, e1, e⟩⟩
    · rw [if_neg e] at hu
      rw [if_neg e, if_pos rfl]
      simp only [forall_eq, ia0, ia4, ia8, ia12, ia16, ia20, ia24, ia52, ia60, ia68, im7, im14, ap6, iaN, ap1, ixN, vpN]
      exact hs' b ⟨hu.symm, fun q hq => by obtain ⟨a1, a2⟩ := hI q hq; exact ⟨by omega, a2⟩⟩
  · intro n b ⟨hv, _⟩
    show wl_X0_theOne_5 o X (n + 1) M (bO b) (nI 8)
    unfold wl_X0_theOne_5
    rw [if_pos (show (8 : Int32) ≤ nI 8 from by decide), hv]
    exact h
theorem C_share {o : Nat} {M : MM} {S : St} {x w : Int32} {Post : Int32 → MM → Prop} (hC : CR o M S) (h : Post (srS S.1 x w) M) : wp_X0_share M o x w Post := by
  have hL := hC.1
  have hA := CL_A2 hL
  have hR := hC.2.2.2.1
  unfold wp_X0_share
  unfold srS at h
  by_cases e1 : x = -1
  · rw [if_pos e1] at h ⊢
    by_cases e2 : w = 0
    · rw [if_pos e2] at h ⊢
      unfold wp_X0_theOne
      exact l0_one hL hR h
    · rw [if_neg e2] at h ⊢; exact h
  · rw [if_neg e1] at h ⊢
    rw [w0_isPerson hL hR]
    by_cases e2 : isPe S.1 x = true
    · rw [if_pos e2, if_neg n10, in_2]
      by_cases e3 : inS w 0 1 = true
      · rw [e2, e3, Bool.and_self, if_pos rfl] at h
        rw [if_pos e3, if_neg n10]
        obtain ⟨p, hp, rfl⟩ := isPe_n e2
        rw [ixN (by omega)] at h
        have g5 := (hR.pe hp e2).2.2.2
        refine ⟨o + 2, CL_r1 hL, LA_k hA, o + 2 + 2, LA_r1 hA, LA_k2 hA, ?_⟩
        rw [LA_l2 hA]
        simp only [forall_eq]
        refine l0_all hA hR ?_
        refine ⟨o + 2, CL_r1 hL, LA_k hA, o + 2 + 2, LA_r1 hA, LA_k2 hA, ?_, o + 2 + 11 + p, ?_, (LA_Q hA p hp).2, ?_⟩
        · simp (disch := first | assumption | omega) only [mgR_sI, mgR_sL, mkd_sI, mkd_sL, mln_sI, mln_sL, Option.some.injEq, exists_eq_left', forall_eq, true_and, and_true, Nat.reduceLT, exists_eq_left, LA_k, LA_r0, LA_k1, LA_l1, LA_r1, LA_k2, LA_l2, LA_pl, LA_pk, LA_lr, LA_lk, LA_ll, LA_er, LA_ek, OU_k, OU_r0, OU_k1, OU_r13, OU_r5, OU_k60, OU_l60, ia0, ia4, ia8, ia12, ia16, ia20, ia24, ia52, ia60, ia68, im7, im14, ap6, iaN, ap1, ixN, vpN]
        · simp (disch := first | assumption | omega) only [mgR_sI, mgR_sL, mkd_sI, mkd_sL, mln_sI, mln_sL, Option.some.injEq, exists_eq_left', forall_eq, true_and, and_true, Nat.reduceLT, exists_eq_left, LA_k, LA_r0, LA_k1, LA_l1, LA_r1, LA_k2, LA_l2, LA_pl, LA_pk, LA_lr, LA_lk, LA_ll, LA_er, LA_ek, OU_k, OU_r0, OU_k1, OU_r13, OU_r5, OU_k60, OU_l60, ia0, ia4, ia8, ia12, ia16, ia20, ia24, ia52, ia60, ia68, im7, im14, ap6, iaN, ap1, ixN, vpN]
        rw [g5]
        by_cases e4 : shA S.1 = 0
        · rw [if_pos e4] at h ⊢; exact h
        · rw [if_neg e4] at h
          rw [if_neg e4]
          refine w0_divisor ?_
          try simp only [forall_eq]
          have hne : (shA S.1).toInt64 ≠ 0 := by
            intro e
            have := congrArg Int64.toInt e
            rw [Int32.toInt_toInt64] at this
            exact e4 (Int32.toInt_inj.mp this)
          have k1 := gcS_32 (x := (S.1 (68 + p)).toInt64) e4
          have k2 := ne_32 k1 (gcS_ne hne)
          unfold thS at h
          by_cases e5 : w = 0
          · rw [if_pos e5] at h ⊢
            rw [div_32 k1] at h
            exact ⟨k2, h⟩
          · rw [if_neg e5] at h ⊢
            rw [div_32 k1] at h
            exact ⟨k2, h⟩
      · rw [show inS w 0 1 = false by simpa using e3, Bool.and_false, if_neg (by decide)] at h
        rw [if_neg e3, if_pos rfl]; exact h
    · rw [show isPe S.1 x = false by simpa using e2, Bool.false_and, if_neg (by decide)] at h
      rw [if_neg e2, if_pos rfl]; exact h
