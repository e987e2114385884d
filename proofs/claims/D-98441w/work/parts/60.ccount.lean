/-! the component: what a plant is, counts -/
set_option maxRecDepth 100000
theorem in_sub {w : Int32} {c k : Nat} (h : c + k < 2147483648) : inS (w - nI c) 0 (nI k) = inS w (nI c) (nI (c + k)) := by
  rw [Bool.eq_iff_iff]
  constructor
  · intro e
    obtain ⟨j, hj, e2⟩ := inS_n (n := k) (by omega) e
    have e3 : w = nI (j + c) := by
      rw [← nI_add, ← e2, Int32.sub_add_cancel]
    rw [e3]
    exact inS_iff.mpr ⟨nI_le (by omega) (by omega), nI_le (by omega) (by omega)⟩
  · intro e
    obtain ⟨j, h1, h2, rfl⟩ := inS_ab (a := c) (b := c + k) (by omega) (by omega) e
    rw [pk_sub h1]
    exact inS_iff.mpr ⟨(show nI 0 ≤ nI (j - c) from nI_le (by omega) (by omega)), nI_le (by omega) (by omega)⟩
theorem isPe_sub {s : Nat → Int32} {w : Int32} {c : Nat} (h : c + 7 < 2147483648) (e : isPe s (w - nI c) = true) : inS w (nI c) (nI (c + 7)) = true := by
  unfold isPe at e
  rw [Bool.and_eq_true] at e
  exact (in_sub (k := 7) h).symm.trans e.1
theorem isPl_sub {s : Nat → Int32} {w : Int32} {c : Nat} (h : c + 3 < 2147483648) (e : isPl s (w - nI c) = true) : inS w (nI c) (nI (c + 3)) = true := by
  unfold isPl at e
  rw [Bool.and_eq_true] at e
  exact (in_sub (k := 3) h).symm.trans e.1
theorem C_plantIs {o : Nat} {M : MM} {S : St} {x w : Int32} {Post : Int32 → MM → Prop} (hC : CR o M S) (hS : SOk S) (h : Post (piS S.1 x w) M) : wp_X0_plantIs M o x w Post := by
  have hL := hC.1
  have hA := CL_A2 hL
  have hR := hC.2.2.2.1
  have k1 := hS.1
  unfold wp_X0_plantIs
  unfold piS at h
  rw [w0_isPlant hL hR]
  by_cases e1 : isPl S.1 x = true
  · rw [if_pos e1] at h
    rw [if_pos e1, if_neg n10]
    obtain ⟨l, hl, rfl⟩ := isPl_n e1
    have hT := (hR.pl hl e1).2
    have hlv := livS_iff k1 hl e1
    obtain ⟨t1, t2, t3, t4, t5, t6, t7, t8⟩ := id hT
    rw [ixN (by omega)] at h
    refine ⟨o + 2, CL_r1 hL, LA_k hA, o + 2 + 1, LA_r0 hA, LA_k1 hA, ?_, o + 2 + 3 + 2 * l, ?_, LA_pk hA hl, ?_⟩
    · simp (disch := first | assumption | omega) only [mgR_sI, mgR_sL, mkd_sI, mkd_sL, mln_sI, mln_sL, Option.some.injEq, exists_eq_left', forall_eq, true_and, and_true, Nat.reduceLT, exists_eq_left, LA_k, LA_r0, LA_k1, LA_l1, LA_r1, LA_k2, LA_l2, LA_pl, LA_pk, LA_lr, LA_lk, LA_ll, LA_er, LA_ek, OU_k, OU_r0, OU_k1, OU_r13, OU_r5, OU_k60, OU_l60, ia0, ia4, ia8, ia12, ia16, ia20, ia24, ia52, ia60, ia68, im7, im14, ap6, iaN, ap1, ixN, vpN]
    · simp (disch := first | assumption | omega) only [mgR_sI, mgR_sL, mkd_sI, mkd_sL, mln_sI, mln_sL, Option.some.injEq, exists_eq_left', forall_eq, true_and, and_true, Nat.reduceLT, exists_eq_left, LA_k, LA_r0, LA_k1, LA_l1, LA_r1, LA_k2, LA_l2, LA_pl, LA_pk, LA_lr, LA_lk, LA_ll, LA_er, LA_ek, OU_k, OU_r0, OU_k1, OU_r13, OU_r5, OU_k60, OU_l60, ia0, ia4, ia8, ia12, ia16, ia20, ia24, ia52, ia60, ia68, im7, im14, ap6, iaN, ap1, ixN, vpN]
    have ei : inS (w - (10 : Int32)) 0 6 = inS w 10 16 := in_sub (w := w) (c := 10) (k := 6) (by omega)
    rw [in_7, ei]
    by_cases e7 : inS w 10 16 = true
    · rw [if_pos e7, if_neg n10]
      obtain ⟨j, hj1, hj2, rfl⟩ := inS_ab (a := 10) (b := 16) (by omega) (by omega) e7
      have nz : ∀ k, k < 7 → ¬ nI j = nI k := fun k hk => fun e => by
        have := (nI_eq (a := j) (b := k) (by omega) (by omega)).mp e
        omega
      have g1 : nI j - (10 : Int32) = nI (j - 10) := pk_sub hj1
      rw [if_neg (show ¬ nI j = (0 : Int32) from nz 0 (by omega)), if_neg (show ¬ nI j = (1 : Int32) from nz 1 (by omega)), if_neg (show ¬ nI j = (2 : Int32) from nz 2 (by omega)), if_neg (show ¬ nI j = (3 : Int32) from nz 3 (by omega)), if_neg (show ¬ nI j = (4 : Int32) from nz 4 (by omega)), if_neg (show ¬ nI j = (5 : Int32) from nz 5 (by omega)), if_neg (show ¬ nI j = (6 : Int32) from nz 6 (by omega)), if_pos e7, g1, ixN (by omega)] at h
      rw [g1]
      exact w4_looked hA hl hT (by omega) rfl h
    · rw [if_neg e7, if_pos rfl]
      by_cases c0 : w = 0
      · rw [if_pos c0] at h ⊢; rw [t1]; exact h
      rw [if_neg c0] at h ⊢
      by_cases c1 : w = 1
      · rw [if_pos c1] at h ⊢; rw [t2]; exact h
      rw [if_neg c1] at h ⊢
      by_cases c2 : w = 2
      · rw [if_pos c2] at h ⊢; rw [t3]; exact h
      rw [if_neg c2] at h ⊢
      by_cases c3 : w = 3
      · rw [if_pos c3] at h ⊢; rw [t4]; exact h
      rw [if_neg c3] at h ⊢
      by_cases c4 : w = 4
      · rw [if_pos c4] at h ⊢; rw [t5]; exact h
      rw [if_neg c4] at h ⊢
      by_cases c5 : w = 5
      · rw [if_pos c5] at h ⊢
        rw [w4_isDead hT]
        rw [hlv] at h
        by_cases e3 : plD S.1 l = true
        · rw [if_pos e3, if_neg n10]
          rw [e3] at h; exact h
        · rw [if_neg e3, if_pos rfl]
          rw [show plD S.1 l = false by simpa using e3] at h; exact h
      rw [if_neg c5] at h ⊢
      by_cases c6 : w = 6
      · rw [if_pos c6] at h ⊢
        rw [← t6] at h
        unfold caS at h
        by_cases q1 : mgI M (o + 2 + 3 + 2 * l) 9 = 0
        · rw [if_pos q1] at h ⊢; exact h
        · rw [if_neg q1] at h ⊢
          by_cases q2 : mgI M (o + 2 + 3 + 2 * l) 7 = -1
          · rw [if_pos q2] at h ⊢; exact h
          · rw [if_neg q2] at h ⊢; exact h
      rw [if_neg c6] at h ⊢
      rw [if_neg e7] at h
      exact h
  · rw [if_neg e1] at h
    rw [if_neg e1, if_pos rfl]; exact h
/-- a set of places -/
def stB (f : Nat → Bool) : Nat → Int32
  | 0 => 0
  | n + 1 => stB f n ||| (if f n = true then ((1 : Int32) <<< (nI n &&& 31)) else 0)
theorem stB_c {f g : Nat → Bool} : ∀ n, (∀ k, k < n → f k = g k) → stB f n = stB g n := by
  intro n
  induction n with
  | zero => intro _; rfl
  | succ n ih =>
    intro h
    show stB f n ||| _ = stB g n ||| _
    rw [ih (fun k hk => h k (by omega)), h n (by omega)]
theorem stB4 {d : Nat} (hd : d < 16) : stB (fun l => hs_ (nI d) (nI l)) 4 = nI d := by
  have k : ∀ d, d < 16 → stB (fun l => hs_ (nI d) (nI l)) 4 = nI d := by decide +kernel
  exact k d hd
theorem stB8 {d : Nat} (hd : d < 256) : stB (fun l => hs_ (nI d) (nI l)) 8 = nI d := by
  have k : ∀ d, d < 256 → stB (fun l => hs_ (nI d) (nI l)) 8 = nI d := by decide +kernel
  exact k d hd
theorem w3_dead {M : MM} {a : Nat} {s : Nat → Int32} {Post : Int32 → MM → Prop} (hA : LA a M) (hS : RowOk s) (hR : LdR M a s) (h : Post (s 77) M) : wp_X3_dead M a Post := by
  have key : ∀ (X : MM → Int32 → Prop), X M (stB (fun l => hs_ (s 77) (nI l)) 4) → ∃ n, wl_X3_dead_4 a X n M 0 (nI 0) := by
    intro X hX
    refine cl_ (fun n (v : Int32) l => wl_X3_dead_4 a X n M v (nI l)) (fun l v => v = stB (fun l => hs_ (s 77) (nI l)) l) 4 ?_ ?_ 0 0 (by omega) rfl
    · intro n l v hl hv hs'
      show wl_X3_dead_4 a X (n + 1) M v (nI l)
      unfold wl_X3_dead_4
      rw [if_neg (show ¬ (4 : Int32) ≤ nI l from (show ¬ nI 4 ≤ nI l from nI_ge (by omega) (by omega)))]
      unfold wb_X3_dead_40
      have hu : stB (fun l => hs_ (s 77) (nI l)) (l + 1) = stB (fun l => hs_ (s 77) (nI l)) l ||| (if hs_ (s 77) (nI l) = true then ((1 : Int32) <<< (nI l &&& 31)) else 0) := rfl
      obtain ⟨g1, g2⟩ := hS.2.2.2 l hl
      simp (disch := first | assumption | omega) only [mgR_sI, mgR_sL, mkd_sI, mkd_sL, mln_sI, mln_sL, Option.some.injEq, exists_eq_left', forall_eq, true_and, and_true, Nat.reduceLT, exists_eq_left, LA_k, LA_r0, LA_k1, LA_l1, LA_r1, LA_k2, LA_l2, LA_pl, LA_pk, LA_lr, LA_lk, LA_ll, LA_er, LA_ek, OU_k, OU_r0, OU_k1, OU_r13, OU_r5, OU_k60, OU_l60, ia0, ia4, ia8, ia12, ia16, ia20, ia24, ia52, ia60, ia68, im7, im14, ap6, iaN, ap1, ixN, vpN]
      rcases (hR.1 l hl).2 with ⟨h1, h2, h3⟩ | ⟨h1, h2⟩
      · rw [h2, if_neg n10, w4_isDead h3]
        rw [(g1 h1).2] at hu
        by_cases e : plD s l = true
        · rw [if_pos e, if_neg n10]
          refine hs' _ ?_
          rw [hu, if_pos e, hv]
        · rw [if_neg e, if_pos rfl]
          refine hs' _ ?_
          rw [hu, if_neg e, hv]
      · rw [h2, if_pos rfl]
        refine hs' _ ?_
        rw [g2 h1] at hu
        rw [hu, hv]; rfl
    · intro n v hv
      show wl_X3_dead_4 a X (n + 1) M v (nI 4)
      unfold wl_X3_dead_4
      rw [if_pos (show (4 : Int32) ≤ nI 4 from by decide), hv]
      exact hX
  unfold wp_X3_dead
  refine key _ ?_
  obtain ⟨p, d, h1, h2, h3, h4⟩ := hS.1
  rw [h4] at h ⊢
  rw [stB4 h2]; exact h
theorem w0_toldPlants {o : Nat} {M : MM} {s : Nat → Int32} {Post : Int32 → MM → Prop} (hL : CL o M) (hS : RowOk s) (hR : LdR M (o + 2) s) (h : Post (s 76) M) : wp_X0_toldPlants M o Post := by
  have key : ∀ (X : MM → Int32 → Prop), X M (stB (fun l => hs_ (s 76) (nI l)) 4) → ∃ n, wl_X0_toldPlants_4 o X n M 0 (nI 0) := by
    intro X hX
    refine cl_ (fun n (v : Int32) l => wl_X0_toldPlants_4 o X n M v (nI l)) (fun l v => v = stB (fun l => hs_ (s 76) (nI l)) l) 4 ?_ ?_ 0 0 (by omega) rfl
    · intro n l v hl hv hs'
      show wl_X0_toldPlants_4 o X (n + 1) M v (nI l)
      unfold wl_X0_toldPlants_4
      rw [if_neg (show ¬ (4 : Int32) ≤ nI l from (show ¬ nI 4 ≤ nI l from nI_ge (by omega) (by omega)))]
      have hu : stB (fun l => hs_ (s 76) (nI l)) (l + 1) = stB (fun l => hs_ (s 76) (nI l)) l ||| (if hs_ (s 76) (nI l) = true then ((1 : Int32) <<< (nI l &&& 31)) else 0) := rfl
      have e : isPl s (nI l) = hs_ (s 76) (nI l) := by unfold isPl; rw [in03 l hl, Bool.true_and]
      rw [w0_isPlant hL hR, e]
      by_cases e1 : hs_ (s 76) (nI l) = true
      · rw [if_pos e1, if_neg n10]
        simp only [forall_eq, ia0, ia4, ia8, ia12, ia16, ia20, ia24, ia52, ia60, ia68, im7, im14, ap6, iaN, ap1, ixN, vpN]
        refine hs' _ ?_
        rw [hu, if_pos e1, hv]
      · rw [if_neg e1, if_pos rfl]
        simp only [forall_eq, ia0, ia4, ia8, ia12, ia16, ia20, ia24, ia52, ia60, ia68, im7, im14, ap6, iaN, ap1, ixN, vpN]
        refine hs' _ ?_
        rw [hu, if_neg e1, hv]
    · intro n v hv
      show wl_X0_toldPlants_4 o X (n + 1) M v (nI 4)
      unfold wl_X0_toldPlants_4
      rw [if_pos (show (4 : Int32) ≤ nI 4 from by decide), hv]
      exact hX
  unfold wp_X0_toldPlants
  refine key _ ?_
  obtain ⟨p, d, h1, h2, h3, h4⟩ := hS.1
  rw [h3] at h ⊢
  rw [stB4 h1]; exact h
theorem w0_toldPeople {o : Nat} {M : MM} {s : Nat → Int32} {Post : Int32 → MM → Prop} (hL : CL o M) (hS : RowOk s) (hR : LdR M (o + 2) s) (h : Post (s 78) M) : wp_X0_toldPeople M o Post := by
  have key : ∀ (X : MM → Int32 → Prop), X M (stB (fun l => hs_ (s 78) (nI l)) 8) → ∃ n, wl_X0_toldPeople_4 o X n M 0 (nI 0) := by
    intro X hX
    refine cl_ (fun n (v : Int32) l => wl_X0_toldPeople_4 o X n M v (nI l)) (fun l v => v = stB (fun l => hs_ (s 78) (nI l)) l) 8 ?_ ?_ 0 0 (by omega) rfl
    · intro n l v hl hv hs'
      show wl_X0_toldPeople_4 o X (n + 1) M v (nI l)
      unfold wl_X0_toldPeople_4
      rw [if_neg (show ¬ (8 : Int32) ≤ nI l from (show ¬ nI 8 ≤ nI l from nI_ge (by omega) (by omega)))]
      have hu : stB (fun l => hs_ (s 78) (nI l)) (l + 1) = stB (fun l => hs_ (s 78) (nI l)) l ||| (if hs_ (s 78) (nI l) = true then ((1 : Int32) <<< (nI l &&& 31)) else 0) := rfl
      have e : isPe s (nI l) = hs_ (s 78) (nI l) := by unfold isPe; rw [in07 l hl, Bool.true_and]
      rw [w0_isPerson hL hR, e]
      by_cases e1 : hs_ (s 78) (nI l) = true
      · rw [if_pos e1, if_neg n10]
        simp only [forall_eq, ia0, ia4, ia8, ia12, ia16, ia20, ia24, ia52, ia60, ia68, im7, im14, ap6, iaN, ap1, ixN, vpN]
        refine hs' _ ?_
        rw [hu, if_pos e1, hv]
      · rw [if_neg e1, if_pos rfl]
        simp only [forall_eq, ia0, ia4, ia8, ia12, ia16, ia20, ia24, ia52, ia60, ia68, im7, im14, ap6, iaN, ap1, ixN, vpN]
        refine hs' _ ?_
        rw [hu, if_neg e1, hv]
    · intro n v hv
      show wl_X0_toldPeople_4 o X (n + 1) M v (nI 8)
      unfold wl_X0_toldPeople_4
      rw [if_pos (show (8 : Int32) ≤ nI 8 from by decide), hv]
      exact hX
  unfold wp_X0_toldPeople
  refine key _ ?_
  obtain ⟨q, h1, h2⟩ := hS.2.1
  rw [h2] at h ⊢
  rw [stB8 h1]; exact h
theorem bitC {d : Nat} {M : MM} {Post : Int32 → MM → Prop} (hd : d < 256) (h : Post (bitsS (nI d)) M) : wp_J6_bitCount M (nI d) Post := by
  unfold wp_J6_bitCount
  simp only [forall_eq]
  have k : ∀ d, d < 256 → (let a := nI d - (((nI d).toUInt32 >>> ((1 : Int32).toUInt32 &&& Int32.toUInt32 31)).toInt32 &&& (1431655765 : Int32)); let b := (a &&& (858993459 : Int32)) + ((a.toUInt32 >>> ((2 : Int32).toUInt32 &&& Int32.toUInt32 31)).toInt32 &&& (858993459 : Int32)); let c := (b + (b.toUInt32 >>> ((4 : Int32).toUInt32 &&& Int32.toUInt32 31)).toInt32) &&& (252645135 : Int32); let e := c + (c.toUInt32 >>> ((8 : Int32).toUInt32 &&& Int32.toUInt32 31)).toInt32; let g := e + (e.toUInt32 >>> ((16 : Int32).toUInt32 &&& Int32.toUInt32 31)).toInt32; g &&& (63 : Int32)) = bitsS (nI d) := by decide +kernel
  have := k d hd
  simp only at this
  rw [this]
  exact h
