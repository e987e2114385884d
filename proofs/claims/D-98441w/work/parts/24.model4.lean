/-! the model: its state, the small calls -/
set_option maxRecDepth 100000
/-- row, kept row, is kept, tape, how much is on it, texts -/
abbrev St : Type := (Nat → Int32) × (Nat → Int32) × Int32 × (Nat → Int32) × Nat × (Nat → Txt)
def MR (o : Nat) (M : MM) (S : St) : Prop := ML o M ∧ ar o 1 M = S.1 ∧ ar o 3 M = S.2.1 ∧ mgI M o 53 = S.2.2.1 ∧ ar o 4 M = S.2.2.2.1 ∧ mgI M o 4 = nI S.2.2.2.2.1 ∧ mgI M o 31 = -1 ∧ TM o M S.2.2.2.2.2
def PSc (o : Nat) : Nat → Nat → Prop := fun a k => o ≤ a ∧ a < o + 33 ∧ ¬ (a = o + 3 ∨ a = o + 4 ∨ (o + 11 ≤ a ∧ a ≤ o + 16) ∨ (a = o ∧ (k = 4 ∨ k = 31 ∨ k = 53)))
/-- only what is no state changes, but for the row -/
def gF (o : Nat) (M M' : MM) : Prop := M'.2.2 = M.2.2 ∧ (∀ a k, ¬ PSc o a k → mgI M' a k = mgI M a k) ∧ ∀ a k, (a < o ∨ o + 33 ≤ a) → mgL M' a k = mgL M a k
/-- a call of the model leaves all else as it is -/
def mFr (o : Nat) (M M' : MM) : Prop := M'.2.2 = M.2.2 ∧ ∀ a k, (a < o ∨ o + 33 ≤ a) → mgI M' a k = mgI M a k ∧ mgL M' a k = mgL M a k
theorem gF.rf {o : Nat} {M : MM} : gF o M M := ⟨rfl, fun _ _ _ => rfl, fun _ _ _ => rfl⟩
theorem gF.tr {o : Nat} {M M1 M2 : MM} (h : gF o M M1) (g : gF o M1 M2) : gF o M M2 := ⟨g.1.trans h.1, fun a k e => (g.2.1 a k e).trans (h.2.1 a k e), fun a k e => (g.2.2 a k e).trans (h.2.2 a k e)⟩
theorem gF.s {o : Nat} {M M1 : MM} {a k : Nat} {v : Int32} (h : gF o M M1) (hp : PSc o a k) : gF o M (msI M1 a k v) := ⟨h.1, fun b j hb => by
  rw [mgI_sI, if_neg (fun e => hb (by rw [e.1, e.2]; exact hp))]; exact h.2.1 b j hb, h.2.2⟩
theorem gF.sL {o : Nat} {M M1 : MM} {a k : Nat} {v : Int64} (h : gF o M M1) (hp : o ≤ a ∧ a < o + 33) : gF o M (msL M1 a k v) := ⟨h.1, h.2.1, fun b j hb => by
  rw [mgL_sL, if_neg (by omega)]; exact h.2.2 b j hb⟩
theorem fI.g {o : Nat} {P : Nat → Nat → Prop} {M M1 : MM} (h : fI P M M1) (hp : ∀ a k, P a k → PSc o a k) : gF o M M1 := ⟨h.e, fun a k e => h.2 a k (fun x => e (hp a k x)), fun a k _ => h.L a k⟩
theorem PD_PSc {o a k : Nat} (h : PD o a k) : PSc o a k := by unfold PD at h; unfold PSc; omega
theorem gF.m {o : Nat} {M M1 : MM} (h : gF o M M1) : mFr o M M1 := ⟨h.1, fun a k e => ⟨h.2.1 a k (by unfold PSc; omega), h.2.2 a k e⟩⟩
theorem mFr.rf {o : Nat} {M : MM} : mFr o M M := ⟨rfl, fun _ _ _ => ⟨rfl, rfl⟩⟩
theorem mFr.tr {o : Nat} {M M1 M2 : MM} (h : mFr o M M1) (g : mFr o M1 M2) : mFr o M M2 := ⟨g.1.trans h.1, fun a k e => ⟨(g.2 a k e).1.trans (h.2 a k e).1, (g.2 a k e).2.trans (h.2 a k e).2⟩⟩
theorem mFr.s {o : Nat} {M M1 : MM} {a k : Nat} {v : Int32} (h : mFr o M M1) (hp : o ≤ a ∧ a < o + 33) : mFr o M (msI M1 a k v) := ⟨h.1, fun b j hb => by
  rw [mgI_sI, if_neg (by omega)]; exact h.2 b j hb⟩
theorem MR.g {o : Nat} {M M1 : MM} {S : St} {R : Nat → Int32} (h : MR o M S) (hF : gF o M M1) (hr : ar o 1 M1 = R) : MR o M1 (R, S.2) := by
  obtain ⟨h1, h2, h3, h4, h5, h6, h7, h8⟩ := h
  refine ⟨ML_of hF.1 h1, hr, (funext fun k => hF.2.1 _ _ (by unfold PSc; omega)).trans h3, (hF.2.1 _ _ (by unfold PSc; omega)).trans h4, (funext fun k => hF.2.1 _ _ (by unfold PSc; omega)).trans h5, (hF.2.1 _ _ (by unfold PSc; omega)).trans h6, (hF.2.1 _ _ (by unfold PSc; omega)).trans h7, ?_⟩
  exact h8.of (fun c h1 h2 k => hF.2.1 _ _ (by unfold PSc; omega))
theorem inS_iff {v lo hi : Int32} : inS v lo hi = true ↔ lo ≤ v ∧ v ≤ hi := by unfold inS; simp
theorem inS_n {x : Int32} {n : Nat} (hn : n < 2147483648) (h : inS x 0 (nI n) = true) : ∃ j, j ≤ n ∧ x = nI j := by
  obtain ⟨h1, h2⟩ := inS_iff.mp h
  refine nI_of2 (M := nI n) (nI_toInt hn) ?_ h2
  rw [Int32.lt_iff_toInt_lt]; rw [Int32.le_iff_toInt_le] at h1; omega
theorem isPl_n {s : Nat → Int32} {x : Int32} (h : isPl s x = true) : ∃ l, l < 4 ∧ x = nI l := by
  unfold isPl at h
  rw [Bool.and_eq_true] at h
  obtain ⟨j, h1, h2⟩ := inS_n (n := 3) (by omega) h.1
  exact ⟨j, by omega, h2⟩
theorem isPe_n {s : Nat → Int32} {x : Int32} (h : isPe s x = true) : ∃ p, p < 8 ∧ x = nI p := by
  unfold isPe at h
  rw [Bool.and_eq_true] at h
  obtain ⟨j, h1, h2⟩ := inS_n (n := 7) (by omega) h.1
  exact ⟨j, by omega, h2⟩
theorem livS_pl {s : Nat → Int32} {x : Int32} (h : livS s x = true) : isPl s x = true := by
  unfold livS at h; rw [Bool.and_eq_true] at h; exact h.1
theorem n10 : ¬ (1 : Int32) = 0 := by decide
def cpS (s t : Nat → Int32) : Nat → Int32 := fun k => if k < 81 then s k else t k
theorem w7_copies {o c d : Nat} {M0 M : MM} {s t : Nat → Int32} {Post : MM → Prop} (hl : mln M0 (o + c) = 81) (hl2 : mln M0 (o + d) = 81) (hcd : c ≠ d) (hF0 : fI (fun a _ => a = o + d) M0 M) (hs : ar o c M = s) (ht : ar o d M = t) (h : ∀ M', fI (fun a _ => a = o + d) M0 M' → ar o c M' = s → ar o d M' = cpS s t → Post M') : wp_X7_copies M (o + c) (o + d) Post := by
  unfold wp_X7_copies
  refine cl_ (fun n M1 i => wl_X7_copies_2 (o + c) (o + d) (fun M_9 => Post M_9) n M1 (nI i)) (fun i M1 => fI (fun a _ => a = o + d) M0 M1 ∧ ar o c M1 = s ∧ ar o d M1 = (fun k => if k < i then s k else t k)) 81 ?_ ?_ M 0 (by omega) ⟨hF0, hs, ?_⟩
  · intro n i M1 hi ⟨hF, hc, hd⟩ hs'
    show wl_X7_copies_2 (o + c) (o + d) _ (n + 1) M1 (nI i)
    unfold wl_X7_copies_2
    rw [if_neg (show ¬ (81 : Int32) ≤ nI i from nI_ge hi (by decide))]
    have e1 : mln M1 (o + c) = 81 := by have : mln M1 = mln M0 := by unfold mln; rw [hF.1]
                                        rw [this]; exact hl
    have e2 : mln M1 (o + d) = 81 := by have : mln M1 = mln M0 := by unfold mln; rw [hF.1]
                                        rw [this]; exact hl2
    simp (disch := first | assumption | omega) only [e1, e2, vpN, ixN, true_and, forall_eq, ap1, arE (o := o) (c := c), hc]
    refine hs' _ ⟨hF.s rfl, ?_, ?_⟩
    · rw [ar_s, if_neg hcd]; exact hc
    · rw [ar_s, if_pos rfl, hd]
      funext k
      unfold up
      dsimp only
      by_cases e : k = i
      · rw [if_pos e, if_pos (by omega), e]
      · rw [if_neg e]
        by_cases e3 : k < i
        · rw [if_pos e3, if_pos (by omega)]
        · rw [if_neg e3, if_neg (by omega)]
  · intro n M1 ⟨hF, hc, hd⟩
    show wl_X7_copies_2 (o + c) (o + d) _ (n + 1) M1 (nI 81)
    unfold wl_X7_copies_2
    rw [if_pos (show (81 : Int32) ≤ nI 81 from by decide)]
    exact h M1 hF hc hd
  · rw [ht]; funext k; rw [if_neg (by omega)]
def plS (s : Nat → Int32) (l : Nat) (pot wet bears : Int32) : Nat → Int32 := fun j => if 24 + 7 * l ≤ j ∧ j < 24 + 7 * l + 7 then wet else up (up (up (up (up (up (up (up s 76 (s 76 ||| ((1 : Int32) <<< (nI l &&& 31)))) 77 (s 77 &&& (((1 : Int32) <<< (nI l &&& 31)) ^^^ (-1 : Int32)))) l pot) (4 + l) wet) (8 + l) bears) (12 + l) 0) (16 + l) 0) (20 + l) (-2) j
theorem l7_plant {o l : Nat} {w : Int32} {M : MM} {s : Nat → Int32} {X : MM → Prop} (hL : ML o M) (hl : l < 4) (hs : ar o 1 M = s) (h : ∀ M', fI (fun a _ => a = o + 1) M M' → ar o 1 M' = (fun j => if 24 + 7 * l ≤ j ∧ j < 24 + 7 * l + 7 then w else s j) → X M') : ∃ n, wl_X7_plant_142 o (nI l) w X n M (nI 0) := by
  refine cl_ (fun n M1 i => wl_X7_plant_142 o (nI l) w X n M1 (nI i)) (fun i M1 => fI (fun a _ => a = o + 1) M M1 ∧ ar o 1 M1 = (fun j => if 24 + 7 * l ≤ j ∧ j < 24 + 7 * l + i then w else s j)) 7 ?_ ?_ M 0 (by omega) ⟨fI.rf, ?_⟩
  · intro n i M1 hi ⟨hF, hr⟩ hs'
    have h1 : ML o M1 := ML_of hF.e hL
    show wl_X7_plant_142 o (nI l) w X (n + 1) M1 (nI i)
    unfold wl_X7_plant_142
    rw [if_neg (show ¬ (7 : Int32) ≤ nI i from nI_ge hi (by decide))]
    simp (disch := first | assumption | omega) only [mgR_sI, mgR_sL, mkd_sI, mkd_sL, mln_sI, mln_sL, Option.some.injEq, exists_eq_left', forall_eq, true_and, and_true, Nat.reduceLT, exists_eq_left, ML_r0, ML_k1, ML_l1, ML_r1, ML_k2, ML_l2, ML_r2, ML_k3, ML_l3, ML_r3, ML_k4, ML_l4, ML_r13, ML_k5, ML_l5, ML_r14, ML_k6, ML_l6, ML_r15, ML_k7, ML_l7, ML_r16, ML_k8, ML_l8, ML_r17, ML_k9, ML_l9, ML_r18, ML_k10, ML_l10, ML_r19, ML_k11, ML_l11, ML_r20, ML_k12, ML_l12, ML_r21, ML_k13, ML_l13, ML_r22, ML_k14, ML_l14, ML_r23, ML_k15, ML_l15, ML_r24, ML_k16, ML_l16, ML_r25, ML_k17, ML_l17, ML_r26, ML_k18, ML_l18, ML_r30, ML_k19, ML_l19, ML_r35, ML_k20, ML_l20, ML_r36, ML_k21, ML_l21, ML_r37, ML_k22, ML_l22, ML_r38, ML_k23, ML_l23, ML_r40, ML_k24, ML_l24, ML_r41, ML_k25, ML_l25, ML_r42, ML_k26, ML_l26, ML_r43, ML_k27, ML_l27, ML_r44, ML_k28, ML_l28, ML_r45, ML_k29, ML_l29, ML_r48, ML_k30, ML_l30, ML_r51, ML_k31, ML_l31, ML_r52, ML_k32, ML_l32, ia0, ia4, ia8, ia12, ia16, ia20, ia24, ia52, ia60, ia68, im7, im14, ap6, iaN, ap1, ixN, vpN]
    refine hs' _ ⟨hF.ro, ?_⟩
    rw [ar_s, if_pos rfl, hr]
    funext j
    unfold up
    dsimp only
    by_cases e : j = 24 + 7 * l + i
    · rw [if_pos e, if_pos (by omega)]
    · rw [if_neg e]
      by_cases e3 : 24 + 7 * l ≤ j ∧ j < 24 + 7 * l + i
      · rw [if_pos e3, if_pos (by omega)]
      · rw [if_neg e3, if_neg (by omega)]
  · intro n M1 ⟨hF, hr⟩
    show wl_X7_plant_142 o (nI l) w X (n + 1) M1 (nI 7)
    unfold wl_X7_plant_142
    rw [if_pos (show (7 : Int32) ≤ nI 7 from by decide)]
    exact h M1 hF hr
  · rw [hs]; funext k; rw [if_neg (by omega)]
theorem PSc1 {o k : Nat} : PSc o (o + 1) k := by unfold PSc; omega
theorem fI.g1 {o : Nat} {M M1 : MM} (h : fI (fun a _ => a = o + 1) M M1) : gF o M M1 := h.g (fun a k e => by rw [e]; exact PSc1)
def plV (l pot wet bears : Int32) : Bool := inS l 0 3 && inS pot 4 24 && inS wet 0 pot && inS bears 1 9
theorem M_plant {o : Nat} {M : MM} {s : Nat → Int32} {l pot wet bears : Int32} {Post : Int32 → MM → Prop} (hL : ML o M) (hs : ar o 1 M = s) (h0 : plV l pot wet bears = false → Post 0 M) (h1 : ∀ l', l' < 4 → l = nI l' → plV l pot wet bears = true → ∀ M', gF o M M' → ar o 1 M' = plS s l' pot wet bears → Post 1 M') : wp_X7_plant M o l pot wet bears Post := by
  unfold wp_X7_plant
  simp only [w7_in]
  unfold plV at h0 h1
  by_cases e1 : inS l 0 3 = true
  · by_cases e2 : inS pot 4 24 = true
    · by_cases e3 : inS wet 0 pot = true
      · by_cases e4 : inS bears 1 9 = true
        · obtain ⟨l', hl1, rfl⟩ := inS_n (n := 3) (by omega) e1
          have hl' : l' < 4 := by omega
          simp only [e1, e2, e3, e4, if_true, n10, if_false]
          simp (disch := first | assumption | omega) only [mgR_sI, mgR_sL, mkd_sI, mkd_sL, mln_sI, mln_sL, Option.some.injEq, exists_eq_left', forall_eq, true_and, and_true, Nat.reduceLT, exists_eq_left, ML_r0, ML_k1, ML_l1, ML_r1, ML_k2, ML_l2, ML_r2, ML_k3, ML_l3, ML_r3, ML_k4, ML_l4, ML_r13, ML_k5, ML_l5, ML_r14, ML_k6, ML_l6, ML_r15, ML_k7, ML_l7, ML_r16, ML_k8, ML_l8, ML_r17, ML_k9, ML_l9, ML_r18, ML_k10, ML_l10, ML_r19, ML_k11, ML_l11, ML_r20, ML_k12, ML_l12, ML_r21, ML_k13, ML_l13, ML_r22, ML_k14, ML_l14, ML_r23, ML_k15, ML_l15, ML_r24, ML_k16, ML_l16, ML_r25, ML_k17, ML_l17, ML_r26, ML_k18, ML_l18, ML_r30, ML_k19, ML_l19, ML_r35, ML_k20, ML_l20, ML_r36, ML_k21, ML_l21, ML_r37, ML_k22, ML_l22, ML_r38, ML_k23, ML_l23, ML_r40, ML_k24, ML_l24, ML_r41, ML_k25, ML_l25, ML_r42, ML_k26, ML_l26, ML_r43, ML_k27, ML_l27, ML_r44, ML_k28, ML_l28, ML_r45, ML_k29, ML_l29, ML_r48, ML_k30, ML_l30, ML_r51, ML_k31, ML_l31, ML_r52, ML_k32, ML_l32, ia0, ia4, ia8, ia12, ia16, ia20, ia24, ia52, ia60, ia68, im7, im14, ap6, iaN, ap1, ixN, vpN, arE (o := o) (c := 1), ar_s, up_ne, if_true, hs]
          have k1 := h1 l' hl' rfl (by simp [e1, e2, e3, e4])
          refine l7_plant ?_ hl' (by simp only [ar_s, if_true, hs]) (fun M' hF hr => k1 M' ?_ hr)
          · exact ML_of rfl hL
          · exact gF.tr ((((((((gF.rf.s PSc1).s PSc1).s PSc1).s PSc1).s PSc1).s PSc1).s PSc1).s PSc1) hF.g1
        · simp only [e1, e2, e3, e4, if_true, n10, if_false, Bool.false_eq_true]; exact h0 (by simp [e4])
      · simp only [e1, e2, e3, if_true, n10, if_false, Bool.false_eq_true]; exact h0 (by simp [e3])
    · simp only [e1, e2, if_true, n10, if_false, Bool.false_eq_true]; exact h0 (by simp [e2])
  · simp only [e1, if_true, if_false, Bool.false_eq_true]; exact h0 (by simp [e1])
def peS (s : Nat → Int32) (p : Nat) (t r : Int32) : Nat → Int32 := up (up (up (up s 78 (s 78 ||| ((1 : Int32) <<< (nI p &&& 31)))) (52 + p) t) (60 + p) r) (68 + p) 0
def peV (p t r : Int32) : Bool := inS p 0 7 && inS t 0 10 && inS r 0 3
theorem M_person {o : Nat} {M : MM} {s : Nat → Int32} {p t r : Int32} {Post : Int32 → MM → Prop} (hL : ML o M) (hs : ar o 1 M = s) (h0 : peV p t r = false → Post 0 M) (h1 : ∀ p', p' < 8 → p = nI p' → peV p t r = true → ∀ M', gF o M M' → ar o 1 M' = peS s p' t r → Post 1 M') : wp_X7_person M o p t r Post := by
  unfold wp_X7_person
  simp only [w7_in]
  unfold peV at h0 h1
  by_cases e1 : inS p 0 7 = true
  · by_cases e2 : inS t 0 10 = true
    · by_cases e3 : inS r 0 3 = true
      · obtain ⟨p', hp1, rfl⟩ := inS_n (n := 7) (by omega) e1
        have hp' : p' < 8 := by omega
        simp only [e1, e2, e3, if_true, n10, if_false]
        simp (disch := first | assumption | omega) only [mgR_sI, mgR_sL, mkd_sI, mkd_sL, mln_sI, mln_sL, Option.some.injEq, exists_eq_left', forall_eq, true_and, and_true, Nat.reduceLT, exists_eq_left, ML_r0, ML_k1, ML_l1, ML_r1, ML_k2, ML_l2, ML_r2, ML_k3, ML_l3, ML_r3, ML_k4, ML_l4, ML_r13, ML_k5, ML_l5, ML_r14, ML_k6, ML_l6, ML_r15, ML_k7, ML_l7, ML_r16, ML_k8, ML_l8, ML_r17, ML_k9, ML_l9, ML_r18, ML_k10, ML_l10, ML_r19, ML_k11, ML_l11, ML_r20, ML_k12, ML_l12, ML_r21, ML_k13, ML_l13, ML_r22, ML_k14, ML_l14, ML_r23, ML_k15, ML_l15, ML_r24, ML_k16, ML_l16, ML_r25, ML_k17, ML_l17, ML_r26, ML_k18, ML_l18, ML_r30, ML_k19, ML_l19, ML_r35, ML_k20, ML_l20, ML_r36, ML_k21, ML_l21, ML_r37, ML_k22, ML_l22, ML_r38, ML_k23, ML_l23, ML_r40, ML_k24, ML_l24, ML_r41, ML_k25, ML_l25, ML_r42, ML_k26, ML_l26, ML_r43, ML_k27, ML_l27, ML_r44, ML_k28, ML_l28, ML_r45, ML_k29, ML_l29, ML_r48, ML_k30, ML_l30, ML_r51, ML_k31, ML_l31, ML_r52, ML_k32, ML_l32, ia0, ia4, ia8, ia12, ia16, ia20, ia24, ia52, ia60, ia68, im7, im14, ap6, iaN, ap1, ixN, vpN, arE (o := o) (c := 1), ar_s, up_ne, if_true, hs]
        refine h1 p' hp' rfl (by simp [e1, e2, e3]) _ ((((gF.rf.s PSc1).s PSc1).s PSc1).s PSc1) ?_
        simp only [ar_s, if_true, hs]; rfl
      · simp only [e1, e2, e3, if_true, n10, if_false, Bool.false_eq_true]; exact h0 (by simp [e3])
    · simp only [e1, e2, if_true, n10, if_false, Bool.false_eq_true]; exact h0 (by simp [e2])
  · simp only [e1, if_true, if_false, Bool.false_eq_true]; exact h0 (by simp [e1])
def caV (s : Nat → Int32) (l is : Int32) : Bool := isPl s l && decide ((if s (ix_ (20 + l)) = -2 then (1 : Int32) else 0) = is)
theorem M_card {o : Nat} {M : MM} {s : Nat → Int32} {l is : Int32} {Post : Int32 → MM → Prop} (hL : ML o M) (hs : ar o 1 M = s) (h0 : caV s l is = false → Post 0 M) (h1 : ∀ l', l' < 4 → l = nI l' → caV s l is = true → ∀ M', gF o M M' → ar o 1 M' = up s (20 + l') (if is = 0 then -2 else -3) → Post 1 M') : wp_X7_card M o l is Post := by
  unfold wp_X7_card
  rw [w7_isPlant hL]
  have hs' : nw o M = s := hs
  rw [hs']
  unfold caV at h0 h1
  by_cases e1 : isPl s l = true
  · obtain ⟨l', hl', rfl⟩ := isPl_n e1
    simp only [e1, if_true, n10, if_false, Bool.true_and, decide_eq_true_eq, decide_eq_false_iff_not] at h0 h1 ⊢
    unfold wb_X7_card_27 wb_X7_card_52
    have hi : ix_ (20 + nI l') = 20 + l' := by rw [ia20, ixN (by omega)]
    rw [hi] at h0 h1
    have fin : ∀ b : Int32, b = (if s (20 + l') = -2 then (1 : Int32) else 0) → b = is → wb_X7_card_27 M o (nI l') is b Post := by
      intro b hb1 hb
      unfold wb_X7_card_27 wb_X7_card_52
      rw [if_pos hb]
      simp (disch := first | assumption | omega) only [mgR_sI, mgR_sL, mkd_sI, mkd_sL, mln_sI, mln_sL, Option.some.injEq, exists_eq_left', forall_eq, true_and, and_true, Nat.reduceLT, exists_eq_left, ML_r0, ML_k1, ML_l1, ML_r1, ML_k2, ML_l2, ML_r2, ML_k3, ML_l3, ML_r3, ML_k4, ML_l4, ML_r13, ML_k5, ML_l5, ML_r14, ML_k6, ML_l6, ML_r15, ML_k7, ML_l7, ML_r16, ML_k8, ML_l8, ML_r17, ML_k9, ML_l9, ML_r18, ML_k10, ML_l10, ML_r19, ML_k11, ML_l11, ML_r20, ML_k12, ML_l12, ML_r21, ML_k13, ML_l13, ML_r22, ML_k14, ML_l14, ML_r23, ML_k15, ML_l15, ML_r24, ML_k16, ML_l16, ML_r25, ML_k17, ML_l17, ML_r26, ML_k18, ML_l18, ML_r30, ML_k19, ML_l19, ML_r35, ML_k20, ML_l20, ML_r36, ML_k21, ML_l21, ML_r37, ML_k22, ML_l22, ML_r38, ML_k23, ML_l23, ML_r40, ML_k24, ML_l24, ML_r41, ML_k25, ML_l25, ML_r42, ML_k26, ML_l26, ML_r43, ML_k27, ML_l27, ML_r44, ML_k28, ML_l28, ML_r45, ML_k29, ML_l29, ML_r48, ML_k30, ML_l30, ML_r51, ML_k31, ML_l31, ML_r52, ML_k32, ML_l32, ia0, ia4, ia8, ia12, ia16, ia20, ia24, ia52, ia60, ia68, im7, im14, ap6, iaN, ap1, ixN, vpN, arE (o := o) (c := 1), ar_s, if_true]
      by_cases e : is = 0
      · rw [if_pos e]
        refine h1 l' hl' rfl (by rw [← hb1]; exact hb) _ (gF.rf.s PSc1) ?_
        rw [ar_s, if_pos rfl, hs, if_pos e]
      · rw [if_neg e]
        refine h1 l' hl' rfl (by rw [← hb1]; exact hb) _ (gF.rf.s PSc1) ?_
        rw [ar_s, if_pos rfl, hs, if_neg e]
    have fin0 : ∀ b : Int32, b = (if s (20 + l') = -2 then (1 : Int32) else 0) → ¬ b = is → wb_X7_card_27 M o (nI l') is b Post := by
      intro b hb1 hb
      unfold wb_X7_card_27
      rw [if_neg hb]
      exact h0 (by rw [← hb1]; exact hb)
    unfold wb_X7_card_27 wb_X7_card_52 at fin fin0
    simp (disch := first | assumption | omega) only [mgR_sI, mgR_sL, mkd_sI, mkd_sL, mln_sI, mln_sL, Option.some.injEq, exists_eq_left', forall_eq, true_and, and_true, Nat.reduceLT, exists_eq_left, ML_r0, ML_k1, ML_l1, ML_r1, ML_k2, ML_l2, ML_r2, ML_k3, ML_l3, ML_r3, ML_k4, ML_l4, ML_r13, ML_k5, ML_l5, ML_r14, ML_k6, ML_l6, ML_r15, ML_k7, ML_l7, ML_r16, ML_k8, ML_l8, ML_r17, ML_k9, ML_l9, ML_r18, ML_k10, ML_l10, ML_r19, ML_k11, ML_l11, ML_r20, ML_k12, ML_l12, ML_r21, ML_k13, ML_l13, ML_r22, ML_k14, ML_l14, ML_r23, ML_k15, ML_l15, ML_r24, ML_k16, ML_l16, ML_r25, ML_k17, ML_l17, ML_r26, ML_k18, ML_l18, ML_r30, ML_k19, ML_l19, ML_r35, ML_k20, ML_l20, ML_r36, ML_k21, ML_l21, ML_r37, ML_k22, ML_l22, ML_r38, ML_k23, ML_l23, ML_r40, ML_k24, ML_l24, ML_r41, ML_k25, ML_l25, ML_r42, ML_k26, ML_l26, ML_r43, ML_k27, ML_l27, ML_r44, ML_k28, ML_l28, ML_r45, ML_k29, ML_l29, ML_r48, ML_k30, ML_l30, ML_r51, ML_k31, ML_l31, ML_r52, ML_k32, ML_l32, ia0, ia4, ia8, ia12, ia16, ia20, ia24, ia52, ia60, ia68, im7, im14, ap6, iaN, ap1, ixN, vpN, arE (o := o) (c := 1), ar_s, if_true, hs] at fin fin0 ⊢
    by_cases e2 : s (20 + l') = -2
    · rw [if_pos e2] at fin fin0 ⊢
      by_cases e3 : (1 : Int32) = is
      · exact fin e3
      · exact fin0 e3
    · rw [if_neg e2] at fin fin0 ⊢
      by_cases e3 : (0 : Int32) = is
      · exact fin e3
      · exact fin0 e3
  · rw [if_neg e1]
    exact h0 (by simp [e1])
theorem M_pour {o : Nat} {M : MM} {s : Nat → Int32} {l c : Int32} {Post : Int32 → MM → Prop} (hL : ML o M) (hs : ar o 1 M = s) (h0 : (livS s l && inS c 0 24) = false → Post (-1) M) (h1 : ∀ l', l' < 4 → l = nI l' → (livS s l && inS c 0 24) = true → ∀ M', gF o M M' → ar o 1 M' = up s (4 + l') (mi_ (s l') (s (4 + l') + c)) → Post (mi_ (s l') (s (4 + l') + c)) M') : wp_X7_pour M o l c Post := by
  unfold wp_X7_pour
  rw [w7_lives hL]
  have hs' : nw o M = s := hs
  rw [hs']
  by_cases e1 : livS s l = true
  · obtain ⟨l', hl', rfl⟩ := isPl_n (livS_pl e1)
    by_cases e2 : inS c 0 24 = true
    · simp (disch := first | assumption | omega) only [w7_in, e1, e2, if_true, n10, if_false, mgR_sI, mgR_sL, mkd_sI, mkd_sL, mln_sI, mln_sL, Option.some.injEq, exists_eq_left', forall_eq, true_and, and_true, Nat.reduceLT, exists_eq_left, ML_r0, ML_k1, ML_l1, ML_r1, ML_k2, ML_l2, ML_r2, ML_k3, ML_l3, ML_r3, ML_k4, ML_l4, ML_r13, ML_k5, ML_l5, ML_r14, ML_k6, ML_l6, ML_r15, ML_k7, ML_l7, ML_r16, ML_k8, ML_l8, ML_r17, ML_k9, ML_l9, ML_r18, ML_k10, ML_l10, ML_r19, ML_k11, ML_l11, ML_r20, ML_k12, ML_l12, ML_r21, ML_k13, ML_l13, ML_r22, ML_k14, ML_l14, ML_r23, ML_k15, ML_l15, ML_r24, ML_k16, ML_l16, ML_r25, ML_k17, ML_l17, ML_r26, ML_k18, ML_l18, ML_r30, ML_k19, ML_l19, ML_r35, ML_k20, ML_l20, ML_r36, ML_k21, ML_l21, ML_r37, ML_k22, ML_l22, ML_r38, ML_k23, ML_l23, ML_r40, ML_k24, ML_l24, ML_r41, ML_k25, ML_l25, ML_r42, ML_k26, ML_l26, ML_r43, ML_k27, ML_l27, ML_r44, ML_k28, ML_l28, ML_r45, ML_k29, ML_l29, ML_r48, ML_k30, ML_l30, ML_r51, ML_k31, ML_l31, ML_r52, ML_k32, ML_l32, ia0, ia4, ia8, ia12, ia16, ia20, ia24, ia52, ia60, ia68, im7, im14, ap6, iaN, ap1, ixN, vpN, w7_min, arE (o := o) (c := 1), ar_s, hs, up_eq]
      exact h1 l' hl' rfl (by simp [e1, e2]) _ (gF.rf.s PSc1) (by simp only [ar_s, if_true, hs])
    · simp only [w7_in, e1, e2, if_true, n10, if_false, Bool.false_eq_true]; exact h0 (by simp [e2])
  · simp only [e1, if_true, if_false, Bool.false_eq_true]; exact h0 (by simp [e1])
theorem M_seed {o : Nat} {M : MM} {s : Nat → Int32} {v : Int32} {Post : Int32 → MM → Prop} (hL : ML o M) (hs : ar o 1 M = s) (h0 : inS v 0 65535 = false → Post 0 M) (h1 : inS v 0 65535 = true → ∀ M', gF o M M' → ar o 1 M' = up s 80 v → Post 1 M') : wp_X7_seed M o v Post := by
  unfold wp_X7_seed
  simp only [w7_in]
  by_cases e1 : inS v 0 65535 = true
  · simp (disch := first | assumption | omega) only [e1, if_true, n10, if_false, mgR_sI, mgR_sL, mkd_sI, mkd_sL, mln_sI, mln_sL, Option.some.injEq, exists_eq_left', forall_eq, true_and, and_true, Nat.reduceLT, exists_eq_left, ML_r0, ML_k1, ML_l1, ML_r1, ML_k2, ML_l2, ML_r2, ML_k3, ML_l3, ML_r3, ML_k4, ML_l4, ML_r13, ML_k5, ML_l5, ML_r14, ML_k6, ML_l6, ML_r15, ML_k7, ML_l7, ML_r16, ML_k8, ML_l8, ML_r17, ML_k9, ML_l9, ML_r18, ML_k10, ML_l10, ML_r19, ML_k11, ML_l11, ML_r20, ML_k12, ML_l12, ML_r21, ML_k13, ML_l13, ML_r22, ML_k14, ML_l14, ML_r23, ML_k15, ML_l15, ML_r24, ML_k16, ML_l16, ML_r25, ML_k17, ML_l17, ML_r26, ML_k18, ML_l18, ML_r30, ML_k19, ML_l19, ML_r35, ML_k20, ML_l20, ML_r36, ML_k21, ML_l21, ML_r37, ML_k22, ML_l22, ML_r38, ML_k23, ML_l23, ML_r40, ML_k24, ML_l24, ML_r41, ML_k25, ML_l25, ML_r42, ML_k26, ML_l26, ML_r43, ML_k27, ML_l27, ML_r44, ML_k28, ML_l28, ML_r45, ML_k29, ML_l29, ML_r48, ML_k30, ML_l30, ML_r51, ML_k31, ML_l31, ML_r52, ML_k32, ML_l32, ia0, ia4, ia8, ia12, ia16, ia20, ia24, ia52, ia60, ia68, im7, im14, ap6, iaN, ap1, ixN, vpN]
    exact h1 e1 _ (gF.rf.s PSc1) (by simp only [ar_s, if_true, hs])
  · simp only [e1, if_true, if_false, Bool.false_eq_true]; exact h0 (by simp [e1])
