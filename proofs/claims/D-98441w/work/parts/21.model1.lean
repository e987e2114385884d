/-! the model: leaves, facts, texts asked -/
set_option maxRecDepth 100000
def up (s : Nat → Int32) (k : Nat) (v : Int32) : Nat → Int32 := fun j => if j = k then v else s j
abbrev Den : Type := (Nat → Int32) → Option Int32
abbrev Txt : Type := List (Int32 × Den × Den)
def clS (h v : Int32) : Int32 := if 0 ≤ v then (if v ≤ h then v else h) else 0
/-- what the first clause of a letter that holds tells, held -/
def byS : Txt → Int32 → Int32 → (Nat → Int32) → Int32
  | [], _, _, _ => 0
  | q :: r, c, h, f => if q.1 = c ∧ (q.2.2 f).getD 0 = 1 then clS h ((q.2.1 f).getD 0) else byS r c h f
def hs_ (s k : Int32) : Bool := decide (((s >>> (k &&& 31)) &&& (1 : Int32)) = (1 : Int32))
def mi_ (x y : Int32) : Int32 := if y ≤ x then y else x
def ma_ (x y : Int32) : Int32 := if x ≤ y then y else x
def bitsS (x : Int32) : Int32 := 0 + ((x >>> ((0 : Int32) &&& 31)) &&& 1) + ((x >>> ((1 : Int32) &&& 31)) &&& 1) + ((x >>> ((2 : Int32) &&& 31)) &&& 1) + ((x >>> ((3 : Int32) &&& 31)) &&& 1) + ((x >>> ((4 : Int32) &&& 31)) &&& 1) + ((x >>> ((5 : Int32) &&& 31)) &&& 1) + ((x >>> ((6 : Int32) &&& 31)) &&& 1) + ((x >>> ((7 : Int32) &&& 31)) &&& 1)
def inS (v lo hi : Int32) : Bool := decide (lo ≤ v) && decide (v ≤ hi)
def isPl (s : Nat → Int32) (x : Int32) : Bool := inS x 0 3 && hs_ (s 76) x
def isPe (s : Nat → Int32) (x : Int32) : Bool := inS x 0 7 && hs_ (s 78) x
def livS (s : Nat → Int32) (x : Int32) : Bool := isPl s x && !hs_ (s 77) x
def lotS (s : Nat → Int32) : Nat → Int32 := up s 80 (rm_ (((25173 : Int32) * s 80) + (13849 : Int32)) (65536 : Int32))
def drwS (s : Nat → Int32) : Int32 := rm_ (lotS s 80) 10
/-- the row of the model -/
def nw (o : Nat) (M : MM) : Nat → Int32 := fun k => mgI M (o + 1) k
theorem nwE {o : Nat} {M : MM} {k : Nat} : mgI M (o + 1) k = nw o M k := rfl
theorem i32_nlt {x y : Int32} : (¬ x < y) ↔ y ≤ x := by rw [Int32.lt_iff_toInt_lt, Int32.le_iff_toInt_le]; omega
theorem w7_in {M : MM} {v lo hi : Int32} {Post : Int32 → MM → Prop} : wp_X7_in M v lo hi Post = if inS v lo hi = true then Post 1 M else Post 0 M := by
  unfold wp_X7_in inS
  by_cases h1 : v < lo
  · have : ¬ lo ≤ v := by rw [Int32.lt_iff_toInt_lt] at h1; rw [Int32.le_iff_toInt_le]; omega
    simp [h1, this]
  · have h1' := i32_nlt.mp h1
    by_cases h2 : hi < v
    · have : ¬ v ≤ hi := by rw [Int32.lt_iff_toInt_lt] at h2; rw [Int32.le_iff_toInt_le]; omega
      simp [h1, h2, this]
    · have h2' := i32_nlt.mp h2
      simp [h1, h2, h1', h2']
theorem w7_has {M : MM} {s k : Int32} {Post : Int32 → MM → Prop} : wp_X7_has M s k Post = if hs_ s k = true then Post 1 M else Post 0 M := by
  unfold wp_X7_has hs_
  simp only [decide_eq_true_eq]
theorem w7_min {M : MM} {x y : Int32} {Post : Int32 → MM → Prop} : wp_X7_min M x y Post = Post (mi_ x y) M := by
  unfold wp_X7_min mi_; split <;> rfl
theorem w7_max {M : MM} {x y : Int32} {Post : Int32 → MM → Prop} : wp_X7_max M x y Post = Post (ma_ x y) M := by
  unfold wp_X7_max ma_; split <;> rfl
theorem w7_bits {M : MM} {x : Int32} {Post : Int32 → MM → Prop} (h : Post (bitsS x) M) : wp_X7_bits M x Post := by
  refine ⟨9, ?_⟩
  simp [wl_X7_bits_4]
  simpa [bitsS] using h
theorem w7_isPlant {M : MM} {o : Nat} {x : Int32} {Post : Int32 → MM → Prop} (hL : ML o M) : wp_X7_isPlant M o x Post = if isPl (nw o M) x = true then Post 1 M else Post 0 M := by
  have h4 : ((4 : Int32) ≤ x) ↔ ¬ x ≤ 3 := by
    rw [Int32.le_iff_toInt_le, Int32.le_iff_toInt_le, show (4 : Int32).toInt = 4 from rfl, show (3 : Int32).toInt = 3 from rfl]; omega
  unfold wp_X7_isPlant isPl inS
  simp (disch := first | assumption | omega) only [mgI_sI, mgI_sL, mgL_sI, mgL_sL, mgR_sI, mgR_sL, mkd_sI, mkd_sL, mln_sI, mln_sL, Option.some.injEq, exists_eq_left', forall_eq, true_and, and_true, Nat.reduceLT, exists_eq_left, ML_r0, ML_k1, ML_l1, ML_r1, ML_k2, ML_l2, ML_r2, ML_k3, ML_l3, ML_r3, ML_k4, ML_l4, ML_r13, ML_k5, ML_l5, ML_r14, ML_k6, ML_l6, ML_r15, ML_k7, ML_l7, ML_r16, ML_k8, ML_l8, ML_r17, ML_k9, ML_l9, ML_r18, ML_k10, ML_l10, ML_r19, ML_k11, ML_l11, ML_r20, ML_k12, ML_l12, ML_r21, ML_k13, ML_l13, ML_r22, ML_k14, ML_l14, ML_r23, ML_k15, ML_l15, ML_r24, ML_k16, ML_l16, ML_r25, ML_k17, ML_l17, ML_r26, ML_k18, ML_l18, ML_r30, ML_k19, ML_l19, ML_r35, ML_k20, ML_l20, ML_r36, ML_k21, ML_l21, ML_r37, ML_k22, ML_l22, ML_r38, ML_k23, ML_l23, ML_r40, ML_k24, ML_l24, ML_r41, ML_k25, ML_l25, ML_r42, ML_k26, ML_l26, ML_r43, ML_k27, ML_l27, ML_r44, ML_k28, ML_l28, ML_r45, ML_k29, ML_l29, ML_r48, ML_k30, ML_l30, ML_r51, ML_k31, ML_l31, ML_r52, ML_k32, ML_l32, w7_has, nwE]
  by_cases h1 : x < 0
  · have : ¬ 0 ≤ x := by rw [Int32.lt_iff_toInt_lt] at h1; rw [Int32.le_iff_toInt_le]; omega
    simp [h1, this]
  · have h1' := i32_nlt.mp h1
    by_cases h2 : x ≤ 3 <;> by_cases h3 : hs_ (nw o M 76) x = true <;> simp [h4, h1, h2, h3, h1']
theorem w7_isPerson {M : MM} {o : Nat} {x : Int32} {Post : Int32 → MM → Prop} (hL : ML o M) : wp_X7_isPerson M o x Post = if isPe (nw o M) x = true then Post 1 M else Post 0 M := by
  have h4 : ((8 : Int32) ≤ x) ↔ ¬ x ≤ 7 := by
    rw [Int32.le_iff_toInt_le, Int32.le_iff_toInt_le, show (8 : Int32).toInt = 8 from rfl, show (7 : Int32).toInt = 7 from rfl]; omega
  unfold wp_X7_isPerson isPe inS
  simp (disch := first | assumption | omega) only [mgI_sI, mgI_sL, mgL_sI, mgL_sL, mgR_sI, mgR_sL, mkd_sI, mkd_sL, mln_sI, mln_sL, Option.some.injEq, exists_eq_left', forall_eq, true_and, and_true, Nat.reduceLT, exists_eq_left, ML_r0, ML_k1, ML_l1, ML_r1, ML_k2, ML_l2, ML_r2, ML_k3, ML_l3, ML_r3, ML_k4, ML_l4, ML_r13, ML_k5, ML_l5, ML_r14, ML_k6, ML_l6, ML_r15, ML_k7, ML_l7, ML_r16, ML_k8, ML_l8, ML_r17, ML_k9, ML_l9, ML_r18, ML_k10, ML_l10, ML_r19, ML_k11, ML_l11, ML_r20, ML_k12, ML_l12, ML_r21, ML_k13, ML_l13, ML_r22, ML_k14, ML_l14, ML_r23, ML_k15, ML_l15, ML_r24, ML_k16, ML_l16, ML_r25, ML_k17, ML_l17, ML_r26, ML_k18, ML_l18, ML_r30, ML_k19, ML_l19, ML_r35, ML_k20, ML_l20, ML_r36, ML_k21, ML_l21, ML_r37, ML_k22, ML_l22, ML_r38, ML_k23, ML_l23, ML_r40, ML_k24, ML_l24, ML_r41, ML_k25, ML_l25, ML_r42, ML_k26, ML_l26, ML_r43, ML_k27, ML_l27, ML_r44, ML_k28, ML_l28, ML_r45, ML_k29, ML_l29, ML_r48, ML_k30, ML_l30, ML_r51, ML_k31, ML_l31, ML_r52, ML_k32, ML_l32, w7_has, nwE]
  by_cases h1 : x < 0
  · have : ¬ 0 ≤ x := by rw [Int32.lt_iff_toInt_lt] at h1; rw [Int32.le_iff_toInt_le]; omega
    simp [h1, this]
  · have h1' := i32_nlt.mp h1
    by_cases h2 : x ≤ 7 <;> by_cases h3 : hs_ (nw o M 78) x = true <;> simp [h4, h1, h2, h3, h1']
theorem w7_lives {M : MM} {o : Nat} {x : Int32} {Post : Int32 → MM → Prop} (hL : ML o M) : wp_X7_lives M o x Post = if livS (nw o M) x = true then Post 1 M else Post 0 M := by
  unfold wp_X7_lives livS
  rw [w7_isPlant hL]
  simp (disch := first | assumption | omega) only [mgI_sI, mgI_sL, mgL_sI, mgL_sL, mgR_sI, mgR_sL, mkd_sI, mkd_sL, mln_sI, mln_sL, Option.some.injEq, exists_eq_left', forall_eq, true_and, and_true, Nat.reduceLT, exists_eq_left, ML_r0, ML_k1, ML_l1, ML_r1, ML_k2, ML_l2, ML_r2, ML_k3, ML_l3, ML_r3, ML_k4, ML_l4, ML_r13, ML_k5, ML_l5, ML_r14, ML_k6, ML_l6, ML_r15, ML_k7, ML_l7, ML_r16, ML_k8, ML_l8, ML_r17, ML_k9, ML_l9, ML_r18, ML_k10, ML_l10, ML_r19, ML_k11, ML_l11, ML_r20, ML_k12, ML_l12, ML_r21, ML_k13, ML_l13, ML_r22, ML_k14, ML_l14, ML_r23, ML_k15, ML_l15, ML_r24, ML_k16, ML_l16, ML_r25, ML_k17, ML_l17, ML_r26, ML_k18, ML_l18, ML_r30, ML_k19, ML_l19, ML_r35, ML_k20, ML_l20, ML_r36, ML_k21, ML_l21, ML_r37, ML_k22, ML_l22, ML_r38, ML_k23, ML_l23, ML_r40, ML_k24, ML_l24, ML_r41, ML_k25, ML_l25, ML_r42, ML_k26, ML_l26, ML_r43, ML_k27, ML_l27, ML_r44, ML_k28, ML_l28, ML_r45, ML_k29, ML_l29, ML_r48, ML_k30, ML_l30, ML_r51, ML_k31, ML_l31, ML_r52, ML_k32, ML_l32, w7_has, nwE]
  by_cases h1 : isPl (nw o M) x = true <;> by_cases h3 : hs_ (nw o M 77) x = true <;> simp [h1, h3]
theorem w7_draws {M : MM} {o : Nat} {Post : Int32 → MM → Prop} (hL : ML o M) : wp_X7_draws M o Post = Post (drwS (nw o M)) (msI M (o + 1) 80 (lotS (nw o M) 80)) := by
  unfold wp_X7_draws
  simp (disch := first | assumption | omega) only [mgI_sI, mgI_sL, mgL_sI, mgL_sL, mgR_sI, mgR_sL, mkd_sI, mkd_sL, mln_sI, mln_sL, Option.some.injEq, exists_eq_left', forall_eq, true_and, and_true, Nat.reduceLT, exists_eq_left, ML_r0, ML_k1, ML_l1, ML_r1, ML_k2, ML_l2, ML_r2, ML_k3, ML_l3, ML_r3, ML_k4, ML_l4, ML_r13, ML_k5, ML_l5, ML_r14, ML_k6, ML_l6, ML_r15, ML_k7, ML_l7, ML_r16, ML_k8, ML_l8, ML_r17, ML_k9, ML_l9, ML_r18, ML_k10, ML_l10, ML_r19, ML_k11, ML_l11, ML_r20, ML_k12, ML_l12, ML_r21, ML_k13, ML_l13, ML_r22, ML_k14, ML_l14, ML_r23, ML_k15, ML_l15, ML_r24, ML_k16, ML_l16, ML_r25, ML_k17, ML_l17, ML_r26, ML_k18, ML_l18, ML_r30, ML_k19, ML_l19, ML_r35, ML_k20, ML_l20, ML_r36, ML_k21, ML_l21, ML_r37, ML_k22, ML_l22, ML_r38, ML_k23, ML_l23, ML_r40, ML_k24, ML_l24, ML_r41, ML_k25, ML_l25, ML_r42, ML_k26, ML_l26, ML_r43, ML_k27, ML_l27, ML_r44, ML_k28, ML_l28, ML_r45, ML_k29, ML_l29, ML_r48, ML_k30, ML_l30, ML_r51, ML_k31, ML_l31, ML_r52, ML_k32, ML_l32, nwE, and_self, if_true, drwS, lotS, up]
theorem nw_sI {M : MM} {o k : Nat} {v : Int32} : nw o (msI M (o + 1) k v) = up (nw o M) k v := by
  funext j; unfold nw up; rw [mgI_sI]; simp
theorem nw_ne {M : MM} {o a k : Nat} {v : Int32} (h : a < o + 1 ∨ o + 1 < a) : nw o (msI M a k v) = nw o M := by
  funext j; unfold nw; rw [mgI_sI, if_neg (by omega)]
theorem nw_c {M : MM} {o c k : Nat} {v : Int32} (h : c < 1 ∨ 1 < c) : nw o (msI M (o + c) k v) = nw o M := nw_ne (by omega)
theorem nw_0 {M : MM} {o k : Nat} {v : Int32} : nw o (msI M o k v) = nw o M := nw_ne (by omega)
theorem fI.nw {P : Nat → Nat → Prop} {M M1 : MM} {o : Nat} (h : fI P M M1) (hp : ∀ k, ¬ P (o + 1) k) : nw o M1 = nw o M := funext fun k => h.2 _ _ (hp k)
def fcD (s : Nat → Int32) : Nat → Int32 := up (up (up (fun _ => 0) 0 (s 79)) 1 (rm_ (s 79) 7)) 10 (bitsS (s 78))
def fcP (s : Nat → Int32) (l : Nat) : Nat → Int32 := up (up (up (up (up (up (up (fcD s) 2 (nI l)) 3 (s l)) 4 (s (4 + l))) 5 (s (24 + 7 * l + 6))) 6 (s (12 + l))) 7 (s (16 + l))) 11 (if 0 ≤ s (20 + l) then s 79 - s (20 + l) else 99)
def fcG (s : Nat → Int32) (p l : Nat) : Nat → Int32 := up (up (up (fcP s l) 8 (nI p)) 9 (s (52 + p))) 12 (s (68 + p))
/-- the facts at hand are f -/
def fcE (o : Nat) (M : MM) (f : Nat → Int32) : Prop := ∀ k, k < 13 → mgI M (o + 18) k = f k
theorem fcE.s {o k : Nat} {M : MM} {f : Nat → Int32} {v : Int32} (h : fcE o M f) : fcE o (msI M (o + 18) k v) (up f k v) := by
  intro j hj
  rw [mgI_sI]; unfold up
  by_cases e : j = k
  · rw [if_pos ⟨rfl, e⟩, if_pos e]
  · rw [if_neg (fun x => e x.2), if_neg e]; exact h j hj
theorem l7_feels {o : Nat} {M : MM} {X : MM → Prop} (hL : ML o M) (h : ∀ M', fI (fun a _ => a = o + 18) M M' → (∀ k, k < 13 → mgI M' (o + 18) k = 0) → X M') : ∃ n, wl_X7_feels_2 o X n M (nI 0) := by
  refine cl_ (fun n M1 i => wl_X7_feels_2 o X n M1 (nI i)) (fun i M1 => fI (fun a _ => a = o + 18) M M1 ∧ ∀ k, k < i → mgI M1 (o + 18) k = 0) 13 ?_ ?_ M 0 (by omega) ⟨fI.rf, fun k hk => by omega⟩
  · intro n i M1 hi hI hs
    have h1 : ML o M1 := ML_of hI.1.e hL
    show wl_X7_feels_2 o X (n + 1) M1 (nI i)
    unfold wl_X7_feels_2
    rw [if_neg (show ¬ (13 : Int32) ≤ nI i from nI_ge hi (by decide))]
    simp (disch := first | assumption | omega) only [mgI_sI, mgI_sL, mgL_sI, mgL_sL, mgR_sI, mgR_sL, mkd_sI, mkd_sL, mln_sI, mln_sL, Option.some.injEq, exists_eq_left', forall_eq, true_and, and_true, Nat.reduceLT, exists_eq_left, ML_r0, ML_k1, ML_l1, ML_r1, ML_k2, ML_l2, ML_r2, ML_k3, ML_l3, ML_r3, ML_k4, ML_l4, ML_r13, ML_k5, ML_l5, ML_r14, ML_k6, ML_l6, ML_r15, ML_k7, ML_l7, ML_r16, ML_k8, ML_l8, ML_r17, ML_k9, ML_l9, ML_r18, ML_k10, ML_l10, ML_r19, ML_k11, ML_l11, ML_r20, ML_k12, ML_l12, ML_r21, ML_k13, ML_l13, ML_r22, ML_k14, ML_l14, ML_r23, ML_k15, ML_l15, ML_r24, ML_k16, ML_l16, ML_r25, ML_k17, ML_l17, ML_r26, ML_k18, ML_l18, ML_r30, ML_k19, ML_l19, ML_r35, ML_k20, ML_l20, ML_r36, ML_k21, ML_l21, ML_r37, ML_k22, ML_l22, ML_r38, ML_k23, ML_l23, ML_r40, ML_k24, ML_l24, ML_r41, ML_k25, ML_l25, ML_r42, ML_k26, ML_l26, ML_r43, ML_k27, ML_l27, ML_r44, ML_k28, ML_l28, ML_r45, ML_k29, ML_l29, ML_r48, ML_k30, ML_l30, ML_r51, ML_k31, ML_l31, ML_r52, ML_k32, ML_l32, ia0, ia4, ia8, ia12, ia16, ia20, ia24, ia52, ia60, ia68, im7, im14, ap6, iaN, ap1, ixN, vpN]
    refine hs _ ⟨hI.1.s rfl, fun k hk => ?_⟩
    rw [mgI_sI]
    by_cases e : k = i
    · rw [if_pos ⟨rfl, e⟩]
    · rw [if_neg (fun x => e x.2)]; exact hI.2 k (by omega)
  · intro n M1 hI
    show wl_X7_feels_2 o X (n + 1) M1 (nI 13)
    unfold wl_X7_feels_2
    rw [if_pos (show (13 : Int32) ≤ nI 13 from nI_le (Nat.le_refl 13) (by decide))]
    exact h _ hI.1 hI.2
theorem w7_feels {M : MM} {o : Nat} {Post : MM → Prop} (hL : ML o M) (h : ∀ M', fI (fun a _ => a = o + 18) M M' → fcE o M' (fcD (nw o M)) → Post M') : wp_X7_feels M o Post := by
  unfold wp_X7_feels
  refine l7_feels hL (fun M1 hF h0 => ?_)
  have h1 : ML o M1 := ML_of hF.e hL
  have hn : nw o M1 = nw o M := hF.nw (fun k e => by omega)
  simp (disch := first | assumption | omega) only [mgR_sI, mgR_sL, mkd_sI, mkd_sL, mln_sI, mln_sL, Option.some.injEq, exists_eq_left', forall_eq, true_and, and_true, Nat.reduceLT, exists_eq_left, ML_r0, ML_k1, ML_l1, ML_r1, ML_k2, ML_l2, ML_r2, ML_k3, ML_l3, ML_r3, ML_k4, ML_l4, ML_r13, ML_k5, ML_l5, ML_r14, ML_k6, ML_l6, ML_r15, ML_k7, ML_l7, ML_r16, ML_k8, ML_l8, ML_r17, ML_k9, ML_l9, ML_r18, ML_k10, ML_l10, ML_r19, ML_k11, ML_l11, ML_r20, ML_k12, ML_l12, ML_r21, ML_k13, ML_l13, ML_r22, ML_k14, ML_l14, ML_r23, ML_k15, ML_l15, ML_r24, ML_k16, ML_l16, ML_r25, ML_k17, ML_l17, ML_r26, ML_k18, ML_l18, ML_r30, ML_k19, ML_l19, ML_r35, ML_k20, ML_l20, ML_r36, ML_k21, ML_l21, ML_r37, ML_k22, ML_l22, ML_r38, ML_k23, ML_l23, ML_r40, ML_k24, ML_l24, ML_r41, ML_k25, ML_l25, ML_r42, ML_k26, ML_l26, ML_r43, ML_k27, ML_l27, ML_r44, ML_k28, ML_l28, ML_r45, ML_k29, ML_l29, ML_r48, ML_k30, ML_l30, ML_r51, ML_k31, ML_l31, ML_r52, ML_k32, ML_l32, nwE, hn, nw_c]
  refine w7_bits ?_
  simp (disch := first | assumption | omega) only [mgR_sI, mgR_sL, mkd_sI, mkd_sL, mln_sI, mln_sL, Option.some.injEq, exists_eq_left', forall_eq, true_and, and_true, Nat.reduceLT, exists_eq_left, ML_r0, ML_k1, ML_l1, ML_r1, ML_k2, ML_l2, ML_r2, ML_k3, ML_l3, ML_r3, ML_k4, ML_l4, ML_r13, ML_k5, ML_l5, ML_r14, ML_k6, ML_l6, ML_r15, ML_k7, ML_l7, ML_r16, ML_k8, ML_l8, ML_r17, ML_k9, ML_l9, ML_r18, ML_k10, ML_l10, ML_r19, ML_k11, ML_l11, ML_r20, ML_k12, ML_l12, ML_r21, ML_k13, ML_l13, ML_r22, ML_k14, ML_l14, ML_r23, ML_k15, ML_l15, ML_r24, ML_k16, ML_l16, ML_r25, ML_k17, ML_l17, ML_r26, ML_k18, ML_l18, ML_r30, ML_k19, ML_l19, ML_r35, ML_k20, ML_l20, ML_r36, ML_k21, ML_l21, ML_r37, ML_k22, ML_l22, ML_r38, ML_k23, ML_l23, ML_r40, ML_k24, ML_l24, ML_r41, ML_k25, ML_l25, ML_r42, ML_k26, ML_l26, ML_r43, ML_k27, ML_l27, ML_r44, ML_k28, ML_l28, ML_r45, ML_k29, ML_l29, ML_r48, ML_k30, ML_l30, ML_r51, ML_k31, ML_l31, ML_r52, ML_k32, ML_l32]
  refine h _ (((hF.s rfl).s rfl).s rfl) ?_
  exact (((show fcE o M1 (fun _ => 0) from h0).s).s).s
theorem vp11 {n : Nat} (h : 11 < n) (hn : n < 2147483648) : vp_in 11 n = True := vpN (n := 11) h hn
theorem ix11 : ix_ 11 = 11 := rfl
theorem w7_feelsPlant {M : MM} {o l : Nat} {Post : MM → Prop} (hL : ML o M) (hl : l < 4) (h : ∀ M', fI (fun a _ => a = o + 18) M M' → fcE o M' (fcP (nw o M) l) → Post M') : wp_X7_feelsPlant M o (nI l) Post := by
  unfold wp_X7_feelsPlant
  refine w7_feels hL (fun M1 hF h0 => ?_)
  have h1 : ML o M1 := ML_of hF.e hL
  have hn : nw o M1 = nw o M := hF.nw (fun k e => by omega)
  simp (disch := first | assumption | omega) only [mgR_sI, mgR_sL, mkd_sI, mkd_sL, mln_sI, mln_sL, Option.some.injEq, exists_eq_left', forall_eq, true_and, and_true, Nat.reduceLT, exists_eq_left, ML_r0, ML_k1, ML_l1, ML_r1, ML_k2, ML_l2, ML_r2, ML_k3, ML_l3, ML_r3, ML_k4, ML_l4, ML_r13, ML_k5, ML_l5, ML_r14, ML_k6, ML_l6, ML_r15, ML_k7, ML_l7, ML_r16, ML_k8, ML_l8, ML_r17, ML_k9, ML_l9, ML_r18, ML_k10, ML_l10, ML_r19, ML_k11, ML_l11, ML_r20, ML_k12, ML_l12, ML_r21, ML_k13, ML_l13, ML_r22, ML_k14, ML_l14, ML_r23, ML_k15, ML_l15, ML_r24, ML_k16, ML_l16, ML_r25, ML_k17, ML_l17, ML_r26, ML_k18, ML_l18, ML_r30, ML_k19, ML_l19, ML_r35, ML_k20, ML_l20, ML_r36, ML_k21, ML_l21, ML_r37, ML_k22, ML_l22, ML_r38, ML_k23, ML_l23, ML_r40, ML_k24, ML_l24, ML_r41, ML_k25, ML_l25, ML_r42, ML_k26, ML_l26, ML_r43, ML_k27, ML_l27, ML_r44, ML_k28, ML_l28, ML_r45, ML_k29, ML_l29, ML_r48, ML_k30, ML_l30, ML_r51, ML_k31, ML_l31, ML_r52, ML_k32, ML_l32, ia0, ia4, ia8, ia12, ia16, ia20, ia24, ia52, ia60, ia68, im7, im14, ap6, iaN, ap1, ixN, vpN, nwE, hn, nw_c]
  unfold wb_X7_feelsPlant_132
  simp (disch := first | assumption | omega) only [mgR_sI, mgR_sL, mkd_sI, mkd_sL, mln_sI, mln_sL, Option.some.injEq, exists_eq_left', forall_eq, true_and, and_true, Nat.reduceLT, exists_eq_left, ML_r0, ML_k1, ML_l1, ML_r1, ML_k2, ML_l2, ML_r2, ML_k3, ML_l3, ML_r3, ML_k4, ML_l4, ML_r13, ML_k5, ML_l5, ML_r14, ML_k6, ML_l6, ML_r15, ML_k7, ML_l7, ML_r16, ML_k8, ML_l8, ML_r17, ML_k9, ML_l9, ML_r18, ML_k10, ML_l10, ML_r19, ML_k11, ML_l11, ML_r20, ML_k12, ML_l12, ML_r21, ML_k13, ML_l13, ML_r22, ML_k14, ML_l14, ML_r23, ML_k15, ML_l15, ML_r24, ML_k16, ML_l16, ML_r25, ML_k17, ML_l17, ML_r26, ML_k18, ML_l18, ML_r30, ML_k19, ML_l19, ML_r35, ML_k20, ML_l20, ML_r36, ML_k21, ML_l21, ML_r37, ML_k22, ML_l22, ML_r38, ML_k23, ML_l23, ML_r40, ML_k24, ML_l24, ML_r41, ML_k25, ML_l25, ML_r42, ML_k26, ML_l26, ML_r43, ML_k27, ML_l27, ML_r44, ML_k28, ML_l28, ML_r45, ML_k29, ML_l29, ML_r48, ML_k30, ML_l30, ML_r51, ML_k31, ML_l31, ML_r52, ML_k32, ML_l32, ia0, ia4, ia8, ia12, ia16, ia20, ia24, ia52, ia60, ia68, im7, im14, ap6, iaN, ap1, ixN, vpN, nwE, hn, nw_c, vp11, ix11]
  have hF1 := fun v2 v3 v4 v5 v6 v7 v11 => (((((((hF.s (a := o + 18) (k := 2) (v := v2) rfl).s (a := o + 18) (k := 3) (v := v3) rfl).s (a := o + 18) (k := 4) (v := v4) rfl).s (a := o + 18) (k := 5) (v := v5) rfl).s (a := o + 18) (k := 6) (v := v6) rfl).s (a := o + 18) (k := 7) (v := v7) rfl).s (a := o + 18) (k := 11) (v := v11) rfl)
  have hE := (((((((h0.s (k := 2) (v := nI l)).s (k := 3) (v := nw o M l)).s (k := 4) (v := nw o M (4 + l))).s (k := 5) (v := nw o M (24 + 7 * l + 6))).s (k := 6) (v := nw o M (12 + l))).s (k := 7) (v := nw o M (16 + l))).s (k := 11) (v := if 0 ≤ nw o M (20 + l) then nw o M 79 - nw o M (20 + l) else 99))
  by_cases e : 0 ≤ nw o M (20 + l)
  · rw [if_pos e]
    refine h _ (hF1 _ _ _ _ _ _ _) ?_
    rw [if_pos e] at hE
    unfold fcP; rw [if_pos e]; exact hE
  · rw [if_neg e]
    refine h _ (hF1 _ _ _ _ _ _ _) ?_
    rw [if_neg e] at hE
    unfold fcP; rw [if_neg e]; exact hE

/-- codes from a to b run: what they come to -/
def Runs (cd : Nat → Int32) (a b : Nat) (d : Den) : Prop := ∀ (o : Nat) (M : MM) (f : Nat → Int32) (Post : Int32 → MM → Prop), ML o M → (∀ k, a ≤ k → k < b → mgI M (o + 11) k = cd k) → fcE o M f → (∀ M', fI (fun a _ => a = o + 17) M M' → Post ((d f).getD 0) M') → wp_X7_comesTo M o (nI a) (nI b) Post
/-- clauses from place i on -/
def TMc (o : Nat) (M : MM) : Nat → Txt → Prop
  | _, [] => True
  | i, q :: r => mgI M (o + 13) i = q.1 ∧ (∃ a b c, (220 * (i / 14) ≤ a ∧ a ≤ b ∧ b ≤ c ∧ c ≤ 220 * (i / 14) + 220) ∧ mgI M (o + 14) i = nI a ∧ mgI M (o + 15) i = nI b ∧ mgI M (o + 16) i = nI c ∧ Runs (fun k => mgI M (o + 11) k) a b q.2.1 ∧ Runs (fun k => mgI M (o + 11) k) b c q.2.2) ∧ TMc o M (i + 1) r
def TM (o : Nat) (M : MM) (T : Nat → Txt) : Prop := ∀ t, t < 5 → mgI M (o + 12) t = nI (T t).length ∧ (T t).length ≤ 14 ∧ TMc o M (14 * t) (T t)
theorem Runs.eq {cd cd' : Nat → Int32} {a b : Nat} {d : Den} (h : Runs cd a b d) (e : ∀ k, cd' k = cd k) : Runs cd' a b d := by
  rw [show cd' = cd from funext e]; exact h
theorem Runs.loc {cd cd' : Nat → Int32} {a b : Nat} {d : Den} (h : Runs cd a b d) (e : ∀ k, a ≤ k → k < b → cd' k = cd k) : Runs cd' a b d :=
  fun o M f Post h1 h2 h3 h4 => h o M f Post h1 (fun k x y => (h2 k x y).trans (e k x y)) h3 h4
theorem TMc.of {o : Nat} {M M' : MM} (e : ∀ c, 11 ≤ c → c < 17 → ∀ k, mgI M' (o + c) k = mgI M (o + c) k) : ∀ {r : Txt} {i : Nat}, TMc o M i r → TMc o M' i r := by
  intro r
  induction r with
  | nil => intro i _; exact True.intro
  | cons q r ih =>
    intro i ⟨h1, ⟨a, b, c, h0, h2, h3, h4, h5, h6⟩, h7⟩
    have e11 := e 11 (by omega) (by omega)
    refine ⟨(e 13 (by omega) (by omega) i).trans h1, ⟨a, b, c, h0, (e 14 (by omega) (by omega) i).trans h2, (e 15 (by omega) (by omega) i).trans h3, (e 16 (by omega) (by omega) i).trans h4, h5.eq e11, h6.eq e11⟩, ih h7⟩
theorem TM.of {o : Nat} {M M' : MM} {T : Nat → Txt} (e : ∀ c, 11 ≤ c → c < 17 → ∀ k, mgI M' (o + c) k = mgI M (o + c) k) (h : TM o M T) : TM o M' T :=
  fun t ht => ⟨(e 12 (by omega) (by omega) t).trans (h t ht).1, (h t ht).2.1, ((h t ht).2.2).of e⟩
theorem fI.tm {o : Nat} {P : Nat → Nat → Prop} {M M1 : MM} {T : Nat → Txt} (hF : fI P M M1) (hp : ∀ c, 11 ≤ c → c < 17 → ∀ k, ¬ P (o + c) k) (h : TM o M T) : TM o M1 T := h.of (fun c h1 h2 k => hF.2 _ _ (hp c h1 h2 k))
theorem fI.fc {o : Nat} {P : Nat → Nat → Prop} {M M1 : MM} {f : Nat → Int32} (hF : fI P M M1) (hp : ∀ k, ¬ P (o + 18) k) (h : fcE o M f) : fcE o M1 f := fun k hk => (hF.2 _ _ (hp k)).trans (h k hk)
theorem l7_byText {o t : Nat} {M0 : MM} {f : Nat → Int32} {c x3 : Int32} {len : Nat} {X : MM → Int32 → Prop} {Y : MM → Prop} {Post : Int32 → MM → Prop} (hL : ML o M0) (ht : t < 5) (hf : fcE o M0 f) (hm : mgI M0 (o + 12) t = nI len) (hlen : len ≤ 14)
    (hX : ∀ M i (d : Den) a b, fI (fun a _ => a = o + 17) M0 M → i < 70 → mgI M0 (o + 14) i = nI a → mgI M0 (o + 15) i = nI b → Runs (fun k => mgI M0 (o + 11) k) a b d → (∀ M', fI (fun a _ => a = o + 17) M0 M' → Post (clS x3 ((d f).getD 0)) M') → X M (nI i))
    (hY : ∀ M, fI (fun a _ => a = o + 17) M0 M → Post 0 M → Y M) :
    ∀ (r : Txt) (j : Nat) (M : MM), j + r.length = len → fI (fun a _ => a = o + 17) M0 M → TMc o M0 (14 * t + j) r → (∀ M', fI (fun a _ => a = o + 17) M0 M' → Post (byS r c x3 f) M') → wl_X7_byText_6 o (nI t) c x3 X Y (r.length + 1) M (nI (14 * t + j)) := by
  intro r
  induction r with
  | nil =>
    intro j M hj hF _ hP
    have h1 : ML o M := ML_of hF.e hL
    have hj' : j = len := hj
    have hm1 : mgI M (o + 12) t = nI len := (hF.2 _ _ (by omega)).trans hm
    unfold wl_X7_byText_6
    simp (disch := first | assumption | omega) only [mgR_sI, mgR_sL, mkd_sI, mkd_sL, mln_sI, mln_sL, Option.some.injEq, exists_eq_left', forall_eq, true_and, and_true, Nat.reduceLT, exists_eq_left, ML_r0, ML_k1, ML_l1, ML_r1, ML_k2, ML_l2, ML_r2, ML_k3, ML_l3, ML_r3, ML_k4, ML_l4, ML_r13, ML_k5, ML_l5, ML_r14, ML_k6, ML_l6, ML_r15, ML_k7, ML_l7, ML_r16, ML_k8, ML_l8, ML_r17, ML_k9, ML_l9, ML_r18, ML_k10, ML_l10, ML_r19, ML_k11, ML_l11, ML_r20, ML_k12, ML_l12, ML_r21, ML_k13, ML_l13, ML_r22, ML_k14, ML_l14, ML_r23, ML_k15, ML_l15, ML_r24, ML_k16, ML_l16, ML_r25, ML_k17, ML_l17, ML_r26, ML_k18, ML_l18, ML_r30, ML_k19, ML_l19, ML_r35, ML_k20, ML_l20, ML_r36, ML_k21, ML_l21, ML_r37, ML_k22, ML_l22, ML_r38, ML_k23, ML_l23, ML_r40, ML_k24, ML_l24, ML_r41, ML_k25, ML_l25, ML_r42, ML_k26, ML_l26, ML_r43, ML_k27, ML_l27, ML_r44, ML_k28, ML_l28, ML_r45, ML_k29, ML_l29, ML_r48, ML_k30, ML_l30, ML_r51, ML_k31, ML_l31, ML_r52, ML_k32, ML_l32, ia0, ia4, ia8, ia12, ia16, ia20, ia24, ia52, ia60, ia68, im7, im14, ap6, iaN, ap1, ixN, vpN, hm1]
    rw [if_pos (by rw [hj']; exact nI_le (Nat.le_refl _) (by omega))]
    exact hY M hF (hP M hF)
  | cons q r ih =>
    intro j M hj hF hT hP
    have hj' : j + (r.length + 1) = len := hj
    have h1 : ML o M := ML_of hF.e hL
    have hm1 : mgI M (o + 12) t = nI len := (hF.2 _ _ (by omega)).trans hm
    obtain ⟨g1, ⟨a, b, e, _, g2, g3, g4, g5, g6⟩, g7⟩ := hT
    have k1 : mgI M (o + 13) (14 * t + j) = q.1 := (hF.2 _ _ (by omega)).trans g1
    have k3 : mgI M (o + 15) (14 * t + j) = nI b := (hF.2 _ _ (by omega)).trans g3
    have k4 : mgI M (o + 16) (14 * t + j) = nI e := (hF.2 _ _ (by omega)).trans g4
    show wl_X7_byText_6 o (nI t) c x3 X Y ((r.length + 1) + 1) M (nI (14 * t + j))
    unfold wl_X7_byText_6
    simp (disch := first | assumption | omega) only [mgR_sI, mgR_sL, mkd_sI, mkd_sL, mln_sI, mln_sL, Option.some.injEq, exists_eq_left', forall_eq, true_and, and_true, Nat.reduceLT, exists_eq_left, ML_r0, ML_k1, ML_l1, ML_r1, ML_k2, ML_l2, ML_r2, ML_k3, ML_l3, ML_r3, ML_k4, ML_l4, ML_r13, ML_k5, ML_l5, ML_r14, ML_k6, ML_l6, ML_r15, ML_k7, ML_l7, ML_r16, ML_k8, ML_l8, ML_r17, ML_k9, ML_l9, ML_r18, ML_k10, ML_l10, ML_r19, ML_k11, ML_l11, ML_r20, ML_k12, ML_l12, ML_r21, ML_k13, ML_l13, ML_r22, ML_k14, ML_l14, ML_r23, ML_k15, ML_l15, ML_r24, ML_k16, ML_l16, ML_r25, ML_k17, ML_l17, ML_r26, ML_k18, ML_l18, ML_r30, ML_k19, ML_l19, ML_r35, ML_k20, ML_l20, ML_r36, ML_k21, ML_l21, ML_r37, ML_k22, ML_l22, ML_r38, ML_k23, ML_l23, ML_r40, ML_k24, ML_l24, ML_r41, ML_k25, ML_l25, ML_r42, ML_k26, ML_l26, ML_r43, ML_k27, ML_l27, ML_r44, ML_k28, ML_l28, ML_r45, ML_k29, ML_l29, ML_r48, ML_k30, ML_l30, ML_r51, ML_k31, ML_l31, ML_r52, ML_k32, ML_l32, ia0, ia4, ia8, ia12, ia16, ia20, ia24, ia52, ia60, ia68, im7, im14, ap6, iaN, ap1, ixN, vpN, hm1]
    rw [if_neg (nI_ge (by omega) (by omega))]
    rw [k1, k3, k4]
    by_cases hc : q.1 = c
    · rw [if_pos hc]
      refine g6 o M f _ h1 (fun k _ _ => hF.2 _ _ (by omega)) (hF.fc (fun k => by omega) hf) (fun M' hF' => ?_)
      have hF2 := hF.tr hF'
      by_cases hd : (q.2.2 f).getD 0 = 1
      · rw [if_pos hd]
        refine hX M' _ q.2.1 a b hF2 (by omega) g2 g3 g5 (fun M2 hM2 => ?_)
        have := hP M2 hM2
        unfold byS at this
        rw [if_pos ⟨hc, hd⟩] at this
        exact this
      · rw [if_neg hd]
        refine ih (j + 1) M' (by omega) hF2 g7 (fun M2 hM2 => ?_)
        have := hP M2 hM2
        unfold byS at this
        rw [if_neg (fun x => hd x.2)] at this
        exact this
    · rw [if_neg hc]
      refine ih (j + 1) M (by omega) hF g7 (fun M2 hM2 => ?_)
      have := hP M2 hM2
      unfold byS at this
      rw [if_neg (fun x => hc x.1)] at this
      exact this
theorem w7_byText {o t : Nat} {M : MM} {f : Nat → Int32} {c x3 : Int32} {T : Nat → Txt} {Post : Int32 → MM → Prop} (hL : ML o M) (hT : TM o M T) (ht : t < 5) (hf : fcE o M f) (h : ∀ M', fI (fun a _ => a = o + 17) M M' → Post (byS (T t) c x3 f) M') : wp_X7_byText M o (nI t) c x3 Post := by
  unfold wp_X7_byText
  simp only [forall_eq, im14]
  obtain ⟨t1, t2, t3⟩ := hT t ht
  refine ⟨(T t).length + 1, l7_byText (Post := Post) hL ht hf t1 t2 ?_ (fun M hF hP => hP) (T t) 0 M (by omega) fI.rf t3 h⟩
  intro M1 i d a b hF hi ha hb hd hP
  have h1 : ML o M1 := ML_of hF.e hL
  have ha' : mgI M1 (o + 14) i = nI a := (hF.2 _ _ (by omega)).trans ha
  have hb' : mgI M1 (o + 15) i = nI b := (hF.2 _ _ (by omega)).trans hb
  simp (disch := first | assumption | omega) only [mgR_sI, mgR_sL, mkd_sI, mkd_sL, mln_sI, mln_sL, Option.some.injEq, exists_eq_left', forall_eq, true_and, and_true, Nat.reduceLT, exists_eq_left, ML_r0, ML_k1, ML_l1, ML_r1, ML_k2, ML_l2, ML_r2, ML_k3, ML_l3, ML_r3, ML_k4, ML_l4, ML_r13, ML_k5, ML_l5, ML_r14, ML_k6, ML_l6, ML_r15, ML_k7, ML_l7, ML_r16, ML_k8, ML_l8, ML_r17, ML_k9, ML_l9, ML_r18, ML_k10, ML_l10, ML_r19, ML_k11, ML_l11, ML_r20, ML_k12, ML_l12, ML_r21, ML_k13, ML_l13, ML_r22, ML_k14, ML_l14, ML_r23, ML_k15, ML_l15, ML_r24, ML_k16, ML_l16, ML_r25, ML_k17, ML_l17, ML_r26, ML_k18, ML_l18, ML_r30, ML_k19, ML_l19, ML_r35, ML_k20, ML_l20, ML_r36, ML_k21, ML_l21, ML_r37, ML_k22, ML_l22, ML_r38, ML_k23, ML_l23, ML_r40, ML_k24, ML_l24, ML_r41, ML_k25, ML_l25, ML_r42, ML_k26, ML_l26, ML_r43, ML_k27, ML_l27, ML_r44, ML_k28, ML_l28, ML_r45, ML_k29, ML_l29, ML_r48, ML_k30, ML_l30, ML_r51, ML_k31, ML_l31, ML_r52, ML_k32, ML_l32, ia0, ia4, ia8, ia12, ia16, ia20, ia24, ia52, ia60, ia68, im7, im14, ap6, iaN, ap1, ixN, vpN]
  rw [ha', hb']
  refine hd o M1 f _ h1 (fun k _ _ => hF.2 _ _ (by omega)) (hF.fc (fun k => by omega) hf) (fun M' hF' => ?_)
  have := hP M' (hF.tr hF')
  unfold clS at this
  by_cases e1 : 0 ≤ (d f).getD 0
  · rw [if_pos e1] at this ⊢
    by_cases e2 : (d f).getD 0 ≤ x3
    · rw [if_pos e2] at this ⊢; exact this
    · rw [if_neg e2] at this ⊢; exact this
  · rw [if_neg e1] at this ⊢; exact this

theorem w7_cupsOf {o p l r : Nat} {M : MM} {T : Nat → Txt} {Post : Int32 → MM → Prop} (hL : ML o M) (hT : TM o M T) (hp : p < 8) (hl : l < 4) (hr : nw o M (60 + p) = nI r) (hr4 : r < 4) (h : ∀ M', fI (fun a _ => a = o + 17 ∨ a = o + 18) M M' → Post (byS (T (r + 1)) 103 9 (fcG (nw o M) p l)) M') : wp_X7_cupsOf M o (nI p) (nI l) Post := by
  unfold wp_X7_cupsOf
  refine w7_feelsPlant hL hl (fun M1 hF h0 => ?_)
  have h1 : ML o M1 := ML_of hF.e hL
  have hn : nw o M1 = nw o M := hF.nw (fun k e => by omega)
  simp (disch := first | assumption | omega) only [mgR_sI, mgR_sL, mkd_sI, mkd_sL, mln_sI, mln_sL, Option.some.injEq, exists_eq_left', forall_eq, true_and, and_true, Nat.reduceLT, exists_eq_left, ML_r0, ML_k1, ML_l1, ML_r1, ML_k2, ML_l2, ML_r2, ML_k3, ML_l3, ML_r3, ML_k4, ML_l4, ML_r13, ML_k5, ML_l5, ML_r14, ML_k6, ML_l6, ML_r15, ML_k7, ML_l7, ML_r16, ML_k8, ML_l8, ML_r17, ML_k9, ML_l9, ML_r18, ML_k10, ML_l10, ML_r19, ML_k11, ML_l11, ML_r20, ML_k12, ML_l12, ML_r21, ML_k13, ML_l13, ML_r22, ML_k14, ML_l14, ML_r23, ML_k15, ML_l15, ML_r24, ML_k16, ML_l16, ML_r25, ML_k17, ML_l17, ML_r26, ML_k18, ML_l18, ML_r30, ML_k19, ML_l19, ML_r35, ML_k20, ML_l20, ML_r36, ML_k21, ML_l21, ML_r37, ML_k22, ML_l22, ML_r38, ML_k23, ML_l23, ML_r40, ML_k24, ML_l24, ML_r41, ML_k25, ML_l25, ML_r42, ML_k26, ML_l26, ML_r43, ML_k27, ML_l27, ML_r44, ML_k28, ML_l28, ML_r45, ML_k29, ML_l29, ML_r48, ML_k30, ML_l30, ML_r51, ML_k31, ML_l31, ML_r52, ML_k32, ML_l32, ia0, ia4, ia8, ia12, ia16, ia20, ia24, ia52, ia60, ia68, im7, im14, ap6, iaN, ap1, ixN, vpN, nwE, hn, nw_c]
  rw [hr, show nI r + (1 : Int32) = nI (r + 1) from ap1]
  have hE := (((h0.s (k := 8) (v := nI p)).s (k := 9) (v := nw o M (52 + p))).s (k := 12) (v := nw o M (68 + p)))
  have hF3 := ((hF.s (a := o + 18) (k := 8) (v := nI p) rfl).s (a := o + 18) (k := 9) (v := nw o M (52 + p)) rfl).s (a := o + 18) (k := 12) (v := nw o M (68 + p)) rfl
  refine w7_byText (T := T) (ML_of hF3.e hL) (hF3.tm (fun c h1 h2 k => by omega) hT) (by omega) hE (fun M' hF' => h M' ?_)
  exact (hF3.mono (fun a k e => Or.inr e)).tr (hF'.mono (fun a k e => Or.inl e))
