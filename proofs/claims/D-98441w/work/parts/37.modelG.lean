/-! the greatest common divisor: both sides the same loop -/
set_option maxRecDepth 100000
def gN : Nat → Int64 → Int64 → Int64
  | 0, x, _ => x
  | n + 1, x, y => if y = 0 then x else gN n y (rmL_ x y)
def gcS (x y : Int64) : Int64 := gN (y.toInt.natAbs + 1) x y
theorem rmL_lt {x y : Int64} (h : y ≠ 0) : (rmL_ x y).toInt.natAbs < y.toInt.natAbs := by
  have hy : y.toInt ≠ 0 := fun e => h (Int64.toInt_inj.mp (by rw [e]; rfl))
  have hx1 := Int64.le_toInt x
  have hx2 := Int64.toInt_lt x
  have hy1 := Int64.le_toInt y
  have hy2 := Int64.toInt_lt y
  have hm : (rmL_ x y).toInt = (x.toInt.tmod y.toInt).bmod (2 ^ 64) := by
    unfold rmL_
    rw [Int64.toInt_sub, Int64.toInt_mul, Int64.toInt_div]
    rw [Int.sub_bmod_bmod, Int.tmod_def]
    rw [← Int.sub_bmod_bmod, Int.bmod_mul_bmod, Int.sub_bmod_bmod, Int.mul_comm]
  have hb : (x.toInt.tmod y.toInt).natAbs < y.toInt.natAbs := by
    rw [Int.natAbs_tmod]; exact Nat.mod_lt _ (by omega)
  have hb2 : (x.toInt.tmod y.toInt).natAbs ≤ x.toInt.natAbs := by
    rw [Int.natAbs_tmod]; exact Nat.mod_le _ _
  have hs : x.toInt.tmod y.toInt < 0 → x.toInt < 0 := by
    intro hneg
    refine Int.not_le.mp (fun hc => ?_)
    have := Int.tmod_nonneg y.toInt hc
    omega
  rw [hm, Int.bmod_eq_of_le (by omega) (by omega)]
  exact hb
theorem gcd_g (W : Nat → Int64 → Int64 → Prop) (P : Int64 → Prop) (hW : ∀ n x y, (y = 0 → P x) → (y ≠ 0 → W n y (rmL_ x y)) → W (n + 1) x y) (hl : ∀ x y : Int64, y ≠ 0 → (rmL_ x y).toInt.natAbs < y.toInt.natAbs) : ∀ n x y, y.toInt.natAbs < n → P (gN n x y) → W n x y := by
  intro n
  induction n with
  | zero => intro x y h; omega
  | succ n ih =>
    intro x y h hP
    refine hW n x y (fun e => ?_) (fun e => ?_)
    · unfold gN at hP; rw [if_pos e] at hP; exact hP
    · unfold gN at hP; rw [if_neg e] at hP
      exact ih y (rmL_ x y) (by have := hl x y e; omega) hP
theorem w7_gcd {M : MM} {x y : Int64} {Post : Int64 → MM → Prop} (h : Post (gcS x y) M) : wp_X7_gcd M x y Post := by
  unfold wp_X7_gcd
  refine ⟨y.toInt.natAbs + 1, gcd_g (fun n a b => wl_X7_gcd_6 (fun M_6 x4_8 => Post x4_8 M_6) n M a b) (fun v => Post v M) ?_ (fun a b e => rmL_lt e) _ x y (by omega) h⟩
  intro n a b h1 h2
  show wl_X7_gcd_6 _ (n + 1) M a b
  unfold wl_X7_gcd_6
  by_cases e : b = 0
  · rw [if_pos e]; exact h1 e
  · rw [if_neg e]
    refine ⟨e, ?_⟩
    simp only [forall_eq]
    exact h2 e
theorem w0_divisor {M : MM} {x y : Int64} {Post : Int64 → MM → Prop} (h : Post (gcS x y) M) : wp_X0_divisor M x y Post := by
  unfold wp_X0_divisor
  refine ⟨y.toInt.natAbs + 1, gcd_g (fun n a b => wl_X0_divisor_6 (fun M_6 x4_8 => Post x4_8 M_6) n M a b) (fun v => Post v M) ?_ (fun a b e => rmL_lt e) _ x y (by omega) h⟩
  intro n a b h1 h2
  show wl_X0_divisor_6 _ (n + 1) M a b
  unfold wl_X0_divisor_6
  by_cases e : b = 0
  · rw [if_pos e]; exact h1 e
  · rw [if_neg e]
    refine ⟨e, ?_⟩
    simp only [forall_eq]
    exact h2 e
