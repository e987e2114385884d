/-! sets of people, as numbers -/
set_option maxRecDepth 100000
theorem if1_or {a b : Bool} : ((if a = true then (1 : Int32) else 0) ||| (if b = true then (1 : Int32) else 0) = 1) ↔ (a || b) = true := by
  cases a <;> cases b <;> decide
theorem if1_and {a b : Bool} : ((if a = true then (1 : Int32) else 0) &&& (if b = true then (1 : Int32) else 0) = 1) ↔ (a && b) = true := by
  cases a <;> cases b <;> decide
theorem or_and1 {x y z : Int32} : (x ||| y) &&& z = (x &&& z) ||| (y &&& z) := by
  rw [← Int32.toBitVec_inj, Int32.toBitVec_and, Int32.toBitVec_or, Int32.toBitVec_or, Int32.toBitVec_and, Int32.toBitVec_and]
  exact BitVec.and_or_distrib_right
theorem and_and1 {x y z : Int32} : (x &&& y) &&& z = (x &&& z) &&& (y &&& z) := by
  rw [← Int32.toBitVec_inj, Int32.toBitVec_and, Int32.toBitVec_and, Int32.toBitVec_and, Int32.toBitVec_and, Int32.toBitVec_and]
  refine BitVec.eq_of_getLsbD_eq (fun i hi => ?_)
  simp only [BitVec.getLsbD_and]
  cases x.toBitVec.getLsbD i <;> cases y.toBitVec.getLsbD i <;> cases z.toBitVec.getLsbD i <;> rfl
theorem hs_or {x y k : Int32} : hs_ (x ||| y) k = (hs_ x k || hs_ y k) := by
  have h : hs_ (x ||| y) k = true ↔ (hs_ x k || hs_ y k) = true := by
    have e : (((x ||| y) >>> (k &&& 31)) &&& (1 : Int32)) = ((x >>> (k &&& 31)) &&& 1) ||| ((y >>> (k &&& 31)) &&& 1) := by
      rw [Int32.shiftRight_or, or_and1]
    rw [bit01, bit01, bit01] at e
    rw [← if1_or, ← e]
    clear e
    generalize hs_ (x ||| y) k = b
    cases b <;> decide
  exact Bool.eq_iff_iff.mpr h
theorem hs_and {x y k : Int32} : hs_ (x &&& y) k = (hs_ x k && hs_ y k) := by
  have h : hs_ (x &&& y) k = true ↔ (hs_ x k && hs_ y k) = true := by
    have e : (((x &&& y) >>> (k &&& 31)) &&& (1 : Int32)) = ((x >>> (k &&& 31)) &&& 1) &&& ((y >>> (k &&& 31)) &&& 1) := by
      rw [Int32.shiftRight_and, and_and1]
    rw [bit01, bit01, bit01] at e
    rw [← if1_and, ← e]
    clear e
    generalize hs_ (x &&& y) k = b
    cases b <;> decide
  exact Bool.eq_iff_iff.mpr h
def m8 (x : Int32) : Prop := x &&& 255 = x
theorem m8.or {x y : Int32} (hx : m8 x) (hy : m8 y) : m8 (x ||| y) := by
  unfold m8 at *
  rw [or_and1, hx, hy]
theorem m8.an {x y : Int32} (hx : m8 x) (hy : m8 y) : m8 (x &&& y) := by
  unfold m8 at *
  rw [and_and1, hx, hy]
theorem m8_nI {k : Nat} (h : k < 256) : m8 (nI k) := by
  have g : ∀ k, k < 256 → nI k &&& 255 = nI k := by decide +kernel
  exact g k h
theorem m8.ex {x : Int32} (h : m8 x) : ∃ d, d < 256 ∧ x = nI d := by
  unfold m8 at h
  obtain ⟨j, h1, h2⟩ := pk_andE x (m := 255) 8 (by decide)
  refine ⟨j, by omega, ?_⟩
  rw [← h]; exact h2
/-- equal by their bits -/
theorem m8.st {x : Int32} {f : Nat → Bool} (h : m8 x) (e : ∀ q, q < 8 → f q = hs_ x (nI q)) : stB f 8 = x := by
  obtain ⟨d, hd, rfl⟩ := h.ex
  rw [stB_c (g := fun l => hs_ (nI d) (nI l)) 8 e]
  exact stB8 hd
theorem su_bits {p k q : Nat} (hp : p < 256) (hk : k < 256) (hq : q < 8) (h : suP (nI p) k) (e : hs_ (nI k) (nI q) = true) : hs_ (nI p) (nI q) = true := by
  have n : ∀ p, p < 256 → ∀ q, q < 8 → hs_ (nI p ^^^ (-1 : Int32)) (nI q) = !hs_ (nI p) (nI q) := by decide +kernel
  have := hs_and (x := nI k) (y := nI p ^^^ (-1 : Int32)) (k := nI q)
  rw [show nI k &&& (nI p ^^^ (-1 : Int32)) = 0 from h, hs_0 hq, e, n p hp q hq] at this
  simpa using this.symm
theorem hs_tb {p q : Nat} (hp : p < 256) (hq : q < 8) : hs_ (nI p) (nI q) = p.testBit q := by
  have n : ∀ p, p < 256 → ∀ q, q < 8 → hs_ (nI p) (nI q) = p.testBit q := by decide +kernel
  exact n p hp q hq
theorem su_le {p k : Nat} (hp : p < 256) (hk : k < 256) (h : suP (nI p) k) : k ≤ p := by
  have e : k &&& p = k := by
    refine Nat.eq_of_testBit_eq (fun i => ?_)
    rw [Nat.testBit_and]
    by_cases hi : i < 8
    · cases e : k.testBit i with
      | false => rfl
      | true =>
        have := su_bits hp hk hi h (by rw [hs_tb hk hi]; exact e)
        rw [hs_tb hp hi] at this
        rw [this]; rfl
    · have : k.testBit i = false := Nat.testBit_lt_two_pow (Nat.lt_of_lt_of_le hk (show 2 ^ 8 ≤ 2 ^ i from Nat.pow_le_pow_right (by omega) (by omega)))
      rw [this]; rfl
  rw [← e]
  exact Nat.and_le_right
theorem lpF_add {α : Type} {f : Nat → α → α} : ∀ j m i (a : α), lpF f (j + m) i a = lpF f m (i + j) (lpF f j i a) := by
  intro j
  induction j with
  | zero => intro m i a; rw [Nat.zero_add]; rfl
  | succ j ih =>
    intro m i a
    rw [show j + 1 + m = (j + m) + 1 by omega]
    show lpF f (j + m) (i + 1) (f i a) = lpF f m (i + (j + 1)) (lpF f j (i + 1) (f i a))
    rw [ih, show i + 1 + j = i + (j + 1) by omega]
theorem lpF_id {α : Type} {f : Nat → α → α} : ∀ j i (a : α), (∀ k, i ≤ k → k < i + j → ∀ b, f k b = b) → lpF f j i a = a := by
  intro j
  induction j with
  | zero => intro i a _; rfl
  | succ j ih =>
    intro i a h
    show lpF f j (i + 1) (f i a) = a
    rw [h i (by omega) (by omega)]
    exact ih (i + 1) a (fun k h1 h2 => h k (by omega) (by omega))
