/-! the component: what a can is worth, by all who may come -/
set_option maxRecDepth 100000
/-- the weight of those that come -/
def prW (t : Nat → Int32) (k : Nat) : Nat → Int64
  | 0 => 1
  | m + 1 => prW t k m * (if k.testBit m = true then (t m).toInt64 else ((10 : Int32) - t m).toInt64)
def pcN (k : Nat) : Nat → Nat
  | 0 => 0
  | m + 1 => pcN k m + (if k.testBit m = true then 1 else 0)
theorem prW_c {t : Nat → Int32} {k k' : Nat} : ∀ m, (∀ i, i < m → k.testBit i = k'.testBit i) → prW t k m = prW t k' m := by
  intro m
  induction m with
  | zero => intro _; rfl
  | succ m ih => intro h; unfold prW; rw [ih (fun i hi => h i (by omega)), h m (by omega)]
theorem pcN_c {k k' : Nat} : ∀ m, (∀ i, i < m → k.testBit i = k'.testBit i) → pcN k m = pcN k' m := by
  intro m
  induction m with
  | zero => intro _; rfl
  | succ m ih => intro h; unfold pcN; rw [ih (fun i hi => h i (by omega)), h m (by omega)]
theorem sm_app {a : Nat} {g : Nat → Int64} : ∀ b, sm (a + b) g = sm a g + sm b (fun i => g (a + i)) := by
  intro b
  induction b with
  | zero => show sm a g = sm a g + 0; rw [Int64.add_zero]
  | succ b ih => show sm (a + b) g + g (a + b) = sm a g + (sm b (fun i => g (a + i)) + g (a + b)); rw [ih, Int64.add_assoc]
theorem sm_first {g : Nat → Int64} : ∀ n, sm (n + 1) g = g 0 + sm n (fun i => g (i + 1)) := by
  intro n
  induction n with
  | zero => show (0 : Int64) + g 0 = g 0 + 0; rw [Int64.zero_add, Int64.add_zero]
  | succ n ih => show sm (n + 1) g + g (n + 1) = g 0 + (sm n (fun i => g (i + 1)) + g (n + 1)); rw [ih, Int64.add_assoc]
theorem can_sum {t : Nat → Int32} : ∀ m (F : Nat → Int64), sm (2 ^ m) (fun k => prW t k m * F (pcN k m)) = sm (m + 1) (fun j => cmV t m j * F j) := by
  intro m
  induction m with
  | zero => intro F; rfl
  | succ m ih =>
    intro F
    rw [show 2 ^ (m + 1) = 2 ^ m + 2 ^ m by omega, sm_app]
    have e1 : sm (2 ^ m) (fun k => prW t k (m + 1) * F (pcN k (m + 1))) = sm (m + 1) (fun j => cmV t m j * F j) * ((10 : Int32) - t m).toInt64 := by
      rw [← ih F, ← sm_mul]
      refine sm_congr (fun k hk => ?_)
      have hb : k.testBit m = false := Nat.testBit_lt_two_pow hk
      show (prW t k m * (if k.testBit m = true then (t m).toInt64 else ((10 : Int32) - t m).toInt64)) * F (pcN k m + (if k.testBit m = true then 1 else 0)) = _
      rw [hb, if_neg (by decide), if_neg (by decide), Nat.add_zero, Int64.mul_assoc, Int64.mul_comm _ (F _), ← Int64.mul_assoc]
    have e2 : sm (2 ^ m) (fun i => prW t (2 ^ m + i) (m + 1) * F (pcN (2 ^ m + i) (m + 1))) = sm (m + 1) (fun j => cmV t m j * F (j + 1)) * (t m).toInt64 := by
      rw [← ih (fun j => F (j + 1)), ← sm_mul]
      refine sm_congr (fun k hk => ?_)
      have hb : (2 ^ m + k).testBit m = true := by
        rw [Nat.testBit_two_pow_add_eq, Nat.testBit_lt_two_pow hk]; rfl
      have hc : ∀ i, i < m → (2 ^ m + k).testBit i = k.testBit i := fun i hi => Nat.testBit_two_pow_add_gt hi k
      show (prW t (2 ^ m + k) m * (if (2 ^ m + k).testBit m = true then (t m).toInt64 else ((10 : Int32) - t m).toInt64)) * F (pcN (2 ^ m + k) m + (if (2 ^ m + k).testBit m = true then 1 else 0)) = _
      rw [hb, if_pos rfl, if_pos rfl, prW_c m hc, pcN_c m hc, Int64.mul_assoc, Int64.mul_comm _ (F _), ← Int64.mul_assoc]
    rw [e1, e2]
    have r1 : (fun j => cmV t (m + 1) j * F j) = fun j => (cmV t m j * F j) * ((10 : Int32) - t m).toInt64 + (if j = 0 then 0 else cmV t m (j - 1) * (t m).toInt64) * F j := by
      funext j
      show (cmV t m j * ((10 : Int32) - t m).toInt64 + (if j = 0 then 0 else cmV t m (j - 1) * (t m).toInt64)) * F j = _
      rw [Int64.add_mul, Int64.mul_assoc, Int64.mul_comm _ (F j), ← Int64.mul_assoc]
    rw [r1, sm_add]
    have r2 : sm (m + 1 + 1) (fun j => cmV t m j * F j * ((10 : Int32) - t m).toInt64) = sm (m + 1) (fun j => cmV t m j * F j) * ((10 : Int32) - t m).toInt64 := by
      rw [← sm_mul]
      show sm (m + 1) _ + cmV t m (m + 1) * F (m + 1) * ((10 : Int32) - t m).toInt64 = _
      rw [cmV_0 m (m + 1) (by omega), Int64.zero_mul, Int64.zero_mul, Int64.add_zero]
    have r3 : sm (m + 1 + 1) (fun j => (if j = 0 then 0 else cmV t m (j - 1) * (t m).toInt64) * F j) = sm (m + 1) (fun j => cmV t m j * F (j + 1)) * (t m).toInt64 := by
      rw [sm_first, ← sm_mul]
      show (0 : Int64) * F 0 + _ = _
      rw [Int64.zero_mul, Int64.zero_add]
      refine sm_congr (fun j _ => ?_)
      show (if j + 1 = 0 then 0 else cmV t m (j + 1 - 1) * (t m).toInt64) * F (j + 1) = _
      rw [if_neg (by omega), Nat.add_sub_cancel, Int64.mul_assoc, Int64.mul_comm _ (F _), ← Int64.mul_assoc]
    rw [r2, r3]
theorem bits_pc : ∀ m, m ≤ 6 → ∀ k, k < 64 → k < 2 ^ m → bitsS (nI k) = nI (pcN k m) ∧ (pcN k m = 0 ↔ k = 0) := by decide +kernel
def caG (c d : Int32) (j : Nat) : Int64 := (ma_ 0 (c * nI j - d) - (if j = 0 then 0 else ma_ 0 (c - d))).toInt64
theorem can_is {t : Nat → Int32} {m : Nat} {c d : Int32} (hd : 0 ≤ d) : sm (2 ^ m) (fun k => prW t k m * caG c d (pcN k m)) = sm m (fun i => cmV t m (i + 1) * caF c d (i + 1)) := by
  rw [can_sum m (caG c d), sm_first]
  have e0 : caG c d 0 = 0 := by
    unfold caG
    rw [if_pos rfl]
    have e1 : c * nI 0 - d = 0 - d := by
      rw [show nI 0 = (0 : Int32) from rfl, Int32.mul_zero]
    have e2 : ma_ 0 (0 - d) = 0 := by
      rw [← mx_ma]
      unfold mx_
      rw [if_neg]
      intro h
      rw [Int32.lt_iff_toInt_lt, Int32.toInt_sub] at h
      rw [Int32.le_iff_toInt_le] at hd
      have e3 : (0 : Int32).toInt = 0 := rfl
      have h1 := Int32.toInt_lt d
      rw [e3] at h hd
      rw [Int.bmod_eq_of_le (by omega) (by omega)] at h
      omega
    rw [e1, e2]; rfl
  rw [e0, Int64.mul_zero, Int64.zero_add]
  refine sm_congr (fun i _ => ?_)
  unfold caG caF
  rw [if_neg (by omega)]
theorem l0_can59 {o m : Nat} {x2 x3 x4 : Int32} {M : MM} {t : Nat → Int32} {X81 X91 : MM → Prop} (hL : CL o M) (ht : ∀ k, mgI M (o + 59) k = t k) (hm : m < 100) : ∀ j k, k + j = m → (tkB t j k = false → X81 M) → (tkB t j k = true → X91 M) → wl_X0_can_59 o (nI m) x2 x3 x4 X81 X91 (j + 1) M (nI k) := by
  intro j
  induction j with
  | zero =>
    intro k hk a b
    unfold wl_X0_can_59
    rw [if_pos (nI_le (by omega) (by omega))]
    exact b rfl
  | succ j ih =>
    intro k hk a b
    unfold wl_X0_can_59
    rw [if_neg (nI_ge (by omega) (by omega))]
    refine ⟨o + 59, CL_r4 hL, CL_k59 hL, ?_, ?_⟩
    · rw [CL_l59 hL]; have : k < 220 := by omega
      simp (disch := first | assumption | omega) only [ia0, ia4, ia8, ia12, ia16, ia20, ia24, ia52, ia60, ia68, im7, im14, ap6, iaN, ap1, ixN, vpN, vpN]
    rw [ixN (by omega), ht, w0_within]
    unfold tkB at a b
    by_cases e : inS (t k) 0 10 = true
    · rw [e, Bool.true_and] at a b
      rw [if_pos e, if_neg n10]
      simp only [forall_eq, ap1]
      exact ih (k + 1) (by omega) a b
    · rw [show inS (t k) 0 10 = false by simpa using e, Bool.false_and] at a b
      rw [if_neg e, if_pos rfl]
      exact a rfl
theorem l0_can111 {o m k : Nat} {x2 x3 x4 : Int32} {x5 : Int64} {M : MM} {t : Nat → Int32} {X : MM → Int64 → Prop} (hL : CL o M) (ht : ∀ k, mgI M (o + 59) k = t k) (hm : m ≤ 6) (hk : k < 256) (h : X M (prW t k m)) : ∀ j i, i + j = m → wl_X0_can_111 o (nI m) x2 x3 x4 x5 (nI k) X (j + 1) M (prW t k i) (nI i) := by
  intro j
  induction j with
  | zero =>
    intro i hi
    unfold wl_X0_can_111
    rw [if_pos (nI_le (by omega) (by omega)), show i = m by omega]
    exact h
  | succ j ih =>
    intro i hi
    have := ih (i + 1) (by omega)
    unfold prW at this
    have v2 : vp_in (nI i) (mln M (o + 59)) := by
      rw [CL_l59 hL]; have : i < 220 := by omega
      simp (disch := first | assumption | omega) only [ia0, ia4, ia8, ia12, ia16, ia20, ia24, ia52, ia60, ia68, im7, im14, ap6, iaN, ap1, ixN, vpN, vpN]
    unfold wl_X0_can_111
    rw [if_neg (nI_ge (by omega) (by omega)), w0_has, hs_tb hk (by omega)]
    by_cases e : k.testBit i = true
    · rw [if_pos e] at this
      rw [if_pos e, if_neg n10]
      refine ⟨o + 59, CL_r4 hL, CL_k59 hL, v2, ?_⟩
      rw [ixN (by omega), ht]
      simp only [forall_eq, ap1]
      exact this
    · rw [if_neg e] at this
      rw [if_neg e, if_pos rfl]
      refine ⟨o + 59, CL_r4 hL, CL_k59 hL, v2, ?_⟩
      rw [ixN (by omega), ht]
      simp only [forall_eq, ap1]
      exact this
theorem l0_can97 {o m : Nat} {c d x4 : Int32} {M : MM} {t : Nat → Int32} {X : MM → Int64 → Prop} (hL : CL o M) (ht : ∀ k, mgI M (o + 59) k = t k) (hm : m ≤ 6) (h : X M (sm (2 ^ m) (fun k => prW t k m * caG c d (pcN k m)))) : ∀ j k, k + j = 2 ^ m → wl_X0_can_97 o (nI m) c d x4 X (j + 1) M (sm k (fun k => prW t k m * caG c d (pcN k m))) (nI k) := by
  have hp : 2 ^ m ≤ 2 ^ 6 := Nat.pow_le_pow_right (by omega) hm
  intro j
  induction j with
  | zero =>
    intro k hk
    unfold wl_X0_can_97
    rw [sh1 m hm, if_pos (nI_le (by omega) (by omega)), show k = 2 ^ m by omega]
    exact h
  | succ j ih =>
    intro k hk
    obtain ⟨b1, b2⟩ := bits_pc m hm k (by omega) (by omega)
    unfold wl_X0_can_97
    rw [sh1 m hm, if_neg (nI_ge (by omega) (by omega))]
    refine ⟨m + 1, l0_can111 (M := M) hL ht hm (by omega) ?_ m 0 (by omega)⟩
    refine bitC (by omega) ?_
    simp only [forall_eq]
    unfold wb_X0_can_191
    have key : ∀ y, y = (if pcN k m = 0 then 0 else ma_ 0 (c - d)) → wl_X0_can_97 o (nI m) c d x4 X (j + 1) M (sm k (fun k => prW t k m * caG c d (pcN k m)) + prW t k m * (ma_ 0 (c * nI (pcN k m) - d) - y).toInt64) (nI (k + 1)) := by
      intro y hy
      have := ih (k + 1) (by omega)
      rw [show sm (k + 1) (fun k => prW t k m * caG c d (pcN k m)) = sm k (fun k => prW t k m * caG c d (pcN k m)) + prW t k m * caG c d (pcN k m) from rfl] at this
      rw [hy]
      exact this
    have e0 : nI k = 0 ↔ k = 0 := (show nI k = nI 0 ↔ k = 0 from nI_eq (by omega) (by omega))
    rw [b1, mx_ma, mx_ma]
    simp only [forall_eq, ap1]
    by_cases e : nI k = 0
    · rw [if_pos e]
      exact key 0 (by rw [if_pos (b2.mpr (e0.mp e))])
    · rw [if_neg e]
      exact key _ (by rw [if_neg (fun x => e (e0.mpr (b2.mp x)))])
theorem C_can {o : Nat} {M : MM} {S : St} {m c d w : Int32} {Post : Int64 → MM → Prop} (hC : CR o M S) (hS : SOk S) (h0 : cnV S m c d w = false → Post (-1) M)
    (h2 : ∀ m', 1 ≤ m' → m' ≤ 6 → m = nI m' → cnV S m c d w = true → areS S.2.2.2.1 m' = false → ∀ M', kX o M M' → CR o M' (nt S) → SOk (nt S) → Post (-2) M')
    (h1 : ∀ m', 1 ≤ m' → m' ≤ 6 → m = nI m' → cnV S m c d w = true → areS S.2.2.2.1 m' = true → ∀ M', kX o M M' → CR o M' (nt S) → SOk (nt S) → Post (cnS S.2.2.2.1 m' c d w) M') : wp_X0_can M o m c d w Post := by
  have m5 := hC.2.2.2.2.2.2.2.1
  unfold wp_X0_can
  unfold cnV at h0 h1 h2
  rw [w0_within]
  by_cases e1 : inS m 1 6 = true
  · rw [if_pos e1, if_neg n10, w0_within]
    by_cases e2 : inS c 1 9 = true
    · rw [if_pos e2, if_neg n10, w0_within]
      by_cases e3 : inS d 0 60 = true
      · rw [if_pos e3, if_neg n10, in_2]
        by_cases e4 : inS w 0 1 = true
        · rw [if_pos e4, if_neg n10, m5]
          by_cases e5 : m ≤ nI S.2.2.2.2.1
          · rw [if_pos e5]
            obtain ⟨m', hm1, hm2, rfl⟩ := inS_ab (a := 1) (b := 6) (by omega) (by omega) e1
            have ev : (inS (nI m') 1 6 && inS c 1 9 && inS d 0 60 && inS w 0 1 && decide (nI m' ≤ nI S.2.2.2.2.1)) = true := by simp [e1, e2, e3, e4, e5]
            simp only [forall_eq]
            obtain ⟨hX, hC1, hS1, ht1⟩ := C_nt hC hS
            have hL1 := hC1.1
            refine ⟨m' + 1, l0_can59 hL1 ht1 (by omega) m' 0 (by omega) (fun e => ?_) (fun e => ?_)⟩
            · exact h2 m' hm1 hm2 rfl ev e _ hX hC1 hS1
            · have fin := h1 m' hm1 hm2 rfl ev e _ hX hC1 hS1
              refine ⟨2 ^ m' + 1, l0_can97 hL1 ht1 hm2 ?_ (2 ^ m') 0 (by omega)⟩
              rw [can_is (inS_iff.mp e3).1]
              refine w0_power (by omega) ?_
              rw [pw_10 (by omega)]
              refine w0_divisor ?_
              unfold cnS thS at fin
              have hg := gcS_ne (x := sm m' (fun i => cmV S.2.2.2.1 m' (i + 1) * caF c d (i + 1))) (ten_ne m' (by omega))
              by_cases e6 : w = 0
              · rw [if_pos e6] at fin ⊢
                exact ⟨hg, fin⟩
              · rw [if_neg e6] at fin ⊢
                exact ⟨hg, fin⟩
          · rw [if_neg e5]; exact h0 (by simp [e5])
        · rw [if_neg e4, if_pos rfl]; exact h0 (by simp [e4])
      · rw [if_neg e3, if_pos rfl]; exact h0 (by simp [e3])
    · rw [if_neg e2, if_pos rfl]; exact h0 (by simp [e2])
  · rw [if_neg e1, if_pos rfl]; exact h0 (by simp [e1])
