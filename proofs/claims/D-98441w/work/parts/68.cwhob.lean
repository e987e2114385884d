/-! the component: who did it, all of it -/
set_option maxRecDepth 100000
/-- days so far: the ways as a number, the first without one, whom all need -/
def wdI (t : Nat → Int32) (p : Nat) (c g : Int32) (d : Nat) (a : Wd) : Prop := (∃ W : Nat, W ≤ 256 ^ d ∧ a.1.toInt = (W : Int)) ∧ (a.2.1 = -2 ∨ ∃ k, k < 1000 ∧ a.2.1 = nI k) ∧ m8 a.2.2 ∧ ∀ q, q < 8 → (hs_ a.2.2 (nI q) = true ↔ ∃ k, k < d ∧ (hs_ (nI p) (nI q) && decide (scS t p c g k (nI q) = 0)) = true)
theorem wdI.n {t : Nat → Int32} {p d : Nat} {c g : Int32} {a : Wd} (hp : p < 256) (hd : d < 6) (h : wdI t p c g d a) : wdI t p c g (d + 1) (wdF t (nI p) c g d a) := by
  obtain ⟨⟨W, w1, w2⟩, h2, h3, h4⟩ := h
  obtain ⟨m, m1, m2, _⟩ := scS_n (t := t) (c := c) (g := g) (q := -1) (d := d) (p := p)
  have e1 : (wd1 t (nI p) c g d).1 = nI m := (wd1_1 hp).trans m2
  unfold wdF
  rw [e1]
  have hpw : 256 ^ d ≤ 256 ^ 5 := Nat.pow_le_pow_right (by omega) (by omega)
  have hm : W * m ≤ 256 ^ d * 256 := Nat.mul_le_mul w1 (by omega)
  refine ⟨⟨W * m, hm, ?_⟩, ?_, h3.or (wd1_b (q := 0) hp (by omega)).1, fun q hq => ?_⟩
  · show (a.1 * (nI m).toInt64).toInt = ((W * m : Nat) : Int)
    have p1 : W * m ≤ 256 ^ 5 * 256 := by omega
    rw [Int64.toInt_mul, Int32.toInt_toInt64, nI_toInt (by omega), w2, ← Int.natCast_mul]
    exact Int.bmod_eq_of_le (by omega) (by omega)
  · show (if nI m = 0 ∧ a.2.1 = -2 then nI d else a.2.1) = -2 ∨ ∃ k, k < 1000 ∧ (if nI m = 0 ∧ a.2.1 = -2 then nI d else a.2.1) = nI k
    split
    · exact Or.inr ⟨d, by omega, rfl⟩
    · exact h2
  · show hs_ (a.2.2 ||| (wd1 t (nI p) c g d).2) (nI q) = true ↔ _
    rw [hs_or, Bool.or_eq_true, h4 q hq, (wd1_b hp hq).2]
    constructor
    · rintro (⟨k, k1, k2⟩ | k2)
      · exact ⟨k, by omega, k2⟩
      · exact ⟨d, by omega, k2⟩
    · rintro ⟨k, k1, k2⟩
      by_cases e : k = d
      · rw [e] at k2; exact Or.inr k2
      · exact Or.inl ⟨k, by omega, k2⟩
theorem wdI_lp {t : Nat → Int32} {p : Nat} {c g : Int32} (hp : p < 256) : ∀ j d a, d + j ≤ 6 → wdI t p c g d a → wdI t p c g (d + j) (lpF (wdF t (nI p) c g) j d a) := by
  intro j
  induction j with
  | zero => intro d a _ h; exact h
  | succ j ih =>
    intro d a hd h
    have := ih (d + 1) _ (by omega) (h.n hp (by omega))
    rw [show d + 1 + j = d + (j + 1) by omega] at this
    exact this
theorem l0_wd91 {o n p : Nat} {c g x5 : Int32} {M : MM} {t : Nat → Int32} {R : Wd} {X : MM → Int64 → Int32 → Prop} (hL : CL o M) (ht : ∀ k, mgI M (o + 59) k = t k) (hn : n ≤ 6) (hp : p < 256) (h : X M R.1 R.2.1) : ∀ j d a, d + j = n → wdI t p c g d a → lpF (wdF t (nI p) c g) j d a = R → wl_X0_whoDid_91 o (nI n) (nI p) c g x5 X (j + 1) M a.1 a.2.1 (nI d) := by
  intro j
  induction j with
  | zero =>
    intro d a hd _ hR
    unfold wl_X0_whoDid_91
    rw [if_pos (nI_le (by omega) (by omega))]
    have hR' : a = R := hR
    rw [hR']; exact h
  | succ j ih =>
    intro d a hd hI hR
    have hR' : lpF (wdF t (nI p) c g) j (d + 1) (wdF t (nI p) c g d a) = R := hR
    have hI' := hI.n hp (by omega)
    unfold wl_X0_whoDid_91
    rw [if_neg (nI_ge (by omega) (by omega))]
    refine w0_setsFor hL ht (by omega) hp ?_
    rw [← wd1_1 hp]
    have key := ih (d + 1) _ (by omega) hI' hR'
    unfold wdF at key
    simp only [forall_eq, ap1]
    by_cases e : (wd1 t (nI p) c g d).1 = 0
    · rw [if_pos e]
      rcases hI.2.1 with e2 | ⟨k, k1, e2⟩
      · rw [if_pos ⟨e, e2⟩] at key
        rw [e2, if_neg (show ¬ (0 : Int32) ≤ -2 by decide)]
        exact key
      · have n2 : ¬ a.2.1 = -2 := by
          intro x
          rw [x] at e2
          have := congrArg Int32.toInt e2
          rw [nI_toInt (by omega)] at this
          have e3 : (-2 : Int32).toInt = -2 := rfl
          omega
        rw [if_neg (fun x => n2 x.2)] at key
        rw [if_pos (show (0 : Int32) ≤ a.2.1 by rw [e2]; exact (show nI 0 ≤ nI k from nI_le (by omega) (by omega)))]
        exact key
    · rw [if_neg e]
      rw [if_neg (fun x => e x.1)] at key
      exact key
/-- on a day all need him -/
def anyB (t : Nat → Int32) (p : Nat) (c g : Int32) (q : Nat) : Nat → Nat → Bool
  | 0, _ => false
  | j + 1, d => (hs_ (nI p) (nI q) && decide (scS t p c g d (nI q) = 0)) || anyB t p c g q j (d + 1)
theorem anyB_iff {t : Nat → Int32} {p q : Nat} {c g : Int32} : ∀ j d, anyB t p c g q j d = true ↔ ∃ k, d ≤ k ∧ k < d + j ∧ (hs_ (nI p) (nI q) && decide (scS t p c g k (nI q) = 0)) = true := by
  intro j
  induction j with
  | zero => intro d; exact ⟨fun h => (by cases h), fun ⟨k, a, b, _⟩ => (by omega)⟩
  | succ j ih =>
    intro d
    unfold anyB
    rw [Bool.or_eq_true, ih]
    constructor
    · rintro (h | ⟨k, k1, k2, k3⟩)
      · exact ⟨d, by omega, by omega, h⟩
      · exact ⟨k, by omega, by omega, k3⟩
    · rintro ⟨k, k1, k2, k3⟩
      by_cases e : k = d
      · rw [e] at k3; exact Or.inl k3
      · exact Or.inr ⟨k, by omega, by omega, k3⟩
theorem l0_wd184 {o n p q : Nat} {c g x9 : Int32} {x6 : Int64} {M : MM} {t : Nat → Int32} {X : MM → Int32 → Prop} (hL : CL o M) (ht : ∀ k, mgI M (o + 59) k = t k) (hn : n ≤ 6) (hp : p < 256) (hq : q < 8) : ∀ j d (v : Bool), d + j = n → X M (if (v || anyB t p c g q j d) = true then 1 else 0) → wl_X0_whoDid_184 o (nI n) (nI p) c g x6 x9 (nI q) X (j + 1) M (if v = true then 1 else 0) (nI d) := by
  intro j
  induction j with
  | zero =>
    intro d v hd h
    unfold wl_X0_whoDid_184
    rw [if_pos (nI_le (by omega) (by omega))]
    unfold anyB at h
    rw [Bool.or_false] at h
    exact h
  | succ j ih =>
    intro d v hd h
    unfold wl_X0_whoDid_184 wb_X0_whoDid_219
    rw [if_neg (nI_ge (by omega) (by omega))]
    unfold anyB at h
    cases v with
    | true =>
      rw [if_neg (show ¬ (if true = true then (1 : Int32) else 0) = 0 by decide)]
      simp only [forall_eq, ap1]
      have := ih (d + 1) true (by omega) (by rw [Bool.true_or] at h ⊢; exact h)
      exact this
    | false =>
      rw [if_pos (show (if false = true then (1 : Int32) else 0) = 0 by decide), w0_has]
      rw [Bool.false_or] at h
      by_cases e : hs_ (nI p) (nI q) = true
      · rw [if_pos e, if_neg n10]
        rw [e, Bool.true_and] at h
        refine w0_setsFor hL ht (by omega) hp ?_
        by_cases e2 : scS t p c g d (nI q) = 0
        · rw [if_pos e2]
          simp only [forall_eq, ap1]
          have := ih (d + 1) true (by omega) (by rw [Bool.true_or]; rw [decide_eq_true e2, Bool.true_or] at h; exact h)
          exact this
        · rw [if_neg e2]
          simp only [forall_eq, ap1]
          have := ih (d + 1) false (by omega) (by rw [Bool.false_or]; rw [decide_eq_false e2, Bool.false_or] at h; exact h)
          exact this
      · rw [if_neg e, if_pos rfl]
        simp only [forall_eq, ap1]
        have := ih (d + 1) false (by omega) (by rw [Bool.false_or]; rw [show hs_ (nI p) (nI q) = false by simpa using e, Bool.false_and, Bool.false_or] at h; exact h)
        exact this
theorem l0_wd164 {o n p : Nat} {c g : Int32} {x6 : Int64} {M : MM} {t : Nat → Int32} {X : MM → Int32 → Prop} (hL : CL o M) (ht : ∀ k, mgI M (o + 59) k = t k) (hn : n ≤ 6) (hp : p < 256) (h : X M (if x6 ≤ 0 then 0 else stB (fun q => anyB t p c g q n 0) 8)) : ∃ F, wl_X0_whoDid_164 o (nI n) (nI p) c g x6 X F M 0 (nI 0) := by
  by_cases e : x6 ≤ 0
  · rw [if_pos e] at h
    refine ⟨1, ?_⟩
    unfold wl_X0_whoDid_164
    rw [if_neg (show ¬ (8 : Int32) ≤ nI 0 by decide), if_pos e]
    exact h
  · rw [if_neg e] at h
    refine cl_ (fun F (v : Int32) q => wl_X0_whoDid_164 o (nI n) (nI p) c g x6 X F M v (nI q)) (fun q v => v = stB (fun q => anyB t p c g q n 0) q) 8 ?_ ?_ 0 0 (by omega) rfl
    · intro F q v hq hv hs'
      show wl_X0_whoDid_164 o (nI n) (nI p) c g x6 X (F + 1) M v (nI q)
      unfold wl_X0_whoDid_164
      rw [if_neg (show ¬ (8 : Int32) ≤ nI q from (show ¬ nI 8 ≤ nI q from nI_ge (by omega) (by omega))), if_neg e]
      have hu : stB (fun q => anyB t p c g q n 0) (q + 1) = stB (fun q => anyB t p c g q n 0) q ||| (if anyB t p c g q n 0 = true then ((1 : Int32) <<< (nI q &&& 31)) else 0) := rfl
      refine ⟨n + 1, l0_wd184 hL ht hn hp hq n 0 false (by omega) ?_⟩
      rw [Bool.false_or]
      by_cases e2 : anyB t p c g q n 0 = true
      · rw [if_pos e2, if_neg n10]
        simp only [forall_eq, ap1]
        refine hs' _ ?_
        rw [hu, if_pos e2, hv]
      · rw [if_neg e2, if_pos rfl]
        simp only [forall_eq, ap1]
        refine hs' _ ?_
        rw [hu, if_neg e2, hv]
    · intro F v hv
      show wl_X0_whoDid_164 o (nI n) (nI p) c g x6 X (F + 1) M v (nI 8)
      unfold wl_X0_whoDid_164
      rw [if_pos (show (8 : Int32) ≤ nI 8 from by decide), hv]
      exact h
theorem bits_1 : ∀ p, p < 256 → inS (bitsS (nI p)) 1 5 = (inS (nI p) 1 255 && decide (¬ 5 < bitsS (nI p))) := by decide +kernel
theorem C_whoDid {o : Nat} {M : MM} {S : St} {n P c g w : Int32} {Post : Int64 → MM → Prop} (hC : CR o M S) (hS : SOk S) (h0 : wdV S n P c g w = false → Post (-1) M)
    (h1 : ∀ n' p, 1 ≤ n' → n' ≤ 6 → n = nI n' → 1 ≤ p → p ≤ 255 → P = nI p → wdV S n P c g w = true → ∀ M', kX o M M' → CR o M' (nt S) → SOk (nt S) → Post (wdS S.2.2.2.1 n' P c g w) M') : wp_X0_whoDid M o n P c g w Post := by
  have hL := hC.1
  have m4 := hC.2.2.2.2.2.2.1
  have m5 := hC.2.2.2.2.2.2.2.1
  have hb : S.2.2.2.2.1 ≤ 220 := hS.2.2.2.2.1
  unfold wp_X0_whoDid
  unfold wdV at h0 h1
  rw [w0_within]
  by_cases e1 : inS n 1 6 = true
  · rw [if_pos e1, if_neg n10, in_256]
    by_cases e2 : inS P 0 255 = true
    · rw [if_pos e2, if_neg n10]
      obtain ⟨p, hp1, rfl⟩ := inS_n (n := 255) (by omega) e2
      have hp : p < 256 := by omega
      refine bitC hp ?_
      rw [w0_within, bits_1 p hp]
      by_cases e3 : (inS (nI p) 1 255 && decide (¬ 5 < bitsS (nI p))) = true
      · rw [if_pos e3, if_neg n10, w0_within]
        rw [Bool.and_eq_true, decide_eq_true_eq] at e3
        obtain ⟨e3, e3'⟩ := e3
        by_cases e4 : inS c 1 9 = true
        · rw [if_pos e4, if_neg n10, w0_within]
          by_cases e5 : inS g 0 9 = true
          · rw [if_pos e5, if_neg n10, in_3]
            by_cases e6 : inS w 0 2 = true
            · rw [if_pos e6, if_neg n10, m5]
              by_cases e7 : n + 1 ≤ nI S.2.2.2.2.1
              · rw [if_pos e7]
                obtain ⟨n', hn1, hn2, rfl⟩ := inS_ab (a := 1) (b := 6) (by omega) (by omega) e1
                obtain ⟨p', hp1', hp2', ep⟩ := inS_ab (a := 1) (b := 255) (by omega) (by omega) e3
                have epp : p = p' := (nI_eq (by omega) (by omega)).mp ep
                subst epp
                simp only [forall_eq]
                have hF : fI (tpC o) M (msI M o 7 0) := fI.rf.s (Or.inr ⟨rfl, rfl⟩)
                have m4' : ∀ k, mgI (msI M o 7 0) (o + 59) k = S.2.2.2.1 k := fun k => by rw [mgI_sI, if_neg (by omega)]; exact m4 k
                have hC2 : CR o (msI M o 7 0) (nt S) := hC.tp (n := 0) hF m4' fd_e
                have hS2 : SOk (nt S) := ⟨hS.1, hS.2.1, hS.2.2.1, hS.2.2.2.1, by show 0 ≤ 220; omega, hS.2.2.2.2.2⟩
                have fin := h1 n' p hn1 hn2 rfl hp1' hp2' rfl (by simp [e1, e3, e3', e4, e5, e6, e7]) _ hF.kx hC2 hS2
                have hI0 : wdI S.2.2.2.1 p c g 0 (1, -2, 0) := ⟨⟨1, by omega, rfl⟩, Or.inl rfl, m8_nI (k := 0) (by omega), fun q hq => ⟨fun x => (by rw [show hs_ ((1 : Int64), (-2 : Int32), (0 : Int32)).2.2 (nI q) = false from hs_0 hq] at x; cases x), fun ⟨k, k1, _⟩ => (by omega)⟩⟩
                have hI1 := wdI_lp hp n' 0 _ (by omega) hI0
                refine ⟨n' + 1, l0_wd91 (R := lpF (wdF S.2.2.2.1 (nI p) c g) n' 0 (1, -2, 0)) hC2.1 m4' hn2 hp ?_ n' 0 (1, -2, 0) (by omega) hI0 rfl⟩
                unfold wdS at fin
                generalize lpF (wdF S.2.2.2.1 (nI p) c g) n' 0 (1, -2, 0) = R at fin hI1 ⊢
                obtain ⟨W0, wv, hwv⟩ := inS_n (n := 2) (by omega) e6
                by_cases f0 : w = 0
                · rw [if_pos f0] at fin
                  rw [if_neg (by rw [f0]; decide), if_pos f0]; exact fin
                rw [if_neg f0] at fin
                by_cases f1 : w = 1
                · rw [if_pos f1] at fin
                  rw [if_neg (by rw [f1]; decide), if_neg f0]; exact fin
                rw [if_neg f1] at fin
                have f2 : w = 2 := by
                  rw [hwv] at f0 f1 ⊢
                  have : W0 = 0 ∨ W0 = 1 ∨ W0 = 2 := by omega
                  rcases this with rfl | rfl | rfl
                  · exact absurd rfl f0
                  · exact absurd rfl f1
                  · rfl
                rw [if_pos (by rw [f2]; decide)]
                refine l0_wd164 hC2.1 m4' hn2 hp ?_
                obtain ⟨⟨W, w1, w2⟩, _, g3, g4⟩ := hI1
                have ez : R.1 ≤ 0 ↔ R.1 = 0 := by
                  constructor
                  · intro x
                    rw [Int64.le_iff_toInt_le, w2] at x
                    refine Int64.toInt_inj.mp ?_
                    rw [w2]
                    have : (0 : Int64).toInt = 0 := rfl
                    omega
                  · intro x; rw [x]; decide
                by_cases f3 : R.1 = 0
                · rw [if_pos f3] at fin
                  rw [if_pos (ez.mpr f3)]; exact fin
                · rw [if_neg f3] at fin
                  rw [if_neg (fun x => f3 (ez.mp x)), g3.st (fun q hq => ?_)]
                  · exact fin
                  · refine Bool.eq_iff_iff.mpr ?_
                    rw [g4 q hq, anyB_iff]
                    exact ⟨fun ⟨k, _, a, b⟩ => ⟨k, a, b⟩, fun ⟨k, a, b⟩ => ⟨k, by omega, a, b⟩⟩
              · rw [if_neg e7]; exact h0 (by simp [e7])
            · rw [if_neg e6, if_pos rfl]; exact h0 (by simp [e6])
          · rw [if_neg e5, if_pos rfl]; exact h0 (by simp [e5])
        · rw [if_neg e4, if_pos rfl]; exact h0 (by simp [e4])
      · rw [if_neg e3, if_pos rfl]
        refine h0 ?_
        have e3' : (inS (nI p) 1 255 && decide (¬ 5 < bitsS (nI p))) = false := by simpa using e3
        rw [Bool.and_assoc (inS n 1 6), e3']; simp
    · rw [if_neg e2, if_pos rfl]
      refine h0 ?_
      have : inS P 1 255 = false := by
        cases h : inS P 1 255 with
        | false => rfl
        | true =>
          obtain ⟨p, p1, p2, rfl⟩ := inS_ab (a := 1) (b := 255) (by omega) (by omega) h
          exact absurd (inS_iff.mpr ⟨(show nI 0 ≤ nI p from nI_le (by omega) (by omega)), (show nI p ≤ nI 255 from nI_le p2 (by omega))⟩) e2
      rw [this]; simp
  · rw [if_neg e1, if_pos rfl]; exact h0 (by simp [e1])
