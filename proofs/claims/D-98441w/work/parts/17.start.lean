set_option maxRecDepth 100000

/-- the flat memory at the start: nothing made yet -/
def mm0 (z : Nat) : MM := (fun _ _ => 0, fun _ _ => 0, fun _ _ => none, fun _ => (0, 0), z)
/-- WHAT IS LEFT, with no machine in sight: the law's predicate transformer, on every script -/
def LawPure : Prop := ∀ (L : Nat) (xs : Nat → Int32) (D : DD) (b z : Nat), L ≤ 384 → b < z → wp_L_law L xs D 1200000 5502250 (mm0 z) b (fun v _ => v = 1)
theorem mKn_all {s : State} {b : Addr} (ht0 : ∀ w ∈ lw_tbl, w.before #[Value.ref b] s = true) : ∀ (c : Nat) (qc : vw_C), vwCl[c]? = some qc → ∃ (cC : ClassId) (iS : Nat → Nat), u_Kn s qc.1 qc.2.1 qc.2.2 cC iS := by
  intro c qc h
  match c, h with
  | 0, h => cases h; exact u_known (C := RX0) (T := TX0) (N := 33) (n := 33) ht0 (fun w h => lw_all_tbl (in_X0 w h)) (ht0 _ (lw_all_tbl q131))
  | 1, h => cases h; exact u_known (C := RX2) (T := TX2) (N := 14) (n := 14) ht0 (fun w h => lw_all_tbl (in_X2 w h)) (ht0 _ (lw_all_tbl q139))
  | 2, h => cases h; exact u_known (C := RX3) (T := TX3) (N := 8) (n := 8) ht0 (fun w h => lw_all_tbl (in_X3 w h)) (ht0 _ (lw_all_tbl q193))
  | 3, h => cases h; exact u_known (C := RX4) (T := TX4) (N := 10) (n := 10) ht0 (fun w h => lw_all_tbl (in_X4 w h)) (ht0 _ (lw_all_tbl q202))
  | 4, h => cases h; exact u_known (C := RX5) (T := TX5) (N := 4) (n := 4) ht0 (fun w h => lw_all_tbl (in_X5 w h)) (ht0 _ (lw_all_tbl q256))
  | 5, h => cases h; exact u_known (C := RX6) (T := TX6) (N := 4) (n := 4) ht0 (fun w h => lw_all_tbl (in_X6 w h)) (ht0 _ (lw_all_tbl q316))
  | 6, h => cases h; exact u_known (C := RX7) (T := TX7) (N := 54) (n := 54) ht0 (fun w h => lw_all_tbl (in_X7 w h)) (ht0 _ (lw_all_tbl q1219))
  | 7, h => cases h; exact u_known (C := RX8) (T := TX8) (N := 8) (n := 8) ht0 (fun w h => lw_all_tbl (in_X8 w h)) (ht0 _ (lw_all_tbl q505))
  | 8, h => cases h; exact u_known (C := RX10) (T := TX10) (N := 3) (n := 3) ht0 (fun w h => lw_all_tbl (in_X10 w h)) (ht0 _ (lw_all_tbl q648))
  | 9, h => cases h; exact u_known (C := RX11) (T := TX11) (N := 1) (n := 1) ht0 (fun w h => lw_all_tbl (in_X11 w h)) (ht0 _ (lw_all_tbl q670))
  | 10, h => cases h; exact u_known (C := RX12) (T := TX12) (N := 1) (n := 1) ht0 (fun w h => lw_all_tbl (in_X12 w h)) (ht0 _ (lw_all_tbl q688))
  | 11, h => cases h; exact u_known (C := RX14) (T := TX14) (N := 3) (n := 3) ht0 (fun w h => lw_all_tbl (in_X14 w h)) (ht0 _ (lw_all_tbl q717))
  | 12, h => cases h; exact u_known (C := RX15) (T := TX15) (N := 1) (n := 1) ht0 (fun w h => lw_all_tbl (in_X15 w h)) (ht0 _ (lw_all_tbl q727))
  | 13, h => cases h; exact u_known (C := RX16) (T := TX16) (N := 3) (n := 3) ht0 (fun w h => lw_all_tbl (in_X16 w h)) (ht0 _ (lw_all_tbl q740))
  | 14, h => cases h; exact u_known (C := RX17) (T := TX17) (N := 7) (n := 7) ht0 (fun w h => lw_all_tbl (in_X17 w h)) (ht0 _ (lw_all_tbl q1075))
  | c + 15, h => simp [vwCl] at h
theorem mKA_one {s : State} {b : Addr} (ht0 : ∀ w ∈ lw_tbl, w.before #[Value.ref b] s = true) : ∀ t : Nat, t < 11 → ∃ cA : ClassId, ArrOfT s cA (mty t) ∧ va_RA s cA (mty t) := by
  have hC : ∀ ty : FieldType, (∀ C, ty ≠ .object C) → (Cond.arrayClass ty).before #[Value.ref b] s = true → ∃ cA : ClassId, ArrOfT s cA ty ∧ s.vm.findClass ("[" ++ ty.toString) = some cA := by
    intro ty _ h
    obtain ⟨c, k, comp, h1, h2, h3⟩ := Cond.arrayClass_spec h
    exact ⟨c, fun n z => ⟨fun _ h => (by cases h), k, h2, comp, h3⟩, h1⟩
  have hO : ∀ C : String, (Cond.arrayOver (.object C)).before #[Value.ref b] s = true → ∃ cA : ClassId, ArrOfT s cA (.object C) ∧ va_RA s cA (.object C) := by
    intro C h
    obtain ⟨comp, c, k, h1, h2, h3, h4, h5⟩ := Cond.arrayOver_spec h
    exact ⟨c, fun n z => ⟨fun _ h => (by cases h), k, h3, comp, h4⟩, k, comp, h3, h4, h1, h5⟩
  have hA : ∀ ty : FieldType, (Cond.arrayOver (.array ty)).before #[Value.ref b] s = true → ∃ cA : ClassId, ArrOfT s cA (.array ty) ∧ s.vm.findClass ("[" ++ (FieldType.array ty).toString) = some cA := by
    intro ty h
    obtain ⟨comp, c, k, h1, h2, h3, h4, h5⟩ := arrayOverA_spec h
    exact ⟨c, fun n z => ⟨fun _ h => (by cases h), k, h3, comp, h4⟩, h5⟩
  intro t ht
  match t, ht with
  | 0, _ => exact hC _ (fun _ h => by cases h) (ht0 _ (lw_all_tbl q255))
  | 1, _ => exact hC _ (fun _ h => by cases h) (ht0 _ (lw_all_tbl q454))
  | 2, _ => exact hC _ (fun _ h => by cases h) (ht0 _ (lw_all_tbl q343))
  | 3, _ => exact hO _ (ht0 _ q199)
  | 4, _ => exact hO _ (ht0 _ q201)
  | 5, _ => exact hO _ (ht0 _ q315)
  | 6, _ => exact hO _ (ht0 _ q322)
  | 7, _ => exact hO _ (ht0 _ q324)
  | 8, _ => exact hO _ (ht0 _ q346)
  | 9, _ => exact hA _ (ht0 _ q345)
  | 10, _ => exact hA _ (ht0 _ q348)
  | t + 11, h => omega
theorem mnF_tbl : ∀ w ∈ mnF, w ∈ lw_tbl := by
  unfold mnF
  simp only [List.forall_mem_cons]
  exact ⟨q283, q229, q285, q272, q233, q227, q211, q214, q216, q219, q222, q224, q208, q263, q266, q269, q516, q291, q293, q295, q287, q1085, q1081, q333, q289, q355, q160, q265, q230, q271, q232, q226, q349, q210, q213, q218, q221, q262, q268, q359, q357, q762, q332, q326, q328, q330, q354, q704, q161, q162, fun _ h => absurd h List.not_mem_nil⟩
theorem mnM_tbl : ∀ w ∈ mnM, w ∈ lw_tbl := by
  unfold mnM
  simp only [List.forall_mem_cons]
  exact ⟨q140, q1030, q317, q1140, q744, q203, q257, q692, q882, q143, q731, q678, q512, q700, q758, fun _ h => absurd h List.not_mem_nil⟩
theorem mnC_tbl : ∀ w ∈ mnC, w ∈ lw_tbl := by
  unfold mnC
  simp only [List.forall_mem_cons]
  exact ⟨q1796, q1797, q1798, q1799, q1800, q1801, fun _ h => absurd h List.not_mem_nil⟩
theorem mnD_tbl : ∀ w ∈ mnD, w ∈ lw_tbl := by
  unfold mnD
  simp only [List.forall_mem_cons]
  exact ⟨q851, q839, q845, fun _ h => absurd h List.not_mem_nil⟩
theorem mKN_start {s : State} {b : Addr} (ht0 : ∀ w ∈ lw_tbl, w.before #[Value.ref b] s = true) : mKN s := by
  refine ⟨fun w hw => ?_, fun w hw => ?_, fun w hw => ?_, fun w hw => ?_, ?_, ?_⟩
  · have h := ht0 _ (mnF_tbl w hw)
    obtain ⟨a, i, b', n, d, g, rfl⟩ := mnF_all w hw
    exact va_Nw.of rfl h
  · have h := ht0 _ (mnM_tbl w hw)
    obtain ⟨a, i, x', g, rfl⟩ := mnM_all w hw
    exact va_Nw.of rfl h
  · have h := ht0 _ (mnC_tbl w hw)
    obtain ⟨a, b', rfl⟩ := mnC_all w hw
    exact va_Nw.of rfl h
  · have h := ht0 _ (mnD_tbl w hw)
    obtain ⟨a, rfl⟩ := mnD_all w hw
    exact va_Nw.of rfl h
  · unfold mnO
    simp only [List.forall_mem_cons]
    exact ⟨va_AO.of (ht0 _ q199), va_AO.of (ht0 _ q201), va_AO.of (ht0 _ q315), va_AO.of (ht0 _ q322), va_AO.of (ht0 _ q324), va_AO.of (ht0 _ q346), fun _ h => absurd h List.not_mem_nil⟩
  · unfold mnA
    simp only [List.forall_mem_cons]
    exact ⟨(show (Cond.arrayOver (.array _)).before #[] s = true from ht0 _ q345), (show (Cond.arrayOver (.array _)).before #[] s = true from ht0 _ q348), fun _ h => absurd h List.not_mem_nil⟩
theorem mKS_start {s : State} {b : Addr} (ht0 : ∀ w ∈ lw_tbl, w.before #[Value.ref b] s = true) (hg : (Jvm.Cond.and given_1 narrow_1).before #[Value.ref b] s = true) (dc : va_G) (ca : Nat → ClassId) : ∃ adK adV : Nat → Nat, mKS (dc, s.heap.size, adK, adV, ca) s := by
  have hs := flat_of_before _ hg
  have hA : ∀ a : Nat, a < s.heap.size → ¬ s.heap.size ≤ a := fun a h => Nat.not_le_of_lt h
  have hz : va_Z "java/lang/String" "COMPACT_STRINGS" "Z" (.int 1) (fun q => s.heap.size ≤ q) s s.heap := va_Zof (ht0 _ q568) (ht0 _ (lw_all_tbl q115)) (va_eqi (hs _ (by decide +kernel))) hA
  obtain ⟨adK, adV, h1, h2⟩ := vk_Sof (args := #[Value.ref b]) (s := s) (N := 3) (tm := fun i => Term.string (msown i) (msidx i)) (len := mslen) (byt := msbyt) (A := fun q => s.heap.size ≤ q)
    (by decide)
    (by intro i hi; match i, hi with
        | 0, _ => exact hs _ (by decide +kernel)
        | 1, _ => exact hs _ (by decide +kernel)
        | 2, _ => exact hs _ (by decide +kernel)
        | i + 3, hi => omega)
    (by intro i hi; match i, hi with
        | 0, _ => exact hs _ (by decide +kernel)
        | 1, _ => exact hs _ (by decide +kernel)
        | 2, _ => exact hs _ (by decide +kernel)
        | i + 3, hi => omega)
    (by intro i hi; match i, hi with
        | 0, _ => exact hs _ (by decide +kernel)
        | 1, _ => exact hs _ (by decide +kernel)
        | 2, _ => exact hs _ (by decide +kernel)
        | i + 3, hi => omega)
    (by intro i hi; match i, hi with
        | 0, _ => exact hs _ (by decide +kernel)
        | 1, _ => exact hs _ (by decide +kernel)
        | 2, _ => exact hs _ (by decide +kernel)
        | i + 3, hi => omega)
    (by intro i hi j hj
        match i, hi with
        | 0, _ =>
          match j, hj with
          | 0, _ => exact hs _ (by decide +kernel)
          | 1, _ => exact hs _ (by decide +kernel)
          | 2, _ => exact hs _ (by decide +kernel)
          | 3, _ => exact hs _ (by decide +kernel)
          | j + 4, hj => exact absurd hj (by show ¬ j + 4 < 4; omega)
        | 1, _ =>
          match j, hj with
          | 0, _ => exact hs _ (by decide +kernel)
          | j + 1, hj => exact absurd hj (by show ¬ j + 1 < 1; omega)
        | 2, _ =>
          match j, hj with
          | 0, _ => exact hs _ (by decide +kernel)
          | 1, _ => exact hs _ (by decide +kernel)
          | 2, _ => exact hs _ (by decide +kernel)
          | 3, _ => exact hs _ (by decide +kernel)
          | 4, _ => exact hs _ (by decide +kernel)
          | 5, _ => exact hs _ (by decide +kernel)
          | 6, _ => exact hs _ (by decide +kernel)
          | 7, _ => exact hs _ (by decide +kernel)
          | 8, _ => exact hs _ (by decide +kernel)
          | 9, _ => exact hs _ (by decide +kernel)
          | 10, _ => exact hs _ (by decide +kernel)
          | 11, _ => exact hs _ (by decide +kernel)
          | 12, _ => exact hs _ (by decide +kernel)
          | j + 13, hj => exact absurd hj (by show ¬ j + 13 < 13; omega)
        | i + 3, hi => omega)
    (by intro i j hi hj hij
        match i, hi, j, hj with
        | 0, _, 0, _ => exact absurd rfl hij
        | 1, _, 1, _ => exact absurd rfl hij
        | 2, _, 2, _ => exact absurd rfl hij
        | 0, _, 1, _ => exact Or.inl (hs _ (by decide +kernel))
        | 1, _, 0, _ => exact Or.inr (hs _ (by decide +kernel))
        | 0, _, 2, _ => exact Or.inl (hs _ (by decide +kernel))
        | 2, _, 0, _ => exact Or.inr (hs _ (by decide +kernel))
        | 2, _, 1, _ => exact Or.inl (hs _ (by decide +kernel))
        | 1, _, 2, _ => exact Or.inr (hs _ (by decide +kernel))
        | i + 3, hi, _, _ => omega
        | _, _, j + 3, hj => omega)
    hA
  refine ⟨adK, adV, hz, h1, fun i hi => ?_⟩
  have h3 := h2 i hi
  match i, hi with
  | 0, hi => exact vk_R.of (ht0 _ q506) h3
  | 1, hi => exact vk_R.of (ht0 _ q774) h3
  | 2, hi => exact vk_R.of (ht0 _ q686) h3
  | i + 3, hi => omega
/-- the claim's walk out of the pure law -/
theorem start_of (hpure : LawPure) {p : Program} {e : Env} {s : State} {m : MethodId} {below : List Frame} {meth : Method} {c : Code} (l : Launch) {b L : Nat} {xs : Nat → Int32} (hL : L ≤ 384) (C0 : lw_At p s m meth c b L xs) : W p l e room_1 s m #[Value.ref b] below meth c s.heap [] 0 0 (lw_Z below #[Value.ref b] s) (entryFrame m ([Value.ref b] : List Value).toArray 4) := by
  obtain ⟨hx, hb, hr, hml, hown, ht0, hX, hbl, hlk, hg⟩ := C0
  have h0 : ∀ c : Nat, ∃ z : ClassId × (Nat → Nat), ∀ qc, vwCl[c]? = some qc → u_Kn s qc.1 qc.2.1 qc.2.2 z.1 z.2 := by
    intro c
    cases hc : vwCl[c]? with
    | none => exact ⟨(0, fun _ => 0), fun _ h => by cases h⟩
    | some qc =>
      obtain ⟨cC, iS, h⟩ := mKn_all ht0 c qc hc
      exact ⟨(cC, iS), fun q' h' => by cases h'; exact h⟩
  obtain ⟨fC, hfC⟩ := Classical.axiomOfChoice h0
  have h1 : ∀ t : Nat, ∃ cA : ClassId, t < 11 → ArrOfT s cA (mty t) ∧ va_RA s cA (mty t) := by
    intro t
    by_cases ht : t < 11
    · obtain ⟨cA, h⟩ := mKA_one ht0 t ht
      exact ⟨cA, fun _ => h⟩
    · exact ⟨0, fun h => absurd h ht⟩
  obtain ⟨fA, hfA⟩ := Classical.axiomOfChoice h1
  obtain ⟨adK, adV, hKS⟩ := mKS_start ht0 hg (fun c => (fC c).1, fun c => (fC c).2) fA
  have hKK : mKK ((fun c => (fC c).1, fun c => (fC c).2), s.heap.size, adK, adV, fA) s := ⟨⟨fun c qc hc => hfC c qc hc, fun k q h => by simp at h⟩, fun t ht => hfA t ht, mKN_start ht0, hKS⟩
  have hw := S_L_law (E := ((p, l, e, room_1, s, m, #[Value.ref b], below, meth, c), ((fun c => (fC c).1, fun c => (fC c).2), s.heap.size, adK, adV, fA), 4, mm0 s.heap.size, lw_Z below #[Value.ref b] s)) (L := L) (xs := xs) (M := mm0 s.heap.size) (a0 := b) (Post := fun v _ => v = 1)
    ⟨hx, hb, hml, hr, hown, fun w h => ht0 w (lw_all_tbl h), hlk, hKK, Nat.le_refl _, rfl, fun h => absurd h (by decide), rfl⟩ ⟨rfl, rfl, fun _ _ h => h, hX, hbl, rfl⟩ (hpure L xs _ b s.heap.size hL hbl)
  have hle := lv_entry ([.ref b]) (n := 4) (Nat.le_of_ble_eq_true rfl)
  rw [lg_entry_eq]
  exact hw s.heap [] _ ⟨rfl, Nat.le_refl _, fun a h => absurd rfl h⟩ mMo.rf (fun _ _ => rfl) (fun q h => by cases h) hle

