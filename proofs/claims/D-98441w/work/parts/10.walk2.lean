set_option maxRecDepth 100000

def wp_J2_canEncode (M : MM) (x0 : Int32) (Post : Int32 → MM → Prop) : Prop :=
  if x0 < 0 then (Post (0 : Int32) M)
  else (if (255 : Int32) < x0 then (Post (0 : Int32) M)
  else (Post (1 : Int32) M))
theorem r_ldcS {E : mE} {y : MethodName} {cc : ByteArray} {nL : Nat} {ret : Option FieldType} {rm : Room} {M : MM} {k n pc : Nat} {lv : List (Nat × Value)} {st : List Value} (C : mC E y cc nL ret rm) (i : Nat) (hi : i < 3) (hown9 : y.cls = msown i) (hd : decode cc pc = .ok (.ldc (msidx i), 2)) {pc' : Nat} (hp : pc + 2 = pc') (K : mV E M k n pc' lv (va_rf (some (E.2.1.2.2.1 i)) :: st)) : mV E M k n pc lv st := by
  subst hp
  obtain ⟨⟨p, l, e, R, s, m, args, below, meth, c⟩, D, nL', M0, QQ⟩ := E
  obtain ⟨hx, hb, hml, hr, hown, hts, hlk, hKK, hB, hR, hnm, hnl⟩ := C
  intro H locs ls a1 a2 a3 a4 a5
  have hZ := hKK.2.2.2.2.2 i hi
  rw [← hown9] at hZ
  exact va_ldcS hx hb hown hZ hd (K H locs ls a1 a2 a3 a4 a5)
theorem r_strZ {E : mE} {y : MethodName} {cc : ByteArray} {nL : Nat} {ret : Option FieldType} {rm : Room} {M : MM} {k n pc : Nat} {lv : List (Nat × Value)} {st : List Value} {idx : Nat} (C : mC E y cc nL ret rm) (hlink : Cond.fieldLink y.cls idx "java/lang/String" "COMPACT_STRINGS" "Z" ∈ lw_all) (hd : decode cc pc = .ok (.getstatic idx, 3)) {pc' : Nat} (hp : pc + 3 = pc') (K : mV E M k n pc' lv (.int 1 :: st)) : mV E M k n pc lv st := by
  subst hp
  obtain ⟨⟨p, l, e, R, s, m, args, below, meth, c⟩, D, nL', M0, QQ⟩ := E
  obtain ⟨hx, hb, hml, hr, hown, hts, hlk, hKK, hB, hR, hnm, hnl⟩ := C
  intro H locs ls a1 a2 a3 a4 a5
  obtain ⟨cf, kf, fi, f, a, cell, h1, h2, h3, h4, h5, h6, h7, h8⟩ := hKK.2.2.2.1
  exact W.gets hx hb hown (hts _ hlink) h1 h2 h3 h4 (by rw [a3 a (Nat.lt_of_not_le h8)]; exact h5) (fun e => by rw [e] at h6; cases h6) h7 rfl hd (K H locs ls a1 a2 a3 a4 a5)
theorem r_strC {E : mE} {y : MethodName} {cc : ByteArray} {nL : Nat} {ret : Option FieldType} {rm : Room} {M : MM} {k n pc : Nat} {lv : List (Nat × Value)} {st : List Value} {idx : Nat} (C : mC E y cc nL ret rm) (i : Nat) (hi : i < 3) (hlink : Cond.fieldLink y.cls idx "java/lang/String" "coder" "B" ∈ lw_all) (hd : decode cc pc = .ok (.getfield idx, 3)) {pc' : Nat} (hp : pc + 3 = pc') (K : mV E M k n pc' lv (.int 0 :: st)) : mV E M k n pc lv (.ref (E.2.1.2.2.1 i) :: st) := by
  subst hp
  obtain ⟨⟨p, l, e, R, s, m, args, below, meth, c⟩, D, nL', M0, QQ⟩ := E
  obtain ⟨hx, hb, hml, hr, hown, hts, hlk, hKK, hB, hR, hnm, hnl⟩ := C
  intro H locs ls a1 a2 a3 a4 a5
  obtain ⟨cf, k0, fi, f, cell, h1, h2, h3, h4, h5, h6⟩ := (hKK.2.2.2.2.1.1 i hi).2.1
  exact W.getf hx hb hown (hts _ hlink) h1 h2 (by rw [a3 _ (Nat.lt_of_not_le h6)]; exact h3) h4 h5 rfl rfl hd (K H locs ls a1 a2 a3 a4 a5)
theorem r_strV {E : mE} {y : MethodName} {cc : ByteArray} {nL : Nat} {ret : Option FieldType} {rm : Room} {M : MM} {k n pc : Nat} {lv : List (Nat × Value)} {st : List Value} {idx : Nat} (C : mC E y cc nL ret rm) (i : Nat) (hi : i < 3) (hlink : Cond.fieldLink y.cls idx "java/lang/String" "value" "[B" ∈ lw_all) (hd : decode cc pc = .ok (.getfield idx, 3)) {pc' : Nat} (hp : pc + 3 = pc') (K : mV E M k n pc' lv (.ref (E.2.1.2.2.2.1 i) :: st)) : mV E M k n pc lv (.ref (E.2.1.2.2.1 i) :: st) := by
  subst hp
  obtain ⟨⟨p, l, e, R, s, m, args, below, meth, c⟩, D, nL', M0, QQ⟩ := E
  obtain ⟨hx, hb, hml, hr, hown, hts, hlk, hKK, hB, hR, hnm, hnl⟩ := C
  intro H locs ls a1 a2 a3 a4 a5
  obtain ⟨cf, k0, fi, f, cell, h1, h2, h3, h4, h5, h6⟩ := (hKK.2.2.2.2.1.1 i hi).2.2.1
  exact W.getf hx hb hown (hts _ hlink) h1 h2 (by rw [a3 _ (Nat.lt_of_not_le h6)]; exact h3) h4 h5 rfl rfl hd (K H locs ls a1 a2 a3 a4 a5)
theorem r_strL {E : mE} {y : MethodName} {cc : ByteArray} {nL : Nat} {ret : Option FieldType} {rm : Room} {M : MM} {k n pc : Nat} {lv : List (Nat × Value)} {st : List Value} (C : mC E y cc nL ret rm) (i : Nat) (hi : i < 3) (hd : decode cc pc = .ok (.arraylength, 1)) {pc' : Nat} (hp : pc + 1 = pc') (K : mV E M k n pc' lv (.int (nI (mslen.getD i 0)) :: st)) : mV E M k n pc lv (.ref (E.2.1.2.2.2.1 i) :: st) := by
  subst hp
  obtain ⟨⟨p, l, e, R, s, m, args, below, meth, c⟩, D, nL', M0, QQ⟩ := E
  obtain ⟨hx, hb, hml, hr, hown, hts, hlk, hKK, hB, hR, hnm, hnl⟩ := C
  intro H locs ls a1 a2 a3 a4 a5
  obtain ⟨cell, h1, h2, h3, h4, h5, h6, h7⟩ := (hKK.2.2.2.2.1.1 i hi).2.2.2
  exact W.alen hx hb (by rw [a3 _ (Nat.lt_of_not_le h7)]; exact h1) h2 h5 rfl rfl hd (K H locs ls a1 a2 a3 a4 a5)
theorem r_strB {E : mE} {y : MethodName} {cc : ByteArray} {nL : Nat} {ret : Option FieldType} {rm : Room} {M : MM} {k n pc : Nat} {lv : List (Nat × Value)} {st : List Value} (C : mC E y cc nL ret rm) (i : Nat) (hi : i < 3) {j : Int32} (hj : vp_in j (mslen.getD i 0)) (hd : decode cc pc = .ok (.baload, 1)) {pc' : Nat} (hp : pc + 1 = pc') (K : mV E M k n pc' lv (.int ((msbyt.getD i []).getD (ix_ j) 0) :: st)) : mV E M k n pc lv (.int j :: .ref (E.2.1.2.2.2.1 i) :: st) := by
  subst hp
  obtain ⟨⟨p, l, e, R, s, m, args, below, meth, c⟩, D, nL', M0, QQ⟩ := E
  obtain ⟨hx, hb, hml, hr, hown, hts, hlk, hKK, hB, hR, hnm, hnl⟩ := C
  intro H locs ls a1 a2 a3 a4 a5
  obtain ⟨cell, h1, h2, h3, h4, h5, h6, h7⟩ := (hKK.2.2.2.2.1.1 i hi).2.2.2
  have hlt : ix_ j < mslen.getD i 0 := Nat.not_le.mp fun q => hj (Or.inr q)
  exact W.bald hx hb (by rw [a3 _ (Nat.lt_of_not_le h7)]; exact h1) h2 h3 (fun q => q.elim (fun q => hj (Or.inl q)) (fun q => by have hq : cell.slots.size ≤ ix_ j := q; omega)) (h6 _ hlt) rfl rfl hd (K H locs ls a1 a2 a3 a4 a5)
theorem r_nret {E : mE} {y : MethodName} {cc : ByteArray} {nL : Nat} {rm : Room} {M : MM} {k n pc : Nat} {lv : List (Nat × Value)} {ty : FieldType} (C : mC E y cc nL (some ty) rm) {Post : Option Value → MM → Prop} (hE : mEnd E rm Post) {x : Int32} (hz : narrow ty (.int x) = .int x) (hk1 : k ≤ rm.cells) (hn1 : n ≤ rm.slots) (hd : decode cc pc = .ok (.ireturn, 1)) (hp : Post (some (.int x)) M) : mV E M k n pc lv [.int x] := by
  obtain ⟨⟨p, l, e, R, s, m, args, below, meth, c⟩, D, nL', M0, QQ⟩ := E
  obtain ⟨hx, hb, hml, hr, hown, hts, hlk, hKK, hB, hR, hnm, hnl⟩ := C
  intro H locs ls a1 a2 a3 a4 a5
  have hE : QQ = MQ below (mQ D M0 Post) args s rm.cells rm.slots (fun q => D.2.1 ≤ q) := hE
  subst hE
  refine W.widen (k := rm.cells) (n := rm.slots) hk1 hn1 ?_
  exact W.zret hx hb hr hz (fun t ht hW => ⟨_, M, rfl, hp, a2, by rw [ht]; exact a1, fun q hq => by rw [ht]; exact a3 q hq⟩) a4 hd
/-- a call through a String constant -/
theorem r_callStr {E : mE} {y : MethodName} {cc : ByteArray} {nL : Nat} {ret : Option FieldType} {rm : Room} {M : MM} {k n pc : Nat} {lv : List (Nat × Value)} {st : List Value} {y2 : MethodName} {cc2 : ByteArray} {nL2 n2 idx : Nat} {ret2 : Option FieldType} {rm2 : Room} {k' n' : Nat} {rest : List Value} {As : List Value} {P : Int32 → MM → Prop} (C : mC E y cc nL ret rm) (i : Nat) (hi : i < 3) (hM : mMet E.2.1 E.1.2.1 y2 cc2 nL2 ret2 rm2 M (.ref (E.2.1.2.2.1 i) :: As) (pI_ P)) (hcw : GoodIn lw_all (wsV y.cls idx "java/lang/String" y2 (ws_ y2 cc2 nL2 ret2))) (hy2 : y2.cls = "java/lang/String") (hdd : mHd y2 n2) (hn : As.length = n2) (hst : st = As.reverse ++ .ref (E.2.1.2.2.1 i) :: rest) (hcat : (rest.map fun v => v.category).sum ≤ 8) (hfr : rm2.frames + 1 ≤ rm.frames) (hlo : 8 + (nL2 + 11) + rm2.locals ≤ rm.locals) (hk' : k + rm2.cells = k') (hn' : n + rm2.slots = n') (hf1 : k' ≤ rm.cells) (hf2 : n' ≤ rm.slots) (hd : decode cc pc = .ok (.invokevirtual idx, 3)) {pc' : Nat} (hp : pc + 3 = pc') (K : ∀ (x : Int32) (M' : MM), P x M' → mMo M M' → mV E M' k' n' pc' lv (.int x :: rest)) : mV E M k n pc lv st := by
  subst hp
  obtain ⟨⟨p, l, e, R, s, m, args, below, meth, c⟩, D, nL', M0, QQ⟩ := E
  obtain ⟨hx, hb, hml, hr, hown, hts, hlk, hKK, hB, hR, hnm, hnl⟩ := C
  subst hR
  subst hk'
  subst hn'
  subst hst
  refine r_run (mc2 := rm2.cells) (ms2 := rm2.slots) (a := (.ref (D.2.2.1 i) :: As : List Value).toArray) (Post := pI_ P) (rest := rest) ?_ (fun r M' hp hm => by
    obtain ⟨x, rfl, hp⟩ := hp
    exact K x M' hp hm)
  intro H locs ls a1 a3 a5
  exact va_runV (C := "java/lang/String") (As := As) (rest := rest) ⟨hx, hb, hml, hown, hts⟩ hM (cwV n2 hts hcw rfl rfl rfl ⟨hy2, hdd⟩ ⟨hfr, hlo⟩) ⟨mPre_blind, by
    obtain ⟨cell, h1, h2, h3, h4⟩ := (hKK.2.2.2.2.1.1 i hi).1
    exact ⟨cell, by rw [a3 _ (Nat.lt_of_not_le h4)]; exact h1, h2, h3⟩, fun U hU hW => mPre_at a1 hKK hB a3 hU hW⟩ rfl hn (by rw [← hnl]; exact a5.1) rfl (lv_room hcat) hd ⟨hf1, hf2⟩
def mIxL (i : Nat) (b : Int32) : Nat → Nat → Int32
  | 0, _ => -1
  | r + 1, j => if (msbyt.getD i []).getD j 0 = b then nI j else mIxL i b r (j + 1)
theorem mslen_lt : ∀ i, i < 3 → 0 < mslen.getD i 0 ∧ mslen.getD i 0 < 100 := by decide

theorem hd_J2_canEncode : mHd yJ2_canEncode 1 := ⟨by decide, by decide, by decide +kernel⟩
set_option maxHeartbeats 4000000 in
theorem S_J2_canEncode {D : DD} {l : Launch} {M : MM} {x0 : Int32} {Post : Int32 → MM → Prop} (h : wp_J2_canEncode M x0 Post) : mMet D l yJ2_canEncode cJ2_canEncode 1 ((some .boolean)) { frames := 0, cells := 0, slots := 0, locals := 0 } M [.int x0] (pI_ Post) := by
  refine m_of2 [(0, .int x0)] (by decide +kernel) (Nat.le_of_ble_eq_true rfl) rfl (fun E hED hEl C hE => ?_)
  subst hED
  subst hEl
  unfold wp_J2_canEncode at h
  refine r_iload_n C dJ2_canEncode_0 (pc' := 1) rfl (j := 0) rfl ?_
  refine r_if_lt C dJ2_canEncode_1 (pc' := 4) rfl (tgt := 15) (by decide) (fun c_1 => ?_) (fun c_1 => ?_)
  · have h := it_t h c_1
    refine r_iconst C dJ2_canEncode_15 (pc' := 16) rfl (v := 0) rfl ?_
    exact r_zret C hE (Or.inl rfl) (Nat.le_of_ble_eq_true rfl) (Nat.le_of_ble_eq_true rfl) dJ2_canEncode_16 ⟨_, rfl, h⟩
  · have h := it_f h c_1
    refine r_iload_n C dJ2_canEncode_4 (pc' := 5) rfl (j := 0) rfl ?_
    refine r_sipush C dJ2_canEncode_5 (pc' := 8) rfl (v := 255) rfl ?_
    refine r_icmp_gt C dJ2_canEncode_8 (pc' := 11) rfl (tgt := 15) (by decide) (fun c_2 => ?_) (fun c_2 => ?_)
    · have h := it_t h c_2
      refine r_iconst C dJ2_canEncode_15 (pc' := 16) rfl (v := 0) rfl ?_
      exact r_zret C hE (Or.inl rfl) (Nat.le_of_ble_eq_true rfl) (Nat.le_of_ble_eq_true rfl) dJ2_canEncode_16 ⟨_, rfl, h⟩
    · have h := it_f h c_2
      refine r_iconst C dJ2_canEncode_11 (pc' := 12) rfl (v := 1) rfl ?_
      refine r_goto C dJ2_canEncode_12 (tgt := 16) (by decide) ?_
      exact r_zret C hE (Or.inr rfl) (Nat.le_of_ble_eq_true rfl) (Nat.le_of_ble_eq_true rfl) dJ2_canEncode_16 ⟨_, rfl, h⟩
/-- where a text has a sign, -1 without it -/
def mIx (i : Nat) (c : Int32) : Int32 := if c < 0 then -1 else if 255 < c then -1 else mIxL i c.toInt8.toInt32 (mslen.getD i 0) 0

theorem hd_J1_isLatin1 : mHd yJ1_isLatin1 0 := ⟨by decide, by decide, by decide +kernel⟩
theorem hd_J1_coder : mHd yJ1_coder 0 := ⟨by decide, by decide, by decide +kernel⟩
theorem hd_J1_length : mHd yJ1_length 0 := ⟨by decide, by decide, by decide +kernel⟩
theorem hd_J1_indexOf : mHd yJ1_indexOf 1 := ⟨by decide, by decide, by decide +kernel⟩
theorem hd_J1_indexOf_2 : mHd yJ1_indexOf_2 2 := ⟨by decide, by decide, by decide +kernel⟩
theorem hd_J2_indexOf : mHd yJ2_indexOf 4 := ⟨by decide, by decide, by decide +kernel⟩
theorem hd_J2_indexOfChar : mHd yJ2_indexOfChar 4 := ⟨by decide, by decide, by decide +kernel⟩

set_option maxHeartbeats 4000000 in
theorem S_J1_isLatin1 {D : DD} {l : Launch} {M : MM} {P : Int32 → MM → Prop} {i : Nat} (hi : i < 3) (h : P 1 M) : mMet D l yJ1_isLatin1 cJ1_isLatin1 1 (some .boolean) { frames := 0, cells := 0, slots := 0, locals := 0 } M [.ref (D.2.2.1 i)] (pI_ P) := by
  refine m_of2 [(0, .ref (D.2.2.1 i))] (by decide +kernel) (Nat.le_of_ble_eq_true rfl) rfl (fun E hED hEl C hE => ?_)
  subst hED
  subst hEl
  refine r_strZ C q567 dJ1_isLatin1_0 (pc' := 3) rfl ?_
  refine r_if_eq C dJ1_isLatin1_3 (pc' := 6) rfl (tgt := 17) (by decide) (fun c => absurd c (by decide)) (fun _ => ?_)
  refine r_aload_n C dJ1_isLatin1_6 (pc' := 7) rfl (j := 0) rfl ?_
  refine r_strC C i hi q1802 dJ1_isLatin1_7 (pc' := 10) rfl ?_
  refine r_if_ne C dJ1_isLatin1_10 (pc' := 13) rfl (tgt := 17) (by decide) (fun c => absurd rfl c) (fun _ => ?_)
  refine r_iconst C dJ1_isLatin1_13 (pc' := 14) rfl (v := 1) rfl ?_
  refine r_goto C dJ1_isLatin1_14 (tgt := 18) (by decide) ?_
  exact r_zret C hE (Or.inr rfl) (Nat.le_of_ble_eq_true rfl) (Nat.le_of_ble_eq_true rfl) dJ1_isLatin1_18 ⟨_, rfl, h⟩
set_option maxHeartbeats 4000000 in
theorem S_J1_coder {D : DD} {l : Launch} {M : MM} {P : Int32 → MM → Prop} {i : Nat} (hi : i < 3) (h : P 0 M) : mMet D l yJ1_coder cJ1_coder 1 (some .byte) { frames := 0, cells := 0, slots := 0, locals := 0 } M [.ref (D.2.2.1 i)] (pI_ P) := by
  refine m_of2 [(0, .ref (D.2.2.1 i))] (by decide +kernel) (Nat.le_of_ble_eq_true rfl) rfl (fun E hED hEl C hE => ?_)
  subst hED
  subst hEl
  refine r_strZ C q567 dJ1_coder_0 (pc' := 3) rfl ?_
  refine r_if_eq C dJ1_coder_3 (pc' := 6) rfl (tgt := 13) (by decide) (fun c => absurd c (by decide)) (fun _ => ?_)
  refine r_aload_n C dJ1_coder_6 (pc' := 7) rfl (j := 0) rfl ?_
  refine r_strC C i hi q1802 dJ1_coder_7 (pc' := 10) rfl ?_
  refine r_goto C dJ1_coder_10 (tgt := 14) (by decide) ?_
  exact r_nret C hE rfl (Nat.le_of_ble_eq_true rfl) (Nat.le_of_ble_eq_true rfl) dJ1_coder_14 ⟨_, rfl, h⟩
set_option maxHeartbeats 4000000 in
theorem S_J1_length {D : DD} {l : Launch} {M : MM} {P : Int32 → MM → Prop} {i : Nat} (hi : i < 3) (h : P (nI (mslen.getD i 0)) M) : mMet D l yJ1_length cJ1_length 1 (some .int) { frames := 1, cells := 0, slots := 0, locals := 20 } M [.ref (D.2.2.1 i)] (pI_ P) := by
  refine m_of2 [(0, .ref (D.2.2.1 i))] (by decide +kernel) (Nat.le_of_ble_eq_true rfl) rfl (fun E hED hEl C hE => ?_)
  subst hED
  subst hEl
  refine r_aload_n C dJ1_length_0 (pc' := 1) rfl (j := 0) rfl ?_
  refine r_strV C i hi q1803 dJ1_length_1 (pc' := 4) rfl ?_
  refine r_strL C i hi dJ1_length_4 (pc' := 5) rfl ?_
  refine r_aload_n C dJ1_length_5 (pc' := 6) rfl (j := 0) rfl ?_
  refine r_callStr (As := []) (rest := [.int (nI (mslen.getD i 0))]) C i hi (S_J1_coder (P := fun x M' => x = 0 ∧ M' = M) hi ⟨rfl, rfl⟩) (lw_V q573 q574 q575 q115 q576) rfl hd_J1_coder rfl rfl (Nat.le_of_ble_eq_true rfl) (Nat.le_of_ble_eq_true rfl) (Nat.le_of_ble_eq_true rfl) rfl rfl (Nat.le_of_ble_eq_true rfl) (Nat.le_of_ble_eq_true rfl) dJ1_length_6 (pc' := 9) rfl (fun x M' hx hm => ?_)
  obtain ⟨rfl, rfl⟩ := hx
  refine r_ishr C dJ1_length_9 (pc' := 10) rfl ?_
  refine r_iret C hE (Nat.le_of_ble_eq_true rfl) (Nat.le_of_ble_eq_true rfl) dJ1_length_10 ⟨_, rfl, ?_⟩
  rw [sc_shr0 (by have := (mslen_lt i hi).2; omega)]
  exact h
set_option maxHeartbeats 4000000 in
theorem B_J2_indexOfChar_7 {E : mE} {Post : Int32 → MM → Prop} {M : MM} {i : Nat} {b : Int32} (hi : i < 3) (C : mC E yJ2_indexOfChar cJ2_indexOfChar 6 (some .int) { frames := 0, cells := 0, slots := 0, locals := 0 }) (hE : mEnd E { frames := 0, cells := 0, slots := 0, locals := 0 } (pI_ Post)) : ∀ (r j : Nat), j + r = mslen.getD i 0 → Post (mIxL i b r j) M → mV E M 0 0 7 [(0, .ref (E.2.1.2.2.2.1 i)), (3, .int (nI (mslen.getD i 0))), (4, .int b), (5, .int (nI j))] [] := by
  intro r
  have hl := (mslen_lt i hi).2
  induction r with
  | zero =>
    intro j hj h
    refine r_iload C dJ2_indexOfChar_7 (pc' := 9) rfl (j := 3) rfl ?_
    refine r_iload_n C dJ2_indexOfChar_9 (pc' := 10) rfl (j := 1) rfl ?_
    refine r_icmp_ge C dJ2_indexOfChar_10 (pc' := 13) rfl (tgt := 31) (by decide) (fun _ => ?_) (fun c => absurd (nI_le (by omega) (by omega)) c)
    refine r_iconst C dJ2_indexOfChar_31 (pc' := 32) rfl (v := -1) rfl ?_
    exact r_iret C hE (Nat.le_of_ble_eq_true rfl) (Nat.le_of_ble_eq_true rfl) dJ2_indexOfChar_32 ⟨_, rfl, h⟩
  | succ r ih =>
    intro j hj h
    refine r_iload C dJ2_indexOfChar_7 (pc' := 9) rfl (j := 3) rfl ?_
    refine r_iload_n C dJ2_indexOfChar_9 (pc' := 10) rfl (j := 1) rfl ?_
    refine r_icmp_ge C dJ2_indexOfChar_10 (pc' := 13) rfl (tgt := 31) (by decide) (fun c => absurd c (nI_ge (by omega) (by omega))) (fun _ => ?_)
    refine r_aload_n C dJ2_indexOfChar_13 (pc' := 14) rfl (j := 0) rfl ?_
    refine r_iload C dJ2_indexOfChar_14 (pc' := 16) rfl (j := 3) rfl ?_
    refine r_strB C i hi (vp_in_nI (by omega) (by omega)) dJ2_indexOfChar_16 (pc' := 17) rfl ?_
    refine r_iload C dJ2_indexOfChar_17 (pc' := 19) rfl (j := 2) rfl ?_
    have e1 : ix_ (nI j) = j := nI_clamp (by omega)
    rw [e1]
    refine r_icmp_ne C dJ2_indexOfChar_19 (pc' := 22) rfl (tgt := 25) (by decide) (fun c => ?_) (fun c => ?_)
    · rw [mIxL, if_neg c] at h
      refine r_iinc C (lv' := [(5, .int (nI (j + 1))), (0, .ref (E.2.1.2.2.2.1 i)), (3, .int (nI (mslen.getD i 0))), (4, .int b)]) dJ2_indexOfChar_25 (pc' := 28) rfl (j := 3) rfl (nI (j + 1)) (nI_succ j) (Nat.le_of_ble_eq_true rfl) rfl ?_
      refine r_goto C dJ2_indexOfChar_28 (tgt := 7) (by decide) ?_
      refine r_sub (lv' := [(0, .ref (E.2.1.2.2.2.1 i)), (3, .int (nI (mslen.getD i 0))), (4, .int b), (5, .int (nI (j + 1)))]) [1, 2, 3, 0] rfl ?_
      exact ih (j + 1) (by omega) h
    · rw [mIxL, if_pos c] at h
      refine r_iload C dJ2_indexOfChar_22 (pc' := 24) rfl (j := 3) rfl ?_
      exact r_iret C hE (Nat.le_of_ble_eq_true rfl) (Nat.le_of_ble_eq_true rfl) dJ2_indexOfChar_24 ⟨_, rfl, h⟩
set_option maxHeartbeats 4000000 in
theorem S_J2_indexOfChar {D : DD} {l : Launch} {M : MM} {P : Int32 → MM → Prop} {i : Nat} {c : Int32} (hi : i < 3) (h : P (mIxL i c.toInt8.toInt32 (mslen.getD i 0) 0) M) : mMet D l yJ2_indexOfChar cJ2_indexOfChar 6 (some .int) { frames := 0, cells := 0, slots := 0, locals := 0 } M [.ref (D.2.2.2.1 i), .int c, .int 0, .int (nI (mslen.getD i 0))] (pI_ P) := by
  refine m_of2 [(0, .ref (D.2.2.2.1 i)), (1, .int c), (2, .int 0), (3, .int (nI (mslen.getD i 0)))] (by decide +kernel) (Nat.le_of_ble_eq_true rfl) rfl (fun E hED hEl C hE => ?_)
  subst hED
  subst hEl
  refine r_iload_n C dJ2_indexOfChar_0 (pc' := 1) rfl (j := 1) rfl ?_
  refine r_i2b C dJ2_indexOfChar_1 (pc' := 2) rfl ?_
  refine r_istore C (lv' := [(4, .int c.toInt8.toInt32), (0, .ref (E.2.1.2.2.2.1 i)), (1, .int c), (2, .int 0), (3, .int (nI (mslen.getD i 0)))]) dJ2_indexOfChar_2 (pc' := 4) rfl c.toInt8.toInt32 rfl (Nat.le_of_ble_eq_true rfl) rfl ?_
  refine r_iload_n C dJ2_indexOfChar_4 (pc' := 5) rfl (j := 3) rfl ?_
  refine r_istore C (lv' := [(5, .int 0), (4, .int c.toInt8.toInt32), (0, .ref (E.2.1.2.2.2.1 i)), (1, .int c), (2, .int 0), (3, .int (nI (mslen.getD i 0)))]) dJ2_indexOfChar_5 (pc' := 7) rfl 0 rfl (Nat.le_of_ble_eq_true rfl) rfl ?_
  refine r_sub (lv' := [(0, .ref (E.2.1.2.2.2.1 i)), (3, .int (nI (mslen.getD i 0))), (4, .int c.toInt8.toInt32), (5, .int (nI 0))]) [2, 5, 1, 0] rfl ?_
  exact B_J2_indexOfChar_7 hi C hE (mslen.getD i 0) 0 (by omega) h
set_option maxHeartbeats 4000000 in
theorem S_J2_indexOf {D : DD} {l : Launch} {M : MM} {P : Int32 → MM → Prop} {i : Nat} {c : Int32} (hi : i < 3) (h : P (mIx i c) M) : mMet D l yJ2_indexOf cJ2_indexOf 4 (some .int) { frames := 1, cells := 0, slots := 0, locals := 40 } M [.ref (D.2.2.2.1 i), .int c, .int 0, .int (nI (mslen.getD i 0))] (pI_ P) := by
  refine m_of2 [(0, .ref (D.2.2.2.1 i)), (1, .int c), (2, .int 0), (3, .int (nI (mslen.getD i 0)))] (by decide +kernel) (Nat.le_of_ble_eq_true rfl) rfl (fun E hED hEl C hE => ?_)
  subst hED
  subst hEl
  have hl := mslen_lt i hi
  refine r_iload_n C dJ2_indexOf_0 (pc' := 1) rfl (j := 1) rfl ?_
  refine r_callSi (As := [.int c]) (rest := []) C (S_J2_canEncode (Post := fun r M' => M' = M ∧ ((r = 0 ∧ (c < 0 ∨ 255 < c)) ∨ (r = 1 ∧ ¬ c < 0 ∧ ¬ 255 < c))) (by
    unfold wp_J2_canEncode
    by_cases h1 : c < 0
    · rw [if_pos h1]; exact ⟨rfl, Or.inl ⟨rfl, Or.inl h1⟩⟩
    · rw [if_neg h1]
      by_cases h2 : 255 < c
      · rw [if_pos h2]; exact ⟨rfl, Or.inl ⟨rfl, Or.inr h2⟩⟩
      · rw [if_neg h2]; exact ⟨rfl, Or.inr ⟨rfl, h1, h2⟩⟩)) (lw_S q580 q581 q116 q582) hd_J2_canEncode rfl rfl (Nat.le_of_ble_eq_true rfl) (Nat.le_of_ble_eq_true rfl) (Nat.le_of_ble_eq_true rfl) rfl rfl (Nat.le_of_ble_eq_true rfl) (Nat.le_of_ble_eq_true rfl) dJ2_indexOf_1 (pc' := 4) rfl (fun r M' hx hm => ?_)
  obtain ⟨rfl, hx⟩ := hx
  refine r_if_ne C dJ2_indexOf_4 (pc' := 7) rfl (tgt := 9) (by decide) (fun c1 => ?_) (fun c1 => ?_)
  · have hc : ¬ c < 0 ∧ ¬ 255 < c := by
      rcases hx with hx | hx
      · exact absurd hx.1 c1
      · exact hx.2
    have e1 : mIx i c = mIxL i c.toInt8.toInt32 (mslen.getD i 0) 0 := by unfold mIx; rw [if_neg hc.1, if_neg hc.2]
    rw [e1] at h
    refine r_iload_n C dJ2_indexOf_9 (pc' := 10) rfl (j := 2) rfl ?_
    refine r_iconst C dJ2_indexOf_10 (pc' := 11) rfl (v := 0) rfl ?_
    refine r_mmax C q583 q490 q113 q491 (Nat.le_of_ble_eq_true rfl) (Nat.le_of_ble_eq_true rfl) (Nat.le_of_ble_eq_true rfl) (Nat.le_of_ble_eq_true rfl) dJ2_indexOf_11 (pc' := 14) rfl ?_
    refine r_istore_n C (lv' := [(2, .int 0), (0, .ref (E.2.1.2.2.2.1 i)), (1, .int c), (3, .int (nI (mslen.getD i 0)))]) dJ2_indexOf_14 (pc' := 15) rfl rfl 0 (by decide) (Nat.le_of_ble_eq_true rfl) rfl ?_
    refine r_iload_n C dJ2_indexOf_15 (pc' := 16) rfl (j := 3) rfl ?_
    refine r_aload_n C dJ2_indexOf_16 (pc' := 17) rfl (j := 1) rfl ?_
    refine r_strL C i hi dJ2_indexOf_17 (pc' := 18) rfl ?_
    refine r_mmin C q584 q585 q113 q586 (Nat.le_of_ble_eq_true rfl) (Nat.le_of_ble_eq_true rfl) (Nat.le_of_ble_eq_true rfl) (Nat.le_of_ble_eq_true rfl) dJ2_indexOf_18 (pc' := 21) rfl ?_
    have e2 : mn_ (nI (mslen.getD i 0)) (nI (mslen.getD i 0)) = nI (mslen.getD i 0) := by unfold mn_; split <;> rfl
    refine r_istore_n C (lv' := [(3, .int (nI (mslen.getD i 0))), (2, .int 0), (0, .ref (E.2.1.2.2.2.1 i)), (1, .int c)]) dJ2_indexOf_21 (pc' := 22) rfl rfl (nI (mslen.getD i 0)) e2.symm (Nat.le_of_ble_eq_true rfl) rfl ?_
    refine r_iload_n C dJ2_indexOf_22 (pc' := 23) rfl (j := 1) rfl ?_
    refine r_iload_n C dJ2_indexOf_23 (pc' := 24) rfl (j := 0) rfl ?_
    refine r_icmp_lt C dJ2_indexOf_24 (pc' := 27) rfl (tgt := 29) (by decide) (fun _ => ?_) (fun c2 => absurd (by rw [← nI_0]; exact nI_lt hl.1 (by omega)) c2)
    refine r_aload_n C dJ2_indexOf_29 (pc' := 30) rfl (j := 2) rfl ?_
    refine r_iload_n C dJ2_indexOf_30 (pc' := 31) rfl (j := 3) rfl ?_
    refine r_iload_n C dJ2_indexOf_31 (pc' := 32) rfl (j := 1) rfl ?_
    refine r_iload_n C dJ2_indexOf_32 (pc' := 33) rfl (j := 0) rfl ?_
    refine r_callSi (As := [.ref (E.2.1.2.2.2.1 i), .int c, .int 0, .int (nI (mslen.getD i 0))]) (rest := []) C (S_J2_indexOfChar hi h) (lw_S q587 q588 q116 q589) hd_J2_indexOfChar rfl rfl (Nat.le_of_ble_eq_true rfl) (Nat.le_of_ble_eq_true rfl) (Nat.le_of_ble_eq_true rfl) rfl rfl (Nat.le_of_ble_eq_true rfl) (Nat.le_of_ble_eq_true rfl) dJ2_indexOf_33 (pc' := 36) rfl (fun r M' h hm => ?_)
    exact r_iret C hE (Nat.le_of_ble_eq_true rfl) (Nat.le_of_ble_eq_true rfl) dJ2_indexOf_36 ⟨_, rfl, h⟩
  · have hc : c < 0 ∨ 255 < c := by
      rcases hx with hx | hx
      · exact hx.2
      · exact absurd (c1.symm.trans hx.1) (by decide)
    have e1 : mIx i c = -1 := by
      unfold mIx
      rcases hc with h1 | h1
      · rw [if_pos h1]
      · by_cases h2 : c < 0
        · rw [if_pos h2]
        · rw [if_neg h2, if_pos h1]
    rw [e1] at h
    refine r_iconst C dJ2_indexOf_7 (pc' := 8) rfl (v := -1) rfl ?_
    exact r_iret C hE (Nat.le_of_ble_eq_true rfl) (Nat.le_of_ble_eq_true rfl) dJ2_indexOf_8 ⟨_, rfl, h⟩
set_option maxHeartbeats 4000000 in
theorem S_J1_indexOf_2 {D : DD} {l : Launch} {M : MM} {P : Int32 → MM → Prop} {i : Nat} {c : Int32} (hi : i < 3) (h : P (mIx i c) M) : mMet D l yJ1_indexOf_2 cJ1_indexOf_2 3 (some .int) { frames := 2, cells := 0, slots := 0, locals := 70 } M [.ref (D.2.2.1 i), .int c, .int 0] (pI_ P) := by
  refine m_of2 [(0, .ref (D.2.2.1 i)), (1, .int c), (2, .int 0)] (by decide +kernel) (Nat.le_of_ble_eq_true rfl) rfl (fun E hED hEl C hE => ?_)
  subst hED
  subst hEl
  refine r_aload_n C dJ1_indexOf_2_0 (pc' := 1) rfl (j := 0) rfl ?_
  refine r_callStr (As := []) (rest := []) C i hi (S_J1_isLatin1 (P := fun x M' => x = 1 ∧ M' = M) hi ⟨rfl, rfl⟩) (lw_V q563 q564 q565 q115 q566) rfl hd_J1_isLatin1 rfl rfl (Nat.le_of_ble_eq_true rfl) (Nat.le_of_ble_eq_true rfl) (Nat.le_of_ble_eq_true rfl) rfl rfl (Nat.le_of_ble_eq_true rfl) (Nat.le_of_ble_eq_true rfl) dJ1_indexOf_2_1 (pc' := 4) rfl (fun x M' hx hm => ?_)
  obtain ⟨rfl, rfl⟩ := hx
  refine r_if_eq C dJ1_indexOf_2_4 (pc' := 7) rfl (tgt := 23) (by decide) (fun c => absurd c (by decide)) (fun _ => ?_)
  refine r_aload_n C dJ1_indexOf_2_7 (pc' := 8) rfl (j := 0) rfl ?_
  refine r_strV C i hi q1803 dJ1_indexOf_2_8 (pc' := 11) rfl ?_
  refine r_iload_n C dJ1_indexOf_2_11 (pc' := 12) rfl (j := 1) rfl ?_
  refine r_iload_n C dJ1_indexOf_2_12 (pc' := 13) rfl (j := 2) rfl ?_
  refine r_aload_n C dJ1_indexOf_2_13 (pc' := 14) rfl (j := 0) rfl ?_
  refine r_callStr (As := []) (rest := [.int 0, .int c, .ref (E.2.1.2.2.2.1 i)]) C i hi (S_J1_length (P := fun x M' => x = nI (mslen.getD i 0) ∧ M' = _) hi ⟨rfl, rfl⟩) (lw_V q569 q570 q571 q115 q572) rfl hd_J1_length rfl rfl (Nat.le_of_ble_eq_true rfl) (Nat.le_of_ble_eq_true rfl) (Nat.le_of_ble_eq_true rfl) rfl rfl (Nat.le_of_ble_eq_true rfl) (Nat.le_of_ble_eq_true rfl) dJ1_indexOf_2_14 (pc' := 17) rfl (fun x M' hx hm => ?_)
  obtain ⟨rfl, rfl⟩ := hx
  refine r_callSi (As := [.ref (E.2.1.2.2.2.1 i), .int c, .int 0, .int (nI (mslen.getD i 0))]) (rest := []) C (S_J2_indexOf hi h) (lw_S q577 q578 q116 q579) hd_J2_indexOf rfl rfl (Nat.le_of_ble_eq_true rfl) (Nat.le_of_ble_eq_true rfl) (Nat.le_of_ble_eq_true rfl) rfl rfl (Nat.le_of_ble_eq_true rfl) (Nat.le_of_ble_eq_true rfl) dJ1_indexOf_2_17 (pc' := 20) rfl (fun r M' h hm => ?_)
  refine r_goto C dJ1_indexOf_2_20 (tgt := 36) (by decide) ?_
  exact r_iret C hE (Nat.le_of_ble_eq_true rfl) (Nat.le_of_ble_eq_true rfl) dJ1_indexOf_2_36 ⟨_, rfl, h⟩
set_option maxHeartbeats 4000000 in
theorem S_J1_indexOf {D : DD} {l : Launch} {M : MM} {P : Int32 → MM → Prop} {i : Nat} {c : Int32} (hi : i < 3) (h : P (mIx i c) M) : mMet D l yJ1_indexOf cJ1_indexOf 2 (some .int) { frames := 3, cells := 0, slots := 0, locals := 100 } M [.ref (D.2.2.1 i), .int c] (pI_ P) := by
  refine m_of2 [(0, .ref (D.2.2.1 i)), (1, .int c)] (by decide +kernel) (Nat.le_of_ble_eq_true rfl) rfl (fun E hED hEl C hE => ?_)
  subst hED
  subst hEl
  refine r_aload_n C dJ1_indexOf_0 (pc' := 1) rfl (j := 0) rfl ?_
  refine r_iload_n C dJ1_indexOf_1 (pc' := 2) rfl (j := 1) rfl ?_
  refine r_iconst C dJ1_indexOf_2 (pc' := 3) rfl (v := 0) rfl ?_
  refine r_callStr (As := [.int c, .int 0]) (rest := []) C i hi (S_J1_indexOf_2 hi h) (lw_V q559 q560 q561 q115 q562) rfl hd_J1_indexOf_2 rfl rfl (Nat.le_of_ble_eq_true rfl) (Nat.le_of_ble_eq_true rfl) (Nat.le_of_ble_eq_true rfl) rfl rfl (Nat.le_of_ble_eq_true rfl) (Nat.le_of_ble_eq_true rfl) dJ1_indexOf_3 (pc' := 6) rfl (fun r M' h hm => ?_)
  exact r_iret C hE (Nat.le_of_ble_eq_true rfl) (Nat.le_of_ble_eq_true rfl) dJ1_indexOf_6 ⟨_, rfl, h⟩
theorem r_ixOf {E : mE} {y : MethodName} {cc : ByteArray} {nL : Nat} {ret : Option FieldType} {rm : Room} {M : MM} {k n pc : Nat} {lv : List (Nat × Value)} {rest : List Value} {idx i : Nat} {c : Int32} (C : mC E y cc nL ret rm) (hi : i < 3) (hlink : Cond.methodLink y.cls idx ⟨"java/lang/String", "indexOf", "(I)I"⟩ ∈ lw_all) (hcat : (rest.map fun v => v.category).sum ≤ 8) (hfr : 4 ≤ rm.frames) (hlo : 8 + (2 + 11) + 100 ≤ rm.locals) (hk1 : k ≤ rm.cells) (hn1 : n ≤ rm.slots) (hd : decode cc pc = .ok (.invokevirtual idx, 3)) {pc' : Nat} (hp : pc + 3 = pc') (K : mV E M k n pc' lv (.int (mIx i c) :: rest)) : mV E M k n pc lv (.int c :: .ref (E.2.1.2.2.1 i) :: rest) := by
  refine r_callStr (As := [.int c]) (rest := rest) C i hi (S_J1_indexOf (P := fun x M' => x = mIx i c ∧ M' = M) hi ⟨rfl, rfl⟩) (lw_V hlink q556 q557 q115 q558) rfl hd_J1_indexOf rfl rfl hcat hfr hlo rfl rfl hk1 hn1 hd hp (fun x M' hx hm => ?_)
  obtain ⟨rfl, rfl⟩ := hx
  exact K

