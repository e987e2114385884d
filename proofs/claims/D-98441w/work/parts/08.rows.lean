theorem r_iconst {E : mE} {y : MethodName} {cc : ByteArray} {nL : Nat} {ret : Option FieldType} {rm : Room} {M : MM} {k n pc : Nat} {lv : List (Nat × Value)} {st : List Value} {i : Int} {v : Int32} (C : mC E y cc nL ret rm) (hd : decode cc pc = .ok (.iconst i, 1)) {pc' : Nat} (hp : pc + 1 = pc') (hv : Int32.ofInt i = v) (K : mV E M k n pc' lv (.int v :: st)) : mV E M k n pc lv (st) := by
  subst hp
  obtain ⟨⟨p, l, e, R, s, m, args, below, meth, c⟩, D, nL', M0, QQ⟩ := E
  obtain ⟨hx, hb, hml, hr, hown, hts, hlk, hKK, hB, hR, hnm, hnl⟩ := C
  intro H locs ls a1 a2 a3 a4 a5
  exact lv_iconst hx hb hd hv (K H locs ls a1 a2 a3 a4 a5)
theorem r_bipush {E : mE} {y : MethodName} {cc : ByteArray} {nL : Nat} {ret : Option FieldType} {rm : Room} {M : MM} {k n pc : Nat} {lv : List (Nat × Value)} {st : List Value} {i : Int} {v : Int32} (C : mC E y cc nL ret rm) (hd : decode cc pc = .ok (.bipush i, 2)) {pc' : Nat} (hp : pc + 2 = pc') (hv : (Int8.ofInt i).toInt32 = v) (K : mV E M k n pc' lv (.int v :: st)) : mV E M k n pc lv (st) := by
  subst hp
  obtain ⟨⟨p, l, e, R, s, m, args, below, meth, c⟩, D, nL', M0, QQ⟩ := E
  obtain ⟨hx, hb, hml, hr, hown, hts, hlk, hKK, hB, hR, hnm, hnl⟩ := C
  intro H locs ls a1 a2 a3 a4 a5
  exact lv_bipush hx hb hd hv (K H locs ls a1 a2 a3 a4 a5)
theorem r_sipush {E : mE} {y : MethodName} {cc : ByteArray} {nL : Nat} {ret : Option FieldType} {rm : Room} {M : MM} {k n pc : Nat} {lv : List (Nat × Value)} {st : List Value} {i : Int} {v : Int32} (C : mC E y cc nL ret rm) (hd : decode cc pc = .ok (.sipush i, 3)) {pc' : Nat} (hp : pc + 3 = pc') (hv : (Int16.ofInt i).toInt32 = v) (K : mV E M k n pc' lv (.int v :: st)) : mV E M k n pc lv (st) := by
  subst hp
  obtain ⟨⟨p, l, e, R, s, m, args, below, meth, c⟩, D, nL', M0, QQ⟩ := E
  obtain ⟨hx, hb, hml, hr, hown, hts, hlk, hKK, hB, hR, hnm, hnl⟩ := C
  intro H locs ls a1 a2 a3 a4 a5
  exact lv_sipush hx hb hd hv (K H locs ls a1 a2 a3 a4 a5)
theorem r_lconst {E : mE} {y : MethodName} {cc : ByteArray} {nL : Nat} {ret : Option FieldType} {rm : Room} {M : MM} {k n pc : Nat} {lv : List (Nat × Value)} {st : List Value} {i : Fin 2} {v : Int64} (C : mC E y cc nL ret rm) (hd : decode cc pc = .ok (.lconst i, 1)) {pc' : Nat} (hp : pc + 1 = pc') (hv : Int64.ofNat (i : Nat) = v) (K : mV E M k n pc' lv (.long v :: st)) : mV E M k n pc lv (st) := by
  subst hp
  obtain ⟨⟨p, l, e, R, s, m, args, below, meth, c⟩, D, nL', M0, QQ⟩ := E
  obtain ⟨hx, hb, hml, hr, hown, hts, hlk, hKK, hB, hR, hnm, hnl⟩ := C
  intro H locs ls a1 a2 a3 a4 a5
  exact lv_lconst hx hb hd hv (K H locs ls a1 a2 a3 a4 a5)
theorem r_ldc {E : mE} {y : MethodName} {cc : ByteArray} {nL : Nat} {ret : Option FieldType} {rm : Room} {M : MM} {k n pc : Nat} {lv : List (Nat × Value)} {st : List Value} {i : Nat} {v : Int32} (C : mC E y cc nL ret rm) (hd : decode cc pc = .ok (.ldc i, 2)) {pc' : Nat} (hp : pc + 2 = pc') (hc : Cond.constant y.cls i v ∈ lw_all) (K : mV E M k n pc' lv (.int v :: st)) : mV E M k n pc lv (st) := by
  subst hp
  obtain ⟨⟨p, l, e, R, s, m, args, below, meth, c⟩, D, nL', M0, QQ⟩ := E
  obtain ⟨hx, hb, hml, hr, hown, hts, hlk, hKK, hB, hR, hnm, hnl⟩ := C
  intro H locs ls a1 a2 a3 a4 a5
  exact lv_ldc hx hb hown (hts _ hc) hd (K H locs ls a1 a2 a3 a4 a5)
theorem r_ldcw {E : mE} {y : MethodName} {cc : ByteArray} {nL : Nat} {ret : Option FieldType} {rm : Room} {M : MM} {k n pc : Nat} {lv : List (Nat × Value)} {st : List Value} {i : Nat} {v : Int32} (C : mC E y cc nL ret rm) (hd : decode cc pc = .ok (.ldc_w i, 3)) {pc' : Nat} (hp : pc + 3 = pc') (hc : Cond.constant y.cls i v ∈ lw_all) (K : mV E M k n pc' lv (.int v :: st)) : mV E M k n pc lv (st) := by
  subst hp
  obtain ⟨⟨p, l, e, R, s, m, args, below, meth, c⟩, D, nL', M0, QQ⟩ := E
  obtain ⟨hx, hb, hml, hr, hown, hts, hlk, hKK, hB, hR, hnm, hnl⟩ := C
  intro H locs ls a1 a2 a3 a4 a5
  exact lv_ldcw hx hb hown (hts _ hc) hd (K H locs ls a1 a2 a3 a4 a5)
theorem r_ldc2 {E : mE} {y : MethodName} {cc : ByteArray} {nL : Nat} {ret : Option FieldType} {rm : Room} {M : MM} {k n pc : Nat} {lv : List (Nat × Value)} {st : List Value} {i : Nat} {v : Int64} (C : mC E y cc nL ret rm) (hd : decode cc pc = .ok (.ldc2_w i, 3)) {pc' : Nat} (hp : pc + 3 = pc') (hc : Cond.constantLong y.cls i v ∈ lw_all) (K : mV E M k n pc' lv (.long v :: st)) : mV E M k n pc lv (st) := by
  subst hp
  obtain ⟨⟨p, l, e, R, s, m, args, below, meth, c⟩, D, nL', M0, QQ⟩ := E
  obtain ⟨hx, hb, hml, hr, hown, hts, hlk, hKK, hB, hR, hnm, hnl⟩ := C
  intro H locs ls a1 a2 a3 a4 a5
  exact lv_ldc2 hx hb hown (hts _ hc) hd (K H locs ls a1 a2 a3 a4 a5)
theorem r_null {E : mE} {y : MethodName} {cc : ByteArray} {nL : Nat} {ret : Option FieldType} {rm : Room} {M : MM} {k n pc : Nat} {lv : List (Nat × Value)} {st : List Value}  (C : mC E y cc nL ret rm) (hd : decode cc pc = .ok (.aconst_null, 1)) {pc' : Nat} (hp : pc + 1 = pc')  (K : mV E M k n pc' lv (va_rf none :: st)) : mV E M k n pc lv (st) := by
  subst hp
  obtain ⟨⟨p, l, e, R, s, m, args, below, meth, c⟩, D, nL', M0, QQ⟩ := E
  obtain ⟨hx, hb, hml, hr, hown, hts, hlk, hKK, hB, hR, hnm, hnl⟩ := C
  intro H locs ls a1 a2 a3 a4 a5
  exact lv_null hx hb hd (K H locs ls a1 a2 a3 a4 a5)
theorem r_iload_n {E : mE} {y : MethodName} {cc : ByteArray} {nL : Nat} {ret : Option FieldType} {rm : Room} {M : MM} {k n pc : Nat} {lv : List (Nat × Value)} {st : List Value} {i : Fin 4} {j : Nat} {x : Int32} (C : mC E y cc nL ret rm) (hd : decode cc pc = .ok (.iload_n i, 1)) {pc' : Nat} (hp : pc + 1 = pc') (h : lv[j]? = some ((i : Nat), Value.int x)) (K : mV E M k n pc' lv (.int x :: st)) : mV E M k n pc lv (st) := by
  subst hp
  obtain ⟨⟨p, l, e, R, s, m, args, below, meth, c⟩, D, nL', M0, QQ⟩ := E
  obtain ⟨hx, hb, hml, hr, hown, hts, hlk, hKK, hB, hR, hnm, hnl⟩ := C
  intro H locs ls a1 a2 a3 a4 a5
  exact lv_iload_n hx hb hd rfl (lv_at a5 j h) (K H locs ls a1 a2 a3 a4 a5)
theorem r_iload {E : mE} {y : MethodName} {cc : ByteArray} {nL : Nat} {ret : Option FieldType} {rm : Room} {M : MM} {k n pc : Nat} {lv : List (Nat × Value)} {st : List Value} {i j : Nat} {x : Int32} (C : mC E y cc nL ret rm) (hd : decode cc pc = .ok (.iload i, 2)) {pc' : Nat} (hp : pc + 2 = pc') (h : lv[j]? = some (i, Value.int x)) (K : mV E M k n pc' lv (.int x :: st)) : mV E M k n pc lv (st) := by
  subst hp
  obtain ⟨⟨p, l, e, R, s, m, args, below, meth, c⟩, D, nL', M0, QQ⟩ := E
  obtain ⟨hx, hb, hml, hr, hown, hts, hlk, hKK, hB, hR, hnm, hnl⟩ := C
  intro H locs ls a1 a2 a3 a4 a5
  exact lv_iload hx hb hd (lv_at a5 j h) (K H locs ls a1 a2 a3 a4 a5)
theorem r_lload_n {E : mE} {y : MethodName} {cc : ByteArray} {nL : Nat} {ret : Option FieldType} {rm : Room} {M : MM} {k n pc : Nat} {lv : List (Nat × Value)} {st : List Value} {i : Fin 4} {j : Nat} {x : Int64} (C : mC E y cc nL ret rm) (hd : decode cc pc = .ok (.lload_n i, 1)) {pc' : Nat} (hp : pc + 1 = pc') (h : lv[j]? = some ((i : Nat), Value.long x)) (K : mV E M k n pc' lv (.long x :: st)) : mV E M k n pc lv (st) := by
  subst hp
  obtain ⟨⟨p, l, e, R, s, m, args, below, meth, c⟩, D, nL', M0, QQ⟩ := E
  obtain ⟨hx, hb, hml, hr, hown, hts, hlk, hKK, hB, hR, hnm, hnl⟩ := C
  intro H locs ls a1 a2 a3 a4 a5
  exact lv_lload_n hx hb hd rfl (lv_at a5 j h) (K H locs ls a1 a2 a3 a4 a5)
theorem r_lload {E : mE} {y : MethodName} {cc : ByteArray} {nL : Nat} {ret : Option FieldType} {rm : Room} {M : MM} {k n pc : Nat} {lv : List (Nat × Value)} {st : List Value} {i j : Nat} {x : Int64} (C : mC E y cc nL ret rm) (hd : decode cc pc = .ok (.lload i, 2)) {pc' : Nat} (hp : pc + 2 = pc') (h : lv[j]? = some (i, Value.long x)) (K : mV E M k n pc' lv (.long x :: st)) : mV E M k n pc lv (st) := by
  subst hp
  obtain ⟨⟨p, l, e, R, s, m, args, below, meth, c⟩, D, nL', M0, QQ⟩ := E
  obtain ⟨hx, hb, hml, hr, hown, hts, hlk, hKK, hB, hR, hnm, hnl⟩ := C
  intro H locs ls a1 a2 a3 a4 a5
  exact lv_lload hx hb hd (lv_at a5 j h) (K H locs ls a1 a2 a3 a4 a5)
theorem r_aload_n {E : mE} {y : MethodName} {cc : ByteArray} {nL : Nat} {ret : Option FieldType} {rm : Room} {M : MM} {k n pc : Nat} {lv : List (Nat × Value)} {st : List Value} {i : Fin 4} {j : Nat} {x : Nat} (C : mC E y cc nL ret rm) (hd : decode cc pc = .ok (.aload_n i, 1)) {pc' : Nat} (hp : pc + 1 = pc') (h : lv[j]? = some ((i : Nat), Value.ref x)) (K : mV E M k n pc' lv (.ref x :: st)) : mV E M k n pc lv (st) := by
  subst hp
  obtain ⟨⟨p, l, e, R, s, m, args, below, meth, c⟩, D, nL', M0, QQ⟩ := E
  obtain ⟨hx, hb, hml, hr, hown, hts, hlk, hKK, hB, hR, hnm, hnl⟩ := C
  intro H locs ls a1 a2 a3 a4 a5
  exact lv_aload_n hx hb hd rfl (lv_at a5 j h) (K H locs ls a1 a2 a3 a4 a5)
theorem r_aload {E : mE} {y : MethodName} {cc : ByteArray} {nL : Nat} {ret : Option FieldType} {rm : Room} {M : MM} {k n pc : Nat} {lv : List (Nat × Value)} {st : List Value} {i j : Nat} {x : Nat} (C : mC E y cc nL ret rm) (hd : decode cc pc = .ok (.aload i, 2)) {pc' : Nat} (hp : pc + 2 = pc') (h : lv[j]? = some (i, Value.ref x)) (K : mV E M k n pc' lv (.ref x :: st)) : mV E M k n pc lv (st) := by
  subst hp
  obtain ⟨⟨p, l, e, R, s, m, args, below, meth, c⟩, D, nL', M0, QQ⟩ := E
  obtain ⟨hx, hb, hml, hr, hown, hts, hlk, hKK, hB, hR, hnm, hnl⟩ := C
  intro H locs ls a1 a2 a3 a4 a5
  exact lv_aload hx hb hd (lv_at a5 j h) (K H locs ls a1 a2 a3 a4 a5)
theorem r_aload_nq {E : mE} {y : MethodName} {cc : ByteArray} {nL : Nat} {ret : Option FieldType} {rm : Room} {M : MM} {k n pc : Nat} {lv : List (Nat × Value)} {st : List Value} {i : Fin 4} {j : Nat} {x : Option Nat} (C : mC E y cc nL ret rm) (hd : decode cc pc = .ok (.aload_n i, 1)) {pc' : Nat} (hp : pc + 1 = pc') (h : lv[j]? = some ((i : Nat), va_rf x)) (K : mV E M k n pc' lv (va_rf x :: st)) : mV E M k n pc lv st := by
  subst hp
  obtain ⟨⟨p, l, e, R, s, m, args, below, meth, c⟩, D, nL', M0, QQ⟩ := E
  obtain ⟨hx, hb, hml, hr, hown, hts, hlk, hKK, hB, hR, hnm, hnl⟩ := C
  intro H locs ls a1 a2 a3 a4 a5
  cases x with
  | none => exact lv_aload_nN hx hb hd rfl (lv_at a5 j h) (K H locs ls a1 a2 a3 a4 a5)
  | some x => exact lv_aload_n hx hb hd rfl (lv_at a5 j h) (K H locs ls a1 a2 a3 a4 a5)
theorem r_aloadq {E : mE} {y : MethodName} {cc : ByteArray} {nL : Nat} {ret : Option FieldType} {rm : Room} {M : MM} {k n pc : Nat} {lv : List (Nat × Value)} {st : List Value} {i j : Nat} {x : Option Nat} (C : mC E y cc nL ret rm) (hd : decode cc pc = .ok (.aload i, 2)) {pc' : Nat} (hp : pc + 2 = pc') (h : lv[j]? = some (i, va_rf x)) (K : mV E M k n pc' lv (va_rf x :: st)) : mV E M k n pc lv st := by
  subst hp
  obtain ⟨⟨p, l, e, R, s, m, args, below, meth, c⟩, D, nL', M0, QQ⟩ := E
  obtain ⟨hx, hb, hml, hr, hown, hts, hlk, hKK, hB, hR, hnm, hnl⟩ := C
  intro H locs ls a1 a2 a3 a4 a5
  cases x with
  | none => exact lv_aloadN hx hb hd (lv_at a5 j h) (K H locs ls a1 a2 a3 a4 a5)
  | some x => exact lv_aload hx hb hd (lv_at a5 j h) (K H locs ls a1 a2 a3 a4 a5)
theorem r_istore_n {E : mE} {y : MethodName} {cc : ByteArray} {nL : Nat} {ret : Option FieldType} {rm : Room} {M : MM} {k n pc : Nat} {lv : List (Nat × Value)} {st : List Value} {f : Fin 4} {i : Nat} {x : Int32} {lv' : List (Nat × Value)} (C : mC E y cc nL ret rm) (hd : decode cc pc = .ok (.istore_n f, 1)) {pc' : Nat} (hp : pc + 1 = pc') (hf : (f : Nat) = i) (x' : Int32) (hx' : x' = x) (hn : i < nL) (hl : (i, Value.int x') :: lv.filter (fun q => !(q.1 == i) && !(q.1 + 1 == i && q.2.category == 2)) = lv') (K : mV E M k n pc' lv' st) : mV E M k n pc lv (.int x :: st) := by
  subst hp
  obtain ⟨⟨p, l, e, R, s, m, args, below, meth, c⟩, D, nL', M0, QQ⟩ := E
  obtain ⟨hx, hb, hml, hr, hown, hts, hlk, hKK, hB, hR, hnm, hnl⟩ := C
  intro H locs ls a1 a2 a3 a4 a5
  subst hx'
  subst hnl
  exact lv_istore_n hx hb hd hf a5 hn hl (fun ls' h' => K H locs ls' a1 a2 a3 a4 h')
theorem r_istore {E : mE} {y : MethodName} {cc : ByteArray} {nL : Nat} {ret : Option FieldType} {rm : Room} {M : MM} {k n pc : Nat} {lv : List (Nat × Value)} {st : List Value} {i : Nat} {x : Int32} {lv' : List (Nat × Value)} (C : mC E y cc nL ret rm) (hd : decode cc pc = .ok (.istore i, 2)) {pc' : Nat} (hp : pc + 2 = pc') (x' : Int32) (hx' : x' = x) (hn : i < nL) (hl : (i, Value.int x') :: lv.filter (fun q => !(q.1 == i) && !(q.1 + 1 == i && q.2.category == 2)) = lv') (K : mV E M k n pc' lv' st) : mV E M k n pc lv (.int x :: st) := by
  subst hp
  obtain ⟨⟨p, l, e, R, s, m, args, below, meth, c⟩, D, nL', M0, QQ⟩ := E
  obtain ⟨hx, hb, hml, hr, hown, hts, hlk, hKK, hB, hR, hnm, hnl⟩ := C
  intro H locs ls a1 a2 a3 a4 a5
  subst hx'
  subst hnl
  exact lv_istore hx hb hd a5 hn hl (fun ls' h' => K H locs ls' a1 a2 a3 a4 h')
theorem r_lstore_n {E : mE} {y : MethodName} {cc : ByteArray} {nL : Nat} {ret : Option FieldType} {rm : Room} {M : MM} {k n pc : Nat} {lv : List (Nat × Value)} {st : List Value} {f : Fin 4} {i : Nat} {x : Int64} {lv' : List (Nat × Value)} (C : mC E y cc nL ret rm) (hd : decode cc pc = .ok (.lstore_n f, 1)) {pc' : Nat} (hp : pc + 1 = pc') (hf : (f : Nat) = i) (x' : Int64) (hx' : x' = x) (hn : i + 1 < nL) (hl : (i, Value.long x') :: lv.filter (fun q => !(q.1 == i) && (!(q.1 == i + 1) && !(q.1 + 1 == i && q.2.category == 2))) = lv') (K : mV E M k n pc' lv' st) : mV E M k n pc lv (.long x :: st) := by
  subst hp
  obtain ⟨⟨p, l, e, R, s, m, args, below, meth, c⟩, D, nL', M0, QQ⟩ := E
  obtain ⟨hx, hb, hml, hr, hown, hts, hlk, hKK, hB, hR, hnm, hnl⟩ := C
  intro H locs ls a1 a2 a3 a4 a5
  subst hx'
  subst hnl
  exact lv_lstore_n hx hb hd hf a5 hn hl (fun ls' h' => K H locs ls' a1 a2 a3 a4 h')
theorem r_lstore {E : mE} {y : MethodName} {cc : ByteArray} {nL : Nat} {ret : Option FieldType} {rm : Room} {M : MM} {k n pc : Nat} {lv : List (Nat × Value)} {st : List Value} {i : Nat} {x : Int64} {lv' : List (Nat × Value)} (C : mC E y cc nL ret rm) (hd : decode cc pc = .ok (.lstore i, 2)) {pc' : Nat} (hp : pc + 2 = pc') (x' : Int64) (hx' : x' = x) (hn : i + 1 < nL) (hl : (i, Value.long x') :: lv.filter (fun q => !(q.1 == i) && (!(q.1 == i + 1) && !(q.1 + 1 == i && q.2.category == 2))) = lv') (K : mV E M k n pc' lv' st) : mV E M k n pc lv (.long x :: st) := by
  subst hp
  obtain ⟨⟨p, l, e, R, s, m, args, below, meth, c⟩, D, nL', M0, QQ⟩ := E
  obtain ⟨hx, hb, hml, hr, hown, hts, hlk, hKK, hB, hR, hnm, hnl⟩ := C
  intro H locs ls a1 a2 a3 a4 a5
  subst hx'
  subst hnl
  exact lv_lstore hx hb hd a5 hn hl (fun ls' h' => K H locs ls' a1 a2 a3 a4 h')
theorem r_astore_n {E : mE} {y : MethodName} {cc : ByteArray} {nL : Nat} {ret : Option FieldType} {rm : Room} {M : MM} {k n pc : Nat} {lv : List (Nat × Value)} {st : List Value} {f : Fin 4} {i : Nat} {x : Nat} {lv' : List (Nat × Value)} (C : mC E y cc nL ret rm) (hd : decode cc pc = .ok (.astore_n f, 1)) {pc' : Nat} (hp : pc + 1 = pc') (hf : (f : Nat) = i) (x' : Nat) (hx' : x' = x) (hn : i < nL) (hl : (i, Value.ref x') :: lv.filter (fun q => !(q.1 == i) && !(q.1 + 1 == i && q.2.category == 2)) = lv') (K : mV E M k n pc' lv' st) : mV E M k n pc lv (.ref x :: st) := by
  subst hp
  obtain ⟨⟨p, l, e, R, s, m, args, below, meth, c⟩, D, nL', M0, QQ⟩ := E
  obtain ⟨hx, hb, hml, hr, hown, hts, hlk, hKK, hB, hR, hnm, hnl⟩ := C
  intro H locs ls a1 a2 a3 a4 a5
  subst hx'
  subst hnl
  exact lv_astore_n hx hb hd hf a5 hn hl (fun ls' h' => K H locs ls' a1 a2 a3 a4 h')
theorem r_astore {E : mE} {y : MethodName} {cc : ByteArray} {nL : Nat} {ret : Option FieldType} {rm : Room} {M : MM} {k n pc : Nat} {lv : List (Nat × Value)} {st : List Value} {i : Nat} {x : Nat} {lv' : List (Nat × Value)} (C : mC E y cc nL ret rm) (hd : decode cc pc = .ok (.astore i, 2)) {pc' : Nat} (hp : pc + 2 = pc') (x' : Nat) (hx' : x' = x) (hn : i < nL) (hl : (i, Value.ref x') :: lv.filter (fun q => !(q.1 == i) && !(q.1 + 1 == i && q.2.category == 2)) = lv') (K : mV E M k n pc' lv' st) : mV E M k n pc lv (.ref x :: st) := by
  subst hp
  obtain ⟨⟨p, l, e, R, s, m, args, below, meth, c⟩, D, nL', M0, QQ⟩ := E
  obtain ⟨hx, hb, hml, hr, hown, hts, hlk, hKK, hB, hR, hnm, hnl⟩ := C
  intro H locs ls a1 a2 a3 a4 a5
  subst hx'
  subst hnl
  exact lv_astore hx hb hd a5 hn hl (fun ls' h' => K H locs ls' a1 a2 a3 a4 h')
theorem r_astore_nq {E : mE} {y : MethodName} {cc : ByteArray} {nL : Nat} {ret : Option FieldType} {rm : Room} {M : MM} {k n pc : Nat} {lv : List (Nat × Value)} {st : List Value} {f : Fin 4} {i : Nat} {x : Option Nat} {lv' : List (Nat × Value)} (C : mC E y cc nL ret rm) (hd : decode cc pc = .ok (.astore_n f, 1)) {pc' : Nat} (hp : pc + 1 = pc') (hf : (f : Nat) = i) (hn : i < nL) (hl : (i, va_rf x) :: lv.filter (fun q => !(q.1 == i) && !(q.1 + 1 == i && q.2.category == 2)) = lv') (K : mV E M k n pc' lv' st) : mV E M k n pc lv (va_rf x :: st) := by
  subst hp
  obtain ⟨⟨p, l, e, R, s, m, args, below, meth, c⟩, D, nL', M0, QQ⟩ := E
  obtain ⟨hx, hb, hml, hr, hown, hts, hlk, hKK, hB, hR, hnm, hnl⟩ := C
  intro H locs ls a1 a2 a3 a4 a5
  subst hnl
  cases x with
  | none => exact lv_astore_nN hx hb hd hf a5 hn hl (fun ls' h' => K H locs ls' a1 a2 a3 a4 h')
  | some x => exact lv_astore_n hx hb hd hf a5 hn hl (fun ls' h' => K H locs ls' a1 a2 a3 a4 h')
theorem r_astoreq {E : mE} {y : MethodName} {cc : ByteArray} {nL : Nat} {ret : Option FieldType} {rm : Room} {M : MM} {k n pc : Nat} {lv : List (Nat × Value)} {st : List Value} {i : Nat} {x : Option Nat} {lv' : List (Nat × Value)} (C : mC E y cc nL ret rm) (hd : decode cc pc = .ok (.astore i, 2)) {pc' : Nat} (hp : pc + 2 = pc') (hn : i < nL) (hl : (i, va_rf x) :: lv.filter (fun q => !(q.1 == i) && !(q.1 + 1 == i && q.2.category == 2)) = lv') (K : mV E M k n pc' lv' st) : mV E M k n pc lv (va_rf x :: st) := by
  subst hp
  obtain ⟨⟨p, l, e, R, s, m, args, below, meth, c⟩, D, nL', M0, QQ⟩ := E
  obtain ⟨hx, hb, hml, hr, hown, hts, hlk, hKK, hB, hR, hnm, hnl⟩ := C
  intro H locs ls a1 a2 a3 a4 a5
  subst hnl
  cases x with
  | none => exact lv_astoreN hx hb hd a5 hn hl (fun ls' h' => K H locs ls' a1 a2 a3 a4 h')
  | some x => exact lv_astore hx hb hd a5 hn hl (fun ls' h' => K H locs ls' a1 a2 a3 a4 h')
theorem r_iinc {E : mE} {y : MethodName} {cc : ByteArray} {nL : Nat} {ret : Option FieldType} {rm : Room} {M : MM} {k n pc : Nat} {lv : List (Nat × Value)} {st : List Value} {i j : Nat} {z : Int} {x : Int32} {lv' : List (Nat × Value)} (C : mC E y cc nL ret rm) (hd : decode cc pc = .ok (.iinc i z, 3)) {pc' : Nat} (hp : pc + 3 = pc') (h : lv[j]? = some (i, Value.int x)) (x' : Int32) (hx' : x' = x + Int32.ofInt z) (hn : i < nL) (hl : (i, Value.int x') :: lv.filter (fun q => !(q.1 == i) && !(q.1 + 1 == i && q.2.category == 2)) = lv') (K : mV E M k n pc' lv' st) : mV E M k n pc lv st := by
  subst hp
  obtain ⟨⟨p, l, e, R, s, m, args, below, meth, c⟩, D, nL', M0, QQ⟩ := E
  obtain ⟨hx, hb, hml, hr, hown, hts, hlk, hKK, hB, hR, hnm, hnl⟩ := C
  intro H locs ls a1 a2 a3 a4 a5
  subst hnl
  exact lv_iinc hx hb hd a5 h hx'.symm hn hl (fun ls' h' => K H locs ls' a1 a2 a3 a4 h')
theorem r_iadd {E : mE} {y : MethodName} {cc : ByteArray} {nL : Nat} {ret : Option FieldType} {rm : Room} {M : MM} {k n pc : Nat} {lv : List (Nat × Value)} {st : List Value} {x y' : Int32} (C : mC E y cc nL ret rm) (hd : decode cc pc = .ok (.iadd, 1)) {pc' : Nat} (hp : pc + 1 = pc')  (K : mV E M k n pc' lv (.int (x + y') :: st)) : mV E M k n pc lv (.int y' :: .int x :: st) := by
  subst hp
  obtain ⟨⟨p, l, e, R, s, m, args, below, meth, c⟩, D, nL', M0, QQ⟩ := E
  obtain ⟨hx, hb, hml, hr, hown, hts, hlk, hKK, hB, hR, hnm, hnl⟩ := C
  intro H locs ls a1 a2 a3 a4 a5
  exact lv_iadd hx hb hd (K H locs ls a1 a2 a3 a4 a5)
theorem r_isub {E : mE} {y : MethodName} {cc : ByteArray} {nL : Nat} {ret : Option FieldType} {rm : Room} {M : MM} {k n pc : Nat} {lv : List (Nat × Value)} {st : List Value} {x y' : Int32} (C : mC E y cc nL ret rm) (hd : decode cc pc = .ok (.isub, 1)) {pc' : Nat} (hp : pc + 1 = pc')  (K : mV E M k n pc' lv (.int (x - y') :: st)) : mV E M k n pc lv (.int y' :: .int x :: st) := by
  subst hp
  obtain ⟨⟨p, l, e, R, s, m, args, below, meth, c⟩, D, nL', M0, QQ⟩ := E
  obtain ⟨hx, hb, hml, hr, hown, hts, hlk, hKK, hB, hR, hnm, hnl⟩ := C
  intro H locs ls a1 a2 a3 a4 a5
  exact lv_isub hx hb hd (K H locs ls a1 a2 a3 a4 a5)
theorem r_imul {E : mE} {y : MethodName} {cc : ByteArray} {nL : Nat} {ret : Option FieldType} {rm : Room} {M : MM} {k n pc : Nat} {lv : List (Nat × Value)} {st : List Value} {x y' : Int32} (C : mC E y cc nL ret rm) (hd : decode cc pc = .ok (.imul, 1)) {pc' : Nat} (hp : pc + 1 = pc')  (K : mV E M k n pc' lv (.int (x * y') :: st)) : mV E M k n pc lv (.int y' :: .int x :: st) := by
  subst hp
  obtain ⟨⟨p, l, e, R, s, m, args, below, meth, c⟩, D, nL', M0, QQ⟩ := E
  obtain ⟨hx, hb, hml, hr, hown, hts, hlk, hKK, hB, hR, hnm, hnl⟩ := C
  intro H locs ls a1 a2 a3 a4 a5
  exact lv_imul hx hb hd (K H locs ls a1 a2 a3 a4 a5)
theorem r_iand {E : mE} {y : MethodName} {cc : ByteArray} {nL : Nat} {ret : Option FieldType} {rm : Room} {M : MM} {k n pc : Nat} {lv : List (Nat × Value)} {st : List Value} {x y' : Int32} (C : mC E y cc nL ret rm) (hd : decode cc pc = .ok (.iand, 1)) {pc' : Nat} (hp : pc + 1 = pc')  (K : mV E M k n pc' lv (.int (x &&& y') :: st)) : mV E M k n pc lv (.int y' :: .int x :: st) := by
  subst hp
  obtain ⟨⟨p, l, e, R, s, m, args, below, meth, c⟩, D, nL', M0, QQ⟩ := E
  obtain ⟨hx, hb, hml, hr, hown, hts, hlk, hKK, hB, hR, hnm, hnl⟩ := C
  intro H locs ls a1 a2 a3 a4 a5
  exact lv_iand hx hb hd (K H locs ls a1 a2 a3 a4 a5)
theorem r_ior {E : mE} {y : MethodName} {cc : ByteArray} {nL : Nat} {ret : Option FieldType} {rm : Room} {M : MM} {k n pc : Nat} {lv : List (Nat × Value)} {st : List Value} {x y' : Int32} (C : mC E y cc nL ret rm) (hd : decode cc pc = .ok (.ior, 1)) {pc' : Nat} (hp : pc + 1 = pc')  (K : mV E M k n pc' lv (.int (x ||| y') :: st)) : mV E M k n pc lv (.int y' :: .int x :: st) := by
  subst hp
  obtain ⟨⟨p, l, e, R, s, m, args, below, meth, c⟩, D, nL', M0, QQ⟩ := E
  obtain ⟨hx, hb, hml, hr, hown, hts, hlk, hKK, hB, hR, hnm, hnl⟩ := C
  intro H locs ls a1 a2 a3 a4 a5
  exact lv_ior hx hb hd (K H locs ls a1 a2 a3 a4 a5)
theorem r_ixor {E : mE} {y : MethodName} {cc : ByteArray} {nL : Nat} {ret : Option FieldType} {rm : Room} {M : MM} {k n pc : Nat} {lv : List (Nat × Value)} {st : List Value} {x y' : Int32} (C : mC E y cc nL ret rm) (hd : decode cc pc = .ok (.ixor, 1)) {pc' : Nat} (hp : pc + 1 = pc')  (K : mV E M k n pc' lv (.int (x ^^^ y') :: st)) : mV E M k n pc lv (.int y' :: .int x :: st) := by
  subst hp
  obtain ⟨⟨p, l, e, R, s, m, args, below, meth, c⟩, D, nL', M0, QQ⟩ := E
  obtain ⟨hx, hb, hml, hr, hown, hts, hlk, hKK, hB, hR, hnm, hnl⟩ := C
  intro H locs ls a1 a2 a3 a4 a5
  exact lv_ixor hx hb hd (K H locs ls a1 a2 a3 a4 a5)
theorem r_ishl {E : mE} {y : MethodName} {cc : ByteArray} {nL : Nat} {ret : Option FieldType} {rm : Room} {M : MM} {k n pc : Nat} {lv : List (Nat × Value)} {st : List Value} {x y' : Int32} (C : mC E y cc nL ret rm) (hd : decode cc pc = .ok (.ishl, 1)) {pc' : Nat} (hp : pc + 1 = pc')  (K : mV E M k n pc' lv (.int (x <<< (y' &&& 31)) :: st)) : mV E M k n pc lv (.int y' :: .int x :: st) := by
  subst hp
  obtain ⟨⟨p, l, e, R, s, m, args, below, meth, c⟩, D, nL', M0, QQ⟩ := E
  obtain ⟨hx, hb, hml, hr, hown, hts, hlk, hKK, hB, hR, hnm, hnl⟩ := C
  intro H locs ls a1 a2 a3 a4 a5
  exact lv_ishl hx hb hd (K H locs ls a1 a2 a3 a4 a5)
theorem r_ishr {E : mE} {y : MethodName} {cc : ByteArray} {nL : Nat} {ret : Option FieldType} {rm : Room} {M : MM} {k n pc : Nat} {lv : List (Nat × Value)} {st : List Value} {x y' : Int32} (C : mC E y cc nL ret rm) (hd : decode cc pc = .ok (.ishr, 1)) {pc' : Nat} (hp : pc + 1 = pc')  (K : mV E M k n pc' lv (.int (x >>> (y' &&& 31)) :: st)) : mV E M k n pc lv (.int y' :: .int x :: st) := by
  subst hp
  obtain ⟨⟨p, l, e, R, s, m, args, below, meth, c⟩, D, nL', M0, QQ⟩ := E
  obtain ⟨hx, hb, hml, hr, hown, hts, hlk, hKK, hB, hR, hnm, hnl⟩ := C
  intro H locs ls a1 a2 a3 a4 a5
  exact lv_ishr hx hb hd (K H locs ls a1 a2 a3 a4 a5)
theorem r_idiv {E : mE} {y : MethodName} {cc : ByteArray} {nL : Nat} {ret : Option FieldType} {rm : Room} {M : MM} {k n pc : Nat} {lv : List (Nat × Value)} {st : List Value} {x y' : Int32} (C : mC E y cc nL ret rm) (hd : decode cc pc = .ok (.idiv, 1)) {pc' : Nat} (hp : pc + 1 = pc') (hne : ¬ y' = 0) (K : mV E M k n pc' lv (Value.int (x / y') :: st)) : mV E M k n pc lv (.int y' :: .int x :: st) := by
  subst hp
  obtain ⟨⟨p, l, e, R, s, m, args, below, meth, c⟩, D, nL', M0, QQ⟩ := E
  obtain ⟨hx, hb, hml, hr, hown, hts, hlk, hKK, hB, hR, hnm, hnl⟩ := C
  intro H locs ls a1 a2 a3 a4 a5
  exact lv_idiv hx hb hd hne (K H locs ls a1 a2 a3 a4 a5)
theorem r_irem {E : mE} {y : MethodName} {cc : ByteArray} {nL : Nat} {ret : Option FieldType} {rm : Room} {M : MM} {k n pc : Nat} {lv : List (Nat × Value)} {st : List Value} {x y' : Int32} (C : mC E y cc nL ret rm) (hd : decode cc pc = .ok (.irem, 1)) {pc' : Nat} (hp : pc + 1 = pc') (hne : ¬ y' = 0) (K : mV E M k n pc' lv (Value.int (rm_ x y') :: st)) : mV E M k n pc lv (.int y' :: .int x :: st) := by
  subst hp
  obtain ⟨⟨p, l, e, R, s, m, args, below, meth, c⟩, D, nL', M0, QQ⟩ := E
  obtain ⟨hx, hb, hml, hr, hown, hts, hlk, hKK, hB, hR, hnm, hnl⟩ := C
  intro H locs ls a1 a2 a3 a4 a5
  exact lv_irem hx hb hd hne (K H locs ls a1 a2 a3 a4 a5)
theorem r_ineg {E : mE} {y : MethodName} {cc : ByteArray} {nL : Nat} {ret : Option FieldType} {rm : Room} {M : MM} {k n pc : Nat} {lv : List (Nat × Value)} {st : List Value} {x : Int32} (C : mC E y cc nL ret rm) (hd : decode cc pc = .ok (.ineg, 1)) {pc' : Nat} (hp : pc + 1 = pc')  (K : mV E M k n pc' lv (.int (-x) :: st)) : mV E M k n pc lv (.int x :: st) := by
  subst hp
  obtain ⟨⟨p, l, e, R, s, m, args, below, meth, c⟩, D, nL', M0, QQ⟩ := E
  obtain ⟨hx, hb, hml, hr, hown, hts, hlk, hKK, hB, hR, hnm, hnl⟩ := C
  intro H locs ls a1 a2 a3 a4 a5
  exact lv_ineg hx hb hd (K H locs ls a1 a2 a3 a4 a5)
theorem r_iushr {E : mE} {y : MethodName} {cc : ByteArray} {nL : Nat} {ret : Option FieldType} {rm : Room} {M : MM} {k n pc : Nat} {lv : List (Nat × Value)} {st : List Value} {x y' v : Int32} (C : mC E y cc nL ret rm) (hd : decode cc pc = .ok (.iushr, 1)) {pc' : Nat} (hp : pc + 1 = pc') (hv : (x.toUInt32 >>> (y'.toUInt32 &&& Int32.toUInt32 31)).toInt32 = v) (K : mV E M k n pc' lv (.int v :: st)) : mV E M k n pc lv (.int y' :: .int x :: st) := by
  subst hp
  obtain ⟨⟨p, l, e, R, s, m, args, below, meth, c⟩, D, nL', M0, QQ⟩ := E
  obtain ⟨hx, hb, hml, hr, hown, hts, hlk, hKK, hB, hR, hnm, hnl⟩ := C
  intro H locs ls a1 a2 a3 a4 a5
  exact lv_iushr hx hb hd hv (K H locs ls a1 a2 a3 a4 a5)
theorem r_ladd {E : mE} {y : MethodName} {cc : ByteArray} {nL : Nat} {ret : Option FieldType} {rm : Room} {M : MM} {k n pc : Nat} {lv : List (Nat × Value)} {st : List Value} {x y' : Int64} (C : mC E y cc nL ret rm) (hd : decode cc pc = .ok (.ladd, 1)) {pc' : Nat} (hp : pc + 1 = pc')  (K : mV E M k n pc' lv (.long (x + y') :: st)) : mV E M k n pc lv (.long y' :: .long x :: st) := by
  subst hp
  obtain ⟨⟨p, l, e, R, s, m, args, below, meth, c⟩, D, nL', M0, QQ⟩ := E
  obtain ⟨hx, hb, hml, hr, hown, hts, hlk, hKK, hB, hR, hnm, hnl⟩ := C
  intro H locs ls a1 a2 a3 a4 a5
  exact lv_ladd hx hb hd (K H locs ls a1 a2 a3 a4 a5)
theorem r_lsub {E : mE} {y : MethodName} {cc : ByteArray} {nL : Nat} {ret : Option FieldType} {rm : Room} {M : MM} {k n pc : Nat} {lv : List (Nat × Value)} {st : List Value} {x y' : Int64} (C : mC E y cc nL ret rm) (hd : decode cc pc = .ok (.lsub, 1)) {pc' : Nat} (hp : pc + 1 = pc')  (K : mV E M k n pc' lv (.long (x - y') :: st)) : mV E M k n pc lv (.long y' :: .long x :: st) := by
  subst hp
  obtain ⟨⟨p, l, e, R, s, m, args, below, meth, c⟩, D, nL', M0, QQ⟩ := E
  obtain ⟨hx, hb, hml, hr, hown, hts, hlk, hKK, hB, hR, hnm, hnl⟩ := C
  intro H locs ls a1 a2 a3 a4 a5
  exact lv_lsub hx hb hd (K H locs ls a1 a2 a3 a4 a5)
theorem r_lmul {E : mE} {y : MethodName} {cc : ByteArray} {nL : Nat} {ret : Option FieldType} {rm : Room} {M : MM} {k n pc : Nat} {lv : List (Nat × Value)} {st : List Value} {x y' : Int64} (C : mC E y cc nL ret rm) (hd : decode cc pc = .ok (.lmul, 1)) {pc' : Nat} (hp : pc + 1 = pc')  (K : mV E M k n pc' lv (.long (x * y') :: st)) : mV E M k n pc lv (.long y' :: .long x :: st) := by
  subst hp
  obtain ⟨⟨p, l, e, R, s, m, args, below, meth, c⟩, D, nL', M0, QQ⟩ := E
  obtain ⟨hx, hb, hml, hr, hown, hts, hlk, hKK, hB, hR, hnm, hnl⟩ := C
  intro H locs ls a1 a2 a3 a4 a5
  exact lv_lmul hx hb hd (K H locs ls a1 a2 a3 a4 a5)
theorem r_ldiv {E : mE} {y : MethodName} {cc : ByteArray} {nL : Nat} {ret : Option FieldType} {rm : Room} {M : MM} {k n pc : Nat} {lv : List (Nat × Value)} {st : List Value} {x y' : Int64} (C : mC E y cc nL ret rm) (hd : decode cc pc = .ok (.ldiv, 1)) {pc' : Nat} (hp : pc + 1 = pc') (hne : ¬ y' = 0) (K : mV E M k n pc' lv (Value.long (x / y') :: st)) : mV E M k n pc lv (.long y' :: .long x :: st) := by
  subst hp
  obtain ⟨⟨p, l, e, R, s, m, args, below, meth, c⟩, D, nL', M0, QQ⟩ := E
  obtain ⟨hx, hb, hml, hr, hown, hts, hlk, hKK, hB, hR, hnm, hnl⟩ := C
  intro H locs ls a1 a2 a3 a4 a5
  exact lv_ldiv hx hb hd hne (K H locs ls a1 a2 a3 a4 a5)
theorem r_lrem {E : mE} {y : MethodName} {cc : ByteArray} {nL : Nat} {ret : Option FieldType} {rm : Room} {M : MM} {k n pc : Nat} {lv : List (Nat × Value)} {st : List Value} {x y' : Int64} (C : mC E y cc nL ret rm) (hd : decode cc pc = .ok (.lrem, 1)) {pc' : Nat} (hp : pc + 1 = pc') (hne : ¬ y' = 0) (K : mV E M k n pc' lv (Value.long (rmL_ x y') :: st)) : mV E M k n pc lv (.long y' :: .long x :: st) := by
  subst hp
  obtain ⟨⟨p, l, e, R, s, m, args, below, meth, c⟩, D, nL', M0, QQ⟩ := E
  obtain ⟨hx, hb, hml, hr, hown, hts, hlk, hKK, hB, hR, hnm, hnl⟩ := C
  intro H locs ls a1 a2 a3 a4 a5
  exact lv_lrem hx hb hd hne (K H locs ls a1 a2 a3 a4 a5)
theorem r_lcmp {E : mE} {y : MethodName} {cc : ByteArray} {nL : Nat} {ret : Option FieldType} {rm : Room} {M : MM} {k n pc : Nat} {lv : List (Nat × Value)} {st : List Value} {x y' : Int64} (C : mC E y cc nL ret rm) (hd : decode cc pc = .ok (.lcmp, 1)) {pc' : Nat} (hp : pc + 1 = pc')  (K : mV E M k n pc' lv (Value.int (lg_cmp x y') :: st)) : mV E M k n pc lv (.long y' :: .long x :: st) := by
  subst hp
  obtain ⟨⟨p, l, e, R, s, m, args, below, meth, c⟩, D, nL', M0, QQ⟩ := E
  obtain ⟨hx, hb, hml, hr, hown, hts, hlk, hKK, hB, hR, hnm, hnl⟩ := C
  intro H locs ls a1 a2 a3 a4 a5
  exact W.lcmp hx hb hd (K H locs ls a1 a2 a3 a4 a5)
theorem r_i2l {E : mE} {y : MethodName} {cc : ByteArray} {nL : Nat} {ret : Option FieldType} {rm : Room} {M : MM} {k n pc : Nat} {lv : List (Nat × Value)} {st : List Value} {x : Int32} (C : mC E y cc nL ret rm) (hd : decode cc pc = .ok (.i2l, 1)) {pc' : Nat} (hp : pc + 1 = pc')  (K : mV E M k n pc' lv (.long x.toInt64 :: st)) : mV E M k n pc lv (.int x :: st) := by
  subst hp
  obtain ⟨⟨p, l, e, R, s, m, args, below, meth, c⟩, D, nL', M0, QQ⟩ := E
  obtain ⟨hx, hb, hml, hr, hown, hts, hlk, hKK, hB, hR, hnm, hnl⟩ := C
  intro H locs ls a1 a2 a3 a4 a5
  exact lv_i2l hx hb hd rfl (K H locs ls a1 a2 a3 a4 a5)
theorem r_l2i {E : mE} {y : MethodName} {cc : ByteArray} {nL : Nat} {ret : Option FieldType} {rm : Room} {M : MM} {k n pc : Nat} {lv : List (Nat × Value)} {st : List Value} {x : Int64} (C : mC E y cc nL ret rm) (hd : decode cc pc = .ok (.l2i, 1)) {pc' : Nat} (hp : pc + 1 = pc')  (K : mV E M k n pc' lv (.int x.toInt32 :: st)) : mV E M k n pc lv (.long x :: st) := by
  subst hp
  obtain ⟨⟨p, l, e, R, s, m, args, below, meth, c⟩, D, nL', M0, QQ⟩ := E
  obtain ⟨hx, hb, hml, hr, hown, hts, hlk, hKK, hB, hR, hnm, hnl⟩ := C
  intro H locs ls a1 a2 a3 a4 a5
  exact lv_l2i hx hb hd rfl (K H locs ls a1 a2 a3 a4 a5)
theorem r_i2b {E : mE} {y : MethodName} {cc : ByteArray} {nL : Nat} {ret : Option FieldType} {rm : Room} {M : MM} {k n pc : Nat} {lv : List (Nat × Value)} {st : List Value} {x : Int32} (C : mC E y cc nL ret rm) (hd : decode cc pc = .ok (.i2b, 1)) {pc' : Nat} (hp : pc + 1 = pc')  (K : mV E M k n pc' lv (.int x.toInt8.toInt32 :: st)) : mV E M k n pc lv (.int x :: st) := by
  subst hp
  obtain ⟨⟨p, l, e, R, s, m, args, below, meth, c⟩, D, nL', M0, QQ⟩ := E
  obtain ⟨hx, hb, hml, hr, hown, hts, hlk, hKK, hB, hR, hnm, hnl⟩ := C
  intro H locs ls a1 a2 a3 a4 a5
  exact lv_i2b hx hb hd rfl (K H locs ls a1 a2 a3 a4 a5)
theorem r_dup {E : mE} {y : MethodName} {cc : ByteArray} {nL : Nat} {ret : Option FieldType} {rm : Room} {M : MM} {k n pc : Nat} {lv : List (Nat × Value)} {st : List Value} {va : Value} (C : mC E y cc nL ret rm) (hd : decode cc pc = .ok (.dup, 1)) {pc' : Nat} (hp : pc + 1 = pc') (h1 : va.category = 1) (K : mV E M k n pc' lv (va :: va :: st)) : mV E M k n pc lv (va :: st) := by
  subst hp
  obtain ⟨⟨p, l, e, R, s, m, args, below, meth, c⟩, D, nL', M0, QQ⟩ := E
  obtain ⟨hx, hb, hml, hr, hown, hts, hlk, hKK, hB, hR, hnm, hnl⟩ := C
  intro H locs ls a1 a2 a3 a4 a5
  exact lv_dup hx hb hd h1 (K H locs ls a1 a2 a3 a4 a5)
theorem r_pop {E : mE} {y : MethodName} {cc : ByteArray} {nL : Nat} {ret : Option FieldType} {rm : Room} {M : MM} {k n pc : Nat} {lv : List (Nat × Value)} {st : List Value} {va : Value} (C : mC E y cc nL ret rm) (hd : decode cc pc = .ok (.pop, 1)) {pc' : Nat} (hp : pc + 1 = pc') (h1 : va.category = 1) (K : mV E M k n pc' lv (st)) : mV E M k n pc lv (va :: st) := by
  subst hp
  obtain ⟨⟨p, l, e, R, s, m, args, below, meth, c⟩, D, nL', M0, QQ⟩ := E
  obtain ⟨hx, hb, hml, hr, hown, hts, hlk, hKK, hB, hR, hnm, hnl⟩ := C
  intro H locs ls a1 a2 a3 a4 a5
  exact lv_pop hx hb hd h1 (K H locs ls a1 a2 a3 a4 a5)
theorem r_dup_x1 {E : mE} {y : MethodName} {cc : ByteArray} {nL : Nat} {ret : Option FieldType} {rm : Room} {M : MM} {k n pc : Nat} {lv : List (Nat × Value)} {st : List Value} {va vb : Value} (C : mC E y cc nL ret rm) (hd : decode cc pc = .ok (.dup_x1, 1)) {pc' : Nat} (hp : pc + 1 = pc') (h1 : va.category = 1) (h2 : vb.category = 1) (K : mV E M k n pc' lv (va :: vb :: va :: st)) : mV E M k n pc lv (va :: vb :: st) := by
  subst hp
  obtain ⟨⟨p, l, e, R, s, m, args, below, meth, c⟩, D, nL', M0, QQ⟩ := E
  obtain ⟨hx, hb, hml, hr, hown, hts, hlk, hKK, hB, hR, hnm, hnl⟩ := C
  intro H locs ls a1 a2 a3 a4 a5
  exact lv_dup_x1 hx hb hd h1 h2 (K H locs ls a1 a2 a3 a4 a5)
theorem r_dup2_11 {E : mE} {y : MethodName} {cc : ByteArray} {nL : Nat} {ret : Option FieldType} {rm : Room} {M : MM} {k n pc : Nat} {lv : List (Nat × Value)} {st : List Value} {va vb : Value} (C : mC E y cc nL ret rm) (hd : decode cc pc = .ok (.dup2, 1)) {pc' : Nat} (hp : pc + 1 = pc') (h1 : va.category = 1) (h2 : vb.category = 1) (K : mV E M k n pc' lv (va :: vb :: va :: vb :: st)) : mV E M k n pc lv (va :: vb :: st) := by
  subst hp
  obtain ⟨⟨p, l, e, R, s, m, args, below, meth, c⟩, D, nL', M0, QQ⟩ := E
  obtain ⟨hx, hb, hml, hr, hown, hts, hlk, hKK, hB, hR, hnm, hnl⟩ := C
  intro H locs ls a1 a2 a3 a4 a5
  exact lv_dup2_11 hx hb hd h1 h2 (K H locs ls a1 a2 a3 a4 a5)
theorem r_dup2_2 {E : mE} {y : MethodName} {cc : ByteArray} {nL : Nat} {ret : Option FieldType} {rm : Room} {M : MM} {k n pc : Nat} {lv : List (Nat × Value)} {st : List Value} {va : Value} (C : mC E y cc nL ret rm) (hd : decode cc pc = .ok (.dup2, 1)) {pc' : Nat} (hp : pc + 1 = pc') (h1 : va.category = 2) (K : mV E M k n pc' lv (va :: va :: st)) : mV E M k n pc lv (va :: st) := by
  subst hp
  obtain ⟨⟨p, l, e, R, s, m, args, below, meth, c⟩, D, nL', M0, QQ⟩ := E
  obtain ⟨hx, hb, hml, hr, hown, hts, hlk, hKK, hB, hR, hnm, hnl⟩ := C
  intro H locs ls a1 a2 a3 a4 a5
  exact lv_dup2_2 hx hb hd h1 (K H locs ls a1 a2 a3 a4 a5)
theorem r_pop2_2 {E : mE} {y : MethodName} {cc : ByteArray} {nL : Nat} {ret : Option FieldType} {rm : Room} {M : MM} {k n pc : Nat} {lv : List (Nat × Value)} {st : List Value} {va : Value} (C : mC E y cc nL ret rm) (hd : decode cc pc = .ok (.pop2, 1)) {pc' : Nat} (hp : pc + 1 = pc') (h1 : va.category = 2) (K : mV E M k n pc' lv (st)) : mV E M k n pc lv (va :: st) := by
  subst hp
  obtain ⟨⟨p, l, e, R, s, m, args, below, meth, c⟩, D, nL', M0, QQ⟩ := E
  obtain ⟨hx, hb, hml, hr, hown, hts, hlk, hKK, hB, hR, hnm, hnl⟩ := C
  intro H locs ls a1 a2 a3 a4 a5
  exact lv_pop2_2 hx hb hd h1 (K H locs ls a1 a2 a3 a4 a5)
theorem r_if_eq {E : mE} {y : MethodName} {cc : ByteArray} {nL : Nat} {ret : Option FieldType} {rm : Room} {M : MM} {k n pc : Nat} {lv : List (Nat × Value)} {st : List Value} {x : Int32} {off : Int} {tgt : Nat} (C : mC E y cc nL ret rm) (hd : decode cc pc = .ok (.ifCond .eq off, 3)) {pc' : Nat} (hp : pc + 3 = pc') (ht : (pc : Int) + off = (tgt : Int)) (kt : x = 0 → mV E M k n tgt lv st) (kf : ¬ x = 0 → mV E M k n pc' lv st) : mV E M k n pc lv (.int x :: st) := by
  subst hp
  obtain ⟨⟨p, l, e, R, s, m, args, below, meth, c⟩, D, nL', M0, QQ⟩ := E
  obtain ⟨hx, hb, hml, hr, hown, hts, hlk, hKK, hB, hR, hnm, hnl⟩ := C
  intro H locs ls a1 a2 a3 a4 a5
  exact lv_if_eq hx hb hd ht (fun h => kt h H locs ls a1 a2 a3 a4 a5) (fun h => kf h H locs ls a1 a2 a3 a4 a5)
theorem r_if_ne {E : mE} {y : MethodName} {cc : ByteArray} {nL : Nat} {ret : Option FieldType} {rm : Room} {M : MM} {k n pc : Nat} {lv : List (Nat × Value)} {st : List Value} {x : Int32} {off : Int} {tgt : Nat} (C : mC E y cc nL ret rm) (hd : decode cc pc = .ok (.ifCond .ne off, 3)) {pc' : Nat} (hp : pc + 3 = pc') (ht : (pc : Int) + off = (tgt : Int)) (kt : ¬ x = 0 → mV E M k n tgt lv st) (kf : x = 0 → mV E M k n pc' lv st) : mV E M k n pc lv (.int x :: st) := by
  subst hp
  obtain ⟨⟨p, l, e, R, s, m, args, below, meth, c⟩, D, nL', M0, QQ⟩ := E
  obtain ⟨hx, hb, hml, hr, hown, hts, hlk, hKK, hB, hR, hnm, hnl⟩ := C
  intro H locs ls a1 a2 a3 a4 a5
  exact lv_if_ne hx hb hd ht (fun h => kt h H locs ls a1 a2 a3 a4 a5) (fun h => kf h H locs ls a1 a2 a3 a4 a5)
theorem r_if_lt {E : mE} {y : MethodName} {cc : ByteArray} {nL : Nat} {ret : Option FieldType} {rm : Room} {M : MM} {k n pc : Nat} {lv : List (Nat × Value)} {st : List Value} {x : Int32} {off : Int} {tgt : Nat} (C : mC E y cc nL ret rm) (hd : decode cc pc = .ok (.ifCond .lt off, 3)) {pc' : Nat} (hp : pc + 3 = pc') (ht : (pc : Int) + off = (tgt : Int)) (kt : x < 0 → mV E M k n tgt lv st) (kf : ¬ x < 0 → mV E M k n pc' lv st) : mV E M k n pc lv (.int x :: st) := by
  subst hp
  obtain ⟨⟨p, l, e, R, s, m, args, below, meth, c⟩, D, nL', M0, QQ⟩ := E
  obtain ⟨hx, hb, hml, hr, hown, hts, hlk, hKK, hB, hR, hnm, hnl⟩ := C
  intro H locs ls a1 a2 a3 a4 a5
  exact lv_if_lt hx hb hd ht (fun h => kt h H locs ls a1 a2 a3 a4 a5) (fun h => kf h H locs ls a1 a2 a3 a4 a5)
theorem r_if_ge {E : mE} {y : MethodName} {cc : ByteArray} {nL : Nat} {ret : Option FieldType} {rm : Room} {M : MM} {k n pc : Nat} {lv : List (Nat × Value)} {st : List Value} {x : Int32} {off : Int} {tgt : Nat} (C : mC E y cc nL ret rm) (hd : decode cc pc = .ok (.ifCond .ge off, 3)) {pc' : Nat} (hp : pc + 3 = pc') (ht : (pc : Int) + off = (tgt : Int)) (kt : 0 ≤ x → mV E M k n tgt lv st) (kf : ¬ 0 ≤ x → mV E M k n pc' lv st) : mV E M k n pc lv (.int x :: st) := by
  subst hp
  obtain ⟨⟨p, l, e, R, s, m, args, below, meth, c⟩, D, nL', M0, QQ⟩ := E
  obtain ⟨hx, hb, hml, hr, hown, hts, hlk, hKK, hB, hR, hnm, hnl⟩ := C
  intro H locs ls a1 a2 a3 a4 a5
  exact lv_if_ge hx hb hd ht (fun h => kt h H locs ls a1 a2 a3 a4 a5) (fun h => kf h H locs ls a1 a2 a3 a4 a5)
theorem r_if_gt {E : mE} {y : MethodName} {cc : ByteArray} {nL : Nat} {ret : Option FieldType} {rm : Room} {M : MM} {k n pc : Nat} {lv : List (Nat × Value)} {st : List Value} {x : Int32} {off : Int} {tgt : Nat} (C : mC E y cc nL ret rm) (hd : decode cc pc = .ok (.ifCond .gt off, 3)) {pc' : Nat} (hp : pc + 3 = pc') (ht : (pc : Int) + off = (tgt : Int)) (kt : 0 < x → mV E M k n tgt lv st) (kf : ¬ 0 < x → mV E M k n pc' lv st) : mV E M k n pc lv (.int x :: st) := by
  subst hp
  obtain ⟨⟨p, l, e, R, s, m, args, below, meth, c⟩, D, nL', M0, QQ⟩ := E
  obtain ⟨hx, hb, hml, hr, hown, hts, hlk, hKK, hB, hR, hnm, hnl⟩ := C
  intro H locs ls a1 a2 a3 a4 a5
  exact lv_if_gt hx hb hd ht (fun h => kt h H locs ls a1 a2 a3 a4 a5) (fun h => kf h H locs ls a1 a2 a3 a4 a5)
theorem r_if_le {E : mE} {y : MethodName} {cc : ByteArray} {nL : Nat} {ret : Option FieldType} {rm : Room} {M : MM} {k n pc : Nat} {lv : List (Nat × Value)} {st : List Value} {x : Int32} {off : Int} {tgt : Nat} (C : mC E y cc nL ret rm) (hd : decode cc pc = .ok (.ifCond .le off, 3)) {pc' : Nat} (hp : pc + 3 = pc') (ht : (pc : Int) + off = (tgt : Int)) (kt : x ≤ 0 → mV E M k n tgt lv st) (kf : ¬ x ≤ 0 → mV E M k n pc' lv st) : mV E M k n pc lv (.int x :: st) := by
  subst hp
  obtain ⟨⟨p, l, e, R, s, m, args, below, meth, c⟩, D, nL', M0, QQ⟩ := E
  obtain ⟨hx, hb, hml, hr, hown, hts, hlk, hKK, hB, hR, hnm, hnl⟩ := C
  intro H locs ls a1 a2 a3 a4 a5
  exact lv_if_le hx hb hd ht (fun h => kt h H locs ls a1 a2 a3 a4 a5) (fun h => kf h H locs ls a1 a2 a3 a4 a5)
theorem r_icmp_eq {E : mE} {y : MethodName} {cc : ByteArray} {nL : Nat} {ret : Option FieldType} {rm : Room} {M : MM} {k n pc : Nat} {lv : List (Nat × Value)} {st : List Value} {x y' : Int32} {off : Int} {tgt : Nat} (C : mC E y cc nL ret rm) (hd : decode cc pc = .ok (.if_icmp .eq off, 3)) {pc' : Nat} (hp : pc + 3 = pc') (ht : (pc : Int) + off = (tgt : Int)) (kt : x = y' → mV E M k n tgt lv st) (kf : ¬ x = y' → mV E M k n pc' lv st) : mV E M k n pc lv (Value.int y' :: .int x :: st) := by
  subst hp
  obtain ⟨⟨p, l, e, R, s, m, args, below, meth, c⟩, D, nL', M0, QQ⟩ := E
  obtain ⟨hx, hb, hml, hr, hown, hts, hlk, hKK, hB, hR, hnm, hnl⟩ := C
  intro H locs ls a1 a2 a3 a4 a5
  exact lv_icmp_eq hx hb hd ht (fun h => kt h H locs ls a1 a2 a3 a4 a5) (fun h => kf h H locs ls a1 a2 a3 a4 a5)
theorem r_icmp_ne {E : mE} {y : MethodName} {cc : ByteArray} {nL : Nat} {ret : Option FieldType} {rm : Room} {M : MM} {k n pc : Nat} {lv : List (Nat × Value)} {st : List Value} {x y' : Int32} {off : Int} {tgt : Nat} (C : mC E y cc nL ret rm) (hd : decode cc pc = .ok (.if_icmp .ne off, 3)) {pc' : Nat} (hp : pc + 3 = pc') (ht : (pc : Int) + off = (tgt : Int)) (kt : ¬ x = y' → mV E M k n tgt lv st) (kf : x = y' → mV E M k n pc' lv st) : mV E M k n pc lv (Value.int y' :: .int x :: st) := by
  subst hp
  obtain ⟨⟨p, l, e, R, s, m, args, below, meth, c⟩, D, nL', M0, QQ⟩ := E
  obtain ⟨hx, hb, hml, hr, hown, hts, hlk, hKK, hB, hR, hnm, hnl⟩ := C
  intro H locs ls a1 a2 a3 a4 a5
  exact lv_icmp_ne hx hb hd ht (fun h => kt h H locs ls a1 a2 a3 a4 a5) (fun h => kf h H locs ls a1 a2 a3 a4 a5)
theorem r_icmp_lt {E : mE} {y : MethodName} {cc : ByteArray} {nL : Nat} {ret : Option FieldType} {rm : Room} {M : MM} {k n pc : Nat} {lv : List (Nat × Value)} {st : List Value} {x y' : Int32} {off : Int} {tgt : Nat} (C : mC E y cc nL ret rm) (hd : decode cc pc = .ok (.if_icmp .lt off, 3)) {pc' : Nat} (hp : pc + 3 = pc') (ht : (pc : Int) + off = (tgt : Int)) (kt : x < y' → mV E M k n tgt lv st) (kf : ¬ x < y' → mV E M k n pc' lv st) : mV E M k n pc lv (Value.int y' :: .int x :: st) := by
  subst hp
  obtain ⟨⟨p, l, e, R, s, m, args, below, meth, c⟩, D, nL', M0, QQ⟩ := E
  obtain ⟨hx, hb, hml, hr, hown, hts, hlk, hKK, hB, hR, hnm, hnl⟩ := C
  intro H locs ls a1 a2 a3 a4 a5
  exact lv_icmp_lt hx hb hd ht (fun h => kt h H locs ls a1 a2 a3 a4 a5) (fun h => kf h H locs ls a1 a2 a3 a4 a5)
theorem r_icmp_ge {E : mE} {y : MethodName} {cc : ByteArray} {nL : Nat} {ret : Option FieldType} {rm : Room} {M : MM} {k n pc : Nat} {lv : List (Nat × Value)} {st : List Value} {x y' : Int32} {off : Int} {tgt : Nat} (C : mC E y cc nL ret rm) (hd : decode cc pc = .ok (.if_icmp .ge off, 3)) {pc' : Nat} (hp : pc + 3 = pc') (ht : (pc : Int) + off = (tgt : Int)) (kt : y' ≤ x → mV E M k n tgt lv st) (kf : ¬ y' ≤ x → mV E M k n pc' lv st) : mV E M k n pc lv (Value.int y' :: .int x :: st) := by
  subst hp
  obtain ⟨⟨p, l, e, R, s, m, args, below, meth, c⟩, D, nL', M0, QQ⟩ := E
  obtain ⟨hx, hb, hml, hr, hown, hts, hlk, hKK, hB, hR, hnm, hnl⟩ := C
  intro H locs ls a1 a2 a3 a4 a5
  exact lv_icmp_ge hx hb hd ht (fun h => kt h H locs ls a1 a2 a3 a4 a5) (fun h => kf h H locs ls a1 a2 a3 a4 a5)
theorem r_icmp_gt {E : mE} {y : MethodName} {cc : ByteArray} {nL : Nat} {ret : Option FieldType} {rm : Room} {M : MM} {k n pc : Nat} {lv : List (Nat × Value)} {st : List Value} {x y' : Int32} {off : Int} {tgt : Nat} (C : mC E y cc nL ret rm) (hd : decode cc pc = .ok (.if_icmp .gt off, 3)) {pc' : Nat} (hp : pc + 3 = pc') (ht : (pc : Int) + off = (tgt : Int)) (kt : y' < x → mV E M k n tgt lv st) (kf : ¬ y' < x → mV E M k n pc' lv st) : mV E M k n pc lv (Value.int y' :: .int x :: st) := by
  subst hp
  obtain ⟨⟨p, l, e, R, s, m, args, below, meth, c⟩, D, nL', M0, QQ⟩ := E
  obtain ⟨hx, hb, hml, hr, hown, hts, hlk, hKK, hB, hR, hnm, hnl⟩ := C
  intro H locs ls a1 a2 a3 a4 a5
  exact lv_icmp_gt hx hb hd ht (fun h => kt h H locs ls a1 a2 a3 a4 a5) (fun h => kf h H locs ls a1 a2 a3 a4 a5)
theorem r_icmp_le {E : mE} {y : MethodName} {cc : ByteArray} {nL : Nat} {ret : Option FieldType} {rm : Room} {M : MM} {k n pc : Nat} {lv : List (Nat × Value)} {st : List Value} {x y' : Int32} {off : Int} {tgt : Nat} (C : mC E y cc nL ret rm) (hd : decode cc pc = .ok (.if_icmp .le off, 3)) {pc' : Nat} (hp : pc + 3 = pc') (ht : (pc : Int) + off = (tgt : Int)) (kt : x ≤ y' → mV E M k n tgt lv st) (kf : ¬ x ≤ y' → mV E M k n pc' lv st) : mV E M k n pc lv (Value.int y' :: .int x :: st) := by
  subst hp
  obtain ⟨⟨p, l, e, R, s, m, args, below, meth, c⟩, D, nL', M0, QQ⟩ := E
  obtain ⟨hx, hb, hml, hr, hown, hts, hlk, hKK, hB, hR, hnm, hnl⟩ := C
  intro H locs ls a1 a2 a3 a4 a5
  exact lv_icmp_le hx hb hd ht (fun h => kt h H locs ls a1 a2 a3 a4 a5) (fun h => kf h H locs ls a1 a2 a3 a4 a5)
theorem r_ifnull {E : mE} {y : MethodName} {cc : ByteArray} {nL : Nat} {ret : Option FieldType} {rm : Room} {M : MM} {k n pc : Nat} {lv : List (Nat × Value)} {st : List Value} {x : Option Nat} {off : Int} {tgt : Nat} (C : mC E y cc nL ret rm) (hd : decode cc pc = .ok (.ifnull off, 3)) {pc' : Nat} (hp : pc + 3 = pc') (ht : (pc : Int) + off = (tgt : Int)) (kt : x = none → mV E M k n tgt lv st) (kf : ¬ x = none → mV E M k n pc' lv st) : mV E M k n pc lv (va_rf x :: st) := by
  subst hp
  obtain ⟨⟨p, l, e, R, s, m, args, below, meth, c⟩, D, nL', M0, QQ⟩ := E
  obtain ⟨hx, hb, hml, hr, hown, hts, hlk, hKK, hB, hR, hnm, hnl⟩ := C
  intro H locs ls a1 a2 a3 a4 a5
  cases x with
  | none => exact lv_ifnullN hx hb hd ht (kt rfl H locs ls a1 a2 a3 a4 a5)
  | some x => exact lv_ifnull hx hb hd (kf (fun h => by cases h) H locs ls a1 a2 a3 a4 a5)
theorem r_ifnonnull {E : mE} {y : MethodName} {cc : ByteArray} {nL : Nat} {ret : Option FieldType} {rm : Room} {M : MM} {k n pc : Nat} {lv : List (Nat × Value)} {st : List Value} {x : Option Nat} {off : Int} {tgt : Nat} (C : mC E y cc nL ret rm) (hd : decode cc pc = .ok (.ifnonnull off, 3)) {pc' : Nat} (hp : pc + 3 = pc') (ht : (pc : Int) + off = (tgt : Int)) (kt : ¬ x = none → mV E M k n tgt lv st) (kf : x = none → mV E M k n pc' lv st) : mV E M k n pc lv (va_rf x :: st) := by
  subst hp
  obtain ⟨⟨p, l, e, R, s, m, args, below, meth, c⟩, D, nL', M0, QQ⟩ := E
  obtain ⟨hx, hb, hml, hr, hown, hts, hlk, hKK, hB, hR, hnm, hnl⟩ := C
  intro H locs ls a1 a2 a3 a4 a5
  cases x with
  | none => exact lv_ifnonnullN hx hb hd (kf rfl H locs ls a1 a2 a3 a4 a5)
  | some x => exact lv_ifnonnull hx hb hd ht (kt (fun h => by cases h) H locs ls a1 a2 a3 a4 a5)
theorem r_goto {E : mE} {y : MethodName} {cc : ByteArray} {nL : Nat} {ret : Option FieldType} {rm : Room} {M : MM} {k n pc : Nat} {lv : List (Nat × Value)} {st : List Value} {off : Int} {tgt : Nat} (C : mC E y cc nL ret rm) (hd : decode cc pc = .ok (.goto off, 3)) (ht : (pc : Int) + off = (tgt : Int)) (K : mV E M k n tgt lv st) : mV E M k n pc lv st := by
  obtain ⟨⟨p, l, e, R, s, m, args, below, meth, c⟩, D, nL', M0, QQ⟩ := E
  obtain ⟨hx, hb, hml, hr, hown, hts, hlk, hKK, hB, hR, hnm, hnl⟩ := C
  intro H locs ls a1 a2 a3 a4 a5
  exact lv_goto hx hb hd ht (K H locs ls a1 a2 a3 a4 a5)
theorem r_tsOut {E : mE} {y : MethodName} {cc : ByteArray} {nL : Nat} {ret : Option FieldType} {rm : Room} {M : MM} {k n pc : Nat} {lv : List (Nat × Value)} {st : List Value} {dflt lo hi : Int} {offs : Array Int} {len : Nat} {x : Int32} {tgt : Nat} (C : mC E y cc nL ret rm) (hd : decode cc pc = .ok (.tableswitch dflt lo hi offs, len)) (h : x.toInt < lo ∨ hi < x.toInt) (ht : (pc : Int) + dflt = (tgt : Int)) (K : mV E M k n tgt lv st) : mV E M k n pc lv (.int x :: st) := by
  obtain ⟨⟨p, l, e, R, s, m, args, below, meth, c⟩, D, nL', M0, QQ⟩ := E
  obtain ⟨hx, hb, hml, hr, hown, hts, hlk, hKK, hB, hR, hnm, hnl⟩ := C
  intro H locs ls a1 a2 a3 a4 a5
  exact lv_tableOut hx hb hd h ht (K H locs ls a1 a2 a3 a4 a5)
theorem r_tsIn {E : mE} {y : MethodName} {cc : ByteArray} {nL : Nat} {ret : Option FieldType} {rm : Room} {M : MM} {k n pc : Nat} {lv : List (Nat × Value)} {st : List Value} {dflt lo hi : Int} {offs : Array Int} {len : Nat} {x : Int32} {off : Int} {tgt : Nat} (C : mC E y cc nL ret rm) (hd : decode cc pc = .ok (.tableswitch dflt lo hi offs, len)) (h1 : ¬ x.toInt < lo) (h2 : ¬ hi < x.toInt) (ho : offs[(x.toInt - lo).toNat]? = some off) (ht : (pc : Int) + off = (tgt : Int)) (K : mV E M k n tgt lv st) : mV E M k n pc lv (.int x :: st) := by
  obtain ⟨⟨p, l, e, R, s, m, args, below, meth, c⟩, D, nL', M0, QQ⟩ := E
  obtain ⟨hx, hb, hml, hr, hown, hts, hlk, hKK, hB, hR, hnm, hnl⟩ := C
  intro H locs ls a1 a2 a3 a4 a5
  exact lv_tableIn hx hb hd h1 h2 ho ht (K H locs ls a1 a2 a3 a4 a5)
theorem r_sub {E : mE} {M : MM} {k n pc : Nat} {lv : List (Nat × Value)} {st : List Value} {lv' : List (Nat × Value)} (ks : List Nat) (hl : lv_pick lv ks = lv') (K : mV E M k n pc lv' st) : mV E M k n pc lv st := fun H locs ls a1 a2 a3 a4 a5 => K H locs ls a1 a2 a3 a4 (lv_sub a5 ks hl)
theorem r_st {E : mE} {M : MM} {k n pc : Nat} {lv : List (Nat × Value)} {st : List Value} {st' : List Value} (h : st = st') (K : mV E M k n pc lv st') : mV E M k n pc lv st := h ▸ K
theorem r_ref {E : mE} {M : MM} {k n pc : Nat} {lv : List (Nat × Value)} (pre : List Value) {o : Option Nat} {b : Nat} {rest : List Value} (h : o = some b) (K : mV E M k n pc lv (pre ++ .ref b :: rest)) : mV E M k n pc lv (pre ++ va_rf o :: rest) := by
  subst h
  exact K
theorem r_getf {E : mE} {y : MethodName} {cc : ByteArray} {nL : Nat} {ret : Option FieldType} {rm : Room} {M : MM} {k n pc : Nat} {lv : List (Nat × Value)} {st : List Value} (C : mC E y cc nL ret rm) {a ci N idx : Nat} {Cn : String} {T : u_T} (k0 : Nat) (hk : mkd M a = ci + 1) (hci : ci < 99) (hc : vwCl[ci]? = some (Cn, T, N)) (hin : ∀ w ∈ u_ws Cn T N, w ∈ lw_all) (hk0 : k0 < N) (hlink : Cond.fieldLink y.cls idx (T k0).1 (T k0).2.1 (T k0).2.2.1 ∈ lw_all) (hd : decode cc pc = .ok (.getfield idx, 3)) {pc' : Nat} (hp : pc + 3 = pc') {v : Value} (hv : mfv M (mct ci k0) a k0 = v) (K : mV E M k n pc' lv (v :: st)) : mV E M k n pc lv (.ref a :: st) := by
  subst hp
  obtain ⟨⟨p, l, e, R, s, m, args, below, meth, c⟩, D, nL', M0, QQ⟩ := E
  obtain ⟨hx, hb, hml, hr, hown, hts, hlk, hKK, hB, hR, hnm, hnl⟩ := C
  intro H locs ls a1 a2 a3 a4 a5
  obtain ⟨hS, hfc, kC, hkC, hkind⟩ := hKK.1.1 ci _ hc
  obtain ⟨cf, kf, fi, f, hi, hsl⟩ := hS k0 hk0
  obtain ⟨cell, q1, q2, q3, q4⟩ := a1.ob hk hci hc
  refine W.getf hx hb hown (hts _ hlink) hi (u_facts hfc hkC (u_lays hts hin hk0) hi).1 q1 (by rw [q3]; exact fun h => by cases h) (v := v) ?_ rfl rfl hd (K H locs ls a1 a2 a3 a4 a5)
  rw [hsl, q4 k0 hk0, ← hv]
theorem r_getfN {E : mE} {y : MethodName} {cc : ByteArray} {nL : Nat} {ret : Option FieldType} {rm : Room} {M : MM} {k n pc : Nat} {lv : List (Nat × Value)} {st : List Value} (C : mC E y cc nL ret rm) {a ci N idx : Nat} {Cn : String} {T : u_T} (k0 : Nat) (hk : mkd M a = ci + 1) (hci : ci < 99) (hc : vwCl[ci]? = some (Cn, T, N)) (hin : ∀ w ∈ u_ws Cn T N, w ∈ lw_all) (hk0 : k0 < N) {host : String} (hlink : Cond.fieldLinkNest y.cls idx (T k0).1 (T k0).2.1 (T k0).2.2.1 host ∈ mnF) (hd : decode cc pc = .ok (.getfield idx, 3)) {pc' : Nat} (hp : pc + 3 = pc') {v : Value} (hv : mfv M (mct ci k0) a k0 = v) (K : mV E M k n pc' lv (v :: st)) : mV E M k n pc lv (.ref a :: st) := by
  subst hp
  obtain ⟨⟨p, l, e, R, s, m, args, below, meth, c⟩, D, nL', M0, QQ⟩ := E
  obtain ⟨hx, hb, hml, hr, hown, hts, hlk, hKK, hB, hR, hnm, hnl⟩ := C
  intro H locs ls a1 a2 a3 a4 a5
  obtain ⟨hS, hfc, kC, hkC, hkind⟩ := hKK.1.1 ci _ hc
  obtain ⟨cf, kf, fi, f, hi, hsl⟩ := hS k0 hk0
  obtain ⟨cell, q1, q2, q3, q4⟩ := a1.ob hk hci hc
  refine va_Wgetf hx hb hown (va_Nw.use rfl (hKK.2.2.1.1 _ hlink)) hi (u_facts hfc hkC (u_lays hts hin hk0) hi).1 q1 (by rw [q3]; exact fun h => by cases h) (v := v) ?_ rfl rfl hd (K H locs ls a1 a2 a3 a4 a5)
  rw [hsl, q4 k0 hk0, ← hv]
theorem r_putI {E : mE} {y : MethodName} {cc : ByteArray} {nL : Nat} {ret : Option FieldType} {rm : Room} {M : MM} {k n pc : Nat} {lv : List (Nat × Value)} {st : List Value} (C : mC E y cc nL ret rm) {a ci N idx : Nat} {Cn : String} {T : u_T} (ty0 : Nat → FieldType) (k0 : Nat) (hk : mkd M a = ci + 1) (hci : ci < 99) (hc : vwCl[ci]? = some (Cn, T, N)) (hin : ∀ w ∈ u_ws Cn T N, w ∈ lw_all) (hty : ∀ k, k < N → parseFieldDescriptor (T k).2.2.1 = some (ty0 k)) (hnms : ∀ a, a < N → ∀ b, b < N → a ≠ b → (T a).2.1 ≠ (T b).2.1) (hk0 : k0 < N) (hlink : Cond.fieldLink y.cls idx (T k0).1 (T k0).2.1 (T k0).2.2.1 ∈ lw_all) (hfin : (T k0).2.2.2 = false) (hct : mct ci k0 = 0) (hd : decode cc pc = .ok (.putfield idx, 3)) {pc' : Nat} (hp : pc + 3 = pc') {x : Int32} (hn : narrow (ty0 k0) (.int x) = .int x) (hfit : fits (ty0 k0) (.int x) = true) (M1 : MM) (hM1 : M1 = msI M a k0 x) (K : mV E M1 k n pc' lv st) : mV E M k n pc lv (.int x :: .ref a :: st) := by
  subst hp
  obtain ⟨⟨p, l, e, R, s, m, args, below, meth, c⟩, D, nL', M0, QQ⟩ := E
  obtain ⟨hx, hb, hml, hr, hown, hts, hlk, hKK, hB, hR, hnm, hnl⟩ := C
  intro H locs ls a1 a2 a3 a4 a5
  subst hM1
  have hpd := hty k0 hk0
  have hap := va_apart (own := y.cls) hts hin ty0 hty hnms hKK.1 hc
  have hB1 := (a1.2.2 a (by rw [hk]; exact Nat.succ_ne_zero _)).1
  obtain ⟨hS, hfc, kC, hkC, hkind⟩ := hKK.1.1 ci _ hc
  obtain ⟨cf, kf, fi, f, hi, hsl⟩ := hS k0 hk0
  obtain ⟨cell, q1, q2, q3, q4⟩ := a1.ob hk hci hc
  have hlay := hts _ (hin _ (u_in_lay hk0))
  unfold u_lay at hlay
  rw [if_neg (by rw [hfin]; decide)] at hlay
  have hst := (u_facts hfc hkC (u_lays hts hin hk0) hi).1
  have h6 := u_store hfc hkC hkind hlay hi hpd hn hfit
  refine W.putK hx hb (f := f) ⟨hown, hts _ hlink, ⟨_, _, _, hi⟩, hst⟩ (by rw [q2]; exact h6) q1 q3 (by rw [hsl]; exact k2_hasslot (q4 k0 hk0)) rfl rfl hd fun H1 e1 e2 e3 => ?_
  rw [hsl] at e1 ⊢
  refine K H1 _ ls (a1.set (a := a) (by rw [hk]; exact Nat.succ_ne_zero _) rfl (fun _ => rfl) (fun _ => rfl) mfv_I_ne e2 e3 (mcell_ob (show mkd (msI M a k0 x) a = ci + 1 from hk) hci hc (t_OB.to (V := updV (fun k => mfv M (mct ci k) a k) k0 (.int x)) ⟨_, e1, q2, q3, t_set q4 hap hk0 _⟩ (fun j _ => ?_)))) (a2.tr mMo_sI) (fun q hq => (e3 q (Nat.ne_of_lt (Nat.lt_of_lt_of_le hq hB1))).trans (a3 q hq)) (fun q hq => ?_) a5
  · by_cases hj : j = k0
    · subst hj
      have h8 := mfv_I_at (M := M) (a := a) (k := j) (x := x) (mct ci j) j (fun _ => hct)
      simpa [updV] using h8
    · have h8 := mfv_I_at (M := M) (a := a) (k := k0) (x := x) (mct ci j) j (fun h => absurd h hj)
      simpa [updV, hj] using h8
  · rcases List.mem_append.mp hq with h | h
    · exact a4 q h
    · rw [List.mem_singleton.mp h]
      exact hB1
theorem r_putL {E : mE} {y : MethodName} {cc : ByteArray} {nL : Nat} {ret : Option FieldType} {rm : Room} {M : MM} {k n pc : Nat} {lv : List (Nat × Value)} {st : List Value} (C : mC E y cc nL ret rm) {a ci N idx : Nat} {Cn : String} {T : u_T} (ty0 : Nat → FieldType) (k0 : Nat) (hk : mkd M a = ci + 1) (hci : ci < 99) (hc : vwCl[ci]? = some (Cn, T, N)) (hin : ∀ w ∈ u_ws Cn T N, w ∈ lw_all) (hty : ∀ k, k < N → parseFieldDescriptor (T k).2.2.1 = some (ty0 k)) (hnms : ∀ a, a < N → ∀ b, b < N → a ≠ b → (T a).2.1 ≠ (T b).2.1) (hk0 : k0 < N) (hlink : Cond.fieldLink y.cls idx (T k0).1 (T k0).2.1 (T k0).2.2.1 ∈ lw_all) (hfin : (T k0).2.2.2 = false) (hct : mct ci k0 = 1) (hd : decode cc pc = .ok (.putfield idx, 3)) {pc' : Nat} (hp : pc + 3 = pc') {x : Int64} (hn : narrow (ty0 k0) (.long x) = .long x) (hfit : fits (ty0 k0) (.long x) = true) (M1 : MM) (hM1 : M1 = msL M a k0 x) (K : mV E M1 k n pc' lv st) : mV E M k n pc lv (.long x :: .ref a :: st) := by
  subst hp
  obtain ⟨⟨p, l, e, R, s, m, args, below, meth, c⟩, D, nL', M0, QQ⟩ := E
  obtain ⟨hx, hb, hml, hr, hown, hts, hlk, hKK, hB, hR, hnm, hnl⟩ := C
  intro H locs ls a1 a2 a3 a4 a5
  subst hM1
  have hpd := hty k0 hk0
  have hap := va_apart (own := y.cls) hts hin ty0 hty hnms hKK.1 hc
  have hB1 := (a1.2.2 a (by rw [hk]; exact Nat.succ_ne_zero _)).1
  obtain ⟨hS, hfc, kC, hkC, hkind⟩ := hKK.1.1 ci _ hc
  obtain ⟨cf, kf, fi, f, hi, hsl⟩ := hS k0 hk0
  obtain ⟨cell, q1, q2, q3, q4⟩ := a1.ob hk hci hc
  have hlay := hts _ (hin _ (u_in_lay hk0))
  unfold u_lay at hlay
  rw [if_neg (by rw [hfin]; decide)] at hlay
  have hst := (u_facts hfc hkC (u_lays hts hin hk0) hi).1
  have h6 := u_store hfc hkC hkind hlay hi hpd hn hfit
  refine W.putK hx hb (f := f) ⟨hown, hts _ hlink, ⟨_, _, _, hi⟩, hst⟩ (by rw [q2]; exact h6) q1 q3 (by rw [hsl]; exact k2_hasslot (q4 k0 hk0)) rfl rfl hd fun H1 e1 e2 e3 => ?_
  rw [hsl] at e1 ⊢
  refine K H1 _ ls (a1.set (a := a) (by rw [hk]; exact Nat.succ_ne_zero _) rfl (fun _ => rfl) (fun _ => rfl) mfv_L_ne e2 e3 (mcell_ob (show mkd (msL M a k0 x) a = ci + 1 from hk) hci hc (t_OB.to (V := updV (fun k => mfv M (mct ci k) a k) k0 (.long x)) ⟨_, e1, q2, q3, t_set q4 hap hk0 _⟩ (fun j _ => ?_)))) (a2.tr mMo_sL) (fun q hq => (e3 q (Nat.ne_of_lt (Nat.lt_of_lt_of_le hq hB1))).trans (a3 q hq)) (fun q hq => ?_) a5
  · by_cases hj : j = k0
    · subst hj
      have h8 := mfv_L_at (M := M) (a := a) (k := j) (x := x) (mct ci j) j (fun _ => hct)
      simpa [updV] using h8
    · have h8 := mfv_L_at (M := M) (a := a) (k := k0) (x := x) (mct ci j) j (fun h => absurd h hj)
      simpa [updV, hj] using h8
  · rcases List.mem_append.mp hq with h | h
    · exact a4 q h
    · rw [List.mem_singleton.mp h]
      exact hB1
theorem r_putR {E : mE} {y : MethodName} {cc : ByteArray} {nL : Nat} {ret : Option FieldType} {rm : Room} {M : MM} {k n pc : Nat} {lv : List (Nat × Value)} {st : List Value} (C : mC E y cc nL ret rm) {a ci N idx : Nat} {Cn : String} {T : u_T} (ty0 : Nat → FieldType) (k0 : Nat) (hk : mkd M a = ci + 1) (hci : ci < 99) (hc : vwCl[ci]? = some (Cn, T, N)) (hin : ∀ w ∈ u_ws Cn T N, w ∈ lw_all) (hty : ∀ k, k < N → parseFieldDescriptor (T k).2.2.1 = some (ty0 k)) (hnms : ∀ a, a < N → ∀ b, b < N → a ≠ b → (T a).2.1 ≠ (T b).2.1) (hk0 : k0 < N) (hlink : Cond.fieldLink y.cls idx (T k0).1 (T k0).2.1 (T k0).2.2.1 ∈ lw_all) (hfin : (T k0).2.2.2 = false) (hct : mct ci k0 = 2) (hd : decode cc pc = .ok (.putfield idx, 3)) {pc' : Nat} (hp : pc + 3 = pc') {x : Option Nat} (hn : narrow (ty0 k0) (va_rf x) = va_rf x) (hfit : fits (ty0 k0) (va_rf x) = true) (M1 : MM) (hM1 : M1 = msR M a k0 x) (K : mV E M1 k n pc' lv st) : mV E M k n pc lv (va_rf x :: .ref a :: st) := by
  subst hp
  obtain ⟨⟨p, l, e, R, s, m, args, below, meth, c⟩, D, nL', M0, QQ⟩ := E
  obtain ⟨hx, hb, hml, hr, hown, hts, hlk, hKK, hB, hR, hnm, hnl⟩ := C
  intro H locs ls a1 a2 a3 a4 a5
  subst hM1
  have hpd := hty k0 hk0
  have hap := va_apart (own := y.cls) hts hin ty0 hty hnms hKK.1 hc
  have hB1 := (a1.2.2 a (by rw [hk]; exact Nat.succ_ne_zero _)).1
  obtain ⟨hS, hfc, kC, hkC, hkind⟩ := hKK.1.1 ci _ hc
  obtain ⟨cf, kf, fi, f, hi, hsl⟩ := hS k0 hk0
  obtain ⟨cell, q1, q2, q3, q4⟩ := a1.ob hk hci hc
  have hlay := hts _ (hin _ (u_in_lay hk0))
  unfold u_lay at hlay
  rw [if_neg (by rw [hfin]; decide)] at hlay
  have hst := (u_facts hfc hkC (u_lays hts hin hk0) hi).1
  have h6 := u_store hfc hkC hkind hlay hi hpd hn hfit
  refine W.putK hx hb (f := f) ⟨hown, hts _ hlink, ⟨_, _, _, hi⟩, hst⟩ (by rw [q2]; exact h6) q1 q3 (by rw [hsl]; exact k2_hasslot (q4 k0 hk0)) rfl rfl hd fun H1 e1 e2 e3 => ?_
  rw [hsl] at e1 ⊢
  refine K H1 _ ls (a1.set (a := a) (by rw [hk]; exact Nat.succ_ne_zero _) rfl (fun _ => rfl) (fun _ => rfl) mfv_R_ne e2 e3 (mcell_ob (show mkd (msR M a k0 x) a = ci + 1 from hk) hci hc (t_OB.to (V := updV (fun k => mfv M (mct ci k) a k) k0 (va_rf x)) ⟨_, e1, q2, q3, t_set q4 hap hk0 _⟩ (fun j _ => ?_)))) (a2.tr mMo_sR) (fun q hq => (e3 q (Nat.ne_of_lt (Nat.lt_of_lt_of_le hq hB1))).trans (a3 q hq)) (fun q hq => ?_) a5
  · by_cases hj : j = k0
    · subst hj
      have h8 := mfv_R_at (M := M) (a := a) (k := j) (x := x) (mct ci j) j (fun _ => hct)
      simpa [updV] using h8
    · have h8 := mfv_R_at (M := M) (a := a) (k := k0) (x := x) (mct ci j) j (fun h => absurd h hj)
      simpa [updV, hj] using h8
  · rcases List.mem_append.mp hq with h | h
    · exact a4 q h
    · rw [List.mem_singleton.mp h]
      exact hB1
theorem r_putIN {E : mE} {y : MethodName} {cc : ByteArray} {nL : Nat} {ret : Option FieldType} {rm : Room} {M : MM} {k n pc : Nat} {lv : List (Nat × Value)} {st : List Value} (C : mC E y cc nL ret rm) {a ci N idx : Nat} {Cn : String} {T : u_T} (ty0 : Nat → FieldType) (k0 : Nat) (hk : mkd M a = ci + 1) (hci : ci < 99) (hc : vwCl[ci]? = some (Cn, T, N)) (hin : ∀ w ∈ u_ws Cn T N, w ∈ lw_all) (hty : ∀ k, k < N → parseFieldDescriptor (T k).2.2.1 = some (ty0 k)) (hnms : ∀ a, a < N → ∀ b, b < N → a ≠ b → (T a).2.1 ≠ (T b).2.1) (hk0 : k0 < N) {host : String} (hlink : Cond.fieldLinkNest y.cls idx (T k0).1 (T k0).2.1 (T k0).2.2.1 host ∈ mnF) (hfin : (T k0).2.2.2 = false) (hct : mct ci k0 = 0) (hd : decode cc pc = .ok (.putfield idx, 3)) {pc' : Nat} (hp : pc + 3 = pc') {x : Int32} (hn : narrow (ty0 k0) (.int x) = .int x) (hfit : fits (ty0 k0) (.int x) = true) (M1 : MM) (hM1 : M1 = msI M a k0 x) (K : mV E M1 k n pc' lv st) : mV E M k n pc lv (.int x :: .ref a :: st) := by
  subst hp
  obtain ⟨⟨p, l, e, R, s, m, args, below, meth, c⟩, D, nL', M0, QQ⟩ := E
  obtain ⟨hx, hb, hml, hr, hown, hts, hlk, hKK, hB, hR, hnm, hnl⟩ := C
  intro H locs ls a1 a2 a3 a4 a5
  subst hM1
  have hpd := hty k0 hk0
  have hap := va_apart (own := y.cls) hts hin ty0 hty hnms hKK.1 hc
  have hB1 := (a1.2.2 a (by rw [hk]; exact Nat.succ_ne_zero _)).1
  obtain ⟨hS, hfc, kC, hkC, hkind⟩ := hKK.1.1 ci _ hc
  obtain ⟨cf, kf, fi, f, hi, hsl⟩ := hS k0 hk0
  obtain ⟨cell, q1, q2, q3, q4⟩ := a1.ob hk hci hc
  have hlay := hts _ (hin _ (u_in_lay hk0))
  unfold u_lay at hlay
  rw [if_neg (by rw [hfin]; decide)] at hlay
  have hst := (u_facts hfc hkC (u_lays hts hin hk0) hi).1
  have h6 := u_store hfc hkC hkind hlay hi hpd hn hfit
  refine va_WputK hx hb (f := f) hown (va_Nw.use rfl (hKK.2.2.1.1 _ hlink)) hi hst (by rw [q2]; exact h6) q1 q3 (by rw [hsl]; exact k2_hasslot (q4 k0 hk0)) rfl rfl hd fun H1 e1 e2 e3 => ?_
  rw [hsl] at e1 ⊢
  refine K H1 _ ls (a1.set (a := a) (by rw [hk]; exact Nat.succ_ne_zero _) rfl (fun _ => rfl) (fun _ => rfl) mfv_I_ne e2 e3 (mcell_ob (show mkd (msI M a k0 x) a = ci + 1 from hk) hci hc (t_OB.to (V := updV (fun k => mfv M (mct ci k) a k) k0 (.int x)) ⟨_, e1, q2, q3, t_set q4 hap hk0 _⟩ (fun j _ => ?_)))) (a2.tr mMo_sI) (fun q hq => (e3 q (Nat.ne_of_lt (Nat.lt_of_lt_of_le hq hB1))).trans (a3 q hq)) (fun q hq => ?_) a5
  · by_cases hj : j = k0
    · subst hj
      have h8 := mfv_I_at (M := M) (a := a) (k := j) (x := x) (mct ci j) j (fun _ => hct)
      simpa [updV] using h8
    · have h8 := mfv_I_at (M := M) (a := a) (k := k0) (x := x) (mct ci j) j (fun h => absurd h hj)
      simpa [updV, hj] using h8
  · rcases List.mem_append.mp hq with h | h
    · exact a4 q h
    · rw [List.mem_singleton.mp h]
      exact hB1
theorem r_putLN {E : mE} {y : MethodName} {cc : ByteArray} {nL : Nat} {ret : Option FieldType} {rm : Room} {M : MM} {k n pc : Nat} {lv : List (Nat × Value)} {st : List Value} (C : mC E y cc nL ret rm) {a ci N idx : Nat} {Cn : String} {T : u_T} (ty0 : Nat → FieldType) (k0 : Nat) (hk : mkd M a = ci + 1) (hci : ci < 99) (hc : vwCl[ci]? = some (Cn, T, N)) (hin : ∀ w ∈ u_ws Cn T N, w ∈ lw_all) (hty : ∀ k, k < N → parseFieldDescriptor (T k).2.2.1 = some (ty0 k)) (hnms : ∀ a, a < N → ∀ b, b < N → a ≠ b → (T a).2.1 ≠ (T b).2.1) (hk0 : k0 < N) {host : String} (hlink : Cond.fieldLinkNest y.cls idx (T k0).1 (T k0).2.1 (T k0).2.2.1 host ∈ mnF) (hfin : (T k0).2.2.2 = false) (hct : mct ci k0 = 1) (hd : decode cc pc = .ok (.putfield idx, 3)) {pc' : Nat} (hp : pc + 3 = pc') {x : Int64} (hn : narrow (ty0 k0) (.long x) = .long x) (hfit : fits (ty0 k0) (.long x) = true) (M1 : MM) (hM1 : M1 = msL M a k0 x) (K : mV E M1 k n pc' lv st) : mV E M k n pc lv (.long x :: .ref a :: st) := by
  subst hp
  obtain ⟨⟨p, l, e, R, s, m, args, below, meth, c⟩, D, nL', M0, QQ⟩ := E
  obtain ⟨hx, hb, hml, hr, hown, hts, hlk, hKK, hB, hR, hnm, hnl⟩ := C
  intro H locs ls a1 a2 a3 a4 a5
  subst hM1
  have hpd := hty k0 hk0
  have hap := va_apart (own := y.cls) hts hin ty0 hty hnms hKK.1 hc
  have hB1 := (a1.2.2 a (by rw [hk]; exact Nat.succ_ne_zero _)).1
  obtain ⟨hS, hfc, kC, hkC, hkind⟩ := hKK.1.1 ci _ hc
  obtain ⟨cf, kf, fi, f, hi, hsl⟩ := hS k0 hk0
  obtain ⟨cell, q1, q2, q3, q4⟩ := a1.ob hk hci hc
  have hlay := hts _ (hin _ (u_in_lay hk0))
  unfold u_lay at hlay
  rw [if_neg (by rw [hfin]; decide)] at hlay
  have hst := (u_facts hfc hkC (u_lays hts hin hk0) hi).1
  have h6 := u_store hfc hkC hkind hlay hi hpd hn hfit
  refine va_WputK hx hb (f := f) hown (va_Nw.use rfl (hKK.2.2.1.1 _ hlink)) hi hst (by rw [q2]; exact h6) q1 q3 (by rw [hsl]; exact k2_hasslot (q4 k0 hk0)) rfl rfl hd fun H1 e1 e2 e3 => ?_
  rw [hsl] at e1 ⊢
  refine K H1 _ ls (a1.set (a := a) (by rw [hk]; exact Nat.succ_ne_zero _) rfl (fun _ => rfl) (fun _ => rfl) mfv_L_ne e2 e3 (mcell_ob (show mkd (msL M a k0 x) a = ci + 1 from hk) hci hc (t_OB.to (V := updV (fun k => mfv M (mct ci k) a k) k0 (.long x)) ⟨_, e1, q2, q3, t_set q4 hap hk0 _⟩ (fun j _ => ?_)))) (a2.tr mMo_sL) (fun q hq => (e3 q (Nat.ne_of_lt (Nat.lt_of_lt_of_le hq hB1))).trans (a3 q hq)) (fun q hq => ?_) a5
  · by_cases hj : j = k0
    · subst hj
      have h8 := mfv_L_at (M := M) (a := a) (k := j) (x := x) (mct ci j) j (fun _ => hct)
      simpa [updV] using h8
    · have h8 := mfv_L_at (M := M) (a := a) (k := k0) (x := x) (mct ci j) j (fun h => absurd h hj)
      simpa [updV, hj] using h8
  · rcases List.mem_append.mp hq with h | h
    · exact a4 q h
    · rw [List.mem_singleton.mp h]
      exact hB1
theorem r_putRN {E : mE} {y : MethodName} {cc : ByteArray} {nL : Nat} {ret : Option FieldType} {rm : Room} {M : MM} {k n pc : Nat} {lv : List (Nat × Value)} {st : List Value} (C : mC E y cc nL ret rm) {a ci N idx : Nat} {Cn : String} {T : u_T} (ty0 : Nat → FieldType) (k0 : Nat) (hk : mkd M a = ci + 1) (hci : ci < 99) (hc : vwCl[ci]? = some (Cn, T, N)) (hin : ∀ w ∈ u_ws Cn T N, w ∈ lw_all) (hty : ∀ k, k < N → parseFieldDescriptor (T k).2.2.1 = some (ty0 k)) (hnms : ∀ a, a < N → ∀ b, b < N → a ≠ b → (T a).2.1 ≠ (T b).2.1) (hk0 : k0 < N) {host : String} (hlink : Cond.fieldLinkNest y.cls idx (T k0).1 (T k0).2.1 (T k0).2.2.1 host ∈ mnF) (hfin : (T k0).2.2.2 = false) (hct : mct ci k0 = 2) (hd : decode cc pc = .ok (.putfield idx, 3)) {pc' : Nat} (hp : pc + 3 = pc') {x : Option Nat} (hn : narrow (ty0 k0) (va_rf x) = va_rf x) (hfit : fits (ty0 k0) (va_rf x) = true) (M1 : MM) (hM1 : M1 = msR M a k0 x) (K : mV E M1 k n pc' lv st) : mV E M k n pc lv (va_rf x :: .ref a :: st) := by
  subst hp
  obtain ⟨⟨p, l, e, R, s, m, args, below, meth, c⟩, D, nL', M0, QQ⟩ := E
  obtain ⟨hx, hb, hml, hr, hown, hts, hlk, hKK, hB, hR, hnm, hnl⟩ := C
  intro H locs ls a1 a2 a3 a4 a5
  subst hM1
  have hpd := hty k0 hk0
  have hap := va_apart (own := y.cls) hts hin ty0 hty hnms hKK.1 hc
  have hB1 := (a1.2.2 a (by rw [hk]; exact Nat.succ_ne_zero _)).1
  obtain ⟨hS, hfc, kC, hkC, hkind⟩ := hKK.1.1 ci _ hc
  obtain ⟨cf, kf, fi, f, hi, hsl⟩ := hS k0 hk0
  obtain ⟨cell, q1, q2, q3, q4⟩ := a1.ob hk hci hc
  have hlay := hts _ (hin _ (u_in_lay hk0))
  unfold u_lay at hlay
  rw [if_neg (by rw [hfin]; decide)] at hlay
  have hst := (u_facts hfc hkC (u_lays hts hin hk0) hi).1
  have h6 := u_store hfc hkC hkind hlay hi hpd hn hfit
  refine va_WputK hx hb (f := f) hown (va_Nw.use rfl (hKK.2.2.1.1 _ hlink)) hi hst (by rw [q2]; exact h6) q1 q3 (by rw [hsl]; exact k2_hasslot (q4 k0 hk0)) rfl rfl hd fun H1 e1 e2 e3 => ?_
  rw [hsl] at e1 ⊢
  refine K H1 _ ls (a1.set (a := a) (by rw [hk]; exact Nat.succ_ne_zero _) rfl (fun _ => rfl) (fun _ => rfl) mfv_R_ne e2 e3 (mcell_ob (show mkd (msR M a k0 x) a = ci + 1 from hk) hci hc (t_OB.to (V := updV (fun k => mfv M (mct ci k) a k) k0 (va_rf x)) ⟨_, e1, q2, q3, t_set q4 hap hk0 _⟩ (fun j _ => ?_)))) (a2.tr mMo_sR) (fun q hq => (e3 q (Nat.ne_of_lt (Nat.lt_of_lt_of_le hq hB1))).trans (a3 q hq)) (fun q hq => ?_) a5
  · by_cases hj : j = k0
    · subst hj
      have h8 := mfv_R_at (M := M) (a := a) (k := j) (x := x) (mct ci j) j (fun _ => hct)
      simpa [updV] using h8
    · have h8 := mfv_R_at (M := M) (a := a) (k := k0) (x := x) (mct ci j) j (fun h => absurd h hj)
      simpa [updV, hj] using h8
  · rcases List.mem_append.mp hq with h | h
    · exact a4 q h
    · rw [List.mem_singleton.mp h]
      exact hB1
theorem r_putIF {E : mE} {y : MethodName} {cc : ByteArray} {nL : Nat} {ret : Option FieldType} {rm : Room} {M : MM} {k n pc : Nat} {lv : List (Nat × Value)} {st : List Value} (C : mC E y cc nL ret rm) {a ci N idx : Nat} {Cn : String} {T : u_T} (ty0 : Nat → FieldType) (k0 : Nat) (hk : mkd M a = ci + 1) (hci : ci < 99) (hc : vwCl[ci]? = some (Cn, T, N)) (hin : ∀ w ∈ u_ws Cn T N, w ∈ lw_all) (hty : ∀ k, k < N → parseFieldDescriptor (T k).2.2.1 = some (ty0 k)) (hnms : ∀ a, a < N → ∀ b, b < N → a ≠ b → (T a).2.1 ≠ (T b).2.1) (hk0 : k0 < N) (hlink : Cond.fieldLink y.cls idx (T k0).1 (T k0).2.1 (T k0).2.2.1 ∈ lw_all) (hfin : (T k0).2.2.2 = true) (hini : y.name = "<init>") (hdecl : (T k0).1 = y.cls) (hct : mct ci k0 = 0) (hd : decode cc pc = .ok (.putfield idx, 3)) {pc' : Nat} (hp : pc + 3 = pc') {x : Int32} (hn : narrow (ty0 k0) (.int x) = .int x) (hfit : fits (ty0 k0) (.int x) = true) (M1 : MM) (hM1 : M1 = msI M a k0 x) (K : mV E M1 k n pc' lv st) : mV E M k n pc lv (.int x :: .ref a :: st) := by
  subst hp
  obtain ⟨⟨p, l, e, R, s, m, args, below, meth, c⟩, D, nL', M0, QQ⟩ := E
  obtain ⟨hx, hb, hml, hr, hown, hts, hlk, hKK, hB, hR, hnm, hnl⟩ := C
  intro H locs ls a1 a2 a3 a4 a5
  subst hM1
  have hpd := hty k0 hk0
  have hap := va_apart (own := y.cls) hts hin ty0 hty hnms hKK.1 hc
  have hB1 := (a1.2.2 a (by rw [hk]; exact Nat.succ_ne_zero _)).1
  obtain ⟨hS, hfc, kC, hkC, hkind⟩ := hKK.1.1 ci _ hc
  obtain ⟨cf, kf, fi, f, hi, hsl⟩ := hS k0 hk0
  obtain ⟨cell, q1, q2, q3, q4⟩ := a1.ob hk hci hc
  have hlay := hts _ (hin _ (u_in_lay hk0))
  unfold u_lay at hlay
  rw [if_pos hfin] at hlay
  have hst := (u_facts hfc hkC (u_lays hts hin hk0) hi).1
  have hcf : m.cls = cf := by
    obtain ⟨_, _, c', _, _, _, -, -, hf', -, -, -, hown2, -⟩ := Cond.laysFinal_spec hlay
    have e1 : c' = cf := by have := hi.symm.trans hf'; simp at this; exact this.1.symm
    rw [hdecl] at hown2
    rw [← e1]; exact Option.some.inj (hown.symm.trans hown2)
  have h6 := u_fits hfc hkC hkind (Or.inr hlay) hi hpd hn hfit
  refine W.putFinK hx hb hown (hts _ hlink) hi hst hcf (hnm hini) (by rw [q2]; exact h6) q1 q3 (by rw [hsl]; exact k2_hasslot (q4 k0 hk0)) rfl rfl hd fun H1 e1 e2 e3 => ?_
  rw [hsl] at e1 ⊢
  refine K H1 _ ls (a1.set (a := a) (by rw [hk]; exact Nat.succ_ne_zero _) rfl (fun _ => rfl) (fun _ => rfl) mfv_I_ne e2 e3 (mcell_ob (show mkd (msI M a k0 x) a = ci + 1 from hk) hci hc (t_OB.to (V := updV (fun k => mfv M (mct ci k) a k) k0 (.int x)) ⟨_, e1, q2, q3, t_set q4 hap hk0 _⟩ (fun j _ => ?_)))) (a2.tr mMo_sI) (fun q hq => (e3 q (Nat.ne_of_lt (Nat.lt_of_lt_of_le hq hB1))).trans (a3 q hq)) (fun q hq => ?_) a5
  · by_cases hj : j = k0
    · subst hj
      have h8 := mfv_I_at (M := M) (a := a) (k := j) (x := x) (mct ci j) j (fun _ => hct)
      simpa [updV] using h8
    · have h8 := mfv_I_at (M := M) (a := a) (k := k0) (x := x) (mct ci j) j (fun h => absurd h hj)
      simpa [updV, hj] using h8
  · rcases List.mem_append.mp hq with h | h
    · exact a4 q h
    · rw [List.mem_singleton.mp h]
      exact hB1
theorem r_putLF {E : mE} {y : MethodName} {cc : ByteArray} {nL : Nat} {ret : Option FieldType} {rm : Room} {M : MM} {k n pc : Nat} {lv : List (Nat × Value)} {st : List Value} (C : mC E y cc nL ret rm) {a ci N idx : Nat} {Cn : String} {T : u_T} (ty0 : Nat → FieldType) (k0 : Nat) (hk : mkd M a = ci + 1) (hci : ci < 99) (hc : vwCl[ci]? = some (Cn, T, N)) (hin : ∀ w ∈ u_ws Cn T N, w ∈ lw_all) (hty : ∀ k, k < N → parseFieldDescriptor (T k).2.2.1 = some (ty0 k)) (hnms : ∀ a, a < N → ∀ b, b < N → a ≠ b → (T a).2.1 ≠ (T b).2.1) (hk0 : k0 < N) (hlink : Cond.fieldLink y.cls idx (T k0).1 (T k0).2.1 (T k0).2.2.1 ∈ lw_all) (hfin : (T k0).2.2.2 = true) (hini : y.name = "<init>") (hdecl : (T k0).1 = y.cls) (hct : mct ci k0 = 1) (hd : decode cc pc = .ok (.putfield idx, 3)) {pc' : Nat} (hp : pc + 3 = pc') {x : Int64} (hn : narrow (ty0 k0) (.long x) = .long x) (hfit : fits (ty0 k0) (.long x) = true) (M1 : MM) (hM1 : M1 = msL M a k0 x) (K : mV E M1 k n pc' lv st) : mV E M k n pc lv (.long x :: .ref a :: st) := by
  subst hp
  obtain ⟨⟨p, l, e, R, s, m, args, below, meth, c⟩, D, nL', M0, QQ⟩ := E
  obtain ⟨hx, hb, hml, hr, hown, hts, hlk, hKK, hB, hR, hnm, hnl⟩ := C
  intro H locs ls a1 a2 a3 a4 a5
  subst hM1
  have hpd := hty k0 hk0
  have hap := va_apart (own := y.cls) hts hin ty0 hty hnms hKK.1 hc
  have hB1 := (a1.2.2 a (by rw [hk]; exact Nat.succ_ne_zero _)).1
  obtain ⟨hS, hfc, kC, hkC, hkind⟩ := hKK.1.1 ci _ hc
  obtain ⟨cf, kf, fi, f, hi, hsl⟩ := hS k0 hk0
  obtain ⟨cell, q1, q2, q3, q4⟩ := a1.ob hk hci hc
  have hlay := hts _ (hin _ (u_in_lay hk0))
  unfold u_lay at hlay
  rw [if_pos hfin] at hlay
  have hst := (u_facts hfc hkC (u_lays hts hin hk0) hi).1
  have hcf : m.cls = cf := by
    obtain ⟨_, _, c', _, _, _, -, -, hf', -, -, -, hown2, -⟩ := Cond.laysFinal_spec hlay
    have e1 : c' = cf := by have := hi.symm.trans hf'; simp at this; exact this.1.symm
    rw [hdecl] at hown2
    rw [← e1]; exact Option.some.inj (hown.symm.trans hown2)
  have h6 := u_fits hfc hkC hkind (Or.inr hlay) hi hpd hn hfit
  refine W.putFinK hx hb hown (hts _ hlink) hi hst hcf (hnm hini) (by rw [q2]; exact h6) q1 q3 (by rw [hsl]; exact k2_hasslot (q4 k0 hk0)) rfl rfl hd fun H1 e1 e2 e3 => ?_
  rw [hsl] at e1 ⊢
  refine K H1 _ ls (a1.set (a := a) (by rw [hk]; exact Nat.succ_ne_zero _) rfl (fun _ => rfl) (fun _ => rfl) mfv_L_ne e2 e3 (mcell_ob (show mkd (msL M a k0 x) a = ci + 1 from hk) hci hc (t_OB.to (V := updV (fun k => mfv M (mct ci k) a k) k0 (.long x)) ⟨_, e1, q2, q3, t_set q4 hap hk0 _⟩ (fun j _ => ?_)))) (a2.tr mMo_sL) (fun q hq => (e3 q (Nat.ne_of_lt (Nat.lt_of_lt_of_le hq hB1))).trans (a3 q hq)) (fun q hq => ?_) a5
  · by_cases hj : j = k0
    · subst hj
      have h8 := mfv_L_at (M := M) (a := a) (k := j) (x := x) (mct ci j) j (fun _ => hct)
      simpa [updV] using h8
    · have h8 := mfv_L_at (M := M) (a := a) (k := k0) (x := x) (mct ci j) j (fun h => absurd h hj)
      simpa [updV, hj] using h8
  · rcases List.mem_append.mp hq with h | h
    · exact a4 q h
    · rw [List.mem_singleton.mp h]
      exact hB1
theorem r_putRF {E : mE} {y : MethodName} {cc : ByteArray} {nL : Nat} {ret : Option FieldType} {rm : Room} {M : MM} {k n pc : Nat} {lv : List (Nat × Value)} {st : List Value} (C : mC E y cc nL ret rm) {a ci N idx : Nat} {Cn : String} {T : u_T} (ty0 : Nat → FieldType) (k0 : Nat) (hk : mkd M a = ci + 1) (hci : ci < 99) (hc : vwCl[ci]? = some (Cn, T, N)) (hin : ∀ w ∈ u_ws Cn T N, w ∈ lw_all) (hty : ∀ k, k < N → parseFieldDescriptor (T k).2.2.1 = some (ty0 k)) (hnms : ∀ a, a < N → ∀ b, b < N → a ≠ b → (T a).2.1 ≠ (T b).2.1) (hk0 : k0 < N) (hlink : Cond.fieldLink y.cls idx (T k0).1 (T k0).2.1 (T k0).2.2.1 ∈ lw_all) (hfin : (T k0).2.2.2 = true) (hini : y.name = "<init>") (hdecl : (T k0).1 = y.cls) (hct : mct ci k0 = 2) (hd : decode cc pc = .ok (.putfield idx, 3)) {pc' : Nat} (hp : pc + 3 = pc') {x : Option Nat} (hn : narrow (ty0 k0) (va_rf x) = va_rf x) (hfit : fits (ty0 k0) (va_rf x) = true) (M1 : MM) (hM1 : M1 = msR M a k0 x) (K : mV E M1 k n pc' lv st) : mV E M k n pc lv (va_rf x :: .ref a :: st) := by
  subst hp
  obtain ⟨⟨p, l, e, R, s, m, args, below, meth, c⟩, D, nL', M0, QQ⟩ := E
  obtain ⟨hx, hb, hml, hr, hown, hts, hlk, hKK, hB, hR, hnm, hnl⟩ := C
  intro H locs ls a1 a2 a3 a4 a5
  subst hM1
  have hpd := hty k0 hk0
  have hap := va_apart (own := y.cls) hts hin ty0 hty hnms hKK.1 hc
  have hB1 := (a1.2.2 a (by rw [hk]; exact Nat.succ_ne_zero _)).1
  obtain ⟨hS, hfc, kC, hkC, hkind⟩ := hKK.1.1 ci _ hc
  obtain ⟨cf, kf, fi, f, hi, hsl⟩ := hS k0 hk0
  obtain ⟨cell, q1, q2, q3, q4⟩ := a1.ob hk hci hc
  have hlay := hts _ (hin _ (u_in_lay hk0))
  unfold u_lay at hlay
  rw [if_pos hfin] at hlay
  have hst := (u_facts hfc hkC (u_lays hts hin hk0) hi).1
  have hcf : m.cls = cf := by
    obtain ⟨_, _, c', _, _, _, -, -, hf', -, -, -, hown2, -⟩ := Cond.laysFinal_spec hlay
    have e1 : c' = cf := by have := hi.symm.trans hf'; simp at this; exact this.1.symm
    rw [hdecl] at hown2
    rw [← e1]; exact Option.some.inj (hown.symm.trans hown2)
  have h6 := u_fits hfc hkC hkind (Or.inr hlay) hi hpd hn hfit
  refine W.putFinK hx hb hown (hts _ hlink) hi hst hcf (hnm hini) (by rw [q2]; exact h6) q1 q3 (by rw [hsl]; exact k2_hasslot (q4 k0 hk0)) rfl rfl hd fun H1 e1 e2 e3 => ?_
  rw [hsl] at e1 ⊢
  refine K H1 _ ls (a1.set (a := a) (by rw [hk]; exact Nat.succ_ne_zero _) rfl (fun _ => rfl) (fun _ => rfl) mfv_R_ne e2 e3 (mcell_ob (show mkd (msR M a k0 x) a = ci + 1 from hk) hci hc (t_OB.to (V := updV (fun k => mfv M (mct ci k) a k) k0 (va_rf x)) ⟨_, e1, q2, q3, t_set q4 hap hk0 _⟩ (fun j _ => ?_)))) (a2.tr mMo_sR) (fun q hq => (e3 q (Nat.ne_of_lt (Nat.lt_of_lt_of_le hq hB1))).trans (a3 q hq)) (fun q hq => ?_) a5
  · by_cases hj : j = k0
    · subst hj
      have h8 := mfv_R_at (M := M) (a := a) (k := j) (x := x) (mct ci j) j (fun _ => hct)
      simpa [updV] using h8
    · have h8 := mfv_R_at (M := M) (a := a) (k := k0) (x := x) (mct ci j) j (fun h => absurd h hj)
      simpa [updV, hj] using h8
  · rcases List.mem_append.mp hq with h | h
    · exact a4 q h
    · rw [List.mem_singleton.mp h]
      exact hB1
theorem r_iald {E : mE} {y : MethodName} {cc : ByteArray} {nL : Nat} {ret : Option FieldType} {rm : Room} {M : MM} {k n pc : Nat} {lv : List (Nat × Value)} {st : List Value} (C : mC E y cc nL ret rm) {a : Nat} {i : Int32} {j : Nat} (hk : mkd M a = 100) (hin : vp_in i (mln M a)) (hj : ix_ i = j) (hd : decode cc pc = .ok (.iaload, 1)) {pc' : Nat} (hp : pc + 1 = pc') (K : mV E M k n pc' lv (Value.int (mgI M a j) :: st)) : mV E M k n pc lv (.int i :: .ref a :: st) := by
  subst hp
  obtain ⟨⟨p, l, e, R, s, m, args, below, meth, c⟩, D, nL', M0, QQ⟩ := E
  obtain ⟨hx, hb, hml, hr, hown, hts, hlk, hKK, hB, hR, hnm, hnl⟩ := C
  intro H locs ls a1 a2 a3 a4 a5
  subst hj
  have hlt : i.toNatClampNeg < mln M a := Nat.not_le.mp fun q => hin (Or.inr q)
  have hcell := a1.ar (t := 0) hk
  exact W.iald (v := Value.int (mgI M a (ix_ i))) hx hb hcell ((hKK.2.1 0 (by decide)).1 _ _) (fun q => by cases q) (by show ¬ (i < 0 ∨ (arrV _ _ _).slots.size ≤ _); rw [arrV_size]; exact hin) (by show (arrV _ _ _).slots[_]? = _; rw [arrV_read _ _ hlt]; rfl) rfl rfl hd (K H locs ls a1 a2 a3 a4 a5)
theorem r_lald {E : mE} {y : MethodName} {cc : ByteArray} {nL : Nat} {ret : Option FieldType} {rm : Room} {M : MM} {k n pc : Nat} {lv : List (Nat × Value)} {st : List Value} (C : mC E y cc nL ret rm) {a : Nat} {i : Int32} {j : Nat} (hk : mkd M a = 101) (hin : vp_in i (mln M a)) (hj : ix_ i = j) (hd : decode cc pc = .ok (.laload, 1)) {pc' : Nat} (hp : pc + 1 = pc') (K : mV E M k n pc' lv (Value.long (mgL M a j) :: st)) : mV E M k n pc lv (.int i :: .ref a :: st) := by
  subst hp
  obtain ⟨⟨p, l, e, R, s, m, args, below, meth, c⟩, D, nL', M0, QQ⟩ := E
  obtain ⟨hx, hb, hml, hr, hown, hts, hlk, hKK, hB, hR, hnm, hnl⟩ := C
  intro H locs ls a1 a2 a3 a4 a5
  subst hj
  have hlt : i.toNatClampNeg < mln M a := Nat.not_le.mp fun q => hin (Or.inr q)
  have hcell := a1.ar (t := 1) hk
  exact W.lald (v := Value.long (mgL M a (ix_ i))) hx hb hcell ((hKK.2.1 1 (by decide)).1 _ _) (fun q => by cases q) (by show ¬ (i < 0 ∨ (arrV _ _ _).slots.size ≤ _); rw [arrV_size]; exact hin) (by show (arrV _ _ _).slots[_]? = _; rw [arrV_read _ _ hlt]; rfl) rfl rfl hd (K H locs ls a1 a2 a3 a4 a5)
theorem r_bald {E : mE} {y : MethodName} {cc : ByteArray} {nL : Nat} {ret : Option FieldType} {rm : Room} {M : MM} {k n pc : Nat} {lv : List (Nat × Value)} {st : List Value} (C : mC E y cc nL ret rm) {a : Nat} {i : Int32} {j : Nat} (hk : mkd M a = 102) (hin : vp_in i (mln M a)) (hj : ix_ i = j) (hd : decode cc pc = .ok (.baload, 1)) {pc' : Nat} (hp : pc + 1 = pc') (K : mV E M k n pc' lv (Value.int (mgI M a j) :: st)) : mV E M k n pc lv (.int i :: .ref a :: st) := by
  subst hp
  obtain ⟨⟨p, l, e, R, s, m, args, below, meth, c⟩, D, nL', M0, QQ⟩ := E
  obtain ⟨hx, hb, hml, hr, hown, hts, hlk, hKK, hB, hR, hnm, hnl⟩ := C
  intro H locs ls a1 a2 a3 a4 a5
  subst hj
  have hlt : i.toNatClampNeg < mln M a := Nat.not_le.mp fun q => hin (Or.inr q)
  have hcell := a1.ar (t := 2) hk
  exact W.bald (v := Value.int (mgI M a (ix_ i))) hx hb hcell ((hKK.2.1 2 (by decide)).1 _ _) (fun q => by cases q) (by show ¬ (i < 0 ∨ (arrV _ _ _).slots.size ≤ _); rw [arrV_size]; exact hin) (by show (arrV _ _ _).slots[_]? = _; rw [arrV_read _ _ hlt]; rfl) rfl rfl hd (K H locs ls a1 a2 a3 a4 a5)
theorem r_aald {E : mE} {y : MethodName} {cc : ByteArray} {nL : Nat} {ret : Option FieldType} {rm : Room} {M : MM} {k n pc : Nat} {lv : List (Nat × Value)} {st : List Value} (C : mC E y cc nL ret rm) {a t : Nat} {i : Int32} {j : Nat} (hk : mkd M a = 100 + t) (ht : t < 11) (href : (mty t).isReference = true) (hmet : met t = 2) (hin : vp_in i (mln M a)) (hj : ix_ i = j) (hd : decode cc pc = .ok (.aaload, 1)) {pc' : Nat} (hp : pc + 1 = pc') (K : mV E M k n pc' lv (va_rf (mgR M a j) :: st)) : mV E M k n pc lv (.int i :: .ref a :: st) := by
  subst hp
  obtain ⟨⟨p, l, e, R, s, m, args, below, meth, c⟩, D, nL', M0, QQ⟩ := E
  obtain ⟨hx, hb, hml, hr, hown, hts, hlk, hKK, hB, hR, hnm, hnl⟩ := C
  intro H locs ls a1 a2 a3 a4 a5
  subst hj
  have hlt : i.toNatClampNeg < mln M a := Nat.not_le.mp fun q => hin (Or.inr q)
  have hcell := a1.ar hk
  exact W.aald (v := va_rf (mgR M a (ix_ i))) (ty := mty t) hx hb hcell ((hKK.2.1 t ht).1 _ _) href (fun q => by cases q) (by show ¬ (i < 0 ∨ (arrV _ _ _).slots.size ≤ _); rw [arrV_size]; exact hin) (by show (arrV _ _ _).slots[_]? = _; rw [arrV_read _ _ hlt, hmet]; rfl) rfl rfl hd (K H locs ls a1 a2 a3 a4 a5)
theorem r_alen {E : mE} {y : MethodName} {cc : ByteArray} {nL : Nat} {ret : Option FieldType} {rm : Room} {M : MM} {k n pc : Nat} {lv : List (Nat × Value)} {st : List Value} (C : mC E y cc nL ret rm) {a t : Nat} (hk : mkd M a = 100 + t) (ht : t < 11) (hd : decode cc pc = .ok (.arraylength, 1)) {pc' : Nat} (hp : pc + 1 = pc') (K : mV E M k n pc' lv (.int (nI (mln M a)) :: st)) : mV E M k n pc lv (.ref a :: st) := by
  subst hp
  obtain ⟨⟨p, l, e, R, s, m, args, below, meth, c⟩, D, nL', M0, QQ⟩ := E
  obtain ⟨hx, hb, hml, hr, hown, hts, hlk, hKK, hB, hR, hnm, hnl⟩ := C
  intro H locs ls a1 a2 a3 a4 a5
  have hcell := a1.ar hk
  exact W.alen (n := nI (mln M a)) hx hb hcell ((hKK.2.1 t ht).1 _ _) (by rw [arrV_size]; rfl) rfl rfl hd (K H locs ls a1 a2 a3 a4 a5)
theorem r_iast {E : mE} {y : MethodName} {cc : ByteArray} {nL : Nat} {ret : Option FieldType} {rm : Room} {M : MM} {k n pc : Nat} {lv : List (Nat × Value)} {st : List Value} (C : mC E y cc nL ret rm) {a : Nat} {i : Int32} {j : Nat} {x : Int32} (hk : mkd M a = 100) (hin : vp_in i (mln M a)) (hj : ix_ i = j) (hd : decode cc pc = .ok (.iastore, 1)) {pc' : Nat} (hp : pc + 1 = pc') (M1 : MM) (hM1 : M1 = msI M a j x) (K : mV E M1 k n pc' lv st) : mV E M k n pc lv (Value.int x :: .int i :: .ref a :: st) := by
  subst hp
  obtain ⟨⟨p, l, e, R, s, m, args, below, meth, c⟩, D, nL', M0, QQ⟩ := E
  obtain ⟨hx, hb, hml, hr, hown, hts, hlk, hKK, hB, hR, hnm, hnl⟩ := C
  intro H locs ls a1 a2 a3 a4 a5
  subst hM1
  subst hj
  have hB1 := (a1.2.2 a (by rw [hk]; exact Nat.succ_ne_zero _)).1
  have hcell := a1.ar (t := 0) hk
  refine W.iast hx hb hcell ((hKK.2.1 0 (by decide)).1 _ _) (fun q => by cases q) (by show ¬ (i < 0 ∨ (arrV _ _ _).slots.size ≤ _); rw [arrV_size]; exact hin) rfl rfl hd fun H1 e1 e2 e3 => ?_
  refine K H1 _ ls (a1.set (a := a) (by rw [hk]; exact Nat.succ_ne_zero _) rfl (fun _ => rfl) (fun _ => rfl) mfv_I_ne e2 e3 (mcell_ar (t := 0) hk ?_)) (a2.tr mMo_sI) (fun q hq => (e3 q (Nat.ne_of_lt (Nat.lt_of_lt_of_le hq hB1))).trans (a3 q hq)) (fun q hq => ?_) a5
  · rw [e1, arrV_store]
    show some (arrV _ (mln M a) _) = some (arrV _ (mln M a) _)
    congr 2
    funext j
    exact mfv_I_at _ j (fun _ => rfl)
  · rcases List.mem_append.mp hq with h | h
    · exact a4 q h
    · rw [List.mem_singleton.mp h]
      exact hB1
theorem r_last {E : mE} {y : MethodName} {cc : ByteArray} {nL : Nat} {ret : Option FieldType} {rm : Room} {M : MM} {k n pc : Nat} {lv : List (Nat × Value)} {st : List Value} (C : mC E y cc nL ret rm) {a : Nat} {i : Int32} {j : Nat} {x : Int64} (hk : mkd M a = 101) (hin : vp_in i (mln M a)) (hj : ix_ i = j) (hd : decode cc pc = .ok (.lastore, 1)) {pc' : Nat} (hp : pc + 1 = pc') (M1 : MM) (hM1 : M1 = msL M a j x) (K : mV E M1 k n pc' lv st) : mV E M k n pc lv (Value.long x :: .int i :: .ref a :: st) := by
  subst hp
  obtain ⟨⟨p, l, e, R, s, m, args, below, meth, c⟩, D, nL', M0, QQ⟩ := E
  obtain ⟨hx, hb, hml, hr, hown, hts, hlk, hKK, hB, hR, hnm, hnl⟩ := C
  intro H locs ls a1 a2 a3 a4 a5
  subst hM1
  subst hj
  have hB1 := (a1.2.2 a (by rw [hk]; exact Nat.succ_ne_zero _)).1
  have hcell := a1.ar (t := 1) hk
  refine W.last hx hb hcell ((hKK.2.1 1 (by decide)).1 _ _) (fun q => by cases q) (by show ¬ (i < 0 ∨ (arrV _ _ _).slots.size ≤ _); rw [arrV_size]; exact hin) rfl rfl hd fun H1 e1 e2 e3 => ?_
  refine K H1 _ ls (a1.set (a := a) (by rw [hk]; exact Nat.succ_ne_zero _) rfl (fun _ => rfl) (fun _ => rfl) mfv_L_ne e2 e3 (mcell_ar (t := 1) hk ?_)) (a2.tr mMo_sL) (fun q hq => (e3 q (Nat.ne_of_lt (Nat.lt_of_lt_of_le hq hB1))).trans (a3 q hq)) (fun q hq => ?_) a5
  · rw [e1, arrV_store]
    show some (arrV _ (mln M a) _) = some (arrV _ (mln M a) _)
    congr 2
    funext j
    exact mfv_L_at _ j (fun _ => rfl)
  · rcases List.mem_append.mp hq with h | h
    · exact a4 q h
    · rw [List.mem_singleton.mp h]
      exact hB1
theorem r_bast {E : mE} {y : MethodName} {cc : ByteArray} {nL : Nat} {ret : Option FieldType} {rm : Room} {M : MM} {k n pc : Nat} {lv : List (Nat × Value)} {st : List Value} (C : mC E y cc nL ret rm) {a : Nat} {i : Int32} {j : Nat} {x : Int32} (hk : mkd M a = 102) (hin : vp_in i (mln M a)) (hj : ix_ i = j) (hd : decode cc pc = .ok (.bastore, 1)) {pc' : Nat} (hp : pc + 1 = pc') (M1 : MM) (hM1 : M1 = msI M a j x.toInt8.toInt32) (K : mV E M1 k n pc' lv st) : mV E M k n pc lv (Value.int x :: .int i :: .ref a :: st) := by
  subst hp
  obtain ⟨⟨p, l, e, R, s, m, args, below, meth, c⟩, D, nL', M0, QQ⟩ := E
  obtain ⟨hx, hb, hml, hr, hown, hts, hlk, hKK, hB, hR, hnm, hnl⟩ := C
  intro H locs ls a1 a2 a3 a4 a5
  subst hM1
  subst hj
  have hB1 := (a1.2.2 a (by rw [hk]; exact Nat.succ_ne_zero _)).1
  have hcell := a1.ar (t := 2) hk
  refine W.bast hx hb hcell ((hKK.2.1 2 (by decide)).1 _ _) (fun q => by cases q) (by show ¬ (i < 0 ∨ (arrV _ _ _).slots.size ≤ _); rw [arrV_size]; exact hin) rfl rfl hd fun H1 e1 e2 e3 => ?_
  refine K H1 _ ls (a1.set (a := a) (by rw [hk]; exact Nat.succ_ne_zero _) rfl (fun _ => rfl) (fun _ => rfl) mfv_I_ne e2 e3 (mcell_ar (t := 2) hk ?_)) (a2.tr mMo_sI) (fun q hq => (e3 q (Nat.ne_of_lt (Nat.lt_of_lt_of_le hq hB1))).trans (a3 q hq)) (fun q hq => ?_) a5
  · rw [e1, arrV_store]
    show some (arrV _ (mln M a) _) = some (arrV _ (mln M a) _)
    congr 2
    funext j
    exact mfv_I_at _ j (fun _ => rfl)
  · rcases List.mem_append.mp hq with h | h
    · exact a4 q h
    · rw [List.mem_singleton.mp h]
      exact hB1
def mOk (kv t : Nat) : Bool := match t with
  | 3 => kv == 3
  | 4 => kv == 4
  | 5 => kv == 5
  | 6 => kv == 8 || kv == 9 || kv == 10
  | 7 => kv == 11 || kv == 12 || kv == 13
  | 8 => kv == 2
  | _ => false
def mEl (t : Nat) : String := match t with
  | 3 => "LandingTree$Plant"
  | 4 => "LandingTree$Person"
  | 5 => "LandingTree$Text"
  | 6 => "LandingTree$Sum"
  | 7 => "LandingTree$Condition"
  | _ => "LandingTree$Landing"
theorem mOk_lt {kv t : Nat} (h : mOk kv t = true) : kv < 99 ∧ 3 ≤ t ∧ t < 9 := by
  unfold mOk at h
  split at h <;> first | (cases h; done) | (simp at h; omega)
theorem mty_el {kv t : Nat} (h : mOk kv t = true) : mty t = .object (mEl t) := by
  unfold mOk at h
  split at h <;> first | rfl | (cases h; done)
/-- what may lie in a row of references of the type t -/
theorem mOk_as {kv t : Nat} (h : mOk kv t = true) : ∃ Cn T N, vwCl[kv]? = some (Cn, T, N) ∧ (Cn = mEl t ∨ Cond.castable Cn (mEl t) ∈ mnC) := by
  unfold mOk at h
  split at h
  · obtain rfl : kv = 3 := by simpa using h
    exact ⟨_, _, _, rfl, Or.inl rfl⟩
  · obtain rfl : kv = 4 := by simpa using h
    exact ⟨_, _, _, rfl, Or.inl rfl⟩
  · obtain rfl : kv = 5 := by simpa using h
    exact ⟨_, _, _, rfl, Or.inl rfl⟩
  · have h' : (kv = 8 ∨ kv = 9) ∨ kv = 10 := by simpa using h
    rcases h' with (rfl | rfl) | rfl
    · exact ⟨_, _, _, rfl, Or.inr (List.mem_of_getElem? (i := 0) rfl)⟩
    · exact ⟨_, _, _, rfl, Or.inr (List.mem_of_getElem? (i := 1) rfl)⟩
    · exact ⟨_, _, _, rfl, Or.inr (List.mem_of_getElem? (i := 2) rfl)⟩
  · have h' : (kv = 11 ∨ kv = 12) ∨ kv = 13 := by simpa using h
    rcases h' with (rfl | rfl) | rfl
    · exact ⟨_, _, _, rfl, Or.inr (List.mem_of_getElem? (i := 3) rfl)⟩
    · exact ⟨_, _, _, rfl, Or.inr (List.mem_of_getElem? (i := 4) rfl)⟩
    · exact ⟨_, _, _, rfl, Or.inr (List.mem_of_getElem? (i := 5) rfl)⟩
  · obtain rfl : kv = 2 := by simpa using h
    exact ⟨_, _, _, rfl, Or.inl rfl⟩
  · cases h
theorem r_aast {E : mE} {y : MethodName} {cc : ByteArray} {nL : Nat} {ret : Option FieldType} {rm : Room} {M : MM} {k n pc : Nat} {lv : List (Nat × Value)} {st : List Value} (C : mC E y cc nL ret rm) {a t : Nat} {i : Int32} {j : Nat} {o : Option Nat} (hk : mkd M a = 100 + t) (ht : 3 ≤ t ∧ t < 9) (hin : vp_in i (mln M a)) (hj : ix_ i = j) (ho : ∀ v, o = some v → mOk (mkd M v - 1) t = true ∧ mkd M v ≠ 0) (hd : decode cc pc = .ok (.aastore, 1)) {pc' : Nat} (hp : pc + 1 = pc') (M1 : MM) (hM1 : M1 = msR M a j o) (K : mV E M1 k n pc' lv st) : mV E M k n pc lv (va_rf o :: .int i :: .ref a :: st) := by
  subst hp
  obtain ⟨⟨p, l, e, R, s, m, args, below, meth, c⟩, D, nL', M0, QQ⟩ := E
  obtain ⟨hx, hb, hml, hr, hown, hts, hlk, hKK, hB, hR, hnm, hnl⟩ := C
  intro H locs ls a1 a2 a3 a4 a5
  subst hM1
  subst hj
  have hB1 := (a1.2.2 a (by rw [hk]; omega)).1
  have hcell := a1.ar hk
  have hlt : i.toNatClampNeg < mln M a := Nat.not_le.mp fun q => hin (Or.inr q)
  have h0 : ¬ i < 0 := fun q => hin (Or.inl q)
  have hmet : met t = 2 := by
    obtain ⟨t1, t2⟩ := ht
    rcases (show t = 3 ∨ t = 4 ∨ t = 5 ∨ t = 6 ∨ t = 7 ∨ t = 8 by omega) with rfl | rfl | rfl | rfl | rfl | rfl <;> rfl
  have hel : mty t = .object (mEl t) := by
    obtain ⟨t1, t2⟩ := ht
    rcases (show t = 3 ∨ t = 4 ∨ t = 5 ∨ t = 6 ∨ t = 7 ∨ t = 8 by omega) with rfl | rfl | rfl | rfl | rfl | rfl <;> rfl
  have fin : ∀ H1 : Heap, H1[a]? = some ((arrV (D.2.2.2.2 t) (mln M a) (fun j => mfv M (met t) a j)).setSlot i.toNatClampNeg (va_rf o)) → H1.size = H.size → (∀ q, q ≠ a → H1[q]? = H[q]?) → W p l e R s m args below meth c H1 (locs ++ [⟨a, i.toNatClampNeg⟩]) k n QQ (F0 m (pc + 1) ls st) := by
    intro H1 e1 e2 e3
    refine K H1 _ ls (a1.set (a := a) (by rw [hk]; omega) rfl (fun _ => rfl) (fun _ => rfl) mfv_R_ne e2 e3 (mcell_ar (t := t) hk ?_)) (a2.tr mMo_sR) (fun q hq => (e3 q (Nat.ne_of_lt (Nat.lt_of_lt_of_le hq hB1))).trans (a3 q hq)) (fun q hq => ?_) a5
    · rw [e1, arrV_store]
      show some (arrV _ (mln M a) _) = some (arrV _ (mln M a) _)
      congr 2
      funext j
      exact mfv_R_at _ j (fun _ => hmet)
    · rcases List.mem_append.mp hq with h | h
      · exact a4 q h
      · rw [List.mem_singleton.mp h]
        exact hB1
  have hAr := (hKK.2.1 t (by omega)).1
  have hRA := (hKK.2.1 t (by omega)).2
  rw [hel] at hAr hRA
  cases o with
  | none => exact va_WaastN (C := mEl t) hx hb hcell (hAr _ _) (fun h => by cases h) (by show ¬ (i < 0 ∨ (arrV _ _ _).slots.size ≤ _); rw [arrV_size]; exact hin) rfl rfl hd fin
  | some v =>
    obtain ⟨h1, h2⟩ := ho v rfl
    obtain ⟨Cn, T, N, hcv, hcast⟩ := mOk_as h1
    have hkv : mkd M v = (mkd M v - 1) + 1 := by omega
    obtain ⟨cv, g1, g2, g3, -⟩ := a1.ob hkv (mOk_lt h1).1 hcv
    have hcls := (hKK.1.1 _ _ hcv).2
    obtain ⟨kA, comp, k1, k2, k3, -⟩ := hRA
    obtain ⟨kC, hkC, -⟩ := hcls.2
    have hasg : s.vm.assignable cv.cls comp = true := by
      rw [g2]
      rcases hcast with e1 | e1
      · have e2 : comp = D.1.1 (mkd M v - 1) := Option.some.inj (k3.symm.trans (by rw [← e1]; exact hcls.1))
        rw [e2]
        exact va_assign hcls
      · obtain ⟨c0, t0, f1, f2, f3⟩ := Cond.castable_spec (va_Nw.use (A := args) rfl (hKK.2.2.1.2.2.1 _ e1))
        cases hcls.1.symm.trans f1
        cases k3.symm.trans f2
        exact f3
    obtain ⟨kCp, hkCp, -⟩ := Vm.findClass_spec k3
    exact W.aast hx hb hcell (fun q h => by cases h) (fun h => by cases h) k1 k2 rfl hkCp ⟨h0, by show _ < (arrV _ _ _).slots.size; rw [arrV_size]; exact hlt⟩ g1 (fun q h => by rw [g3] at h; cases h) (by rw [g2]; exact hkC) hasg rfl rfl hd fin
theorem r_new {E : mE} {y : MethodName} {cc : ByteArray} {nL : Nat} {ret : Option FieldType} {rm : Room} {M : MM} {k n pc : Nat} {lv : List (Nat × Value)} {st : List Value} (C : mC E y cc nL ret rm) {ci N idx : Nat} {Cn : String} {T : u_T} (ty0 : Nat → FieldType) (hci : ci < 99) (hc : vwCl[ci]? = some (Cn, T, N)) (hin : ∀ w ∈ u_ws Cn T N, w ∈ lw_all) (hty : ∀ k, k < N → parseFieldDescriptor (T k).2.2.1 = some (ty0 k)) (hdf : ∀ j, j < N → defaultValue (ty0 j) = (match mct ci j with | 0 => Value.int 0 | 1 => Value.long 0 | _ => Value.null)) (hcl : Cond.classLink y.cls idx Cn ∈ lw_all) (hins : Cond.instantiable Cn N ∈ lw_all) (hini : Cond.initialized Cn ∈ lw_all) (hcells : k + 1 ≤ rm.cells) (hslots : n + N ≤ rm.slots) (hd : decode cc pc = .ok (.new idx, 3)) {pc' : Nat} (hp : pc + 3 = pc') (b : Nat) (hb' : b = msz M) (M1 : MM) (hM1 : M1 = mnw M (ci + 1) 0) (K : mMo M M1 → mkd M1 b = ci + 1 → mV E M1 (k + 1) (n + N) pc' lv (.ref b :: st)) : mV E M k n pc lv st := by
  subst hp
  obtain ⟨⟨p, l, e, R, s, m, args, below, meth, c⟩, D, nL', M0, QQ⟩ := E
  obtain ⟨hx, hb, hml, hr, hown, hts, hlk, hKK, hB, hR, hnm, hnl⟩ := C
  intro H locs ls a1 a2 a3 a4 a5
  subst hR
  subst hM1
  subst hb'
  have hKn := hKK.1.1 ci _ hc
  refine W.newcK hx hb hown (hts _ hcl) (hts _ hins) (hts _ hini) rfl hd hcells hslots hKn.2.1 a1.1 fun H1 kC hkC e1 z1 o1 => ?_
  have hmo : mMo M (mnw M (ci + 1) 0) := mMo_nw a1.fresh
  have hkn : mkd (mnw M (ci + 1) 0) (msz M) = ci + 1 := mkd_nw
  rw [← a1.1] at o1 z1
  refine K hmo hkn H1 locs ls (a1.new (Nat.succ_ne_zero _) z1 o1 (mcell_ob hkn hci hc ((u_born ty0 hts hin hKn hkC e1 hty).to (fun j hj => ?_)))) (a2.tr hmo) (fun q hq => (o1 q (Nat.lt_of_lt_of_le hq (by rw [a1.1]; exact a1.2.1))).trans (a3 q hq)) a4 a5
  rw [hdf j hj]
  have e0 : ∀ c, mfv (mnw M (ci + 1) 0) c (msz M) j = (match c with | 0 => Value.int 0 | 1 => Value.long 0 | _ => Value.null) := by
    intro c
    match c with
    | 0 => simp [mfv, mgI, mnw]
    | 1 => simp [mfv, mgL, mnw]
    | c + 2 => simp [mfv, mgR, mnw, va_rf]
  exact (e0 _).symm
theorem r_newI {E : mE} {y : MethodName} {cc : ByteArray} {nL : Nat} {ret : Option FieldType} {rm : Room} {M : MM} {k n pc : Nat} {lv : List (Nat × Value)} {st : List Value} (C : mC E y cc nL ret rm) {i : Int32} (N : Nat) (h0 : ¬ i < 0) (hN : i.toNatClampNeg = N) (hbytes : N * 8 ≤ 536870912) (har : Cond.arrayClass (mty 0) ∈ lw_all) (hcells : k + 1 ≤ rm.cells) (hslots : n + N ≤ rm.slots) (hd : decode cc pc = .ok (.newarray .int, 2)) {pc' : Nat} (hp : pc + 2 = pc') (b : Nat) (hb' : b = msz M) (M1 : MM) (hM1 : M1 = mnw M 100 N) (K : mMo M M1 → mkd M1 b = 100 → mV E M1 (k + 1) (n + N) pc' lv (.ref b :: st)) : mV E M k n pc lv (.int i :: st) := by
  subst hp
  obtain ⟨⟨p, l, e, R, s, m, args, below, meth, c⟩, D, nL', M0, QQ⟩ := E
  obtain ⟨hx, hb, hml, hr, hown, hts, hlk, hKK, hB, hR, hnm, hnl⟩ := C
  intro H locs ls a1 a2 a3 a4 a5
  subst hR
  subst hM1
  subst hb'
  refine va_newaK (atype := .int) hx hb (hts _ har) rfl hd rfl h0 hN (Nat.le_trans (Nat.mul_le_mul_left _ (by decide)) hbytes) hcells hslots a1.1 fun H1 cA e1 z1 o1 hAr hfc => ?_
  have hmo : mMo M (mnw M 100 N) := mMo_nw a1.fresh
  have hkn : mkd (mnw M 100 N) (msz M) = 100 := mkd_nw
  have hcA : cA = D.2.2.2.2 0 := Option.some.inj (hfc.symm.trans (hKK.2.1 0 (by decide)).2)
  have hln : mln (mnw M 100 N) (msz M) = N := by
    show (if msz M = msz M then (100, N) else M.2.2.2.1 (msz M)).2 = N
    rw [if_pos rfl]
  rw [← a1.1] at o1 z1
  refine K hmo hkn H1 locs ls (a1.new (by decide) z1 o1 (mcell_ar (t := 0) hkn ?_)) (a2.tr hmo) (fun q hq => (o1 q (Nat.lt_of_lt_of_le hq (by rw [a1.1]; exact a1.2.1))).trans (a3 q hq)) a4 a5
  rw [e1, hcA, hln]
  congr 2
  funext j
  show Value.int 0 = _
  simp [mfv, met, metab, mgI, mgL, mnw]
theorem r_newL {E : mE} {y : MethodName} {cc : ByteArray} {nL : Nat} {ret : Option FieldType} {rm : Room} {M : MM} {k n pc : Nat} {lv : List (Nat × Value)} {st : List Value} (C : mC E y cc nL ret rm) {i : Int32} (N : Nat) (h0 : ¬ i < 0) (hN : i.toNatClampNeg = N) (hbytes : N * 8 ≤ 536870912) (har : Cond.arrayClass (mty 1) ∈ lw_all) (hcells : k + 1 ≤ rm.cells) (hslots : n + N ≤ rm.slots) (hd : decode cc pc = .ok (.newarray .long, 2)) {pc' : Nat} (hp : pc + 2 = pc') (b : Nat) (hb' : b = msz M) (M1 : MM) (hM1 : M1 = mnw M 101 N) (K : mMo M M1 → mkd M1 b = 101 → mV E M1 (k + 1) (n + N) pc' lv (.ref b :: st)) : mV E M k n pc lv (.int i :: st) := by
  subst hp
  obtain ⟨⟨p, l, e, R, s, m, args, below, meth, c⟩, D, nL', M0, QQ⟩ := E
  obtain ⟨hx, hb, hml, hr, hown, hts, hlk, hKK, hB, hR, hnm, hnl⟩ := C
  intro H locs ls a1 a2 a3 a4 a5
  subst hR
  subst hM1
  subst hb'
  refine va_newaK (atype := .long) hx hb (hts _ har) rfl hd rfl h0 hN (Nat.le_trans (Nat.mul_le_mul_left _ (by decide)) hbytes) hcells hslots a1.1 fun H1 cA e1 z1 o1 hAr hfc => ?_
  have hmo : mMo M (mnw M 101 N) := mMo_nw a1.fresh
  have hkn : mkd (mnw M 101 N) (msz M) = 101 := mkd_nw
  have hcA : cA = D.2.2.2.2 1 := Option.some.inj (hfc.symm.trans (hKK.2.1 1 (by decide)).2)
  have hln : mln (mnw M 101 N) (msz M) = N := by
    show (if msz M = msz M then (101, N) else M.2.2.2.1 (msz M)).2 = N
    rw [if_pos rfl]
  rw [← a1.1] at o1 z1
  refine K hmo hkn H1 locs ls (a1.new (by decide) z1 o1 (mcell_ar (t := 1) hkn ?_)) (a2.tr hmo) (fun q hq => (o1 q (Nat.lt_of_lt_of_le hq (by rw [a1.1]; exact a1.2.1))).trans (a3 q hq)) a4 a5
  rw [e1, hcA, hln]
  congr 2
  funext j
  show Value.long 0 = _
  simp [mfv, met, metab, mgI, mgL, mnw]
theorem r_newB {E : mE} {y : MethodName} {cc : ByteArray} {nL : Nat} {ret : Option FieldType} {rm : Room} {M : MM} {k n pc : Nat} {lv : List (Nat × Value)} {st : List Value} (C : mC E y cc nL ret rm) {i : Int32} (N : Nat) (h0 : ¬ i < 0) (hN : i.toNatClampNeg = N) (hbytes : N * 8 ≤ 536870912) (har : Cond.arrayClass (mty 2) ∈ lw_all) (hcells : k + 1 ≤ rm.cells) (hslots : n + N ≤ rm.slots) (hd : decode cc pc = .ok (.newarray .byte, 2)) {pc' : Nat} (hp : pc + 2 = pc') (b : Nat) (hb' : b = msz M) (M1 : MM) (hM1 : M1 = mnw M 102 N) (K : mMo M M1 → mkd M1 b = 102 → mV E M1 (k + 1) (n + N) pc' lv (.ref b :: st)) : mV E M k n pc lv (.int i :: st) := by
  subst hp
  obtain ⟨⟨p, l, e, R, s, m, args, below, meth, c⟩, D, nL', M0, QQ⟩ := E
  obtain ⟨hx, hb, hml, hr, hown, hts, hlk, hKK, hB, hR, hnm, hnl⟩ := C
  intro H locs ls a1 a2 a3 a4 a5
  subst hR
  subst hM1
  subst hb'
  refine va_newaK (atype := .byte) hx hb (hts _ har) rfl hd rfl h0 hN (Nat.le_trans (Nat.mul_le_mul_left _ (by decide)) hbytes) hcells hslots a1.1 fun H1 cA e1 z1 o1 hAr hfc => ?_
  have hmo : mMo M (mnw M 102 N) := mMo_nw a1.fresh
  have hkn : mkd (mnw M 102 N) (msz M) = 102 := mkd_nw
  have hcA : cA = D.2.2.2.2 2 := Option.some.inj (hfc.symm.trans (hKK.2.1 2 (by decide)).2)
  have hln : mln (mnw M 102 N) (msz M) = N := by
    show (if msz M = msz M then (102, N) else M.2.2.2.1 (msz M)).2 = N
    rw [if_pos rfl]
  rw [← a1.1] at o1 z1
  refine K hmo hkn H1 locs ls (a1.new (by decide) z1 o1 (mcell_ar (t := 2) hkn ?_)) (a2.tr hmo) (fun q hq => (o1 q (Nat.lt_of_lt_of_le hq (by rw [a1.1]; exact a1.2.1))).trans (a3 q hq)) a4 a5
  rw [e1, hcA, hln]
  congr 2
  funext j
  show Value.int 0 = _
  simp [mfv, met, metab, mgI, mgL, mnw]
theorem r_newQ {E : mE} {y : MethodName} {cc : ByteArray} {nL : Nat} {ret : Option FieldType} {rm : Room} {M : MM} {k n pc : Nat} {lv : List (Nat × Value)} {st : List Value} (C : mC E y cc nL ret rm) {i : Int32} {t idx : Nat} (N : Nat) (ht : 3 ≤ t ∧ t < 9) (h0 : ¬ i < 0) (hN : i.toNatClampNeg = N) (hbytes : N * 8 ≤ 536870912) (hcl : Cond.classLink y.cls idx (mEl t) ∈ lw_all) (hao : mEl t ∈ mnO) (hcells : k + 1 ≤ rm.cells) (hslots : n + N ≤ rm.slots) (hd : decode cc pc = .ok (.anewarray idx, 3)) {pc' : Nat} (hp : pc + 3 = pc') (b : Nat) (hb' : b = msz M) (M1 : MM) (hM1 : M1 = mnw M (100 + t) N) (K : mMo M M1 → mkd M1 b = 100 + t → mV E M1 (k + 1) (n + N) pc' lv (.ref b :: st)) : mV E M k n pc lv (.int i :: st) := by
  subst hp
  obtain ⟨⟨p, l, e, R, s, m, args, below, meth, c⟩, D, nL', M0, QQ⟩ := E
  obtain ⟨hx, hb, hml, hr, hown, hts, hlk, hKK, hB, hR, hnm, hnl⟩ := C
  intro H locs ls a1 a2 a3 a4 a5
  subst hR
  subst hM1
  subst hb'
  have hmet : met t = 2 := by
    obtain ⟨t1, t2⟩ := ht
    rcases (show t = 3 ∨ t = 4 ∨ t = 5 ∨ t = 6 ∨ t = 7 ∨ t = 8 by omega) with rfl | rfl | rfl | rfl | rfl | rfl <;> rfl
  have hel : mty t = .object (mEl t) := by
    obtain ⟨t1, t2⟩ := ht
    rcases (show t = 3 ∨ t = 4 ∨ t = 5 ∨ t = 6 ∨ t = 7 ∨ t = 8 by omega) with rfl | rfl | rfl | rfl | rfl | rfl <;> rfl
  have hRA := (hKK.2.1 t (by omega)).2
  rw [hel] at hRA
  obtain ⟨kA0, comp0, k1, k2, k3, k4⟩ := hRA
  subst hN
  refine W.anew hx hb hown (hts _ hcl) (va_AO.use (hKK.2.2.1.2.2.2.2.1 _ hao)) rfl hd rfl h0 (by omega) hcells hslots fun cA kA comp f1 f2 f3 f4 => ?_
  have hmo : mMo M (mnw M (100 + t) i.toNatClampNeg) := mMo_nw a1.fresh
  have hkn : mkd (mnw M (100 + t) i.toNatClampNeg) (msz M) = 100 + t := mkd_nw
  have hcA : cA = D.2.2.2.2 t := Option.some.inj (f1.symm.trans k4)
  have hln : mln (mnw M (100 + t) i.toNatClampNeg) (msz M) = i.toNatClampNeg := by
    show (if msz M = msz M then (100 + t, i.toNatClampNeg) else M.2.2.2.1 (msz M)).2 = i.toNatClampNeg
    rw [if_pos rfl]
  generalize hH1 : H.push ({ cls := cA, slots := Array.replicate i.toNatClampNeg .null, vm := .none } : Cell) = H1
  have z1 : H1.size = H.size + 1 := by rw [← hH1, Array.size_push]
  have e1 : H1[H.size]? = some (arrV cA i.toNatClampNeg (fun _ => .null)) := by rw [← hH1, Array.getElem?_push_size, ← arrV_new]
  have o1 : ∀ q : Nat, q < H.size → H1[q]? = H[q]? := fun q hq => by rw [← hH1, Array.getElem?_push, if_neg (Nat.ne_of_lt hq)]
  have e9 : H.size = msz M := a1.1
  have hcl1 : H1[msz M]? = some (arrV (D.2.2.2.2 t) (mln (mnw M (100 + t) i.toNatClampNeg) (msz M)) (fun j => mfv (mnw M (100 + t) i.toNatClampNeg) (met t) (msz M) j)) := by
    rw [← e9, e1, hcA, e9, hln, hmet]
    congr 2
    funext j
    simp [mfv, mgR, mnw, va_rf]
  have hK := K hmo hkn H1 locs ls (a1.new (by omega) z1 o1 (mcell_ar (t := t) hkn hcl1)) (a2.tr hmo) (fun q hq => (o1 q (Nat.lt_of_lt_of_le hq (by rw [a1.1]; exact a1.2.1))).trans (a3 q hq)) a4 a5
  rw [← e9] at hK
  exact hK
theorem r_iret {E : mE} {y : MethodName} {cc : ByteArray} {nL : Nat} {rm : Room} {M : MM} {k n pc : Nat} {lv : List (Nat × Value)}  (C : mC E y cc nL (some .int) rm) {Post : Option Value → MM → Prop} (hE : mEnd E rm Post) {x : Int32}  (hk1 : k ≤ rm.cells) (hn1 : n ≤ rm.slots) (hd : decode cc pc = .ok (.ireturn, 1)) (hp : Post (some (.int x)) M) : mV E M k n pc lv [.int x] := by
  obtain ⟨⟨p, l, e, R, s, m, args, below, meth, c⟩, D, nL', M0, QQ⟩ := E
  obtain ⟨hx, hb, hml, hr, hown, hts, hlk, hKK, hB, hR, hnm, hnl⟩ := C
  intro H locs ls a1 a2 a3 a4 a5
  have hE : QQ = MQ below (mQ D M0 Post) args s rm.cells rm.slots (fun q => D.2.1 ≤ q) := hE
  subst hE
  refine W.widen (k := rm.cells) (n := rm.slots) hk1 hn1 ?_
  exact W.iret hx hb hr (fun t ht hW => ⟨_, M, rfl, hp, a2, by rw [ht]; exact a1, fun q hq => by rw [ht]; exact a3 q hq⟩) a4 hd
theorem r_zret {E : mE} {y : MethodName} {cc : ByteArray} {nL : Nat} {rm : Room} {M : MM} {k n pc : Nat} {lv : List (Nat × Value)}  (C : mC E y cc nL (some .boolean) rm) {Post : Option Value → MM → Prop} (hE : mEnd E rm Post) {x : Int32} (hz : isB_ x) (hk1 : k ≤ rm.cells) (hn1 : n ≤ rm.slots) (hd : decode cc pc = .ok (.ireturn, 1)) (hp : Post (some (.int x)) M) : mV E M k n pc lv [.int x] := by
  obtain ⟨⟨p, l, e, R, s, m, args, below, meth, c⟩, D, nL', M0, QQ⟩ := E
  obtain ⟨hx, hb, hml, hr, hown, hts, hlk, hKK, hB, hR, hnm, hnl⟩ := C
  intro H locs ls a1 a2 a3 a4 a5
  have hE : QQ = MQ below (mQ D M0 Post) args s rm.cells rm.slots (fun q => D.2.1 ≤ q) := hE
  subst hE
  refine W.widen (k := rm.cells) (n := rm.slots) hk1 hn1 ?_
  exact W.zret hx hb hr (by rcases hz with h | h <;> (rw [h]; rfl)) (fun t ht hW => ⟨_, M, rfl, hp, a2, by rw [ht]; exact a1, fun q hq => by rw [ht]; exact a3 q hq⟩) a4 hd
theorem r_lret {E : mE} {y : MethodName} {cc : ByteArray} {nL : Nat} {rm : Room} {M : MM} {k n pc : Nat} {lv : List (Nat × Value)}  (C : mC E y cc nL (some .long) rm) {Post : Option Value → MM → Prop} (hE : mEnd E rm Post) {x : Int64}  (hk1 : k ≤ rm.cells) (hn1 : n ≤ rm.slots) (hd : decode cc pc = .ok (.lreturn, 1)) (hp : Post (some (.long x)) M) : mV E M k n pc lv [.long x] := by
  obtain ⟨⟨p, l, e, R, s, m, args, below, meth, c⟩, D, nL', M0, QQ⟩ := E
  obtain ⟨hx, hb, hml, hr, hown, hts, hlk, hKK, hB, hR, hnm, hnl⟩ := C
  intro H locs ls a1 a2 a3 a4 a5
  have hE : QQ = MQ below (mQ D M0 Post) args s rm.cells rm.slots (fun q => D.2.1 ≤ q) := hE
  subst hE
  refine W.widen (k := rm.cells) (n := rm.slots) hk1 hn1 ?_
  exact W.lret hx hb hr (fun t ht hW => ⟨_, M, rfl, hp, a2, by rw [ht]; exact a1, fun q hq => by rw [ht]; exact a3 q hq⟩) a4 hd
theorem r_aret {E : mE} {y : MethodName} {cc : ByteArray} {nL : Nat} {rm : Room} {M : MM} {k n pc : Nat} {lv : List (Nat × Value)} {nm : String} (C : mC E y cc nL (some (.object nm)) rm) {Post : Option Value → MM → Prop} (hE : mEnd E rm Post) {x : Option Nat}  (hk1 : k ≤ rm.cells) (hn1 : n ≤ rm.slots) (hd : decode cc pc = .ok (.areturn, 1)) (hp : Post (some (va_rf x)) M) : mV E M k n pc lv [va_rf x] := by
  obtain ⟨⟨p, l, e, R, s, m, args, below, meth, c⟩, D, nL', M0, QQ⟩ := E
  obtain ⟨hx, hb, hml, hr, hown, hts, hlk, hKK, hB, hR, hnm, hnl⟩ := C
  intro H locs ls a1 a2 a3 a4 a5
  have hE : QQ = MQ below (mQ D M0 Post) args s rm.cells rm.slots (fun q => D.2.1 ≤ q) := hE
  subst hE
  refine W.widen (k := rm.cells) (n := rm.slots) hk1 hn1 ?_
  exact W.aret hx hb hr (Or.inl ⟨_, rfl⟩) (by cases x with | none => exact Or.inl rfl | some a => exact Or.inr ⟨a, rfl⟩) (fun t ht hW => ⟨_, M, rfl, hp, a2, by rw [ht]; exact a1, fun q hq => by rw [ht]; exact a3 q hq⟩) a4 hd
theorem r_vret {E : mE} {y : MethodName} {cc : ByteArray} {nL : Nat} {rm : Room} {M : MM} {k n pc : Nat} {lv : List (Nat × Value)} (C : mC E y cc nL none rm) {Post : Option Value → MM → Prop} (hE : mEnd E rm Post) (hk1 : k ≤ rm.cells) (hn1 : n ≤ rm.slots) (hd : decode cc pc = .ok (.return_, 1)) (hp : Post none M) : mV E M k n pc lv [] := by
  obtain ⟨⟨p, l, e, R, s, m, args, below, meth, c⟩, D, nL', M0, QQ⟩ := E
  obtain ⟨hx, hb, hml, hr, hown, hts, hlk, hKK, hB, hR, hnm, hnl⟩ := C
  intro H locs ls a1 a2 a3 a4 a5
  have hE : QQ = MQ below (mQ D M0 Post) args s rm.cells rm.slots (fun q => D.2.1 ≤ q) := hE
  subst hE
  refine W.widen (k := rm.cells) (n := rm.slots) hk1 hn1 ?_
  exact W.vret hx hb hr (fun t ht hW => ⟨_, M, rfl, hp, a2, by rw [ht]; exact a1, fun q hq => by rw [ht]; exact a3 q hq⟩) a4 hd
theorem r_objInit {E : mE} {y : MethodName} {cc : ByteArray} {nL : Nat} {ret : Option FieldType} {rm : Room} {M : MM} {k n pc : Nat} {lv : List (Nat × Value)} {st : List Value} (C : mC E y cc nL ret rm) {a idx : Nat} (hlink : Cond.methodLink y.cls idx objectInit ∈ lw_all) (hinst : Cond.instanceMethod objectInit ∈ lw_all) (hcode : Cond.code objectInit ⟨#[0xb1]⟩ 1 none ∈ lw_all) (hfr : 1 ≤ rm.frames) (hlo : (st.map fun v => v.category).sum + 12 ≤ rm.locals) (hd : decode cc pc = .ok (.invokespecial idx, 3)) {pc' : Nat} (hp : pc + 3 = pc') (K : mV E M k n pc' lv st) : mV E M k n pc lv (.ref a :: st) := by
  subst hp
  obtain ⟨⟨p, l, e, R, s, m, args, below, meth, c⟩, D, nL', M0, QQ⟩ := E
  obtain ⟨hx, hb, hml, hr, hown, hts, hlk, hKK, hB, hR, hnm, hnl⟩ := C
  intro H locs ls a1 a2 a3 a4 a5
  subst hR
  refine W.objInit hx hb hown (hts _ hlink) (hts _ hinst) (hts _ hcode) rfl (by rw [hml, ← hnl]; exact a5.1) rfl hd hfr (by show 2 * 0 + _ + 12 ≤ _; omega) ?_
  exact K H locs ls a1 a2 a3 a4 a5
theorem r_mmax {E : mE} {y : MethodName} {cc : ByteArray} {nL : Nat} {ret : Option FieldType} {rm : Room} {M : MM} {k n pc : Nat} {lv : List (Nat × Value)} {st : List Value} (C : mC E y cc nL ret rm) {idx : Nat} {x y' : Int32} (hlink : Cond.methodLink y.cls idx Lib.Math.max.name ∈ lw_all) (hstat : Cond.static Lib.Math.max.name ∈ lw_all) (hini : Cond.initialized "java/lang/Math" ∈ lw_all) (hcode : Cond.code Lib.Math.max.name Lib.Math.max.code 2 (some .int) ∈ lw_all) (hfr : 1 ≤ rm.frames) (hlo : (st.map fun v => v.category).sum + 13 ≤ rm.locals) (hk1 : k ≤ rm.cells) (hn1 : n ≤ rm.slots) (hd : decode cc pc = .ok (.invokestatic idx, 3)) {pc' : Nat} (hp : pc + 3 = pc') (K : mV E M k n pc' lv (Value.int (mx_ x y') :: st)) : mV E M k n pc lv (.int y' :: .int x :: st) := by
  subst hp
  obtain ⟨⟨p, l, e, R, s, m, args, below, meth, c⟩, D, nL', M0, QQ⟩ := E
  obtain ⟨hx, hb, hml, hr, hown, hts, hlk, hKK, hB, hR, hnm, hnl⟩ := C
  intro H locs ls a1 a2 a3 a4 a5
  subst hR
  exact va_mmax hx hb (by rw [hml, ← hnl]; exact a5.1.symm) hown (hts _ hlink) (hts _ hstat) (hts _ hini) (hts _ hcode) hfr hlo hk1 hn1 hd (K H locs ls a1 a2 a3 a4 a5)
theorem r_mmin {E : mE} {y : MethodName} {cc : ByteArray} {nL : Nat} {ret : Option FieldType} {rm : Room} {M : MM} {k n pc : Nat} {lv : List (Nat × Value)} {st : List Value} (C : mC E y cc nL ret rm) {idx : Nat} {x y' : Int32} (hlink : Cond.methodLink y.cls idx Lib.Math.min.name ∈ lw_all) (hstat : Cond.static Lib.Math.min.name ∈ lw_all) (hini : Cond.initialized "java/lang/Math" ∈ lw_all) (hcode : Cond.code Lib.Math.min.name Lib.Math.min.code 2 (some .int) ∈ lw_all) (hfr : 1 ≤ rm.frames) (hlo : (st.map fun v => v.category).sum + 13 ≤ rm.locals) (hk1 : k ≤ rm.cells) (hn1 : n ≤ rm.slots) (hd : decode cc pc = .ok (.invokestatic idx, 3)) {pc' : Nat} (hp : pc + 3 = pc') (K : mV E M k n pc' lv (Value.int (mn_ x y') :: st)) : mV E M k n pc lv (.int y' :: .int x :: st) := by
  subst hp
  obtain ⟨⟨p, l, e, R, s, m, args, below, meth, c⟩, D, nL', M0, QQ⟩ := E
  obtain ⟨hx, hb, hml, hr, hown, hts, hlk, hKK, hB, hR, hnm, hnl⟩ := C
  intro H locs ls a1 a2 a3 a4 a5
  subst hR
  exact va_mmin hx hb (by rw [hml, ← hnl]; exact a5.1.symm) hown (hts _ hlink) (hts _ hstat) (hts _ hini) (hts _ hcode) hfr hlo hk1 hn1 hd (K H locs ls a1 a2 a3 a4 a5)
theorem r_run {E : mE} {M : MM} {k n pc : Nat} {lv : List (Nat × Value)} {st : List Value} {rest : List Value} {mc2 ms2 : Nat} {Post : Option Value → MM → Prop} {a : Array Value}
    (hr : ∀ (H : Heap) (locs : List Loc) (ls : Array Slot), mRep E.2.1 M H → (∀ q, q < E.2.1.2.1 → H[q]? = E.1.2.2.2.2.1.heap[q]?) → lv_has ls E.2.2.1 lv → va_Run E.1.1 E.1.2.1 E.1.2.2.1 E.1.2.2.2.1 E.1.2.2.2.2.1 E.1.2.2.2.2.2.1 E.1.2.2.2.2.2.2.1 E.1.2.2.2.2.2.2.2.1 E.1.2.2.2.2.2.2.2.2.1 E.1.2.2.2.2.2.2.2.2.2 H locs k n mc2 ms2 (F0 E.1.2.2.2.2.2.1 pc ls st) rest (mQ E.2.1 M Post a) (fun q => E.2.1.2.1 ≤ q))
    (K : ∀ (r : Option Value) (M' : MM), Post r M' → mMo M M' → mV E M' (k + mc2) (n + ms2) (pc + 3) lv (r.toList ++ rest)) : mV E M k n pc lv st := by
  intro H locs ls a1 a2 a3 a4 a5 T hT X
  obtain ⟨v, st₀, t, T', L, h0, X', hL, e1, e2, ⟨r, M', hv, hp, hmo, hrep, hold⟩, stp⟩ := hr H locs ls a1 a3 a5 T hT X
  cases hv
  obtain ⟨t2, b1, b2⟩ := K v M' hp hmo T'.heap (locs ++ L) ls (by rw [e1]; exact hrep) (a2.tr hmo) (fun q hq => by rw [e1, hold q hq, h0]; exact a3 q hq) (fun q hq => by
    rcases List.mem_append.mp hq with h | h
    · exact a4 q h
    · exact hL q h) a5 T' rfl X'
  exact ⟨t2, stp t2 b1, b2⟩
theorem mPre_blind {D : DD} {M : MM} {av : List Value} : FrameBlind (mPre D M av) := fun _ _ _ _ q => ⟨q.1, q.2.1, q.2.2.1.calling, q.2.2.2⟩
theorem mPre_at {D : DD} {M : MM} {av : List Value} {s U : State} {H : Heap} (h : mRep D M H) (hKK : mKK D s) (hB : D.2.1 ≤ s.heap.size) (hold : ∀ q, q < D.2.1 → H[q]? = s.heap[q]?) (hU : U.heap = H) (hW : s.WarmedH U.vm) : mPre D M av av.toArray U :=
  ⟨rfl, by rw [hU]; exact h, hKK.moved hW (fun q hq => by rw [hU]; exact hold q hq), by rw [hU, h.1]; exact h.2.1⟩
abbrev mHd (y : MethodName) (n : Nat) : Prop := y.cls ≠ "java/lang/invoke/MethodHandle" ∧ y.cls ≠ "java/lang/invoke/VarHandle" ∧ (parseMethodDescriptor y.desc).map (fun d => d.parameters.length) = some n
theorem r_callV {E : mE} {y : MethodName} {cc : ByteArray} {nL : Nat} {ret : Option FieldType} {rm : Room} {M : MM} {k n pc : Nat} {lv : List (Nat × Value)} {st : List Value} {y2 : MethodName} {cc2 : ByteArray} {nL2 n2 idx : Nat} {ret2 : Option FieldType} {rm2 : Room} {k' n' : Nat} {rest : List Value} {Post : Option Value → MM → Prop}  {As : List Value} (C : mC E y cc nL ret rm) {a ci N : Nat} {Cn : String} {T : u_T} (hk : mkd M a = ci + 1) (hci : ci < 99) (hc : vwCl[ci]? = some (Cn, T, N)) (hM : mMet E.2.1 E.1.2.1 y2 cc2 nL2 ret2 rm2 M (.ref a :: As) Post) (hcw : GoodIn lw_all (wsV y.cls idx Cn y2 (ws_ y2 cc2 nL2 ret2))) (hy2 : y2.cls = Cn) (hdd : mHd y2 n2) (hn : As.length = n2) (hst : st = As.reverse ++ .ref a :: rest) (hcat : (rest.map fun v => v.category).sum ≤ 8) (hfr : rm2.frames + 1 ≤ rm.frames) (hlo : 8 + (nL2 + 11) + rm2.locals ≤ rm.locals) (hk' : k + rm2.cells = k') (hn' : n + rm2.slots = n') (hf1 : k' ≤ rm.cells) (hf2 : n' ≤ rm.slots) (hd : decode cc pc = .ok (.invokevirtual idx, 3)) {pc' : Nat} (hp : pc + 3 = pc') (K : ∀ (r : Option Value) (M' : MM), Post r M' → mMo M M' → mV E M' k' n' pc' lv (r.toList ++ rest)) : mV E M k n pc lv st := by
  subst hp
  obtain ⟨⟨p, l, e, R, s, m, args, below, meth, c⟩, D, nL', M0, QQ⟩ := E
  obtain ⟨hx, hb, hml, hr, hown, hts, hlk, hKK, hB, hR, hnm, hnl⟩ := C
  subst hR
  subst hk'
  subst hn'
  subst hst
  refine r_run (mc2 := rm2.cells) (ms2 := rm2.slots) (a := (.ref a :: As : List Value).toArray) (Post := Post) (rest := rest) ?_ K
  intro H locs ls a1 a3 a5
  exact va_runV (C := Cn) (As := As) (rest := rest) ⟨hx, hb, hml, hown, hts⟩ hM (cwV n2 hts hcw rfl rfl rfl ⟨hy2, hdd⟩ ⟨hfr, hlo⟩) ⟨mPre_blind, by
    obtain ⟨cell, q1, q2, q3, -⟩ := a1.ob hk hci hc
    exact ⟨cell, q1, by rw [q3]; rfl, by rw [q2]; exact (hKK.1.1 ci _ hc).2.1⟩, fun U hU hW => mPre_at a1 hKK hB a3 hU hW⟩ rfl hn (by rw [← hnl]; exact a5.1) rfl (lv_room hcat) hd ⟨hf1, hf2⟩
theorem r_callS {E : mE} {y : MethodName} {cc : ByteArray} {nL : Nat} {ret : Option FieldType} {rm : Room} {M : MM} {k n pc : Nat} {lv : List (Nat × Value)} {st : List Value} {y2 : MethodName} {cc2 : ByteArray} {nL2 n2 idx : Nat} {ret2 : Option FieldType} {rm2 : Room} {k' n' : Nat} {rest : List Value} {Post : Option Value → MM → Prop}  {As : List Value} (C : mC E y cc nL ret rm)  (hM : mMet E.2.1 E.1.2.1 y2 cc2 nL2 ret2 rm2 M (As) Post) (hcw : GoodIn lw_all (va_wsS y.cls idx y2 (ws_ y2 cc2 nL2 ret2))) (hdd : mHd y2 n2) (hn : As.length = n2) (hst : st = As.reverse ++ rest) (hcat : (rest.map fun v => v.category).sum ≤ 8) (hfr : rm2.frames + 1 ≤ rm.frames) (hlo : 8 + (nL2 + 11) + rm2.locals ≤ rm.locals) (hk' : k + rm2.cells = k') (hn' : n + rm2.slots = n') (hf1 : k' ≤ rm.cells) (hf2 : n' ≤ rm.slots) (hd : decode cc pc = .ok (.invokestatic idx, 3)) {pc' : Nat} (hp : pc + 3 = pc') (K : ∀ (r : Option Value) (M' : MM), Post r M' → mMo M M' → mV E M' k' n' pc' lv (r.toList ++ rest)) : mV E M k n pc lv st := by
  subst hp
  obtain ⟨⟨p, l, e, R, s, m, args, below, meth, c⟩, D, nL', M0, QQ⟩ := E
  obtain ⟨hx, hb, hml, hr, hown, hts, hlk, hKK, hB, hR, hnm, hnl⟩ := C
  subst hR
  subst hk'
  subst hn'
  subst hst
  refine r_run (mc2 := rm2.cells) (ms2 := rm2.slots) (a := (As : List Value).toArray) (Post := Post) (rest := rest) ?_ K
  intro H locs ls a1 a3 a5
  exact va_runS (As := As) (rest := rest) ⟨hx, hb, hml, hown, hts⟩ hM (va_cwS n2 hts hcw rfl rfl rfl hdd ⟨hfr, hlo⟩) ⟨mPre_blind, fun U hU hW => mPre_at a1 hKK hB a3 hU hW⟩ rfl hn (by rw [← hnl]; exact a5.1) rfl (lv_room hcat) hd ⟨hf1, hf2⟩
theorem r_callI {E : mE} {y : MethodName} {cc : ByteArray} {nL : Nat} {ret : Option FieldType} {rm : Room} {M : MM} {k n pc : Nat} {lv : List (Nat × Value)} {st : List Value} {y2 : MethodName} {cc2 : ByteArray} {nL2 n2 idx : Nat} {ret2 : Option FieldType} {rm2 : Room} {k' n' : Nat} {rest : List Value} {Post : Option Value → MM → Prop} {a : Nat} {As : List Value} (C : mC E y cc nL ret rm)  (hM : mMet E.2.1 E.1.2.1 y2 cc2 nL2 ret2 rm2 M (.ref a :: As) Post) (hcode : Cond.code y2 cc2 nL2 none ∈ lw_all) (hini : Cond.initialized y2.cls ∈ lw_all) (hlink : Cond.methodLink y.cls idx y2 ∈ lw_all) (hinst : Cond.instanceMethod y2 ∈ lw_all) (hnm2 : y2.name = "<init>") (hr2 : ret2 = none) (hdd : mHd y2 n2) (hn : As.length = n2) (hst : st = As.reverse ++ .ref a :: rest) (hcat : (rest.map fun v => v.category).sum ≤ 8) (hfr : rm2.frames + 1 ≤ rm.frames) (hlo : 8 + (nL2 + 11) + rm2.locals ≤ rm.locals) (hk' : k + rm2.cells = k') (hn' : n + rm2.slots = n') (hf1 : k' ≤ rm.cells) (hf2 : n' ≤ rm.slots) (hd : decode cc pc = .ok (.invokespecial idx, 3)) {pc' : Nat} (hp : pc + 3 = pc') (K : ∀ (r : Option Value) (M' : MM), Post r M' → mMo M M' → mV E M' k' n' pc' lv (r.toList ++ rest)) : mV E M k n pc lv st := by
  subst hp
  obtain ⟨⟨p, l, e, R, s, m, args, below, meth, c⟩, D, nL', M0, QQ⟩ := E
  obtain ⟨hx, hb, hml, hr, hown, hts, hlk, hKK, hB, hR, hnm, hnl⟩ := C
  subst hR
  subst hk'
  subst hn'
  subst hst
  subst hr2
  refine r_run (mc2 := rm2.cells) (ms2 := rm2.slots) (a := (.ref a :: As : List Value).toArray) (Post := Post) (rest := rest) ?_ K
  intro H locs ls a1 a3 a5
  exact va_runI (As := As) (rest := rest) ⟨hx, hb, hml, hown, hts⟩ hM (cwI n2 hts (lw_meth hcode) rfl rfl rfl (hts _ hini) (hts _ hlink) (hts _ hinst) hnm2 hdd ⟨hfr, hlo⟩) ⟨mPre_blind, fun U hU hW => mPre_at a1 hKK hB a3 hU hW⟩ rfl hn (by rw [← hnl]; exact a5.1) rfl (lv_room hcat) hd ⟨hf1, hf2⟩
theorem r_callVN {E : mE} {y : MethodName} {cc : ByteArray} {nL : Nat} {ret : Option FieldType} {rm : Room} {M : MM} {k n pc : Nat} {lv : List (Nat × Value)} {st : List Value} {y2 : MethodName} {cc2 : ByteArray} {nL2 n2 idx : Nat} {ret2 : Option FieldType} {rm2 : Room} {k' n' : Nat} {rest : List Value} {Post : Option Value → MM → Prop} {host : String} {As : List Value} (C : mC E y cc nL ret rm) {a ci N : Nat} {Cn : String} {T : u_T} (hk : mkd M a = ci + 1) (hci : ci < 99) (hc : vwCl[ci]? = some (Cn, T, N)) (hM : mMet E.2.1 E.1.2.1 y2 cc2 nL2 ret2 rm2 M (.ref a :: As) Post) (hcode : Cond.code y2 cc2 nL2 ret2 ∈ lw_all) (hini : Cond.initialized y2.cls ∈ lw_all) (hlink : Cond.methodLinkNest y.cls idx y2 host ∈ mnM) (hinst : Cond.instanceMethod y2 ∈ lw_all) (hsel : Cond.selects Cn y2 y2 ∈ lw_all) (hdd : mHd y2 n2) (hn : As.length = n2) (hst : st = As.reverse ++ .ref a :: rest) (hcat : (rest.map fun v => v.category).sum ≤ 8) (hfr : rm2.frames + 1 ≤ rm.frames) (hlo : 8 + (nL2 + 11) + rm2.locals ≤ rm.locals) (hk' : k + rm2.cells = k') (hn' : n + rm2.slots = n') (hf1 : k' ≤ rm.cells) (hf2 : n' ≤ rm.slots) (hd : decode cc pc = .ok (.invokevirtual idx, 3)) {pc' : Nat} (hp : pc + 3 = pc') (K : ∀ (r : Option Value) (M' : MM), Post r M' → mMo M M' → mV E M' k' n' pc' lv (r.toList ++ rest)) : mV E M k n pc lv st := by
  subst hp
  obtain ⟨⟨p, l, e, R, s, m, args, below, meth, c⟩, D, nL', M0, QQ⟩ := E
  obtain ⟨hx, hb, hml, hr, hown, hts, hlk, hKK, hB, hR, hnm, hnl⟩ := C
  subst hR
  subst hk'
  subst hn'
  subst hst
  refine r_run (mc2 := rm2.cells) (ms2 := rm2.slots) (a := (.ref a :: As : List Value).toArray) (Post := Post) (rest := rest) ?_ K
  intro H locs ls a1 a3 a5
  exact va_runVN (C := Cn) (host := host) (As := As) (rest := rest) ⟨hx, hb, hml, hown, hts⟩ hM (⟨va_cnB n2 hts (lw_meth hcode) rfl rfl rfl (hKK.2.2.1.2.1 _ hlink) (hts _ hini) hdd ⟨hfr, hlo⟩, hts _ hinst, hts _ hsel⟩) ⟨mPre_blind, by
    obtain ⟨cell, q1, q2, q3, -⟩ := a1.ob hk hci hc
    exact ⟨cell, q1, by rw [q3]; rfl, by rw [q2]; exact (hKK.1.1 ci _ hc).2.1⟩, fun U hU hW => mPre_at a1 hKK hB a3 hU hW⟩ rfl hn (by rw [← hnl]; exact a5.1) rfl (lv_room hcat) hd ⟨hf1, hf2⟩
theorem r_callSN {E : mE} {y : MethodName} {cc : ByteArray} {nL : Nat} {ret : Option FieldType} {rm : Room} {M : MM} {k n pc : Nat} {lv : List (Nat × Value)} {st : List Value} {y2 : MethodName} {cc2 : ByteArray} {nL2 n2 idx : Nat} {ret2 : Option FieldType} {rm2 : Room} {k' n' : Nat} {rest : List Value} {Post : Option Value → MM → Prop} {host : String} {As : List Value} (C : mC E y cc nL ret rm)  (hM : mMet E.2.1 E.1.2.1 y2 cc2 nL2 ret2 rm2 M (As) Post) (hcode : Cond.code y2 cc2 nL2 ret2 ∈ lw_all) (hini : Cond.initialized y2.cls ∈ lw_all) (hlink : Cond.methodLinkNest y.cls idx y2 host ∈ mnM) (hstat : Cond.static y2 ∈ lw_all) (hdd : mHd y2 n2) (hn : As.length = n2) (hst : st = As.reverse ++ rest) (hcat : (rest.map fun v => v.category).sum ≤ 8) (hfr : rm2.frames + 1 ≤ rm.frames) (hlo : 8 + (nL2 + 11) + rm2.locals ≤ rm.locals) (hk' : k + rm2.cells = k') (hn' : n + rm2.slots = n') (hf1 : k' ≤ rm.cells) (hf2 : n' ≤ rm.slots) (hd : decode cc pc = .ok (.invokestatic idx, 3)) {pc' : Nat} (hp : pc + 3 = pc') (K : ∀ (r : Option Value) (M' : MM), Post r M' → mMo M M' → mV E M' k' n' pc' lv (r.toList ++ rest)) : mV E M k n pc lv st := by
  subst hp
  obtain ⟨⟨p, l, e, R, s, m, args, below, meth, c⟩, D, nL', M0, QQ⟩ := E
  obtain ⟨hx, hb, hml, hr, hown, hts, hlk, hKK, hB, hR, hnm, hnl⟩ := C
  subst hR
  subst hk'
  subst hn'
  subst hst
  refine r_run (mc2 := rm2.cells) (ms2 := rm2.slots) (a := (As : List Value).toArray) (Post := Post) (rest := rest) ?_ K
  intro H locs ls a1 a3 a5
  exact va_runSN (host := host) (As := As) (rest := rest) ⟨hx, hb, hml, hown, hts⟩ hM (⟨va_cnB n2 hts (lw_meth hcode) rfl rfl rfl (hKK.2.2.1.2.1 _ hlink) (hts _ hini) hdd ⟨hfr, hlo⟩, hts _ hstat, trivial⟩) ⟨mPre_blind, fun U hU hW => mPre_at a1 hKK hB a3 hU hW⟩ rfl hn (by rw [← hnl]; exact a5.1) rfl (lv_room hcat) hd ⟨hf1, hf2⟩
theorem r_callIN {E : mE} {y : MethodName} {cc : ByteArray} {nL : Nat} {ret : Option FieldType} {rm : Room} {M : MM} {k n pc : Nat} {lv : List (Nat × Value)} {st : List Value} {y2 : MethodName} {cc2 : ByteArray} {nL2 n2 idx : Nat} {ret2 : Option FieldType} {rm2 : Room} {k' n' : Nat} {rest : List Value} {Post : Option Value → MM → Prop} {a : Nat} {host : String} {As : List Value} (C : mC E y cc nL ret rm)  (hM : mMet E.2.1 E.1.2.1 y2 cc2 nL2 ret2 rm2 M (.ref a :: As) Post) (hcode : Cond.code y2 cc2 nL2 none ∈ lw_all) (hini : Cond.initialized y2.cls ∈ lw_all) (hlink : Cond.methodLinkNest y.cls idx y2 host ∈ mnM) (hinst : Cond.instanceMethod y2 ∈ lw_all) (hnm2 : y2.name = "<init>") (hr2 : ret2 = none) (hdd : mHd y2 n2) (hn : As.length = n2) (hst : st = As.reverse ++ .ref a :: rest) (hcat : (rest.map fun v => v.category).sum ≤ 8) (hfr : rm2.frames + 1 ≤ rm.frames) (hlo : 8 + (nL2 + 11) + rm2.locals ≤ rm.locals) (hk' : k + rm2.cells = k') (hn' : n + rm2.slots = n') (hf1 : k' ≤ rm.cells) (hf2 : n' ≤ rm.slots) (hd : decode cc pc = .ok (.invokespecial idx, 3)) {pc' : Nat} (hp : pc + 3 = pc') (K : ∀ (r : Option Value) (M' : MM), Post r M' → mMo M M' → mV E M' k' n' pc' lv (r.toList ++ rest)) : mV E M k n pc lv st := by
  subst hp
  obtain ⟨⟨p, l, e, R, s, m, args, below, meth, c⟩, D, nL', M0, QQ⟩ := E
  obtain ⟨hx, hb, hml, hr, hown, hts, hlk, hKK, hB, hR, hnm, hnl⟩ := C
  subst hR
  subst hk'
  subst hn'
  subst hst
  subst hr2
  refine r_run (mc2 := rm2.cells) (ms2 := rm2.slots) (a := (.ref a :: As : List Value).toArray) (Post := Post) (rest := rest) ?_ K
  intro H locs ls a1 a3 a5
  exact va_runIN (host := host) (As := As) (rest := rest) ⟨hx, hb, hml, hown, hts⟩ hM (⟨va_cnB n2 hts (lw_meth hcode) rfl rfl rfl (hKK.2.2.1.2.1 _ hlink) (hts _ hini) hdd ⟨hfr, hlo⟩, hnm2, hts _ hinst⟩) ⟨mPre_blind, fun U hU hW => mPre_at a1 hKK hB a3 hU hW⟩ rfl hn (by rw [← hnl]; exact a5.1) rfl (lv_room hcat) hd ⟨hf1, hf2⟩
theorem r_callA {E : mE} {y : MethodName} {cc : ByteArray} {nL : Nat} {ret : Option FieldType} {rm : Room} {M : MM} {k n pc : Nat} {lv : List (Nat × Value)} {st : List Value} {y2 : MethodName} {cc2 : ByteArray} {nL2 n2 idx : Nat} {ret2 : Option FieldType} {rm2 : Room} {k' n' : Nat} {rest : List Value} {Post : Option Value → MM → Prop} {x2 : MethodName} {As : List Value} (C : mC E y cc nL ret rm) {a ci N : Nat} {Cn : String} {T : u_T} (hk : mkd M a = ci + 1) (hci : ci < 99) (hc : vwCl[ci]? = some (Cn, T, N)) (hM : mMet E.2.1 E.1.2.1 y2 cc2 nL2 ret2 rm2 M (.ref a :: As) Post) (hcw : GoodIn lw_all (va_wsU y.cls idx Cn x2.cls x2 y2 (ws_ y2 cc2 nL2 ret2))) (hdecl : Cond.declares ⟨x2.cls, x2.name, x2.desc⟩ ∈ mnD) (hdx : x2.cls ≠ "java/lang/invoke/MethodHandle" ∧ x2.cls ≠ "java/lang/invoke/VarHandle" ∧ (parseMethodDescriptor x2.desc).map (fun d => d.parameters.length) = some n2) (hn : As.length = n2) (hst : st = As.reverse ++ .ref a :: rest) (hcat : (rest.map fun v => v.category).sum ≤ 8) (hfr : rm2.frames + 1 ≤ rm.frames) (hlo : 8 + (nL2 + 11) + rm2.locals ≤ rm.locals) (hk' : k + rm2.cells = k') (hn' : n + rm2.slots = n') (hf1 : k' ≤ rm.cells) (hf2 : n' ≤ rm.slots) (hd : decode cc pc = .ok (.invokevirtual idx, 3)) {pc' : Nat} (hp : pc + 3 = pc') (K : ∀ (r : Option Value) (M' : MM), Post r M' → mMo M M' → mV E M' k' n' pc' lv (r.toList ++ rest)) : mV E M k n pc lv st := by
  subst hp
  obtain ⟨⟨p, l, e, R, s, m, args, below, meth, c⟩, D, nL', M0, QQ⟩ := E
  obtain ⟨hx, hb, hml, hr, hown, hts, hlk, hKK, hB, hR, hnm, hnl⟩ := C
  subst hR
  subst hk'
  subst hn'
  subst hst
  refine r_run (mc2 := rm2.cells) (ms2 := rm2.slots) (a := (.ref a :: As : List Value).toArray) (Post := Post) (rest := rest) ?_ K
  intro H locs ls a1 a3 a5
  exact va_runU (C := Cn) (owner := x2.cls) (x := x2) (As := As) (rest := rest) ⟨hx, hb, hml, hown, hts⟩ hM (va_cwA n2 hts hcw rfl rfl rfl (hKK.2.2.1.2.2.2.1 _ hdecl) hdx ⟨hfr, hlo⟩) ⟨mPre_blind, by
    obtain ⟨cell, q1, q2, q3, -⟩ := a1.ob hk hci hc
    exact ⟨cell, q1, by rw [q3]; rfl, by rw [q2]; exact (hKK.1.1 ci _ hc).2.1⟩, fun U hU hW => mPre_at a1 hKK hB a3 hU hW⟩ rfl hn (by rw [← hnl]; exact a5.1) rfl (lv_room hcat) hd ⟨hf1, hf2⟩
theorem r_callH {E : mE} {y : MethodName} {cc : ByteArray} {nL : Nat} {ret : Option FieldType} {rm : Room} {M : MM} {k n pc : Nat} {lv : List (Nat × Value)} {st : List Value} {y2 : MethodName} {cc2 : ByteArray} {nL2 n2 idx : Nat} {ret2 : Option FieldType} {rm2 : Room} {k' n' : Nat} {rest : List Value} {Post : Option Value → MM → Prop}  {As : List Value} (C : mC E y cc nL ret rm) {a ci N : Nat} {Cn : String} {T : u_T} (hk : mkd M a = ci + 1) (hci : ci < 99) (hc : vwCl[ci]? = some (Cn, T, N)) (hM : mMet E.2.1 E.1.2.1 y2 cc2 nL2 ret2 rm2 M (.ref a :: As) Post) (hcw : GoodIn lw_all (va_wsU y.cls idx Cn y2.cls y2 y2 (ws_ y2 cc2 nL2 ret2))) (hdd : mHd y2 n2) (hn : As.length = n2) (hst : st = As.reverse ++ .ref a :: rest) (hcat : (rest.map fun v => v.category).sum ≤ 8) (hfr : rm2.frames + 1 ≤ rm.frames) (hlo : 8 + (nL2 + 11) + rm2.locals ≤ rm.locals) (hk' : k + rm2.cells = k') (hn' : n + rm2.slots = n') (hf1 : k' ≤ rm.cells) (hf2 : n' ≤ rm.slots) (hd : decode cc pc = .ok (.invokevirtual idx, 3)) {pc' : Nat} (hp : pc + 3 = pc') (K : ∀ (r : Option Value) (M' : MM), Post r M' → mMo M M' → mV E M' k' n' pc' lv (r.toList ++ rest)) : mV E M k n pc lv st := by
  subst hp
  obtain ⟨⟨p, l, e, R, s, m, args, below, meth, c⟩, D, nL', M0, QQ⟩ := E
  obtain ⟨hx, hb, hml, hr, hown, hts, hlk, hKK, hB, hR, hnm, hnl⟩ := C
  subst hR
  subst hk'
  subst hn'
  subst hst
  refine r_run (mc2 := rm2.cells) (ms2 := rm2.slots) (a := (.ref a :: As : List Value).toArray) (Post := Post) (rest := rest) ?_ K
  intro H locs ls a1 a3 a5
  exact va_runU (C := Cn) (owner := y2.cls) (x := y2) (As := As) (rest := rest) ⟨hx, hb, hml, hown, hts⟩ hM (va_cwU n2 hts hcw rfl rfl rfl rfl hdd ⟨hfr, hlo⟩) ⟨mPre_blind, by
    obtain ⟨cell, q1, q2, q3, -⟩ := a1.ob hk hci hc
    exact ⟨cell, q1, by rw [q3]; rfl, by rw [q2]; exact (hKK.1.1 ci _ hc).2.1⟩, fun U hU hW => mPre_at a1 hKK hB a3 hU hW⟩ rfl hn (by rw [← hnl]; exact a5.1) rfl (lv_room hcat) hd ⟨hf1, hf2⟩
theorem t_i {P : Int32 → MM → Prop} {A : Option Value → MM → Prop} (h : ∀ x M', P x M' → A (some (.int x)) M') : ∀ r M', pI_ P r M' → A r M' := by
  rintro r M' ⟨x, rfl, hp⟩
  exact h x M' hp
theorem t_l {P : Int64 → MM → Prop} {A : Option Value → MM → Prop} (h : ∀ x M', P x M' → A (some (.long x)) M') : ∀ r M', pL_ P r M' → A r M' := by
  rintro r M' ⟨x, rfl, hp⟩
  exact h x M' hp
theorem t_q {P : Option Nat → MM → Prop} {A : Option Value → MM → Prop} (h : ∀ x M', P x M' → A (some (va_rf x)) M') : ∀ r M', pR_ P r M' → A r M' := by
  rintro r M' ⟨x, rfl, hp⟩
  exact h x M' hp
theorem t_v {P : MM → Prop} {A : Option Value → MM → Prop} (h : ∀ M', P M' → A none M') : ∀ r M', pV_ P r M' → A r M' := by
  rintro r M' ⟨rfl, hp⟩
  exact h M' hp
theorem lw_U {own : String} {idx : Nat} {C owner : String} {x y : MethodName} {b : ByteArray} {L : Nat} {r : Option FieldType} (h1 : Cond.methodLink own idx x ∈ lw_all) (h2 : Cond.sameMethod x.cls owner x.name x.desc ∈ lw_all) (h3 : Cond.selects C x y ∈ lw_all) (h4 : Cond.instanceMethod y ∈ lw_all) (h5 : Cond.initialized y.cls ∈ lw_all) (h6 : Cond.code y b L r ∈ lw_all) : GoodIn lw_all (va_wsU own idx C owner x y (ws_ y b L r)) := by
  refine lw_app ?_ (lw_meth h6)
  intro w hw
  simp only [List.mem_cons, List.not_mem_nil, or_false] at hw
  rcases hw with e | e | e | e | e
  · rw [e]; exact h1
  · rw [e]; exact h2
  · rw [e]; exact h3
  · rw [e]; exact h4
  · rw [e]; exact h5
theorem mmu_mo {M : MM} {t n u m : Nat} (h : ∀ b, msz M ≤ b → mkd M b = 0) : mMo M (mmu M t n u m) := by
  refine ⟨fun b hb => ?_, by show msz M ≤ msz M + 1 + n; omega⟩
  have hne : ¬ msz M ≤ b := fun e => hb (h b e)
  have h1 : b ≠ msz M := by omega
  have h2 : ¬ (msz M ≤ b ∧ b < msz M + 1 + n) := fun q => hne q.1
  constructor
  · show (if b = msz M then (t, n) else if msz M ≤ b ∧ b < msz M + 1 + n then (u, m) else M.2.2.2.1 b).1 = _
    rw [if_neg h1, if_neg h2]; rfl
  · show (if b = msz M then (t, n) else if msz M ≤ b ∧ b < msz M + 1 + n then (u, m) else M.2.2.2.1 b).2 = _
    rw [if_neg h1, if_neg h2]; rfl
theorem mRep.freshs {D : DD} {M : MM} {H : Heap} (h : mRep D M H) : ∀ b, msz M ≤ b → mkd M b = 0 := by
  intro b hb
  by_cases hz : mkd M b = 0
  · exact hz
  · have := (h.2.2 _ hz).2.lt
    rw [h.1] at this
    omega
theorem mmu_o1 (c : ClassId) (N h0 : Nat) : ∀ i, ∃ sl : Array Value, Jvm.Free.Multi.outerC c N h0 i = ({ cls := c, slots := sl, vm := .none } : Cell)
  | 0 => ⟨_, rfl⟩
  | i + 1 => by
    obtain ⟨sl, h⟩ := mmu_o1 c N h0 i
    exact ⟨sl.setIfInBounds i (.ref (h0 + 1 + i)), by show (Jvm.Free.Multi.outerC c N h0 i).setSlot i _ = _; rw [h]; rfl⟩
theorem mmu_outer (c : ClassId) (N h0 : Nat) : Jvm.Free.Multi.outerC c N h0 N = arrV c N (fun j => va_rf (if j < N then some (h0 + 1 + j) else none)) := by
  obtain ⟨sl, hX⟩ := mmu_o1 c N h0 N
  have o3 := (Jvm.Free.Multi.outerC_facts c N h0 N).2.2
  rw [hX] at o3 ⊢
  have hs : sl = (arrV c N (fun j => va_rf (if j < N then some (h0 + 1 + j) else none))).slots := by
    apply Array.ext
    · rw [arrV_size]; exact o3
    · intro i h1 h2
      have hi : i < N := by rw [← o3]; exact h1
      have e1 := Jvm.Free.Multi.outerC_slot c N h0 N i hi
      rw [hX, if_pos hi] at e1
      have e2 := arrV_read c (N := N) (j := i) (fun j => va_rf (if j < N then some (h0 + 1 + j) else none)) hi
      rw [if_pos hi] at e2
      have e3 := e1.trans e2.symm
      rw [Array.getElem?_eq_getElem h1, Array.getElem?_eq_getElem h2] at e3
      exact Option.some.inj e3
  rw [hs]
  rfl
theorem r_mnew {E : mE} {y : MethodName} {cc : ByteArray} {nL : Nat} {ret : Option FieldType} {rm : Room} {M : MM} {k n pc : Nat} {lv : List (Nat × Value)} {st : List Value} (C : mC E y cc nL ret rm) {i j : Int32} {t u idx : Nat} (N K0 : Nat) (htu : (t = 9 ∧ u = 1) ∨ (t = 10 ∧ u = 0)) (h0 : ¬ i < 0) (h1 : ¬ j < 0) (hN : i.toNatClampNeg = N) (hK0 : j.toNatClampNeg = K0) (hb1 : N * 4 ≤ 536870912) (hb2 : K0 * 8 ≤ 536870912) (hcl : Cond.classLink y.cls idx ("[" ++ (mty t).toString) ∈ lw_all) (har : Cond.arrayClass (mty u) ∈ lw_all) (hcells : k + (1 + N) ≤ rm.cells) (hslots : n + (N + N * K0) ≤ rm.slots) (hd : decode cc pc = .ok (.multianewarray idx 2, 4)) {pc' : Nat} (hp : pc + 4 = pc') (b : Nat) (hb' : b = msz M) (M1 : MM) (hM1 : M1 = mmu M (100 + t) N (100 + u) K0) (K : mMo M M1 → mkd M1 b = 100 + t → mV E M1 (k + 1 + N) (n + N + N * K0) pc' lv (.ref b :: st)) : mV E M k n pc lv (.int j :: .int i :: st) := by
  subst hp
  obtain ⟨⟨p, l, e, R, s, m, args, below, meth, c⟩, D, nL', M0, QQ⟩ := E
  obtain ⟨hx, hb, hml, hr, hown, hts, hlk, hKK, hB, hR, hnm, hnl⟩ := C
  intro H locs ls a1 a2 a3 a4 a5
  subst hR
  subst hM1
  subst hb'
  subst hN
  subst hK0
  have hty : mty t = .array (mty u) ∧ mty u ∈ mnA ∧ t < 11 ∧ u < 11 ∧ met t = 2 ∧ fits (mty u) (defaultValue (mty u)) = true ∧ (defaultValue (mty u)).isDefault = true ∧ componentBytes (mty u) ≤ 8 ∧ va_RA s (D.2.2.2.2 t) (.array (mty u)) ∧ s.vm.findClass ("[" ++ (mty u).toString) = some (D.2.2.2.2 u) ∧ (∀ (M1 : MM) b, (∀ j, mgI M1 b j = 0 ∧ mgL M1 b j = 0) → (fun j => mfv M1 (met u) b j) = fun _ => defaultValue (mty u)) := by
    have r1 := hKK.2.1
    rcases htu with ⟨rfl, rfl⟩ | ⟨rfl, rfl⟩
    · exact ⟨rfl, List.mem_cons_self, by decide, by decide, rfl, rfl, rfl, by decide, (r1 9 (by decide)).2, (r1 1 (by decide)).2, fun M1 b h => by funext j; show Value.long (mgL M1 b j) = Value.long 0; rw [(h j).2]⟩
    · exact ⟨rfl, List.mem_cons_of_mem _ List.mem_cons_self, by decide, by decide, rfl, rfl, rfl, by decide, (r1 10 (by decide)).2, (r1 0 (by decide)).2, fun M1 b h => by funext j; show Value.int (mgI M1 b j) = Value.int 0; rw [(h j).1]⟩
  obtain ⟨t1, t2, t3, t4, t5, t6, t7, t8, t9, t10, t11⟩ := hty
  rw [t1] at hcl
  have hao := hKK.2.2.1.2.2.2.2.2 _ t2
  intro T hT X
  have hb3 : j.toNatClampNeg ≤ 536870912 := by omega
  obtain ⟨vm₁, cA, comp, hW1, hfA, hfC, -, -, X1, step⟩ := X.multianewarray2F hx (own := y.cls) (index := idx) (ty := mty u) hown (hts _ hcl) (show (Cond.arrayOver (.array (mty u))).before args s = true from hao) (hts _ har)
    (g := F0 m pc ls (.int j :: .int i :: st)) rfl (by rw [hb]; exact hd) (n := i) (k := j) (rest := st) rfl h0 h1 hb1 (by have := Nat.mul_le_mul_left j.toNatClampNeg t8; omega) hb3 t6 t7 hcells hslots
  obtain ⟨f1, f2, f3, f4⟩ := Jvm.Free.Multi.fill_facts (T.setVm vm₁) cA comp i.toNatClampNeg j.toNatClampNeg (defaultValue (mty u)) i.toNatClampNeg
  have hcA : cA = D.2.2.2.2 t := Option.some.inj (hfA.symm.trans t9)
  have hcC : comp = D.2.2.2.2 u := Option.some.inj (hfC.symm.trans t10)
  have hz : (T.setVm vm₁).heap.size = msz M := by show T.heap.size = _; rw [hT]; exact a1.1
  have hzT : T.heap.size = msz M := hz
  rw [hz] at f1 f2
  generalize hF : Jvm.Free.Multi.fill (T.setVm vm₁) cA comp i.toNatClampNeg j.toNatClampNeg (defaultValue (mty u)) i.toNatClampNeg = F at f1 f2 f3 f4 X1 step
  have hmo : mMo M (mmu M (100 + t) i.toNatClampNeg (100 + u) j.toNatClampNeg) := mmu_mo a1.freshs
  have hkd0 : mkd (mmu M (100 + t) i.toNatClampNeg (100 + u) j.toNatClampNeg) (msz M) = 100 + t := by
    show (if msz M = msz M then (100 + t, i.toNatClampNeg) else _).1 = _
    rw [if_pos rfl]
  have hold : ∀ q, q < msz M → F.heap[q]? = H[q]? := by
    intro q hq
    rw [← hF, Jvm.Free.Multi.fill_old (T.setVm vm₁) cA comp _ _ _ (by rw [hz]; exact hq)]
    show T.heap[q]? = _
    rw [hT]
  have hrep : mRep D (mmu M (100 + t) i.toNatClampNeg (100 + u) j.toNatClampNeg) F.heap := by
    refine ⟨f1, Nat.le_trans a1.2.1 (by show msz M ≤ msz M + 1 + _; omega), fun b hb => ?_⟩
    by_cases e1 : b = msz M
    · subst e1
      refine ⟨a1.2.1, mcell_ar (t := t) hkd0 ?_⟩
      have hl : mln (mmu M (100 + t) i.toNatClampNeg (100 + u) j.toNatClampNeg) (msz M) = i.toNatClampNeg := by
        show (if msz M = msz M then (100 + t, i.toNatClampNeg) else _).2 = _
        rw [if_pos rfl]
      rw [f2, mmu_outer, hcA, hl, t5]
      congr 2
      funext j0
      show _ = va_rf (if msz M = msz M then _ else _)
      rw [if_pos rfl]
    · by_cases e2 : msz M ≤ b ∧ b < msz M + 1 + i.toNatClampNeg
      · refine ⟨Nat.le_trans a1.2.1 e2.1, mcell_ar (t := u) ?_ ?_⟩
        · show (if b = msz M then _ else if msz M ≤ b ∧ b < msz M + 1 + i.toNatClampNeg then (100 + u, j.toNatClampNeg) else _).1 = _
          rw [if_neg e1, if_pos e2]
        · have hl : mln (mmu M (100 + t) i.toNatClampNeg (100 + u) j.toNatClampNeg) b = j.toNatClampNeg := by
            show (if b = msz M then _ else if msz M ≤ b ∧ b < msz M + 1 + i.toNatClampNeg then (100 + u, j.toNatClampNeg) else _).2 = _
            rw [if_neg e1, if_pos e2]
          obtain ⟨d, rfl⟩ : ∃ d, b = msz M + 1 + d := ⟨b - (msz M + 1), by omega⟩
          have e5 := Jvm.Free.Multi.fill_inner (T.setVm vm₁) cA comp i.toNatClampNeg j.toNatClampNeg (defaultValue (mty u)) i.toNatClampNeg d (by omega)
          rw [hF, hz] at e5
          rw [e5, hl, hcC, t11 _ _ (fun j0 => ⟨by show (if _ then _ else _) = _; rw [if_pos e2], by show (if _ then _ else _) = _; rw [if_pos e2]⟩), ← arrV_new]
          rfl
      · have hkd : mkd (mmu M (100 + t) i.toNatClampNeg (100 + u) j.toNatClampNeg) b = mkd M b := by
          show (if b = msz M then _ else if msz M ≤ b ∧ b < msz M + 1 + i.toNatClampNeg then _ else M.2.2.2.1 b).1 = _
          rw [if_neg e1, if_neg e2]; rfl
        have hln : mln (mmu M (100 + t) i.toNatClampNeg (100 + u) j.toNatClampNeg) b = mln M b := by
          show (if b = msz M then _ else if msz M ≤ b ∧ b < msz M + 1 + i.toNatClampNeg then _ else M.2.2.2.1 b).2 = _
          rw [if_neg e1, if_neg e2]; rfl
        rw [hkd] at hb
        have hb2 := a1.2.2 b hb
        refine ⟨hb2.1, hb2.2.to hkd hln (fun c0 j0 => ?_) (hold b (by rw [← a1.1]; exact hb2.2.lt))⟩
        match c0 with
        | 0 => show Value.int (if _ then _ else _) = _; rw [if_neg e2]; rfl
        | 1 => show Value.long (if _ then _ else _) = _; rw [if_neg e2]; rfl
        | c0 + 2 => show va_rf (if _ then _ else if _ then _ else _) = _; rw [if_neg e1, if_neg e2]; rfl
  obtain ⟨t2', b1, b2⟩ := K hmo hkd0 F.heap locs ls hrep (a2.tr hmo) (fun q hq => (hold q (Nat.lt_of_lt_of_le hq a1.2.1)).trans (a3 q hq)) a4 a5 F rfl X1
  refine ⟨t2', step t2' ?_, b2⟩
  rw [hzT]
  exact b1
theorem r_callVi {E : mE} {y : MethodName} {cc : ByteArray} {nL : Nat} {ret : Option FieldType} {rm : Room} {M : MM} {k n pc : Nat} {lv : List (Nat × Value)} {st : List Value} {y2 : MethodName} {cc2 : ByteArray} {nL2 n2 idx : Nat} {ret2 : Option FieldType} {rm2 : Room} {k' n' : Nat} {rest : List Value} {P : Int32 → MM → Prop}  {As : List Value} (C : mC E y cc nL ret rm) {a ci N : Nat} {Cn : String} {T : u_T} (hk : mkd M a = ci + 1) (hci : ci < 99) (hc : vwCl[ci]? = some (Cn, T, N)) (hM : mMet E.2.1 E.1.2.1 y2 cc2 nL2 ret2 rm2 M (.ref a :: As) (pI_ P)) (hcw : GoodIn lw_all (wsV y.cls idx Cn y2 (ws_ y2 cc2 nL2 ret2))) (hy2 : y2.cls = Cn) (hdd : mHd y2 n2) (hn : As.length = n2) (hst : st = As.reverse ++ .ref a :: rest) (hcat : (rest.map fun v => v.category).sum ≤ 8) (hfr : rm2.frames + 1 ≤ rm.frames) (hlo : 8 + (nL2 + 11) + rm2.locals ≤ rm.locals) (hk' : k + rm2.cells = k') (hn' : n + rm2.slots = n') (hf1 : k' ≤ rm.cells) (hf2 : n' ≤ rm.slots) (hd : decode cc pc = .ok (.invokevirtual idx, 3)) {pc' : Nat} (hp : pc + 3 = pc') (K : ∀ (x : Int32) (M' : MM), P x M' → mMo M M' → mV E M' k' n' pc' lv (.int x :: rest)) : mV E M k n pc lv st :=
  r_callV C hk hci hc hM hcw hy2 hdd hn hst hcat hfr hlo hk' hn' hf1 hf2 hd hp (fun r M' hp hm => by
    obtain ⟨x, rfl, hp⟩ := hp
    exact K x M' hp hm)
theorem r_callVl {E : mE} {y : MethodName} {cc : ByteArray} {nL : Nat} {ret : Option FieldType} {rm : Room} {M : MM} {k n pc : Nat} {lv : List (Nat × Value)} {st : List Value} {y2 : MethodName} {cc2 : ByteArray} {nL2 n2 idx : Nat} {ret2 : Option FieldType} {rm2 : Room} {k' n' : Nat} {rest : List Value} {P : Int64 → MM → Prop}  {As : List Value} (C : mC E y cc nL ret rm) {a ci N : Nat} {Cn : String} {T : u_T} (hk : mkd M a = ci + 1) (hci : ci < 99) (hc : vwCl[ci]? = some (Cn, T, N)) (hM : mMet E.2.1 E.1.2.1 y2 cc2 nL2 ret2 rm2 M (.ref a :: As) (pL_ P)) (hcw : GoodIn lw_all (wsV y.cls idx Cn y2 (ws_ y2 cc2 nL2 ret2))) (hy2 : y2.cls = Cn) (hdd : mHd y2 n2) (hn : As.length = n2) (hst : st = As.reverse ++ .ref a :: rest) (hcat : (rest.map fun v => v.category).sum ≤ 8) (hfr : rm2.frames + 1 ≤ rm.frames) (hlo : 8 + (nL2 + 11) + rm2.locals ≤ rm.locals) (hk' : k + rm2.cells = k') (hn' : n + rm2.slots = n') (hf1 : k' ≤ rm.cells) (hf2 : n' ≤ rm.slots) (hd : decode cc pc = .ok (.invokevirtual idx, 3)) {pc' : Nat} (hp : pc + 3 = pc') (K : ∀ (x : Int64) (M' : MM), P x M' → mMo M M' → mV E M' k' n' pc' lv (.long x :: rest)) : mV E M k n pc lv st :=
  r_callV C hk hci hc hM hcw hy2 hdd hn hst hcat hfr hlo hk' hn' hf1 hf2 hd hp (fun r M' hp hm => by
    obtain ⟨x, rfl, hp⟩ := hp
    exact K x M' hp hm)
theorem r_callVq {E : mE} {y : MethodName} {cc : ByteArray} {nL : Nat} {ret : Option FieldType} {rm : Room} {M : MM} {k n pc : Nat} {lv : List (Nat × Value)} {st : List Value} {y2 : MethodName} {cc2 : ByteArray} {nL2 n2 idx : Nat} {ret2 : Option FieldType} {rm2 : Room} {k' n' : Nat} {rest : List Value} {P : Option Nat → MM → Prop}  {As : List Value} (C : mC E y cc nL ret rm) {a ci N : Nat} {Cn : String} {T : u_T} (hk : mkd M a = ci + 1) (hci : ci < 99) (hc : vwCl[ci]? = some (Cn, T, N)) (hM : mMet E.2.1 E.1.2.1 y2 cc2 nL2 ret2 rm2 M (.ref a :: As) (pR_ P)) (hcw : GoodIn lw_all (wsV y.cls idx Cn y2 (ws_ y2 cc2 nL2 ret2))) (hy2 : y2.cls = Cn) (hdd : mHd y2 n2) (hn : As.length = n2) (hst : st = As.reverse ++ .ref a :: rest) (hcat : (rest.map fun v => v.category).sum ≤ 8) (hfr : rm2.frames + 1 ≤ rm.frames) (hlo : 8 + (nL2 + 11) + rm2.locals ≤ rm.locals) (hk' : k + rm2.cells = k') (hn' : n + rm2.slots = n') (hf1 : k' ≤ rm.cells) (hf2 : n' ≤ rm.slots) (hd : decode cc pc = .ok (.invokevirtual idx, 3)) {pc' : Nat} (hp : pc + 3 = pc') (K : ∀ (x : Option Nat) (M' : MM), P x M' → mMo M M' → mV E M' k' n' pc' lv (va_rf x :: rest)) : mV E M k n pc lv st :=
  r_callV C hk hci hc hM hcw hy2 hdd hn hst hcat hfr hlo hk' hn' hf1 hf2 hd hp (fun r M' hp hm => by
    obtain ⟨x, rfl, hp⟩ := hp
    exact K x M' hp hm)
theorem r_callVv {E : mE} {y : MethodName} {cc : ByteArray} {nL : Nat} {ret : Option FieldType} {rm : Room} {M : MM} {k n pc : Nat} {lv : List (Nat × Value)} {st : List Value} {y2 : MethodName} {cc2 : ByteArray} {nL2 n2 idx : Nat} {ret2 : Option FieldType} {rm2 : Room} {k' n' : Nat} {rest : List Value} {P : MM → Prop}  {As : List Value} (C : mC E y cc nL ret rm) {a ci N : Nat} {Cn : String} {T : u_T} (hk : mkd M a = ci + 1) (hci : ci < 99) (hc : vwCl[ci]? = some (Cn, T, N)) (hM : mMet E.2.1 E.1.2.1 y2 cc2 nL2 ret2 rm2 M (.ref a :: As) (pV_ P)) (hcw : GoodIn lw_all (wsV y.cls idx Cn y2 (ws_ y2 cc2 nL2 ret2))) (hy2 : y2.cls = Cn) (hdd : mHd y2 n2) (hn : As.length = n2) (hst : st = As.reverse ++ .ref a :: rest) (hcat : (rest.map fun v => v.category).sum ≤ 8) (hfr : rm2.frames + 1 ≤ rm.frames) (hlo : 8 + (nL2 + 11) + rm2.locals ≤ rm.locals) (hk' : k + rm2.cells = k') (hn' : n + rm2.slots = n') (hf1 : k' ≤ rm.cells) (hf2 : n' ≤ rm.slots) (hd : decode cc pc = .ok (.invokevirtual idx, 3)) {pc' : Nat} (hp : pc + 3 = pc') (K : ∀ (M' : MM), P M' → mMo M M' → mV E M' k' n' pc' lv rest) : mV E M k n pc lv st :=
  r_callV C hk hci hc hM hcw hy2 hdd hn hst hcat hfr hlo hk' hn' hf1 hf2 hd hp (fun r M' hp hm => by
    obtain ⟨rfl, hp⟩ := hp
    exact K M' hp hm)
theorem r_callSi {E : mE} {y : MethodName} {cc : ByteArray} {nL : Nat} {ret : Option FieldType} {rm : Room} {M : MM} {k n pc : Nat} {lv : List (Nat × Value)} {st : List Value} {y2 : MethodName} {cc2 : ByteArray} {nL2 n2 idx : Nat} {ret2 : Option FieldType} {rm2 : Room} {k' n' : Nat} {rest : List Value} {P : Int32 → MM → Prop}  {As : List Value} (C : mC E y cc nL ret rm)  (hM : mMet E.2.1 E.1.2.1 y2 cc2 nL2 ret2 rm2 M (As) (pI_ P)) (hcw : GoodIn lw_all (va_wsS y.cls idx y2 (ws_ y2 cc2 nL2 ret2))) (hdd : mHd y2 n2) (hn : As.length = n2) (hst : st = As.reverse ++ rest) (hcat : (rest.map fun v => v.category).sum ≤ 8) (hfr : rm2.frames + 1 ≤ rm.frames) (hlo : 8 + (nL2 + 11) + rm2.locals ≤ rm.locals) (hk' : k + rm2.cells = k') (hn' : n + rm2.slots = n') (hf1 : k' ≤ rm.cells) (hf2 : n' ≤ rm.slots) (hd : decode cc pc = .ok (.invokestatic idx, 3)) {pc' : Nat} (hp : pc + 3 = pc') (K : ∀ (x : Int32) (M' : MM), P x M' → mMo M M' → mV E M' k' n' pc' lv (.int x :: rest)) : mV E M k n pc lv st :=
  r_callS C hM hcw hdd hn hst hcat hfr hlo hk' hn' hf1 hf2 hd hp (fun r M' hp hm => by
    obtain ⟨x, rfl, hp⟩ := hp
    exact K x M' hp hm)
theorem r_callSl {E : mE} {y : MethodName} {cc : ByteArray} {nL : Nat} {ret : Option FieldType} {rm : Room} {M : MM} {k n pc : Nat} {lv : List (Nat × Value)} {st : List Value} {y2 : MethodName} {cc2 : ByteArray} {nL2 n2 idx : Nat} {ret2 : Option FieldType} {rm2 : Room} {k' n' : Nat} {rest : List Value} {P : Int64 → MM → Prop}  {As : List Value} (C : mC E y cc nL ret rm)  (hM : mMet E.2.1 E.1.2.1 y2 cc2 nL2 ret2 rm2 M (As) (pL_ P)) (hcw : GoodIn lw_all (va_wsS y.cls idx y2 (ws_ y2 cc2 nL2 ret2))) (hdd : mHd y2 n2) (hn : As.length = n2) (hst : st = As.reverse ++ rest) (hcat : (rest.map fun v => v.category).sum ≤ 8) (hfr : rm2.frames + 1 ≤ rm.frames) (hlo : 8 + (nL2 + 11) + rm2.locals ≤ rm.locals) (hk' : k + rm2.cells = k') (hn' : n + rm2.slots = n') (hf1 : k' ≤ rm.cells) (hf2 : n' ≤ rm.slots) (hd : decode cc pc = .ok (.invokestatic idx, 3)) {pc' : Nat} (hp : pc + 3 = pc') (K : ∀ (x : Int64) (M' : MM), P x M' → mMo M M' → mV E M' k' n' pc' lv (.long x :: rest)) : mV E M k n pc lv st :=
  r_callS C hM hcw hdd hn hst hcat hfr hlo hk' hn' hf1 hf2 hd hp (fun r M' hp hm => by
    obtain ⟨x, rfl, hp⟩ := hp
    exact K x M' hp hm)
theorem r_callSq {E : mE} {y : MethodName} {cc : ByteArray} {nL : Nat} {ret : Option FieldType} {rm : Room} {M : MM} {k n pc : Nat} {lv : List (Nat × Value)} {st : List Value} {y2 : MethodName} {cc2 : ByteArray} {nL2 n2 idx : Nat} {ret2 : Option FieldType} {rm2 : Room} {k' n' : Nat} {rest : List Value} {P : Option Nat → MM → Prop}  {As : List Value} (C : mC E y cc nL ret rm)  (hM : mMet E.2.1 E.1.2.1 y2 cc2 nL2 ret2 rm2 M (As) (pR_ P)) (hcw : GoodIn lw_all (va_wsS y.cls idx y2 (ws_ y2 cc2 nL2 ret2))) (hdd : mHd y2 n2) (hn : As.length = n2) (hst : st = As.reverse ++ rest) (hcat : (rest.map fun v => v.category).sum ≤ 8) (hfr : rm2.frames + 1 ≤ rm.frames) (hlo : 8 + (nL2 + 11) + rm2.locals ≤ rm.locals) (hk' : k + rm2.cells = k') (hn' : n + rm2.slots = n') (hf1 : k' ≤ rm.cells) (hf2 : n' ≤ rm.slots) (hd : decode cc pc = .ok (.invokestatic idx, 3)) {pc' : Nat} (hp : pc + 3 = pc') (K : ∀ (x : Option Nat) (M' : MM), P x M' → mMo M M' → mV E M' k' n' pc' lv (va_rf x :: rest)) : mV E M k n pc lv st :=
  r_callS C hM hcw hdd hn hst hcat hfr hlo hk' hn' hf1 hf2 hd hp (fun r M' hp hm => by
    obtain ⟨x, rfl, hp⟩ := hp
    exact K x M' hp hm)
theorem r_callSv {E : mE} {y : MethodName} {cc : ByteArray} {nL : Nat} {ret : Option FieldType} {rm : Room} {M : MM} {k n pc : Nat} {lv : List (Nat × Value)} {st : List Value} {y2 : MethodName} {cc2 : ByteArray} {nL2 n2 idx : Nat} {ret2 : Option FieldType} {rm2 : Room} {k' n' : Nat} {rest : List Value} {P : MM → Prop}  {As : List Value} (C : mC E y cc nL ret rm)  (hM : mMet E.2.1 E.1.2.1 y2 cc2 nL2 ret2 rm2 M (As) (pV_ P)) (hcw : GoodIn lw_all (va_wsS y.cls idx y2 (ws_ y2 cc2 nL2 ret2))) (hdd : mHd y2 n2) (hn : As.length = n2) (hst : st = As.reverse ++ rest) (hcat : (rest.map fun v => v.category).sum ≤ 8) (hfr : rm2.frames + 1 ≤ rm.frames) (hlo : 8 + (nL2 + 11) + rm2.locals ≤ rm.locals) (hk' : k + rm2.cells = k') (hn' : n + rm2.slots = n') (hf1 : k' ≤ rm.cells) (hf2 : n' ≤ rm.slots) (hd : decode cc pc = .ok (.invokestatic idx, 3)) {pc' : Nat} (hp : pc + 3 = pc') (K : ∀ (M' : MM), P M' → mMo M M' → mV E M' k' n' pc' lv rest) : mV E M k n pc lv st :=
  r_callS C hM hcw hdd hn hst hcat hfr hlo hk' hn' hf1 hf2 hd hp (fun r M' hp hm => by
    obtain ⟨rfl, hp⟩ := hp
    exact K M' hp hm)
theorem r_callIv {E : mE} {y : MethodName} {cc : ByteArray} {nL : Nat} {ret : Option FieldType} {rm : Room} {M : MM} {k n pc : Nat} {lv : List (Nat × Value)} {st : List Value} {y2 : MethodName} {cc2 : ByteArray} {nL2 n2 idx : Nat} {ret2 : Option FieldType} {rm2 : Room} {k' n' : Nat} {rest : List Value} {P : MM → Prop} {a : Nat} {As : List Value} (C : mC E y cc nL ret rm)  (hM : mMet E.2.1 E.1.2.1 y2 cc2 nL2 ret2 rm2 M (.ref a :: As) (pV_ P)) (hcode : Cond.code y2 cc2 nL2 none ∈ lw_all) (hini : Cond.initialized y2.cls ∈ lw_all) (hlink : Cond.methodLink y.cls idx y2 ∈ lw_all) (hinst : Cond.instanceMethod y2 ∈ lw_all) (hnm2 : y2.name = "<init>") (hr2 : ret2 = none) (hdd : mHd y2 n2) (hn : As.length = n2) (hst : st = As.reverse ++ .ref a :: rest) (hcat : (rest.map fun v => v.category).sum ≤ 8) (hfr : rm2.frames + 1 ≤ rm.frames) (hlo : 8 + (nL2 + 11) + rm2.locals ≤ rm.locals) (hk' : k + rm2.cells = k') (hn' : n + rm2.slots = n') (hf1 : k' ≤ rm.cells) (hf2 : n' ≤ rm.slots) (hd : decode cc pc = .ok (.invokespecial idx, 3)) {pc' : Nat} (hp : pc + 3 = pc') (K : ∀ (M' : MM), P M' → mMo M M' → mV E M' k' n' pc' lv rest) : mV E M k n pc lv st :=
  r_callI C hM hcode hini hlink hinst hnm2 hr2 hdd hn hst hcat hfr hlo hk' hn' hf1 hf2 hd hp (fun r M' hp hm => by
    obtain ⟨rfl, hp⟩ := hp
    exact K M' hp hm)
theorem r_callVNi {E : mE} {y : MethodName} {cc : ByteArray} {nL : Nat} {ret : Option FieldType} {rm : Room} {M : MM} {k n pc : Nat} {lv : List (Nat × Value)} {st : List Value} {y2 : MethodName} {cc2 : ByteArray} {nL2 n2 idx : Nat} {ret2 : Option FieldType} {rm2 : Room} {k' n' : Nat} {rest : List Value} {P : Int32 → MM → Prop} {host : String} {As : List Value} (C : mC E y cc nL ret rm) {a ci N : Nat} {Cn : String} {T : u_T} (hk : mkd M a = ci + 1) (hci : ci < 99) (hc : vwCl[ci]? = some (Cn, T, N)) (hM : mMet E.2.1 E.1.2.1 y2 cc2 nL2 ret2 rm2 M (.ref a :: As) (pI_ P)) (hcode : Cond.code y2 cc2 nL2 ret2 ∈ lw_all) (hini : Cond.initialized y2.cls ∈ lw_all) (hlink : Cond.methodLinkNest y.cls idx y2 host ∈ mnM) (hinst : Cond.instanceMethod y2 ∈ lw_all) (hsel : Cond.selects Cn y2 y2 ∈ lw_all) (hdd : mHd y2 n2) (hn : As.length = n2) (hst : st = As.reverse ++ .ref a :: rest) (hcat : (rest.map fun v => v.category).sum ≤ 8) (hfr : rm2.frames + 1 ≤ rm.frames) (hlo : 8 + (nL2 + 11) + rm2.locals ≤ rm.locals) (hk' : k + rm2.cells = k') (hn' : n + rm2.slots = n') (hf1 : k' ≤ rm.cells) (hf2 : n' ≤ rm.slots) (hd : decode cc pc = .ok (.invokevirtual idx, 3)) {pc' : Nat} (hp : pc + 3 = pc') (K : ∀ (x : Int32) (M' : MM), P x M' → mMo M M' → mV E M' k' n' pc' lv (.int x :: rest)) : mV E M k n pc lv st :=
  r_callVN C hk hci hc hM hcode hini hlink hinst hsel hdd hn hst hcat hfr hlo hk' hn' hf1 hf2 hd hp (fun r M' hp hm => by
    obtain ⟨x, rfl, hp⟩ := hp
    exact K x M' hp hm)
theorem r_callVNl {E : mE} {y : MethodName} {cc : ByteArray} {nL : Nat} {ret : Option FieldType} {rm : Room} {M : MM} {k n pc : Nat} {lv : List (Nat × Value)} {st : List Value} {y2 : MethodName} {cc2 : ByteArray} {nL2 n2 idx : Nat} {ret2 : Option FieldType} {rm2 : Room} {k' n' : Nat} {rest : List Value} {P : Int64 → MM → Prop} {host : String} {As : List Value} (C : mC E y cc nL ret rm) {a ci N : Nat} {Cn : String} {T : u_T} (hk : mkd M a = ci + 1) (hci : ci < 99) (hc : vwCl[ci]? = some (Cn, T, N)) (hM : mMet E.2.1 E.1.2.1 y2 cc2 nL2 ret2 rm2 M (.ref a :: As) (pL_ P)) (hcode : Cond.code y2 cc2 nL2 ret2 ∈ lw_all) (hini : Cond.initialized y2.cls ∈ lw_all) (hlink : Cond.methodLinkNest y.cls idx y2 host ∈ mnM) (hinst : Cond.instanceMethod y2 ∈ lw_all) (hsel : Cond.selects Cn y2 y2 ∈ lw_all) (hdd : mHd y2 n2) (hn : As.length = n2) (hst : st = As.reverse ++ .ref a :: rest) (hcat : (rest.map fun v => v.category).sum ≤ 8) (hfr : rm2.frames + 1 ≤ rm.frames) (hlo : 8 + (nL2 + 11) + rm2.locals ≤ rm.locals) (hk' : k + rm2.cells = k') (hn' : n + rm2.slots = n') (hf1 : k' ≤ rm.cells) (hf2 : n' ≤ rm.slots) (hd : decode cc pc = .ok (.invokevirtual idx, 3)) {pc' : Nat} (hp : pc + 3 = pc') (K : ∀ (x : Int64) (M' : MM), P x M' → mMo M M' → mV E M' k' n' pc' lv (.long x :: rest)) : mV E M k n pc lv st :=
  r_callVN C hk hci hc hM hcode hini hlink hinst hsel hdd hn hst hcat hfr hlo hk' hn' hf1 hf2 hd hp (fun r M' hp hm => by
    obtain ⟨x, rfl, hp⟩ := hp
    exact K x M' hp hm)
theorem r_callVNq {E : mE} {y : MethodName} {cc : ByteArray} {nL : Nat} {ret : Option FieldType} {rm : Room} {M : MM} {k n pc : Nat} {lv : List (Nat × Value)} {st : List Value} {y2 : MethodName} {cc2 : ByteArray} {nL2 n2 idx : Nat} {ret2 : Option FieldType} {rm2 : Room} {k' n' : Nat} {rest : List Value} {P : Option Nat → MM → Prop} {host : String} {As : List Value} (C : mC E y cc nL ret rm) {a ci N : Nat} {Cn : String} {T : u_T} (hk : mkd M a = ci + 1) (hci : ci < 99) (hc : vwCl[ci]? = some (Cn, T, N)) (hM : mMet E.2.1 E.1.2.1 y2 cc2 nL2 ret2 rm2 M (.ref a :: As) (pR_ P)) (hcode : Cond.code y2 cc2 nL2 ret2 ∈ lw_all) (hini : Cond.initialized y2.cls ∈ lw_all) (hlink : Cond.methodLinkNest y.cls idx y2 host ∈ mnM) (hinst : Cond.instanceMethod y2 ∈ lw_all) (hsel : Cond.selects Cn y2 y2 ∈ lw_all) (hdd : mHd y2 n2) (hn : As.length = n2) (hst : st = As.reverse ++ .ref a :: rest) (hcat : (rest.map fun v => v.category).sum ≤ 8) (hfr : rm2.frames + 1 ≤ rm.frames) (hlo : 8 + (nL2 + 11) + rm2.locals ≤ rm.locals) (hk' : k + rm2.cells = k') (hn' : n + rm2.slots = n') (hf1 : k' ≤ rm.cells) (hf2 : n' ≤ rm.slots) (hd : decode cc pc = .ok (.invokevirtual idx, 3)) {pc' : Nat} (hp : pc + 3 = pc') (K : ∀ (x : Option Nat) (M' : MM), P x M' → mMo M M' → mV E M' k' n' pc' lv (va_rf x :: rest)) : mV E M k n pc lv st :=
  r_callVN C hk hci hc hM hcode hini hlink hinst hsel hdd hn hst hcat hfr hlo hk' hn' hf1 hf2 hd hp (fun r M' hp hm => by
    obtain ⟨x, rfl, hp⟩ := hp
    exact K x M' hp hm)
theorem r_callVNv {E : mE} {y : MethodName} {cc : ByteArray} {nL : Nat} {ret : Option FieldType} {rm : Room} {M : MM} {k n pc : Nat} {lv : List (Nat × Value)} {st : List Value} {y2 : MethodName} {cc2 : ByteArray} {nL2 n2 idx : Nat} {ret2 : Option FieldType} {rm2 : Room} {k' n' : Nat} {rest : List Value} {P : MM → Prop} {host : String} {As : List Value} (C : mC E y cc nL ret rm) {a ci N : Nat} {Cn : String} {T : u_T} (hk : mkd M a = ci + 1) (hci : ci < 99) (hc : vwCl[ci]? = some (Cn, T, N)) (hM : mMet E.2.1 E.1.2.1 y2 cc2 nL2 ret2 rm2 M (.ref a :: As) (pV_ P)) (hcode : Cond.code y2 cc2 nL2 ret2 ∈ lw_all) (hini : Cond.initialized y2.cls ∈ lw_all) (hlink : Cond.methodLinkNest y.cls idx y2 host ∈ mnM) (hinst : Cond.instanceMethod y2 ∈ lw_all) (hsel : Cond.selects Cn y2 y2 ∈ lw_all) (hdd : mHd y2 n2) (hn : As.length = n2) (hst : st = As.reverse ++ .ref a :: rest) (hcat : (rest.map fun v => v.category).sum ≤ 8) (hfr : rm2.frames + 1 ≤ rm.frames) (hlo : 8 + (nL2 + 11) + rm2.locals ≤ rm.locals) (hk' : k + rm2.cells = k') (hn' : n + rm2.slots = n') (hf1 : k' ≤ rm.cells) (hf2 : n' ≤ rm.slots) (hd : decode cc pc = .ok (.invokevirtual idx, 3)) {pc' : Nat} (hp : pc + 3 = pc') (K : ∀ (M' : MM), P M' → mMo M M' → mV E M' k' n' pc' lv rest) : mV E M k n pc lv st :=
  r_callVN C hk hci hc hM hcode hini hlink hinst hsel hdd hn hst hcat hfr hlo hk' hn' hf1 hf2 hd hp (fun r M' hp hm => by
    obtain ⟨rfl, hp⟩ := hp
    exact K M' hp hm)
theorem r_callSNi {E : mE} {y : MethodName} {cc : ByteArray} {nL : Nat} {ret : Option FieldType} {rm : Room} {M : MM} {k n pc : Nat} {lv : List (Nat × Value)} {st : List Value} {y2 : MethodName} {cc2 : ByteArray} {nL2 n2 idx : Nat} {ret2 : Option FieldType} {rm2 : Room} {k' n' : Nat} {rest : List Value} {P : Int32 → MM → Prop} {host : String} {As : List Value} (C : mC E y cc nL ret rm)  (hM : mMet E.2.1 E.1.2.1 y2 cc2 nL2 ret2 rm2 M (As) (pI_ P)) (hcode : Cond.code y2 cc2 nL2 ret2 ∈ lw_all) (hini : Cond.initialized y2.cls ∈ lw_all) (hlink : Cond.methodLinkNest y.cls idx y2 host ∈ mnM) (hstat : Cond.static y2 ∈ lw_all) (hdd : mHd y2 n2) (hn : As.length = n2) (hst : st = As.reverse ++ rest) (hcat : (rest.map fun v => v.category).sum ≤ 8) (hfr : rm2.frames + 1 ≤ rm.frames) (hlo : 8 + (nL2 + 11) + rm2.locals ≤ rm.locals) (hk' : k + rm2.cells = k') (hn' : n + rm2.slots = n') (hf1 : k' ≤ rm.cells) (hf2 : n' ≤ rm.slots) (hd : decode cc pc = .ok (.invokestatic idx, 3)) {pc' : Nat} (hp : pc + 3 = pc') (K : ∀ (x : Int32) (M' : MM), P x M' → mMo M M' → mV E M' k' n' pc' lv (.int x :: rest)) : mV E M k n pc lv st :=
  r_callSN C hM hcode hini hlink hstat hdd hn hst hcat hfr hlo hk' hn' hf1 hf2 hd hp (fun r M' hp hm => by
    obtain ⟨x, rfl, hp⟩ := hp
    exact K x M' hp hm)
theorem r_callSNl {E : mE} {y : MethodName} {cc : ByteArray} {nL : Nat} {ret : Option FieldType} {rm : Room} {M : MM} {k n pc : Nat} {lv : List (Nat × Value)} {st : List Value} {y2 : MethodName} {cc2 : ByteArray} {nL2 n2 idx : Nat} {ret2 : Option FieldType} {rm2 : Room} {k' n' : Nat} {rest : List Value} {P : Int64 → MM → Prop} {host : String} {As : List Value} (C : mC E y cc nL ret rm)  (hM : mMet E.2.1 E.1.2.1 y2 cc2 nL2 ret2 rm2 M (As) (pL_ P)) (hcode : Cond.code y2 cc2 nL2 ret2 ∈ lw_all) (hini : Cond.initialized y2.cls ∈ lw_all) (hlink : Cond.methodLinkNest y.cls idx y2 host ∈ mnM) (hstat : Cond.static y2 ∈ lw_all) (hdd : mHd y2 n2) (hn : As.length = n2) (hst : st = As.reverse ++ rest) (hcat : (rest.map fun v => v.category).sum ≤ 8) (hfr : rm2.frames + 1 ≤ rm.frames) (hlo : 8 + (nL2 + 11) + rm2.locals ≤ rm.locals) (hk' : k + rm2.cells = k') (hn' : n + rm2.slots = n') (hf1 : k' ≤ rm.cells) (hf2 : n' ≤ rm.slots) (hd : decode cc pc = .ok (.invokestatic idx, 3)) {pc' : Nat} (hp : pc + 3 = pc') (K : ∀ (x : Int64) (M' : MM), P x M' → mMo M M' → mV E M' k' n' pc' lv (.long x :: rest)) : mV E M k n pc lv st :=
  r_callSN C hM hcode hini hlink hstat hdd hn hst hcat hfr hlo hk' hn' hf1 hf2 hd hp (fun r M' hp hm => by
    obtain ⟨x, rfl, hp⟩ := hp
    exact K x M' hp hm)
theorem r_callSNq {E : mE} {y : MethodName} {cc : ByteArray} {nL : Nat} {ret : Option FieldType} {rm : Room} {M : MM} {k n pc : Nat} {lv : List (Nat × Value)} {st : List Value} {y2 : MethodName} {cc2 : ByteArray} {nL2 n2 idx : Nat} {ret2 : Option FieldType} {rm2 : Room} {k' n' : Nat} {rest : List Value} {P : Option Nat → MM → Prop} {host : String} {As : List Value} (C : mC E y cc nL ret rm)  (hM : mMet E.2.1 E.1.2.1 y2 cc2 nL2 ret2 rm2 M (As) (pR_ P)) (hcode : Cond.code y2 cc2 nL2 ret2 ∈ lw_all) (hini : Cond.initialized y2.cls ∈ lw_all) (hlink : Cond.methodLinkNest y.cls idx y2 host ∈ mnM) (hstat : Cond.static y2 ∈ lw_all) (hdd : mHd y2 n2) (hn : As.length = n2) (hst : st = As.reverse ++ rest) (hcat : (rest.map fun v => v.category).sum ≤ 8) (hfr : rm2.frames + 1 ≤ rm.frames) (hlo : 8 + (nL2 + 11) + rm2.locals ≤ rm.locals) (hk' : k + rm2.cells = k') (hn' : n + rm2.slots = n') (hf1 : k' ≤ rm.cells) (hf2 : n' ≤ rm.slots) (hd : decode cc pc = .ok (.invokestatic idx, 3)) {pc' : Nat} (hp : pc + 3 = pc') (K : ∀ (x : Option Nat) (M' : MM), P x M' → mMo M M' → mV E M' k' n' pc' lv (va_rf x :: rest)) : mV E M k n pc lv st :=
  r_callSN C hM hcode hini hlink hstat hdd hn hst hcat hfr hlo hk' hn' hf1 hf2 hd hp (fun r M' hp hm => by
    obtain ⟨x, rfl, hp⟩ := hp
    exact K x M' hp hm)
theorem r_callSNv {E : mE} {y : MethodName} {cc : ByteArray} {nL : Nat} {ret : Option FieldType} {rm : Room} {M : MM} {k n pc : Nat} {lv : List (Nat × Value)} {st : List Value} {y2 : MethodName} {cc2 : ByteArray} {nL2 n2 idx : Nat} {ret2 : Option FieldType} {rm2 : Room} {k' n' : Nat} {rest : List Value} {P : MM → Prop} {host : String} {As : List Value} (C : mC E y cc nL ret rm)  (hM : mMet E.2.1 E.1.2.1 y2 cc2 nL2 ret2 rm2 M (As) (pV_ P)) (hcode : Cond.code y2 cc2 nL2 ret2 ∈ lw_all) (hini : Cond.initialized y2.cls ∈ lw_all) (hlink : Cond.methodLinkNest y.cls idx y2 host ∈ mnM) (hstat : Cond.static y2 ∈ lw_all) (hdd : mHd y2 n2) (hn : As.length = n2) (hst : st = As.reverse ++ rest) (hcat : (rest.map fun v => v.category).sum ≤ 8) (hfr : rm2.frames + 1 ≤ rm.frames) (hlo : 8 + (nL2 + 11) + rm2.locals ≤ rm.locals) (hk' : k + rm2.cells = k') (hn' : n + rm2.slots = n') (hf1 : k' ≤ rm.cells) (hf2 : n' ≤ rm.slots) (hd : decode cc pc = .ok (.invokestatic idx, 3)) {pc' : Nat} (hp : pc + 3 = pc') (K : ∀ (M' : MM), P M' → mMo M M' → mV E M' k' n' pc' lv rest) : mV E M k n pc lv st :=
  r_callSN C hM hcode hini hlink hstat hdd hn hst hcat hfr hlo hk' hn' hf1 hf2 hd hp (fun r M' hp hm => by
    obtain ⟨rfl, hp⟩ := hp
    exact K M' hp hm)
theorem r_callINv {E : mE} {y : MethodName} {cc : ByteArray} {nL : Nat} {ret : Option FieldType} {rm : Room} {M : MM} {k n pc : Nat} {lv : List (Nat × Value)} {st : List Value} {y2 : MethodName} {cc2 : ByteArray} {nL2 n2 idx : Nat} {ret2 : Option FieldType} {rm2 : Room} {k' n' : Nat} {rest : List Value} {P : MM → Prop} {a : Nat} {host : String} {As : List Value} (C : mC E y cc nL ret rm)  (hM : mMet E.2.1 E.1.2.1 y2 cc2 nL2 ret2 rm2 M (.ref a :: As) (pV_ P)) (hcode : Cond.code y2 cc2 nL2 none ∈ lw_all) (hini : Cond.initialized y2.cls ∈ lw_all) (hlink : Cond.methodLinkNest y.cls idx y2 host ∈ mnM) (hinst : Cond.instanceMethod y2 ∈ lw_all) (hnm2 : y2.name = "<init>") (hr2 : ret2 = none) (hdd : mHd y2 n2) (hn : As.length = n2) (hst : st = As.reverse ++ .ref a :: rest) (hcat : (rest.map fun v => v.category).sum ≤ 8) (hfr : rm2.frames + 1 ≤ rm.frames) (hlo : 8 + (nL2 + 11) + rm2.locals ≤ rm.locals) (hk' : k + rm2.cells = k') (hn' : n + rm2.slots = n') (hf1 : k' ≤ rm.cells) (hf2 : n' ≤ rm.slots) (hd : decode cc pc = .ok (.invokespecial idx, 3)) {pc' : Nat} (hp : pc + 3 = pc') (K : ∀ (M' : MM), P M' → mMo M M' → mV E M' k' n' pc' lv rest) : mV E M k n pc lv st :=
  r_callIN C hM hcode hini hlink hinst hnm2 hr2 hdd hn hst hcat hfr hlo hk' hn' hf1 hf2 hd hp (fun r M' hp hm => by
    obtain ⟨rfl, hp⟩ := hp
    exact K M' hp hm)
theorem r_callAi {E : mE} {y : MethodName} {cc : ByteArray} {nL : Nat} {ret : Option FieldType} {rm : Room} {M : MM} {k n pc : Nat} {lv : List (Nat × Value)} {st : List Value} {y2 : MethodName} {cc2 : ByteArray} {nL2 n2 idx : Nat} {ret2 : Option FieldType} {rm2 : Room} {k' n' : Nat} {rest : List Value} {P : Int32 → MM → Prop} {x2 : MethodName} {As : List Value} (C : mC E y cc nL ret rm) {a ci N : Nat} {Cn : String} {T : u_T} (hk : mkd M a = ci + 1) (hci : ci < 99) (hc : vwCl[ci]? = some (Cn, T, N)) (hM : mMet E.2.1 E.1.2.1 y2 cc2 nL2 ret2 rm2 M (.ref a :: As) (pI_ P)) (hcw : GoodIn lw_all (va_wsU y.cls idx Cn x2.cls x2 y2 (ws_ y2 cc2 nL2 ret2))) (hdecl : Cond.declares ⟨x2.cls, x2.name, x2.desc⟩ ∈ mnD) (hdx : x2.cls ≠ "java/lang/invoke/MethodHandle" ∧ x2.cls ≠ "java/lang/invoke/VarHandle" ∧ (parseMethodDescriptor x2.desc).map (fun d => d.parameters.length) = some n2) (hn : As.length = n2) (hst : st = As.reverse ++ .ref a :: rest) (hcat : (rest.map fun v => v.category).sum ≤ 8) (hfr : rm2.frames + 1 ≤ rm.frames) (hlo : 8 + (nL2 + 11) + rm2.locals ≤ rm.locals) (hk' : k + rm2.cells = k') (hn' : n + rm2.slots = n') (hf1 : k' ≤ rm.cells) (hf2 : n' ≤ rm.slots) (hd : decode cc pc = .ok (.invokevirtual idx, 3)) {pc' : Nat} (hp : pc + 3 = pc') (K : ∀ (x : Int32) (M' : MM), P x M' → mMo M M' → mV E M' k' n' pc' lv (.int x :: rest)) : mV E M k n pc lv st :=
  r_callA C hk hci hc hM hcw hdecl hdx hn hst hcat hfr hlo hk' hn' hf1 hf2 hd hp (fun r M' hp hm => by
    obtain ⟨x, rfl, hp⟩ := hp
    exact K x M' hp hm)
theorem r_callAl {E : mE} {y : MethodName} {cc : ByteArray} {nL : Nat} {ret : Option FieldType} {rm : Room} {M : MM} {k n pc : Nat} {lv : List (Nat × Value)} {st : List Value} {y2 : MethodName} {cc2 : ByteArray} {nL2 n2 idx : Nat} {ret2 : Option FieldType} {rm2 : Room} {k' n' : Nat} {rest : List Value} {P : Int64 → MM → Prop} {x2 : MethodName} {As : List Value} (C : mC E y cc nL ret rm) {a ci N : Nat} {Cn : String} {T : u_T} (hk : mkd M a = ci + 1) (hci : ci < 99) (hc : vwCl[ci]? = some (Cn, T, N)) (hM : mMet E.2.1 E.1.2.1 y2 cc2 nL2 ret2 rm2 M (.ref a :: As) (pL_ P)) (hcw : GoodIn lw_all (va_wsU y.cls idx Cn x2.cls x2 y2 (ws_ y2 cc2 nL2 ret2))) (hdecl : Cond.declares ⟨x2.cls, x2.name, x2.desc⟩ ∈ mnD) (hdx : x2.cls ≠ "java/lang/invoke/MethodHandle" ∧ x2.cls ≠ "java/lang/invoke/VarHandle" ∧ (parseMethodDescriptor x2.desc).map (fun d => d.parameters.length) = some n2) (hn : As.length = n2) (hst : st = As.reverse ++ .ref a :: rest) (hcat : (rest.map fun v => v.category).sum ≤ 8) (hfr : rm2.frames + 1 ≤ rm.frames) (hlo : 8 + (nL2 + 11) + rm2.locals ≤ rm.locals) (hk' : k + rm2.cells = k') (hn' : n + rm2.slots = n') (hf1 : k' ≤ rm.cells) (hf2 : n' ≤ rm.slots) (hd : decode cc pc = .ok (.invokevirtual idx, 3)) {pc' : Nat} (hp : pc + 3 = pc') (K : ∀ (x : Int64) (M' : MM), P x M' → mMo M M' → mV E M' k' n' pc' lv (.long x :: rest)) : mV E M k n pc lv st :=
  r_callA C hk hci hc hM hcw hdecl hdx hn hst hcat hfr hlo hk' hn' hf1 hf2 hd hp (fun r M' hp hm => by
    obtain ⟨x, rfl, hp⟩ := hp
    exact K x M' hp hm)
theorem r_callAq {E : mE} {y : MethodName} {cc : ByteArray} {nL : Nat} {ret : Option FieldType} {rm : Room} {M : MM} {k n pc : Nat} {lv : List (Nat × Value)} {st : List Value} {y2 : MethodName} {cc2 : ByteArray} {nL2 n2 idx : Nat} {ret2 : Option FieldType} {rm2 : Room} {k' n' : Nat} {rest : List Value} {P : Option Nat → MM → Prop} {x2 : MethodName} {As : List Value} (C : mC E y cc nL ret rm) {a ci N : Nat} {Cn : String} {T : u_T} (hk : mkd M a = ci + 1) (hci : ci < 99) (hc : vwCl[ci]? = some (Cn, T, N)) (hM : mMet E.2.1 E.1.2.1 y2 cc2 nL2 ret2 rm2 M (.ref a :: As) (pR_ P)) (hcw : GoodIn lw_all (va_wsU y.cls idx Cn x2.cls x2 y2 (ws_ y2 cc2 nL2 ret2))) (hdecl : Cond.declares ⟨x2.cls, x2.name, x2.desc⟩ ∈ mnD) (hdx : x2.cls ≠ "java/lang/invoke/MethodHandle" ∧ x2.cls ≠ "java/lang/invoke/VarHandle" ∧ (parseMethodDescriptor x2.desc).map (fun d => d.parameters.length) = some n2) (hn : As.length = n2) (hst : st = As.reverse ++ .ref a :: rest) (hcat : (rest.map fun v => v.category).sum ≤ 8) (hfr : rm2.frames + 1 ≤ rm.frames) (hlo : 8 + (nL2 + 11) + rm2.locals ≤ rm.locals) (hk' : k + rm2.cells = k') (hn' : n + rm2.slots = n') (hf1 : k' ≤ rm.cells) (hf2 : n' ≤ rm.slots) (hd : decode cc pc = .ok (.invokevirtual idx, 3)) {pc' : Nat} (hp : pc + 3 = pc') (K : ∀ (x : Option Nat) (M' : MM), P x M' → mMo M M' → mV E M' k' n' pc' lv (va_rf x :: rest)) : mV E M k n pc lv st :=
  r_callA C hk hci hc hM hcw hdecl hdx hn hst hcat hfr hlo hk' hn' hf1 hf2 hd hp (fun r M' hp hm => by
    obtain ⟨x, rfl, hp⟩ := hp
    exact K x M' hp hm)
theorem r_callAv {E : mE} {y : MethodName} {cc : ByteArray} {nL : Nat} {ret : Option FieldType} {rm : Room} {M : MM} {k n pc : Nat} {lv : List (Nat × Value)} {st : List Value} {y2 : MethodName} {cc2 : ByteArray} {nL2 n2 idx : Nat} {ret2 : Option FieldType} {rm2 : Room} {k' n' : Nat} {rest : List Value} {P : MM → Prop} {x2 : MethodName} {As : List Value} (C : mC E y cc nL ret rm) {a ci N : Nat} {Cn : String} {T : u_T} (hk : mkd M a = ci + 1) (hci : ci < 99) (hc : vwCl[ci]? = some (Cn, T, N)) (hM : mMet E.2.1 E.1.2.1 y2 cc2 nL2 ret2 rm2 M (.ref a :: As) (pV_ P)) (hcw : GoodIn lw_all (va_wsU y.cls idx Cn x2.cls x2 y2 (ws_ y2 cc2 nL2 ret2))) (hdecl : Cond.declares ⟨x2.cls, x2.name, x2.desc⟩ ∈ mnD) (hdx : x2.cls ≠ "java/lang/invoke/MethodHandle" ∧ x2.cls ≠ "java/lang/invoke/VarHandle" ∧ (parseMethodDescriptor x2.desc).map (fun d => d.parameters.length) = some n2) (hn : As.length = n2) (hst : st = As.reverse ++ .ref a :: rest) (hcat : (rest.map fun v => v.category).sum ≤ 8) (hfr : rm2.frames + 1 ≤ rm.frames) (hlo : 8 + (nL2 + 11) + rm2.locals ≤ rm.locals) (hk' : k + rm2.cells = k') (hn' : n + rm2.slots = n') (hf1 : k' ≤ rm.cells) (hf2 : n' ≤ rm.slots) (hd : decode cc pc = .ok (.invokevirtual idx, 3)) {pc' : Nat} (hp : pc + 3 = pc') (K : ∀ (M' : MM), P M' → mMo M M' → mV E M' k' n' pc' lv rest) : mV E M k n pc lv st :=
  r_callA C hk hci hc hM hcw hdecl hdx hn hst hcat hfr hlo hk' hn' hf1 hf2 hd hp (fun r M' hp hm => by
    obtain ⟨rfl, hp⟩ := hp
    exact K M' hp hm)
theorem r_callHi {E : mE} {y : MethodName} {cc : ByteArray} {nL : Nat} {ret : Option FieldType} {rm : Room} {M : MM} {k n pc : Nat} {lv : List (Nat × Value)} {st : List Value} {y2 : MethodName} {cc2 : ByteArray} {nL2 n2 idx : Nat} {ret2 : Option FieldType} {rm2 : Room} {k' n' : Nat} {rest : List Value} {P : Int32 → MM → Prop}  {As : List Value} (C : mC E y cc nL ret rm) {a ci N : Nat} {Cn : String} {T : u_T} (hk : mkd M a = ci + 1) (hci : ci < 99) (hc : vwCl[ci]? = some (Cn, T, N)) (hM : mMet E.2.1 E.1.2.1 y2 cc2 nL2 ret2 rm2 M (.ref a :: As) (pI_ P)) (hcw : GoodIn lw_all (va_wsU y.cls idx Cn y2.cls y2 y2 (ws_ y2 cc2 nL2 ret2))) (hdd : mHd y2 n2) (hn : As.length = n2) (hst : st = As.reverse ++ .ref a :: rest) (hcat : (rest.map fun v => v.category).sum ≤ 8) (hfr : rm2.frames + 1 ≤ rm.frames) (hlo : 8 + (nL2 + 11) + rm2.locals ≤ rm.locals) (hk' : k + rm2.cells = k') (hn' : n + rm2.slots = n') (hf1 : k' ≤ rm.cells) (hf2 : n' ≤ rm.slots) (hd : decode cc pc = .ok (.invokevirtual idx, 3)) {pc' : Nat} (hp : pc + 3 = pc') (K : ∀ (x : Int32) (M' : MM), P x M' → mMo M M' → mV E M' k' n' pc' lv (.int x :: rest)) : mV E M k n pc lv st :=
  r_callH C hk hci hc hM hcw hdd hn hst hcat hfr hlo hk' hn' hf1 hf2 hd hp (fun r M' hp hm => by
    obtain ⟨x, rfl, hp⟩ := hp
    exact K x M' hp hm)
theorem r_callHl {E : mE} {y : MethodName} {cc : ByteArray} {nL : Nat} {ret : Option FieldType} {rm : Room} {M : MM} {k n pc : Nat} {lv : List (Nat × Value)} {st : List Value} {y2 : MethodName} {cc2 : ByteArray} {nL2 n2 idx : Nat} {ret2 : Option FieldType} {rm2 : Room} {k' n' : Nat} {rest : List Value} {P : Int64 → MM → Prop}  {As : List Value} (C : mC E y cc nL ret rm) {a ci N : Nat} {Cn : String} {T : u_T} (hk : mkd M a = ci + 1) (hci : ci < 99) (hc : vwCl[ci]? = some (Cn, T, N)) (hM : mMet E.2.1 E.1.2.1 y2 cc2 nL2 ret2 rm2 M (.ref a :: As) (pL_ P)) (hcw : GoodIn lw_all (va_wsU y.cls idx Cn y2.cls y2 y2 (ws_ y2 cc2 nL2 ret2))) (hdd : mHd y2 n2) (hn : As.length = n2) (hst : st = As.reverse ++ .ref a :: rest) (hcat : (rest.map fun v => v.category).sum ≤ 8) (hfr : rm2.frames + 1 ≤ rm.frames) (hlo : 8 + (nL2 + 11) + rm2.locals ≤ rm.locals) (hk' : k + rm2.cells = k') (hn' : n + rm2.slots = n') (hf1 : k' ≤ rm.cells) (hf2 : n' ≤ rm.slots) (hd : decode cc pc = .ok (.invokevirtual idx, 3)) {pc' : Nat} (hp : pc + 3 = pc') (K : ∀ (x : Int64) (M' : MM), P x M' → mMo M M' → mV E M' k' n' pc' lv (.long x :: rest)) : mV E M k n pc lv st :=
  r_callH C hk hci hc hM hcw hdd hn hst hcat hfr hlo hk' hn' hf1 hf2 hd hp (fun r M' hp hm => by
    obtain ⟨x, rfl, hp⟩ := hp
    exact K x M' hp hm)
theorem r_callHq {E : mE} {y : MethodName} {cc : ByteArray} {nL : Nat} {ret : Option FieldType} {rm : Room} {M : MM} {k n pc : Nat} {lv : List (Nat × Value)} {st : List Value} {y2 : MethodName} {cc2 : ByteArray} {nL2 n2 idx : Nat} {ret2 : Option FieldType} {rm2 : Room} {k' n' : Nat} {rest : List Value} {P : Option Nat → MM → Prop}  {As : List Value} (C : mC E y cc nL ret rm) {a ci N : Nat} {Cn : String} {T : u_T} (hk : mkd M a = ci + 1) (hci : ci < 99) (hc : vwCl[ci]? = some (Cn, T, N)) (hM : mMet E.2.1 E.1.2.1 y2 cc2 nL2 ret2 rm2 M (.ref a :: As) (pR_ P)) (hcw : GoodIn lw_all (va_wsU y.cls idx Cn y2.cls y2 y2 (ws_ y2 cc2 nL2 ret2))) (hdd : mHd y2 n2) (hn : As.length = n2) (hst : st = As.reverse ++ .ref a :: rest) (hcat : (rest.map fun v => v.category).sum ≤ 8) (hfr : rm2.frames + 1 ≤ rm.frames) (hlo : 8 + (nL2 + 11) + rm2.locals ≤ rm.locals) (hk' : k + rm2.cells = k') (hn' : n + rm2.slots = n') (hf1 : k' ≤ rm.cells) (hf2 : n' ≤ rm.slots) (hd : decode cc pc = .ok (.invokevirtual idx, 3)) {pc' : Nat} (hp : pc + 3 = pc') (K : ∀ (x : Option Nat) (M' : MM), P x M' → mMo M M' → mV E M' k' n' pc' lv (va_rf x :: rest)) : mV E M k n pc lv st :=
  r_callH C hk hci hc hM hcw hdd hn hst hcat hfr hlo hk' hn' hf1 hf2 hd hp (fun r M' hp hm => by
    obtain ⟨x, rfl, hp⟩ := hp
    exact K x M' hp hm)
theorem r_callHv {E : mE} {y : MethodName} {cc : ByteArray} {nL : Nat} {ret : Option FieldType} {rm : Room} {M : MM} {k n pc : Nat} {lv : List (Nat × Value)} {st : List Value} {y2 : MethodName} {cc2 : ByteArray} {nL2 n2 idx : Nat} {ret2 : Option FieldType} {rm2 : Room} {k' n' : Nat} {rest : List Value} {P : MM → Prop}  {As : List Value} (C : mC E y cc nL ret rm) {a ci N : Nat} {Cn : String} {T : u_T} (hk : mkd M a = ci + 1) (hci : ci < 99) (hc : vwCl[ci]? = some (Cn, T, N)) (hM : mMet E.2.1 E.1.2.1 y2 cc2 nL2 ret2 rm2 M (.ref a :: As) (pV_ P)) (hcw : GoodIn lw_all (va_wsU y.cls idx Cn y2.cls y2 y2 (ws_ y2 cc2 nL2 ret2))) (hdd : mHd y2 n2) (hn : As.length = n2) (hst : st = As.reverse ++ .ref a :: rest) (hcat : (rest.map fun v => v.category).sum ≤ 8) (hfr : rm2.frames + 1 ≤ rm.frames) (hlo : 8 + (nL2 + 11) + rm2.locals ≤ rm.locals) (hk' : k + rm2.cells = k') (hn' : n + rm2.slots = n') (hf1 : k' ≤ rm.cells) (hf2 : n' ≤ rm.slots) (hd : decode cc pc = .ok (.invokevirtual idx, 3)) {pc' : Nat} (hp : pc + 3 = pc') (K : ∀ (M' : MM), P M' → mMo M M' → mV E M' k' n' pc' lv rest) : mV E M k n pc lv st :=
  r_callH C hk hci hc hM hcw hdd hn hst hcat hfr hlo hk' hn' hf1 hf2 hd hp (fun r M' hp hm => by
    obtain ⟨rfl, hp⟩ := hp
    exact K M' hp hm)
theorem mo_I {M M1 : MM} {a k : Nat} {v : Int32} (e : M1 = msI M a k v) : mMo M M1 := by
  subst e
  exact mMo_sI
theorem mo_L {M M1 : MM} {a k : Nat} {v : Int64} (e : M1 = msL M a k v) : mMo M M1 := by
  subst e
  exact mMo_sL
theorem mo_R {M M1 : MM} {a k : Nat} {v : Option Nat} (e : M1 = msR M a k v) : mMo M M1 := by
  subst e
  exact mMo_sR
theorem vp_l {i : Int32} {j n : Nat} (h0 : ¬ i < 0) (hj : ix_ i = j) (h : j < n) : vp_in i n := by
  rintro (q | q)
  · exact h0 q
  · rw [show i.toNatClampNeg = j from hj] at q
    omega
theorem cat_rf (x : Option Nat) : (va_rf x).category = 1 := by cases x <;> rfl
theorem nB_ {x : Int32} (h : isB_ x) : narrow .boolean (.int x) = .int x := by
  rcases h with h | h <;> (rw [h]; rfl)
theorem fB_ {x : Int32} (h : isB_ x) : fits .boolean (.int x) = true := by
  rcases h with h | h <;> (rw [h]; rfl)
theorem nO_ {n : String} (x : Option Nat) : narrow (.object n) (va_rf x) = va_rf x := by cases x <;> rfl
theorem fO_ {n : String} (x : Option Nat) : fits (.object n) (va_rf x) = true := by cases x <;> rfl
theorem nA_ {t : FieldType} (x : Option Nat) : narrow (.array t) (va_rf x) = va_rf x := by cases x <;> rfl
theorem fA_ {t : FieldType} (x : Option Nat) : fits (.array t) (va_rf x) = true := by cases x <;> rfl
theorem lc_lt (x y : Int64) : lg_cmp x y < 0 ↔ x < y := by
  unfold lg_cmp
  simp only [gt_iff_lt, Int64.lt_iff_toInt_lt, ← Int64.toInt_inj]
  repeat' split
  all_goals simp
  all_goals omega
theorem lc_le (x y : Int64) : lg_cmp x y ≤ 0 ↔ x ≤ y := by
  unfold lg_cmp
  simp only [gt_iff_lt, Int64.lt_iff_toInt_lt, Int64.le_iff_toInt_le, ← Int64.toInt_inj]
  repeat' split
  all_goals simp
  all_goals omega
theorem lc_gt (x y : Int64) : 0 < lg_cmp x y ↔ y < x := by
  unfold lg_cmp
  simp only [gt_iff_lt, Int64.lt_iff_toInt_lt, ← Int64.toInt_inj]
  repeat' split
  all_goals simp
  all_goals omega
theorem lc_ge (x y : Int64) : 0 ≤ lg_cmp x y ↔ y ≤ x := lg_cmp_ge x y
theorem lc_eq (x y : Int64) : lg_cmp x y = 0 ↔ x = y := by
  unfold lg_cmp
  simp only [gt_iff_lt, Int64.lt_iff_toInt_lt, ← Int64.toInt_inj]
  repeat' split
  all_goals simp
  all_goals omega
theorem r_lc_eq {E : mE} {y : MethodName} {cc : ByteArray} {nL : Nat} {ret : Option FieldType} {rm : Room} {M : MM} {k n pc : Nat} {lv : List (Nat × Value)} {st : List Value} {x y' : Int64} {off : Int} {tgt : Nat} (C : mC E y cc nL ret rm) (hd : decode cc pc = .ok (.lcmp, 1)) {pc1 pc' : Nat} (hp1 : pc + 1 = pc1) (hd2 : decode cc pc1 = .ok (.ifCond .eq off, 3)) (hp : pc1 + 3 = pc') (ht : ((pc1 : Nat) : Int) + off = (tgt : Int)) (kt : x = y' → mV E M k n tgt lv st) (kf : ¬ x = y' → mV E M k n pc' lv st) : mV E M k n pc lv (.long y' :: .long x :: st) :=
  r_lcmp C hd hp1 (r_if_eq C hd2 hp ht (fun h => kt ((lc_eq _ _).mp h)) (fun h => kf (fun g => h ((lc_eq _ _).mpr g))))
theorem r_lc_ne {E : mE} {y : MethodName} {cc : ByteArray} {nL : Nat} {ret : Option FieldType} {rm : Room} {M : MM} {k n pc : Nat} {lv : List (Nat × Value)} {st : List Value} {x y' : Int64} {off : Int} {tgt : Nat} (C : mC E y cc nL ret rm) (hd : decode cc pc = .ok (.lcmp, 1)) {pc1 pc' : Nat} (hp1 : pc + 1 = pc1) (hd2 : decode cc pc1 = .ok (.ifCond .ne off, 3)) (hp : pc1 + 3 = pc') (ht : ((pc1 : Nat) : Int) + off = (tgt : Int)) (kt : ¬ x = y' → mV E M k n tgt lv st) (kf : x = y' → mV E M k n pc' lv st) : mV E M k n pc lv (.long y' :: .long x :: st) :=
  r_lcmp C hd hp1 (r_if_ne C hd2 hp ht (fun h => kt (fun g => h ((lc_eq _ _).mpr g))) (fun h => kf ((lc_eq _ _).mp h)))
theorem r_lc_lt {E : mE} {y : MethodName} {cc : ByteArray} {nL : Nat} {ret : Option FieldType} {rm : Room} {M : MM} {k n pc : Nat} {lv : List (Nat × Value)} {st : List Value} {x y' : Int64} {off : Int} {tgt : Nat} (C : mC E y cc nL ret rm) (hd : decode cc pc = .ok (.lcmp, 1)) {pc1 pc' : Nat} (hp1 : pc + 1 = pc1) (hd2 : decode cc pc1 = .ok (.ifCond .lt off, 3)) (hp : pc1 + 3 = pc') (ht : ((pc1 : Nat) : Int) + off = (tgt : Int)) (kt : x < y' → mV E M k n tgt lv st) (kf : ¬ x < y' → mV E M k n pc' lv st) : mV E M k n pc lv (.long y' :: .long x :: st) :=
  r_lcmp C hd hp1 (r_if_lt C hd2 hp ht (fun h => kt ((lc_lt _ _).mp h)) (fun h => kf (fun g => h ((lc_lt _ _).mpr g))))
theorem r_lc_ge {E : mE} {y : MethodName} {cc : ByteArray} {nL : Nat} {ret : Option FieldType} {rm : Room} {M : MM} {k n pc : Nat} {lv : List (Nat × Value)} {st : List Value} {x y' : Int64} {off : Int} {tgt : Nat} (C : mC E y cc nL ret rm) (hd : decode cc pc = .ok (.lcmp, 1)) {pc1 pc' : Nat} (hp1 : pc + 1 = pc1) (hd2 : decode cc pc1 = .ok (.ifCond .ge off, 3)) (hp : pc1 + 3 = pc') (ht : ((pc1 : Nat) : Int) + off = (tgt : Int)) (kt : y' ≤ x → mV E M k n tgt lv st) (kf : ¬ y' ≤ x → mV E M k n pc' lv st) : mV E M k n pc lv (.long y' :: .long x :: st) :=
  r_lcmp C hd hp1 (r_if_ge C hd2 hp ht (fun h => kt ((lc_ge _ _).mp h)) (fun h => kf (fun g => h ((lc_ge _ _).mpr g))))
theorem r_lc_gt {E : mE} {y : MethodName} {cc : ByteArray} {nL : Nat} {ret : Option FieldType} {rm : Room} {M : MM} {k n pc : Nat} {lv : List (Nat × Value)} {st : List Value} {x y' : Int64} {off : Int} {tgt : Nat} (C : mC E y cc nL ret rm) (hd : decode cc pc = .ok (.lcmp, 1)) {pc1 pc' : Nat} (hp1 : pc + 1 = pc1) (hd2 : decode cc pc1 = .ok (.ifCond .gt off, 3)) (hp : pc1 + 3 = pc') (ht : ((pc1 : Nat) : Int) + off = (tgt : Int)) (kt : y' < x → mV E M k n tgt lv st) (kf : ¬ y' < x → mV E M k n pc' lv st) : mV E M k n pc lv (.long y' :: .long x :: st) :=
  r_lcmp C hd hp1 (r_if_gt C hd2 hp ht (fun h => kt ((lc_gt _ _).mp h)) (fun h => kf (fun g => h ((lc_gt _ _).mpr g))))
theorem r_lc_le {E : mE} {y : MethodName} {cc : ByteArray} {nL : Nat} {ret : Option FieldType} {rm : Room} {M : MM} {k n pc : Nat} {lv : List (Nat × Value)} {st : List Value} {x y' : Int64} {off : Int} {tgt : Nat} (C : mC E y cc nL ret rm) (hd : decode cc pc = .ok (.lcmp, 1)) {pc1 pc' : Nat} (hp1 : pc + 1 = pc1) (hd2 : decode cc pc1 = .ok (.ifCond .le off, 3)) (hp : pc1 + 3 = pc') (ht : ((pc1 : Nat) : Int) + off = (tgt : Int)) (kt : x ≤ y' → mV E M k n tgt lv st) (kf : ¬ x ≤ y' → mV E M k n pc' lv st) : mV E M k n pc lv (.long y' :: .long x :: st) :=
  r_lcmp C hd hp1 (r_if_le C hd2 hp ht (fun h => kt ((lc_le _ _).mp h)) (fun h => kf (fun g => h ((lc_le _ _).mpr g))))
