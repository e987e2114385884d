-- ===== PART A: goes FIRST, ahead of the names: the tables' words, and 'selects' of the private methods out of them =====
/-- a private method of a class that the tables say can be made, by its rows of tables_1 -/
def lw_okq (q : MethodName × Nat) : Prop := (q.1.cls ≠ "java/lang/invoke/MethodHandle" ∧ q.1.cls ≠ "java/lang/invoke/VarHandle") ∧ Cond.instantiable q.1.cls q.2 ∈ tables_1 ∧ Cond.privateMethod q.1 ∈ tables_1 ∧ Cond.instanceMethod q.1 ∈ tables_1
set_option maxRecDepth 100000
theorem lw_t1 {w : Cond} (h : w ∈ tables_1_1) : w ∈ tables_1 := List.mem_append_left _ h
theorem lw_t2 {w : Cond} (h : w ∈ tables_1_2) : w ∈ tables_1 := List.mem_append_right _ (List.mem_append_left _ h)
theorem lw_t3 {w : Cond} (h : w ∈ tables_1_3) : w ∈ tables_1 := List.mem_append_right _ (List.mem_append_right _ (List.mem_append_left _ h))
theorem lw_t4 {w : Cond} (h : w ∈ tables_1_4) : w ∈ tables_1 := List.mem_append_right _ (List.mem_append_right _ (List.mem_append_right _ (List.mem_append_left _ h)))
theorem lw_t5 {w : Cond} (h : w ∈ tables_1_5) : w ∈ tables_1 := List.mem_append_right _ (List.mem_append_right _ (List.mem_append_right _ (List.mem_append_right _ (List.mem_append_left _ h))))
theorem lw_t6 {w : Cond} (h : w ∈ tables_1_6) : w ∈ tables_1 := List.mem_append_right _ (List.mem_append_right _ (List.mem_append_right _ (List.mem_append_right _ (List.mem_append_right _ (List.mem_append_left _ h)))))
theorem lw_t7 {w : Cond} (h : w ∈ tables_1_7) : w ∈ tables_1 := List.mem_append_right _ (List.mem_append_right _ (List.mem_append_right _ (List.mem_append_right _ (List.mem_append_right _ (List.mem_append_right _ (List.mem_append_left _ h))))))
theorem lw_t8 {w : Cond} (h : w ∈ tables_1_8) : w ∈ tables_1 := List.mem_append_right _ (List.mem_append_right _ (List.mem_append_right _ (List.mem_append_right _ (List.mem_append_right _ (List.mem_append_right _ (List.mem_append_right _ h))))))
theorem lw_p0 : lw_okq (⟨"LandingTree", "isPlant", "(I)Z"⟩, 33) := ⟨⟨by decide +kernel, by decide +kernel⟩, lw_t1 (List.mem_of_getElem? (i := 27) rfl), lw_t2 (List.mem_of_getElem? (i := 130) rfl), lw_t2 (List.mem_of_getElem? (i := 131) rfl)⟩
theorem lw_p1 : lw_okq (⟨"LandingTree", "push", "(I)V"⟩, 33) := ⟨⟨by decide +kernel, by decide +kernel⟩, lw_t1 (List.mem_of_getElem? (i := 27) rfl), lw_t2 (List.mem_of_getElem? (i := 153) rfl), lw_t2 (List.mem_of_getElem? (i := 154) rfl)⟩
theorem lw_p2 : lw_okq (⟨"LandingTree$Reader", "isGood", "()Z"⟩, 8) := ⟨⟨by decide +kernel, by decide +kernel⟩, lw_t2 (List.mem_of_getElem? (i := 161) rfl), lw_t2 (List.mem_of_getElem? (i := 200) rfl), lw_t2 (List.mem_of_getElem? (i := 201) rfl)⟩
theorem lw_p3 : lw_okq (⟨"LandingTree$Reader", "clause", "()V"⟩, 8) := ⟨⟨by decide +kernel, by decide +kernel⟩, lw_t2 (List.mem_of_getElem? (i := 161) rfl), lw_t2 (List.mem_of_getElem? (i := 204) rfl), lw_t2 (List.mem_of_getElem? (i := 205) rfl)⟩
theorem lw_p4 : lw_okq (⟨"LandingTree$Reader", "here", "()I"⟩, 8) := ⟨⟨by decide +kernel, by decide +kernel⟩, lw_t2 (List.mem_of_getElem? (i := 161) rfl), lw_t2 (List.mem_of_getElem? (i := 208) rfl), lw_t2 (List.mem_of_getElem? (i := 209) rfl)⟩
theorem lw_p5 : lw_okq (⟨"LandingTree$Reader", "bad", "(II)V"⟩, 8) := ⟨⟨by decide +kernel, by decide +kernel⟩, lw_t2 (List.mem_of_getElem? (i := 161) rfl), lw_t3 (List.mem_of_getElem? (i := 56) rfl), lw_t3 (List.mem_of_getElem? (i := 57) rfl)⟩
theorem lw_p6 : lw_okq (⟨"LandingTree$Reader", "sum", "()LLandingTree$Sum;"⟩, 8) := ⟨⟨by decide +kernel, by decide +kernel⟩, lw_t2 (List.mem_of_getElem? (i := 161) rfl), lw_t3 (List.mem_of_getElem? (i := 60) rfl), lw_t3 (List.mem_of_getElem? (i := 61) rfl)⟩
theorem lw_p7 : lw_okq (⟨"LandingTree$Reader", "product", "()LLandingTree$Sum;"⟩, 8) := ⟨⟨by decide +kernel, by decide +kernel⟩, lw_t2 (List.mem_of_getElem? (i := 161) rfl), lw_t3 (List.mem_of_getElem? (i := 66) rfl), lw_t3 (List.mem_of_getElem? (i := 67) rfl)⟩
theorem lw_p8 : lw_okq (⟨"LandingTree$Reader", "factor", "()LLandingTree$Sum;"⟩, 8) := ⟨⟨by decide +kernel, by decide +kernel⟩, lw_t2 (List.mem_of_getElem? (i := 161) rfl), lw_t3 (List.mem_of_getElem? (i := 70) rfl), lw_t3 (List.mem_of_getElem? (i := 71) rfl)⟩
theorem lw_p9 : lw_okq (⟨"LandingTree$Reader", "opens", "()V"⟩, 8) := ⟨⟨by decide +kernel, by decide +kernel⟩, lw_t2 (List.mem_of_getElem? (i := 161) rfl), lw_t3 (List.mem_of_getElem? (i := 74) rfl), lw_t3 (List.mem_of_getElem? (i := 75) rfl)⟩
theorem lw_p10 : lw_okq (⟨"LandingTree$Reader", "must", "(I)V"⟩, 8) := ⟨⟨by decide +kernel, by decide +kernel⟩, lw_t2 (List.mem_of_getElem? (i := 161) rfl), lw_t3 (List.mem_of_getElem? (i := 78) rfl), lw_t3 (List.mem_of_getElem? (i := 79) rfl)⟩
theorem lw_p11 : lw_okq (⟨"LandingTree$Reader", "seesDigit", "()Z"⟩, 8) := ⟨⟨by decide +kernel, by decide +kernel⟩, lw_t2 (List.mem_of_getElem? (i := 161) rfl), lw_t3 (List.mem_of_getElem? (i := 82) rfl), lw_t3 (List.mem_of_getElem? (i := 83) rfl)⟩
theorem lw_p12 : lw_okq (⟨"LandingTree$Reader", "number", "()I"⟩, 8) := ⟨⟨by decide +kernel, by decide +kernel⟩, lw_t2 (List.mem_of_getElem? (i := 161) rfl), lw_t3 (List.mem_of_getElem? (i := 88) rfl), lw_t3 (List.mem_of_getElem? (i := 89) rfl)⟩
theorem lw_p13 : lw_okq (⟨"LandingTree$Reader", "condition", "()LLandingTree$Condition;"⟩, 8) := ⟨⟨by decide +kernel, by decide +kernel⟩, lw_t2 (List.mem_of_getElem? (i := 161) rfl), lw_t3 (List.mem_of_getElem? (i := 129) rfl), lw_t3 (List.mem_of_getElem? (i := 130) rfl)⟩
theorem lw_p14 : lw_okq (⟨"LandingTree$Reader", "pieces", "()LLandingTree$Condition;"⟩, 8) := ⟨⟨by decide +kernel, by decide +kernel⟩, lw_t2 (List.mem_of_getElem? (i := 161) rfl), lw_t3 (List.mem_of_getElem? (i := 135) rfl), lw_t3 (List.mem_of_getElem? (i := 136) rfl)⟩
theorem lw_p15 : lw_okq (⟨"LandingTree$Reader", "piece", "()LLandingTree$Condition;"⟩, 8) := ⟨⟨by decide +kernel, by decide +kernel⟩, lw_t2 (List.mem_of_getElem? (i := 161) rfl), lw_t3 (List.mem_of_getElem? (i := 139) rfl), lw_t3 (List.mem_of_getElem? (i := 140) rfl)⟩
def lw_privs_1 : List (MethodName × Nat) := [(⟨"LandingTree", "isPlant", "(I)Z"⟩, 33), (⟨"LandingTree", "push", "(I)V"⟩, 33), (⟨"LandingTree$Reader", "isGood", "()Z"⟩, 8), (⟨"LandingTree$Reader", "clause", "()V"⟩, 8), (⟨"LandingTree$Reader", "here", "()I"⟩, 8), (⟨"LandingTree$Reader", "bad", "(II)V"⟩, 8), (⟨"LandingTree$Reader", "sum", "()LLandingTree$Sum;"⟩, 8), (⟨"LandingTree$Reader", "product", "()LLandingTree$Sum;"⟩, 8), (⟨"LandingTree$Reader", "factor", "()LLandingTree$Sum;"⟩, 8), (⟨"LandingTree$Reader", "opens", "()V"⟩, 8), (⟨"LandingTree$Reader", "must", "(I)V"⟩, 8), (⟨"LandingTree$Reader", "seesDigit", "()Z"⟩, 8), (⟨"LandingTree$Reader", "number", "()I"⟩, 8), (⟨"LandingTree$Reader", "condition", "()LLandingTree$Condition;"⟩, 8), (⟨"LandingTree$Reader", "pieces", "()LLandingTree$Condition;"⟩, 8), (⟨"LandingTree$Reader", "piece", "()LLandingTree$Condition;"⟩, 8)]
theorem lw_r1 : ∀ q ∈ lw_privs_1, lw_okq q := List.forall_mem_cons.mpr ⟨lw_p0, List.forall_mem_cons.mpr ⟨lw_p1, List.forall_mem_cons.mpr ⟨lw_p2, List.forall_mem_cons.mpr ⟨lw_p3, List.forall_mem_cons.mpr ⟨lw_p4, List.forall_mem_cons.mpr ⟨lw_p5, List.forall_mem_cons.mpr ⟨lw_p6, List.forall_mem_cons.mpr ⟨lw_p7, List.forall_mem_cons.mpr ⟨lw_p8, List.forall_mem_cons.mpr ⟨lw_p9, List.forall_mem_cons.mpr ⟨lw_p10, List.forall_mem_cons.mpr ⟨lw_p11, List.forall_mem_cons.mpr ⟨lw_p12, List.forall_mem_cons.mpr ⟨lw_p13, List.forall_mem_cons.mpr ⟨lw_p14, List.forall_mem_cons.mpr ⟨lw_p15, fun _ h => absurd h List.not_mem_nil⟩⟩⟩⟩⟩⟩⟩⟩⟩⟩⟩⟩⟩⟩⟩⟩
theorem lw_p16 : lw_okq (⟨"LandingTree$Landing", "dayGoes", "()V"⟩, 8) := ⟨⟨by decide +kernel, by decide +kernel⟩, lw_t1 (List.mem_of_getElem? (i := 89) rfl), lw_t3 (List.mem_of_getElem? (i := 200) rfl), lw_t3 (List.mem_of_getElem? (i := 201) rfl)⟩
theorem lw_p17 : lw_okq (⟨"LandingTree$Landing", "draw", "()I"⟩, 8) := ⟨⟨by decide +kernel, by decide +kernel⟩, lw_t1 (List.mem_of_getElem? (i := 89) rfl), lw_t3 (List.mem_of_getElem? (i := 204) rfl), lw_t3 (List.mem_of_getElem? (i := 205) rfl)⟩
theorem lw_p18 : lw_okq (⟨"LandingTree$Landing", "at", "(I)LLandingTree$Moment;"⟩, 8) := ⟨⟨by decide +kernel, by decide +kernel⟩, lw_t1 (List.mem_of_getElem? (i := 89) rfl), lw_t3 (List.mem_of_getElem? (i := 223) rfl), lw_t3 (List.mem_of_getElem? (i := 224) rfl)⟩
theorem lw_p19 : lw_okq (⟨"LandingTree", "isPerson", "(I)Z"⟩, 33) := ⟨⟨by decide +kernel, by decide +kernel⟩, lw_t1 (List.mem_of_getElem? (i := 27) rfl), lw_t4 (List.mem_of_getElem? (i := 81) rfl), lw_t4 (List.mem_of_getElem? (i := 82) rfl)⟩
theorem lw_p20 : lw_okq (⟨"LandingTree", "canLay", "(III)Z"⟩, 33) := ⟨⟨by decide +kernel, by decide +kernel⟩, lw_t1 (List.mem_of_getElem? (i := 27) rfl), lw_t4 (List.mem_of_getElem? (i := 121) rfl), lw_t4 (List.mem_of_getElem? (i := 122) rfl)⟩
theorem lw_p21 : lw_okq (⟨"LandingTree", "takesPeople", "(I)Z"⟩, 33) := ⟨⟨by decide +kernel, by decide +kernel⟩, lw_t1 (List.mem_of_getElem? (i := 27) rfl), lw_t4 (List.mem_of_getElem? (i := 125) rfl), lw_t4 (List.mem_of_getElem? (i := 126) rfl)⟩
theorem lw_p22 : lw_okq (⟨"LandingTree", "laysDays", "(IIII)J"⟩, 33) := ⟨⟨by decide +kernel, by decide +kernel⟩, lw_t1 (List.mem_of_getElem? (i := 27) rfl), lw_t4 (List.mem_of_getElem? (i := 130) rfl), lw_t4 (List.mem_of_getElem? (i := 131) rfl)⟩
theorem lw_p23 : lw_okq (⟨"LandingTree", "clears", "([[J)V"⟩, 33) := ⟨⟨by decide +kernel, by decide +kernel⟩, lw_t1 (List.mem_of_getElem? (i := 27) rfl), lw_t4 (List.mem_of_getElem? (i := 135) rfl), lw_t4 (List.mem_of_getElem? (i := 136) rfl)⟩
theorem lw_p24 : lw_okq (⟨"LandingTree", "personComes", "(I)V"⟩, 33) := ⟨⟨by decide +kernel, by decide +kernel⟩, lw_t1 (List.mem_of_getElem? (i := 27) rfl), lw_t4 (List.mem_of_getElem? (i := 142) rfl), lw_t4 (List.mem_of_getElem? (i := 143) rfl)⟩
theorem lw_p25 : lw_okq (⟨"LandingTree", "thenAt", "(II)LLandingTree$Moment;"⟩, 33) := ⟨⟨by decide +kernel, by decide +kernel⟩, lw_t1 (List.mem_of_getElem? (i := 27) rfl), lw_t4 (List.mem_of_getElem? (i := 146) rfl), lw_t4 (List.mem_of_getElem? (i := 147) rfl)⟩
theorem lw_p26 : lw_okq (⟨"LandingTree", "takesComes", "()V"⟩, 33) := ⟨⟨by decide +kernel, by decide +kernel⟩, lw_t1 (List.mem_of_getElem? (i := 27) rfl), lw_t4 (List.mem_of_getElem? (i := 160) rfl), lw_t4 (List.mem_of_getElem? (i := 161) rfl)⟩
theorem lw_p27 : lw_okq (⟨"LandingTree", "sunComes", "()V"⟩, 33) := ⟨⟨by decide +kernel, by decide +kernel⟩, lw_t1 (List.mem_of_getElem? (i := 27) rfl), lw_t4 (List.mem_of_getElem? (i := 164) rfl), lw_t4 (List.mem_of_getElem? (i := 165) rfl)⟩
theorem lw_p28 : lw_okq (⟨"LandingTree", "endsBy", "(IIIJ)V"⟩, 33) := ⟨⟨by decide +kernel, by decide +kernel⟩, lw_t1 (List.mem_of_getElem? (i := 27) rfl), lw_t4 (List.mem_of_getElem? (i := 170) rfl), lw_t4 (List.mem_of_getElem? (i := 171) rfl)⟩
theorem lw_p29 : lw_okq (⟨"LandingTree", "lastsWith", "(II)I"⟩, 33) := ⟨⟨by decide +kernel, by decide +kernel⟩, lw_t1 (List.mem_of_getElem? (i := 27) rfl), lw_t4 (List.mem_of_getElem? (i := 203) rfl), lw_t4 (List.mem_of_getElem? (i := 204) rfl)⟩
theorem lw_p30 : lw_okq (⟨"LandingTree", "laysWeek", "(IIII)V"⟩, 33) := ⟨⟨by decide +kernel, by decide +kernel⟩, lw_t1 (List.mem_of_getElem? (i := 27) rfl), lw_t4 (List.mem_of_getElem? (i := 217) rfl), lw_t4 (List.mem_of_getElem? (i := 218) rfl)⟩
theorem lw_p31 : lw_okq (⟨"LandingTree", "spreads", "(IIII)V"⟩, 33) := ⟨⟨by decide +kernel, by decide +kernel⟩, lw_t1 (List.mem_of_getElem? (i := 27) rfl), lw_t4 (List.mem_of_getElem? (i := 227) rfl), lw_t4 (List.mem_of_getElem? (i := 228) rfl)⟩
def lw_privs_2 : List (MethodName × Nat) := [(⟨"LandingTree$Landing", "dayGoes", "()V"⟩, 8), (⟨"LandingTree$Landing", "draw", "()I"⟩, 8), (⟨"LandingTree$Landing", "at", "(I)LLandingTree$Moment;"⟩, 8), (⟨"LandingTree", "isPerson", "(I)Z"⟩, 33), (⟨"LandingTree", "canLay", "(III)Z"⟩, 33), (⟨"LandingTree", "takesPeople", "(I)Z"⟩, 33), (⟨"LandingTree", "laysDays", "(IIII)J"⟩, 33), (⟨"LandingTree", "clears", "([[J)V"⟩, 33), (⟨"LandingTree", "personComes", "(I)V"⟩, 33), (⟨"LandingTree", "thenAt", "(II)LLandingTree$Moment;"⟩, 33), (⟨"LandingTree", "takesComes", "()V"⟩, 33), (⟨"LandingTree", "sunComes", "()V"⟩, 33), (⟨"LandingTree", "endsBy", "(IIIJ)V"⟩, 33), (⟨"LandingTree", "lastsWith", "(II)I"⟩, 33), (⟨"LandingTree", "laysWeek", "(IIII)V"⟩, 33), (⟨"LandingTree", "spreads", "(IIII)V"⟩, 33)]
theorem lw_r2 : ∀ q ∈ lw_privs_2, lw_okq q := List.forall_mem_cons.mpr ⟨lw_p16, List.forall_mem_cons.mpr ⟨lw_p17, List.forall_mem_cons.mpr ⟨lw_p18, List.forall_mem_cons.mpr ⟨lw_p19, List.forall_mem_cons.mpr ⟨lw_p20, List.forall_mem_cons.mpr ⟨lw_p21, List.forall_mem_cons.mpr ⟨lw_p22, List.forall_mem_cons.mpr ⟨lw_p23, List.forall_mem_cons.mpr ⟨lw_p24, List.forall_mem_cons.mpr ⟨lw_p25, List.forall_mem_cons.mpr ⟨lw_p26, List.forall_mem_cons.mpr ⟨lw_p27, List.forall_mem_cons.mpr ⟨lw_p28, List.forall_mem_cons.mpr ⟨lw_p29, List.forall_mem_cons.mpr ⟨lw_p30, List.forall_mem_cons.mpr ⟨lw_p31, fun _ h => absurd h List.not_mem_nil⟩⟩⟩⟩⟩⟩⟩⟩⟩⟩⟩⟩⟩⟩⟩⟩
theorem lw_p32 : lw_okq (⟨"LandingTree", "theOne", "()I"⟩, 33) := ⟨⟨by decide +kernel, by decide +kernel⟩, lw_t1 (List.mem_of_getElem? (i := 27) rfl), lw_t5 (List.mem_of_getElem? (i := 3) rfl), lw_t5 (List.mem_of_getElem? (i := 4) rfl)⟩
theorem lw_p33 : lw_okq (⟨"LandingTree$Clerk", "week", "()V"⟩, 7) := ⟨⟨by decide +kernel, by decide +kernel⟩, lw_t5 (List.mem_of_getElem? (i := 11) rfl), lw_t5 (List.mem_of_getElem? (i := 45) rfl), lw_t5 (List.mem_of_getElem? (i := 46) rfl)⟩
theorem lw_p34 : lw_okq (⟨"LandingTree$Clerk", "seesDays", "()Z"⟩, 7) := ⟨⟨by decide +kernel, by decide +kernel⟩, lw_t5 (List.mem_of_getElem? (i := 11) rfl), lw_t5 (List.mem_of_getElem? (i := 49) rfl), lw_t5 (List.mem_of_getElem? (i := 50) rfl)⟩
theorem lw_p35 : lw_okq (⟨"LandingTree$Clerk", "here", "()I"⟩, 7) := ⟨⟨by decide +kernel, by decide +kernel⟩, lw_t5 (List.mem_of_getElem? (i := 11) rfl), lw_t5 (List.mem_of_getElem? (i := 53) rfl), lw_t5 (List.mem_of_getElem? (i := 54) rfl)⟩
theorem lw_p36 : lw_okq (⟨"LandingTree$Clerk", "seesPerson", "()Z"⟩, 7) := ⟨⟨by decide +kernel, by decide +kernel⟩, lw_t5 (List.mem_of_getElem? (i := 11) rfl), lw_t5 (List.mem_of_getElem? (i := 57) rfl), lw_t5 (List.mem_of_getElem? (i := 58) rfl)⟩
theorem lw_p37 : lw_okq (⟨"LandingTree$Clerk", "seesNumber", "()Z"⟩, 7) := ⟨⟨by decide +kernel, by decide +kernel⟩, lw_t5 (List.mem_of_getElem? (i := 11) rfl), lw_t5 (List.mem_of_getElem? (i := 61) rfl), lw_t5 (List.mem_of_getElem? (i := 62) rfl)⟩
theorem lw_p38 : lw_okq (⟨"LandingTree$Clerk", "bad", "(II)V"⟩, 7) := ⟨⟨by decide +kernel, by decide +kernel⟩, lw_t5 (List.mem_of_getElem? (i := 11) rfl), lw_t5 (List.mem_of_getElem? (i := 65) rfl), lw_t5 (List.mem_of_getElem? (i := 66) rfl)⟩
theorem lw_p39 : lw_okq (⟨"LandingTree$Clerk", "isGood", "()Z"⟩, 7) := ⟨⟨by decide +kernel, by decide +kernel⟩, lw_t5 (List.mem_of_getElem? (i := 11) rfl), lw_t5 (List.mem_of_getElem? (i := 69) rfl), lw_t5 (List.mem_of_getElem? (i := 70) rfl)⟩
theorem lw_p40 : lw_okq (⟨"LandingTree$Clerk", "days", "(I)V"⟩, 7) := ⟨⟨by decide +kernel, by decide +kernel⟩, lw_t5 (List.mem_of_getElem? (i := 11) rfl), lw_t5 (List.mem_of_getElem? (i := 73) rfl), lw_t5 (List.mem_of_getElem? (i := 74) rfl)⟩
theorem lw_p41 : lw_okq (⟨"LandingTree", "daysOf", "(LLandingTree$Clerk;I)I"⟩, 33) := ⟨⟨by decide +kernel, by decide +kernel⟩, lw_t1 (List.mem_of_getElem? (i := 27) rfl), lw_t5 (List.mem_of_getElem? (i := 78) rfl), lw_t5 (List.mem_of_getElem? (i := 79) rfl)⟩
theorem lw_p42 : lw_okq (⟨"LandingTree", "isWorth", "(III)Z"⟩, 33) := ⟨⟨by decide +kernel, by decide +kernel⟩, lw_t1 (List.mem_of_getElem? (i := 27) rfl), lw_t5 (List.mem_of_getElem? (i := 87) rfl), lw_t5 (List.mem_of_getElem? (i := 88) rfl)⟩
theorem lw_p43 : lw_okq (⟨"LandingTree", "worthOf", "(I)I"⟩, 33) := ⟨⟨by decide +kernel, by decide +kernel⟩, lw_t1 (List.mem_of_getElem? (i := 27) rfl), lw_t5 (List.mem_of_getElem? (i := 91) rfl), lw_t5 (List.mem_of_getElem? (i := 92) rfl)⟩
theorem lw_p44 : lw_okq (⟨"LandingTree", "costOf", "(I)I"⟩, 33) := ⟨⟨by decide +kernel, by decide +kernel⟩, lw_t1 (List.mem_of_getElem? (i := 27) rfl), lw_t5 (List.mem_of_getElem? (i := 95) rfl), lw_t5 (List.mem_of_getElem? (i := 96) rfl)⟩
theorem lw_p45 : lw_okq (⟨"LandingTree", "gainOf", "(II)I"⟩, 33) := ⟨⟨by decide +kernel, by decide +kernel⟩, lw_t1 (List.mem_of_getElem? (i := 27) rfl), lw_t5 (List.mem_of_getElem? (i := 99) rfl), lw_t5 (List.mem_of_getElem? (i := 100) rfl)⟩
theorem lw_p46 : lw_okq (⟨"LandingTree", "setsFor", "(IIIII)I"⟩, 33) := ⟨⟨by decide +kernel, by decide +kernel⟩, lw_t1 (List.mem_of_getElem? (i := 27) rfl), lw_t5 (List.mem_of_getElem? (i := 110) rfl), lw_t5 (List.mem_of_getElem? (i := 111) rfl)⟩
theorem lw_p47 : lw_okq (⟨"LandingTree", "fits", "(IIII)Z"⟩, 33) := ⟨⟨by decide +kernel, by decide +kernel⟩, lw_t1 (List.mem_of_getElem? (i := 27) rfl), lw_t5 (List.mem_of_getElem? (i := 114) rfl), lw_t5 (List.mem_of_getElem? (i := 115) rfl)⟩
def lw_privs_3 : List (MethodName × Nat) := [(⟨"LandingTree", "theOne", "()I"⟩, 33), (⟨"LandingTree$Clerk", "week", "()V"⟩, 7), (⟨"LandingTree$Clerk", "seesDays", "()Z"⟩, 7), (⟨"LandingTree$Clerk", "here", "()I"⟩, 7), (⟨"LandingTree$Clerk", "seesPerson", "()Z"⟩, 7), (⟨"LandingTree$Clerk", "seesNumber", "()Z"⟩, 7), (⟨"LandingTree$Clerk", "bad", "(II)V"⟩, 7), (⟨"LandingTree$Clerk", "isGood", "()Z"⟩, 7), (⟨"LandingTree$Clerk", "days", "(I)V"⟩, 7), (⟨"LandingTree", "daysOf", "(LLandingTree$Clerk;I)I"⟩, 33), (⟨"LandingTree", "isWorth", "(III)Z"⟩, 33), (⟨"LandingTree", "worthOf", "(I)I"⟩, 33), (⟨"LandingTree", "costOf", "(I)I"⟩, 33), (⟨"LandingTree", "gainOf", "(II)I"⟩, 33), (⟨"LandingTree", "setsFor", "(IIIII)I"⟩, 33), (⟨"LandingTree", "fits", "(IIII)Z"⟩, 33)]
theorem lw_r3 : ∀ q ∈ lw_privs_3, lw_okq q := List.forall_mem_cons.mpr ⟨lw_p32, List.forall_mem_cons.mpr ⟨lw_p33, List.forall_mem_cons.mpr ⟨lw_p34, List.forall_mem_cons.mpr ⟨lw_p35, List.forall_mem_cons.mpr ⟨lw_p36, List.forall_mem_cons.mpr ⟨lw_p37, List.forall_mem_cons.mpr ⟨lw_p38, List.forall_mem_cons.mpr ⟨lw_p39, List.forall_mem_cons.mpr ⟨lw_p40, List.forall_mem_cons.mpr ⟨lw_p41, List.forall_mem_cons.mpr ⟨lw_p42, List.forall_mem_cons.mpr ⟨lw_p43, List.forall_mem_cons.mpr ⟨lw_p44, List.forall_mem_cons.mpr ⟨lw_p45, List.forall_mem_cons.mpr ⟨lw_p46, List.forall_mem_cons.mpr ⟨lw_p47, fun _ h => absurd h List.not_mem_nil⟩⟩⟩⟩⟩⟩⟩⟩⟩⟩⟩⟩⟩⟩⟩⟩
theorem lw_p48 : lw_okq (⟨"LandingTree", "numberAt", "(I)I"⟩, 33) := ⟨⟨by decide +kernel, by decide +kernel⟩, lw_t1 (List.mem_of_getElem? (i := 27) rfl), lw_t5 (List.mem_of_getElem? (i := 139) rfl), lw_t5 (List.mem_of_getElem? (i := 140) rfl)⟩
theorem lw_p49 : lw_okq (⟨"LandingTree", "toldPlants", "()I"⟩, 33) := ⟨⟨by decide +kernel, by decide +kernel⟩, lw_t1 (List.mem_of_getElem? (i := 27) rfl), lw_t5 (List.mem_of_getElem? (i := 147) rfl), lw_t5 (List.mem_of_getElem? (i := 148) rfl)⟩
theorem lw_p50 : lw_okq (⟨"LandingTree", "toldPeople", "()I"⟩, 33) := ⟨⟨by decide +kernel, by decide +kernel⟩, lw_t1 (List.mem_of_getElem? (i := 27) rfl), lw_t5 (List.mem_of_getElem? (i := 151) rfl), lw_t5 (List.mem_of_getElem? (i := 152) rfl)⟩
theorem lw_p51 : lw_okq (⟨"LandingTreeModel", "isPlant", "(I)Z"⟩, 54) := ⟨⟨by decide +kernel, by decide +kernel⟩, lw_t5 (List.mem_of_getElem? (i := 155) rfl), lw_t6 (List.mem_of_getElem? (i := 99) rfl), lw_t6 (List.mem_of_getElem? (i := 100) rfl)⟩
theorem lw_p52 : lw_okq (⟨"LandingTreeModel", "lives", "(I)Z"⟩, 54) := ⟨⟨by decide +kernel, by decide +kernel⟩, lw_t5 (List.mem_of_getElem? (i := 155) rfl), lw_t6 (List.mem_of_getElem? (i := 110) rfl), lw_t6 (List.mem_of_getElem? (i := 111) rfl)⟩
theorem lw_p53 : lw_okq (⟨"LandingTreeModel", "types", "(I)V"⟩, 54) := ⟨⟨by decide +kernel, by decide +kernel⟩, lw_t5 (List.mem_of_getElem? (i := 155) rfl), lw_t6 (List.mem_of_getElem? (i := 121) rfl), lw_t6 (List.mem_of_getElem? (i := 122) rfl)⟩
theorem lw_p54 : lw_okq (⟨"LandingTreeModel", "reads", "(II)I"⟩, 54) := ⟨⟨by decide +kernel, by decide +kernel⟩, lw_t5 (List.mem_of_getElem? (i := 155) rfl), lw_t6 (List.mem_of_getElem? (i := 129) rfl), lw_t6 (List.mem_of_getElem? (i := 130) rfl)⟩
theorem lw_p55 : lw_okq (⟨"LandingTreeModel", "readsClause", "(I)Z"⟩, 54) := ⟨⟨by decide +kernel, by decide +kernel⟩, lw_t5 (List.mem_of_getElem? (i := 155) rfl), lw_t6 (List.mem_of_getElem? (i := 133) rfl), lw_t6 (List.mem_of_getElem? (i := 134) rfl)⟩
theorem lw_p56 : lw_okq (⟨"LandingTreeModel", "here", "()I"⟩, 54) := ⟨⟨by decide +kernel, by decide +kernel⟩, lw_t5 (List.mem_of_getElem? (i := 155) rfl), lw_t6 (List.mem_of_getElem? (i := 137) rfl), lw_t6 (List.mem_of_getElem? (i := 138) rfl)⟩
theorem lw_p57 : lw_okq (⟨"LandingTreeModel", "wrongAt", "(II)Z"⟩, 54) := ⟨⟨by decide +kernel, by decide +kernel⟩, lw_t5 (List.mem_of_getElem? (i := 155) rfl), lw_t6 (List.mem_of_getElem? (i := 144) rfl), lw_t6 (List.mem_of_getElem? (i := 145) rfl)⟩
theorem lw_p58 : lw_okq (⟨"LandingTreeModel", "readsSum", "()Z"⟩, 54) := ⟨⟨by decide +kernel, by decide +kernel⟩, lw_t5 (List.mem_of_getElem? (i := 155) rfl), lw_t6 (List.mem_of_getElem? (i := 148) rfl), lw_t6 (List.mem_of_getElem? (i := 149) rfl)⟩
theorem lw_p59 : lw_okq (⟨"LandingTreeModel", "readsFactor", "()Z"⟩, 54) := ⟨⟨by decide +kernel, by decide +kernel⟩, lw_t5 (List.mem_of_getElem? (i := 155) rfl), lw_t6 (List.mem_of_getElem? (i := 152) rfl), lw_t6 (List.mem_of_getElem? (i := 153) rfl)⟩
theorem lw_p60 : lw_okq (⟨"LandingTreeModel", "opens", "(I)Z"⟩, 54) := ⟨⟨by decide +kernel, by decide +kernel⟩, lw_t5 (List.mem_of_getElem? (i := 155) rfl), lw_t6 (List.mem_of_getElem? (i := 156) rfl), lw_t6 (List.mem_of_getElem? (i := 157) rfl)⟩
theorem lw_p61 : lw_okq (⟨"LandingTreeModel", "isDigit", "()Z"⟩, 54) := ⟨⟨by decide +kernel, by decide +kernel⟩, lw_t5 (List.mem_of_getElem? (i := 155) rfl), lw_t6 (List.mem_of_getElem? (i := 161) rfl), lw_t6 (List.mem_of_getElem? (i := 162) rfl)⟩
theorem lw_p62 : lw_okq (⟨"LandingTreeModel", "readsNumber", "()Z"⟩, 54) := ⟨⟨by decide +kernel, by decide +kernel⟩, lw_t5 (List.mem_of_getElem? (i := 155) rfl), lw_t6 (List.mem_of_getElem? (i := 165) rfl), lw_t6 (List.mem_of_getElem? (i := 166) rfl)⟩
theorem lw_p63 : lw_okq (⟨"LandingTreeModel", "notes", "(II)V"⟩, 54) := ⟨⟨by decide +kernel, by decide +kernel⟩, lw_t5 (List.mem_of_getElem? (i := 155) rfl), lw_t6 (List.mem_of_getElem? (i := 169) rfl), lw_t6 (List.mem_of_getElem? (i := 170) rfl)⟩
def lw_privs_4 : List (MethodName × Nat) := [(⟨"LandingTree", "numberAt", "(I)I"⟩, 33), (⟨"LandingTree", "toldPlants", "()I"⟩, 33), (⟨"LandingTree", "toldPeople", "()I"⟩, 33), (⟨"LandingTreeModel", "isPlant", "(I)Z"⟩, 54), (⟨"LandingTreeModel", "lives", "(I)Z"⟩, 54), (⟨"LandingTreeModel", "types", "(I)V"⟩, 54), (⟨"LandingTreeModel", "reads", "(II)I"⟩, 54), (⟨"LandingTreeModel", "readsClause", "(I)Z"⟩, 54), (⟨"LandingTreeModel", "here", "()I"⟩, 54), (⟨"LandingTreeModel", "wrongAt", "(II)Z"⟩, 54), (⟨"LandingTreeModel", "readsSum", "()Z"⟩, 54), (⟨"LandingTreeModel", "readsFactor", "()Z"⟩, 54), (⟨"LandingTreeModel", "opens", "(I)Z"⟩, 54), (⟨"LandingTreeModel", "isDigit", "()Z"⟩, 54), (⟨"LandingTreeModel", "readsNumber", "()Z"⟩, 54), (⟨"LandingTreeModel", "notes", "(II)V"⟩, 54)]
theorem lw_r4 : ∀ q ∈ lw_privs_4, lw_okq q := List.forall_mem_cons.mpr ⟨lw_p48, List.forall_mem_cons.mpr ⟨lw_p49, List.forall_mem_cons.mpr ⟨lw_p50, List.forall_mem_cons.mpr ⟨lw_p51, List.forall_mem_cons.mpr ⟨lw_p52, List.forall_mem_cons.mpr ⟨lw_p53, List.forall_mem_cons.mpr ⟨lw_p54, List.forall_mem_cons.mpr ⟨lw_p55, List.forall_mem_cons.mpr ⟨lw_p56, List.forall_mem_cons.mpr ⟨lw_p57, List.forall_mem_cons.mpr ⟨lw_p58, List.forall_mem_cons.mpr ⟨lw_p59, List.forall_mem_cons.mpr ⟨lw_p60, List.forall_mem_cons.mpr ⟨lw_p61, List.forall_mem_cons.mpr ⟨lw_p62, List.forall_mem_cons.mpr ⟨lw_p63, fun _ h => absurd h List.not_mem_nil⟩⟩⟩⟩⟩⟩⟩⟩⟩⟩⟩⟩⟩⟩⟩⟩
theorem lw_p64 : lw_okq (⟨"LandingTreeModel", "closesSums", "(Z)V"⟩, 54) := ⟨⟨by decide +kernel, by decide +kernel⟩, lw_t5 (List.mem_of_getElem? (i := 155) rfl), lw_t6 (List.mem_of_getElem? (i := 179) rfl), lw_t6 (List.mem_of_getElem? (i := 180) rfl)⟩
theorem lw_p65 : lw_okq (⟨"LandingTreeModel", "waitTop", "()I"⟩, 54) := ⟨⟨by decide +kernel, by decide +kernel⟩, lw_t5 (List.mem_of_getElem? (i := 155) rfl), lw_t6 (List.mem_of_getElem? (i := 183) rfl), lw_t6 (List.mem_of_getElem? (i := 184) rfl)⟩
theorem lw_p66 : lw_okq (⟨"LandingTreeModel", "hasOpenSum", "(I)Z"⟩, 54) := ⟨⟨by decide +kernel, by decide +kernel⟩, lw_t5 (List.mem_of_getElem? (i := 155) rfl), lw_t6 (List.mem_of_getElem? (i := 187) rfl), lw_t6 (List.mem_of_getElem? (i := 188) rfl)⟩
theorem lw_p67 : lw_okq (⟨"LandingTreeModel", "readsCondition", "()Z"⟩, 54) := ⟨⟨by decide +kernel, by decide +kernel⟩, lw_t5 (List.mem_of_getElem? (i := 155) rfl), lw_t6 (List.mem_of_getElem? (i := 191) rfl), lw_t6 (List.mem_of_getElem? (i := 192) rfl)⟩
theorem lw_p68 : lw_okq (⟨"LandingTreeModel", "readsCompared", "()Z"⟩, 54) := ⟨⟨by decide +kernel, by decide +kernel⟩, lw_t5 (List.mem_of_getElem? (i := 155) rfl), lw_t6 (List.mem_of_getElem? (i := 195) rfl), lw_t6 (List.mem_of_getElem? (i := 196) rfl)⟩
theorem lw_p69 : lw_okq (⟨"LandingTreeModel", "endsPiece", "()V"⟩, 54) := ⟨⟨by decide +kernel, by decide +kernel⟩, lw_t5 (List.mem_of_getElem? (i := 155) rfl), lw_t6 (List.mem_of_getElem? (i := 199) rfl), lw_t6 (List.mem_of_getElem? (i := 200) rfl)⟩
theorem lw_p70 : lw_okq (⟨"LandingTreeModel", "lands", "(Z)V"⟩, 54) := ⟨⟨by decide +kernel, by decide +kernel⟩, lw_t5 (List.mem_of_getElem? (i := 155) rfl), lw_t6 (List.mem_of_getElem? (i := 203) rfl), lw_t6 (List.mem_of_getElem? (i := 204) rfl)⟩
theorem lw_p71 : lw_okq (⟨"LandingTreeModel", "jumps", "(I)V"⟩, 54) := ⟨⟨by decide +kernel, by decide +kernel⟩, lw_t5 (List.mem_of_getElem? (i := 155) rfl), lw_t6 (List.mem_of_getElem? (i := 207) rfl), lw_t6 (List.mem_of_getElem? (i := 208) rfl)⟩
theorem lw_p72 : lw_okq (⟨"LandingTreeModel", "takes", "(I)Z"⟩, 54) := ⟨⟨by decide +kernel, by decide +kernel⟩, lw_t5 (List.mem_of_getElem? (i := 155) rfl), lw_t6 (List.mem_of_getElem? (i := 211) rfl), lw_t6 (List.mem_of_getElem? (i := 212) rfl)⟩
theorem lw_p73 : lw_okq (⟨"LandingTreeModel", "isPerson", "(I)Z"⟩, 54) := ⟨⟨by decide +kernel, by decide +kernel⟩, lw_t5 (List.mem_of_getElem? (i := 155) rfl), lw_t6 (List.mem_of_getElem? (i := 223) rfl), lw_t6 (List.mem_of_getElem? (i := 224) rfl)⟩
theorem lw_p74 : lw_okq (⟨"LandingTreeModel", "cupsOf", "(II)I"⟩, 54) := ⟨⟨by decide +kernel, by decide +kernel⟩, lw_t5 (List.mem_of_getElem? (i := 155) rfl), lw_t6 (List.mem_of_getElem? (i := 227) rfl), lw_t6 (List.mem_of_getElem? (i := 228) rfl)⟩
theorem lw_p75 : lw_okq (⟨"LandingTreeModel", "feelsPlant", "(I)V"⟩, 54) := ⟨⟨by decide +kernel, by decide +kernel⟩, lw_t5 (List.mem_of_getElem? (i := 155) rfl), lw_t6 (List.mem_of_getElem? (i := 231) rfl), lw_t6 (List.mem_of_getElem? (i := 232) rfl)⟩
theorem lw_p76 : lw_okq (⟨"LandingTreeModel", "feels", "()V"⟩, 54) := ⟨⟨by decide +kernel, by decide +kernel⟩, lw_t5 (List.mem_of_getElem? (i := 155) rfl), lw_t6 (List.mem_of_getElem? (i := 235) rfl), lw_t6 (List.mem_of_getElem? (i := 236) rfl)⟩
theorem lw_p77 : lw_okq (⟨"LandingTreeModel", "byText", "(III)I"⟩, 54) := ⟨⟨by decide +kernel, by decide +kernel⟩, lw_t5 (List.mem_of_getElem? (i := 155) rfl), lw_t7 (List.mem_of_getElem? (i := 2) rfl), lw_t7 (List.mem_of_getElem? (i := 3) rfl)⟩
theorem lw_p78 : lw_okq (⟨"LandingTreeModel", "comesTo", "(II)I"⟩, 54) := ⟨⟨by decide +kernel, by decide +kernel⟩, lw_t5 (List.mem_of_getElem? (i := 155) rfl), lw_t7 (List.mem_of_getElem? (i := 6) rfl), lw_t7 (List.mem_of_getElem? (i := 7) rfl)⟩
theorem lw_p79 : lw_okq (⟨"LandingTreeModel", "daysGo", "(I)V"⟩, 54) := ⟨⟨by decide +kernel, by decide +kernel⟩, lw_t5 (List.mem_of_getElem? (i := 155) rfl), lw_t7 (List.mem_of_getElem? (i := 17) rfl), lw_t7 (List.mem_of_getElem? (i := 18) rfl)⟩
def lw_privs_5 : List (MethodName × Nat) := [(⟨"LandingTreeModel", "closesSums", "(Z)V"⟩, 54), (⟨"LandingTreeModel", "waitTop", "()I"⟩, 54), (⟨"LandingTreeModel", "hasOpenSum", "(I)Z"⟩, 54), (⟨"LandingTreeModel", "readsCondition", "()Z"⟩, 54), (⟨"LandingTreeModel", "readsCompared", "()Z"⟩, 54), (⟨"LandingTreeModel", "endsPiece", "()V"⟩, 54), (⟨"LandingTreeModel", "lands", "(Z)V"⟩, 54), (⟨"LandingTreeModel", "jumps", "(I)V"⟩, 54), (⟨"LandingTreeModel", "takes", "(I)Z"⟩, 54), (⟨"LandingTreeModel", "isPerson", "(I)Z"⟩, 54), (⟨"LandingTreeModel", "cupsOf", "(II)I"⟩, 54), (⟨"LandingTreeModel", "feelsPlant", "(I)V"⟩, 54), (⟨"LandingTreeModel", "feels", "()V"⟩, 54), (⟨"LandingTreeModel", "byText", "(III)I"⟩, 54), (⟨"LandingTreeModel", "comesTo", "(II)I"⟩, 54), (⟨"LandingTreeModel", "daysGo", "(I)V"⟩, 54)]
theorem lw_r5 : ∀ q ∈ lw_privs_5, lw_okq q := List.forall_mem_cons.mpr ⟨lw_p64, List.forall_mem_cons.mpr ⟨lw_p65, List.forall_mem_cons.mpr ⟨lw_p66, List.forall_mem_cons.mpr ⟨lw_p67, List.forall_mem_cons.mpr ⟨lw_p68, List.forall_mem_cons.mpr ⟨lw_p69, List.forall_mem_cons.mpr ⟨lw_p70, List.forall_mem_cons.mpr ⟨lw_p71, List.forall_mem_cons.mpr ⟨lw_p72, List.forall_mem_cons.mpr ⟨lw_p73, List.forall_mem_cons.mpr ⟨lw_p74, List.forall_mem_cons.mpr ⟨lw_p75, List.forall_mem_cons.mpr ⟨lw_p76, List.forall_mem_cons.mpr ⟨lw_p77, List.forall_mem_cons.mpr ⟨lw_p78, List.forall_mem_cons.mpr ⟨lw_p79, fun _ h => absurd h List.not_mem_nil⟩⟩⟩⟩⟩⟩⟩⟩⟩⟩⟩⟩⟩⟩⟩⟩
theorem lw_p80 : lw_okq (⟨"LandingTreeModel", "dayGoes", "()V"⟩, 54) := ⟨⟨by decide +kernel, by decide +kernel⟩, lw_t5 (List.mem_of_getElem? (i := 155) rfl), lw_t7 (List.mem_of_getElem? (i := 21) rfl), lw_t7 (List.mem_of_getElem? (i := 22) rfl)⟩
theorem lw_p81 : lw_okq (⟨"LandingTreeModel", "draws", "()I"⟩, 54) := ⟨⟨by decide +kernel, by decide +kernel⟩, lw_t5 (List.mem_of_getElem? (i := 155) rfl), lw_t7 (List.mem_of_getElem? (i := 25) rfl), lw_t7 (List.mem_of_getElem? (i := 26) rfl)⟩
theorem lw_p82 : lw_okq (⟨"LandingTreeModel", "waters", "(II)V"⟩, 54) := ⟨⟨by decide +kernel, by decide +kernel⟩, lw_t5 (List.mem_of_getElem? (i := 155) rfl), lw_t7 (List.mem_of_getElem? (i := 30) rfl), lw_t7 (List.mem_of_getElem? (i := 31) rfl)⟩
theorem lw_p83 : lw_okq (⟨"LandingTreeModel", "dries", "(IZ)V"⟩, 54) := ⟨⟨by decide +kernel, by decide +kernel⟩, lw_t5 (List.mem_of_getElem? (i := 155) rfl), lw_t7 (List.mem_of_getElem? (i := 34) rfl), lw_t7 (List.mem_of_getElem? (i := 35) rfl)⟩
theorem lw_p84 : lw_okq (⟨"LandingTreeModel", "canGo", "(III)Z"⟩, 54) := ⟨⟨by decide +kernel, by decide +kernel⟩, lw_t5 (List.mem_of_getElem? (i := 155) rfl), lw_t7 (List.mem_of_getElem? (i := 56) rfl), lw_t7 (List.mem_of_getElem? (i := 57) rfl)⟩
theorem lw_p85 : lw_okq (⟨"LandingTreeModel", "laysSome", "(I)Z"⟩, 54) := ⟨⟨by decide +kernel, by decide +kernel⟩, lw_t5 (List.mem_of_getElem? (i := 155) rfl), lw_t7 (List.mem_of_getElem? (i := 60) rfl), lw_t7 (List.mem_of_getElem? (i := 61) rfl)⟩
theorem lw_p86 : lw_okq (⟨"LandingTreeModel", "goesThrough", "(II)J"⟩, 54) := ⟨⟨by decide +kernel, by decide +kernel⟩, lw_t5 (List.mem_of_getElem? (i := 155) rfl), lw_t7 (List.mem_of_getElem? (i := 65) rfl), lw_t7 (List.mem_of_getElem? (i := 66) rfl)⟩
theorem lw_p87 : lw_okq (⟨"LandingTreeModel", "comesBy", "(II)V"⟩, 54) := ⟨⟨by decide +kernel, by decide +kernel⟩, lw_t5 (List.mem_of_getElem? (i := 155) rfl), lw_t7 (List.mem_of_getElem? (i := 76) rfl), lw_t7 (List.mem_of_getElem? (i := 77) rfl)⟩
theorem lw_p88 : lw_okq (⟨"LandingTreeModel", "cupsIn", "(III)I"⟩, 54) := ⟨⟨by decide +kernel, by decide +kernel⟩, lw_t5 (List.mem_of_getElem? (i := 155) rfl), lw_t7 (List.mem_of_getElem? (i := 80) rfl), lw_t7 (List.mem_of_getElem? (i := 81) rfl)⟩
theorem lw_p89 : lw_okq (⟨"LandingTreeModel", "feelsState", "(II)V"⟩, 54) := ⟨⟨by decide +kernel, by decide +kernel⟩, lw_t5 (List.mem_of_getElem? (i := 155) rfl), lw_t7 (List.mem_of_getElem? (i := 84) rfl), lw_t7 (List.mem_of_getElem? (i := 85) rfl)⟩
theorem lw_p90 : lw_okq (⟨"LandingTreeModel", "sunBy", "(IIZ)V"⟩, 54) := ⟨⟨by decide +kernel, by decide +kernel⟩, lw_t5 (List.mem_of_getElem? (i := 155) rfl), lw_t7 (List.mem_of_getElem? (i := 94) rfl), lw_t7 (List.mem_of_getElem? (i := 95) rfl)⟩
theorem lw_p91 : lw_okq (⟨"LandingTreeModel", "lastsWith", "(II)I"⟩, 54) := ⟨⟨by decide +kernel, by decide +kernel⟩, lw_t5 (List.mem_of_getElem? (i := 155) rfl), lw_t7 (List.mem_of_getElem? (i := 124) rfl), lw_t7 (List.mem_of_getElem? (i := 125) rfl)⟩
theorem lw_p92 : lw_okq (⟨"LandingTreeModel", "laysSpread", "(I)I"⟩, 54) := ⟨⟨by decide +kernel, by decide +kernel⟩, lw_t5 (List.mem_of_getElem? (i := 155) rfl), lw_t7 (List.mem_of_getElem? (i := 132) rfl), lw_t7 (List.mem_of_getElem? (i := 133) rfl)⟩
theorem lw_p93 : lw_okq (⟨"LandingTreeModel", "mayBe", "(I)Z"⟩, 54) := ⟨⟨by decide +kernel, by decide +kernel⟩, lw_t5 (List.mem_of_getElem? (i := 155) rfl), lw_t7 (List.mem_of_getElem? (i := 136) rfl), lw_t7 (List.mem_of_getElem? (i := 137) rfl)⟩
theorem lw_p94 : lw_okq (⟨"LandingTreeModel", "leastBy", "()I"⟩, 54) := ⟨⟨by decide +kernel, by decide +kernel⟩, lw_t5 (List.mem_of_getElem? (i := 155) rfl), lw_t7 (List.mem_of_getElem? (i := 140) rfl), lw_t7 (List.mem_of_getElem? (i := 141) rfl)⟩
theorem lw_p95 : lw_okq (⟨"LandingTreeModel", "wetBehind", "(III)I"⟩, 54) := ⟨⟨by decide +kernel, by decide +kernel⟩, lw_t5 (List.mem_of_getElem? (i := 155) rfl), lw_t7 (List.mem_of_getElem? (i := 162) rfl), lw_t7 (List.mem_of_getElem? (i := 163) rfl)⟩
def lw_privs_6 : List (MethodName × Nat) := [(⟨"LandingTreeModel", "dayGoes", "()V"⟩, 54), (⟨"LandingTreeModel", "draws", "()I"⟩, 54), (⟨"LandingTreeModel", "waters", "(II)V"⟩, 54), (⟨"LandingTreeModel", "dries", "(IZ)V"⟩, 54), (⟨"LandingTreeModel", "canGo", "(III)Z"⟩, 54), (⟨"LandingTreeModel", "laysSome", "(I)Z"⟩, 54), (⟨"LandingTreeModel", "goesThrough", "(II)J"⟩, 54), (⟨"LandingTreeModel", "comesBy", "(II)V"⟩, 54), (⟨"LandingTreeModel", "cupsIn", "(III)I"⟩, 54), (⟨"LandingTreeModel", "feelsState", "(II)V"⟩, 54), (⟨"LandingTreeModel", "sunBy", "(IIZ)V"⟩, 54), (⟨"LandingTreeModel", "lastsWith", "(II)I"⟩, 54), (⟨"LandingTreeModel", "laysSpread", "(I)I"⟩, 54), (⟨"LandingTreeModel", "mayBe", "(I)Z"⟩, 54), (⟨"LandingTreeModel", "leastBy", "()I"⟩, 54), (⟨"LandingTreeModel", "wetBehind", "(III)I"⟩, 54)]
theorem lw_r6 : ∀ q ∈ lw_privs_6, lw_okq q := List.forall_mem_cons.mpr ⟨lw_p80, List.forall_mem_cons.mpr ⟨lw_p81, List.forall_mem_cons.mpr ⟨lw_p82, List.forall_mem_cons.mpr ⟨lw_p83, List.forall_mem_cons.mpr ⟨lw_p84, List.forall_mem_cons.mpr ⟨lw_p85, List.forall_mem_cons.mpr ⟨lw_p86, List.forall_mem_cons.mpr ⟨lw_p87, List.forall_mem_cons.mpr ⟨lw_p88, List.forall_mem_cons.mpr ⟨lw_p89, List.forall_mem_cons.mpr ⟨lw_p90, List.forall_mem_cons.mpr ⟨lw_p91, List.forall_mem_cons.mpr ⟨lw_p92, List.forall_mem_cons.mpr ⟨lw_p93, List.forall_mem_cons.mpr ⟨lw_p94, List.forall_mem_cons.mpr ⟨lw_p95, fun _ h => absurd h List.not_mem_nil⟩⟩⟩⟩⟩⟩⟩⟩⟩⟩⟩⟩⟩⟩⟩⟩
theorem lw_p96 : lw_okq (⟨"LandingTreeModel", "areTenths", "(I)Z"⟩, 54) := ⟨⟨by decide +kernel, by decide +kernel⟩, lw_t5 (List.mem_of_getElem? (i := 155) rfl), lw_t7 (List.mem_of_getElem? (i := 170) rfl), lw_t7 (List.mem_of_getElem? (i := 171) rfl)⟩
theorem lw_p97 : lw_okq (⟨"LandingTreeModel", "laysComes", "(I)V"⟩, 54) := ⟨⟨by decide +kernel, by decide +kernel⟩, lw_t5 (List.mem_of_getElem? (i := 155) rfl), lw_t7 (List.mem_of_getElem? (i := 175) rfl), lw_t7 (List.mem_of_getElem? (i := 176) rfl)⟩
theorem lw_p98 : lw_okq (⟨"LandingTreeModel", "readsWeek", "()Z"⟩, 54) := ⟨⟨by decide +kernel, by decide +kernel⟩, lw_t5 (List.mem_of_getElem? (i := 155) rfl), lw_t7 (List.mem_of_getElem? (i := 193) rfl), lw_t7 (List.mem_of_getElem? (i := 194) rfl)⟩
theorem lw_p99 : lw_okq (⟨"LandingTreeModel", "goesByRota", "(I)V"⟩, 54) := ⟨⟨by decide +kernel, by decide +kernel⟩, lw_t5 (List.mem_of_getElem? (i := 155) rfl), lw_t7 (List.mem_of_getElem? (i := 200) rfl), lw_t7 (List.mem_of_getElem? (i := 201) rfl)⟩
theorem lw_p100 : lw_okq (⟨"LandingTreeModel", "laysAlone", "(I)V"⟩, 54) := ⟨⟨by decide +kernel, by decide +kernel⟩, lw_t5 (List.mem_of_getElem? (i := 155) rfl), lw_t7 (List.mem_of_getElem? (i := 208) rfl), lw_t7 (List.mem_of_getElem? (i := 209) rfl)⟩
theorem lw_p101 : lw_okq (⟨"LandingTreeModel", "waterBy", "(II)Z"⟩, 54) := ⟨⟨by decide +kernel, by decide +kernel⟩, lw_t5 (List.mem_of_getElem? (i := 155) rfl), lw_t7 (List.mem_of_getElem? (i := 212) rfl), lw_t7 (List.mem_of_getElem? (i := 213) rfl)⟩
theorem lw_p102 : lw_okq (⟨"LandingTreeModel", "gainOf", "(II)I"⟩, 54) := ⟨⟨by decide +kernel, by decide +kernel⟩, lw_t5 (List.mem_of_getElem? (i := 155) rfl), lw_t7 (List.mem_of_getElem? (i := 216) rfl), lw_t7 (List.mem_of_getElem? (i := 217) rfl)⟩
theorem lw_p103 : lw_okq (⟨"LandingTreeModel", "tapeNumber", "(I)I"⟩, 54) := ⟨⟨by decide +kernel, by decide +kernel⟩, lw_t5 (List.mem_of_getElem? (i := 155) rfl), lw_t8 (List.mem_of_getElem? (i := 5) rfl), lw_t8 (List.mem_of_getElem? (i := 6) rfl)⟩
def lw_privs_7 : List (MethodName × Nat) := [(⟨"LandingTreeModel", "areTenths", "(I)Z"⟩, 54), (⟨"LandingTreeModel", "laysComes", "(I)V"⟩, 54), (⟨"LandingTreeModel", "readsWeek", "()Z"⟩, 54), (⟨"LandingTreeModel", "goesByRota", "(I)V"⟩, 54), (⟨"LandingTreeModel", "laysAlone", "(I)V"⟩, 54), (⟨"LandingTreeModel", "waterBy", "(II)Z"⟩, 54), (⟨"LandingTreeModel", "gainOf", "(II)I"⟩, 54), (⟨"LandingTreeModel", "tapeNumber", "(I)I"⟩, 54)]
theorem lw_r7 : ∀ q ∈ lw_privs_7, lw_okq q := List.forall_mem_cons.mpr ⟨lw_p96, List.forall_mem_cons.mpr ⟨lw_p97, List.forall_mem_cons.mpr ⟨lw_p98, List.forall_mem_cons.mpr ⟨lw_p99, List.forall_mem_cons.mpr ⟨lw_p100, List.forall_mem_cons.mpr ⟨lw_p101, List.forall_mem_cons.mpr ⟨lw_p102, List.forall_mem_cons.mpr ⟨lw_p103, fun _ h => absurd h List.not_mem_nil⟩⟩⟩⟩⟩⟩⟩⟩
def lw_privs : List (MethodName × Nat) := lw_privs_1 ++ (lw_privs_2 ++ (lw_privs_3 ++ (lw_privs_4 ++ (lw_privs_5 ++ (lw_privs_6 ++ (lw_privs_7))))))
def lw_tbl : List Cond := k2_sels lw_privs ++ tables_1
theorem lw_privs_ok : ∀ q ∈ lw_privs, lw_okq q := by
  show ∀ q ∈ lw_privs_1 ++ (lw_privs_2 ++ (lw_privs_3 ++ (lw_privs_4 ++ (lw_privs_5 ++ (lw_privs_6 ++ (lw_privs_7)))))), lw_okq q
  exact List.forall_mem_append.mpr ⟨lw_r1, List.forall_mem_append.mpr ⟨lw_r2, List.forall_mem_append.mpr ⟨lw_r3, List.forall_mem_append.mpr ⟨lw_r4, List.forall_mem_append.mpr ⟨lw_r5, List.forall_mem_append.mpr ⟨lw_r6, lw_r7⟩⟩⟩⟩⟩⟩
-- ===== ONE list of words for every method: the tables' words that hold all through a run =====
def lw_all : List Cond := lw_tbl.filter goodWord
/-- a word of the tables by its place: claim/WORDS.tsv -/
theorem lw_w {w : Cond} (i : Nat) (h : lw_tbl[i]? = some w) (g : goodWord w = true) : w ∈ lw_all := List.mem_filter.mpr ⟨List.mem_of_getElem? h, g⟩
theorem lw_all_tbl {w : Cond} (h : w ∈ lw_all) : w ∈ lw_tbl := (List.mem_filter.mp h).1
theorem lw_self : GoodIn lw_all lw_all := fun w h => ⟨h, good_of_word (List.mem_filter.mp h).2⟩
/-- a class's field words, by their places -/
theorem lw_in (ws : List Cond) (ps : List Nat) (hp : ws = ps.filterMap (fun i => lw_tbl[i]?)) (hg : ws.all goodWord = true) : ∀ w ∈ ws, w ∈ lw_all := by
  intro w h
  have h1 := List.all_eq_true.mp hg w h
  rw [hp] at h
  obtain ⟨i, -, hi⟩ := List.mem_filterMap.mp h
  exact lw_w i hi h1
/-- the words of a contract for the method y with code b, L locals, answer r -/
abbrev ws_ (y : MethodName) (b : ByteArray) (L : Nat) (r : Option FieldType) : List Cond := Cond.code y b L r :: lw_all
theorem lw_meth {y : MethodName} {b : ByteArray} {L : Nat} {r : Option FieldType} (h : Cond.code y b L r ∈ lw_all) : GoodIn lw_all (ws_ y b L r) := by
  intro w hw
  rcases List.mem_cons.mp hw with e | e
  · rw [e]
    exact lw_self _ h
  · exact lw_self _ e
theorem lw_app {a c : List Cond} (ha : ∀ w ∈ a, w ∈ lw_all) (hc : GoodIn lw_all c) : GoodIn lw_all (a ++ c) := by
  intro w hw
  rcases List.mem_append.mp hw with e | e
  · exact lw_self w (ha w e)
  · exact hc w e
/-- what a call through an object asks: cwV n hts (lw_V ..) -/
theorem lw_V {own : String} {idx : Nat} {C : String} {y : MethodName} {b : ByteArray} {L : Nat} {r : Option FieldType} (h1 : Cond.methodLink own idx y ∈ lw_all) (h2 : Cond.instanceMethod y ∈ lw_all) (h3 : Cond.selects C y y ∈ lw_all) (h4 : Cond.initialized C ∈ lw_all) (h5 : Cond.code y b L r ∈ lw_all) : GoodIn lw_all (wsV own idx C y (ws_ y b L r)) := by
  refine lw_app ?_ (lw_meth h5)
  intro w hw
  simp only [List.mem_cons, List.not_mem_nil, or_false] at hw
  rcases hw with e | e | e | e
  · rw [e]; exact h1
  · rw [e]; exact h2
  · rw [e]; exact h3
  · rw [e]; exact h4
/-- what a static call asks: va_cwS n hts (lw_S ..) -/
theorem lw_S {own : String} {idx : Nat} {y : MethodName} {b : ByteArray} {L : Nat} {r : Option FieldType} (h1 : Cond.methodLink own idx y ∈ lw_all) (h2 : Cond.static y ∈ lw_all) (h3 : Cond.initialized y.cls ∈ lw_all) (h4 : Cond.code y b L r ∈ lw_all) : GoodIn lw_all (va_wsS own idx y (ws_ y b L r)) := by
  refine lw_app ?_ (lw_meth h4)
  intro w hw
  simp only [List.mem_cons, List.not_mem_nil, or_false] at hw
  rcases hw with e | e | e
  · rw [e]; exact h1
  · rw [e]; exact h2
  · rw [e]; exact h3
/-- the words of a contract for a method WITH HANDLERS (hh: its table) -/
abbrev wsW_ (y : MethodName) (b : ByteArray) (L : Nat) (r : Option FieldType) (hh : List (Nat × Nat × Nat × Nat)) : List Cond := Cond.codeWith y b L r hh :: lw_all
theorem lw_methW {y : MethodName} {b : ByteArray} {L : Nat} {r : Option FieldType} {hh : List (Nat × Nat × Nat × Nat)} (h : Cond.codeWith y b L r hh ∈ lw_all) : GoodIn lw_all (wsW_ y b L r hh) := by
  intro w hw
  rcases List.mem_cons.mp hw with e | e
  · rw [e]
    exact lw_self _ h
  · exact lw_self _ e
/-- any list of words by their places (lw_in), good -/
theorem lw_good {ws : List Cond} (h : ∀ w ∈ ws, w ∈ lw_all) : GoodIn lw_all ws := fun w hw => lw_self w (h w hw)
/-- what a call of a method with handlers asks: vx_cwVW n hts (lw_VW ..), vx_cwSW n hts (lw_SW ..) -/
theorem lw_VW {own : String} {idx : Nat} {C : String} {y : MethodName} {b : ByteArray} {L : Nat} {r : Option FieldType} {hh : List (Nat × Nat × Nat × Nat)} (h1 : Cond.methodLink own idx y ∈ lw_all) (h2 : Cond.instanceMethod y ∈ lw_all) (h3 : Cond.selects C y y ∈ lw_all) (h4 : Cond.initialized C ∈ lw_all) (h5 : Cond.codeWith y b L r hh ∈ lw_all) : GoodIn lw_all (wsV own idx C y (wsW_ y b L r hh)) := by
  refine lw_app ?_ (lw_methW h5)
  intro w hw
  simp only [List.mem_cons, List.not_mem_nil, or_false] at hw
  rcases hw with e | e | e | e
  · rw [e]; exact h1
  · rw [e]; exact h2
  · rw [e]; exact h3
  · rw [e]; exact h4
theorem lw_SW {own : String} {idx : Nat} {y : MethodName} {b : ByteArray} {L : Nat} {r : Option FieldType} {hh : List (Nat × Nat × Nat × Nat)} (h1 : Cond.methodLink own idx y ∈ lw_all) (h2 : Cond.static y ∈ lw_all) (h3 : Cond.initialized y.cls ∈ lw_all) (h4 : Cond.codeWith y b L r hh ∈ lw_all) : GoodIn lw_all (va_wsS own idx y (wsW_ y b L r hh)) := by
  refine lw_app ?_ (lw_methW h4)
  intro w hw
  simp only [List.mem_cons, List.not_mem_nil, or_false] at hw
  rcases hw with e | e | e
  · rw [e]; exact h1
  · rw [e]; exact h2
  · rw [e]; exact h3
/-- a word by its place in its run of the tables -/
theorem lw_at {r : List Cond} (hr : ∀ w ∈ r, w ∈ lw_tbl) {w : Cond} (i : Nat) (h : r[i]? = some w) : w ∈ lw_tbl := hr w (List.mem_of_getElem? h)
theorem lw_g {w : Cond} (h : w ∈ lw_tbl) (g : goodWord w = true) : w ∈ lw_all := List.mem_filter.mpr ⟨h, g⟩
theorem lw_ms : ∀ w ∈ k2_sels lw_privs, w ∈ lw_tbl := fun w h => show w ∈ k2_sels lw_privs ++ tables_1 from List.mem_append_left _ h
theorem lw_m1 : ∀ w ∈ tables_1_1, w ∈ lw_tbl := fun w h => show w ∈ k2_sels lw_privs ++ tables_1 from List.mem_append_right (k2_sels lw_privs) (show w ∈ tables_1 from List.mem_append_left _ h)
theorem lw_m2 : ∀ w ∈ tables_1_2, w ∈ lw_tbl := fun w h => show w ∈ k2_sels lw_privs ++ tables_1 from List.mem_append_right (k2_sels lw_privs) (show w ∈ tables_1 from List.mem_append_right _ (List.mem_append_left _ h))
theorem lw_m3 : ∀ w ∈ tables_1_3, w ∈ lw_tbl := fun w h => show w ∈ k2_sels lw_privs ++ tables_1 from List.mem_append_right (k2_sels lw_privs) (show w ∈ tables_1 from List.mem_append_right _ (List.mem_append_right _ (List.mem_append_left _ h)))
theorem lw_m4 : ∀ w ∈ tables_1_4, w ∈ lw_tbl := fun w h => show w ∈ k2_sels lw_privs ++ tables_1 from List.mem_append_right (k2_sels lw_privs) (show w ∈ tables_1 from List.mem_append_right _ (List.mem_append_right _ (List.mem_append_right _ (List.mem_append_left _ h))))
theorem lw_m5 : ∀ w ∈ tables_1_5, w ∈ lw_tbl := fun w h => show w ∈ k2_sels lw_privs ++ tables_1 from List.mem_append_right (k2_sels lw_privs) (show w ∈ tables_1 from List.mem_append_right _ (List.mem_append_right _ (List.mem_append_right _ (List.mem_append_right _ (List.mem_append_left _ h)))))
theorem lw_m6 : ∀ w ∈ tables_1_6, w ∈ lw_tbl := fun w h => show w ∈ k2_sels lw_privs ++ tables_1 from List.mem_append_right (k2_sels lw_privs) (show w ∈ tables_1 from List.mem_append_right _ (List.mem_append_right _ (List.mem_append_right _ (List.mem_append_right _ (List.mem_append_right _ (List.mem_append_left _ h))))))
theorem lw_m7 : ∀ w ∈ tables_1_7, w ∈ lw_tbl := fun w h => show w ∈ k2_sels lw_privs ++ tables_1 from List.mem_append_right (k2_sels lw_privs) (show w ∈ tables_1 from List.mem_append_right _ (List.mem_append_right _ (List.mem_append_right _ (List.mem_append_right _ (List.mem_append_right _ (List.mem_append_right _ (List.mem_append_left _ h)))))))
theorem lw_m8 : ∀ w ∈ tables_1_8, w ∈ lw_tbl := fun w h => show w ∈ k2_sels lw_privs ++ tables_1 from List.mem_append_right (k2_sels lw_privs) (show w ∈ tables_1 from List.mem_append_right _ (List.mem_append_right _ (List.mem_append_right _ (List.mem_append_right _ (List.mem_append_right _ (List.mem_append_right _ (List.mem_append_right _ h)))))))
theorem qs0 : (Cond.selects "LandingTree" ⟨"LandingTree", "isPlant", "(I)Z"⟩ ⟨"LandingTree", "isPlant", "(I)Z"⟩) ∈ lw_all := lw_g (lw_at lw_ms 0 rfl) rfl
theorem qs1 : (Cond.selects "LandingTree" ⟨"LandingTree", "push", "(I)V"⟩ ⟨"LandingTree", "push", "(I)V"⟩) ∈ lw_all := lw_g (lw_at lw_ms 1 rfl) rfl
theorem qs2 : (Cond.selects "LandingTree$Reader" ⟨"LandingTree$Reader", "isGood", "()Z"⟩ ⟨"LandingTree$Reader", "isGood", "()Z"⟩) ∈ lw_all := lw_g (lw_at lw_ms 2 rfl) rfl
theorem qs3 : (Cond.selects "LandingTree$Reader" ⟨"LandingTree$Reader", "clause", "()V"⟩ ⟨"LandingTree$Reader", "clause", "()V"⟩) ∈ lw_all := lw_g (lw_at lw_ms 3 rfl) rfl
theorem qs4 : (Cond.selects "LandingTree$Reader" ⟨"LandingTree$Reader", "here", "()I"⟩ ⟨"LandingTree$Reader", "here", "()I"⟩) ∈ lw_all := lw_g (lw_at lw_ms 4 rfl) rfl
theorem qs5 : (Cond.selects "LandingTree$Reader" ⟨"LandingTree$Reader", "bad", "(II)V"⟩ ⟨"LandingTree$Reader", "bad", "(II)V"⟩) ∈ lw_all := lw_g (lw_at lw_ms 5 rfl) rfl
theorem qs6 : (Cond.selects "LandingTree$Reader" ⟨"LandingTree$Reader", "sum", "()LLandingTree$Sum;"⟩ ⟨"LandingTree$Reader", "sum", "()LLandingTree$Sum;"⟩) ∈ lw_all := lw_g (lw_at lw_ms 6 rfl) rfl
theorem qs7 : (Cond.selects "LandingTree$Reader" ⟨"LandingTree$Reader", "product", "()LLandingTree$Sum;"⟩ ⟨"LandingTree$Reader", "product", "()LLandingTree$Sum;"⟩) ∈ lw_all := lw_g (lw_at lw_ms 7 rfl) rfl
theorem qs8 : (Cond.selects "LandingTree$Reader" ⟨"LandingTree$Reader", "factor", "()LLandingTree$Sum;"⟩ ⟨"LandingTree$Reader", "factor", "()LLandingTree$Sum;"⟩) ∈ lw_all := lw_g (lw_at lw_ms 8 rfl) rfl
theorem qs9 : (Cond.selects "LandingTree$Reader" ⟨"LandingTree$Reader", "opens", "()V"⟩ ⟨"LandingTree$Reader", "opens", "()V"⟩) ∈ lw_all := lw_g (lw_at lw_ms 9 rfl) rfl
theorem qs10 : (Cond.selects "LandingTree$Reader" ⟨"LandingTree$Reader", "must", "(I)V"⟩ ⟨"LandingTree$Reader", "must", "(I)V"⟩) ∈ lw_all := lw_g (lw_at lw_ms 10 rfl) rfl
theorem qs11 : (Cond.selects "LandingTree$Reader" ⟨"LandingTree$Reader", "seesDigit", "()Z"⟩ ⟨"LandingTree$Reader", "seesDigit", "()Z"⟩) ∈ lw_all := lw_g (lw_at lw_ms 11 rfl) rfl
theorem qs12 : (Cond.selects "LandingTree$Reader" ⟨"LandingTree$Reader", "number", "()I"⟩ ⟨"LandingTree$Reader", "number", "()I"⟩) ∈ lw_all := lw_g (lw_at lw_ms 12 rfl) rfl
theorem qs13 : (Cond.selects "LandingTree$Reader" ⟨"LandingTree$Reader", "condition", "()LLandingTree$Condition;"⟩ ⟨"LandingTree$Reader", "condition", "()LLandingTree$Condition;"⟩) ∈ lw_all := lw_g (lw_at lw_ms 13 rfl) rfl
theorem qs14 : (Cond.selects "LandingTree$Reader" ⟨"LandingTree$Reader", "pieces", "()LLandingTree$Condition;"⟩ ⟨"LandingTree$Reader", "pieces", "()LLandingTree$Condition;"⟩) ∈ lw_all := lw_g (lw_at lw_ms 14 rfl) rfl
theorem qs15 : (Cond.selects "LandingTree$Reader" ⟨"LandingTree$Reader", "piece", "()LLandingTree$Condition;"⟩ ⟨"LandingTree$Reader", "piece", "()LLandingTree$Condition;"⟩) ∈ lw_all := lw_g (lw_at lw_ms 15 rfl) rfl
theorem qs16 : (Cond.selects "LandingTree$Landing" ⟨"LandingTree$Landing", "dayGoes", "()V"⟩ ⟨"LandingTree$Landing", "dayGoes", "()V"⟩) ∈ lw_all := lw_g (lw_at lw_ms 16 rfl) rfl
theorem qs17 : (Cond.selects "LandingTree$Landing" ⟨"LandingTree$Landing", "draw", "()I"⟩ ⟨"LandingTree$Landing", "draw", "()I"⟩) ∈ lw_all := lw_g (lw_at lw_ms 17 rfl) rfl
theorem qs18 : (Cond.selects "LandingTree$Landing" ⟨"LandingTree$Landing", "at", "(I)LLandingTree$Moment;"⟩ ⟨"LandingTree$Landing", "at", "(I)LLandingTree$Moment;"⟩) ∈ lw_all := lw_g (lw_at lw_ms 18 rfl) rfl
theorem qs19 : (Cond.selects "LandingTree" ⟨"LandingTree", "isPerson", "(I)Z"⟩ ⟨"LandingTree", "isPerson", "(I)Z"⟩) ∈ lw_all := lw_g (lw_at lw_ms 19 rfl) rfl
theorem qs20 : (Cond.selects "LandingTree" ⟨"LandingTree", "canLay", "(III)Z"⟩ ⟨"LandingTree", "canLay", "(III)Z"⟩) ∈ lw_all := lw_g (lw_at lw_ms 20 rfl) rfl
theorem qs21 : (Cond.selects "LandingTree" ⟨"LandingTree", "takesPeople", "(I)Z"⟩ ⟨"LandingTree", "takesPeople", "(I)Z"⟩) ∈ lw_all := lw_g (lw_at lw_ms 21 rfl) rfl
theorem qs22 : (Cond.selects "LandingTree" ⟨"LandingTree", "laysDays", "(IIII)J"⟩ ⟨"LandingTree", "laysDays", "(IIII)J"⟩) ∈ lw_all := lw_g (lw_at lw_ms 22 rfl) rfl
theorem qs23 : (Cond.selects "LandingTree" ⟨"LandingTree", "clears", "([[J)V"⟩ ⟨"LandingTree", "clears", "([[J)V"⟩) ∈ lw_all := lw_g (lw_at lw_ms 23 rfl) rfl
theorem qs24 : (Cond.selects "LandingTree" ⟨"LandingTree", "personComes", "(I)V"⟩ ⟨"LandingTree", "personComes", "(I)V"⟩) ∈ lw_all := lw_g (lw_at lw_ms 24 rfl) rfl
theorem qs25 : (Cond.selects "LandingTree" ⟨"LandingTree", "thenAt", "(II)LLandingTree$Moment;"⟩ ⟨"LandingTree", "thenAt", "(II)LLandingTree$Moment;"⟩) ∈ lw_all := lw_g (lw_at lw_ms 25 rfl) rfl
theorem qs26 : (Cond.selects "LandingTree" ⟨"LandingTree", "takesComes", "()V"⟩ ⟨"LandingTree", "takesComes", "()V"⟩) ∈ lw_all := lw_g (lw_at lw_ms 26 rfl) rfl
theorem qs27 : (Cond.selects "LandingTree" ⟨"LandingTree", "sunComes", "()V"⟩ ⟨"LandingTree", "sunComes", "()V"⟩) ∈ lw_all := lw_g (lw_at lw_ms 27 rfl) rfl
theorem qs28 : (Cond.selects "LandingTree" ⟨"LandingTree", "endsBy", "(IIIJ)V"⟩ ⟨"LandingTree", "endsBy", "(IIIJ)V"⟩) ∈ lw_all := lw_g (lw_at lw_ms 28 rfl) rfl
theorem qs29 : (Cond.selects "LandingTree" ⟨"LandingTree", "lastsWith", "(II)I"⟩ ⟨"LandingTree", "lastsWith", "(II)I"⟩) ∈ lw_all := lw_g (lw_at lw_ms 29 rfl) rfl
theorem qs30 : (Cond.selects "LandingTree" ⟨"LandingTree", "laysWeek", "(IIII)V"⟩ ⟨"LandingTree", "laysWeek", "(IIII)V"⟩) ∈ lw_all := lw_g (lw_at lw_ms 30 rfl) rfl
theorem qs31 : (Cond.selects "LandingTree" ⟨"LandingTree", "spreads", "(IIII)V"⟩ ⟨"LandingTree", "spreads", "(IIII)V"⟩) ∈ lw_all := lw_g (lw_at lw_ms 31 rfl) rfl
theorem qs32 : (Cond.selects "LandingTree" ⟨"LandingTree", "theOne", "()I"⟩ ⟨"LandingTree", "theOne", "()I"⟩) ∈ lw_all := lw_g (lw_at lw_ms 32 rfl) rfl
theorem qs33 : (Cond.selects "LandingTree$Clerk" ⟨"LandingTree$Clerk", "week", "()V"⟩ ⟨"LandingTree$Clerk", "week", "()V"⟩) ∈ lw_all := lw_g (lw_at lw_ms 33 rfl) rfl
theorem qs34 : (Cond.selects "LandingTree$Clerk" ⟨"LandingTree$Clerk", "seesDays", "()Z"⟩ ⟨"LandingTree$Clerk", "seesDays", "()Z"⟩) ∈ lw_all := lw_g (lw_at lw_ms 34 rfl) rfl
theorem qs35 : (Cond.selects "LandingTree$Clerk" ⟨"LandingTree$Clerk", "here", "()I"⟩ ⟨"LandingTree$Clerk", "here", "()I"⟩) ∈ lw_all := lw_g (lw_at lw_ms 35 rfl) rfl
theorem qs36 : (Cond.selects "LandingTree$Clerk" ⟨"LandingTree$Clerk", "seesPerson", "()Z"⟩ ⟨"LandingTree$Clerk", "seesPerson", "()Z"⟩) ∈ lw_all := lw_g (lw_at lw_ms 36 rfl) rfl
theorem qs37 : (Cond.selects "LandingTree$Clerk" ⟨"LandingTree$Clerk", "seesNumber", "()Z"⟩ ⟨"LandingTree$Clerk", "seesNumber", "()Z"⟩) ∈ lw_all := lw_g (lw_at lw_ms 37 rfl) rfl
theorem qs38 : (Cond.selects "LandingTree$Clerk" ⟨"LandingTree$Clerk", "bad", "(II)V"⟩ ⟨"LandingTree$Clerk", "bad", "(II)V"⟩) ∈ lw_all := lw_g (lw_at lw_ms 38 rfl) rfl
theorem qs39 : (Cond.selects "LandingTree$Clerk" ⟨"LandingTree$Clerk", "isGood", "()Z"⟩ ⟨"LandingTree$Clerk", "isGood", "()Z"⟩) ∈ lw_all := lw_g (lw_at lw_ms 39 rfl) rfl
theorem qs40 : (Cond.selects "LandingTree$Clerk" ⟨"LandingTree$Clerk", "days", "(I)V"⟩ ⟨"LandingTree$Clerk", "days", "(I)V"⟩) ∈ lw_all := lw_g (lw_at lw_ms 40 rfl) rfl
theorem qs41 : (Cond.selects "LandingTree" ⟨"LandingTree", "daysOf", "(LLandingTree$Clerk;I)I"⟩ ⟨"LandingTree", "daysOf", "(LLandingTree$Clerk;I)I"⟩) ∈ lw_all := lw_g (lw_at lw_ms 41 rfl) rfl
theorem qs42 : (Cond.selects "LandingTree" ⟨"LandingTree", "isWorth", "(III)Z"⟩ ⟨"LandingTree", "isWorth", "(III)Z"⟩) ∈ lw_all := lw_g (lw_at lw_ms 42 rfl) rfl
theorem qs43 : (Cond.selects "LandingTree" ⟨"LandingTree", "worthOf", "(I)I"⟩ ⟨"LandingTree", "worthOf", "(I)I"⟩) ∈ lw_all := lw_g (lw_at lw_ms 43 rfl) rfl
theorem qs44 : (Cond.selects "LandingTree" ⟨"LandingTree", "costOf", "(I)I"⟩ ⟨"LandingTree", "costOf", "(I)I"⟩) ∈ lw_all := lw_g (lw_at lw_ms 44 rfl) rfl
theorem qs45 : (Cond.selects "LandingTree" ⟨"LandingTree", "gainOf", "(II)I"⟩ ⟨"LandingTree", "gainOf", "(II)I"⟩) ∈ lw_all := lw_g (lw_at lw_ms 45 rfl) rfl
theorem qs46 : (Cond.selects "LandingTree" ⟨"LandingTree", "setsFor", "(IIIII)I"⟩ ⟨"LandingTree", "setsFor", "(IIIII)I"⟩) ∈ lw_all := lw_g (lw_at lw_ms 46 rfl) rfl
theorem qs47 : (Cond.selects "LandingTree" ⟨"LandingTree", "fits", "(IIII)Z"⟩ ⟨"LandingTree", "fits", "(IIII)Z"⟩) ∈ lw_all := lw_g (lw_at lw_ms 47 rfl) rfl
theorem qs48 : (Cond.selects "LandingTree" ⟨"LandingTree", "numberAt", "(I)I"⟩ ⟨"LandingTree", "numberAt", "(I)I"⟩) ∈ lw_all := lw_g (lw_at lw_ms 48 rfl) rfl
theorem qs49 : (Cond.selects "LandingTree" ⟨"LandingTree", "toldPlants", "()I"⟩ ⟨"LandingTree", "toldPlants", "()I"⟩) ∈ lw_all := lw_g (lw_at lw_ms 49 rfl) rfl
theorem qs50 : (Cond.selects "LandingTree" ⟨"LandingTree", "toldPeople", "()I"⟩ ⟨"LandingTree", "toldPeople", "()I"⟩) ∈ lw_all := lw_g (lw_at lw_ms 50 rfl) rfl
theorem qs51 : (Cond.selects "LandingTreeModel" ⟨"LandingTreeModel", "isPlant", "(I)Z"⟩ ⟨"LandingTreeModel", "isPlant", "(I)Z"⟩) ∈ lw_all := lw_g (lw_at lw_ms 51 rfl) rfl
theorem qs52 : (Cond.selects "LandingTreeModel" ⟨"LandingTreeModel", "lives", "(I)Z"⟩ ⟨"LandingTreeModel", "lives", "(I)Z"⟩) ∈ lw_all := lw_g (lw_at lw_ms 52 rfl) rfl
theorem qs53 : (Cond.selects "LandingTreeModel" ⟨"LandingTreeModel", "types", "(I)V"⟩ ⟨"LandingTreeModel", "types", "(I)V"⟩) ∈ lw_all := lw_g (lw_at lw_ms 53 rfl) rfl
theorem qs54 : (Cond.selects "LandingTreeModel" ⟨"LandingTreeModel", "reads", "(II)I"⟩ ⟨"LandingTreeModel", "reads", "(II)I"⟩) ∈ lw_all := lw_g (lw_at lw_ms 54 rfl) rfl
theorem qs55 : (Cond.selects "LandingTreeModel" ⟨"LandingTreeModel", "readsClause", "(I)Z"⟩ ⟨"LandingTreeModel", "readsClause", "(I)Z"⟩) ∈ lw_all := lw_g (lw_at lw_ms 55 rfl) rfl
theorem qs56 : (Cond.selects "LandingTreeModel" ⟨"LandingTreeModel", "here", "()I"⟩ ⟨"LandingTreeModel", "here", "()I"⟩) ∈ lw_all := lw_g (lw_at lw_ms 56 rfl) rfl
theorem qs57 : (Cond.selects "LandingTreeModel" ⟨"LandingTreeModel", "wrongAt", "(II)Z"⟩ ⟨"LandingTreeModel", "wrongAt", "(II)Z"⟩) ∈ lw_all := lw_g (lw_at lw_ms 57 rfl) rfl
theorem qs58 : (Cond.selects "LandingTreeModel" ⟨"LandingTreeModel", "readsSum", "()Z"⟩ ⟨"LandingTreeModel", "readsSum", "()Z"⟩) ∈ lw_all := lw_g (lw_at lw_ms 58 rfl) rfl
theorem qs59 : (Cond.selects "LandingTreeModel" ⟨"LandingTreeModel", "readsFactor", "()Z"⟩ ⟨"LandingTreeModel", "readsFactor", "()Z"⟩) ∈ lw_all := lw_g (lw_at lw_ms 59 rfl) rfl
theorem qs60 : (Cond.selects "LandingTreeModel" ⟨"LandingTreeModel", "opens", "(I)Z"⟩ ⟨"LandingTreeModel", "opens", "(I)Z"⟩) ∈ lw_all := lw_g (lw_at lw_ms 60 rfl) rfl
theorem qs61 : (Cond.selects "LandingTreeModel" ⟨"LandingTreeModel", "isDigit", "()Z"⟩ ⟨"LandingTreeModel", "isDigit", "()Z"⟩) ∈ lw_all := lw_g (lw_at lw_ms 61 rfl) rfl
theorem qs62 : (Cond.selects "LandingTreeModel" ⟨"LandingTreeModel", "readsNumber", "()Z"⟩ ⟨"LandingTreeModel", "readsNumber", "()Z"⟩) ∈ lw_all := lw_g (lw_at lw_ms 62 rfl) rfl
theorem qs63 : (Cond.selects "LandingTreeModel" ⟨"LandingTreeModel", "notes", "(II)V"⟩ ⟨"LandingTreeModel", "notes", "(II)V"⟩) ∈ lw_all := lw_g (lw_at lw_ms 63 rfl) rfl
theorem qs64 : (Cond.selects "LandingTreeModel" ⟨"LandingTreeModel", "closesSums", "(Z)V"⟩ ⟨"LandingTreeModel", "closesSums", "(Z)V"⟩) ∈ lw_all := lw_g (lw_at lw_ms 64 rfl) rfl
theorem qs65 : (Cond.selects "LandingTreeModel" ⟨"LandingTreeModel", "waitTop", "()I"⟩ ⟨"LandingTreeModel", "waitTop", "()I"⟩) ∈ lw_all := lw_g (lw_at lw_ms 65 rfl) rfl
theorem qs66 : (Cond.selects "LandingTreeModel" ⟨"LandingTreeModel", "hasOpenSum", "(I)Z"⟩ ⟨"LandingTreeModel", "hasOpenSum", "(I)Z"⟩) ∈ lw_all := lw_g (lw_at lw_ms 66 rfl) rfl
theorem qs67 : (Cond.selects "LandingTreeModel" ⟨"LandingTreeModel", "readsCondition", "()Z"⟩ ⟨"LandingTreeModel", "readsCondition", "()Z"⟩) ∈ lw_all := lw_g (lw_at lw_ms 67 rfl) rfl
theorem qs68 : (Cond.selects "LandingTreeModel" ⟨"LandingTreeModel", "readsCompared", "()Z"⟩ ⟨"LandingTreeModel", "readsCompared", "()Z"⟩) ∈ lw_all := lw_g (lw_at lw_ms 68 rfl) rfl
theorem qs69 : (Cond.selects "LandingTreeModel" ⟨"LandingTreeModel", "endsPiece", "()V"⟩ ⟨"LandingTreeModel", "endsPiece", "()V"⟩) ∈ lw_all := lw_g (lw_at lw_ms 69 rfl) rfl
theorem qs70 : (Cond.selects "LandingTreeModel" ⟨"LandingTreeModel", "lands", "(Z)V"⟩ ⟨"LandingTreeModel", "lands", "(Z)V"⟩) ∈ lw_all := lw_g (lw_at lw_ms 70 rfl) rfl
theorem qs71 : (Cond.selects "LandingTreeModel" ⟨"LandingTreeModel", "jumps", "(I)V"⟩ ⟨"LandingTreeModel", "jumps", "(I)V"⟩) ∈ lw_all := lw_g (lw_at lw_ms 71 rfl) rfl
theorem qs72 : (Cond.selects "LandingTreeModel" ⟨"LandingTreeModel", "takes", "(I)Z"⟩ ⟨"LandingTreeModel", "takes", "(I)Z"⟩) ∈ lw_all := lw_g (lw_at lw_ms 72 rfl) rfl
theorem qs73 : (Cond.selects "LandingTreeModel" ⟨"LandingTreeModel", "isPerson", "(I)Z"⟩ ⟨"LandingTreeModel", "isPerson", "(I)Z"⟩) ∈ lw_all := lw_g (lw_at lw_ms 73 rfl) rfl
theorem qs74 : (Cond.selects "LandingTreeModel" ⟨"LandingTreeModel", "cupsOf", "(II)I"⟩ ⟨"LandingTreeModel", "cupsOf", "(II)I"⟩) ∈ lw_all := lw_g (lw_at lw_ms 74 rfl) rfl
theorem qs75 : (Cond.selects "LandingTreeModel" ⟨"LandingTreeModel", "feelsPlant", "(I)V"⟩ ⟨"LandingTreeModel", "feelsPlant", "(I)V"⟩) ∈ lw_all := lw_g (lw_at lw_ms 75 rfl) rfl
theorem qs76 : (Cond.selects "LandingTreeModel" ⟨"LandingTreeModel", "feels", "()V"⟩ ⟨"LandingTreeModel", "feels", "()V"⟩) ∈ lw_all := lw_g (lw_at lw_ms 76 rfl) rfl
theorem qs77 : (Cond.selects "LandingTreeModel" ⟨"LandingTreeModel", "byText", "(III)I"⟩ ⟨"LandingTreeModel", "byText", "(III)I"⟩) ∈ lw_all := lw_g (lw_at lw_ms 77 rfl) rfl
theorem qs78 : (Cond.selects "LandingTreeModel" ⟨"LandingTreeModel", "comesTo", "(II)I"⟩ ⟨"LandingTreeModel", "comesTo", "(II)I"⟩) ∈ lw_all := lw_g (lw_at lw_ms 78 rfl) rfl
theorem qs79 : (Cond.selects "LandingTreeModel" ⟨"LandingTreeModel", "daysGo", "(I)V"⟩ ⟨"LandingTreeModel", "daysGo", "(I)V"⟩) ∈ lw_all := lw_g (lw_at lw_ms 79 rfl) rfl
theorem qs80 : (Cond.selects "LandingTreeModel" ⟨"LandingTreeModel", "dayGoes", "()V"⟩ ⟨"LandingTreeModel", "dayGoes", "()V"⟩) ∈ lw_all := lw_g (lw_at lw_ms 80 rfl) rfl
theorem qs81 : (Cond.selects "LandingTreeModel" ⟨"LandingTreeModel", "draws", "()I"⟩ ⟨"LandingTreeModel", "draws", "()I"⟩) ∈ lw_all := lw_g (lw_at lw_ms 81 rfl) rfl
theorem qs82 : (Cond.selects "LandingTreeModel" ⟨"LandingTreeModel", "waters", "(II)V"⟩ ⟨"LandingTreeModel", "waters", "(II)V"⟩) ∈ lw_all := lw_g (lw_at lw_ms 82 rfl) rfl
theorem qs83 : (Cond.selects "LandingTreeModel" ⟨"LandingTreeModel", "dries", "(IZ)V"⟩ ⟨"LandingTreeModel", "dries", "(IZ)V"⟩) ∈ lw_all := lw_g (lw_at lw_ms 83 rfl) rfl
theorem qs84 : (Cond.selects "LandingTreeModel" ⟨"LandingTreeModel", "canGo", "(III)Z"⟩ ⟨"LandingTreeModel", "canGo", "(III)Z"⟩) ∈ lw_all := lw_g (lw_at lw_ms 84 rfl) rfl
theorem qs85 : (Cond.selects "LandingTreeModel" ⟨"LandingTreeModel", "laysSome", "(I)Z"⟩ ⟨"LandingTreeModel", "laysSome", "(I)Z"⟩) ∈ lw_all := lw_g (lw_at lw_ms 85 rfl) rfl
theorem qs86 : (Cond.selects "LandingTreeModel" ⟨"LandingTreeModel", "goesThrough", "(II)J"⟩ ⟨"LandingTreeModel", "goesThrough", "(II)J"⟩) ∈ lw_all := lw_g (lw_at lw_ms 86 rfl) rfl
theorem qs87 : (Cond.selects "LandingTreeModel" ⟨"LandingTreeModel", "comesBy", "(II)V"⟩ ⟨"LandingTreeModel", "comesBy", "(II)V"⟩) ∈ lw_all := lw_g (lw_at lw_ms 87 rfl) rfl
theorem qs88 : (Cond.selects "LandingTreeModel" ⟨"LandingTreeModel", "cupsIn", "(III)I"⟩ ⟨"LandingTreeModel", "cupsIn", "(III)I"⟩) ∈ lw_all := lw_g (lw_at lw_ms 88 rfl) rfl
theorem qs89 : (Cond.selects "LandingTreeModel" ⟨"LandingTreeModel", "feelsState", "(II)V"⟩ ⟨"LandingTreeModel", "feelsState", "(II)V"⟩) ∈ lw_all := lw_g (lw_at lw_ms 89 rfl) rfl
theorem qs90 : (Cond.selects "LandingTreeModel" ⟨"LandingTreeModel", "sunBy", "(IIZ)V"⟩ ⟨"LandingTreeModel", "sunBy", "(IIZ)V"⟩) ∈ lw_all := lw_g (lw_at lw_ms 90 rfl) rfl
theorem qs91 : (Cond.selects "LandingTreeModel" ⟨"LandingTreeModel", "lastsWith", "(II)I"⟩ ⟨"LandingTreeModel", "lastsWith", "(II)I"⟩) ∈ lw_all := lw_g (lw_at lw_ms 91 rfl) rfl
theorem qs92 : (Cond.selects "LandingTreeModel" ⟨"LandingTreeModel", "laysSpread", "(I)I"⟩ ⟨"LandingTreeModel", "laysSpread", "(I)I"⟩) ∈ lw_all := lw_g (lw_at lw_ms 92 rfl) rfl
theorem qs93 : (Cond.selects "LandingTreeModel" ⟨"LandingTreeModel", "mayBe", "(I)Z"⟩ ⟨"LandingTreeModel", "mayBe", "(I)Z"⟩) ∈ lw_all := lw_g (lw_at lw_ms 93 rfl) rfl
theorem qs94 : (Cond.selects "LandingTreeModel" ⟨"LandingTreeModel", "leastBy", "()I"⟩ ⟨"LandingTreeModel", "leastBy", "()I"⟩) ∈ lw_all := lw_g (lw_at lw_ms 94 rfl) rfl
theorem qs95 : (Cond.selects "LandingTreeModel" ⟨"LandingTreeModel", "wetBehind", "(III)I"⟩ ⟨"LandingTreeModel", "wetBehind", "(III)I"⟩) ∈ lw_all := lw_g (lw_at lw_ms 95 rfl) rfl
theorem qs96 : (Cond.selects "LandingTreeModel" ⟨"LandingTreeModel", "areTenths", "(I)Z"⟩ ⟨"LandingTreeModel", "areTenths", "(I)Z"⟩) ∈ lw_all := lw_g (lw_at lw_ms 96 rfl) rfl
theorem qs97 : (Cond.selects "LandingTreeModel" ⟨"LandingTreeModel", "laysComes", "(I)V"⟩ ⟨"LandingTreeModel", "laysComes", "(I)V"⟩) ∈ lw_all := lw_g (lw_at lw_ms 97 rfl) rfl
theorem qs98 : (Cond.selects "LandingTreeModel" ⟨"LandingTreeModel", "readsWeek", "()Z"⟩ ⟨"LandingTreeModel", "readsWeek", "()Z"⟩) ∈ lw_all := lw_g (lw_at lw_ms 98 rfl) rfl
theorem qs99 : (Cond.selects "LandingTreeModel" ⟨"LandingTreeModel", "goesByRota", "(I)V"⟩ ⟨"LandingTreeModel", "goesByRota", "(I)V"⟩) ∈ lw_all := lw_g (lw_at lw_ms 99 rfl) rfl
theorem qs100 : (Cond.selects "LandingTreeModel" ⟨"LandingTreeModel", "laysAlone", "(I)V"⟩ ⟨"LandingTreeModel", "laysAlone", "(I)V"⟩) ∈ lw_all := lw_g (lw_at lw_ms 100 rfl) rfl
theorem qs101 : (Cond.selects "LandingTreeModel" ⟨"LandingTreeModel", "waterBy", "(II)Z"⟩ ⟨"LandingTreeModel", "waterBy", "(II)Z"⟩) ∈ lw_all := lw_g (lw_at lw_ms 101 rfl) rfl
theorem qs102 : (Cond.selects "LandingTreeModel" ⟨"LandingTreeModel", "gainOf", "(II)I"⟩ ⟨"LandingTreeModel", "gainOf", "(II)I"⟩) ∈ lw_all := lw_g (lw_at lw_ms 102 rfl) rfl
theorem qs103 : (Cond.selects "LandingTreeModel" ⟨"LandingTreeModel", "tapeNumber", "(I)I"⟩ ⟨"LandingTreeModel", "tapeNumber", "(I)I"⟩) ∈ lw_all := lw_g (lw_at lw_ms 103 rfl) rfl
