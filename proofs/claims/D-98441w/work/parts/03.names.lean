/-! LandingTree$Asked -/
set_option maxRecDepth 100000
def RX1 : String := "LandingTree$Asked"
abbrev cX1_init : ByteArray := prog_2_method_1_code
def yX1_init : MethodName := ⟨RX1, "<init>", "()V"⟩
theorem dX1_init_0 : decode cX1_init 0 = .ok (.aload_n 0, 1) := by decide +kernel
theorem dX1_init_1 : decode cX1_init 1 = .ok (.invokespecial 1, 3) := by decide +kernel
theorem dX1_init_4 : decode cX1_init 4 = .ok (.return_, 1) := by decide +kernel
theorem q106 : (Jvm.Cond.initialized "LandingTree$Asked") ∈ lw_all := lw_g (lw_at lw_m1 2 rfl) rfl
theorem q144 : (Jvm.Cond.instanceMethod ({ cls := "LandingTree$Asked", name := "<init>", desc := "()V" } : Jvm.MethodName)) ∈ lw_all := lw_g (lw_at lw_m1 40 rfl) rfl
theorem q145 : (Jvm.Cond.code ({ cls := "LandingTree$Asked", name := "<init>", desc := "()V" } : Jvm.MethodName) prog_2_method_1_code (1 : Nat) (Option.none : Option Jvm.ClassFile.FieldType)) ∈ lw_all := lw_g (lw_at lw_m1 41 rfl) rfl
theorem q146 : (Jvm.Cond.methodLink "LandingTree$Asked" (1 : Nat) ({ cls := "java/lang/Object", name := "<init>", desc := "()V" } : Jvm.MethodName)) ∈ lw_all := lw_g (lw_at lw_m1 42 rfl) rfl
theorem q190 : (Jvm.Cond.soleField "LandingTree$Asked" "isRefused") ∈ lw_all := lw_g (lw_at lw_m1 86 rfl) rfl
theorem q851 : (Jvm.Cond.declares ({ cls := "LandingTree$Asked", name := "value", desc := "(I)I" } : Jvm.MethodName)) ∈ lw_tbl := lw_at lw_m4 27 rfl
theorem q852 : (Jvm.Cond.sameMethod "LandingTree$Asked" "LandingTree$Asked" "value" "(I)I") ∈ lw_all := lw_g (lw_at lw_m4 28 rfl) rfl

/-! LandingTree$Moment -/
set_option maxRecDepth 100000
def RX2 : String := "LandingTree$Moment"
def TX2 : u_T := fun k => match k with
  | 0 => ("LandingTree$Asked", "isRefused", "Z", false)
  | 1 => ("LandingTree$Moment", "day", "I", false)
  | 2 => ("LandingTree$Moment", "people", "I", false)
  | 3 => ("LandingTree$Moment", "plant", "I", false)
  | 4 => ("LandingTree$Moment", "pot", "I", false)
  | 5 => ("LandingTree$Moment", "wet", "I", false)
  | 6 => ("LandingTree$Moment", "looked", "I", false)
  | 7 => ("LandingTree$Moment", "dry", "I", false)
  | 8 => ("LandingTree$Moment", "drowned", "I", false)
  | 9 => ("LandingTree$Moment", "person", "I", false)
  | 10 => ("LandingTree$Moment", "tenths", "I", false)
  | 11 => ("LandingTree$Moment", "ago", "I", false)
  | 12 => ("LandingTree$Moment", "given", "I", false)
  | _ => ("LandingTree$Moment", "this$0", "LLandingTree;", true)
def tyX2 : Nat → FieldType := fun k => match k with
  | 0 => .boolean
  | 1 => .int
  | 2 => .int
  | 3 => .int
  | 4 => .int
  | 5 => .int
  | 6 => .int
  | 7 => .int
  | 8 => .int
  | 9 => .int
  | 10 => .int
  | 11 => .int
  | 12 => .int
  | _ => .object "LandingTree"
abbrev wsX20 : List Cond := u_ws RX2 TX2 14
set_option maxRecDepth 100000 in
theorem nmX2 : ∀ a, a < 14 → ∀ b, b < 14 → a ≠ b → (TX2 a).2.1 ≠ (TX2 b).2.1 := by decide +kernel
set_option maxRecDepth 100000 in
theorem tyX2_ok : ∀ k, k < 14 → parseFieldDescriptor (TX2 k).2.2.1 = some (tyX2 k) := by decide +kernel
abbrev cX2_init : ByteArray := prog_8_method_1_code
def yX2_init : MethodName := ⟨RX2, "<init>", "(LLandingTree;)V"⟩
def dkwX2_init_0 : List UInt8 := [42, 43, 181, 0, 3, 42, 183, 0, 9, 177]
abbrev dktX2_init_0 : List UInt8 := dkwX2_init_0 ++ []
theorem dksX2_init_0 : cX2_init.data.toList.drop 0 = dktX2_init_0 := by decide +kernel
theorem dX2_init_0 : decode cX2_init 0 = .ok (.aload_n 0, 1) := dk_42 (dk_at dksX2_init_0 0 rfl rfl)
theorem dX2_init_1 : decode cX2_init 1 = .ok (.aload_n 1, 1) := dk_43 (dk_at dksX2_init_0 1 rfl rfl)
theorem dX2_init_2 : decode cX2_init 2 = .ok (.putfield 3, 3) := dk_181 0 3 (dk_at dksX2_init_0 2 rfl rfl)
theorem dX2_init_5 : decode cX2_init 5 = .ok (.aload_n 0, 1) := dk_42 (dk_at dksX2_init_0 5 rfl rfl)
theorem dX2_init_6 : decode cX2_init 6 = .ok (.invokespecial 9, 3) := dk_183 0 9 (dk_at dksX2_init_0 6 rfl rfl)
theorem dX2_init_9 : decode cX2_init 9 = .ok (.return_, 1) := dk_177 (dk_at dksX2_init_0 9 rfl rfl)
abbrev cX2_of : ByteArray := prog_8_method_2_code
def yX2_of : MethodName := ⟨RX2, "of", "(II)LLandingTree$Moment;"⟩
def dkwX2_of_2 : List UInt8 := [3, 181, 0, 43, 42, 3, 181, 0, 46, 42, 3, 181, 0, 49, 42, 176]
abbrev dktX2_of_2 : List UInt8 := dkwX2_of_2 ++ []
def dkwX2_of_1 : List UInt8 := [181, 0, 28, 42, 3, 181, 0, 31, 42, 3, 181, 0, 34, 42, 3, 181, 0, 37, 42, 3, 181, 0, 40, 42]
abbrev dktX2_of_1 : List UInt8 := dkwX2_of_1 ++ dktX2_of_2
def dkwX2_of_0 : List UInt8 := [42, 27, 181, 0, 15, 42, 28, 181, 0, 19, 42, 3, 181, 0, 22, 42, 3, 181, 0, 25, 42, 3]
abbrev dktX2_of_0 : List UInt8 := dkwX2_of_0 ++ dktX2_of_1
theorem dksX2_of_0 : cX2_of.data.toList.drop 0 = dktX2_of_0 := by decide +kernel
theorem dksX2_of_1 : cX2_of.data.toList.drop 22 = dktX2_of_1 := dk_seg dksX2_of_0 22 rfl rfl
theorem dksX2_of_2 : cX2_of.data.toList.drop 46 = dktX2_of_2 := dk_seg dksX2_of_1 24 rfl rfl
theorem dX2_of_0 : decode cX2_of 0 = .ok (.aload_n 0, 1) := dk_42 (dk_at dksX2_of_0 0 rfl rfl)
theorem dX2_of_1 : decode cX2_of 1 = .ok (.iload_n 1, 1) := dk_27 (dk_at dksX2_of_0 1 rfl rfl)
theorem dX2_of_2 : decode cX2_of 2 = .ok (.putfield 15, 3) := dk_181 0 15 (dk_at dksX2_of_0 2 rfl rfl)
theorem dX2_of_5 : decode cX2_of 5 = .ok (.aload_n 0, 1) := dk_42 (dk_at dksX2_of_0 5 rfl rfl)
theorem dX2_of_6 : decode cX2_of 6 = .ok (.iload_n 2, 1) := dk_28 (dk_at dksX2_of_0 6 rfl rfl)
theorem dX2_of_7 : decode cX2_of 7 = .ok (.putfield 19, 3) := dk_181 0 19 (dk_at dksX2_of_0 7 rfl rfl)
theorem dX2_of_10 : decode cX2_of 10 = .ok (.aload_n 0, 1) := dk_42 (dk_at dksX2_of_0 10 rfl rfl)
theorem dX2_of_11 : decode cX2_of 11 = .ok (.iconst 0, 1) := dk_3 (dk_at dksX2_of_0 11 rfl rfl)
theorem dX2_of_12 : decode cX2_of 12 = .ok (.putfield 22, 3) := dk_181 0 22 (dk_at dksX2_of_0 12 rfl rfl)
theorem dX2_of_15 : decode cX2_of 15 = .ok (.aload_n 0, 1) := dk_42 (dk_at dksX2_of_0 15 rfl rfl)
theorem dX2_of_16 : decode cX2_of 16 = .ok (.iconst 0, 1) := dk_3 (dk_at dksX2_of_0 16 rfl rfl)
theorem dX2_of_17 : decode cX2_of 17 = .ok (.putfield 25, 3) := dk_181 0 25 (dk_at dksX2_of_0 17 rfl rfl)
theorem dX2_of_20 : decode cX2_of 20 = .ok (.aload_n 0, 1) := dk_42 (dk_at dksX2_of_0 20 rfl rfl)
theorem dX2_of_21 : decode cX2_of 21 = .ok (.iconst 0, 1) := dk_3 (dk_at dksX2_of_0 21 rfl rfl)
theorem dX2_of_22 : decode cX2_of 22 = .ok (.putfield 28, 3) := dk_181 0 28 (dk_at dksX2_of_1 0 rfl rfl)
theorem dX2_of_25 : decode cX2_of 25 = .ok (.aload_n 0, 1) := dk_42 (dk_at dksX2_of_1 3 rfl rfl)
theorem dX2_of_26 : decode cX2_of 26 = .ok (.iconst 0, 1) := dk_3 (dk_at dksX2_of_1 4 rfl rfl)
theorem dX2_of_27 : decode cX2_of 27 = .ok (.putfield 31, 3) := dk_181 0 31 (dk_at dksX2_of_1 5 rfl rfl)
theorem dX2_of_30 : decode cX2_of 30 = .ok (.aload_n 0, 1) := dk_42 (dk_at dksX2_of_1 8 rfl rfl)
theorem dX2_of_31 : decode cX2_of 31 = .ok (.iconst 0, 1) := dk_3 (dk_at dksX2_of_1 9 rfl rfl)
theorem dX2_of_32 : decode cX2_of 32 = .ok (.putfield 34, 3) := dk_181 0 34 (dk_at dksX2_of_1 10 rfl rfl)
theorem dX2_of_35 : decode cX2_of 35 = .ok (.aload_n 0, 1) := dk_42 (dk_at dksX2_of_1 13 rfl rfl)
theorem dX2_of_36 : decode cX2_of 36 = .ok (.iconst 0, 1) := dk_3 (dk_at dksX2_of_1 14 rfl rfl)
theorem dX2_of_37 : decode cX2_of 37 = .ok (.putfield 37, 3) := dk_181 0 37 (dk_at dksX2_of_1 15 rfl rfl)
theorem dX2_of_40 : decode cX2_of 40 = .ok (.aload_n 0, 1) := dk_42 (dk_at dksX2_of_1 18 rfl rfl)
theorem dX2_of_41 : decode cX2_of 41 = .ok (.iconst 0, 1) := dk_3 (dk_at dksX2_of_1 19 rfl rfl)
theorem dX2_of_42 : decode cX2_of 42 = .ok (.putfield 40, 3) := dk_181 0 40 (dk_at dksX2_of_1 20 rfl rfl)
theorem dX2_of_45 : decode cX2_of 45 = .ok (.aload_n 0, 1) := dk_42 (dk_at dksX2_of_1 23 rfl rfl)
theorem dX2_of_46 : decode cX2_of 46 = .ok (.iconst 0, 1) := dk_3 (dk_at dksX2_of_2 0 rfl rfl)
theorem dX2_of_47 : decode cX2_of 47 = .ok (.putfield 43, 3) := dk_181 0 43 (dk_at dksX2_of_2 1 rfl rfl)
theorem dX2_of_50 : decode cX2_of 50 = .ok (.aload_n 0, 1) := dk_42 (dk_at dksX2_of_2 4 rfl rfl)
theorem dX2_of_51 : decode cX2_of 51 = .ok (.iconst 0, 1) := dk_3 (dk_at dksX2_of_2 5 rfl rfl)
theorem dX2_of_52 : decode cX2_of 52 = .ok (.putfield 46, 3) := dk_181 0 46 (dk_at dksX2_of_2 6 rfl rfl)
theorem dX2_of_55 : decode cX2_of 55 = .ok (.aload_n 0, 1) := dk_42 (dk_at dksX2_of_2 9 rfl rfl)
theorem dX2_of_56 : decode cX2_of 56 = .ok (.iconst 0, 1) := dk_3 (dk_at dksX2_of_2 10 rfl rfl)
theorem dX2_of_57 : decode cX2_of 57 = .ok (.putfield 49, 3) := dk_181 0 49 (dk_at dksX2_of_2 11 rfl rfl)
theorem dX2_of_60 : decode cX2_of 60 = .ok (.aload_n 0, 1) := dk_42 (dk_at dksX2_of_2 14 rfl rfl)
theorem dX2_of_61 : decode cX2_of 61 = .ok (.areturn, 1) := dk_176 (dk_at dksX2_of_2 15 rfl rfl)
abbrev cX2_ofPlant : ByteArray := prog_8_method_3_code
def yX2_ofPlant : MethodName := ⟨RX2, "ofPlant", "(IIIIIII)LLandingTree$Moment;"⟩
def dkwX2_ofPlant_1 : List UInt8 := [181, 0, 34, 42, 21, 6, 181, 0, 37, 42, 21, 7, 181, 0, 46, 42, 176]
abbrev dktX2_ofPlant_1 : List UInt8 := dkwX2_ofPlant_1 ++ []
def dkwX2_ofPlant_0 : List UInt8 := [42, 27, 181, 0, 22, 42, 28, 181, 0, 25, 42, 29, 181, 0, 28, 42, 21, 4, 181, 0, 31, 42, 21, 5]
abbrev dktX2_ofPlant_0 : List UInt8 := dkwX2_ofPlant_0 ++ dktX2_ofPlant_1
theorem dksX2_ofPlant_0 : cX2_ofPlant.data.toList.drop 0 = dktX2_ofPlant_0 := by decide +kernel
theorem dksX2_ofPlant_1 : cX2_ofPlant.data.toList.drop 24 = dktX2_ofPlant_1 := dk_seg dksX2_ofPlant_0 24 rfl rfl
theorem dX2_ofPlant_0 : decode cX2_ofPlant 0 = .ok (.aload_n 0, 1) := dk_42 (dk_at dksX2_ofPlant_0 0 rfl rfl)
theorem dX2_ofPlant_1 : decode cX2_ofPlant 1 = .ok (.iload_n 1, 1) := dk_27 (dk_at dksX2_ofPlant_0 1 rfl rfl)
theorem dX2_ofPlant_2 : decode cX2_ofPlant 2 = .ok (.putfield 22, 3) := dk_181 0 22 (dk_at dksX2_ofPlant_0 2 rfl rfl)
theorem dX2_ofPlant_5 : decode cX2_ofPlant 5 = .ok (.aload_n 0, 1) := dk_42 (dk_at dksX2_ofPlant_0 5 rfl rfl)
theorem dX2_ofPlant_6 : decode cX2_ofPlant 6 = .ok (.iload_n 2, 1) := dk_28 (dk_at dksX2_ofPlant_0 6 rfl rfl)
theorem dX2_ofPlant_7 : decode cX2_ofPlant 7 = .ok (.putfield 25, 3) := dk_181 0 25 (dk_at dksX2_ofPlant_0 7 rfl rfl)
theorem dX2_ofPlant_10 : decode cX2_ofPlant 10 = .ok (.aload_n 0, 1) := dk_42 (dk_at dksX2_ofPlant_0 10 rfl rfl)
theorem dX2_ofPlant_11 : decode cX2_ofPlant 11 = .ok (.iload_n 3, 1) := dk_29 (dk_at dksX2_ofPlant_0 11 rfl rfl)
theorem dX2_ofPlant_12 : decode cX2_ofPlant 12 = .ok (.putfield 28, 3) := dk_181 0 28 (dk_at dksX2_ofPlant_0 12 rfl rfl)
theorem dX2_ofPlant_15 : decode cX2_ofPlant 15 = .ok (.aload_n 0, 1) := dk_42 (dk_at dksX2_ofPlant_0 15 rfl rfl)
theorem dX2_ofPlant_16 : decode cX2_ofPlant 16 = .ok (.iload 4, 2) := dk_21 4 (dk_at dksX2_ofPlant_0 16 rfl rfl)
theorem dX2_ofPlant_18 : decode cX2_ofPlant 18 = .ok (.putfield 31, 3) := dk_181 0 31 (dk_at dksX2_ofPlant_0 18 rfl rfl)
theorem dX2_ofPlant_21 : decode cX2_ofPlant 21 = .ok (.aload_n 0, 1) := dk_42 (dk_at dksX2_ofPlant_0 21 rfl rfl)
theorem dX2_ofPlant_22 : decode cX2_ofPlant 22 = .ok (.iload 5, 2) := dk_21 5 (dk_at dksX2_ofPlant_0 22 rfl rfl)
theorem dX2_ofPlant_24 : decode cX2_ofPlant 24 = .ok (.putfield 34, 3) := dk_181 0 34 (dk_at dksX2_ofPlant_1 0 rfl rfl)
theorem dX2_ofPlant_27 : decode cX2_ofPlant 27 = .ok (.aload_n 0, 1) := dk_42 (dk_at dksX2_ofPlant_1 3 rfl rfl)
theorem dX2_ofPlant_28 : decode cX2_ofPlant 28 = .ok (.iload 6, 2) := dk_21 6 (dk_at dksX2_ofPlant_1 4 rfl rfl)
theorem dX2_ofPlant_30 : decode cX2_ofPlant 30 = .ok (.putfield 37, 3) := dk_181 0 37 (dk_at dksX2_ofPlant_1 6 rfl rfl)
theorem dX2_ofPlant_33 : decode cX2_ofPlant 33 = .ok (.aload_n 0, 1) := dk_42 (dk_at dksX2_ofPlant_1 9 rfl rfl)
theorem dX2_ofPlant_34 : decode cX2_ofPlant 34 = .ok (.iload 7, 2) := dk_21 7 (dk_at dksX2_ofPlant_1 10 rfl rfl)
theorem dX2_ofPlant_36 : decode cX2_ofPlant 36 = .ok (.putfield 46, 3) := dk_181 0 46 (dk_at dksX2_ofPlant_1 12 rfl rfl)
theorem dX2_ofPlant_39 : decode cX2_ofPlant 39 = .ok (.aload_n 0, 1) := dk_42 (dk_at dksX2_ofPlant_1 15 rfl rfl)
theorem dX2_ofPlant_40 : decode cX2_ofPlant 40 = .ok (.areturn, 1) := dk_176 (dk_at dksX2_ofPlant_1 16 rfl rfl)
abbrev cX2_by : ByteArray := prog_8_method_4_code
def yX2_by : MethodName := ⟨RX2, "by", "(III)LLandingTree$Moment;"⟩
def dkwX2_by_0 : List UInt8 := [42, 27, 181, 0, 40, 42, 28, 181, 0, 43, 42, 29, 181, 0, 49, 42, 176]
abbrev dktX2_by_0 : List UInt8 := dkwX2_by_0 ++ []
theorem dksX2_by_0 : cX2_by.data.toList.drop 0 = dktX2_by_0 := by decide +kernel
theorem dX2_by_0 : decode cX2_by 0 = .ok (.aload_n 0, 1) := dk_42 (dk_at dksX2_by_0 0 rfl rfl)
theorem dX2_by_1 : decode cX2_by 1 = .ok (.iload_n 1, 1) := dk_27 (dk_at dksX2_by_0 1 rfl rfl)
theorem dX2_by_2 : decode cX2_by 2 = .ok (.putfield 40, 3) := dk_181 0 40 (dk_at dksX2_by_0 2 rfl rfl)
theorem dX2_by_5 : decode cX2_by 5 = .ok (.aload_n 0, 1) := dk_42 (dk_at dksX2_by_0 5 rfl rfl)
theorem dX2_by_6 : decode cX2_by 6 = .ok (.iload_n 2, 1) := dk_28 (dk_at dksX2_by_0 6 rfl rfl)
theorem dX2_by_7 : decode cX2_by 7 = .ok (.putfield 43, 3) := dk_181 0 43 (dk_at dksX2_by_0 7 rfl rfl)
theorem dX2_by_10 : decode cX2_by 10 = .ok (.aload_n 0, 1) := dk_42 (dk_at dksX2_by_0 10 rfl rfl)
theorem dX2_by_11 : decode cX2_by 11 = .ok (.iload_n 3, 1) := dk_29 (dk_at dksX2_by_0 11 rfl rfl)
theorem dX2_by_12 : decode cX2_by 12 = .ok (.putfield 49, 3) := dk_181 0 49 (dk_at dksX2_by_0 12 rfl rfl)
theorem dX2_by_15 : decode cX2_by 15 = .ok (.aload_n 0, 1) := dk_42 (dk_at dksX2_by_0 15 rfl rfl)
theorem dX2_by_16 : decode cX2_by 16 = .ok (.areturn, 1) := dk_176 (dk_at dksX2_by_0 16 rfl rfl)
abbrev cX2_givesBy : ByteArray := prog_8_method_7_code
def yX2_givesBy : MethodName := ⟨RX2, "givesBy", "(I)I"⟩
def dkwX2_givesBy_1 : List UInt8 := [50, 16, 103, 42, 182, 0, 56, 16, 9, 184, 0, 62, 172]
abbrev dktX2_givesBy_1 : List UInt8 := dkwX2_givesBy_1 ++ []
def dkwX2_givesBy_0 : List UInt8 := [42, 180, 0, 3, 180, 0, 66, 27, 50, 199, 0, 7, 3, 167, 0, 23, 42, 180, 0, 3, 180, 0, 66, 27]
abbrev dktX2_givesBy_0 : List UInt8 := dkwX2_givesBy_0 ++ dktX2_givesBy_1
theorem dksX2_givesBy_0 : cX2_givesBy.data.toList.drop 0 = dktX2_givesBy_0 := by decide +kernel
theorem dksX2_givesBy_1 : cX2_givesBy.data.toList.drop 24 = dktX2_givesBy_1 := dk_seg dksX2_givesBy_0 24 rfl rfl
theorem dX2_givesBy_0 : decode cX2_givesBy 0 = .ok (.aload_n 0, 1) := dk_42 (dk_at dksX2_givesBy_0 0 rfl rfl)
theorem dX2_givesBy_1 : decode cX2_givesBy 1 = .ok (.getfield 3, 3) := dk_180 0 3 (dk_at dksX2_givesBy_0 1 rfl rfl)
theorem dX2_givesBy_4 : decode cX2_givesBy 4 = .ok (.getfield 66, 3) := dk_180 0 66 (dk_at dksX2_givesBy_0 4 rfl rfl)
theorem dX2_givesBy_7 : decode cX2_givesBy 7 = .ok (.iload_n 1, 1) := dk_27 (dk_at dksX2_givesBy_0 7 rfl rfl)
theorem dX2_givesBy_8 : decode cX2_givesBy 8 = .ok (.aaload, 1) := dk_50 (dk_at dksX2_givesBy_0 8 rfl rfl)
theorem dX2_givesBy_9 : decode cX2_givesBy 9 = .ok (.ifnonnull 7, 3) := dk_199 0 7 (dk_at dksX2_givesBy_0 9 rfl rfl)
theorem dX2_givesBy_12 : decode cX2_givesBy 12 = .ok (.iconst 0, 1) := dk_3 (dk_at dksX2_givesBy_0 12 rfl rfl)
theorem dX2_givesBy_13 : decode cX2_givesBy 13 = .ok (.goto 23, 3) := dk_167 0 23 (dk_at dksX2_givesBy_0 13 rfl rfl)
theorem dX2_givesBy_16 : decode cX2_givesBy 16 = .ok (.aload_n 0, 1) := dk_42 (dk_at dksX2_givesBy_0 16 rfl rfl)
theorem dX2_givesBy_17 : decode cX2_givesBy 17 = .ok (.getfield 3, 3) := dk_180 0 3 (dk_at dksX2_givesBy_0 17 rfl rfl)
theorem dX2_givesBy_20 : decode cX2_givesBy 20 = .ok (.getfield 66, 3) := dk_180 0 66 (dk_at dksX2_givesBy_0 20 rfl rfl)
theorem dX2_givesBy_23 : decode cX2_givesBy 23 = .ok (.iload_n 1, 1) := dk_27 (dk_at dksX2_givesBy_0 23 rfl rfl)
theorem dX2_givesBy_24 : decode cX2_givesBy 24 = .ok (.aaload, 1) := dk_50 (dk_at dksX2_givesBy_1 0 rfl rfl)
theorem dX2_givesBy_25 : decode cX2_givesBy 25 = .ok (.bipush 103, 2) := dk_16 103 (dk_at dksX2_givesBy_1 1 rfl rfl)
theorem dX2_givesBy_27 : decode cX2_givesBy 27 = .ok (.aload_n 0, 1) := dk_42 (dk_at dksX2_givesBy_1 3 rfl rfl)
theorem dX2_givesBy_28 : decode cX2_givesBy 28 = .ok (.invokevirtual 56, 3) := dk_182 0 56 (dk_at dksX2_givesBy_1 4 rfl rfl)
theorem dX2_givesBy_31 : decode cX2_givesBy 31 = .ok (.bipush 9, 2) := dk_16 9 (dk_at dksX2_givesBy_1 7 rfl rfl)
theorem dX2_givesBy_33 : decode cX2_givesBy 33 = .ok (.invokestatic 62, 3) := dk_184 0 62 (dk_at dksX2_givesBy_1 9 rfl rfl)
theorem dX2_givesBy_36 : decode cX2_givesBy 36 = .ok (.ireturn, 1) := dk_172 (dk_at dksX2_givesBy_1 12 rfl rfl)
abbrev cX2_value : ByteArray := prog_8_method_5_code
def yX2_value : MethodName := ⟨RX2, "value", "(I)I"⟩
def dkwX2_value_4 : List UInt8 := [42, 180, 0, 43, 172, 42, 180, 0, 19, 172, 42, 180, 0, 46, 172, 42, 180, 0, 49, 172]
abbrev dktX2_value_4 : List UInt8 := dkwX2_value_4 ++ []
def dkwX2_value_3 : List UInt8 := [180, 0, 28, 172, 42, 180, 0, 31, 172, 42, 180, 0, 34, 172, 42, 180, 0, 37, 172, 42, 180, 0, 40, 172]
abbrev dktX2_value_3 : List UInt8 := dkwX2_value_3 ++ dktX2_value_4
def dkwX2_value_2 : List UInt8 := [42, 180, 0, 15, 172, 42, 180, 0, 15, 16, 7, 112, 172, 42, 180, 0, 22, 172, 42, 180, 0, 25, 172, 42]
abbrev dktX2_value_2 : List UInt8 := dkwX2_value_2 ++ dktX2_value_3
def dkwX2_value_1 : List UInt8 := [170, 0, 0, 0, 0, 0, 182, 0, 0, 0, 97, 0, 0, 0, 122, 0, 0, 0, 177, 0, 0, 0, 182, 0, 0, 0, 182, 0, 0, 0, 119, 0, 0, 0, 182, 0, 0, 0, 142, 0, 0, 0, 182, 0, 0, 0, 182, 0, 0, 0, 182, 0, 0, 0, 182, 0, 0, 0, 182, 0, 0, 0, 132, 0, 0, 0, 182, 0, 0, 0, 172, 0, 0, 0, 137, 0, 0, 0, 162, 0, 0, 0, 182, 0, 0, 0, 182, 0, 0, 0, 147, 0, 0, 0, 167, 0, 0, 0, 182, 0, 0, 0, 182, 0, 0, 0, 124, 0, 0, 0, 182, 0, 0, 0, 152, 0, 0, 0, 157]
abbrev dktX2_value_1 : List UInt8 := dkwX2_value_1 ++ dktX2_value_2
def dkwX2_value_0 : List UInt8 := [27]
abbrev dktX2_value_0 : List UInt8 := dkwX2_value_0 ++ dktX2_value_1
theorem dksX2_value_0 : cX2_value.data.toList.drop 0 = dktX2_value_0 := by decide +kernel
theorem dksX2_value_1 : cX2_value.data.toList.drop 1 = dktX2_value_1 := dk_seg dksX2_value_0 1 rfl rfl
theorem dksX2_value_2 : cX2_value.data.toList.drop 120 = dktX2_value_2 := dk_seg dksX2_value_1 119 rfl rfl
theorem dksX2_value_3 : cX2_value.data.toList.drop 144 = dktX2_value_3 := dk_seg dksX2_value_2 24 rfl rfl
theorem dksX2_value_4 : cX2_value.data.toList.drop 168 = dktX2_value_4 := dk_seg dksX2_value_3 24 rfl rfl
theorem dX2_value_0 : decode cX2_value 0 = .ok (.iload_n 1, 1) := dk_27 (dk_at dksX2_value_0 0 rfl rfl)
theorem dX2_value_1 : decode cX2_value 1 = .ok (.tableswitch 182 97 122 #[177, 182, 182, 119, 182, 142, 182, 182, 182, 182, 182, 132, 182, 172, 137, 162, 182, 182, 147, 167, 182, 182, 124, 182, 152, 157], 119) := by decide +kernel
theorem dX2_value_120 : decode cX2_value 120 = .ok (.aload_n 0, 1) := dk_42 (dk_at dksX2_value_2 0 rfl rfl)
theorem dX2_value_121 : decode cX2_value 121 = .ok (.getfield 15, 3) := dk_180 0 15 (dk_at dksX2_value_2 1 rfl rfl)
theorem dX2_value_124 : decode cX2_value 124 = .ok (.ireturn, 1) := dk_172 (dk_at dksX2_value_2 4 rfl rfl)
theorem dX2_value_125 : decode cX2_value 125 = .ok (.aload_n 0, 1) := dk_42 (dk_at dksX2_value_2 5 rfl rfl)
theorem dX2_value_126 : decode cX2_value 126 = .ok (.getfield 15, 3) := dk_180 0 15 (dk_at dksX2_value_2 6 rfl rfl)
theorem dX2_value_129 : decode cX2_value 129 = .ok (.bipush 7, 2) := dk_16 7 (dk_at dksX2_value_2 9 rfl rfl)
theorem dX2_value_131 : decode cX2_value 131 = .ok (.irem, 1) := dk_112 (dk_at dksX2_value_2 11 rfl rfl)
theorem dX2_value_132 : decode cX2_value 132 = .ok (.ireturn, 1) := dk_172 (dk_at dksX2_value_2 12 rfl rfl)
theorem dX2_value_133 : decode cX2_value 133 = .ok (.aload_n 0, 1) := dk_42 (dk_at dksX2_value_2 13 rfl rfl)
theorem dX2_value_134 : decode cX2_value 134 = .ok (.getfield 22, 3) := dk_180 0 22 (dk_at dksX2_value_2 14 rfl rfl)
theorem dX2_value_137 : decode cX2_value 137 = .ok (.ireturn, 1) := dk_172 (dk_at dksX2_value_2 17 rfl rfl)
theorem dX2_value_138 : decode cX2_value 138 = .ok (.aload_n 0, 1) := dk_42 (dk_at dksX2_value_2 18 rfl rfl)
theorem dX2_value_139 : decode cX2_value 139 = .ok (.getfield 25, 3) := dk_180 0 25 (dk_at dksX2_value_2 19 rfl rfl)
theorem dX2_value_142 : decode cX2_value 142 = .ok (.ireturn, 1) := dk_172 (dk_at dksX2_value_2 22 rfl rfl)
theorem dX2_value_143 : decode cX2_value 143 = .ok (.aload_n 0, 1) := dk_42 (dk_at dksX2_value_2 23 rfl rfl)
theorem dX2_value_144 : decode cX2_value 144 = .ok (.getfield 28, 3) := dk_180 0 28 (dk_at dksX2_value_3 0 rfl rfl)
theorem dX2_value_147 : decode cX2_value 147 = .ok (.ireturn, 1) := dk_172 (dk_at dksX2_value_3 3 rfl rfl)
theorem dX2_value_148 : decode cX2_value 148 = .ok (.aload_n 0, 1) := dk_42 (dk_at dksX2_value_3 4 rfl rfl)
theorem dX2_value_149 : decode cX2_value 149 = .ok (.getfield 31, 3) := dk_180 0 31 (dk_at dksX2_value_3 5 rfl rfl)
theorem dX2_value_152 : decode cX2_value 152 = .ok (.ireturn, 1) := dk_172 (dk_at dksX2_value_3 8 rfl rfl)
theorem dX2_value_153 : decode cX2_value 153 = .ok (.aload_n 0, 1) := dk_42 (dk_at dksX2_value_3 9 rfl rfl)
theorem dX2_value_154 : decode cX2_value 154 = .ok (.getfield 34, 3) := dk_180 0 34 (dk_at dksX2_value_3 10 rfl rfl)
theorem dX2_value_157 : decode cX2_value 157 = .ok (.ireturn, 1) := dk_172 (dk_at dksX2_value_3 13 rfl rfl)
theorem dX2_value_158 : decode cX2_value 158 = .ok (.aload_n 0, 1) := dk_42 (dk_at dksX2_value_3 14 rfl rfl)
theorem dX2_value_159 : decode cX2_value 159 = .ok (.getfield 37, 3) := dk_180 0 37 (dk_at dksX2_value_3 15 rfl rfl)
theorem dX2_value_162 : decode cX2_value 162 = .ok (.ireturn, 1) := dk_172 (dk_at dksX2_value_3 18 rfl rfl)
theorem dX2_value_163 : decode cX2_value 163 = .ok (.aload_n 0, 1) := dk_42 (dk_at dksX2_value_3 19 rfl rfl)
theorem dX2_value_164 : decode cX2_value 164 = .ok (.getfield 40, 3) := dk_180 0 40 (dk_at dksX2_value_3 20 rfl rfl)
theorem dX2_value_167 : decode cX2_value 167 = .ok (.ireturn, 1) := dk_172 (dk_at dksX2_value_3 23 rfl rfl)
theorem dX2_value_168 : decode cX2_value 168 = .ok (.aload_n 0, 1) := dk_42 (dk_at dksX2_value_4 0 rfl rfl)
theorem dX2_value_169 : decode cX2_value 169 = .ok (.getfield 43, 3) := dk_180 0 43 (dk_at dksX2_value_4 1 rfl rfl)
theorem dX2_value_172 : decode cX2_value 172 = .ok (.ireturn, 1) := dk_172 (dk_at dksX2_value_4 4 rfl rfl)
theorem dX2_value_173 : decode cX2_value 173 = .ok (.aload_n 0, 1) := dk_42 (dk_at dksX2_value_4 5 rfl rfl)
theorem dX2_value_174 : decode cX2_value 174 = .ok (.getfield 19, 3) := dk_180 0 19 (dk_at dksX2_value_4 6 rfl rfl)
theorem dX2_value_177 : decode cX2_value 177 = .ok (.ireturn, 1) := dk_172 (dk_at dksX2_value_4 9 rfl rfl)
theorem dX2_value_178 : decode cX2_value 178 = .ok (.aload_n 0, 1) := dk_42 (dk_at dksX2_value_4 10 rfl rfl)
theorem dX2_value_179 : decode cX2_value 179 = .ok (.getfield 46, 3) := dk_180 0 46 (dk_at dksX2_value_4 11 rfl rfl)
theorem dX2_value_182 : decode cX2_value 182 = .ok (.ireturn, 1) := dk_172 (dk_at dksX2_value_4 14 rfl rfl)
theorem dX2_value_183 : decode cX2_value 183 = .ok (.aload_n 0, 1) := dk_42 (dk_at dksX2_value_4 15 rfl rfl)
theorem dX2_value_184 : decode cX2_value 184 = .ok (.getfield 49, 3) := dk_180 0 49 (dk_at dksX2_value_4 16 rfl rfl)
theorem dX2_value_187 : decode cX2_value 187 = .ok (.ireturn, 1) := dk_172 (dk_at dksX2_value_4 19 rfl rfl)
abbrev cX2_tells : ByteArray := prog_8_method_6_code
def yX2_tells : MethodName := ⟨RX2, "tells", "(II)I"⟩
def dkwX2_tells_0 : List UInt8 := [42, 180, 0, 3, 180, 0, 52, 27, 42, 182, 0, 56, 28, 184, 0, 62, 172]
abbrev dktX2_tells_0 : List UInt8 := dkwX2_tells_0 ++ []
theorem dksX2_tells_0 : cX2_tells.data.toList.drop 0 = dktX2_tells_0 := by decide +kernel
theorem dX2_tells_0 : decode cX2_tells 0 = .ok (.aload_n 0, 1) := dk_42 (dk_at dksX2_tells_0 0 rfl rfl)
theorem dX2_tells_1 : decode cX2_tells 1 = .ok (.getfield 3, 3) := dk_180 0 3 (dk_at dksX2_tells_0 1 rfl rfl)
theorem dX2_tells_4 : decode cX2_tells 4 = .ok (.getfield 52, 3) := dk_180 0 52 (dk_at dksX2_tells_0 4 rfl rfl)
theorem dX2_tells_7 : decode cX2_tells 7 = .ok (.iload_n 1, 1) := dk_27 (dk_at dksX2_tells_0 7 rfl rfl)
theorem dX2_tells_8 : decode cX2_tells 8 = .ok (.aload_n 0, 1) := dk_42 (dk_at dksX2_tells_0 8 rfl rfl)
theorem dX2_tells_9 : decode cX2_tells 9 = .ok (.invokevirtual 56, 3) := dk_182 0 56 (dk_at dksX2_tells_0 9 rfl rfl)
theorem dX2_tells_12 : decode cX2_tells 12 = .ok (.iload_n 2, 1) := dk_28 (dk_at dksX2_tells_0 12 rfl rfl)
theorem dX2_tells_13 : decode cX2_tells 13 = .ok (.invokestatic 62, 3) := dk_184 0 62 (dk_at dksX2_tells_0 13 rfl rfl)
theorem dX2_tells_16 : decode cX2_tells 16 = .ok (.ireturn, 1) := dk_172 (dk_at dksX2_tells_0 16 rfl rfl)
theorem q107 : (Jvm.Cond.initialized "LandingTree$Moment") ∈ lw_all := lw_g (lw_at lw_m1 3 rfl) rfl
theorem q139 : (Jvm.Cond.instantiable "LandingTree$Moment" (14 : Nat)) ∈ lw_all := lw_g (lw_at lw_m1 35 rfl) rfl
theorem q141 : (Jvm.Cond.instanceMethod ({ cls := "LandingTree$Moment", name := "<init>", desc := "(LLandingTree;)V" } : Jvm.MethodName)) ∈ lw_all := lw_g (lw_at lw_m1 37 rfl) rfl
theorem q142 : (Jvm.Cond.code ({ cls := "LandingTree$Moment", name := "<init>", desc := "(LLandingTree;)V" } : Jvm.MethodName) prog_8_method_1_code (2 : Nat) (Option.none : Option Jvm.ClassFile.FieldType)) ∈ lw_all := lw_g (lw_at lw_m1 38 rfl) rfl
theorem q143 : (Jvm.Cond.methodLinkNest "LandingTree$Moment" (9 : Nat) ({ cls := "LandingTree$Asked", name := "<init>", desc := "()V" } : Jvm.MethodName) "LandingTree") ∈ lw_tbl := lw_at lw_m1 39 rfl
theorem q147 : (Jvm.Cond.fieldLink "LandingTree$Moment" (15 : Nat) "LandingTree$Moment" "day" "I") ∈ lw_all := lw_g (lw_at lw_m1 43 rfl) rfl
theorem q148 : (Jvm.Cond.fieldLink "LandingTree$Moment" (19 : Nat) "LandingTree$Moment" "people" "I") ∈ lw_all := lw_g (lw_at lw_m1 44 rfl) rfl
theorem q149 : (Jvm.Cond.fieldLink "LandingTree$Moment" (22 : Nat) "LandingTree$Moment" "plant" "I") ∈ lw_all := lw_g (lw_at lw_m1 45 rfl) rfl
theorem q150 : (Jvm.Cond.fieldLink "LandingTree$Moment" (25 : Nat) "LandingTree$Moment" "pot" "I") ∈ lw_all := lw_g (lw_at lw_m1 46 rfl) rfl
theorem q151 : (Jvm.Cond.fieldLink "LandingTree$Moment" (28 : Nat) "LandingTree$Moment" "wet" "I") ∈ lw_all := lw_g (lw_at lw_m1 47 rfl) rfl
theorem q152 : (Jvm.Cond.fieldLink "LandingTree$Moment" (31 : Nat) "LandingTree$Moment" "looked" "I") ∈ lw_all := lw_g (lw_at lw_m1 48 rfl) rfl
theorem q153 : (Jvm.Cond.fieldLink "LandingTree$Moment" (34 : Nat) "LandingTree$Moment" "dry" "I") ∈ lw_all := lw_g (lw_at lw_m1 49 rfl) rfl
theorem q154 : (Jvm.Cond.fieldLink "LandingTree$Moment" (37 : Nat) "LandingTree$Moment" "drowned" "I") ∈ lw_all := lw_g (lw_at lw_m1 50 rfl) rfl
theorem q155 : (Jvm.Cond.fieldLink "LandingTree$Moment" (40 : Nat) "LandingTree$Moment" "person" "I") ∈ lw_all := lw_g (lw_at lw_m1 51 rfl) rfl
theorem q156 : (Jvm.Cond.fieldLink "LandingTree$Moment" (43 : Nat) "LandingTree$Moment" "tenths" "I") ∈ lw_all := lw_g (lw_at lw_m1 52 rfl) rfl
theorem q157 : (Jvm.Cond.fieldLink "LandingTree$Moment" (46 : Nat) "LandingTree$Moment" "ago" "I") ∈ lw_all := lw_g (lw_at lw_m1 53 rfl) rfl
theorem q158 : (Jvm.Cond.fieldLink "LandingTree$Moment" (49 : Nat) "LandingTree$Moment" "given" "I") ∈ lw_all := lw_g (lw_at lw_m1 54 rfl) rfl
theorem q159 : (Jvm.Cond.fieldLink "LandingTree$Moment" (3 : Nat) "LandingTree$Moment" "this$0" "LLandingTree;") ∈ lw_all := lw_g (lw_at lw_m1 55 rfl) rfl
theorem q163 : (Jvm.Cond.lays "LandingTree$Moment" "LandingTree$Moment" "day" "I") ∈ lw_all := lw_g (lw_at lw_m1 59 rfl) rfl
theorem q164 : (Jvm.Cond.soleField "LandingTree$Moment" "day") ∈ lw_all := lw_g (lw_at lw_m1 60 rfl) rfl
theorem q165 : (Jvm.Cond.lays "LandingTree$Moment" "LandingTree$Moment" "people" "I") ∈ lw_all := lw_g (lw_at lw_m1 61 rfl) rfl
theorem q166 : (Jvm.Cond.soleField "LandingTree$Moment" "people") ∈ lw_all := lw_g (lw_at lw_m1 62 rfl) rfl
theorem q167 : (Jvm.Cond.lays "LandingTree$Moment" "LandingTree$Moment" "plant" "I") ∈ lw_all := lw_g (lw_at lw_m1 63 rfl) rfl
theorem q168 : (Jvm.Cond.soleField "LandingTree$Moment" "plant") ∈ lw_all := lw_g (lw_at lw_m1 64 rfl) rfl
theorem q169 : (Jvm.Cond.lays "LandingTree$Moment" "LandingTree$Moment" "pot" "I") ∈ lw_all := lw_g (lw_at lw_m1 65 rfl) rfl
theorem q170 : (Jvm.Cond.soleField "LandingTree$Moment" "pot") ∈ lw_all := lw_g (lw_at lw_m1 66 rfl) rfl
theorem q171 : (Jvm.Cond.lays "LandingTree$Moment" "LandingTree$Moment" "wet" "I") ∈ lw_all := lw_g (lw_at lw_m1 67 rfl) rfl
theorem q172 : (Jvm.Cond.soleField "LandingTree$Moment" "wet") ∈ lw_all := lw_g (lw_at lw_m1 68 rfl) rfl
theorem q173 : (Jvm.Cond.lays "LandingTree$Moment" "LandingTree$Moment" "looked" "I") ∈ lw_all := lw_g (lw_at lw_m1 69 rfl) rfl
theorem q174 : (Jvm.Cond.soleField "LandingTree$Moment" "looked") ∈ lw_all := lw_g (lw_at lw_m1 70 rfl) rfl
theorem q175 : (Jvm.Cond.lays "LandingTree$Moment" "LandingTree$Moment" "dry" "I") ∈ lw_all := lw_g (lw_at lw_m1 71 rfl) rfl
theorem q176 : (Jvm.Cond.soleField "LandingTree$Moment" "dry") ∈ lw_all := lw_g (lw_at lw_m1 72 rfl) rfl
theorem q177 : (Jvm.Cond.lays "LandingTree$Moment" "LandingTree$Moment" "drowned" "I") ∈ lw_all := lw_g (lw_at lw_m1 73 rfl) rfl
theorem q178 : (Jvm.Cond.soleField "LandingTree$Moment" "drowned") ∈ lw_all := lw_g (lw_at lw_m1 74 rfl) rfl
theorem q179 : (Jvm.Cond.lays "LandingTree$Moment" "LandingTree$Moment" "person" "I") ∈ lw_all := lw_g (lw_at lw_m1 75 rfl) rfl
theorem q180 : (Jvm.Cond.soleField "LandingTree$Moment" "person") ∈ lw_all := lw_g (lw_at lw_m1 76 rfl) rfl
theorem q181 : (Jvm.Cond.lays "LandingTree$Moment" "LandingTree$Moment" "tenths" "I") ∈ lw_all := lw_g (lw_at lw_m1 77 rfl) rfl
theorem q182 : (Jvm.Cond.soleField "LandingTree$Moment" "tenths") ∈ lw_all := lw_g (lw_at lw_m1 78 rfl) rfl
theorem q183 : (Jvm.Cond.lays "LandingTree$Moment" "LandingTree$Moment" "ago" "I") ∈ lw_all := lw_g (lw_at lw_m1 79 rfl) rfl
theorem q184 : (Jvm.Cond.soleField "LandingTree$Moment" "ago") ∈ lw_all := lw_g (lw_at lw_m1 80 rfl) rfl
theorem q185 : (Jvm.Cond.lays "LandingTree$Moment" "LandingTree$Moment" "given" "I") ∈ lw_all := lw_g (lw_at lw_m1 81 rfl) rfl
theorem q186 : (Jvm.Cond.soleField "LandingTree$Moment" "given") ∈ lw_all := lw_g (lw_at lw_m1 82 rfl) rfl
theorem q187 : (Jvm.Cond.laysFinal "LandingTree$Moment" "LandingTree$Moment" "this$0" "LLandingTree;") ∈ lw_all := lw_g (lw_at lw_m1 83 rfl) rfl
theorem q188 : (Jvm.Cond.soleField "LandingTree$Moment" "this$0") ∈ lw_all := lw_g (lw_at lw_m1 84 rfl) rfl
theorem q189 : (Jvm.Cond.lays "LandingTree$Moment" "LandingTree$Asked" "isRefused" "Z") ∈ lw_all := lw_g (lw_at lw_m1 85 rfl) rfl
theorem q191 : (Jvm.Cond.superclass "LandingTree$Moment" "LandingTree$Asked") ∈ lw_all := lw_g (lw_at lw_m1 87 rfl) rfl
theorem q357 : (Jvm.Cond.fieldLinkNest "LandingTree$Moment" (66 : Nat) "LandingTree" "rules" "[LLandingTree$Text;" "LandingTree") ∈ lw_tbl := lw_at lw_m2 13 rfl
theorem q359 : (Jvm.Cond.fieldLinkNest "LandingTree$Moment" (52 : Nat) "LandingTree" "law" "LLandingTree$Text;" "LandingTree") ∈ lw_tbl := lw_at lw_m2 15 rfl
theorem q815 : (Jvm.Cond.instanceMethod ({ cls := "LandingTree$Moment", name := "of", desc := "(II)LLandingTree$Moment;" } : Jvm.MethodName)) ∈ lw_all := lw_g (lw_at lw_m3 231 rfl) rfl
theorem q816 : (Jvm.Cond.selects "LandingTree$Moment" ({ cls := "LandingTree$Moment", name := "of", desc := "(II)LLandingTree$Moment;" } : Jvm.MethodName) ({ cls := "LandingTree$Moment", name := "of", desc := "(II)LLandingTree$Moment;" } : Jvm.MethodName)) ∈ lw_all := lw_g (lw_at lw_m3 232 rfl) rfl
theorem q817 : (Jvm.Cond.code ({ cls := "LandingTree$Moment", name := "of", desc := "(II)LLandingTree$Moment;" } : Jvm.MethodName) prog_8_method_2_code (3 : Nat) (Option.some (Jvm.ClassFile.FieldType.object "LandingTree$Moment"))) ∈ lw_all := lw_g (lw_at lw_m3 233 rfl) rfl
theorem q823 : (Jvm.Cond.instanceMethod ({ cls := "LandingTree$Moment", name := "ofPlant", desc := "(IIIIIII)LLandingTree$Moment;" } : Jvm.MethodName)) ∈ lw_all := lw_g (lw_at lw_m3 239 rfl) rfl
theorem q824 : (Jvm.Cond.selects "LandingTree$Moment" ({ cls := "LandingTree$Moment", name := "ofPlant", desc := "(IIIIIII)LLandingTree$Moment;" } : Jvm.MethodName) ({ cls := "LandingTree$Moment", name := "ofPlant", desc := "(IIIIIII)LLandingTree$Moment;" } : Jvm.MethodName)) ∈ lw_all := lw_g (lw_at lw_m4 0 rfl) rfl
theorem q825 : (Jvm.Cond.code ({ cls := "LandingTree$Moment", name := "ofPlant", desc := "(IIIIIII)LLandingTree$Moment;" } : Jvm.MethodName) prog_8_method_3_code (8 : Nat) (Option.some (Jvm.ClassFile.FieldType.object "LandingTree$Moment"))) ∈ lw_all := lw_g (lw_at lw_m4 1 rfl) rfl
theorem q827 : (Jvm.Cond.instanceMethod ({ cls := "LandingTree$Moment", name := "by", desc := "(III)LLandingTree$Moment;" } : Jvm.MethodName)) ∈ lw_all := lw_g (lw_at lw_m4 3 rfl) rfl
theorem q828 : (Jvm.Cond.selects "LandingTree$Moment" ({ cls := "LandingTree$Moment", name := "by", desc := "(III)LLandingTree$Moment;" } : Jvm.MethodName) ({ cls := "LandingTree$Moment", name := "by", desc := "(III)LLandingTree$Moment;" } : Jvm.MethodName)) ∈ lw_all := lw_g (lw_at lw_m4 4 rfl) rfl
theorem q829 : (Jvm.Cond.code ({ cls := "LandingTree$Moment", name := "by", desc := "(III)LLandingTree$Moment;" } : Jvm.MethodName) prog_8_method_4_code (4 : Nat) (Option.some (Jvm.ClassFile.FieldType.object "LandingTree$Moment"))) ∈ lw_all := lw_g (lw_at lw_m4 5 rfl) rfl
theorem q831 : (Jvm.Cond.instanceMethod ({ cls := "LandingTree$Moment", name := "givesBy", desc := "(I)I" } : Jvm.MethodName)) ∈ lw_all := lw_g (lw_at lw_m4 7 rfl) rfl
theorem q832 : (Jvm.Cond.selects "LandingTree$Moment" ({ cls := "LandingTree$Moment", name := "givesBy", desc := "(I)I" } : Jvm.MethodName) ({ cls := "LandingTree$Moment", name := "givesBy", desc := "(I)I" } : Jvm.MethodName)) ∈ lw_all := lw_g (lw_at lw_m4 8 rfl) rfl
theorem q833 : (Jvm.Cond.code ({ cls := "LandingTree$Moment", name := "givesBy", desc := "(I)I" } : Jvm.MethodName) prog_8_method_7_code (2 : Nat) (Option.some Jvm.ClassFile.FieldType.int)) ∈ lw_all := lw_g (lw_at lw_m4 9 rfl) rfl
theorem q834 : (Jvm.Cond.methodLink "LandingTree$Moment" (56 : Nat) ({ cls := "LandingTree$Text", name := "tells", desc := "(ILLandingTree$Asked;)I" } : Jvm.MethodName)) ∈ lw_all := lw_g (lw_at lw_m4 10 rfl) rfl
theorem q853 : (Jvm.Cond.selects "LandingTree$Moment" ({ cls := "LandingTree$Asked", name := "value", desc := "(I)I" } : Jvm.MethodName) ({ cls := "LandingTree$Moment", name := "value", desc := "(I)I" } : Jvm.MethodName)) ∈ lw_all := lw_g (lw_at lw_m4 29 rfl) rfl
theorem q854 : (Jvm.Cond.instanceMethod ({ cls := "LandingTree$Moment", name := "value", desc := "(I)I" } : Jvm.MethodName)) ∈ lw_all := lw_g (lw_at lw_m4 30 rfl) rfl
theorem q855 : (Jvm.Cond.code ({ cls := "LandingTree$Moment", name := "value", desc := "(I)I" } : Jvm.MethodName) prog_8_method_5_code (2 : Nat) (Option.some Jvm.ClassFile.FieldType.int)) ∈ lw_all := lw_g (lw_at lw_m4 31 rfl) rfl
theorem q882 : (Jvm.Cond.methodLinkNest "LandingTree$Moment" (62 : Nat) ({ cls := "LandingTree", name := "held", desc := "(II)I" } : Jvm.MethodName) "LandingTree") ∈ lw_tbl := lw_at lw_m4 58 rfl
theorem q893 : (Jvm.Cond.instanceMethod ({ cls := "LandingTree$Moment", name := "tells", desc := "(II)I" } : Jvm.MethodName)) ∈ lw_all := lw_g (lw_at lw_m4 69 rfl) rfl
theorem q894 : (Jvm.Cond.selects "LandingTree$Moment" ({ cls := "LandingTree$Moment", name := "tells", desc := "(II)I" } : Jvm.MethodName) ({ cls := "LandingTree$Moment", name := "tells", desc := "(II)I" } : Jvm.MethodName)) ∈ lw_all := lw_g (lw_at lw_m4 70 rfl) rfl
theorem q895 : (Jvm.Cond.code ({ cls := "LandingTree$Moment", name := "tells", desc := "(II)I" } : Jvm.MethodName) prog_8_method_6_code (3 : Nat) (Option.some Jvm.ClassFile.FieldType.int)) ∈ lw_all := lw_g (lw_at lw_m4 71 rfl) rfl
theorem in_X2 : ∀ w ∈ wsX20, w ∈ lw_all := lw_in wsX20 [189, 163, 165, 167, 169, 171, 173, 175, 177, 179, 181, 183, 185, 187] (by decide +kernel) (by decide +kernel)

/-! LandingTree$Landing -/
set_option maxRecDepth 100000
def RX3 : String := "LandingTree$Landing"
def TX3 : u_T := fun k => match k with
  | 0 => ("LandingTree$Landing", "plants", "[LLandingTree$Plant;", true)
  | 1 => ("LandingTree$Landing", "people", "[LLandingTree$Person;", true)
  | 2 => ("LandingTree$Landing", "day", "I", false)
  | 3 => ("LandingTree$Landing", "x", "I", false)
  | 4 => ("LandingTree$Landing", "given", "I", false)
  | 5 => ("LandingTree$Landing", "over", "I", false)
  | 6 => ("LandingTree$Landing", "sunny", "I", false)
  | _ => ("LandingTree$Landing", "this$0", "LLandingTree;", true)
def tyX3 : Nat → FieldType := fun k => match k with
  | 0 => .array (.object "LandingTree$Plant")
  | 1 => .array (.object "LandingTree$Person")
  | 2 => .int
  | 3 => .int
  | 4 => .int
  | 5 => .int
  | 6 => .int
  | _ => .object "LandingTree"
abbrev wsX30 : List Cond := u_ws RX3 TX3 8
theorem nmX3 : ∀ a, a < 8 → ∀ b, b < 8 → a ≠ b → (TX3 a).2.1 ≠ (TX3 b).2.1 := by decide +kernel
theorem tyX3_ok : ∀ k, k < 8 → parseFieldDescriptor (TX3 k).2.2.1 = some (tyX3 k) := by decide +kernel
abbrev cX3_init : ByteArray := prog_6_method_1_code
def yX3_init : MethodName := ⟨RX3, "<init>", "(LLandingTree;)V"⟩
def dkwX3_init_3 : List UInt8 := [183, 0, 28, 83, 132, 2, 1, 167, 255, 234, 177]
abbrev dktX3_init_3 : List UInt8 := dkwX3_init_3 ++ []
def dkwX3_init_2 : List UInt8 := [132, 2, 1, 167, 255, 235, 3, 61, 28, 16, 8, 162, 0, 22, 42, 180, 0, 23, 28, 187, 0, 21, 89]
abbrev dktX3_init_2 : List UInt8 := dkwX3_init_2 ++ dktX3_init_3
def dkwX3_init_1 : List UInt8 := [181, 0, 23, 3, 61, 28, 7, 162, 0, 22, 42, 180, 0, 17, 28, 187, 0, 15, 89, 183, 0, 27, 83]
abbrev dktX3_init_1 : List UInt8 := dkwX3_init_1 ++ dktX3_init_2
def dkwX3_init_0 : List UInt8 := [42, 43, 181, 0, 3, 42, 183, 0, 9, 42, 7, 189, 0, 15, 181, 0, 17, 42, 16, 8, 189, 0, 21]
abbrev dktX3_init_0 : List UInt8 := dkwX3_init_0 ++ dktX3_init_1
theorem dksX3_init_0 : cX3_init.data.toList.drop 0 = dktX3_init_0 := by decide +kernel
theorem dksX3_init_1 : cX3_init.data.toList.drop 23 = dktX3_init_1 := dk_seg dksX3_init_0 23 rfl rfl
theorem dksX3_init_2 : cX3_init.data.toList.drop 46 = dktX3_init_2 := dk_seg dksX3_init_1 23 rfl rfl
theorem dksX3_init_3 : cX3_init.data.toList.drop 69 = dktX3_init_3 := dk_seg dksX3_init_2 23 rfl rfl
theorem dX3_init_0 : decode cX3_init 0 = .ok (.aload_n 0, 1) := dk_42 (dk_at dksX3_init_0 0 rfl rfl)
theorem dX3_init_1 : decode cX3_init 1 = .ok (.aload_n 1, 1) := dk_43 (dk_at dksX3_init_0 1 rfl rfl)
theorem dX3_init_2 : decode cX3_init 2 = .ok (.putfield 3, 3) := dk_181 0 3 (dk_at dksX3_init_0 2 rfl rfl)
theorem dX3_init_5 : decode cX3_init 5 = .ok (.aload_n 0, 1) := dk_42 (dk_at dksX3_init_0 5 rfl rfl)
theorem dX3_init_6 : decode cX3_init 6 = .ok (.invokespecial 9, 3) := dk_183 0 9 (dk_at dksX3_init_0 6 rfl rfl)
theorem dX3_init_9 : decode cX3_init 9 = .ok (.aload_n 0, 1) := dk_42 (dk_at dksX3_init_0 9 rfl rfl)
theorem dX3_init_10 : decode cX3_init 10 = .ok (.iconst 4, 1) := dk_7 (dk_at dksX3_init_0 10 rfl rfl)
theorem dX3_init_11 : decode cX3_init 11 = .ok (.anewarray 15, 3) := dk_189 0 15 (dk_at dksX3_init_0 11 rfl rfl)
theorem dX3_init_14 : decode cX3_init 14 = .ok (.putfield 17, 3) := dk_181 0 17 (dk_at dksX3_init_0 14 rfl rfl)
theorem dX3_init_17 : decode cX3_init 17 = .ok (.aload_n 0, 1) := dk_42 (dk_at dksX3_init_0 17 rfl rfl)
theorem dX3_init_18 : decode cX3_init 18 = .ok (.bipush 8, 2) := dk_16 8 (dk_at dksX3_init_0 18 rfl rfl)
theorem dX3_init_20 : decode cX3_init 20 = .ok (.anewarray 21, 3) := dk_189 0 21 (dk_at dksX3_init_0 20 rfl rfl)
theorem dX3_init_23 : decode cX3_init 23 = .ok (.putfield 23, 3) := dk_181 0 23 (dk_at dksX3_init_1 0 rfl rfl)
theorem dX3_init_26 : decode cX3_init 26 = .ok (.iconst 0, 1) := dk_3 (dk_at dksX3_init_1 3 rfl rfl)
theorem dX3_init_27 : decode cX3_init 27 = .ok (.istore_n 2, 1) := dk_61 (dk_at dksX3_init_1 4 rfl rfl)
theorem dX3_init_28 : decode cX3_init 28 = .ok (.iload_n 2, 1) := dk_28 (dk_at dksX3_init_1 5 rfl rfl)
theorem dX3_init_29 : decode cX3_init 29 = .ok (.iconst 4, 1) := dk_7 (dk_at dksX3_init_1 6 rfl rfl)
theorem dX3_init_30 : decode cX3_init 30 = .ok (.if_icmp .ge 22, 3) := dk_162 0 22 (dk_at dksX3_init_1 7 rfl rfl)
theorem dX3_init_33 : decode cX3_init 33 = .ok (.aload_n 0, 1) := dk_42 (dk_at dksX3_init_1 10 rfl rfl)
theorem dX3_init_34 : decode cX3_init 34 = .ok (.getfield 17, 3) := dk_180 0 17 (dk_at dksX3_init_1 11 rfl rfl)
theorem dX3_init_37 : decode cX3_init 37 = .ok (.iload_n 2, 1) := dk_28 (dk_at dksX3_init_1 14 rfl rfl)
theorem dX3_init_38 : decode cX3_init 38 = .ok (.new 15, 3) := dk_187 0 15 (dk_at dksX3_init_1 15 rfl rfl)
theorem dX3_init_41 : decode cX3_init 41 = .ok (.dup, 1) := dk_89 (dk_at dksX3_init_1 18 rfl rfl)
theorem dX3_init_42 : decode cX3_init 42 = .ok (.invokespecial 27, 3) := dk_183 0 27 (dk_at dksX3_init_1 19 rfl rfl)
theorem dX3_init_45 : decode cX3_init 45 = .ok (.aastore, 1) := dk_83 (dk_at dksX3_init_1 22 rfl rfl)
theorem dX3_init_46 : decode cX3_init 46 = .ok (.iinc 2 1, 3) := dk_132 2 1 (dk_at dksX3_init_2 0 rfl rfl)
theorem dX3_init_49 : decode cX3_init 49 = .ok (.goto (-21), 3) := dk_167 255 235 (dk_at dksX3_init_2 3 rfl rfl)
theorem dX3_init_52 : decode cX3_init 52 = .ok (.iconst 0, 1) := dk_3 (dk_at dksX3_init_2 6 rfl rfl)
theorem dX3_init_53 : decode cX3_init 53 = .ok (.istore_n 2, 1) := dk_61 (dk_at dksX3_init_2 7 rfl rfl)
theorem dX3_init_54 : decode cX3_init 54 = .ok (.iload_n 2, 1) := dk_28 (dk_at dksX3_init_2 8 rfl rfl)
theorem dX3_init_55 : decode cX3_init 55 = .ok (.bipush 8, 2) := dk_16 8 (dk_at dksX3_init_2 9 rfl rfl)
theorem dX3_init_57 : decode cX3_init 57 = .ok (.if_icmp .ge 22, 3) := dk_162 0 22 (dk_at dksX3_init_2 11 rfl rfl)
theorem dX3_init_60 : decode cX3_init 60 = .ok (.aload_n 0, 1) := dk_42 (dk_at dksX3_init_2 14 rfl rfl)
theorem dX3_init_61 : decode cX3_init 61 = .ok (.getfield 23, 3) := dk_180 0 23 (dk_at dksX3_init_2 15 rfl rfl)
theorem dX3_init_64 : decode cX3_init 64 = .ok (.iload_n 2, 1) := dk_28 (dk_at dksX3_init_2 18 rfl rfl)
theorem dX3_init_65 : decode cX3_init 65 = .ok (.new 21, 3) := dk_187 0 21 (dk_at dksX3_init_2 19 rfl rfl)
theorem dX3_init_68 : decode cX3_init 68 = .ok (.dup, 1) := dk_89 (dk_at dksX3_init_2 22 rfl rfl)
theorem dX3_init_69 : decode cX3_init 69 = .ok (.invokespecial 28, 3) := dk_183 0 28 (dk_at dksX3_init_3 0 rfl rfl)
theorem dX3_init_72 : decode cX3_init 72 = .ok (.aastore, 1) := dk_83 (dk_at dksX3_init_3 3 rfl rfl)
theorem dX3_init_73 : decode cX3_init 73 = .ok (.iinc 2 1, 3) := dk_132 2 1 (dk_at dksX3_init_3 4 rfl rfl)
theorem dX3_init_76 : decode cX3_init 76 = .ok (.goto (-22), 3) := dk_167 255 234 (dk_at dksX3_init_3 7 rfl rfl)
theorem dX3_init_79 : decode cX3_init 79 = .ok (.return_, 1) := dk_177 (dk_at dksX3_init_3 10 rfl rfl)
abbrev cX3_goes : ByteArray := prog_6_method_10_code
def yX3_goes : MethodName := ⟨RX3, "goes", "(I)LLandingTree$Landing;"⟩
def dkwX3_goes_1 : List UInt8 := [180, 0, 36, 17, 39, 15, 162, 0, 13, 42, 182, 0, 144, 132, 2, 1, 167, 255, 234, 42, 176]
abbrev dktX3_goes_1 : List UInt8 := dkwX3_goes_1 ++ []
def dkwX3_goes_0 : List UInt8 := [42, 3, 181, 0, 122, 42, 3, 181, 0, 116, 42, 3, 181, 0, 129, 3, 61, 28, 27, 162, 0, 23, 42]
abbrev dktX3_goes_0 : List UInt8 := dkwX3_goes_0 ++ dktX3_goes_1
theorem dksX3_goes_0 : cX3_goes.data.toList.drop 0 = dktX3_goes_0 := by decide +kernel
theorem dksX3_goes_1 : cX3_goes.data.toList.drop 23 = dktX3_goes_1 := dk_seg dksX3_goes_0 23 rfl rfl
theorem dX3_goes_0 : decode cX3_goes 0 = .ok (.aload_n 0, 1) := dk_42 (dk_at dksX3_goes_0 0 rfl rfl)
theorem dX3_goes_1 : decode cX3_goes 1 = .ok (.iconst 0, 1) := dk_3 (dk_at dksX3_goes_0 1 rfl rfl)
theorem dX3_goes_2 : decode cX3_goes 2 = .ok (.putfield 122, 3) := dk_181 0 122 (dk_at dksX3_goes_0 2 rfl rfl)
theorem dX3_goes_5 : decode cX3_goes 5 = .ok (.aload_n 0, 1) := dk_42 (dk_at dksX3_goes_0 5 rfl rfl)
theorem dX3_goes_6 : decode cX3_goes 6 = .ok (.iconst 0, 1) := dk_3 (dk_at dksX3_goes_0 6 rfl rfl)
theorem dX3_goes_7 : decode cX3_goes 7 = .ok (.putfield 116, 3) := dk_181 0 116 (dk_at dksX3_goes_0 7 rfl rfl)
theorem dX3_goes_10 : decode cX3_goes 10 = .ok (.aload_n 0, 1) := dk_42 (dk_at dksX3_goes_0 10 rfl rfl)
theorem dX3_goes_11 : decode cX3_goes 11 = .ok (.iconst 0, 1) := dk_3 (dk_at dksX3_goes_0 11 rfl rfl)
theorem dX3_goes_12 : decode cX3_goes 12 = .ok (.putfield 129, 3) := dk_181 0 129 (dk_at dksX3_goes_0 12 rfl rfl)
theorem dX3_goes_15 : decode cX3_goes 15 = .ok (.iconst 0, 1) := dk_3 (dk_at dksX3_goes_0 15 rfl rfl)
theorem dX3_goes_16 : decode cX3_goes 16 = .ok (.istore_n 2, 1) := dk_61 (dk_at dksX3_goes_0 16 rfl rfl)
theorem dX3_goes_17 : decode cX3_goes 17 = .ok (.iload_n 2, 1) := dk_28 (dk_at dksX3_goes_0 17 rfl rfl)
theorem dX3_goes_18 : decode cX3_goes 18 = .ok (.iload_n 1, 1) := dk_27 (dk_at dksX3_goes_0 18 rfl rfl)
theorem dX3_goes_19 : decode cX3_goes 19 = .ok (.if_icmp .ge 23, 3) := dk_162 0 23 (dk_at dksX3_goes_0 19 rfl rfl)
theorem dX3_goes_22 : decode cX3_goes 22 = .ok (.aload_n 0, 1) := dk_42 (dk_at dksX3_goes_0 22 rfl rfl)
theorem dX3_goes_23 : decode cX3_goes 23 = .ok (.getfield 36, 3) := dk_180 0 36 (dk_at dksX3_goes_1 0 rfl rfl)
theorem dX3_goes_26 : decode cX3_goes 26 = .ok (.sipush 9999, 3) := dk_17 39 15 (dk_at dksX3_goes_1 3 rfl rfl)
theorem dX3_goes_29 : decode cX3_goes 29 = .ok (.if_icmp .ge 13, 3) := dk_162 0 13 (dk_at dksX3_goes_1 6 rfl rfl)
theorem dX3_goes_32 : decode cX3_goes 32 = .ok (.aload_n 0, 1) := dk_42 (dk_at dksX3_goes_1 9 rfl rfl)
theorem dX3_goes_33 : decode cX3_goes 33 = .ok (.invokevirtual 144, 3) := dk_182 0 144 (dk_at dksX3_goes_1 10 rfl rfl)
theorem dX3_goes_36 : decode cX3_goes 36 = .ok (.iinc 2 1, 3) := dk_132 2 1 (dk_at dksX3_goes_1 13 rfl rfl)
theorem dX3_goes_39 : decode cX3_goes 39 = .ok (.goto (-22), 3) := dk_167 255 234 (dk_at dksX3_goes_1 16 rfl rfl)
theorem dX3_goes_42 : decode cX3_goes 42 = .ok (.aload_n 0, 1) := dk_42 (dk_at dksX3_goes_1 19 rfl rfl)
theorem dX3_goes_43 : decode cX3_goes 43 = .ok (.areturn, 1) := dk_176 (dk_at dksX3_goes_1 20 rfl rfl)
abbrev cX3_dayGoes : ByteArray := prog_6_method_9_code
def yX3_dayGoes : MethodName := ⟨RX3, "dayGoes", "()V"⟩
def dkwX3_dayGoes_5 : List UInt8 := [177]
abbrev dktX3_dayGoes_5 : List UInt8 := dkwX3_dayGoes_5 ++ []
def dkwX3_dayGoes_4 : List UInt8 := [153, 0, 8, 42, 27, 182, 0, 143, 132, 1, 1, 167, 255, 231, 42, 89, 180, 0, 36, 4, 96, 181, 0, 36]
abbrev dktX3_dayGoes_4 : List UInt8 := dkwX3_dayGoes_4 ++ dktX3_dayGoes_5
def dkwX3_dayGoes_3 : List UInt8 := [132, 1, 1, 167, 255, 185, 3, 60, 27, 7, 162, 0, 26, 42, 180, 0, 17, 27, 50, 182, 0, 136]
abbrev dktX3_dayGoes_3 : List UInt8 := dkwX3_dayGoes_3 ++ dktX3_dayGoes_4
def dkwX3_dayGoes_2 : List UInt8 := [180, 0, 17, 28, 50, 182, 0, 136, 153, 0, 9, 42, 27, 28, 182, 0, 139, 132, 2, 1, 167, 255, 230]
abbrev dktX3_dayGoes_2 : List UInt8 := dkwX3_dayGoes_2 ++ dktX3_dayGoes_3
def dkwX3_dayGoes_1 : List UInt8 := [42, 180, 0, 23, 27, 50, 180, 0, 96, 161, 0, 6, 167, 0, 34, 3, 61, 28, 7, 162, 0, 27, 42]
abbrev dktX3_dayGoes_1 : List UInt8 := dkwX3_dayGoes_1 ++ dktX3_dayGoes_2
def dkwX3_dayGoes_0 : List UInt8 := [3, 60, 27, 16, 8, 162, 0, 71, 42, 180, 0, 23, 27, 50, 180, 0, 43, 153, 0, 53, 42, 182, 0, 123]
abbrev dktX3_dayGoes_0 : List UInt8 := dkwX3_dayGoes_0 ++ dktX3_dayGoes_1
theorem dksX3_dayGoes_0 : cX3_dayGoes.data.toList.drop 0 = dktX3_dayGoes_0 := by decide +kernel
theorem dksX3_dayGoes_1 : cX3_dayGoes.data.toList.drop 24 = dktX3_dayGoes_1 := dk_seg dksX3_dayGoes_0 24 rfl rfl
theorem dksX3_dayGoes_2 : cX3_dayGoes.data.toList.drop 47 = dktX3_dayGoes_2 := dk_seg dksX3_dayGoes_1 23 rfl rfl
theorem dksX3_dayGoes_3 : cX3_dayGoes.data.toList.drop 70 = dktX3_dayGoes_3 := dk_seg dksX3_dayGoes_2 23 rfl rfl
theorem dksX3_dayGoes_4 : cX3_dayGoes.data.toList.drop 92 = dktX3_dayGoes_4 := dk_seg dksX3_dayGoes_3 22 rfl rfl
theorem dksX3_dayGoes_5 : cX3_dayGoes.data.toList.drop 116 = dktX3_dayGoes_5 := dk_seg dksX3_dayGoes_4 24 rfl rfl
theorem dX3_dayGoes_0 : decode cX3_dayGoes 0 = .ok (.iconst 0, 1) := dk_3 (dk_at dksX3_dayGoes_0 0 rfl rfl)
theorem dX3_dayGoes_1 : decode cX3_dayGoes 1 = .ok (.istore_n 1, 1) := dk_60 (dk_at dksX3_dayGoes_0 1 rfl rfl)
theorem dX3_dayGoes_2 : decode cX3_dayGoes 2 = .ok (.iload_n 1, 1) := dk_27 (dk_at dksX3_dayGoes_0 2 rfl rfl)
theorem dX3_dayGoes_3 : decode cX3_dayGoes 3 = .ok (.bipush 8, 2) := dk_16 8 (dk_at dksX3_dayGoes_0 3 rfl rfl)
theorem dX3_dayGoes_5 : decode cX3_dayGoes 5 = .ok (.if_icmp .ge 71, 3) := dk_162 0 71 (dk_at dksX3_dayGoes_0 5 rfl rfl)
theorem dX3_dayGoes_8 : decode cX3_dayGoes 8 = .ok (.aload_n 0, 1) := dk_42 (dk_at dksX3_dayGoes_0 8 rfl rfl)
theorem dX3_dayGoes_9 : decode cX3_dayGoes 9 = .ok (.getfield 23, 3) := dk_180 0 23 (dk_at dksX3_dayGoes_0 9 rfl rfl)
theorem dX3_dayGoes_12 : decode cX3_dayGoes 12 = .ok (.iload_n 1, 1) := dk_27 (dk_at dksX3_dayGoes_0 12 rfl rfl)
theorem dX3_dayGoes_13 : decode cX3_dayGoes 13 = .ok (.aaload, 1) := dk_50 (dk_at dksX3_dayGoes_0 13 rfl rfl)
theorem dX3_dayGoes_14 : decode cX3_dayGoes 14 = .ok (.getfield 43, 3) := dk_180 0 43 (dk_at dksX3_dayGoes_0 14 rfl rfl)
theorem dX3_dayGoes_17 : decode cX3_dayGoes 17 = .ok (.ifCond .eq 53, 3) := dk_153 0 53 (dk_at dksX3_dayGoes_0 17 rfl rfl)
theorem dX3_dayGoes_20 : decode cX3_dayGoes 20 = .ok (.aload_n 0, 1) := dk_42 (dk_at dksX3_dayGoes_0 20 rfl rfl)
theorem dX3_dayGoes_21 : decode cX3_dayGoes 21 = .ok (.invokevirtual 123, 3) := dk_182 0 123 (dk_at dksX3_dayGoes_0 21 rfl rfl)
theorem dX3_dayGoes_24 : decode cX3_dayGoes 24 = .ok (.aload_n 0, 1) := dk_42 (dk_at dksX3_dayGoes_1 0 rfl rfl)
theorem dX3_dayGoes_25 : decode cX3_dayGoes 25 = .ok (.getfield 23, 3) := dk_180 0 23 (dk_at dksX3_dayGoes_1 1 rfl rfl)
theorem dX3_dayGoes_28 : decode cX3_dayGoes 28 = .ok (.iload_n 1, 1) := dk_27 (dk_at dksX3_dayGoes_1 4 rfl rfl)
theorem dX3_dayGoes_29 : decode cX3_dayGoes 29 = .ok (.aaload, 1) := dk_50 (dk_at dksX3_dayGoes_1 5 rfl rfl)
theorem dX3_dayGoes_30 : decode cX3_dayGoes 30 = .ok (.getfield 96, 3) := dk_180 0 96 (dk_at dksX3_dayGoes_1 6 rfl rfl)
theorem dX3_dayGoes_33 : decode cX3_dayGoes 33 = .ok (.if_icmp .lt 6, 3) := dk_161 0 6 (dk_at dksX3_dayGoes_1 9 rfl rfl)
theorem dX3_dayGoes_36 : decode cX3_dayGoes 36 = .ok (.goto 34, 3) := dk_167 0 34 (dk_at dksX3_dayGoes_1 12 rfl rfl)
theorem dX3_dayGoes_39 : decode cX3_dayGoes 39 = .ok (.iconst 0, 1) := dk_3 (dk_at dksX3_dayGoes_1 15 rfl rfl)
theorem dX3_dayGoes_40 : decode cX3_dayGoes 40 = .ok (.istore_n 2, 1) := dk_61 (dk_at dksX3_dayGoes_1 16 rfl rfl)
theorem dX3_dayGoes_41 : decode cX3_dayGoes 41 = .ok (.iload_n 2, 1) := dk_28 (dk_at dksX3_dayGoes_1 17 rfl rfl)
theorem dX3_dayGoes_42 : decode cX3_dayGoes 42 = .ok (.iconst 4, 1) := dk_7 (dk_at dksX3_dayGoes_1 18 rfl rfl)
theorem dX3_dayGoes_43 : decode cX3_dayGoes 43 = .ok (.if_icmp .ge 27, 3) := dk_162 0 27 (dk_at dksX3_dayGoes_1 19 rfl rfl)
theorem dX3_dayGoes_46 : decode cX3_dayGoes 46 = .ok (.aload_n 0, 1) := dk_42 (dk_at dksX3_dayGoes_1 22 rfl rfl)
theorem dX3_dayGoes_47 : decode cX3_dayGoes 47 = .ok (.getfield 17, 3) := dk_180 0 17 (dk_at dksX3_dayGoes_2 0 rfl rfl)
theorem dX3_dayGoes_50 : decode cX3_dayGoes 50 = .ok (.iload_n 2, 1) := dk_28 (dk_at dksX3_dayGoes_2 3 rfl rfl)
theorem dX3_dayGoes_51 : decode cX3_dayGoes 51 = .ok (.aaload, 1) := dk_50 (dk_at dksX3_dayGoes_2 4 rfl rfl)
theorem dX3_dayGoes_52 : decode cX3_dayGoes 52 = .ok (.invokevirtual 136, 3) := dk_182 0 136 (dk_at dksX3_dayGoes_2 5 rfl rfl)
theorem dX3_dayGoes_55 : decode cX3_dayGoes 55 = .ok (.ifCond .eq 9, 3) := dk_153 0 9 (dk_at dksX3_dayGoes_2 8 rfl rfl)
theorem dX3_dayGoes_58 : decode cX3_dayGoes 58 = .ok (.aload_n 0, 1) := dk_42 (dk_at dksX3_dayGoes_2 11 rfl rfl)
theorem dX3_dayGoes_59 : decode cX3_dayGoes 59 = .ok (.iload_n 1, 1) := dk_27 (dk_at dksX3_dayGoes_2 12 rfl rfl)
theorem dX3_dayGoes_60 : decode cX3_dayGoes 60 = .ok (.iload_n 2, 1) := dk_28 (dk_at dksX3_dayGoes_2 13 rfl rfl)
theorem dX3_dayGoes_61 : decode cX3_dayGoes 61 = .ok (.invokevirtual 139, 3) := dk_182 0 139 (dk_at dksX3_dayGoes_2 14 rfl rfl)
theorem dX3_dayGoes_64 : decode cX3_dayGoes 64 = .ok (.iinc 2 1, 3) := dk_132 2 1 (dk_at dksX3_dayGoes_2 17 rfl rfl)
theorem dX3_dayGoes_67 : decode cX3_dayGoes 67 = .ok (.goto (-26), 3) := dk_167 255 230 (dk_at dksX3_dayGoes_2 20 rfl rfl)
theorem dX3_dayGoes_70 : decode cX3_dayGoes 70 = .ok (.iinc 1 1, 3) := dk_132 1 1 (dk_at dksX3_dayGoes_3 0 rfl rfl)
theorem dX3_dayGoes_73 : decode cX3_dayGoes 73 = .ok (.goto (-71), 3) := dk_167 255 185 (dk_at dksX3_dayGoes_3 3 rfl rfl)
theorem dX3_dayGoes_76 : decode cX3_dayGoes 76 = .ok (.iconst 0, 1) := dk_3 (dk_at dksX3_dayGoes_3 6 rfl rfl)
theorem dX3_dayGoes_77 : decode cX3_dayGoes 77 = .ok (.istore_n 1, 1) := dk_60 (dk_at dksX3_dayGoes_3 7 rfl rfl)
theorem dX3_dayGoes_78 : decode cX3_dayGoes 78 = .ok (.iload_n 1, 1) := dk_27 (dk_at dksX3_dayGoes_3 8 rfl rfl)
theorem dX3_dayGoes_79 : decode cX3_dayGoes 79 = .ok (.iconst 4, 1) := dk_7 (dk_at dksX3_dayGoes_3 9 rfl rfl)
theorem dX3_dayGoes_80 : decode cX3_dayGoes 80 = .ok (.if_icmp .ge 26, 3) := dk_162 0 26 (dk_at dksX3_dayGoes_3 10 rfl rfl)
theorem dX3_dayGoes_83 : decode cX3_dayGoes 83 = .ok (.aload_n 0, 1) := dk_42 (dk_at dksX3_dayGoes_3 13 rfl rfl)
theorem dX3_dayGoes_84 : decode cX3_dayGoes 84 = .ok (.getfield 17, 3) := dk_180 0 17 (dk_at dksX3_dayGoes_3 14 rfl rfl)
theorem dX3_dayGoes_87 : decode cX3_dayGoes 87 = .ok (.iload_n 1, 1) := dk_27 (dk_at dksX3_dayGoes_3 17 rfl rfl)
theorem dX3_dayGoes_88 : decode cX3_dayGoes 88 = .ok (.aaload, 1) := dk_50 (dk_at dksX3_dayGoes_3 18 rfl rfl)
theorem dX3_dayGoes_89 : decode cX3_dayGoes 89 = .ok (.invokevirtual 136, 3) := dk_182 0 136 (dk_at dksX3_dayGoes_3 19 rfl rfl)
theorem dX3_dayGoes_92 : decode cX3_dayGoes 92 = .ok (.ifCond .eq 8, 3) := dk_153 0 8 (dk_at dksX3_dayGoes_4 0 rfl rfl)
theorem dX3_dayGoes_95 : decode cX3_dayGoes 95 = .ok (.aload_n 0, 1) := dk_42 (dk_at dksX3_dayGoes_4 3 rfl rfl)
theorem dX3_dayGoes_96 : decode cX3_dayGoes 96 = .ok (.iload_n 1, 1) := dk_27 (dk_at dksX3_dayGoes_4 4 rfl rfl)
theorem dX3_dayGoes_97 : decode cX3_dayGoes 97 = .ok (.invokevirtual 143, 3) := dk_182 0 143 (dk_at dksX3_dayGoes_4 5 rfl rfl)
theorem dX3_dayGoes_100 : decode cX3_dayGoes 100 = .ok (.iinc 1 1, 3) := dk_132 1 1 (dk_at dksX3_dayGoes_4 8 rfl rfl)
theorem dX3_dayGoes_103 : decode cX3_dayGoes 103 = .ok (.goto (-25), 3) := dk_167 255 231 (dk_at dksX3_dayGoes_4 11 rfl rfl)
theorem dX3_dayGoes_106 : decode cX3_dayGoes 106 = .ok (.aload_n 0, 1) := dk_42 (dk_at dksX3_dayGoes_4 14 rfl rfl)
theorem dX3_dayGoes_107 : decode cX3_dayGoes 107 = .ok (.dup, 1) := dk_89 (dk_at dksX3_dayGoes_4 15 rfl rfl)
theorem dX3_dayGoes_108 : decode cX3_dayGoes 108 = .ok (.getfield 36, 3) := dk_180 0 36 (dk_at dksX3_dayGoes_4 16 rfl rfl)
theorem dX3_dayGoes_111 : decode cX3_dayGoes 111 = .ok (.iconst 1, 1) := dk_4 (dk_at dksX3_dayGoes_4 19 rfl rfl)
theorem dX3_dayGoes_112 : decode cX3_dayGoes 112 = .ok (.iadd, 1) := dk_96 (dk_at dksX3_dayGoes_4 20 rfl rfl)
theorem dX3_dayGoes_113 : decode cX3_dayGoes 113 = .ok (.putfield 36, 3) := dk_181 0 36 (dk_at dksX3_dayGoes_4 21 rfl rfl)
theorem dX3_dayGoes_116 : decode cX3_dayGoes 116 = .ok (.return_, 1) := dk_177 (dk_at dksX3_dayGoes_5 0 rfl rfl)
abbrev cX3_draw : ByteArray := prog_6_method_4_code
def yX3_draw : MethodName := ⟨RX3, "draw", "()I"⟩
def dkwX3_draw_1 : List UInt8 := [16, 10, 112, 172]
abbrev dktX3_draw_1 : List UInt8 := dkwX3_draw_1 ++ []
def dkwX3_draw_0 : List UInt8 := [42, 17, 98, 85, 42, 180, 0, 40, 104, 17, 54, 25, 96, 18, 47, 112, 181, 0, 40, 42, 180, 0, 40]
abbrev dktX3_draw_0 : List UInt8 := dkwX3_draw_0 ++ dktX3_draw_1
theorem dksX3_draw_0 : cX3_draw.data.toList.drop 0 = dktX3_draw_0 := by decide +kernel
theorem dksX3_draw_1 : cX3_draw.data.toList.drop 23 = dktX3_draw_1 := dk_seg dksX3_draw_0 23 rfl rfl
theorem dX3_draw_0 : decode cX3_draw 0 = .ok (.aload_n 0, 1) := dk_42 (dk_at dksX3_draw_0 0 rfl rfl)
theorem dX3_draw_1 : decode cX3_draw 1 = .ok (.sipush 25173, 3) := dk_17 98 85 (dk_at dksX3_draw_0 1 rfl rfl)
theorem dX3_draw_4 : decode cX3_draw 4 = .ok (.aload_n 0, 1) := dk_42 (dk_at dksX3_draw_0 4 rfl rfl)
theorem dX3_draw_5 : decode cX3_draw 5 = .ok (.getfield 40, 3) := dk_180 0 40 (dk_at dksX3_draw_0 5 rfl rfl)
theorem dX3_draw_8 : decode cX3_draw 8 = .ok (.imul, 1) := dk_104 (dk_at dksX3_draw_0 8 rfl rfl)
theorem dX3_draw_9 : decode cX3_draw 9 = .ok (.sipush 13849, 3) := dk_17 54 25 (dk_at dksX3_draw_0 9 rfl rfl)
theorem dX3_draw_12 : decode cX3_draw 12 = .ok (.iadd, 1) := dk_96 (dk_at dksX3_draw_0 12 rfl rfl)
theorem dX3_draw_13 : decode cX3_draw 13 = .ok (.ldc 47, 2) := dk_18 47 (dk_at dksX3_draw_0 13 rfl rfl)
theorem dX3_draw_15 : decode cX3_draw 15 = .ok (.irem, 1) := dk_112 (dk_at dksX3_draw_0 15 rfl rfl)
theorem dX3_draw_16 : decode cX3_draw 16 = .ok (.putfield 40, 3) := dk_181 0 40 (dk_at dksX3_draw_0 16 rfl rfl)
theorem dX3_draw_19 : decode cX3_draw 19 = .ok (.aload_n 0, 1) := dk_42 (dk_at dksX3_draw_0 19 rfl rfl)
theorem dX3_draw_20 : decode cX3_draw 20 = .ok (.getfield 40, 3) := dk_180 0 40 (dk_at dksX3_draw_0 20 rfl rfl)
theorem dX3_draw_23 : decode cX3_draw 23 = .ok (.bipush 10, 2) := dk_16 10 (dk_at dksX3_draw_1 0 rfl rfl)
theorem dX3_draw_25 : decode cX3_draw 25 = .ok (.irem, 1) := dk_112 (dk_at dksX3_draw_1 2 rfl rfl)
theorem dX3_draw_26 : decode cX3_draw 26 = .ok (.ireturn, 1) := dk_172 (dk_at dksX3_draw_1 3 rfl rfl)
abbrev cX3_waters : ByteArray := prog_6_method_7_code
def yX3_waters : MethodName := ⟨RX3, "waters", "(II)V"⟩
def dkwX3_waters_3 : List UInt8 := [28, 50, 42, 180, 0, 36, 181, 0, 51, 177]
abbrev dktX3_waters_3 : List UInt8 := dkwX3_waters_3 ++ []
def dkwX3_waters_2 : List UInt8 := [180, 0, 122, 29, 96, 181, 0, 122, 42, 180, 0, 17, 28, 50, 180, 0, 48, 153, 0, 16, 42, 180, 0, 17]
abbrev dktX3_waters_2 : List UInt8 := dkwX3_waters_2 ++ dktX3_waters_3
def dkwX3_waters_1 : List UInt8 := [182, 0, 119, 96, 181, 0, 116, 42, 180, 0, 23, 27, 50, 89, 180, 0, 99, 29, 96, 181, 0, 99, 42, 89]
abbrev dktX3_waters_1 : List UInt8 := dkwX3_waters_1 ++ dktX3_waters_2
def dkwX3_waters_0 : List UInt8 := [42, 27, 28, 182, 0, 112, 62, 29, 154, 0, 4, 177, 42, 89, 180, 0, 116, 42, 180, 0, 17, 28, 50, 29]
abbrev dktX3_waters_0 : List UInt8 := dkwX3_waters_0 ++ dktX3_waters_1
theorem dksX3_waters_0 : cX3_waters.data.toList.drop 0 = dktX3_waters_0 := by decide +kernel
theorem dksX3_waters_1 : cX3_waters.data.toList.drop 24 = dktX3_waters_1 := dk_seg dksX3_waters_0 24 rfl rfl
theorem dksX3_waters_2 : cX3_waters.data.toList.drop 48 = dktX3_waters_2 := dk_seg dksX3_waters_1 24 rfl rfl
theorem dksX3_waters_3 : cX3_waters.data.toList.drop 72 = dktX3_waters_3 := dk_seg dksX3_waters_2 24 rfl rfl
theorem dX3_waters_0 : decode cX3_waters 0 = .ok (.aload_n 0, 1) := dk_42 (dk_at dksX3_waters_0 0 rfl rfl)
theorem dX3_waters_1 : decode cX3_waters 1 = .ok (.iload_n 1, 1) := dk_27 (dk_at dksX3_waters_0 1 rfl rfl)
theorem dX3_waters_2 : decode cX3_waters 2 = .ok (.iload_n 2, 1) := dk_28 (dk_at dksX3_waters_0 2 rfl rfl)
theorem dX3_waters_3 : decode cX3_waters 3 = .ok (.invokevirtual 112, 3) := dk_182 0 112 (dk_at dksX3_waters_0 3 rfl rfl)
theorem dX3_waters_6 : decode cX3_waters 6 = .ok (.istore_n 3, 1) := dk_62 (dk_at dksX3_waters_0 6 rfl rfl)
theorem dX3_waters_7 : decode cX3_waters 7 = .ok (.iload_n 3, 1) := dk_29 (dk_at dksX3_waters_0 7 rfl rfl)
theorem dX3_waters_8 : decode cX3_waters 8 = .ok (.ifCond .ne 4, 3) := dk_154 0 4 (dk_at dksX3_waters_0 8 rfl rfl)
theorem dX3_waters_11 : decode cX3_waters 11 = .ok (.return_, 1) := dk_177 (dk_at dksX3_waters_0 11 rfl rfl)
theorem dX3_waters_12 : decode cX3_waters 12 = .ok (.aload_n 0, 1) := dk_42 (dk_at dksX3_waters_0 12 rfl rfl)
theorem dX3_waters_13 : decode cX3_waters 13 = .ok (.dup, 1) := dk_89 (dk_at dksX3_waters_0 13 rfl rfl)
theorem dX3_waters_14 : decode cX3_waters 14 = .ok (.getfield 116, 3) := dk_180 0 116 (dk_at dksX3_waters_0 14 rfl rfl)
theorem dX3_waters_17 : decode cX3_waters 17 = .ok (.aload_n 0, 1) := dk_42 (dk_at dksX3_waters_0 17 rfl rfl)
theorem dX3_waters_18 : decode cX3_waters 18 = .ok (.getfield 17, 3) := dk_180 0 17 (dk_at dksX3_waters_0 18 rfl rfl)
theorem dX3_waters_21 : decode cX3_waters 21 = .ok (.iload_n 2, 1) := dk_28 (dk_at dksX3_waters_0 21 rfl rfl)
theorem dX3_waters_22 : decode cX3_waters 22 = .ok (.aaload, 1) := dk_50 (dk_at dksX3_waters_0 22 rfl rfl)
theorem dX3_waters_23 : decode cX3_waters 23 = .ok (.iload_n 3, 1) := dk_29 (dk_at dksX3_waters_0 23 rfl rfl)
theorem dX3_waters_24 : decode cX3_waters 24 = .ok (.invokevirtual 119, 3) := dk_182 0 119 (dk_at dksX3_waters_1 0 rfl rfl)
theorem dX3_waters_27 : decode cX3_waters 27 = .ok (.iadd, 1) := dk_96 (dk_at dksX3_waters_1 3 rfl rfl)
theorem dX3_waters_28 : decode cX3_waters 28 = .ok (.putfield 116, 3) := dk_181 0 116 (dk_at dksX3_waters_1 4 rfl rfl)
theorem dX3_waters_31 : decode cX3_waters 31 = .ok (.aload_n 0, 1) := dk_42 (dk_at dksX3_waters_1 7 rfl rfl)
theorem dX3_waters_32 : decode cX3_waters 32 = .ok (.getfield 23, 3) := dk_180 0 23 (dk_at dksX3_waters_1 8 rfl rfl)
theorem dX3_waters_35 : decode cX3_waters 35 = .ok (.iload_n 1, 1) := dk_27 (dk_at dksX3_waters_1 11 rfl rfl)
theorem dX3_waters_36 : decode cX3_waters 36 = .ok (.aaload, 1) := dk_50 (dk_at dksX3_waters_1 12 rfl rfl)
theorem dX3_waters_37 : decode cX3_waters 37 = .ok (.dup, 1) := dk_89 (dk_at dksX3_waters_1 13 rfl rfl)
theorem dX3_waters_38 : decode cX3_waters 38 = .ok (.getfield 99, 3) := dk_180 0 99 (dk_at dksX3_waters_1 14 rfl rfl)
theorem dX3_waters_41 : decode cX3_waters 41 = .ok (.iload_n 3, 1) := dk_29 (dk_at dksX3_waters_1 17 rfl rfl)
theorem dX3_waters_42 : decode cX3_waters 42 = .ok (.iadd, 1) := dk_96 (dk_at dksX3_waters_1 18 rfl rfl)
theorem dX3_waters_43 : decode cX3_waters 43 = .ok (.putfield 99, 3) := dk_181 0 99 (dk_at dksX3_waters_1 19 rfl rfl)
theorem dX3_waters_46 : decode cX3_waters 46 = .ok (.aload_n 0, 1) := dk_42 (dk_at dksX3_waters_1 22 rfl rfl)
theorem dX3_waters_47 : decode cX3_waters 47 = .ok (.dup, 1) := dk_89 (dk_at dksX3_waters_1 23 rfl rfl)
theorem dX3_waters_48 : decode cX3_waters 48 = .ok (.getfield 122, 3) := dk_180 0 122 (dk_at dksX3_waters_2 0 rfl rfl)
theorem dX3_waters_51 : decode cX3_waters 51 = .ok (.iload_n 3, 1) := dk_29 (dk_at dksX3_waters_2 3 rfl rfl)
theorem dX3_waters_52 : decode cX3_waters 52 = .ok (.iadd, 1) := dk_96 (dk_at dksX3_waters_2 4 rfl rfl)
theorem dX3_waters_53 : decode cX3_waters 53 = .ok (.putfield 122, 3) := dk_181 0 122 (dk_at dksX3_waters_2 5 rfl rfl)
theorem dX3_waters_56 : decode cX3_waters 56 = .ok (.aload_n 0, 1) := dk_42 (dk_at dksX3_waters_2 8 rfl rfl)
theorem dX3_waters_57 : decode cX3_waters 57 = .ok (.getfield 17, 3) := dk_180 0 17 (dk_at dksX3_waters_2 9 rfl rfl)
theorem dX3_waters_60 : decode cX3_waters 60 = .ok (.iload_n 2, 1) := dk_28 (dk_at dksX3_waters_2 12 rfl rfl)
theorem dX3_waters_61 : decode cX3_waters 61 = .ok (.aaload, 1) := dk_50 (dk_at dksX3_waters_2 13 rfl rfl)
theorem dX3_waters_62 : decode cX3_waters 62 = .ok (.getfield 48, 3) := dk_180 0 48 (dk_at dksX3_waters_2 14 rfl rfl)
theorem dX3_waters_65 : decode cX3_waters 65 = .ok (.ifCond .eq 16, 3) := dk_153 0 16 (dk_at dksX3_waters_2 17 rfl rfl)
theorem dX3_waters_68 : decode cX3_waters 68 = .ok (.aload_n 0, 1) := dk_42 (dk_at dksX3_waters_2 20 rfl rfl)
theorem dX3_waters_69 : decode cX3_waters 69 = .ok (.getfield 17, 3) := dk_180 0 17 (dk_at dksX3_waters_2 21 rfl rfl)
theorem dX3_waters_72 : decode cX3_waters 72 = .ok (.iload_n 2, 1) := dk_28 (dk_at dksX3_waters_3 0 rfl rfl)
theorem dX3_waters_73 : decode cX3_waters 73 = .ok (.aaload, 1) := dk_50 (dk_at dksX3_waters_3 1 rfl rfl)
theorem dX3_waters_74 : decode cX3_waters 74 = .ok (.aload_n 0, 1) := dk_42 (dk_at dksX3_waters_3 2 rfl rfl)
theorem dX3_waters_75 : decode cX3_waters 75 = .ok (.getfield 36, 3) := dk_180 0 36 (dk_at dksX3_waters_3 3 rfl rfl)
theorem dX3_waters_78 : decode cX3_waters 78 = .ok (.putfield 51, 3) := dk_181 0 51 (dk_at dksX3_waters_3 6 rfl rfl)
theorem dX3_waters_81 : decode cX3_waters 81 = .ok (.return_, 1) := dk_177 (dk_at dksX3_waters_3 9 rfl rfl)
abbrev cX3_givesTo : ByteArray := prog_6_method_6_code
def yX3_givesTo : MethodName := ⟨RX3, "givesTo", "(II)I"⟩
def dkwX3_givesTo_2 : List UInt8 := [27, 50, 180, 0, 106, 182, 0, 109, 172]
abbrev dktX3_givesTo_2 : List UInt8 := dkwX3_givesTo_2 ++ []
def dkwX3_givesTo_1 : List UInt8 := [180, 0, 23, 27, 50, 180, 0, 96, 42, 180, 0, 23, 27, 50, 180, 0, 99, 182, 0, 102, 42, 180, 0, 23]
abbrev dktX3_givesTo_1 : List UInt8 := dkwX3_givesTo_1 ++ dktX3_givesTo_2
def dkwX3_givesTo_0 : List UInt8 := [42, 180, 0, 17, 28, 50, 182, 0, 88, 153, 0, 7, 3, 167, 0, 42, 42, 28, 182, 0, 92, 27, 42]
abbrev dktX3_givesTo_0 : List UInt8 := dkwX3_givesTo_0 ++ dktX3_givesTo_1
theorem dksX3_givesTo_0 : cX3_givesTo.data.toList.drop 0 = dktX3_givesTo_0 := by decide +kernel
theorem dksX3_givesTo_1 : cX3_givesTo.data.toList.drop 23 = dktX3_givesTo_1 := dk_seg dksX3_givesTo_0 23 rfl rfl
theorem dksX3_givesTo_2 : cX3_givesTo.data.toList.drop 47 = dktX3_givesTo_2 := dk_seg dksX3_givesTo_1 24 rfl rfl
theorem dX3_givesTo_0 : decode cX3_givesTo 0 = .ok (.aload_n 0, 1) := dk_42 (dk_at dksX3_givesTo_0 0 rfl rfl)
theorem dX3_givesTo_1 : decode cX3_givesTo 1 = .ok (.getfield 17, 3) := dk_180 0 17 (dk_at dksX3_givesTo_0 1 rfl rfl)
theorem dX3_givesTo_4 : decode cX3_givesTo 4 = .ok (.iload_n 2, 1) := dk_28 (dk_at dksX3_givesTo_0 4 rfl rfl)
theorem dX3_givesTo_5 : decode cX3_givesTo 5 = .ok (.aaload, 1) := dk_50 (dk_at dksX3_givesTo_0 5 rfl rfl)
theorem dX3_givesTo_6 : decode cX3_givesTo 6 = .ok (.invokevirtual 88, 3) := dk_182 0 88 (dk_at dksX3_givesTo_0 6 rfl rfl)
theorem dX3_givesTo_9 : decode cX3_givesTo 9 = .ok (.ifCond .eq 7, 3) := dk_153 0 7 (dk_at dksX3_givesTo_0 9 rfl rfl)
theorem dX3_givesTo_12 : decode cX3_givesTo 12 = .ok (.iconst 0, 1) := dk_3 (dk_at dksX3_givesTo_0 12 rfl rfl)
theorem dX3_givesTo_13 : decode cX3_givesTo 13 = .ok (.goto 42, 3) := dk_167 0 42 (dk_at dksX3_givesTo_0 13 rfl rfl)
theorem dX3_givesTo_16 : decode cX3_givesTo 16 = .ok (.aload_n 0, 1) := dk_42 (dk_at dksX3_givesTo_0 16 rfl rfl)
theorem dX3_givesTo_17 : decode cX3_givesTo 17 = .ok (.iload_n 2, 1) := dk_28 (dk_at dksX3_givesTo_0 17 rfl rfl)
theorem dX3_givesTo_18 : decode cX3_givesTo 18 = .ok (.invokevirtual 92, 3) := dk_182 0 92 (dk_at dksX3_givesTo_0 18 rfl rfl)
theorem dX3_givesTo_21 : decode cX3_givesTo 21 = .ok (.iload_n 1, 1) := dk_27 (dk_at dksX3_givesTo_0 21 rfl rfl)
theorem dX3_givesTo_22 : decode cX3_givesTo 22 = .ok (.aload_n 0, 1) := dk_42 (dk_at dksX3_givesTo_0 22 rfl rfl)
theorem dX3_givesTo_23 : decode cX3_givesTo 23 = .ok (.getfield 23, 3) := dk_180 0 23 (dk_at dksX3_givesTo_1 0 rfl rfl)
theorem dX3_givesTo_26 : decode cX3_givesTo 26 = .ok (.iload_n 1, 1) := dk_27 (dk_at dksX3_givesTo_1 3 rfl rfl)
theorem dX3_givesTo_27 : decode cX3_givesTo 27 = .ok (.aaload, 1) := dk_50 (dk_at dksX3_givesTo_1 4 rfl rfl)
theorem dX3_givesTo_28 : decode cX3_givesTo 28 = .ok (.getfield 96, 3) := dk_180 0 96 (dk_at dksX3_givesTo_1 5 rfl rfl)
theorem dX3_givesTo_31 : decode cX3_givesTo 31 = .ok (.aload_n 0, 1) := dk_42 (dk_at dksX3_givesTo_1 8 rfl rfl)
theorem dX3_givesTo_32 : decode cX3_givesTo 32 = .ok (.getfield 23, 3) := dk_180 0 23 (dk_at dksX3_givesTo_1 9 rfl rfl)
theorem dX3_givesTo_35 : decode cX3_givesTo 35 = .ok (.iload_n 1, 1) := dk_27 (dk_at dksX3_givesTo_1 12 rfl rfl)
theorem dX3_givesTo_36 : decode cX3_givesTo 36 = .ok (.aaload, 1) := dk_50 (dk_at dksX3_givesTo_1 13 rfl rfl)
theorem dX3_givesTo_37 : decode cX3_givesTo 37 = .ok (.getfield 99, 3) := dk_180 0 99 (dk_at dksX3_givesTo_1 14 rfl rfl)
theorem dX3_givesTo_40 : decode cX3_givesTo 40 = .ok (.invokevirtual 102, 3) := dk_182 0 102 (dk_at dksX3_givesTo_1 17 rfl rfl)
theorem dX3_givesTo_43 : decode cX3_givesTo 43 = .ok (.aload_n 0, 1) := dk_42 (dk_at dksX3_givesTo_1 20 rfl rfl)
theorem dX3_givesTo_44 : decode cX3_givesTo 44 = .ok (.getfield 23, 3) := dk_180 0 23 (dk_at dksX3_givesTo_1 21 rfl rfl)
theorem dX3_givesTo_47 : decode cX3_givesTo 47 = .ok (.iload_n 1, 1) := dk_27 (dk_at dksX3_givesTo_2 0 rfl rfl)
theorem dX3_givesTo_48 : decode cX3_givesTo 48 = .ok (.aaload, 1) := dk_50 (dk_at dksX3_givesTo_2 1 rfl rfl)
theorem dX3_givesTo_49 : decode cX3_givesTo 49 = .ok (.getfield 106, 3) := dk_180 0 106 (dk_at dksX3_givesTo_2 2 rfl rfl)
theorem dX3_givesTo_52 : decode cX3_givesTo 52 = .ok (.invokevirtual 109, 3) := dk_182 0 109 (dk_at dksX3_givesTo_2 5 rfl rfl)
theorem dX3_givesTo_55 : decode cX3_givesTo 55 = .ok (.ireturn, 1) := dk_172 (dk_at dksX3_givesTo_2 8 rfl rfl)
abbrev cX3_at : ByteArray := prog_6_method_5_code
def yX3_at : MethodName := ⟨RX3, "at", "(I)LLandingTree$Moment;"⟩
def dkwX3_at_3 : List UInt8 := [180, 0, 78, 44, 180, 0, 81, 29, 182, 0, 84, 176]
abbrev dktX3_at_3 : List UInt8 := dkwX3_at_3 ++ []
def dkwX3_at_2 : List UInt8 := [42, 182, 0, 58, 182, 0, 62, 27, 44, 180, 0, 68, 44, 180, 0, 71, 44, 16, 6, 182, 0, 74, 44]
abbrev dktX3_at_2 : List UInt8 := dkwX3_at_2 ++ dktX3_at_3
def dkwX3_at_1 : List UInt8 := [167, 0, 12, 42, 180, 0, 36, 44, 180, 0, 51, 100, 62, 42, 180, 0, 3, 180, 0, 54, 42, 180, 0, 36]
abbrev dktX3_at_1 : List UInt8 := dkwX3_at_1 ++ dktX3_at_2
def dkwX3_at_0 : List UInt8 := [42, 180, 0, 17, 27, 50, 77, 44, 180, 0, 48, 153, 0, 11, 44, 180, 0, 51, 2, 160, 0, 8, 16, 99]
abbrev dktX3_at_0 : List UInt8 := dkwX3_at_0 ++ dktX3_at_1
theorem dksX3_at_0 : cX3_at.data.toList.drop 0 = dktX3_at_0 := by decide +kernel
theorem dksX3_at_1 : cX3_at.data.toList.drop 24 = dktX3_at_1 := dk_seg dksX3_at_0 24 rfl rfl
theorem dksX3_at_2 : cX3_at.data.toList.drop 48 = dktX3_at_2 := dk_seg dksX3_at_1 24 rfl rfl
theorem dksX3_at_3 : cX3_at.data.toList.drop 71 = dktX3_at_3 := dk_seg dksX3_at_2 23 rfl rfl
theorem dX3_at_0 : decode cX3_at 0 = .ok (.aload_n 0, 1) := dk_42 (dk_at dksX3_at_0 0 rfl rfl)
theorem dX3_at_1 : decode cX3_at 1 = .ok (.getfield 17, 3) := dk_180 0 17 (dk_at dksX3_at_0 1 rfl rfl)
theorem dX3_at_4 : decode cX3_at 4 = .ok (.iload_n 1, 1) := dk_27 (dk_at dksX3_at_0 4 rfl rfl)
theorem dX3_at_5 : decode cX3_at 5 = .ok (.aaload, 1) := dk_50 (dk_at dksX3_at_0 5 rfl rfl)
theorem dX3_at_6 : decode cX3_at 6 = .ok (.astore_n 2, 1) := dk_77 (dk_at dksX3_at_0 6 rfl rfl)
theorem dX3_at_7 : decode cX3_at 7 = .ok (.aload_n 2, 1) := dk_44 (dk_at dksX3_at_0 7 rfl rfl)
theorem dX3_at_8 : decode cX3_at 8 = .ok (.getfield 48, 3) := dk_180 0 48 (dk_at dksX3_at_0 8 rfl rfl)
theorem dX3_at_11 : decode cX3_at 11 = .ok (.ifCond .eq 11, 3) := dk_153 0 11 (dk_at dksX3_at_0 11 rfl rfl)
theorem dX3_at_14 : decode cX3_at 14 = .ok (.aload_n 2, 1) := dk_44 (dk_at dksX3_at_0 14 rfl rfl)
theorem dX3_at_15 : decode cX3_at 15 = .ok (.getfield 51, 3) := dk_180 0 51 (dk_at dksX3_at_0 15 rfl rfl)
theorem dX3_at_18 : decode cX3_at 18 = .ok (.iconst (-1), 1) := dk_2 (dk_at dksX3_at_0 18 rfl rfl)
theorem dX3_at_19 : decode cX3_at 19 = .ok (.if_icmp .ne 8, 3) := dk_160 0 8 (dk_at dksX3_at_0 19 rfl rfl)
theorem dX3_at_22 : decode cX3_at 22 = .ok (.bipush 99, 2) := dk_16 99 (dk_at dksX3_at_0 22 rfl rfl)
theorem dX3_at_24 : decode cX3_at 24 = .ok (.goto 12, 3) := dk_167 0 12 (dk_at dksX3_at_1 0 rfl rfl)
theorem dX3_at_27 : decode cX3_at 27 = .ok (.aload_n 0, 1) := dk_42 (dk_at dksX3_at_1 3 rfl rfl)
theorem dX3_at_28 : decode cX3_at 28 = .ok (.getfield 36, 3) := dk_180 0 36 (dk_at dksX3_at_1 4 rfl rfl)
theorem dX3_at_31 : decode cX3_at 31 = .ok (.aload_n 2, 1) := dk_44 (dk_at dksX3_at_1 7 rfl rfl)
theorem dX3_at_32 : decode cX3_at 32 = .ok (.getfield 51, 3) := dk_180 0 51 (dk_at dksX3_at_1 8 rfl rfl)
theorem dX3_at_35 : decode cX3_at 35 = .ok (.isub, 1) := dk_100 (dk_at dksX3_at_1 11 rfl rfl)
theorem dX3_at_36 : decode cX3_at 36 = .ok (.istore_n 3, 1) := dk_62 (dk_at dksX3_at_1 12 rfl rfl)
theorem dX3_at_37 : decode cX3_at 37 = .ok (.aload_n 0, 1) := dk_42 (dk_at dksX3_at_1 13 rfl rfl)
theorem dX3_at_38 : decode cX3_at 38 = .ok (.getfield 3, 3) := dk_180 0 3 (dk_at dksX3_at_1 14 rfl rfl)
theorem dX3_at_41 : decode cX3_at 41 = .ok (.getfield 54, 3) := dk_180 0 54 (dk_at dksX3_at_1 17 rfl rfl)
theorem dX3_at_44 : decode cX3_at 44 = .ok (.aload_n 0, 1) := dk_42 (dk_at dksX3_at_1 20 rfl rfl)
theorem dX3_at_45 : decode cX3_at 45 = .ok (.getfield 36, 3) := dk_180 0 36 (dk_at dksX3_at_1 21 rfl rfl)
theorem dX3_at_48 : decode cX3_at 48 = .ok (.aload_n 0, 1) := dk_42 (dk_at dksX3_at_2 0 rfl rfl)
theorem dX3_at_49 : decode cX3_at 49 = .ok (.invokevirtual 58, 3) := dk_182 0 58 (dk_at dksX3_at_2 1 rfl rfl)
theorem dX3_at_52 : decode cX3_at 52 = .ok (.invokevirtual 62, 3) := dk_182 0 62 (dk_at dksX3_at_2 4 rfl rfl)
theorem dX3_at_55 : decode cX3_at 55 = .ok (.iload_n 1, 1) := dk_27 (dk_at dksX3_at_2 7 rfl rfl)
theorem dX3_at_56 : decode cX3_at 56 = .ok (.aload_n 2, 1) := dk_44 (dk_at dksX3_at_2 8 rfl rfl)
theorem dX3_at_57 : decode cX3_at 57 = .ok (.getfield 68, 3) := dk_180 0 68 (dk_at dksX3_at_2 9 rfl rfl)
theorem dX3_at_60 : decode cX3_at 60 = .ok (.aload_n 2, 1) := dk_44 (dk_at dksX3_at_2 12 rfl rfl)
theorem dX3_at_61 : decode cX3_at 61 = .ok (.getfield 71, 3) := dk_180 0 71 (dk_at dksX3_at_2 13 rfl rfl)
theorem dX3_at_64 : decode cX3_at 64 = .ok (.aload_n 2, 1) := dk_44 (dk_at dksX3_at_2 16 rfl rfl)
theorem dX3_at_65 : decode cX3_at 65 = .ok (.bipush 6, 2) := dk_16 6 (dk_at dksX3_at_2 17 rfl rfl)
theorem dX3_at_67 : decode cX3_at 67 = .ok (.invokevirtual 74, 3) := dk_182 0 74 (dk_at dksX3_at_2 19 rfl rfl)
theorem dX3_at_70 : decode cX3_at 70 = .ok (.aload_n 2, 1) := dk_44 (dk_at dksX3_at_2 22 rfl rfl)
theorem dX3_at_71 : decode cX3_at 71 = .ok (.getfield 78, 3) := dk_180 0 78 (dk_at dksX3_at_3 0 rfl rfl)
theorem dX3_at_74 : decode cX3_at 74 = .ok (.aload_n 2, 1) := dk_44 (dk_at dksX3_at_3 3 rfl rfl)
theorem dX3_at_75 : decode cX3_at 75 = .ok (.getfield 81, 3) := dk_180 0 81 (dk_at dksX3_at_3 4 rfl rfl)
theorem dX3_at_78 : decode cX3_at 78 = .ok (.iload_n 3, 1) := dk_29 (dk_at dksX3_at_3 7 rfl rfl)
theorem dX3_at_79 : decode cX3_at 79 = .ok (.invokevirtual 84, 3) := dk_182 0 84 (dk_at dksX3_at_3 8 rfl rfl)
theorem dX3_at_82 : decode cX3_at 82 = .ok (.areturn, 1) := dk_176 (dk_at dksX3_at_3 11 rfl rfl)
abbrev cX3_toldPeople : ByteArray := prog_6_method_3_code
def yX3_toldPeople : MethodName := ⟨RX3, "toldPeople", "()I"⟩
def dkwX3_toldPeople_2 : List UInt8 := [27, 172]
abbrev dktX3_toldPeople_2 : List UInt8 := dkwX3_toldPeople_2 ++ []
def dkwX3_toldPeople_1 : List UInt8 := [58, 5, 27, 25, 5, 180, 0, 43, 153, 0, 7, 4, 167, 0, 4, 3, 96, 60, 132, 4, 1, 167, 255, 225]
abbrev dktX3_toldPeople_1 : List UInt8 := dkwX3_toldPeople_1 ++ dktX3_toldPeople_2
def dkwX3_toldPeople_0 : List UInt8 := [3, 60, 42, 180, 0, 23, 77, 44, 190, 62, 3, 54, 4, 21, 4, 29, 162, 0, 31, 44, 21, 4, 50]
abbrev dktX3_toldPeople_0 : List UInt8 := dkwX3_toldPeople_0 ++ dktX3_toldPeople_1
theorem dksX3_toldPeople_0 : cX3_toldPeople.data.toList.drop 0 = dktX3_toldPeople_0 := by decide +kernel
theorem dksX3_toldPeople_1 : cX3_toldPeople.data.toList.drop 23 = dktX3_toldPeople_1 := dk_seg dksX3_toldPeople_0 23 rfl rfl
theorem dksX3_toldPeople_2 : cX3_toldPeople.data.toList.drop 47 = dktX3_toldPeople_2 := dk_seg dksX3_toldPeople_1 24 rfl rfl
theorem dX3_toldPeople_0 : decode cX3_toldPeople 0 = .ok (.iconst 0, 1) := dk_3 (dk_at dksX3_toldPeople_0 0 rfl rfl)
theorem dX3_toldPeople_1 : decode cX3_toldPeople 1 = .ok (.istore_n 1, 1) := dk_60 (dk_at dksX3_toldPeople_0 1 rfl rfl)
theorem dX3_toldPeople_2 : decode cX3_toldPeople 2 = .ok (.aload_n 0, 1) := dk_42 (dk_at dksX3_toldPeople_0 2 rfl rfl)
theorem dX3_toldPeople_3 : decode cX3_toldPeople 3 = .ok (.getfield 23, 3) := dk_180 0 23 (dk_at dksX3_toldPeople_0 3 rfl rfl)
theorem dX3_toldPeople_6 : decode cX3_toldPeople 6 = .ok (.astore_n 2, 1) := dk_77 (dk_at dksX3_toldPeople_0 6 rfl rfl)
theorem dX3_toldPeople_7 : decode cX3_toldPeople 7 = .ok (.aload_n 2, 1) := dk_44 (dk_at dksX3_toldPeople_0 7 rfl rfl)
theorem dX3_toldPeople_8 : decode cX3_toldPeople 8 = .ok (.arraylength, 1) := dk_190 (dk_at dksX3_toldPeople_0 8 rfl rfl)
theorem dX3_toldPeople_9 : decode cX3_toldPeople 9 = .ok (.istore_n 3, 1) := dk_62 (dk_at dksX3_toldPeople_0 9 rfl rfl)
theorem dX3_toldPeople_10 : decode cX3_toldPeople 10 = .ok (.iconst 0, 1) := dk_3 (dk_at dksX3_toldPeople_0 10 rfl rfl)
theorem dX3_toldPeople_11 : decode cX3_toldPeople 11 = .ok (.istore 4, 2) := dk_54 4 (dk_at dksX3_toldPeople_0 11 rfl rfl)
theorem dX3_toldPeople_13 : decode cX3_toldPeople 13 = .ok (.iload 4, 2) := dk_21 4 (dk_at dksX3_toldPeople_0 13 rfl rfl)
theorem dX3_toldPeople_15 : decode cX3_toldPeople 15 = .ok (.iload_n 3, 1) := dk_29 (dk_at dksX3_toldPeople_0 15 rfl rfl)
theorem dX3_toldPeople_16 : decode cX3_toldPeople 16 = .ok (.if_icmp .ge 31, 3) := dk_162 0 31 (dk_at dksX3_toldPeople_0 16 rfl rfl)
theorem dX3_toldPeople_19 : decode cX3_toldPeople 19 = .ok (.aload_n 2, 1) := dk_44 (dk_at dksX3_toldPeople_0 19 rfl rfl)
theorem dX3_toldPeople_20 : decode cX3_toldPeople 20 = .ok (.iload 4, 2) := dk_21 4 (dk_at dksX3_toldPeople_0 20 rfl rfl)
theorem dX3_toldPeople_22 : decode cX3_toldPeople 22 = .ok (.aaload, 1) := dk_50 (dk_at dksX3_toldPeople_0 22 rfl rfl)
theorem dX3_toldPeople_23 : decode cX3_toldPeople 23 = .ok (.astore 5, 2) := dk_58 5 (dk_at dksX3_toldPeople_1 0 rfl rfl)
theorem dX3_toldPeople_25 : decode cX3_toldPeople 25 = .ok (.iload_n 1, 1) := dk_27 (dk_at dksX3_toldPeople_1 2 rfl rfl)
theorem dX3_toldPeople_26 : decode cX3_toldPeople 26 = .ok (.aload 5, 2) := dk_25 5 (dk_at dksX3_toldPeople_1 3 rfl rfl)
theorem dX3_toldPeople_28 : decode cX3_toldPeople 28 = .ok (.getfield 43, 3) := dk_180 0 43 (dk_at dksX3_toldPeople_1 5 rfl rfl)
theorem dX3_toldPeople_31 : decode cX3_toldPeople 31 = .ok (.ifCond .eq 7, 3) := dk_153 0 7 (dk_at dksX3_toldPeople_1 8 rfl rfl)
theorem dX3_toldPeople_34 : decode cX3_toldPeople 34 = .ok (.iconst 1, 1) := dk_4 (dk_at dksX3_toldPeople_1 11 rfl rfl)
theorem dX3_toldPeople_35 : decode cX3_toldPeople 35 = .ok (.goto 4, 3) := dk_167 0 4 (dk_at dksX3_toldPeople_1 12 rfl rfl)
theorem dX3_toldPeople_38 : decode cX3_toldPeople 38 = .ok (.iconst 0, 1) := dk_3 (dk_at dksX3_toldPeople_1 15 rfl rfl)
theorem dX3_toldPeople_39 : decode cX3_toldPeople 39 = .ok (.iadd, 1) := dk_96 (dk_at dksX3_toldPeople_1 16 rfl rfl)
theorem dX3_toldPeople_40 : decode cX3_toldPeople 40 = .ok (.istore_n 1, 1) := dk_60 (dk_at dksX3_toldPeople_1 17 rfl rfl)
theorem dX3_toldPeople_41 : decode cX3_toldPeople 41 = .ok (.iinc 4 1, 3) := dk_132 4 1 (dk_at dksX3_toldPeople_1 18 rfl rfl)
theorem dX3_toldPeople_44 : decode cX3_toldPeople 44 = .ok (.goto (-31), 3) := dk_167 255 225 (dk_at dksX3_toldPeople_1 21 rfl rfl)
theorem dX3_toldPeople_47 : decode cX3_toldPeople 47 = .ok (.iload_n 1, 1) := dk_27 (dk_at dksX3_toldPeople_2 0 rfl rfl)
theorem dX3_toldPeople_48 : decode cX3_toldPeople 48 = .ok (.ireturn, 1) := dk_172 (dk_at dksX3_toldPeople_2 1 rfl rfl)
abbrev cX3_dayEnds : ByteArray := prog_6_method_8_code
def yX3_dayEnds : MethodName := ⟨RX3, "dayEnds", "(I)V"⟩
def dkwX3_dayEnds_3 : List UInt8 := [182, 0, 132, 177]
abbrev dktX3_dayEnds_3 : List UInt8 := dkwX3_dayEnds_3 ++ []
def dkwX3_dayEnds_2 : List UInt8 := [89, 180, 0, 129, 28, 153, 0, 7, 4, 167, 0, 4, 3, 96, 181, 0, 129, 42, 180, 0, 17, 27, 50, 29]
abbrev dktX3_dayEnds_2 : List UInt8 := dkwX3_dayEnds_2 ++ dktX3_dayEnds_3
def dkwX3_dayEnds_1 : List UInt8 := [182, 0, 126, 62, 28, 153, 0, 18, 29, 42, 27, 182, 0, 92, 16, 104, 16, 9, 182, 0, 126, 96, 62, 42]
abbrev dktX3_dayEnds_1 : List UInt8 := dkwX3_dayEnds_1 ++ dktX3_dayEnds_2
def dkwX3_dayEnds_0 : List UInt8 := [42, 182, 0, 123, 8, 162, 0, 7, 4, 167, 0, 4, 3, 61, 42, 27, 182, 0, 92, 16, 101, 16, 9]
abbrev dktX3_dayEnds_0 : List UInt8 := dkwX3_dayEnds_0 ++ dktX3_dayEnds_1
theorem dksX3_dayEnds_0 : cX3_dayEnds.data.toList.drop 0 = dktX3_dayEnds_0 := by decide +kernel
theorem dksX3_dayEnds_1 : cX3_dayEnds.data.toList.drop 23 = dktX3_dayEnds_1 := dk_seg dksX3_dayEnds_0 23 rfl rfl
theorem dksX3_dayEnds_2 : cX3_dayEnds.data.toList.drop 47 = dktX3_dayEnds_2 := dk_seg dksX3_dayEnds_1 24 rfl rfl
theorem dksX3_dayEnds_3 : cX3_dayEnds.data.toList.drop 71 = dktX3_dayEnds_3 := dk_seg dksX3_dayEnds_2 24 rfl rfl
theorem dX3_dayEnds_0 : decode cX3_dayEnds 0 = .ok (.aload_n 0, 1) := dk_42 (dk_at dksX3_dayEnds_0 0 rfl rfl)
theorem dX3_dayEnds_1 : decode cX3_dayEnds 1 = .ok (.invokevirtual 123, 3) := dk_182 0 123 (dk_at dksX3_dayEnds_0 1 rfl rfl)
theorem dX3_dayEnds_4 : decode cX3_dayEnds 4 = .ok (.iconst 5, 1) := dk_8 (dk_at dksX3_dayEnds_0 4 rfl rfl)
theorem dX3_dayEnds_5 : decode cX3_dayEnds 5 = .ok (.if_icmp .ge 7, 3) := dk_162 0 7 (dk_at dksX3_dayEnds_0 5 rfl rfl)
theorem dX3_dayEnds_8 : decode cX3_dayEnds 8 = .ok (.iconst 1, 1) := dk_4 (dk_at dksX3_dayEnds_0 8 rfl rfl)
theorem dX3_dayEnds_9 : decode cX3_dayEnds 9 = .ok (.goto 4, 3) := dk_167 0 4 (dk_at dksX3_dayEnds_0 9 rfl rfl)
theorem dX3_dayEnds_12 : decode cX3_dayEnds 12 = .ok (.iconst 0, 1) := dk_3 (dk_at dksX3_dayEnds_0 12 rfl rfl)
theorem dX3_dayEnds_13 : decode cX3_dayEnds 13 = .ok (.istore_n 2, 1) := dk_61 (dk_at dksX3_dayEnds_0 13 rfl rfl)
theorem dX3_dayEnds_14 : decode cX3_dayEnds 14 = .ok (.aload_n 0, 1) := dk_42 (dk_at dksX3_dayEnds_0 14 rfl rfl)
theorem dX3_dayEnds_15 : decode cX3_dayEnds 15 = .ok (.iload_n 1, 1) := dk_27 (dk_at dksX3_dayEnds_0 15 rfl rfl)
theorem dX3_dayEnds_16 : decode cX3_dayEnds 16 = .ok (.invokevirtual 92, 3) := dk_182 0 92 (dk_at dksX3_dayEnds_0 16 rfl rfl)
theorem dX3_dayEnds_19 : decode cX3_dayEnds 19 = .ok (.bipush 101, 2) := dk_16 101 (dk_at dksX3_dayEnds_0 19 rfl rfl)
theorem dX3_dayEnds_21 : decode cX3_dayEnds 21 = .ok (.bipush 9, 2) := dk_16 9 (dk_at dksX3_dayEnds_0 21 rfl rfl)
theorem dX3_dayEnds_23 : decode cX3_dayEnds 23 = .ok (.invokevirtual 126, 3) := dk_182 0 126 (dk_at dksX3_dayEnds_1 0 rfl rfl)
theorem dX3_dayEnds_26 : decode cX3_dayEnds 26 = .ok (.istore_n 3, 1) := dk_62 (dk_at dksX3_dayEnds_1 3 rfl rfl)
theorem dX3_dayEnds_27 : decode cX3_dayEnds 27 = .ok (.iload_n 2, 1) := dk_28 (dk_at dksX3_dayEnds_1 4 rfl rfl)
theorem dX3_dayEnds_28 : decode cX3_dayEnds 28 = .ok (.ifCond .eq 18, 3) := dk_153 0 18 (dk_at dksX3_dayEnds_1 5 rfl rfl)
theorem dX3_dayEnds_31 : decode cX3_dayEnds 31 = .ok (.iload_n 3, 1) := dk_29 (dk_at dksX3_dayEnds_1 8 rfl rfl)
theorem dX3_dayEnds_32 : decode cX3_dayEnds 32 = .ok (.aload_n 0, 1) := dk_42 (dk_at dksX3_dayEnds_1 9 rfl rfl)
theorem dX3_dayEnds_33 : decode cX3_dayEnds 33 = .ok (.iload_n 1, 1) := dk_27 (dk_at dksX3_dayEnds_1 10 rfl rfl)
theorem dX3_dayEnds_34 : decode cX3_dayEnds 34 = .ok (.invokevirtual 92, 3) := dk_182 0 92 (dk_at dksX3_dayEnds_1 11 rfl rfl)
theorem dX3_dayEnds_37 : decode cX3_dayEnds 37 = .ok (.bipush 104, 2) := dk_16 104 (dk_at dksX3_dayEnds_1 14 rfl rfl)
theorem dX3_dayEnds_39 : decode cX3_dayEnds 39 = .ok (.bipush 9, 2) := dk_16 9 (dk_at dksX3_dayEnds_1 16 rfl rfl)
theorem dX3_dayEnds_41 : decode cX3_dayEnds 41 = .ok (.invokevirtual 126, 3) := dk_182 0 126 (dk_at dksX3_dayEnds_1 18 rfl rfl)
theorem dX3_dayEnds_44 : decode cX3_dayEnds 44 = .ok (.iadd, 1) := dk_96 (dk_at dksX3_dayEnds_1 21 rfl rfl)
theorem dX3_dayEnds_45 : decode cX3_dayEnds 45 = .ok (.istore_n 3, 1) := dk_62 (dk_at dksX3_dayEnds_1 22 rfl rfl)
theorem dX3_dayEnds_46 : decode cX3_dayEnds 46 = .ok (.aload_n 0, 1) := dk_42 (dk_at dksX3_dayEnds_1 23 rfl rfl)
theorem dX3_dayEnds_47 : decode cX3_dayEnds 47 = .ok (.dup, 1) := dk_89 (dk_at dksX3_dayEnds_2 0 rfl rfl)
theorem dX3_dayEnds_48 : decode cX3_dayEnds 48 = .ok (.getfield 129, 3) := dk_180 0 129 (dk_at dksX3_dayEnds_2 1 rfl rfl)
theorem dX3_dayEnds_51 : decode cX3_dayEnds 51 = .ok (.iload_n 2, 1) := dk_28 (dk_at dksX3_dayEnds_2 4 rfl rfl)
theorem dX3_dayEnds_52 : decode cX3_dayEnds 52 = .ok (.ifCond .eq 7, 3) := dk_153 0 7 (dk_at dksX3_dayEnds_2 5 rfl rfl)
theorem dX3_dayEnds_55 : decode cX3_dayEnds 55 = .ok (.iconst 1, 1) := dk_4 (dk_at dksX3_dayEnds_2 8 rfl rfl)
theorem dX3_dayEnds_56 : decode cX3_dayEnds 56 = .ok (.goto 4, 3) := dk_167 0 4 (dk_at dksX3_dayEnds_2 9 rfl rfl)
theorem dX3_dayEnds_59 : decode cX3_dayEnds 59 = .ok (.iconst 0, 1) := dk_3 (dk_at dksX3_dayEnds_2 12 rfl rfl)
theorem dX3_dayEnds_60 : decode cX3_dayEnds 60 = .ok (.iadd, 1) := dk_96 (dk_at dksX3_dayEnds_2 13 rfl rfl)
theorem dX3_dayEnds_61 : decode cX3_dayEnds 61 = .ok (.putfield 129, 3) := dk_181 0 129 (dk_at dksX3_dayEnds_2 14 rfl rfl)
theorem dX3_dayEnds_64 : decode cX3_dayEnds 64 = .ok (.aload_n 0, 1) := dk_42 (dk_at dksX3_dayEnds_2 17 rfl rfl)
theorem dX3_dayEnds_65 : decode cX3_dayEnds 65 = .ok (.getfield 17, 3) := dk_180 0 17 (dk_at dksX3_dayEnds_2 18 rfl rfl)
theorem dX3_dayEnds_68 : decode cX3_dayEnds 68 = .ok (.iload_n 1, 1) := dk_27 (dk_at dksX3_dayEnds_2 21 rfl rfl)
theorem dX3_dayEnds_69 : decode cX3_dayEnds 69 = .ok (.aaload, 1) := dk_50 (dk_at dksX3_dayEnds_2 22 rfl rfl)
theorem dX3_dayEnds_70 : decode cX3_dayEnds 70 = .ok (.iload_n 3, 1) := dk_29 (dk_at dksX3_dayEnds_2 23 rfl rfl)
theorem dX3_dayEnds_71 : decode cX3_dayEnds 71 = .ok (.invokevirtual 132, 3) := dk_182 0 132 (dk_at dksX3_dayEnds_3 0 rfl rfl)
theorem dX3_dayEnds_74 : decode cX3_dayEnds 74 = .ok (.return_, 1) := dk_177 (dk_at dksX3_dayEnds_3 3 rfl rfl)
abbrev cX3_takes : ByteArray := prog_6_method_2_code
def yX3_takes : MethodName := ⟨RX3, "takes", "(LLandingTree$Landing;)LLandingTree$Landing;"⟩
def dkwX3_takes_3 : List UInt8 := [181, 0, 40, 42, 176]
abbrev dktX3_takes_3 : List UInt8 := dkwX3_takes_3 ++ []
def dkwX3_takes_2 : List UInt8 := [28, 50, 182, 0, 33, 132, 2, 1, 167, 255, 232, 42, 43, 180, 0, 36, 181, 0, 36, 42, 43, 180, 0, 40]
abbrev dktX3_takes_2 : List UInt8 := dkwX3_takes_2 ++ dktX3_takes_3
def dkwX3_takes_1 : List UInt8 := [132, 2, 1, 167, 255, 233, 3, 61, 28, 16, 8, 162, 0, 24, 42, 180, 0, 23, 28, 50, 43, 180, 0, 23]
abbrev dktX3_takes_1 : List UInt8 := dkwX3_takes_1 ++ dktX3_takes_2
def dkwX3_takes_0 : List UInt8 := [3, 61, 28, 7, 162, 0, 24, 42, 180, 0, 17, 28, 50, 43, 180, 0, 17, 28, 50, 182, 0, 29]
abbrev dktX3_takes_0 : List UInt8 := dkwX3_takes_0 ++ dktX3_takes_1
theorem dksX3_takes_0 : cX3_takes.data.toList.drop 0 = dktX3_takes_0 := by decide +kernel
theorem dksX3_takes_1 : cX3_takes.data.toList.drop 22 = dktX3_takes_1 := dk_seg dksX3_takes_0 22 rfl rfl
theorem dksX3_takes_2 : cX3_takes.data.toList.drop 46 = dktX3_takes_2 := dk_seg dksX3_takes_1 24 rfl rfl
theorem dksX3_takes_3 : cX3_takes.data.toList.drop 70 = dktX3_takes_3 := dk_seg dksX3_takes_2 24 rfl rfl
theorem dX3_takes_0 : decode cX3_takes 0 = .ok (.iconst 0, 1) := dk_3 (dk_at dksX3_takes_0 0 rfl rfl)
theorem dX3_takes_1 : decode cX3_takes 1 = .ok (.istore_n 2, 1) := dk_61 (dk_at dksX3_takes_0 1 rfl rfl)
theorem dX3_takes_2 : decode cX3_takes 2 = .ok (.iload_n 2, 1) := dk_28 (dk_at dksX3_takes_0 2 rfl rfl)
theorem dX3_takes_3 : decode cX3_takes 3 = .ok (.iconst 4, 1) := dk_7 (dk_at dksX3_takes_0 3 rfl rfl)
theorem dX3_takes_4 : decode cX3_takes 4 = .ok (.if_icmp .ge 24, 3) := dk_162 0 24 (dk_at dksX3_takes_0 4 rfl rfl)
theorem dX3_takes_7 : decode cX3_takes 7 = .ok (.aload_n 0, 1) := dk_42 (dk_at dksX3_takes_0 7 rfl rfl)
theorem dX3_takes_8 : decode cX3_takes 8 = .ok (.getfield 17, 3) := dk_180 0 17 (dk_at dksX3_takes_0 8 rfl rfl)
theorem dX3_takes_11 : decode cX3_takes 11 = .ok (.iload_n 2, 1) := dk_28 (dk_at dksX3_takes_0 11 rfl rfl)
theorem dX3_takes_12 : decode cX3_takes 12 = .ok (.aaload, 1) := dk_50 (dk_at dksX3_takes_0 12 rfl rfl)
theorem dX3_takes_13 : decode cX3_takes 13 = .ok (.aload_n 1, 1) := dk_43 (dk_at dksX3_takes_0 13 rfl rfl)
theorem dX3_takes_14 : decode cX3_takes 14 = .ok (.getfield 17, 3) := dk_180 0 17 (dk_at dksX3_takes_0 14 rfl rfl)
theorem dX3_takes_17 : decode cX3_takes 17 = .ok (.iload_n 2, 1) := dk_28 (dk_at dksX3_takes_0 17 rfl rfl)
theorem dX3_takes_18 : decode cX3_takes 18 = .ok (.aaload, 1) := dk_50 (dk_at dksX3_takes_0 18 rfl rfl)
theorem dX3_takes_19 : decode cX3_takes 19 = .ok (.invokevirtual 29, 3) := dk_182 0 29 (dk_at dksX3_takes_0 19 rfl rfl)
theorem dX3_takes_22 : decode cX3_takes 22 = .ok (.iinc 2 1, 3) := dk_132 2 1 (dk_at dksX3_takes_1 0 rfl rfl)
theorem dX3_takes_25 : decode cX3_takes 25 = .ok (.goto (-23), 3) := dk_167 255 233 (dk_at dksX3_takes_1 3 rfl rfl)
theorem dX3_takes_28 : decode cX3_takes 28 = .ok (.iconst 0, 1) := dk_3 (dk_at dksX3_takes_1 6 rfl rfl)
theorem dX3_takes_29 : decode cX3_takes 29 = .ok (.istore_n 2, 1) := dk_61 (dk_at dksX3_takes_1 7 rfl rfl)
theorem dX3_takes_30 : decode cX3_takes 30 = .ok (.iload_n 2, 1) := dk_28 (dk_at dksX3_takes_1 8 rfl rfl)
theorem dX3_takes_31 : decode cX3_takes 31 = .ok (.bipush 8, 2) := dk_16 8 (dk_at dksX3_takes_1 9 rfl rfl)
theorem dX3_takes_33 : decode cX3_takes 33 = .ok (.if_icmp .ge 24, 3) := dk_162 0 24 (dk_at dksX3_takes_1 11 rfl rfl)
theorem dX3_takes_36 : decode cX3_takes 36 = .ok (.aload_n 0, 1) := dk_42 (dk_at dksX3_takes_1 14 rfl rfl)
theorem dX3_takes_37 : decode cX3_takes 37 = .ok (.getfield 23, 3) := dk_180 0 23 (dk_at dksX3_takes_1 15 rfl rfl)
theorem dX3_takes_40 : decode cX3_takes 40 = .ok (.iload_n 2, 1) := dk_28 (dk_at dksX3_takes_1 18 rfl rfl)
theorem dX3_takes_41 : decode cX3_takes 41 = .ok (.aaload, 1) := dk_50 (dk_at dksX3_takes_1 19 rfl rfl)
theorem dX3_takes_42 : decode cX3_takes 42 = .ok (.aload_n 1, 1) := dk_43 (dk_at dksX3_takes_1 20 rfl rfl)
theorem dX3_takes_43 : decode cX3_takes 43 = .ok (.getfield 23, 3) := dk_180 0 23 (dk_at dksX3_takes_1 21 rfl rfl)
theorem dX3_takes_46 : decode cX3_takes 46 = .ok (.iload_n 2, 1) := dk_28 (dk_at dksX3_takes_2 0 rfl rfl)
theorem dX3_takes_47 : decode cX3_takes 47 = .ok (.aaload, 1) := dk_50 (dk_at dksX3_takes_2 1 rfl rfl)
theorem dX3_takes_48 : decode cX3_takes 48 = .ok (.invokevirtual 33, 3) := dk_182 0 33 (dk_at dksX3_takes_2 2 rfl rfl)
theorem dX3_takes_51 : decode cX3_takes 51 = .ok (.iinc 2 1, 3) := dk_132 2 1 (dk_at dksX3_takes_2 5 rfl rfl)
theorem dX3_takes_54 : decode cX3_takes 54 = .ok (.goto (-24), 3) := dk_167 255 232 (dk_at dksX3_takes_2 8 rfl rfl)
theorem dX3_takes_57 : decode cX3_takes 57 = .ok (.aload_n 0, 1) := dk_42 (dk_at dksX3_takes_2 11 rfl rfl)
theorem dX3_takes_58 : decode cX3_takes 58 = .ok (.aload_n 1, 1) := dk_43 (dk_at dksX3_takes_2 12 rfl rfl)
theorem dX3_takes_59 : decode cX3_takes 59 = .ok (.getfield 36, 3) := dk_180 0 36 (dk_at dksX3_takes_2 13 rfl rfl)
theorem dX3_takes_62 : decode cX3_takes 62 = .ok (.putfield 36, 3) := dk_181 0 36 (dk_at dksX3_takes_2 16 rfl rfl)
theorem dX3_takes_65 : decode cX3_takes 65 = .ok (.aload_n 0, 1) := dk_42 (dk_at dksX3_takes_2 19 rfl rfl)
theorem dX3_takes_66 : decode cX3_takes 66 = .ok (.aload_n 1, 1) := dk_43 (dk_at dksX3_takes_2 20 rfl rfl)
theorem dX3_takes_67 : decode cX3_takes 67 = .ok (.getfield 40, 3) := dk_180 0 40 (dk_at dksX3_takes_2 21 rfl rfl)
theorem dX3_takes_70 : decode cX3_takes 70 = .ok (.putfield 40, 3) := dk_181 0 40 (dk_at dksX3_takes_3 0 rfl rfl)
theorem dX3_takes_73 : decode cX3_takes 73 = .ok (.aload_n 0, 1) := dk_42 (dk_at dksX3_takes_3 3 rfl rfl)
theorem dX3_takes_74 : decode cX3_takes 74 = .ok (.areturn, 1) := dk_176 (dk_at dksX3_takes_3 4 rfl rfl)
abbrev cX3_dead : ByteArray := prog_6_method_11_code
def yX3_dead : MethodName := ⟨RX3, "dead", "()I"⟩
def dkwX3_dead_2 : List UInt8 := [167, 255, 214, 27, 172]
abbrev dktX3_dead_2 : List UInt8 := dkwX3_dead_2 ++ []
def dkwX3_dead_1 : List UInt8 := [180, 0, 17, 28, 50, 182, 0, 88, 153, 0, 9, 4, 28, 120, 167, 0, 4, 3, 128, 60, 132, 2, 1]
abbrev dktX3_dead_1 : List UInt8 := dkwX3_dead_1 ++ dktX3_dead_2
def dkwX3_dead_0 : List UInt8 := [3, 60, 3, 61, 28, 7, 162, 0, 43, 27, 42, 180, 0, 17, 28, 50, 180, 0, 147, 153, 0, 21, 42]
abbrev dktX3_dead_0 : List UInt8 := dkwX3_dead_0 ++ dktX3_dead_1
theorem dksX3_dead_0 : cX3_dead.data.toList.drop 0 = dktX3_dead_0 := by decide +kernel
theorem dksX3_dead_1 : cX3_dead.data.toList.drop 23 = dktX3_dead_1 := dk_seg dksX3_dead_0 23 rfl rfl
theorem dksX3_dead_2 : cX3_dead.data.toList.drop 46 = dktX3_dead_2 := dk_seg dksX3_dead_1 23 rfl rfl
theorem dX3_dead_0 : decode cX3_dead 0 = .ok (.iconst 0, 1) := dk_3 (dk_at dksX3_dead_0 0 rfl rfl)
theorem dX3_dead_1 : decode cX3_dead 1 = .ok (.istore_n 1, 1) := dk_60 (dk_at dksX3_dead_0 1 rfl rfl)
theorem dX3_dead_2 : decode cX3_dead 2 = .ok (.iconst 0, 1) := dk_3 (dk_at dksX3_dead_0 2 rfl rfl)
theorem dX3_dead_3 : decode cX3_dead 3 = .ok (.istore_n 2, 1) := dk_61 (dk_at dksX3_dead_0 3 rfl rfl)
theorem dX3_dead_4 : decode cX3_dead 4 = .ok (.iload_n 2, 1) := dk_28 (dk_at dksX3_dead_0 4 rfl rfl)
theorem dX3_dead_5 : decode cX3_dead 5 = .ok (.iconst 4, 1) := dk_7 (dk_at dksX3_dead_0 5 rfl rfl)
theorem dX3_dead_6 : decode cX3_dead 6 = .ok (.if_icmp .ge 43, 3) := dk_162 0 43 (dk_at dksX3_dead_0 6 rfl rfl)
theorem dX3_dead_9 : decode cX3_dead 9 = .ok (.iload_n 1, 1) := dk_27 (dk_at dksX3_dead_0 9 rfl rfl)
theorem dX3_dead_10 : decode cX3_dead 10 = .ok (.aload_n 0, 1) := dk_42 (dk_at dksX3_dead_0 10 rfl rfl)
theorem dX3_dead_11 : decode cX3_dead 11 = .ok (.getfield 17, 3) := dk_180 0 17 (dk_at dksX3_dead_0 11 rfl rfl)
theorem dX3_dead_14 : decode cX3_dead 14 = .ok (.iload_n 2, 1) := dk_28 (dk_at dksX3_dead_0 14 rfl rfl)
theorem dX3_dead_15 : decode cX3_dead 15 = .ok (.aaload, 1) := dk_50 (dk_at dksX3_dead_0 15 rfl rfl)
theorem dX3_dead_16 : decode cX3_dead 16 = .ok (.getfield 147, 3) := dk_180 0 147 (dk_at dksX3_dead_0 16 rfl rfl)
theorem dX3_dead_19 : decode cX3_dead 19 = .ok (.ifCond .eq 21, 3) := dk_153 0 21 (dk_at dksX3_dead_0 19 rfl rfl)
theorem dX3_dead_22 : decode cX3_dead 22 = .ok (.aload_n 0, 1) := dk_42 (dk_at dksX3_dead_0 22 rfl rfl)
theorem dX3_dead_23 : decode cX3_dead 23 = .ok (.getfield 17, 3) := dk_180 0 17 (dk_at dksX3_dead_1 0 rfl rfl)
theorem dX3_dead_26 : decode cX3_dead 26 = .ok (.iload_n 2, 1) := dk_28 (dk_at dksX3_dead_1 3 rfl rfl)
theorem dX3_dead_27 : decode cX3_dead 27 = .ok (.aaload, 1) := dk_50 (dk_at dksX3_dead_1 4 rfl rfl)
theorem dX3_dead_28 : decode cX3_dead 28 = .ok (.invokevirtual 88, 3) := dk_182 0 88 (dk_at dksX3_dead_1 5 rfl rfl)
theorem dX3_dead_31 : decode cX3_dead 31 = .ok (.ifCond .eq 9, 3) := dk_153 0 9 (dk_at dksX3_dead_1 8 rfl rfl)
theorem dX3_dead_34 : decode cX3_dead 34 = .ok (.iconst 1, 1) := dk_4 (dk_at dksX3_dead_1 11 rfl rfl)
theorem dX3_dead_35 : decode cX3_dead 35 = .ok (.iload_n 2, 1) := dk_28 (dk_at dksX3_dead_1 12 rfl rfl)
theorem dX3_dead_36 : decode cX3_dead 36 = .ok (.ishl, 1) := dk_120 (dk_at dksX3_dead_1 13 rfl rfl)
theorem dX3_dead_37 : decode cX3_dead 37 = .ok (.goto 4, 3) := dk_167 0 4 (dk_at dksX3_dead_1 14 rfl rfl)
theorem dX3_dead_40 : decode cX3_dead 40 = .ok (.iconst 0, 1) := dk_3 (dk_at dksX3_dead_1 17 rfl rfl)
theorem dX3_dead_41 : decode cX3_dead 41 = .ok (.ior, 1) := dk_128 (dk_at dksX3_dead_1 18 rfl rfl)
theorem dX3_dead_42 : decode cX3_dead 42 = .ok (.istore_n 1, 1) := dk_60 (dk_at dksX3_dead_1 19 rfl rfl)
theorem dX3_dead_43 : decode cX3_dead 43 = .ok (.iinc 2 1, 3) := dk_132 2 1 (dk_at dksX3_dead_1 20 rfl rfl)
theorem dX3_dead_46 : decode cX3_dead 46 = .ok (.goto (-42), 3) := dk_167 255 214 (dk_at dksX3_dead_2 0 rfl rfl)
theorem dX3_dead_49 : decode cX3_dead 49 = .ok (.iload_n 1, 1) := dk_27 (dk_at dksX3_dead_2 3 rfl rfl)
theorem dX3_dead_50 : decode cX3_dead 50 = .ok (.ireturn, 1) := dk_172 (dk_at dksX3_dead_2 4 rfl rfl)
theorem q108 : (Jvm.Cond.initialized "LandingTree$Landing") ∈ lw_all := lw_g (lw_at lw_m1 4 rfl) rfl
theorem q193 : (Jvm.Cond.instantiable "LandingTree$Landing" (8 : Nat)) ∈ lw_all := lw_g (lw_at lw_m1 89 rfl) rfl
theorem q195 : (Jvm.Cond.instanceMethod ({ cls := "LandingTree$Landing", name := "<init>", desc := "(LLandingTree;)V" } : Jvm.MethodName)) ∈ lw_all := lw_g (lw_at lw_m1 91 rfl) rfl
theorem q196 : (Jvm.Cond.code ({ cls := "LandingTree$Landing", name := "<init>", desc := "(LLandingTree;)V" } : Jvm.MethodName) prog_6_method_1_code (3 : Nat) (Option.none : Option Jvm.ClassFile.FieldType)) ∈ lw_all := lw_g (lw_at lw_m1 92 rfl) rfl
theorem q197 : (Jvm.Cond.methodLink "LandingTree$Landing" (9 : Nat) ({ cls := "java/lang/Object", name := "<init>", desc := "()V" } : Jvm.MethodName)) ∈ lw_all := lw_g (lw_at lw_m1 93 rfl) rfl
theorem q198 : (Jvm.Cond.classLink "LandingTree$Landing" (15 : Nat) "LandingTree$Plant") ∈ lw_all := lw_g (lw_at lw_m1 94 rfl) rfl
theorem q200 : (Jvm.Cond.classLink "LandingTree$Landing" (21 : Nat) "LandingTree$Person") ∈ lw_all := lw_g (lw_at lw_m1 96 rfl) rfl
theorem q203 : (Jvm.Cond.methodLinkNest "LandingTree$Landing" (27 : Nat) ({ cls := "LandingTree$Plant", name := "<init>", desc := "()V" } : Jvm.MethodName) "LandingTree") ∈ lw_tbl := lw_at lw_m1 99 rfl
theorem q210 : (Jvm.Cond.fieldLinkNest "LandingTree$Landing" (68 : Nat) "LandingTree$Plant" "pot" "I" "LandingTree") ∈ lw_tbl := lw_at lw_m1 106 rfl
theorem q213 : (Jvm.Cond.fieldLinkNest "LandingTree$Landing" (71 : Nat) "LandingTree$Plant" "wet" "I" "LandingTree") ∈ lw_tbl := lw_at lw_m1 109 rfl
theorem q218 : (Jvm.Cond.fieldLinkNest "LandingTree$Landing" (78 : Nat) "LandingTree$Plant" "dry" "I" "LandingTree") ∈ lw_tbl := lw_at lw_m1 114 rfl
theorem q221 : (Jvm.Cond.fieldLinkNest "LandingTree$Landing" (81 : Nat) "LandingTree$Plant" "drowned" "I" "LandingTree") ∈ lw_tbl := lw_at lw_m1 117 rfl
theorem q226 : (Jvm.Cond.fieldLinkNest "LandingTree$Landing" (51 : Nat) "LandingTree$Plant" "written" "I" "LandingTree") ∈ lw_tbl := lw_at lw_m1 122 rfl
theorem q230 : (Jvm.Cond.fieldLinkNest "LandingTree$Landing" (147 : Nat) "LandingTree$Plant" "isTold" "Z" "LandingTree") ∈ lw_tbl := lw_at lw_m1 126 rfl
theorem q232 : (Jvm.Cond.fieldLinkNest "LandingTree$Landing" (48 : Nat) "LandingTree$Plant" "hasCard" "Z" "LandingTree") ∈ lw_tbl := lw_at lw_m1 128 rfl
theorem q257 : (Jvm.Cond.methodLinkNest "LandingTree$Landing" (28 : Nat) ({ cls := "LandingTree$Person", name := "<init>", desc := "()V" } : Jvm.MethodName) "LandingTree") ∈ lw_tbl := lw_at lw_m1 153 rfl
theorem q262 : (Jvm.Cond.fieldLinkNest "LandingTree$Landing" (96 : Nat) "LandingTree$Person" "tenths" "I" "LandingTree") ∈ lw_tbl := lw_at lw_m1 158 rfl
theorem q265 : (Jvm.Cond.fieldLinkNest "LandingTree$Landing" (106 : Nat) "LandingTree$Person" "rule" "I" "LandingTree") ∈ lw_tbl := lw_at lw_m1 161 rfl
theorem q268 : (Jvm.Cond.fieldLinkNest "LandingTree$Landing" (99 : Nat) "LandingTree$Person" "given" "I" "LandingTree") ∈ lw_tbl := lw_at lw_m1 164 rfl
theorem q271 : (Jvm.Cond.fieldLinkNest "LandingTree$Landing" (43 : Nat) "LandingTree$Person" "isTold" "Z" "LandingTree") ∈ lw_tbl := lw_at lw_m1 167 rfl
theorem q282 : (Jvm.Cond.fieldLink "LandingTree$Landing" (17 : Nat) "LandingTree$Landing" "plants" "[LLandingTree$Plant;") ∈ lw_all := lw_g (lw_at lw_m1 178 rfl) rfl
theorem q284 : (Jvm.Cond.fieldLink "LandingTree$Landing" (23 : Nat) "LandingTree$Landing" "people" "[LLandingTree$Person;") ∈ lw_all := lw_g (lw_at lw_m1 180 rfl) rfl
theorem q286 : (Jvm.Cond.fieldLink "LandingTree$Landing" (36 : Nat) "LandingTree$Landing" "day" "I") ∈ lw_all := lw_g (lw_at lw_m1 182 rfl) rfl
theorem q288 : (Jvm.Cond.fieldLink "LandingTree$Landing" (40 : Nat) "LandingTree$Landing" "x" "I") ∈ lw_all := lw_g (lw_at lw_m1 184 rfl) rfl
theorem q290 : (Jvm.Cond.fieldLink "LandingTree$Landing" (122 : Nat) "LandingTree$Landing" "given" "I") ∈ lw_all := lw_g (lw_at lw_m1 186 rfl) rfl
theorem q292 : (Jvm.Cond.fieldLink "LandingTree$Landing" (116 : Nat) "LandingTree$Landing" "over" "I") ∈ lw_all := lw_g (lw_at lw_m1 188 rfl) rfl
theorem q294 : (Jvm.Cond.fieldLink "LandingTree$Landing" (129 : Nat) "LandingTree$Landing" "sunny" "I") ∈ lw_all := lw_g (lw_at lw_m1 190 rfl) rfl
theorem q296 : (Jvm.Cond.fieldLink "LandingTree$Landing" (3 : Nat) "LandingTree$Landing" "this$0" "LLandingTree;") ∈ lw_all := lw_g (lw_at lw_m1 192 rfl) rfl
theorem q297 : (Jvm.Cond.laysFinal "LandingTree$Landing" "LandingTree$Landing" "plants" "[LLandingTree$Plant;") ∈ lw_all := lw_g (lw_at lw_m1 193 rfl) rfl
theorem q298 : (Jvm.Cond.soleField "LandingTree$Landing" "plants") ∈ lw_all := lw_g (lw_at lw_m1 194 rfl) rfl
theorem q299 : (Jvm.Cond.laysFinal "LandingTree$Landing" "LandingTree$Landing" "people" "[LLandingTree$Person;") ∈ lw_all := lw_g (lw_at lw_m1 195 rfl) rfl
theorem q300 : (Jvm.Cond.soleField "LandingTree$Landing" "people") ∈ lw_all := lw_g (lw_at lw_m1 196 rfl) rfl
theorem q301 : (Jvm.Cond.lays "LandingTree$Landing" "LandingTree$Landing" "day" "I") ∈ lw_all := lw_g (lw_at lw_m1 197 rfl) rfl
theorem q302 : (Jvm.Cond.soleField "LandingTree$Landing" "day") ∈ lw_all := lw_g (lw_at lw_m1 198 rfl) rfl
theorem q303 : (Jvm.Cond.lays "LandingTree$Landing" "LandingTree$Landing" "x" "I") ∈ lw_all := lw_g (lw_at lw_m1 199 rfl) rfl
theorem q304 : (Jvm.Cond.soleField "LandingTree$Landing" "x") ∈ lw_all := lw_g (lw_at lw_m1 200 rfl) rfl
theorem q305 : (Jvm.Cond.lays "LandingTree$Landing" "LandingTree$Landing" "given" "I") ∈ lw_all := lw_g (lw_at lw_m1 201 rfl) rfl
theorem q306 : (Jvm.Cond.soleField "LandingTree$Landing" "given") ∈ lw_all := lw_g (lw_at lw_m1 202 rfl) rfl
theorem q307 : (Jvm.Cond.lays "LandingTree$Landing" "LandingTree$Landing" "over" "I") ∈ lw_all := lw_g (lw_at lw_m1 203 rfl) rfl
theorem q308 : (Jvm.Cond.soleField "LandingTree$Landing" "over") ∈ lw_all := lw_g (lw_at lw_m1 204 rfl) rfl
theorem q309 : (Jvm.Cond.lays "LandingTree$Landing" "LandingTree$Landing" "sunny" "I") ∈ lw_all := lw_g (lw_at lw_m1 205 rfl) rfl
theorem q310 : (Jvm.Cond.soleField "LandingTree$Landing" "sunny") ∈ lw_all := lw_g (lw_at lw_m1 206 rfl) rfl
theorem q311 : (Jvm.Cond.laysFinal "LandingTree$Landing" "LandingTree$Landing" "this$0" "LLandingTree;") ∈ lw_all := lw_g (lw_at lw_m1 207 rfl) rfl
theorem q312 : (Jvm.Cond.soleField "LandingTree$Landing" "this$0") ∈ lw_all := lw_g (lw_at lw_m1 208 rfl) rfl
theorem q313 : (Jvm.Cond.superclass "LandingTree$Landing" "java/lang/Object") ∈ lw_all := lw_g (lw_at lw_m1 209 rfl) rfl
theorem q349 : (Jvm.Cond.fieldLinkNest "LandingTree$Landing" (54 : Nat) "LandingTree" "moment" "LLandingTree$Moment;" "LandingTree") ∈ lw_tbl := lw_at lw_m2 5 rfl
theorem q780 : (Jvm.Cond.instanceMethod ({ cls := "LandingTree$Landing", name := "goes", desc := "(I)LLandingTree$Landing;" } : Jvm.MethodName)) ∈ lw_all := lw_g (lw_at lw_m3 196 rfl) rfl
theorem q781 : (Jvm.Cond.selects "LandingTree$Landing" ({ cls := "LandingTree$Landing", name := "goes", desc := "(I)LLandingTree$Landing;" } : Jvm.MethodName) ({ cls := "LandingTree$Landing", name := "goes", desc := "(I)LLandingTree$Landing;" } : Jvm.MethodName)) ∈ lw_all := lw_g (lw_at lw_m3 197 rfl) rfl
theorem q782 : (Jvm.Cond.code ({ cls := "LandingTree$Landing", name := "goes", desc := "(I)LLandingTree$Landing;" } : Jvm.MethodName) prog_6_method_10_code (3 : Nat) (Option.some (Jvm.ClassFile.FieldType.object "LandingTree$Landing"))) ∈ lw_all := lw_g (lw_at lw_m3 198 rfl) rfl
theorem q783 : (Jvm.Cond.methodLink "LandingTree$Landing" (144 : Nat) ({ cls := "LandingTree$Landing", name := "dayGoes", desc := "()V" } : Jvm.MethodName)) ∈ lw_all := lw_g (lw_at lw_m3 199 rfl) rfl
theorem q784 : (Jvm.Cond.privateMethod ({ cls := "LandingTree$Landing", name := "dayGoes", desc := "()V" } : Jvm.MethodName)) ∈ lw_tbl := lw_at lw_m3 200 rfl
theorem q785 : (Jvm.Cond.instanceMethod ({ cls := "LandingTree$Landing", name := "dayGoes", desc := "()V" } : Jvm.MethodName)) ∈ lw_all := lw_g (lw_at lw_m3 201 rfl) rfl
theorem q786 : (Jvm.Cond.code ({ cls := "LandingTree$Landing", name := "dayGoes", desc := "()V" } : Jvm.MethodName) prog_6_method_9_code (3 : Nat) (Option.none : Option Jvm.ClassFile.FieldType)) ∈ lw_all := lw_g (lw_at lw_m3 202 rfl) rfl
theorem q787 : (Jvm.Cond.methodLink "LandingTree$Landing" (123 : Nat) ({ cls := "LandingTree$Landing", name := "draw", desc := "()I" } : Jvm.MethodName)) ∈ lw_all := lw_g (lw_at lw_m3 203 rfl) rfl
theorem q788 : (Jvm.Cond.privateMethod ({ cls := "LandingTree$Landing", name := "draw", desc := "()I" } : Jvm.MethodName)) ∈ lw_tbl := lw_at lw_m3 204 rfl
theorem q789 : (Jvm.Cond.instanceMethod ({ cls := "LandingTree$Landing", name := "draw", desc := "()I" } : Jvm.MethodName)) ∈ lw_all := lw_g (lw_at lw_m3 205 rfl) rfl
theorem q790 : (Jvm.Cond.code ({ cls := "LandingTree$Landing", name := "draw", desc := "()I" } : Jvm.MethodName) prog_6_method_4_code (1 : Nat) (Option.some Jvm.ClassFile.FieldType.int)) ∈ lw_all := lw_g (lw_at lw_m3 206 rfl) rfl
theorem q791 : (Jvm.Cond.constant "LandingTree$Landing" (47 : Nat) (65536 : Int32)) ∈ lw_all := lw_g (lw_at lw_m3 207 rfl) rfl
theorem q792 : (Jvm.Cond.methodLink "LandingTree$Landing" (136 : Nat) ({ cls := "LandingTree$Plant", name := "lives", desc := "()Z" } : Jvm.MethodName)) ∈ lw_all := lw_g (lw_at lw_m3 208 rfl) rfl
theorem q797 : (Jvm.Cond.methodLink "LandingTree$Landing" (139 : Nat) ({ cls := "LandingTree$Landing", name := "waters", desc := "(II)V" } : Jvm.MethodName)) ∈ lw_all := lw_g (lw_at lw_m3 213 rfl) rfl
theorem q798 : (Jvm.Cond.instanceMethod ({ cls := "LandingTree$Landing", name := "waters", desc := "(II)V" } : Jvm.MethodName)) ∈ lw_all := lw_g (lw_at lw_m3 214 rfl) rfl
theorem q799 : (Jvm.Cond.selects "LandingTree$Landing" ({ cls := "LandingTree$Landing", name := "waters", desc := "(II)V" } : Jvm.MethodName) ({ cls := "LandingTree$Landing", name := "waters", desc := "(II)V" } : Jvm.MethodName)) ∈ lw_all := lw_g (lw_at lw_m3 215 rfl) rfl
theorem q800 : (Jvm.Cond.code ({ cls := "LandingTree$Landing", name := "waters", desc := "(II)V" } : Jvm.MethodName) prog_6_method_7_code (4 : Nat) (Option.none : Option Jvm.ClassFile.FieldType)) ∈ lw_all := lw_g (lw_at lw_m3 216 rfl) rfl
theorem q801 : (Jvm.Cond.methodLink "LandingTree$Landing" (112 : Nat) ({ cls := "LandingTree$Landing", name := "givesTo", desc := "(II)I" } : Jvm.MethodName)) ∈ lw_all := lw_g (lw_at lw_m3 217 rfl) rfl
theorem q802 : (Jvm.Cond.instanceMethod ({ cls := "LandingTree$Landing", name := "givesTo", desc := "(II)I" } : Jvm.MethodName)) ∈ lw_all := lw_g (lw_at lw_m3 218 rfl) rfl
theorem q803 : (Jvm.Cond.selects "LandingTree$Landing" ({ cls := "LandingTree$Landing", name := "givesTo", desc := "(II)I" } : Jvm.MethodName) ({ cls := "LandingTree$Landing", name := "givesTo", desc := "(II)I" } : Jvm.MethodName)) ∈ lw_all := lw_g (lw_at lw_m3 219 rfl) rfl
theorem q804 : (Jvm.Cond.code ({ cls := "LandingTree$Landing", name := "givesTo", desc := "(II)I" } : Jvm.MethodName) prog_6_method_6_code (3 : Nat) (Option.some Jvm.ClassFile.FieldType.int)) ∈ lw_all := lw_g (lw_at lw_m3 220 rfl) rfl
theorem q805 : (Jvm.Cond.methodLink "LandingTree$Landing" (88 : Nat) ({ cls := "LandingTree$Plant", name := "isDead", desc := "()Z" } : Jvm.MethodName)) ∈ lw_all := lw_g (lw_at lw_m3 221 rfl) rfl
theorem q806 : (Jvm.Cond.methodLink "LandingTree$Landing" (92 : Nat) ({ cls := "LandingTree$Landing", name := "at", desc := "(I)LLandingTree$Moment;" } : Jvm.MethodName)) ∈ lw_all := lw_g (lw_at lw_m3 222 rfl) rfl
theorem q807 : (Jvm.Cond.privateMethod ({ cls := "LandingTree$Landing", name := "at", desc := "(I)LLandingTree$Moment;" } : Jvm.MethodName)) ∈ lw_tbl := lw_at lw_m3 223 rfl
theorem q808 : (Jvm.Cond.instanceMethod ({ cls := "LandingTree$Landing", name := "at", desc := "(I)LLandingTree$Moment;" } : Jvm.MethodName)) ∈ lw_all := lw_g (lw_at lw_m3 224 rfl) rfl
theorem q809 : (Jvm.Cond.code ({ cls := "LandingTree$Landing", name := "at", desc := "(I)LLandingTree$Moment;" } : Jvm.MethodName) prog_6_method_5_code (4 : Nat) (Option.some (Jvm.ClassFile.FieldType.object "LandingTree$Moment"))) ∈ lw_all := lw_g (lw_at lw_m3 225 rfl) rfl
theorem q810 : (Jvm.Cond.methodLink "LandingTree$Landing" (58 : Nat) ({ cls := "LandingTree$Landing", name := "toldPeople", desc := "()I" } : Jvm.MethodName)) ∈ lw_all := lw_g (lw_at lw_m3 226 rfl) rfl
theorem q811 : (Jvm.Cond.instanceMethod ({ cls := "LandingTree$Landing", name := "toldPeople", desc := "()I" } : Jvm.MethodName)) ∈ lw_all := lw_g (lw_at lw_m3 227 rfl) rfl
theorem q812 : (Jvm.Cond.selects "LandingTree$Landing" ({ cls := "LandingTree$Landing", name := "toldPeople", desc := "()I" } : Jvm.MethodName) ({ cls := "LandingTree$Landing", name := "toldPeople", desc := "()I" } : Jvm.MethodName)) ∈ lw_all := lw_g (lw_at lw_m3 228 rfl) rfl
theorem q813 : (Jvm.Cond.code ({ cls := "LandingTree$Landing", name := "toldPeople", desc := "()I" } : Jvm.MethodName) prog_6_method_3_code (6 : Nat) (Option.some Jvm.ClassFile.FieldType.int)) ∈ lw_all := lw_g (lw_at lw_m3 229 rfl) rfl
theorem q814 : (Jvm.Cond.methodLink "LandingTree$Landing" (62 : Nat) ({ cls := "LandingTree$Moment", name := "of", desc := "(II)LLandingTree$Moment;" } : Jvm.MethodName)) ∈ lw_all := lw_g (lw_at lw_m3 230 rfl) rfl
theorem q818 : (Jvm.Cond.methodLink "LandingTree$Landing" (74 : Nat) ({ cls := "LandingTree$Plant", name := "looked", desc := "(I)I" } : Jvm.MethodName)) ∈ lw_all := lw_g (lw_at lw_m3 234 rfl) rfl
theorem q822 : (Jvm.Cond.methodLink "LandingTree$Landing" (84 : Nat) ({ cls := "LandingTree$Moment", name := "ofPlant", desc := "(IIIIIII)LLandingTree$Moment;" } : Jvm.MethodName)) ∈ lw_all := lw_g (lw_at lw_m3 238 rfl) rfl
theorem q826 : (Jvm.Cond.methodLink "LandingTree$Landing" (102 : Nat) ({ cls := "LandingTree$Moment", name := "by", desc := "(III)LLandingTree$Moment;" } : Jvm.MethodName)) ∈ lw_all := lw_g (lw_at lw_m4 2 rfl) rfl
theorem q830 : (Jvm.Cond.methodLink "LandingTree$Landing" (109 : Nat) ({ cls := "LandingTree$Moment", name := "givesBy", desc := "(I)I" } : Jvm.MethodName)) ∈ lw_all := lw_g (lw_at lw_m4 6 rfl) rfl
theorem q887 : (Jvm.Cond.methodLink "LandingTree$Landing" (119 : Nat) ({ cls := "LandingTree$Plant", name := "gets", desc := "(I)I" } : Jvm.MethodName)) ∈ lw_all := lw_g (lw_at lw_m4 63 rfl) rfl
theorem q888 : (Jvm.Cond.methodLink "LandingTree$Landing" (143 : Nat) ({ cls := "LandingTree$Landing", name := "dayEnds", desc := "(I)V" } : Jvm.MethodName)) ∈ lw_all := lw_g (lw_at lw_m4 64 rfl) rfl
theorem q889 : (Jvm.Cond.instanceMethod ({ cls := "LandingTree$Landing", name := "dayEnds", desc := "(I)V" } : Jvm.MethodName)) ∈ lw_all := lw_g (lw_at lw_m4 65 rfl) rfl
theorem q890 : (Jvm.Cond.selects "LandingTree$Landing" ({ cls := "LandingTree$Landing", name := "dayEnds", desc := "(I)V" } : Jvm.MethodName) ({ cls := "LandingTree$Landing", name := "dayEnds", desc := "(I)V" } : Jvm.MethodName)) ∈ lw_all := lw_g (lw_at lw_m4 66 rfl) rfl
theorem q891 : (Jvm.Cond.code ({ cls := "LandingTree$Landing", name := "dayEnds", desc := "(I)V" } : Jvm.MethodName) prog_6_method_8_code (4 : Nat) (Option.none : Option Jvm.ClassFile.FieldType)) ∈ lw_all := lw_g (lw_at lw_m4 67 rfl) rfl
theorem q892 : (Jvm.Cond.methodLink "LandingTree$Landing" (126 : Nat) ({ cls := "LandingTree$Moment", name := "tells", desc := "(II)I" } : Jvm.MethodName)) ∈ lw_all := lw_g (lw_at lw_m4 68 rfl) rfl
theorem q896 : (Jvm.Cond.methodLink "LandingTree$Landing" (132 : Nat) ({ cls := "LandingTree$Plant", name := "dayEnds", desc := "(I)V" } : Jvm.MethodName)) ∈ lw_all := lw_g (lw_at lw_m4 72 rfl) rfl
theorem q909 : (Jvm.Cond.instanceMethod ({ cls := "LandingTree$Landing", name := "takes", desc := "(LLandingTree$Landing;)LLandingTree$Landing;" } : Jvm.MethodName)) ∈ lw_all := lw_g (lw_at lw_m4 85 rfl) rfl
theorem q910 : (Jvm.Cond.selects "LandingTree$Landing" ({ cls := "LandingTree$Landing", name := "takes", desc := "(LLandingTree$Landing;)LLandingTree$Landing;" } : Jvm.MethodName) ({ cls := "LandingTree$Landing", name := "takes", desc := "(LLandingTree$Landing;)LLandingTree$Landing;" } : Jvm.MethodName)) ∈ lw_all := lw_g (lw_at lw_m4 86 rfl) rfl
theorem q911 : (Jvm.Cond.code ({ cls := "LandingTree$Landing", name := "takes", desc := "(LLandingTree$Landing;)LLandingTree$Landing;" } : Jvm.MethodName) prog_6_method_2_code (3 : Nat) (Option.some (Jvm.ClassFile.FieldType.object "LandingTree$Landing"))) ∈ lw_all := lw_g (lw_at lw_m4 87 rfl) rfl
theorem q912 : (Jvm.Cond.methodLink "LandingTree$Landing" (29 : Nat) ({ cls := "LandingTree$Plant", name := "takes", desc := "(LLandingTree$Plant;)V" } : Jvm.MethodName)) ∈ lw_all := lw_g (lw_at lw_m4 88 rfl) rfl
theorem q916 : (Jvm.Cond.methodLink "LandingTree$Landing" (33 : Nat) ({ cls := "LandingTree$Person", name := "takes", desc := "(LLandingTree$Person;)V" } : Jvm.MethodName)) ∈ lw_all := lw_g (lw_at lw_m4 92 rfl) rfl
theorem q921 : (Jvm.Cond.instanceMethod ({ cls := "LandingTree$Landing", name := "dead", desc := "()I" } : Jvm.MethodName)) ∈ lw_all := lw_g (lw_at lw_m4 97 rfl) rfl
theorem q922 : (Jvm.Cond.selects "LandingTree$Landing" ({ cls := "LandingTree$Landing", name := "dead", desc := "()I" } : Jvm.MethodName) ({ cls := "LandingTree$Landing", name := "dead", desc := "()I" } : Jvm.MethodName)) ∈ lw_all := lw_g (lw_at lw_m4 98 rfl) rfl
theorem q923 : (Jvm.Cond.code ({ cls := "LandingTree$Landing", name := "dead", desc := "()I" } : Jvm.MethodName) prog_6_method_11_code (3 : Nat) (Option.some Jvm.ClassFile.FieldType.int)) ∈ lw_all := lw_g (lw_at lw_m4 99 rfl) rfl
theorem in_X3 : ∀ w ∈ wsX30, w ∈ lw_all := lw_in wsX30 [297, 299, 301, 303, 305, 307, 309, 311] (by decide +kernel) (by decide +kernel)

/-! LandingTree$Plant -/
set_option maxRecDepth 100000
def RX4 : String := "LandingTree$Plant"
def TX4 : u_T := fun k => match k with
  | 0 => ("LandingTree$Plant", "looks", "[I", true)
  | 1 => ("LandingTree$Plant", "pot", "I", false)
  | 2 => ("LandingTree$Plant", "wet", "I", false)
  | 3 => ("LandingTree$Plant", "bears", "I", false)
  | 4 => ("LandingTree$Plant", "dry", "I", false)
  | 5 => ("LandingTree$Plant", "drowned", "I", false)
  | 6 => ("LandingTree$Plant", "oldest", "I", false)
  | 7 => ("LandingTree$Plant", "written", "I", false)
  | 8 => ("LandingTree$Plant", "isTold", "Z", false)
  | _ => ("LandingTree$Plant", "hasCard", "Z", false)
def tyX4 : Nat → FieldType := fun k => match k with
  | 0 => .array .int
  | 1 => .int
  | 2 => .int
  | 3 => .int
  | 4 => .int
  | 5 => .int
  | 6 => .int
  | 7 => .int
  | 8 => .boolean
  | _ => .boolean
abbrev wsX40 : List Cond := u_ws RX4 TX4 10
theorem nmX4 : ∀ a, a < 10 → ∀ b, b < 10 → a ≠ b → (TX4 a).2.1 ≠ (TX4 b).2.1 := by decide +kernel
theorem tyX4_ok : ∀ k, k < 10 → parseFieldDescriptor (TX4 k).2.2.1 = some (tyX4 k) := by decide +kernel
abbrev cX4_init : ByteArray := prog_12_method_1_code
def yX4_init : MethodName := ⟨RX4, "<init>", "()V"⟩
def dkwX4_init_0 : List UInt8 := [42, 183, 0, 3, 42, 16, 7, 188, 10, 181, 0, 9, 177]
abbrev dktX4_init_0 : List UInt8 := dkwX4_init_0 ++ []
theorem dksX4_init_0 : cX4_init.data.toList.drop 0 = dktX4_init_0 := by decide +kernel
theorem dX4_init_0 : decode cX4_init 0 = .ok (.aload_n 0, 1) := dk_42 (dk_at dksX4_init_0 0 rfl rfl)
theorem dX4_init_1 : decode cX4_init 1 = .ok (.invokespecial 3, 3) := dk_183 0 3 (dk_at dksX4_init_0 1 rfl rfl)
theorem dX4_init_4 : decode cX4_init 4 = .ok (.aload_n 0, 1) := dk_42 (dk_at dksX4_init_0 4 rfl rfl)
theorem dX4_init_5 : decode cX4_init 5 = .ok (.bipush 7, 2) := dk_16 7 (dk_at dksX4_init_0 5 rfl rfl)
theorem dX4_init_7 : decode cX4_init 7 = .ok (.newarray .int, 2) := dk_188_10 (dk_at dksX4_init_0 7 rfl rfl)
theorem dX4_init_9 : decode cX4_init 9 = .ok (.putfield 9, 3) := dk_181 0 9 (dk_at dksX4_init_0 9 rfl rfl)
theorem dX4_init_12 : decode cX4_init 12 = .ok (.return_, 1) := dk_177 (dk_at dksX4_init_0 12 rfl rfl)
abbrev cX4_isDead : ByteArray := prog_12_method_3_code
def yX4_isDead : MethodName := ⟨RX4, "isDead", "()Z"⟩
def dkwX4_isDead_1 : List UInt8 := [167, 0, 4, 3, 172]
abbrev dktX4_isDead_1 : List UInt8 := dkwX4_isDead_1 ++ []
def dkwX4_isDead_0 : List UInt8 := [42, 180, 0, 25, 42, 180, 0, 22, 162, 0, 14, 42, 180, 0, 28, 42, 180, 0, 22, 161, 0, 7, 4]
abbrev dktX4_isDead_0 : List UInt8 := dkwX4_isDead_0 ++ dktX4_isDead_1
theorem dksX4_isDead_0 : cX4_isDead.data.toList.drop 0 = dktX4_isDead_0 := by decide +kernel
theorem dksX4_isDead_1 : cX4_isDead.data.toList.drop 23 = dktX4_isDead_1 := dk_seg dksX4_isDead_0 23 rfl rfl
theorem dX4_isDead_0 : decode cX4_isDead 0 = .ok (.aload_n 0, 1) := dk_42 (dk_at dksX4_isDead_0 0 rfl rfl)
theorem dX4_isDead_1 : decode cX4_isDead 1 = .ok (.getfield 25, 3) := dk_180 0 25 (dk_at dksX4_isDead_0 1 rfl rfl)
theorem dX4_isDead_4 : decode cX4_isDead 4 = .ok (.aload_n 0, 1) := dk_42 (dk_at dksX4_isDead_0 4 rfl rfl)
theorem dX4_isDead_5 : decode cX4_isDead 5 = .ok (.getfield 22, 3) := dk_180 0 22 (dk_at dksX4_isDead_0 5 rfl rfl)
theorem dX4_isDead_8 : decode cX4_isDead 8 = .ok (.if_icmp .ge 14, 3) := dk_162 0 14 (dk_at dksX4_isDead_0 8 rfl rfl)
theorem dX4_isDead_11 : decode cX4_isDead 11 = .ok (.aload_n 0, 1) := dk_42 (dk_at dksX4_isDead_0 11 rfl rfl)
theorem dX4_isDead_12 : decode cX4_isDead 12 = .ok (.getfield 28, 3) := dk_180 0 28 (dk_at dksX4_isDead_0 12 rfl rfl)
theorem dX4_isDead_15 : decode cX4_isDead 15 = .ok (.aload_n 0, 1) := dk_42 (dk_at dksX4_isDead_0 15 rfl rfl)
theorem dX4_isDead_16 : decode cX4_isDead 16 = .ok (.getfield 22, 3) := dk_180 0 22 (dk_at dksX4_isDead_0 16 rfl rfl)
theorem dX4_isDead_19 : decode cX4_isDead 19 = .ok (.if_icmp .lt 7, 3) := dk_161 0 7 (dk_at dksX4_isDead_0 19 rfl rfl)
theorem dX4_isDead_22 : decode cX4_isDead 22 = .ok (.iconst 1, 1) := dk_4 (dk_at dksX4_isDead_0 22 rfl rfl)
theorem dX4_isDead_23 : decode cX4_isDead 23 = .ok (.goto 4, 3) := dk_167 0 4 (dk_at dksX4_isDead_1 0 rfl rfl)
theorem dX4_isDead_26 : decode cX4_isDead 26 = .ok (.iconst 0, 1) := dk_3 (dk_at dksX4_isDead_1 3 rfl rfl)
theorem dX4_isDead_27 : decode cX4_isDead 27 = .ok (.ireturn, 1) := dk_172 (dk_at dksX4_isDead_1 4 rfl rfl)
abbrev cX4_gets : ByteArray := prog_12_method_6_code
def yX4_gets : MethodName := ⟨RX4, "gets", "(I)I"⟩
def dkwX4_gets_1 : List UInt8 := [100, 181, 0, 19, 28, 172]
abbrev dktX4_gets_1 : List UInt8 := dkwX4_gets_1 ++ []
def dkwX4_gets_0 : List UInt8 := [3, 42, 180, 0, 19, 27, 96, 42, 180, 0, 15, 100, 184, 0, 48, 61, 42, 42, 180, 0, 19, 27, 96, 28]
abbrev dktX4_gets_0 : List UInt8 := dkwX4_gets_0 ++ dktX4_gets_1
theorem dksX4_gets_0 : cX4_gets.data.toList.drop 0 = dktX4_gets_0 := by decide +kernel
theorem dksX4_gets_1 : cX4_gets.data.toList.drop 24 = dktX4_gets_1 := dk_seg dksX4_gets_0 24 rfl rfl
theorem dX4_gets_0 : decode cX4_gets 0 = .ok (.iconst 0, 1) := dk_3 (dk_at dksX4_gets_0 0 rfl rfl)
theorem dX4_gets_1 : decode cX4_gets 1 = .ok (.aload_n 0, 1) := dk_42 (dk_at dksX4_gets_0 1 rfl rfl)
theorem dX4_gets_2 : decode cX4_gets 2 = .ok (.getfield 19, 3) := dk_180 0 19 (dk_at dksX4_gets_0 2 rfl rfl)
theorem dX4_gets_5 : decode cX4_gets 5 = .ok (.iload_n 1, 1) := dk_27 (dk_at dksX4_gets_0 5 rfl rfl)
theorem dX4_gets_6 : decode cX4_gets 6 = .ok (.iadd, 1) := dk_96 (dk_at dksX4_gets_0 6 rfl rfl)
theorem dX4_gets_7 : decode cX4_gets 7 = .ok (.aload_n 0, 1) := dk_42 (dk_at dksX4_gets_0 7 rfl rfl)
theorem dX4_gets_8 : decode cX4_gets 8 = .ok (.getfield 15, 3) := dk_180 0 15 (dk_at dksX4_gets_0 8 rfl rfl)
theorem dX4_gets_11 : decode cX4_gets 11 = .ok (.isub, 1) := dk_100 (dk_at dksX4_gets_0 11 rfl rfl)
theorem dX4_gets_12 : decode cX4_gets 12 = .ok (.invokestatic 48, 3) := dk_184 0 48 (dk_at dksX4_gets_0 12 rfl rfl)
theorem dX4_gets_15 : decode cX4_gets 15 = .ok (.istore_n 2, 1) := dk_61 (dk_at dksX4_gets_0 15 rfl rfl)
theorem dX4_gets_16 : decode cX4_gets 16 = .ok (.aload_n 0, 1) := dk_42 (dk_at dksX4_gets_0 16 rfl rfl)
theorem dX4_gets_17 : decode cX4_gets 17 = .ok (.aload_n 0, 1) := dk_42 (dk_at dksX4_gets_0 17 rfl rfl)
theorem dX4_gets_18 : decode cX4_gets 18 = .ok (.getfield 19, 3) := dk_180 0 19 (dk_at dksX4_gets_0 18 rfl rfl)
theorem dX4_gets_21 : decode cX4_gets 21 = .ok (.iload_n 1, 1) := dk_27 (dk_at dksX4_gets_0 21 rfl rfl)
theorem dX4_gets_22 : decode cX4_gets 22 = .ok (.iadd, 1) := dk_96 (dk_at dksX4_gets_0 22 rfl rfl)
theorem dX4_gets_23 : decode cX4_gets 23 = .ok (.iload_n 2, 1) := dk_28 (dk_at dksX4_gets_0 23 rfl rfl)
theorem dX4_gets_24 : decode cX4_gets 24 = .ok (.isub, 1) := dk_100 (dk_at dksX4_gets_1 0 rfl rfl)
theorem dX4_gets_25 : decode cX4_gets 25 = .ok (.putfield 19, 3) := dk_181 0 19 (dk_at dksX4_gets_1 1 rfl rfl)
theorem dX4_gets_28 : decode cX4_gets 28 = .ok (.iload_n 2, 1) := dk_28 (dk_at dksX4_gets_1 4 rfl rfl)
theorem dX4_gets_29 : decode cX4_gets 29 = .ok (.ireturn, 1) := dk_172 (dk_at dksX4_gets_1 5 rfl rfl)
abbrev cX4_lives : ByteArray := prog_12_method_4_code
def yX4_lives : MethodName := ⟨RX4, "lives", "()Z"⟩
def dkwX4_lives_0 : List UInt8 := [42, 180, 0, 37, 153, 0, 14, 42, 182, 0, 44, 154, 0, 7, 4, 167, 0, 4, 3, 172]
abbrev dktX4_lives_0 : List UInt8 := dkwX4_lives_0 ++ []
theorem dksX4_lives_0 : cX4_lives.data.toList.drop 0 = dktX4_lives_0 := by decide +kernel
theorem dX4_lives_0 : decode cX4_lives 0 = .ok (.aload_n 0, 1) := dk_42 (dk_at dksX4_lives_0 0 rfl rfl)
theorem dX4_lives_1 : decode cX4_lives 1 = .ok (.getfield 37, 3) := dk_180 0 37 (dk_at dksX4_lives_0 1 rfl rfl)
theorem dX4_lives_4 : decode cX4_lives 4 = .ok (.ifCond .eq 14, 3) := dk_153 0 14 (dk_at dksX4_lives_0 4 rfl rfl)
theorem dX4_lives_7 : decode cX4_lives 7 = .ok (.aload_n 0, 1) := dk_42 (dk_at dksX4_lives_0 7 rfl rfl)
theorem dX4_lives_8 : decode cX4_lives 8 = .ok (.invokevirtual 44, 3) := dk_182 0 44 (dk_at dksX4_lives_0 8 rfl rfl)
theorem dX4_lives_11 : decode cX4_lives 11 = .ok (.ifCond .ne 7, 3) := dk_154 0 7 (dk_at dksX4_lives_0 11 rfl rfl)
theorem dX4_lives_14 : decode cX4_lives 14 = .ok (.iconst 1, 1) := dk_4 (dk_at dksX4_lives_0 14 rfl rfl)
theorem dX4_lives_15 : decode cX4_lives 15 = .ok (.goto 4, 3) := dk_167 0 4 (dk_at dksX4_lives_0 15 rfl rfl)
theorem dX4_lives_18 : decode cX4_lives 18 = .ok (.iconst 0, 1) := dk_3 (dk_at dksX4_lives_0 18 rfl rfl)
theorem dX4_lives_19 : decode cX4_lives 19 = .ok (.ireturn, 1) := dk_172 (dk_at dksX4_lives_0 19 rfl rfl)
abbrev cX4_looked : ByteArray := prog_12_method_5_code
def yX4_looked : MethodName := ⟨RX4, "looked", "(I)I"⟩
def dkwX4_looked_0 : List UInt8 := [42, 180, 0, 9, 42, 180, 0, 31, 16, 7, 96, 4, 100, 27, 100, 16, 7, 112, 46, 172]
abbrev dktX4_looked_0 : List UInt8 := dkwX4_looked_0 ++ []
theorem dksX4_looked_0 : cX4_looked.data.toList.drop 0 = dktX4_looked_0 := by decide +kernel
theorem dX4_looked_0 : decode cX4_looked 0 = .ok (.aload_n 0, 1) := dk_42 (dk_at dksX4_looked_0 0 rfl rfl)
theorem dX4_looked_1 : decode cX4_looked 1 = .ok (.getfield 9, 3) := dk_180 0 9 (dk_at dksX4_looked_0 1 rfl rfl)
theorem dX4_looked_4 : decode cX4_looked 4 = .ok (.aload_n 0, 1) := dk_42 (dk_at dksX4_looked_0 4 rfl rfl)
theorem dX4_looked_5 : decode cX4_looked 5 = .ok (.getfield 31, 3) := dk_180 0 31 (dk_at dksX4_looked_0 5 rfl rfl)
theorem dX4_looked_8 : decode cX4_looked 8 = .ok (.bipush 7, 2) := dk_16 7 (dk_at dksX4_looked_0 8 rfl rfl)
theorem dX4_looked_10 : decode cX4_looked 10 = .ok (.iadd, 1) := dk_96 (dk_at dksX4_looked_0 10 rfl rfl)
theorem dX4_looked_11 : decode cX4_looked 11 = .ok (.iconst 1, 1) := dk_4 (dk_at dksX4_looked_0 11 rfl rfl)
theorem dX4_looked_12 : decode cX4_looked 12 = .ok (.isub, 1) := dk_100 (dk_at dksX4_looked_0 12 rfl rfl)
theorem dX4_looked_13 : decode cX4_looked 13 = .ok (.iload_n 1, 1) := dk_27 (dk_at dksX4_looked_0 13 rfl rfl)
theorem dX4_looked_14 : decode cX4_looked 14 = .ok (.isub, 1) := dk_100 (dk_at dksX4_looked_0 14 rfl rfl)
theorem dX4_looked_15 : decode cX4_looked 15 = .ok (.bipush 7, 2) := dk_16 7 (dk_at dksX4_looked_0 15 rfl rfl)
theorem dX4_looked_17 : decode cX4_looked 17 = .ok (.irem, 1) := dk_112 (dk_at dksX4_looked_0 17 rfl rfl)
theorem dX4_looked_18 : decode cX4_looked 18 = .ok (.iaload, 1) := dk_46 (dk_at dksX4_looked_0 18 rfl rfl)
theorem dX4_looked_19 : decode cX4_looked 19 = .ok (.ireturn, 1) := dk_172 (dk_at dksX4_looked_0 19 rfl rfl)
abbrev cX4_dayEnds : ByteArray := prog_12_method_7_code
def yX4_dayEnds : MethodName := ⟨RX4, "dayEnds", "(I)V"⟩
def dkwX4_dayEnds_3 : List UInt8 := [180, 0, 19, 79, 42, 42, 180, 0, 31, 4, 96, 16, 7, 112, 181, 0, 31, 177]
abbrev dktX4_dayEnds_3 : List UInt8 := dkwX4_dayEnds_3 ++ []
def dkwX4_dayEnds_2 : List UInt8 := [42, 180, 0, 28, 4, 96, 167, 0, 4, 3, 181, 0, 28, 42, 180, 0, 9, 42, 180, 0, 31, 42]
abbrev dktX4_dayEnds_2 : List UInt8 := dkwX4_dayEnds_2 ++ dktX4_dayEnds_3
def dkwX4_dayEnds_1 : List UInt8 := [180, 0, 25, 4, 96, 167, 0, 4, 3, 181, 0, 25, 42, 42, 180, 0, 19, 42, 180, 0, 15, 160, 0, 12]
abbrev dktX4_dayEnds_1 : List UInt8 := dkwX4_dayEnds_1 ++ dktX4_dayEnds_2
def dkwX4_dayEnds_0 : List UInt8 := [42, 3, 42, 180, 0, 19, 27, 100, 184, 0, 48, 181, 0, 19, 42, 42, 180, 0, 19, 154, 0, 12, 42]
abbrev dktX4_dayEnds_0 : List UInt8 := dkwX4_dayEnds_0 ++ dktX4_dayEnds_1
theorem dksX4_dayEnds_0 : cX4_dayEnds.data.toList.drop 0 = dktX4_dayEnds_0 := by decide +kernel
theorem dksX4_dayEnds_1 : cX4_dayEnds.data.toList.drop 23 = dktX4_dayEnds_1 := dk_seg dksX4_dayEnds_0 23 rfl rfl
theorem dksX4_dayEnds_2 : cX4_dayEnds.data.toList.drop 47 = dktX4_dayEnds_2 := dk_seg dksX4_dayEnds_1 24 rfl rfl
theorem dksX4_dayEnds_3 : cX4_dayEnds.data.toList.drop 69 = dktX4_dayEnds_3 := dk_seg dksX4_dayEnds_2 22 rfl rfl
theorem dX4_dayEnds_0 : decode cX4_dayEnds 0 = .ok (.aload_n 0, 1) := dk_42 (dk_at dksX4_dayEnds_0 0 rfl rfl)
theorem dX4_dayEnds_1 : decode cX4_dayEnds 1 = .ok (.iconst 0, 1) := dk_3 (dk_at dksX4_dayEnds_0 1 rfl rfl)
theorem dX4_dayEnds_2 : decode cX4_dayEnds 2 = .ok (.aload_n 0, 1) := dk_42 (dk_at dksX4_dayEnds_0 2 rfl rfl)
theorem dX4_dayEnds_3 : decode cX4_dayEnds 3 = .ok (.getfield 19, 3) := dk_180 0 19 (dk_at dksX4_dayEnds_0 3 rfl rfl)
theorem dX4_dayEnds_6 : decode cX4_dayEnds 6 = .ok (.iload_n 1, 1) := dk_27 (dk_at dksX4_dayEnds_0 6 rfl rfl)
theorem dX4_dayEnds_7 : decode cX4_dayEnds 7 = .ok (.isub, 1) := dk_100 (dk_at dksX4_dayEnds_0 7 rfl rfl)
theorem dX4_dayEnds_8 : decode cX4_dayEnds 8 = .ok (.invokestatic 48, 3) := dk_184 0 48 (dk_at dksX4_dayEnds_0 8 rfl rfl)
theorem dX4_dayEnds_11 : decode cX4_dayEnds 11 = .ok (.putfield 19, 3) := dk_181 0 19 (dk_at dksX4_dayEnds_0 11 rfl rfl)
theorem dX4_dayEnds_14 : decode cX4_dayEnds 14 = .ok (.aload_n 0, 1) := dk_42 (dk_at dksX4_dayEnds_0 14 rfl rfl)
theorem dX4_dayEnds_15 : decode cX4_dayEnds 15 = .ok (.aload_n 0, 1) := dk_42 (dk_at dksX4_dayEnds_0 15 rfl rfl)
theorem dX4_dayEnds_16 : decode cX4_dayEnds 16 = .ok (.getfield 19, 3) := dk_180 0 19 (dk_at dksX4_dayEnds_0 16 rfl rfl)
theorem dX4_dayEnds_19 : decode cX4_dayEnds 19 = .ok (.ifCond .ne 12, 3) := dk_154 0 12 (dk_at dksX4_dayEnds_0 19 rfl rfl)
theorem dX4_dayEnds_22 : decode cX4_dayEnds 22 = .ok (.aload_n 0, 1) := dk_42 (dk_at dksX4_dayEnds_0 22 rfl rfl)
theorem dX4_dayEnds_23 : decode cX4_dayEnds 23 = .ok (.getfield 25, 3) := dk_180 0 25 (dk_at dksX4_dayEnds_1 0 rfl rfl)
theorem dX4_dayEnds_26 : decode cX4_dayEnds 26 = .ok (.iconst 1, 1) := dk_4 (dk_at dksX4_dayEnds_1 3 rfl rfl)
theorem dX4_dayEnds_27 : decode cX4_dayEnds 27 = .ok (.iadd, 1) := dk_96 (dk_at dksX4_dayEnds_1 4 rfl rfl)
theorem dX4_dayEnds_28 : decode cX4_dayEnds 28 = .ok (.goto 4, 3) := dk_167 0 4 (dk_at dksX4_dayEnds_1 5 rfl rfl)
theorem dX4_dayEnds_31 : decode cX4_dayEnds 31 = .ok (.iconst 0, 1) := dk_3 (dk_at dksX4_dayEnds_1 8 rfl rfl)
theorem dX4_dayEnds_32 : decode cX4_dayEnds 32 = .ok (.putfield 25, 3) := dk_181 0 25 (dk_at dksX4_dayEnds_1 9 rfl rfl)
theorem dX4_dayEnds_35 : decode cX4_dayEnds 35 = .ok (.aload_n 0, 1) := dk_42 (dk_at dksX4_dayEnds_1 12 rfl rfl)
theorem dX4_dayEnds_36 : decode cX4_dayEnds 36 = .ok (.aload_n 0, 1) := dk_42 (dk_at dksX4_dayEnds_1 13 rfl rfl)
theorem dX4_dayEnds_37 : decode cX4_dayEnds 37 = .ok (.getfield 19, 3) := dk_180 0 19 (dk_at dksX4_dayEnds_1 14 rfl rfl)
theorem dX4_dayEnds_40 : decode cX4_dayEnds 40 = .ok (.aload_n 0, 1) := dk_42 (dk_at dksX4_dayEnds_1 17 rfl rfl)
theorem dX4_dayEnds_41 : decode cX4_dayEnds 41 = .ok (.getfield 15, 3) := dk_180 0 15 (dk_at dksX4_dayEnds_1 18 rfl rfl)
theorem dX4_dayEnds_44 : decode cX4_dayEnds 44 = .ok (.if_icmp .ne 12, 3) := dk_160 0 12 (dk_at dksX4_dayEnds_1 21 rfl rfl)
theorem dX4_dayEnds_47 : decode cX4_dayEnds 47 = .ok (.aload_n 0, 1) := dk_42 (dk_at dksX4_dayEnds_2 0 rfl rfl)
theorem dX4_dayEnds_48 : decode cX4_dayEnds 48 = .ok (.getfield 28, 3) := dk_180 0 28 (dk_at dksX4_dayEnds_2 1 rfl rfl)
theorem dX4_dayEnds_51 : decode cX4_dayEnds 51 = .ok (.iconst 1, 1) := dk_4 (dk_at dksX4_dayEnds_2 4 rfl rfl)
theorem dX4_dayEnds_52 : decode cX4_dayEnds 52 = .ok (.iadd, 1) := dk_96 (dk_at dksX4_dayEnds_2 5 rfl rfl)
theorem dX4_dayEnds_53 : decode cX4_dayEnds 53 = .ok (.goto 4, 3) := dk_167 0 4 (dk_at dksX4_dayEnds_2 6 rfl rfl)
theorem dX4_dayEnds_56 : decode cX4_dayEnds 56 = .ok (.iconst 0, 1) := dk_3 (dk_at dksX4_dayEnds_2 9 rfl rfl)
theorem dX4_dayEnds_57 : decode cX4_dayEnds 57 = .ok (.putfield 28, 3) := dk_181 0 28 (dk_at dksX4_dayEnds_2 10 rfl rfl)
theorem dX4_dayEnds_60 : decode cX4_dayEnds 60 = .ok (.aload_n 0, 1) := dk_42 (dk_at dksX4_dayEnds_2 13 rfl rfl)
theorem dX4_dayEnds_61 : decode cX4_dayEnds 61 = .ok (.getfield 9, 3) := dk_180 0 9 (dk_at dksX4_dayEnds_2 14 rfl rfl)
theorem dX4_dayEnds_64 : decode cX4_dayEnds 64 = .ok (.aload_n 0, 1) := dk_42 (dk_at dksX4_dayEnds_2 17 rfl rfl)
theorem dX4_dayEnds_65 : decode cX4_dayEnds 65 = .ok (.getfield 31, 3) := dk_180 0 31 (dk_at dksX4_dayEnds_2 18 rfl rfl)
theorem dX4_dayEnds_68 : decode cX4_dayEnds 68 = .ok (.aload_n 0, 1) := dk_42 (dk_at dksX4_dayEnds_2 21 rfl rfl)
theorem dX4_dayEnds_69 : decode cX4_dayEnds 69 = .ok (.getfield 19, 3) := dk_180 0 19 (dk_at dksX4_dayEnds_3 0 rfl rfl)
theorem dX4_dayEnds_72 : decode cX4_dayEnds 72 = .ok (.iastore, 1) := dk_79 (dk_at dksX4_dayEnds_3 3 rfl rfl)
theorem dX4_dayEnds_73 : decode cX4_dayEnds 73 = .ok (.aload_n 0, 1) := dk_42 (dk_at dksX4_dayEnds_3 4 rfl rfl)
theorem dX4_dayEnds_74 : decode cX4_dayEnds 74 = .ok (.aload_n 0, 1) := dk_42 (dk_at dksX4_dayEnds_3 5 rfl rfl)
theorem dX4_dayEnds_75 : decode cX4_dayEnds 75 = .ok (.getfield 31, 3) := dk_180 0 31 (dk_at dksX4_dayEnds_3 6 rfl rfl)
theorem dX4_dayEnds_78 : decode cX4_dayEnds 78 = .ok (.iconst 1, 1) := dk_4 (dk_at dksX4_dayEnds_3 9 rfl rfl)
theorem dX4_dayEnds_79 : decode cX4_dayEnds 79 = .ok (.iadd, 1) := dk_96 (dk_at dksX4_dayEnds_3 10 rfl rfl)
theorem dX4_dayEnds_80 : decode cX4_dayEnds 80 = .ok (.bipush 7, 2) := dk_16 7 (dk_at dksX4_dayEnds_3 11 rfl rfl)
theorem dX4_dayEnds_82 : decode cX4_dayEnds 82 = .ok (.irem, 1) := dk_112 (dk_at dksX4_dayEnds_3 13 rfl rfl)
theorem dX4_dayEnds_83 : decode cX4_dayEnds 83 = .ok (.putfield 31, 3) := dk_181 0 31 (dk_at dksX4_dayEnds_3 14 rfl rfl)
theorem dX4_dayEnds_86 : decode cX4_dayEnds 86 = .ok (.return_, 1) := dk_177 (dk_at dksX4_dayEnds_3 17 rfl rfl)
abbrev cX4_takes : ByteArray := prog_12_method_2_code
def yX4_takes : MethodName := ⟨RX4, "takes", "(LLandingTree$Plant;)V"⟩
def dkwX4_takes_4 : List UInt8 := [181, 0, 41, 177]
abbrev dktX4_takes_4 : List UInt8 := dkwX4_takes_4 ++ []
def dkwX4_takes_3 : List UInt8 := [181, 0, 31, 42, 43, 180, 0, 34, 181, 0, 34, 42, 43, 180, 0, 37, 181, 0, 37, 42, 43, 180, 0, 41]
abbrev dktX4_takes_3 : List UInt8 := dkwX4_takes_3 ++ dktX4_takes_4
def dkwX4_takes_2 : List UInt8 := [181, 0, 22, 42, 43, 180, 0, 25, 181, 0, 25, 42, 43, 180, 0, 28, 181, 0, 28, 42, 43, 180, 0, 31]
abbrev dktX4_takes_2 : List UInt8 := dkwX4_takes_2 ++ dktX4_takes_3
def dkwX4_takes_1 : List UInt8 := [167, 255, 235, 42, 43, 180, 0, 15, 181, 0, 15, 42, 43, 180, 0, 19, 181, 0, 19, 42, 43, 180, 0, 22]
abbrev dktX4_takes_1 : List UInt8 := dkwX4_takes_1 ++ dktX4_takes_2
def dkwX4_takes_0 : List UInt8 := [3, 61, 28, 16, 7, 162, 0, 21, 42, 180, 0, 9, 28, 43, 180, 0, 9, 28, 46, 79, 132, 2, 1]
abbrev dktX4_takes_0 : List UInt8 := dkwX4_takes_0 ++ dktX4_takes_1
theorem dksX4_takes_0 : cX4_takes.data.toList.drop 0 = dktX4_takes_0 := by decide +kernel
theorem dksX4_takes_1 : cX4_takes.data.toList.drop 23 = dktX4_takes_1 := dk_seg dksX4_takes_0 23 rfl rfl
theorem dksX4_takes_2 : cX4_takes.data.toList.drop 47 = dktX4_takes_2 := dk_seg dksX4_takes_1 24 rfl rfl
theorem dksX4_takes_3 : cX4_takes.data.toList.drop 71 = dktX4_takes_3 := dk_seg dksX4_takes_2 24 rfl rfl
theorem dksX4_takes_4 : cX4_takes.data.toList.drop 95 = dktX4_takes_4 := dk_seg dksX4_takes_3 24 rfl rfl
theorem dX4_takes_0 : decode cX4_takes 0 = .ok (.iconst 0, 1) := dk_3 (dk_at dksX4_takes_0 0 rfl rfl)
theorem dX4_takes_1 : decode cX4_takes 1 = .ok (.istore_n 2, 1) := dk_61 (dk_at dksX4_takes_0 1 rfl rfl)
theorem dX4_takes_2 : decode cX4_takes 2 = .ok (.iload_n 2, 1) := dk_28 (dk_at dksX4_takes_0 2 rfl rfl)
theorem dX4_takes_3 : decode cX4_takes 3 = .ok (.bipush 7, 2) := dk_16 7 (dk_at dksX4_takes_0 3 rfl rfl)
theorem dX4_takes_5 : decode cX4_takes 5 = .ok (.if_icmp .ge 21, 3) := dk_162 0 21 (dk_at dksX4_takes_0 5 rfl rfl)
theorem dX4_takes_8 : decode cX4_takes 8 = .ok (.aload_n 0, 1) := dk_42 (dk_at dksX4_takes_0 8 rfl rfl)
theorem dX4_takes_9 : decode cX4_takes 9 = .ok (.getfield 9, 3) := dk_180 0 9 (dk_at dksX4_takes_0 9 rfl rfl)
theorem dX4_takes_12 : decode cX4_takes 12 = .ok (.iload_n 2, 1) := dk_28 (dk_at dksX4_takes_0 12 rfl rfl)
theorem dX4_takes_13 : decode cX4_takes 13 = .ok (.aload_n 1, 1) := dk_43 (dk_at dksX4_takes_0 13 rfl rfl)
theorem dX4_takes_14 : decode cX4_takes 14 = .ok (.getfield 9, 3) := dk_180 0 9 (dk_at dksX4_takes_0 14 rfl rfl)
theorem dX4_takes_17 : decode cX4_takes 17 = .ok (.iload_n 2, 1) := dk_28 (dk_at dksX4_takes_0 17 rfl rfl)
theorem dX4_takes_18 : decode cX4_takes 18 = .ok (.iaload, 1) := dk_46 (dk_at dksX4_takes_0 18 rfl rfl)
theorem dX4_takes_19 : decode cX4_takes 19 = .ok (.iastore, 1) := dk_79 (dk_at dksX4_takes_0 19 rfl rfl)
theorem dX4_takes_20 : decode cX4_takes 20 = .ok (.iinc 2 1, 3) := dk_132 2 1 (dk_at dksX4_takes_0 20 rfl rfl)
theorem dX4_takes_23 : decode cX4_takes 23 = .ok (.goto (-21), 3) := dk_167 255 235 (dk_at dksX4_takes_1 0 rfl rfl)
theorem dX4_takes_26 : decode cX4_takes 26 = .ok (.aload_n 0, 1) := dk_42 (dk_at dksX4_takes_1 3 rfl rfl)
theorem dX4_takes_27 : decode cX4_takes 27 = .ok (.aload_n 1, 1) := dk_43 (dk_at dksX4_takes_1 4 rfl rfl)
theorem dX4_takes_28 : decode cX4_takes 28 = .ok (.getfield 15, 3) := dk_180 0 15 (dk_at dksX4_takes_1 5 rfl rfl)
theorem dX4_takes_31 : decode cX4_takes 31 = .ok (.putfield 15, 3) := dk_181 0 15 (dk_at dksX4_takes_1 8 rfl rfl)
theorem dX4_takes_34 : decode cX4_takes 34 = .ok (.aload_n 0, 1) := dk_42 (dk_at dksX4_takes_1 11 rfl rfl)
theorem dX4_takes_35 : decode cX4_takes 35 = .ok (.aload_n 1, 1) := dk_43 (dk_at dksX4_takes_1 12 rfl rfl)
theorem dX4_takes_36 : decode cX4_takes 36 = .ok (.getfield 19, 3) := dk_180 0 19 (dk_at dksX4_takes_1 13 rfl rfl)
theorem dX4_takes_39 : decode cX4_takes 39 = .ok (.putfield 19, 3) := dk_181 0 19 (dk_at dksX4_takes_1 16 rfl rfl)
theorem dX4_takes_42 : decode cX4_takes 42 = .ok (.aload_n 0, 1) := dk_42 (dk_at dksX4_takes_1 19 rfl rfl)
theorem dX4_takes_43 : decode cX4_takes 43 = .ok (.aload_n 1, 1) := dk_43 (dk_at dksX4_takes_1 20 rfl rfl)
theorem dX4_takes_44 : decode cX4_takes 44 = .ok (.getfield 22, 3) := dk_180 0 22 (dk_at dksX4_takes_1 21 rfl rfl)
theorem dX4_takes_47 : decode cX4_takes 47 = .ok (.putfield 22, 3) := dk_181 0 22 (dk_at dksX4_takes_2 0 rfl rfl)
theorem dX4_takes_50 : decode cX4_takes 50 = .ok (.aload_n 0, 1) := dk_42 (dk_at dksX4_takes_2 3 rfl rfl)
theorem dX4_takes_51 : decode cX4_takes 51 = .ok (.aload_n 1, 1) := dk_43 (dk_at dksX4_takes_2 4 rfl rfl)
theorem dX4_takes_52 : decode cX4_takes 52 = .ok (.getfield 25, 3) := dk_180 0 25 (dk_at dksX4_takes_2 5 rfl rfl)
theorem dX4_takes_55 : decode cX4_takes 55 = .ok (.putfield 25, 3) := dk_181 0 25 (dk_at dksX4_takes_2 8 rfl rfl)
theorem dX4_takes_58 : decode cX4_takes 58 = .ok (.aload_n 0, 1) := dk_42 (dk_at dksX4_takes_2 11 rfl rfl)
theorem dX4_takes_59 : decode cX4_takes 59 = .ok (.aload_n 1, 1) := dk_43 (dk_at dksX4_takes_2 12 rfl rfl)
theorem dX4_takes_60 : decode cX4_takes 60 = .ok (.getfield 28, 3) := dk_180 0 28 (dk_at dksX4_takes_2 13 rfl rfl)
theorem dX4_takes_63 : decode cX4_takes 63 = .ok (.putfield 28, 3) := dk_181 0 28 (dk_at dksX4_takes_2 16 rfl rfl)
theorem dX4_takes_66 : decode cX4_takes 66 = .ok (.aload_n 0, 1) := dk_42 (dk_at dksX4_takes_2 19 rfl rfl)
theorem dX4_takes_67 : decode cX4_takes 67 = .ok (.aload_n 1, 1) := dk_43 (dk_at dksX4_takes_2 20 rfl rfl)
theorem dX4_takes_68 : decode cX4_takes 68 = .ok (.getfield 31, 3) := dk_180 0 31 (dk_at dksX4_takes_2 21 rfl rfl)
theorem dX4_takes_71 : decode cX4_takes 71 = .ok (.putfield 31, 3) := dk_181 0 31 (dk_at dksX4_takes_3 0 rfl rfl)
theorem dX4_takes_74 : decode cX4_takes 74 = .ok (.aload_n 0, 1) := dk_42 (dk_at dksX4_takes_3 3 rfl rfl)
theorem dX4_takes_75 : decode cX4_takes 75 = .ok (.aload_n 1, 1) := dk_43 (dk_at dksX4_takes_3 4 rfl rfl)
theorem dX4_takes_76 : decode cX4_takes 76 = .ok (.getfield 34, 3) := dk_180 0 34 (dk_at dksX4_takes_3 5 rfl rfl)
theorem dX4_takes_79 : decode cX4_takes 79 = .ok (.putfield 34, 3) := dk_181 0 34 (dk_at dksX4_takes_3 8 rfl rfl)
theorem dX4_takes_82 : decode cX4_takes 82 = .ok (.aload_n 0, 1) := dk_42 (dk_at dksX4_takes_3 11 rfl rfl)
theorem dX4_takes_83 : decode cX4_takes 83 = .ok (.aload_n 1, 1) := dk_43 (dk_at dksX4_takes_3 12 rfl rfl)
theorem dX4_takes_84 : decode cX4_takes 84 = .ok (.getfield 37, 3) := dk_180 0 37 (dk_at dksX4_takes_3 13 rfl rfl)
theorem dX4_takes_87 : decode cX4_takes 87 = .ok (.putfield 37, 3) := dk_181 0 37 (dk_at dksX4_takes_3 16 rfl rfl)
theorem dX4_takes_90 : decode cX4_takes 90 = .ok (.aload_n 0, 1) := dk_42 (dk_at dksX4_takes_3 19 rfl rfl)
theorem dX4_takes_91 : decode cX4_takes 91 = .ok (.aload_n 1, 1) := dk_43 (dk_at dksX4_takes_3 20 rfl rfl)
theorem dX4_takes_92 : decode cX4_takes 92 = .ok (.getfield 41, 3) := dk_180 0 41 (dk_at dksX4_takes_3 21 rfl rfl)
theorem dX4_takes_95 : decode cX4_takes 95 = .ok (.putfield 41, 3) := dk_181 0 41 (dk_at dksX4_takes_4 0 rfl rfl)
theorem dX4_takes_98 : decode cX4_takes 98 = .ok (.return_, 1) := dk_177 (dk_at dksX4_takes_4 3 rfl rfl)
theorem q109 : (Jvm.Cond.initialized "LandingTree$Plant") ∈ lw_all := lw_g (lw_at lw_m1 5 rfl) rfl
theorem q202 : (Jvm.Cond.instantiable "LandingTree$Plant" (10 : Nat)) ∈ lw_all := lw_g (lw_at lw_m1 98 rfl) rfl
theorem q204 : (Jvm.Cond.instanceMethod ({ cls := "LandingTree$Plant", name := "<init>", desc := "()V" } : Jvm.MethodName)) ∈ lw_all := lw_g (lw_at lw_m1 100 rfl) rfl
theorem q205 : (Jvm.Cond.code ({ cls := "LandingTree$Plant", name := "<init>", desc := "()V" } : Jvm.MethodName) prog_12_method_1_code (1 : Nat) (Option.none : Option Jvm.ClassFile.FieldType)) ∈ lw_all := lw_g (lw_at lw_m1 101 rfl) rfl
theorem q206 : (Jvm.Cond.methodLink "LandingTree$Plant" (3 : Nat) ({ cls := "java/lang/Object", name := "<init>", desc := "()V" } : Jvm.MethodName)) ∈ lw_all := lw_g (lw_at lw_m1 102 rfl) rfl
theorem q207 : (Jvm.Cond.fieldLink "LandingTree$Plant" (9 : Nat) "LandingTree$Plant" "looks" "[I") ∈ lw_all := lw_g (lw_at lw_m1 103 rfl) rfl
theorem q209 : (Jvm.Cond.fieldLink "LandingTree$Plant" (15 : Nat) "LandingTree$Plant" "pot" "I") ∈ lw_all := lw_g (lw_at lw_m1 105 rfl) rfl
theorem q212 : (Jvm.Cond.fieldLink "LandingTree$Plant" (19 : Nat) "LandingTree$Plant" "wet" "I") ∈ lw_all := lw_g (lw_at lw_m1 108 rfl) rfl
theorem q215 : (Jvm.Cond.fieldLink "LandingTree$Plant" (22 : Nat) "LandingTree$Plant" "bears" "I") ∈ lw_all := lw_g (lw_at lw_m1 111 rfl) rfl
theorem q217 : (Jvm.Cond.fieldLink "LandingTree$Plant" (25 : Nat) "LandingTree$Plant" "dry" "I") ∈ lw_all := lw_g (lw_at lw_m1 113 rfl) rfl
theorem q220 : (Jvm.Cond.fieldLink "LandingTree$Plant" (28 : Nat) "LandingTree$Plant" "drowned" "I") ∈ lw_all := lw_g (lw_at lw_m1 116 rfl) rfl
theorem q223 : (Jvm.Cond.fieldLink "LandingTree$Plant" (31 : Nat) "LandingTree$Plant" "oldest" "I") ∈ lw_all := lw_g (lw_at lw_m1 119 rfl) rfl
theorem q225 : (Jvm.Cond.fieldLink "LandingTree$Plant" (34 : Nat) "LandingTree$Plant" "written" "I") ∈ lw_all := lw_g (lw_at lw_m1 121 rfl) rfl
theorem q228 : (Jvm.Cond.fieldLink "LandingTree$Plant" (37 : Nat) "LandingTree$Plant" "isTold" "Z") ∈ lw_all := lw_g (lw_at lw_m1 124 rfl) rfl
theorem q231 : (Jvm.Cond.fieldLink "LandingTree$Plant" (41 : Nat) "LandingTree$Plant" "hasCard" "Z") ∈ lw_all := lw_g (lw_at lw_m1 127 rfl) rfl
theorem q234 : (Jvm.Cond.laysFinal "LandingTree$Plant" "LandingTree$Plant" "looks" "[I") ∈ lw_all := lw_g (lw_at lw_m1 130 rfl) rfl
theorem q235 : (Jvm.Cond.soleField "LandingTree$Plant" "looks") ∈ lw_all := lw_g (lw_at lw_m1 131 rfl) rfl
theorem q236 : (Jvm.Cond.lays "LandingTree$Plant" "LandingTree$Plant" "pot" "I") ∈ lw_all := lw_g (lw_at lw_m1 132 rfl) rfl
theorem q237 : (Jvm.Cond.soleField "LandingTree$Plant" "pot") ∈ lw_all := lw_g (lw_at lw_m1 133 rfl) rfl
theorem q238 : (Jvm.Cond.lays "LandingTree$Plant" "LandingTree$Plant" "wet" "I") ∈ lw_all := lw_g (lw_at lw_m1 134 rfl) rfl
theorem q239 : (Jvm.Cond.soleField "LandingTree$Plant" "wet") ∈ lw_all := lw_g (lw_at lw_m1 135 rfl) rfl
theorem q240 : (Jvm.Cond.lays "LandingTree$Plant" "LandingTree$Plant" "bears" "I") ∈ lw_all := lw_g (lw_at lw_m1 136 rfl) rfl
theorem q241 : (Jvm.Cond.soleField "LandingTree$Plant" "bears") ∈ lw_all := lw_g (lw_at lw_m1 137 rfl) rfl
theorem q242 : (Jvm.Cond.lays "LandingTree$Plant" "LandingTree$Plant" "dry" "I") ∈ lw_all := lw_g (lw_at lw_m1 138 rfl) rfl
theorem q243 : (Jvm.Cond.soleField "LandingTree$Plant" "dry") ∈ lw_all := lw_g (lw_at lw_m1 139 rfl) rfl
theorem q244 : (Jvm.Cond.lays "LandingTree$Plant" "LandingTree$Plant" "drowned" "I") ∈ lw_all := lw_g (lw_at lw_m1 140 rfl) rfl
theorem q245 : (Jvm.Cond.soleField "LandingTree$Plant" "drowned") ∈ lw_all := lw_g (lw_at lw_m1 141 rfl) rfl
theorem q246 : (Jvm.Cond.lays "LandingTree$Plant" "LandingTree$Plant" "oldest" "I") ∈ lw_all := lw_g (lw_at lw_m1 142 rfl) rfl
theorem q247 : (Jvm.Cond.soleField "LandingTree$Plant" "oldest") ∈ lw_all := lw_g (lw_at lw_m1 143 rfl) rfl
theorem q248 : (Jvm.Cond.lays "LandingTree$Plant" "LandingTree$Plant" "written" "I") ∈ lw_all := lw_g (lw_at lw_m1 144 rfl) rfl
theorem q249 : (Jvm.Cond.soleField "LandingTree$Plant" "written") ∈ lw_all := lw_g (lw_at lw_m1 145 rfl) rfl
theorem q250 : (Jvm.Cond.lays "LandingTree$Plant" "LandingTree$Plant" "isTold" "Z") ∈ lw_all := lw_g (lw_at lw_m1 146 rfl) rfl
theorem q251 : (Jvm.Cond.soleField "LandingTree$Plant" "isTold") ∈ lw_all := lw_g (lw_at lw_m1 147 rfl) rfl
theorem q252 : (Jvm.Cond.lays "LandingTree$Plant" "LandingTree$Plant" "hasCard" "Z") ∈ lw_all := lw_g (lw_at lw_m1 148 rfl) rfl
theorem q253 : (Jvm.Cond.soleField "LandingTree$Plant" "hasCard") ∈ lw_all := lw_g (lw_at lw_m1 149 rfl) rfl
theorem q254 : (Jvm.Cond.superclass "LandingTree$Plant" "java/lang/Object") ∈ lw_all := lw_g (lw_at lw_m1 150 rfl) rfl
theorem q482 : (Jvm.Cond.instanceMethod ({ cls := "LandingTree$Plant", name := "isDead", desc := "()Z" } : Jvm.MethodName)) ∈ lw_all := lw_g (lw_at lw_m2 138 rfl) rfl
theorem q483 : (Jvm.Cond.selects "LandingTree$Plant" ({ cls := "LandingTree$Plant", name := "isDead", desc := "()Z" } : Jvm.MethodName) ({ cls := "LandingTree$Plant", name := "isDead", desc := "()Z" } : Jvm.MethodName)) ∈ lw_all := lw_g (lw_at lw_m2 139 rfl) rfl
theorem q484 : (Jvm.Cond.code ({ cls := "LandingTree$Plant", name := "isDead", desc := "()Z" } : Jvm.MethodName) prog_12_method_3_code (1 : Nat) (Option.some Jvm.ClassFile.FieldType.boolean)) ∈ lw_all := lw_g (lw_at lw_m2 140 rfl) rfl
theorem q486 : (Jvm.Cond.instanceMethod ({ cls := "LandingTree$Plant", name := "gets", desc := "(I)I" } : Jvm.MethodName)) ∈ lw_all := lw_g (lw_at lw_m2 142 rfl) rfl
theorem q487 : (Jvm.Cond.selects "LandingTree$Plant" ({ cls := "LandingTree$Plant", name := "gets", desc := "(I)I" } : Jvm.MethodName) ({ cls := "LandingTree$Plant", name := "gets", desc := "(I)I" } : Jvm.MethodName)) ∈ lw_all := lw_g (lw_at lw_m2 143 rfl) rfl
theorem q488 : (Jvm.Cond.code ({ cls := "LandingTree$Plant", name := "gets", desc := "(I)I" } : Jvm.MethodName) prog_12_method_6_code (3 : Nat) (Option.some Jvm.ClassFile.FieldType.int)) ∈ lw_all := lw_g (lw_at lw_m2 144 rfl) rfl
theorem q489 : (Jvm.Cond.methodLink "LandingTree$Plant" (48 : Nat) ({ cls := "java/lang/Math", name := "max", desc := "(II)I" } : Jvm.MethodName)) ∈ lw_all := lw_g (lw_at lw_m2 145 rfl) rfl
theorem q793 : (Jvm.Cond.instanceMethod ({ cls := "LandingTree$Plant", name := "lives", desc := "()Z" } : Jvm.MethodName)) ∈ lw_all := lw_g (lw_at lw_m3 209 rfl) rfl
theorem q794 : (Jvm.Cond.selects "LandingTree$Plant" ({ cls := "LandingTree$Plant", name := "lives", desc := "()Z" } : Jvm.MethodName) ({ cls := "LandingTree$Plant", name := "lives", desc := "()Z" } : Jvm.MethodName)) ∈ lw_all := lw_g (lw_at lw_m3 210 rfl) rfl
theorem q795 : (Jvm.Cond.code ({ cls := "LandingTree$Plant", name := "lives", desc := "()Z" } : Jvm.MethodName) prog_12_method_4_code (1 : Nat) (Option.some Jvm.ClassFile.FieldType.boolean)) ∈ lw_all := lw_g (lw_at lw_m3 211 rfl) rfl
theorem q796 : (Jvm.Cond.methodLink "LandingTree$Plant" (44 : Nat) ({ cls := "LandingTree$Plant", name := "isDead", desc := "()Z" } : Jvm.MethodName)) ∈ lw_all := lw_g (lw_at lw_m3 212 rfl) rfl
theorem q819 : (Jvm.Cond.instanceMethod ({ cls := "LandingTree$Plant", name := "looked", desc := "(I)I" } : Jvm.MethodName)) ∈ lw_all := lw_g (lw_at lw_m3 235 rfl) rfl
theorem q820 : (Jvm.Cond.selects "LandingTree$Plant" ({ cls := "LandingTree$Plant", name := "looked", desc := "(I)I" } : Jvm.MethodName) ({ cls := "LandingTree$Plant", name := "looked", desc := "(I)I" } : Jvm.MethodName)) ∈ lw_all := lw_g (lw_at lw_m3 236 rfl) rfl
theorem q821 : (Jvm.Cond.code ({ cls := "LandingTree$Plant", name := "looked", desc := "(I)I" } : Jvm.MethodName) prog_12_method_5_code (2 : Nat) (Option.some Jvm.ClassFile.FieldType.int)) ∈ lw_all := lw_g (lw_at lw_m3 237 rfl) rfl
theorem q897 : (Jvm.Cond.instanceMethod ({ cls := "LandingTree$Plant", name := "dayEnds", desc := "(I)V" } : Jvm.MethodName)) ∈ lw_all := lw_g (lw_at lw_m4 73 rfl) rfl
theorem q898 : (Jvm.Cond.selects "LandingTree$Plant" ({ cls := "LandingTree$Plant", name := "dayEnds", desc := "(I)V" } : Jvm.MethodName) ({ cls := "LandingTree$Plant", name := "dayEnds", desc := "(I)V" } : Jvm.MethodName)) ∈ lw_all := lw_g (lw_at lw_m4 74 rfl) rfl
theorem q899 : (Jvm.Cond.code ({ cls := "LandingTree$Plant", name := "dayEnds", desc := "(I)V" } : Jvm.MethodName) prog_12_method_7_code (2 : Nat) (Option.none : Option Jvm.ClassFile.FieldType)) ∈ lw_all := lw_g (lw_at lw_m4 75 rfl) rfl
theorem q913 : (Jvm.Cond.instanceMethod ({ cls := "LandingTree$Plant", name := "takes", desc := "(LLandingTree$Plant;)V" } : Jvm.MethodName)) ∈ lw_all := lw_g (lw_at lw_m4 89 rfl) rfl
theorem q914 : (Jvm.Cond.selects "LandingTree$Plant" ({ cls := "LandingTree$Plant", name := "takes", desc := "(LLandingTree$Plant;)V" } : Jvm.MethodName) ({ cls := "LandingTree$Plant", name := "takes", desc := "(LLandingTree$Plant;)V" } : Jvm.MethodName)) ∈ lw_all := lw_g (lw_at lw_m4 90 rfl) rfl
theorem q915 : (Jvm.Cond.code ({ cls := "LandingTree$Plant", name := "takes", desc := "(LLandingTree$Plant;)V" } : Jvm.MethodName) prog_12_method_2_code (3 : Nat) (Option.none : Option Jvm.ClassFile.FieldType)) ∈ lw_all := lw_g (lw_at lw_m4 91 rfl) rfl
theorem in_X4 : ∀ w ∈ wsX40, w ∈ lw_all := lw_in wsX40 [234, 236, 238, 240, 242, 244, 246, 248, 250, 252] (by decide +kernel) (by decide +kernel)

/-! LandingTree$Person -/
set_option maxRecDepth 100000
def RX5 : String := "LandingTree$Person"
def TX5 : u_T := fun k => match k with
  | 0 => ("LandingTree$Person", "tenths", "I", false)
  | 1 => ("LandingTree$Person", "rule", "I", false)
  | 2 => ("LandingTree$Person", "given", "I", false)
  | _ => ("LandingTree$Person", "isTold", "Z", false)
def tyX5 : Nat → FieldType := fun k => match k with
  | 0 => .int
  | 1 => .int
  | 2 => .int
  | _ => .boolean
abbrev wsX50 : List Cond := u_ws RX5 TX5 4
theorem nmX5 : ∀ a, a < 4 → ∀ b, b < 4 → a ≠ b → (TX5 a).2.1 ≠ (TX5 b).2.1 := by decide +kernel
theorem tyX5_ok : ∀ k, k < 4 → parseFieldDescriptor (TX5 k).2.2.1 = some (tyX5 k) := by decide +kernel
abbrev cX5_init : ByteArray := prog_11_method_1_code
def yX5_init : MethodName := ⟨RX5, "<init>", "()V"⟩
theorem dX5_init_0 : decode cX5_init 0 = .ok (.aload_n 0, 1) := by decide +kernel
theorem dX5_init_1 : decode cX5_init 1 = .ok (.invokespecial 1, 3) := by decide +kernel
theorem dX5_init_4 : decode cX5_init 4 = .ok (.return_, 1) := by decide +kernel
abbrev cX5_takes : ByteArray := prog_11_method_2_code
def yX5_takes : MethodName := ⟨RX5, "takes", "(LLandingTree$Person;)V"⟩
def dkwX5_takes_1 : List UInt8 := [42, 43, 180, 0, 19, 181, 0, 19, 177]
abbrev dktX5_takes_1 : List UInt8 := dkwX5_takes_1 ++ []
def dkwX5_takes_0 : List UInt8 := [42, 43, 180, 0, 7, 181, 0, 7, 42, 43, 180, 0, 13, 181, 0, 13, 42, 43, 180, 0, 16, 181, 0, 16]
abbrev dktX5_takes_0 : List UInt8 := dkwX5_takes_0 ++ dktX5_takes_1
theorem dksX5_takes_0 : cX5_takes.data.toList.drop 0 = dktX5_takes_0 := by decide +kernel
theorem dksX5_takes_1 : cX5_takes.data.toList.drop 24 = dktX5_takes_1 := dk_seg dksX5_takes_0 24 rfl rfl
theorem dX5_takes_0 : decode cX5_takes 0 = .ok (.aload_n 0, 1) := dk_42 (dk_at dksX5_takes_0 0 rfl rfl)
theorem dX5_takes_1 : decode cX5_takes 1 = .ok (.aload_n 1, 1) := dk_43 (dk_at dksX5_takes_0 1 rfl rfl)
theorem dX5_takes_2 : decode cX5_takes 2 = .ok (.getfield 7, 3) := dk_180 0 7 (dk_at dksX5_takes_0 2 rfl rfl)
theorem dX5_takes_5 : decode cX5_takes 5 = .ok (.putfield 7, 3) := dk_181 0 7 (dk_at dksX5_takes_0 5 rfl rfl)
theorem dX5_takes_8 : decode cX5_takes 8 = .ok (.aload_n 0, 1) := dk_42 (dk_at dksX5_takes_0 8 rfl rfl)
theorem dX5_takes_9 : decode cX5_takes 9 = .ok (.aload_n 1, 1) := dk_43 (dk_at dksX5_takes_0 9 rfl rfl)
theorem dX5_takes_10 : decode cX5_takes 10 = .ok (.getfield 13, 3) := dk_180 0 13 (dk_at dksX5_takes_0 10 rfl rfl)
theorem dX5_takes_13 : decode cX5_takes 13 = .ok (.putfield 13, 3) := dk_181 0 13 (dk_at dksX5_takes_0 13 rfl rfl)
theorem dX5_takes_16 : decode cX5_takes 16 = .ok (.aload_n 0, 1) := dk_42 (dk_at dksX5_takes_0 16 rfl rfl)
theorem dX5_takes_17 : decode cX5_takes 17 = .ok (.aload_n 1, 1) := dk_43 (dk_at dksX5_takes_0 17 rfl rfl)
theorem dX5_takes_18 : decode cX5_takes 18 = .ok (.getfield 16, 3) := dk_180 0 16 (dk_at dksX5_takes_0 18 rfl rfl)
theorem dX5_takes_21 : decode cX5_takes 21 = .ok (.putfield 16, 3) := dk_181 0 16 (dk_at dksX5_takes_0 21 rfl rfl)
theorem dX5_takes_24 : decode cX5_takes 24 = .ok (.aload_n 0, 1) := dk_42 (dk_at dksX5_takes_1 0 rfl rfl)
theorem dX5_takes_25 : decode cX5_takes 25 = .ok (.aload_n 1, 1) := dk_43 (dk_at dksX5_takes_1 1 rfl rfl)
theorem dX5_takes_26 : decode cX5_takes 26 = .ok (.getfield 19, 3) := dk_180 0 19 (dk_at dksX5_takes_1 2 rfl rfl)
theorem dX5_takes_29 : decode cX5_takes 29 = .ok (.putfield 19, 3) := dk_181 0 19 (dk_at dksX5_takes_1 5 rfl rfl)
theorem dX5_takes_32 : decode cX5_takes 32 = .ok (.return_, 1) := dk_177 (dk_at dksX5_takes_1 8 rfl rfl)
theorem q110 : (Jvm.Cond.initialized "LandingTree$Person") ∈ lw_all := lw_g (lw_at lw_m1 6 rfl) rfl
theorem q256 : (Jvm.Cond.instantiable "LandingTree$Person" (4 : Nat)) ∈ lw_all := lw_g (lw_at lw_m1 152 rfl) rfl
theorem q258 : (Jvm.Cond.instanceMethod ({ cls := "LandingTree$Person", name := "<init>", desc := "()V" } : Jvm.MethodName)) ∈ lw_all := lw_g (lw_at lw_m1 154 rfl) rfl
theorem q259 : (Jvm.Cond.code ({ cls := "LandingTree$Person", name := "<init>", desc := "()V" } : Jvm.MethodName) prog_11_method_1_code (1 : Nat) (Option.none : Option Jvm.ClassFile.FieldType)) ∈ lw_all := lw_g (lw_at lw_m1 155 rfl) rfl
theorem q260 : (Jvm.Cond.methodLink "LandingTree$Person" (1 : Nat) ({ cls := "java/lang/Object", name := "<init>", desc := "()V" } : Jvm.MethodName)) ∈ lw_all := lw_g (lw_at lw_m1 156 rfl) rfl
theorem q261 : (Jvm.Cond.fieldLink "LandingTree$Person" (7 : Nat) "LandingTree$Person" "tenths" "I") ∈ lw_all := lw_g (lw_at lw_m1 157 rfl) rfl
theorem q264 : (Jvm.Cond.fieldLink "LandingTree$Person" (13 : Nat) "LandingTree$Person" "rule" "I") ∈ lw_all := lw_g (lw_at lw_m1 160 rfl) rfl
theorem q267 : (Jvm.Cond.fieldLink "LandingTree$Person" (16 : Nat) "LandingTree$Person" "given" "I") ∈ lw_all := lw_g (lw_at lw_m1 163 rfl) rfl
theorem q270 : (Jvm.Cond.fieldLink "LandingTree$Person" (19 : Nat) "LandingTree$Person" "isTold" "Z") ∈ lw_all := lw_g (lw_at lw_m1 166 rfl) rfl
theorem q273 : (Jvm.Cond.lays "LandingTree$Person" "LandingTree$Person" "tenths" "I") ∈ lw_all := lw_g (lw_at lw_m1 169 rfl) rfl
theorem q274 : (Jvm.Cond.soleField "LandingTree$Person" "tenths") ∈ lw_all := lw_g (lw_at lw_m1 170 rfl) rfl
theorem q275 : (Jvm.Cond.lays "LandingTree$Person" "LandingTree$Person" "rule" "I") ∈ lw_all := lw_g (lw_at lw_m1 171 rfl) rfl
theorem q276 : (Jvm.Cond.soleField "LandingTree$Person" "rule") ∈ lw_all := lw_g (lw_at lw_m1 172 rfl) rfl
theorem q277 : (Jvm.Cond.lays "LandingTree$Person" "LandingTree$Person" "given" "I") ∈ lw_all := lw_g (lw_at lw_m1 173 rfl) rfl
theorem q278 : (Jvm.Cond.soleField "LandingTree$Person" "given") ∈ lw_all := lw_g (lw_at lw_m1 174 rfl) rfl
theorem q279 : (Jvm.Cond.lays "LandingTree$Person" "LandingTree$Person" "isTold" "Z") ∈ lw_all := lw_g (lw_at lw_m1 175 rfl) rfl
theorem q280 : (Jvm.Cond.soleField "LandingTree$Person" "isTold") ∈ lw_all := lw_g (lw_at lw_m1 176 rfl) rfl
theorem q281 : (Jvm.Cond.superclass "LandingTree$Person" "java/lang/Object") ∈ lw_all := lw_g (lw_at lw_m1 177 rfl) rfl
theorem q917 : (Jvm.Cond.instanceMethod ({ cls := "LandingTree$Person", name := "takes", desc := "(LLandingTree$Person;)V" } : Jvm.MethodName)) ∈ lw_all := lw_g (lw_at lw_m4 93 rfl) rfl
theorem q918 : (Jvm.Cond.selects "LandingTree$Person" ({ cls := "LandingTree$Person", name := "takes", desc := "(LLandingTree$Person;)V" } : Jvm.MethodName) ({ cls := "LandingTree$Person", name := "takes", desc := "(LLandingTree$Person;)V" } : Jvm.MethodName)) ∈ lw_all := lw_g (lw_at lw_m4 94 rfl) rfl
theorem q919 : (Jvm.Cond.code ({ cls := "LandingTree$Person", name := "takes", desc := "(LLandingTree$Person;)V" } : Jvm.MethodName) prog_11_method_2_code (2 : Nat) (Option.none : Option Jvm.ClassFile.FieldType)) ∈ lw_all := lw_g (lw_at lw_m4 95 rfl) rfl
theorem in_X5 : ∀ w ∈ wsX50, w ∈ lw_all := lw_in wsX50 [273, 275, 277, 279] (by decide +kernel) (by decide +kernel)

/-! LandingTree$Text -/
set_option maxRecDepth 100000
def RX6 : String := "LandingTree$Text"
def TX6 : u_T := fun k => match k with
  | 0 => ("LandingTree$Text", "letters", "[I", true)
  | 1 => ("LandingTree$Text", "sums", "[LLandingTree$Sum;", true)
  | 2 => ("LandingTree$Text", "conditions", "[LLandingTree$Condition;", true)
  | _ => ("LandingTree$Text", "many", "I", false)
def tyX6 : Nat → FieldType := fun k => match k with
  | 0 => .array .int
  | 1 => .array (.object "LandingTree$Sum")
  | 2 => .array (.object "LandingTree$Condition")
  | _ => .int
abbrev wsX60 : List Cond := u_ws RX6 TX6 4
theorem nmX6 : ∀ a, a < 4 → ∀ b, b < 4 → a ≠ b → (TX6 a).2.1 ≠ (TX6 b).2.1 := by decide +kernel
theorem tyX6_ok : ∀ k, k < 4 → parseFieldDescriptor (TX6 k).2.2.1 = some (tyX6 k) := by decide +kernel
abbrev cX6_init : ByteArray := prog_17_method_1_code
def yX6_init : MethodName := ⟨RX6, "<init>", "()V"⟩
def dkwX6_init_1 : List UInt8 := [189, 0, 21, 181, 0, 23, 177]
abbrev dktX6_init_1 : List UInt8 := dkwX6_init_1 ++ []
def dkwX6_init_0 : List UInt8 := [42, 183, 0, 3, 42, 16, 14, 188, 10, 181, 0, 9, 42, 16, 14, 189, 0, 15, 181, 0, 17, 42, 16, 14]
abbrev dktX6_init_0 : List UInt8 := dkwX6_init_0 ++ dktX6_init_1
theorem dksX6_init_0 : cX6_init.data.toList.drop 0 = dktX6_init_0 := by decide +kernel
theorem dksX6_init_1 : cX6_init.data.toList.drop 24 = dktX6_init_1 := dk_seg dksX6_init_0 24 rfl rfl
theorem dX6_init_0 : decode cX6_init 0 = .ok (.aload_n 0, 1) := dk_42 (dk_at dksX6_init_0 0 rfl rfl)
theorem dX6_init_1 : decode cX6_init 1 = .ok (.invokespecial 3, 3) := dk_183 0 3 (dk_at dksX6_init_0 1 rfl rfl)
theorem dX6_init_4 : decode cX6_init 4 = .ok (.aload_n 0, 1) := dk_42 (dk_at dksX6_init_0 4 rfl rfl)
theorem dX6_init_5 : decode cX6_init 5 = .ok (.bipush 14, 2) := dk_16 14 (dk_at dksX6_init_0 5 rfl rfl)
theorem dX6_init_7 : decode cX6_init 7 = .ok (.newarray .int, 2) := dk_188_10 (dk_at dksX6_init_0 7 rfl rfl)
theorem dX6_init_9 : decode cX6_init 9 = .ok (.putfield 9, 3) := dk_181 0 9 (dk_at dksX6_init_0 9 rfl rfl)
theorem dX6_init_12 : decode cX6_init 12 = .ok (.aload_n 0, 1) := dk_42 (dk_at dksX6_init_0 12 rfl rfl)
theorem dX6_init_13 : decode cX6_init 13 = .ok (.bipush 14, 2) := dk_16 14 (dk_at dksX6_init_0 13 rfl rfl)
theorem dX6_init_15 : decode cX6_init 15 = .ok (.anewarray 15, 3) := dk_189 0 15 (dk_at dksX6_init_0 15 rfl rfl)
theorem dX6_init_18 : decode cX6_init 18 = .ok (.putfield 17, 3) := dk_181 0 17 (dk_at dksX6_init_0 18 rfl rfl)
theorem dX6_init_21 : decode cX6_init 21 = .ok (.aload_n 0, 1) := dk_42 (dk_at dksX6_init_0 21 rfl rfl)
theorem dX6_init_22 : decode cX6_init 22 = .ok (.bipush 14, 2) := dk_16 14 (dk_at dksX6_init_0 22 rfl rfl)
theorem dX6_init_24 : decode cX6_init 24 = .ok (.anewarray 21, 3) := dk_189 0 21 (dk_at dksX6_init_1 0 rfl rfl)
theorem dX6_init_27 : decode cX6_init 27 = .ok (.putfield 23, 3) := dk_181 0 23 (dk_at dksX6_init_1 3 rfl rfl)
theorem dX6_init_30 : decode cX6_init 30 = .ok (.return_, 1) := dk_177 (dk_at dksX6_init_1 6 rfl rfl)
abbrev cX6_tells : ByteArray := prog_17_method_2_code
def yX6_tells : MethodName := ⟨RX6, "tells", "(ILLandingTree$Asked;)I"⟩
def dkwX6_tells_2 : List UInt8 := [167, 255, 210, 3, 172]
abbrev dktX6_tells_2 : List UInt8 := dkwX6_tells_2 ++ []
def dkwX6_tells_1 : List UInt8 := [29, 50, 44, 182, 0, 31, 4, 160, 0, 14, 42, 180, 0, 17, 29, 50, 44, 182, 0, 35, 172, 132, 3, 1]
abbrev dktX6_tells_1 : List UInt8 := dkwX6_tells_1 ++ dktX6_tells_2
def dkwX6_tells_0 : List UInt8 := [3, 62, 29, 42, 180, 0, 27, 162, 0, 44, 42, 180, 0, 9, 29, 46, 27, 160, 0, 28, 42, 180, 0, 23]
abbrev dktX6_tells_0 : List UInt8 := dkwX6_tells_0 ++ dktX6_tells_1
theorem dksX6_tells_0 : cX6_tells.data.toList.drop 0 = dktX6_tells_0 := by decide +kernel
theorem dksX6_tells_1 : cX6_tells.data.toList.drop 24 = dktX6_tells_1 := dk_seg dksX6_tells_0 24 rfl rfl
theorem dksX6_tells_2 : cX6_tells.data.toList.drop 48 = dktX6_tells_2 := dk_seg dksX6_tells_1 24 rfl rfl
theorem dX6_tells_0 : decode cX6_tells 0 = .ok (.iconst 0, 1) := dk_3 (dk_at dksX6_tells_0 0 rfl rfl)
theorem dX6_tells_1 : decode cX6_tells 1 = .ok (.istore_n 3, 1) := dk_62 (dk_at dksX6_tells_0 1 rfl rfl)
theorem dX6_tells_2 : decode cX6_tells 2 = .ok (.iload_n 3, 1) := dk_29 (dk_at dksX6_tells_0 2 rfl rfl)
theorem dX6_tells_3 : decode cX6_tells 3 = .ok (.aload_n 0, 1) := dk_42 (dk_at dksX6_tells_0 3 rfl rfl)
theorem dX6_tells_4 : decode cX6_tells 4 = .ok (.getfield 27, 3) := dk_180 0 27 (dk_at dksX6_tells_0 4 rfl rfl)
theorem dX6_tells_7 : decode cX6_tells 7 = .ok (.if_icmp .ge 44, 3) := dk_162 0 44 (dk_at dksX6_tells_0 7 rfl rfl)
theorem dX6_tells_10 : decode cX6_tells 10 = .ok (.aload_n 0, 1) := dk_42 (dk_at dksX6_tells_0 10 rfl rfl)
theorem dX6_tells_11 : decode cX6_tells 11 = .ok (.getfield 9, 3) := dk_180 0 9 (dk_at dksX6_tells_0 11 rfl rfl)
theorem dX6_tells_14 : decode cX6_tells 14 = .ok (.iload_n 3, 1) := dk_29 (dk_at dksX6_tells_0 14 rfl rfl)
theorem dX6_tells_15 : decode cX6_tells 15 = .ok (.iaload, 1) := dk_46 (dk_at dksX6_tells_0 15 rfl rfl)
theorem dX6_tells_16 : decode cX6_tells 16 = .ok (.iload_n 1, 1) := dk_27 (dk_at dksX6_tells_0 16 rfl rfl)
theorem dX6_tells_17 : decode cX6_tells 17 = .ok (.if_icmp .ne 28, 3) := dk_160 0 28 (dk_at dksX6_tells_0 17 rfl rfl)
theorem dX6_tells_20 : decode cX6_tells 20 = .ok (.aload_n 0, 1) := dk_42 (dk_at dksX6_tells_0 20 rfl rfl)
theorem dX6_tells_21 : decode cX6_tells 21 = .ok (.getfield 23, 3) := dk_180 0 23 (dk_at dksX6_tells_0 21 rfl rfl)
theorem dX6_tells_24 : decode cX6_tells 24 = .ok (.iload_n 3, 1) := dk_29 (dk_at dksX6_tells_1 0 rfl rfl)
theorem dX6_tells_25 : decode cX6_tells 25 = .ok (.aaload, 1) := dk_50 (dk_at dksX6_tells_1 1 rfl rfl)
theorem dX6_tells_26 : decode cX6_tells 26 = .ok (.aload_n 2, 1) := dk_44 (dk_at dksX6_tells_1 2 rfl rfl)
theorem dX6_tells_27 : decode cX6_tells 27 = .ok (.invokevirtual 31, 3) := dk_182 0 31 (dk_at dksX6_tells_1 3 rfl rfl)
theorem dX6_tells_30 : decode cX6_tells 30 = .ok (.iconst 1, 1) := dk_4 (dk_at dksX6_tells_1 6 rfl rfl)
theorem dX6_tells_31 : decode cX6_tells 31 = .ok (.if_icmp .ne 14, 3) := dk_160 0 14 (dk_at dksX6_tells_1 7 rfl rfl)
theorem dX6_tells_34 : decode cX6_tells 34 = .ok (.aload_n 0, 1) := dk_42 (dk_at dksX6_tells_1 10 rfl rfl)
theorem dX6_tells_35 : decode cX6_tells 35 = .ok (.getfield 17, 3) := dk_180 0 17 (dk_at dksX6_tells_1 11 rfl rfl)
theorem dX6_tells_38 : decode cX6_tells 38 = .ok (.iload_n 3, 1) := dk_29 (dk_at dksX6_tells_1 14 rfl rfl)
theorem dX6_tells_39 : decode cX6_tells 39 = .ok (.aaload, 1) := dk_50 (dk_at dksX6_tells_1 15 rfl rfl)
theorem dX6_tells_40 : decode cX6_tells 40 = .ok (.aload_n 2, 1) := dk_44 (dk_at dksX6_tells_1 16 rfl rfl)
theorem dX6_tells_41 : decode cX6_tells 41 = .ok (.invokevirtual 35, 3) := dk_182 0 35 (dk_at dksX6_tells_1 17 rfl rfl)
theorem dX6_tells_44 : decode cX6_tells 44 = .ok (.ireturn, 1) := dk_172 (dk_at dksX6_tells_1 20 rfl rfl)
theorem dX6_tells_45 : decode cX6_tells 45 = .ok (.iinc 3 1, 3) := dk_132 3 1 (dk_at dksX6_tells_1 21 rfl rfl)
theorem dX6_tells_48 : decode cX6_tells 48 = .ok (.goto (-46), 3) := dk_167 255 210 (dk_at dksX6_tells_2 0 rfl rfl)
theorem dX6_tells_51 : decode cX6_tells 51 = .ok (.iconst 0, 1) := dk_3 (dk_at dksX6_tells_2 3 rfl rfl)
theorem dX6_tells_52 : decode cX6_tells 52 = .ok (.ireturn, 1) := dk_172 (dk_at dksX6_tells_2 4 rfl rfl)
theorem q111 : (Jvm.Cond.initialized "LandingTree$Text") ∈ lw_all := lw_g (lw_at lw_m1 7 rfl) rfl
theorem q316 : (Jvm.Cond.instantiable "LandingTree$Text" (4 : Nat)) ∈ lw_all := lw_g (lw_at lw_m1 212 rfl) rfl
theorem q318 : (Jvm.Cond.instanceMethod ({ cls := "LandingTree$Text", name := "<init>", desc := "()V" } : Jvm.MethodName)) ∈ lw_all := lw_g (lw_at lw_m1 214 rfl) rfl
theorem q319 : (Jvm.Cond.code ({ cls := "LandingTree$Text", name := "<init>", desc := "()V" } : Jvm.MethodName) prog_17_method_1_code (1 : Nat) (Option.none : Option Jvm.ClassFile.FieldType)) ∈ lw_all := lw_g (lw_at lw_m1 215 rfl) rfl
theorem q320 : (Jvm.Cond.methodLink "LandingTree$Text" (3 : Nat) ({ cls := "java/lang/Object", name := "<init>", desc := "()V" } : Jvm.MethodName)) ∈ lw_all := lw_g (lw_at lw_m1 216 rfl) rfl
theorem q321 : (Jvm.Cond.classLink "LandingTree$Text" (15 : Nat) "LandingTree$Sum") ∈ lw_all := lw_g (lw_at lw_m1 217 rfl) rfl
theorem q323 : (Jvm.Cond.classLink "LandingTree$Text" (21 : Nat) "LandingTree$Condition") ∈ lw_all := lw_g (lw_at lw_m1 219 rfl) rfl
theorem q325 : (Jvm.Cond.fieldLink "LandingTree$Text" (9 : Nat) "LandingTree$Text" "letters" "[I") ∈ lw_all := lw_g (lw_at lw_m1 221 rfl) rfl
theorem q327 : (Jvm.Cond.fieldLink "LandingTree$Text" (17 : Nat) "LandingTree$Text" "sums" "[LLandingTree$Sum;") ∈ lw_all := lw_g (lw_at lw_m1 223 rfl) rfl
theorem q329 : (Jvm.Cond.fieldLink "LandingTree$Text" (23 : Nat) "LandingTree$Text" "conditions" "[LLandingTree$Condition;") ∈ lw_all := lw_g (lw_at lw_m1 225 rfl) rfl
theorem q331 : (Jvm.Cond.fieldLink "LandingTree$Text" (27 : Nat) "LandingTree$Text" "many" "I") ∈ lw_all := lw_g (lw_at lw_m1 227 rfl) rfl
theorem q334 : (Jvm.Cond.laysFinal "LandingTree$Text" "LandingTree$Text" "letters" "[I") ∈ lw_all := lw_g (lw_at lw_m1 230 rfl) rfl
theorem q335 : (Jvm.Cond.soleField "LandingTree$Text" "letters") ∈ lw_all := lw_g (lw_at lw_m1 231 rfl) rfl
theorem q336 : (Jvm.Cond.laysFinal "LandingTree$Text" "LandingTree$Text" "sums" "[LLandingTree$Sum;") ∈ lw_all := lw_g (lw_at lw_m1 232 rfl) rfl
theorem q337 : (Jvm.Cond.soleField "LandingTree$Text" "sums") ∈ lw_all := lw_g (lw_at lw_m1 233 rfl) rfl
theorem q338 : (Jvm.Cond.laysFinal "LandingTree$Text" "LandingTree$Text" "conditions" "[LLandingTree$Condition;") ∈ lw_all := lw_g (lw_at lw_m1 234 rfl) rfl
theorem q339 : (Jvm.Cond.soleField "LandingTree$Text" "conditions") ∈ lw_all := lw_g (lw_at lw_m1 235 rfl) rfl
theorem q340 : (Jvm.Cond.lays "LandingTree$Text" "LandingTree$Text" "many" "I") ∈ lw_all := lw_g (lw_at lw_m1 236 rfl) rfl
theorem q341 : (Jvm.Cond.soleField "LandingTree$Text" "many") ∈ lw_all := lw_g (lw_at lw_m1 237 rfl) rfl
theorem q342 : (Jvm.Cond.superclass "LandingTree$Text" "java/lang/Object") ∈ lw_all := lw_g (lw_at lw_m1 238 rfl) rfl
theorem q835 : (Jvm.Cond.instanceMethod ({ cls := "LandingTree$Text", name := "tells", desc := "(ILLandingTree$Asked;)I" } : Jvm.MethodName)) ∈ lw_all := lw_g (lw_at lw_m4 11 rfl) rfl
theorem q836 : (Jvm.Cond.selects "LandingTree$Text" ({ cls := "LandingTree$Text", name := "tells", desc := "(ILLandingTree$Asked;)I" } : Jvm.MethodName) ({ cls := "LandingTree$Text", name := "tells", desc := "(ILLandingTree$Asked;)I" } : Jvm.MethodName)) ∈ lw_all := lw_g (lw_at lw_m4 12 rfl) rfl
theorem q837 : (Jvm.Cond.code ({ cls := "LandingTree$Text", name := "tells", desc := "(ILLandingTree$Asked;)I" } : Jvm.MethodName) prog_17_method_2_code (4 : Nat) (Option.some Jvm.ClassFile.FieldType.int)) ∈ lw_all := lw_g (lw_at lw_m4 13 rfl) rfl
theorem q838 : (Jvm.Cond.methodLink "LandingTree$Text" (31 : Nat) ({ cls := "LandingTree$Condition", name := "holds", desc := "(LLandingTree$Asked;)I" } : Jvm.MethodName)) ∈ lw_all := lw_g (lw_at lw_m4 14 rfl) rfl
theorem q874 : (Jvm.Cond.methodLink "LandingTree$Text" (35 : Nat) ({ cls := "LandingTree$Sum", name := "told", desc := "(LLandingTree$Asked;)I" } : Jvm.MethodName)) ∈ lw_all := lw_g (lw_at lw_m4 50 rfl) rfl
theorem in_X6 : ∀ w ∈ wsX60, w ∈ lw_all := lw_in wsX60 [334, 336, 338, 340] (by decide +kernel) (by decide +kernel)

/-! LandingTree$Reader -/
set_option maxRecDepth 100000
def RX8 : String := "LandingTree$Reader"
def TX8 : u_T := fun k => match k with
  | 0 => ("LandingTree$Reader", "n", "I", true)
  | 1 => ("LandingTree$Reader", "letters", "Ljava/lang/String;", true)
  | 2 => ("LandingTree$Reader", "text", "LLandingTree$Text;", true)
  | 3 => ("LandingTree$Reader", "at", "I", false)
  | 4 => ("LandingTree$Reader", "open", "I", false)
  | 5 => ("LandingTree$Reader", "fault", "I", false)
  | 6 => ("LandingTree$Reader", "place", "I", false)
  | _ => ("LandingTree$Reader", "this$0", "LLandingTree;", true)
def tyX8 : Nat → FieldType := fun k => match k with
  | 0 => .int
  | 1 => .object "java/lang/String"
  | 2 => .object "LandingTree$Text"
  | 3 => .int
  | 4 => .int
  | 5 => .int
  | 6 => .int
  | _ => .object "LandingTree"
abbrev wsX80 : List Cond := u_ws RX8 TX8 8
theorem nmX8 : ∀ a, a < 8 → ∀ b, b < 8 → a ≠ b → (TX8 a).2.1 ≠ (TX8 b).2.1 := by decide +kernel
theorem tyX8_ok : ∀ k, k < 8 → parseFieldDescriptor (TX8 k).2.2.1 = some (tyX8 k) := by decide +kernel
abbrev cX8_init : ByteArray := prog_13_method_1_code
def yX8_init : MethodName := ⟨RX8, "<init>", "(LLandingTree;ILjava/lang/String;)V"⟩
def dkwX8_init_1 : List UInt8 := [181, 0, 22, 42, 45, 181, 0, 26, 177]
abbrev dktX8_init_1 : List UInt8 := dkwX8_init_1 ++ []
def dkwX8_init_0 : List UInt8 := [42, 43, 181, 0, 3, 42, 183, 0, 9, 42, 187, 0, 15, 89, 183, 0, 17, 181, 0, 18, 42, 28]
abbrev dktX8_init_0 : List UInt8 := dkwX8_init_0 ++ dktX8_init_1
theorem dksX8_init_0 : cX8_init.data.toList.drop 0 = dktX8_init_0 := by decide +kernel
theorem dksX8_init_1 : cX8_init.data.toList.drop 22 = dktX8_init_1 := dk_seg dksX8_init_0 22 rfl rfl
theorem dX8_init_0 : decode cX8_init 0 = .ok (.aload_n 0, 1) := dk_42 (dk_at dksX8_init_0 0 rfl rfl)
theorem dX8_init_1 : decode cX8_init 1 = .ok (.aload_n 1, 1) := dk_43 (dk_at dksX8_init_0 1 rfl rfl)
theorem dX8_init_2 : decode cX8_init 2 = .ok (.putfield 3, 3) := dk_181 0 3 (dk_at dksX8_init_0 2 rfl rfl)
theorem dX8_init_5 : decode cX8_init 5 = .ok (.aload_n 0, 1) := dk_42 (dk_at dksX8_init_0 5 rfl rfl)
theorem dX8_init_6 : decode cX8_init 6 = .ok (.invokespecial 9, 3) := dk_183 0 9 (dk_at dksX8_init_0 6 rfl rfl)
theorem dX8_init_9 : decode cX8_init 9 = .ok (.aload_n 0, 1) := dk_42 (dk_at dksX8_init_0 9 rfl rfl)
theorem dX8_init_10 : decode cX8_init 10 = .ok (.new 15, 3) := dk_187 0 15 (dk_at dksX8_init_0 10 rfl rfl)
theorem dX8_init_13 : decode cX8_init 13 = .ok (.dup, 1) := dk_89 (dk_at dksX8_init_0 13 rfl rfl)
theorem dX8_init_14 : decode cX8_init 14 = .ok (.invokespecial 17, 3) := dk_183 0 17 (dk_at dksX8_init_0 14 rfl rfl)
theorem dX8_init_17 : decode cX8_init 17 = .ok (.putfield 18, 3) := dk_181 0 18 (dk_at dksX8_init_0 17 rfl rfl)
theorem dX8_init_20 : decode cX8_init 20 = .ok (.aload_n 0, 1) := dk_42 (dk_at dksX8_init_0 20 rfl rfl)
theorem dX8_init_21 : decode cX8_init 21 = .ok (.iload_n 2, 1) := dk_28 (dk_at dksX8_init_0 21 rfl rfl)
theorem dX8_init_22 : decode cX8_init 22 = .ok (.putfield 22, 3) := dk_181 0 22 (dk_at dksX8_init_1 0 rfl rfl)
theorem dX8_init_25 : decode cX8_init 25 = .ok (.aload_n 0, 1) := dk_42 (dk_at dksX8_init_1 3 rfl rfl)
theorem dX8_init_26 : decode cX8_init 26 = .ok (.aload_n 3, 1) := dk_45 (dk_at dksX8_init_1 4 rfl rfl)
theorem dX8_init_27 : decode cX8_init 27 = .ok (.putfield 26, 3) := dk_181 0 26 (dk_at dksX8_init_1 5 rfl rfl)
theorem dX8_init_30 : decode cX8_init 30 = .ok (.return_, 1) := dk_177 (dk_at dksX8_init_1 8 rfl rfl)
abbrev cX8_read : ByteArray := prog_13_method_16_code
def yX8_read : MethodName := ⟨RX8, "read", "()I"⟩
def dkwX8_read_3 : List UInt8 := [17, 252, 24, 42, 180, 0, 37, 104, 42, 180, 0, 40, 100, 172]
abbrev dktX8_read_3 : List UInt8 := dkwX8_read_3 ++ []
def dkwX8_read_2 : List UInt8 := [182, 0, 68, 167, 255, 207, 42, 182, 0, 47, 153, 0, 13, 42, 180, 0, 18, 180, 0, 133, 167, 0, 16]
abbrev dktX8_read_2 : List UInt8 := dkwX8_read_2 ++ dktX8_read_3
def dkwX8_read_1 : List UInt8 := [42, 180, 0, 30, 42, 180, 0, 22, 162, 0, 7, 4, 167, 0, 4, 3, 60, 27, 153, 255, 216, 42, 16, 59]
abbrev dktX8_read_1 : List UInt8 := dkwX8_read_1 ++ dktX8_read_2
def dkwX8_read_0 : List UInt8 := [4, 60, 27, 153, 0, 51, 42, 182, 0, 47, 153, 0, 44, 42, 182, 0, 147, 42, 182, 0, 47, 153, 0, 18]
abbrev dktX8_read_0 : List UInt8 := dkwX8_read_0 ++ dktX8_read_1
theorem dksX8_read_0 : cX8_read.data.toList.drop 0 = dktX8_read_0 := by decide +kernel
theorem dksX8_read_1 : cX8_read.data.toList.drop 24 = dktX8_read_1 := dk_seg dksX8_read_0 24 rfl rfl
theorem dksX8_read_2 : cX8_read.data.toList.drop 48 = dktX8_read_2 := dk_seg dksX8_read_1 24 rfl rfl
theorem dksX8_read_3 : cX8_read.data.toList.drop 71 = dktX8_read_3 := dk_seg dksX8_read_2 23 rfl rfl
theorem dX8_read_0 : decode cX8_read 0 = .ok (.iconst 1, 1) := dk_4 (dk_at dksX8_read_0 0 rfl rfl)
theorem dX8_read_1 : decode cX8_read 1 = .ok (.istore_n 1, 1) := dk_60 (dk_at dksX8_read_0 1 rfl rfl)
theorem dX8_read_2 : decode cX8_read 2 = .ok (.iload_n 1, 1) := dk_27 (dk_at dksX8_read_0 2 rfl rfl)
theorem dX8_read_3 : decode cX8_read 3 = .ok (.ifCond .eq 51, 3) := dk_153 0 51 (dk_at dksX8_read_0 3 rfl rfl)
theorem dX8_read_6 : decode cX8_read 6 = .ok (.aload_n 0, 1) := dk_42 (dk_at dksX8_read_0 6 rfl rfl)
theorem dX8_read_7 : decode cX8_read 7 = .ok (.invokevirtual 47, 3) := dk_182 0 47 (dk_at dksX8_read_0 7 rfl rfl)
theorem dX8_read_10 : decode cX8_read 10 = .ok (.ifCond .eq 44, 3) := dk_153 0 44 (dk_at dksX8_read_0 10 rfl rfl)
theorem dX8_read_13 : decode cX8_read 13 = .ok (.aload_n 0, 1) := dk_42 (dk_at dksX8_read_0 13 rfl rfl)
theorem dX8_read_14 : decode cX8_read 14 = .ok (.invokevirtual 147, 3) := dk_182 0 147 (dk_at dksX8_read_0 14 rfl rfl)
theorem dX8_read_17 : decode cX8_read 17 = .ok (.aload_n 0, 1) := dk_42 (dk_at dksX8_read_0 17 rfl rfl)
theorem dX8_read_18 : decode cX8_read 18 = .ok (.invokevirtual 47, 3) := dk_182 0 47 (dk_at dksX8_read_0 18 rfl rfl)
theorem dX8_read_21 : decode cX8_read 21 = .ok (.ifCond .eq 18, 3) := dk_153 0 18 (dk_at dksX8_read_0 21 rfl rfl)
theorem dX8_read_24 : decode cX8_read 24 = .ok (.aload_n 0, 1) := dk_42 (dk_at dksX8_read_1 0 rfl rfl)
theorem dX8_read_25 : decode cX8_read 25 = .ok (.getfield 30, 3) := dk_180 0 30 (dk_at dksX8_read_1 1 rfl rfl)
theorem dX8_read_28 : decode cX8_read 28 = .ok (.aload_n 0, 1) := dk_42 (dk_at dksX8_read_1 4 rfl rfl)
theorem dX8_read_29 : decode cX8_read 29 = .ok (.getfield 22, 3) := dk_180 0 22 (dk_at dksX8_read_1 5 rfl rfl)
theorem dX8_read_32 : decode cX8_read 32 = .ok (.if_icmp .ge 7, 3) := dk_162 0 7 (dk_at dksX8_read_1 8 rfl rfl)
theorem dX8_read_35 : decode cX8_read 35 = .ok (.iconst 1, 1) := dk_4 (dk_at dksX8_read_1 11 rfl rfl)
theorem dX8_read_36 : decode cX8_read 36 = .ok (.goto 4, 3) := dk_167 0 4 (dk_at dksX8_read_1 12 rfl rfl)
theorem dX8_read_39 : decode cX8_read 39 = .ok (.iconst 0, 1) := dk_3 (dk_at dksX8_read_1 15 rfl rfl)
theorem dX8_read_40 : decode cX8_read 40 = .ok (.istore_n 1, 1) := dk_60 (dk_at dksX8_read_1 16 rfl rfl)
theorem dX8_read_41 : decode cX8_read 41 = .ok (.iload_n 1, 1) := dk_27 (dk_at dksX8_read_1 17 rfl rfl)
theorem dX8_read_42 : decode cX8_read 42 = .ok (.ifCond .eq (-40), 3) := dk_153 255 216 (dk_at dksX8_read_1 18 rfl rfl)
theorem dX8_read_45 : decode cX8_read 45 = .ok (.aload_n 0, 1) := dk_42 (dk_at dksX8_read_1 21 rfl rfl)
theorem dX8_read_46 : decode cX8_read 46 = .ok (.bipush 59, 2) := dk_16 59 (dk_at dksX8_read_1 22 rfl rfl)
theorem dX8_read_48 : decode cX8_read 48 = .ok (.invokevirtual 68, 3) := dk_182 0 68 (dk_at dksX8_read_2 0 rfl rfl)
theorem dX8_read_51 : decode cX8_read 51 = .ok (.goto (-49), 3) := dk_167 255 207 (dk_at dksX8_read_2 3 rfl rfl)
theorem dX8_read_54 : decode cX8_read 54 = .ok (.aload_n 0, 1) := dk_42 (dk_at dksX8_read_2 6 rfl rfl)
theorem dX8_read_55 : decode cX8_read 55 = .ok (.invokevirtual 47, 3) := dk_182 0 47 (dk_at dksX8_read_2 7 rfl rfl)
theorem dX8_read_58 : decode cX8_read 58 = .ok (.ifCond .eq 13, 3) := dk_153 0 13 (dk_at dksX8_read_2 10 rfl rfl)
theorem dX8_read_61 : decode cX8_read 61 = .ok (.aload_n 0, 1) := dk_42 (dk_at dksX8_read_2 13 rfl rfl)
theorem dX8_read_62 : decode cX8_read 62 = .ok (.getfield 18, 3) := dk_180 0 18 (dk_at dksX8_read_2 14 rfl rfl)
theorem dX8_read_65 : decode cX8_read 65 = .ok (.getfield 133, 3) := dk_180 0 133 (dk_at dksX8_read_2 17 rfl rfl)
theorem dX8_read_68 : decode cX8_read 68 = .ok (.goto 16, 3) := dk_167 0 16 (dk_at dksX8_read_2 20 rfl rfl)
theorem dX8_read_71 : decode cX8_read 71 = .ok (.sipush (-1000), 3) := dk_17 252 24 (dk_at dksX8_read_3 0 rfl rfl)
theorem dX8_read_74 : decode cX8_read 74 = .ok (.aload_n 0, 1) := dk_42 (dk_at dksX8_read_3 3 rfl rfl)
theorem dX8_read_75 : decode cX8_read 75 = .ok (.getfield 37, 3) := dk_180 0 37 (dk_at dksX8_read_3 4 rfl rfl)
theorem dX8_read_78 : decode cX8_read 78 = .ok (.imul, 1) := dk_104 (dk_at dksX8_read_3 7 rfl rfl)
theorem dX8_read_79 : decode cX8_read 79 = .ok (.aload_n 0, 1) := dk_42 (dk_at dksX8_read_3 8 rfl rfl)
theorem dX8_read_80 : decode cX8_read 80 = .ok (.getfield 40, 3) := dk_180 0 40 (dk_at dksX8_read_3 9 rfl rfl)
theorem dX8_read_83 : decode cX8_read 83 = .ok (.isub, 1) := dk_100 (dk_at dksX8_read_3 12 rfl rfl)
theorem dX8_read_84 : decode cX8_read 84 = .ok (.ireturn, 1) := dk_172 (dk_at dksX8_read_3 13 rfl rfl)
abbrev cX8_isGood : ByteArray := prog_13_method_3_code
def yX8_isGood : MethodName := ⟨RX8, "isGood", "()Z"⟩
def dkwX8_isGood_0 : List UInt8 := [42, 180, 0, 37, 154, 0, 7, 4, 167, 0, 4, 3, 172]
abbrev dktX8_isGood_0 : List UInt8 := dkwX8_isGood_0 ++ []
theorem dksX8_isGood_0 : cX8_isGood.data.toList.drop 0 = dktX8_isGood_0 := by decide +kernel
theorem dX8_isGood_0 : decode cX8_isGood 0 = .ok (.aload_n 0, 1) := dk_42 (dk_at dksX8_isGood_0 0 rfl rfl)
theorem dX8_isGood_1 : decode cX8_isGood 1 = .ok (.getfield 37, 3) := dk_180 0 37 (dk_at dksX8_isGood_0 1 rfl rfl)
theorem dX8_isGood_4 : decode cX8_isGood 4 = .ok (.ifCond .ne 7, 3) := dk_154 0 7 (dk_at dksX8_isGood_0 4 rfl rfl)
theorem dX8_isGood_7 : decode cX8_isGood 7 = .ok (.iconst 1, 1) := dk_4 (dk_at dksX8_isGood_0 7 rfl rfl)
theorem dX8_isGood_8 : decode cX8_isGood 8 = .ok (.goto 4, 3) := dk_167 0 4 (dk_at dksX8_isGood_0 8 rfl rfl)
theorem dX8_isGood_11 : decode cX8_isGood 11 = .ok (.iconst 0, 1) := dk_3 (dk_at dksX8_isGood_0 11 rfl rfl)
theorem dX8_isGood_12 : decode cX8_isGood 12 = .ok (.ireturn, 1) := dk_172 (dk_at dksX8_isGood_0 12 rfl rfl)
abbrev cX8_clause : ByteArray := prog_13_method_15_code
def yX8_clause : MethodName := ⟨RX8, "clause", "()V"⟩
def dkwX8_clause_7 : List UInt8 := [180, 0, 18, 180, 0, 133, 45, 83, 42, 180, 0, 18, 89, 180, 0, 133, 4, 96, 181, 0, 133, 177]
abbrev dktX8_clause_7 : List UInt8 := dkwX8_clause_7 ++ []
def dkwX8_clause_6 : List UInt8 := [180, 0, 18, 180, 0, 139, 42, 180, 0, 18, 180, 0, 133, 44, 83, 42, 180, 0, 18, 180, 0, 143, 42]
abbrev dktX8_clause_6 : List UInt8 := dkwX8_clause_6 ++ dktX8_clause_7
def dkwX8_clause_5 : List UInt8 := [167, 0, 4, 1, 78, 42, 180, 0, 18, 180, 0, 136, 42, 180, 0, 18, 180, 0, 133, 27, 79, 42]
abbrev dktX8_clause_5 : List UInt8 := dkwX8_clause_5 ++ dktX8_clause_6
def dkwX8_clause_4 : List UInt8 := [159, 0, 12, 42, 4, 42, 180, 0, 30, 182, 0, 54, 42, 182, 0, 47, 153, 0, 10, 42, 182, 0, 114]
abbrev dktX8_clause_4 : List UInt8 := dkwX8_clause_4 ++ dktX8_clause_5
def dkwX8_clause_3 : List UInt8 := [42, 3, 181, 0, 58, 42, 182, 0, 64, 77, 42, 182, 0, 47, 153, 0, 21, 42, 182, 0, 43, 16, 40]
abbrev dktX8_clause_3 : List UInt8 := dkwX8_clause_3 ++ dktX8_clause_4
def dkwX8_clause_2 : List UInt8 := [180, 0, 30, 182, 0, 54, 42, 182, 0, 47, 154, 0, 4, 177, 42, 89, 180, 0, 30, 4, 96, 181, 0, 30]
abbrev dktX8_clause_2 : List UInt8 := dkwX8_clause_2 ++ dktX8_clause_3
def dkwX8_clause_1 : List UInt8 := [180, 0, 30, 182, 0, 54, 167, 0, 24, 42, 180, 0, 18, 180, 0, 133, 16, 14, 160, 0, 12, 42, 7, 42]
abbrev dktX8_clause_1 : List UInt8 := dkwX8_clause_1 ++ dktX8_clause_2
def dkwX8_clause_0 : List UInt8 := [42, 182, 0, 43, 60, 27, 153, 0, 14, 42, 180, 0, 26, 27, 182, 0, 81, 156, 0, 15, 42, 4, 42]
abbrev dktX8_clause_0 : List UInt8 := dkwX8_clause_0 ++ dktX8_clause_1
theorem dksX8_clause_0 : cX8_clause.data.toList.drop 0 = dktX8_clause_0 := by decide +kernel
theorem dksX8_clause_1 : cX8_clause.data.toList.drop 23 = dktX8_clause_1 := dk_seg dksX8_clause_0 23 rfl rfl
theorem dksX8_clause_2 : cX8_clause.data.toList.drop 47 = dktX8_clause_2 := dk_seg dksX8_clause_1 24 rfl rfl
theorem dksX8_clause_3 : cX8_clause.data.toList.drop 71 = dktX8_clause_3 := dk_seg dksX8_clause_2 24 rfl rfl
theorem dksX8_clause_4 : cX8_clause.data.toList.drop 94 = dktX8_clause_4 := dk_seg dksX8_clause_3 23 rfl rfl
theorem dksX8_clause_5 : cX8_clause.data.toList.drop 117 = dktX8_clause_5 := dk_seg dksX8_clause_4 23 rfl rfl
theorem dksX8_clause_6 : cX8_clause.data.toList.drop 139 = dktX8_clause_6 := dk_seg dksX8_clause_5 22 rfl rfl
theorem dksX8_clause_7 : cX8_clause.data.toList.drop 162 = dktX8_clause_7 := dk_seg dksX8_clause_6 23 rfl rfl
theorem dX8_clause_0 : decode cX8_clause 0 = .ok (.aload_n 0, 1) := dk_42 (dk_at dksX8_clause_0 0 rfl rfl)
theorem dX8_clause_1 : decode cX8_clause 1 = .ok (.invokevirtual 43, 3) := dk_182 0 43 (dk_at dksX8_clause_0 1 rfl rfl)
theorem dX8_clause_4 : decode cX8_clause 4 = .ok (.istore_n 1, 1) := dk_60 (dk_at dksX8_clause_0 4 rfl rfl)
theorem dX8_clause_5 : decode cX8_clause 5 = .ok (.iload_n 1, 1) := dk_27 (dk_at dksX8_clause_0 5 rfl rfl)
theorem dX8_clause_6 : decode cX8_clause 6 = .ok (.ifCond .eq 14, 3) := dk_153 0 14 (dk_at dksX8_clause_0 6 rfl rfl)
theorem dX8_clause_9 : decode cX8_clause 9 = .ok (.aload_n 0, 1) := dk_42 (dk_at dksX8_clause_0 9 rfl rfl)
theorem dX8_clause_10 : decode cX8_clause 10 = .ok (.getfield 26, 3) := dk_180 0 26 (dk_at dksX8_clause_0 10 rfl rfl)
theorem dX8_clause_13 : decode cX8_clause 13 = .ok (.iload_n 1, 1) := dk_27 (dk_at dksX8_clause_0 13 rfl rfl)
theorem dX8_clause_14 : decode cX8_clause 14 = .ok (.invokevirtual 81, 3) := dk_182 0 81 (dk_at dksX8_clause_0 14 rfl rfl)
theorem dX8_clause_17 : decode cX8_clause 17 = .ok (.ifCond .ge 15, 3) := dk_156 0 15 (dk_at dksX8_clause_0 17 rfl rfl)
theorem dX8_clause_20 : decode cX8_clause 20 = .ok (.aload_n 0, 1) := dk_42 (dk_at dksX8_clause_0 20 rfl rfl)
theorem dX8_clause_21 : decode cX8_clause 21 = .ok (.iconst 1, 1) := dk_4 (dk_at dksX8_clause_0 21 rfl rfl)
theorem dX8_clause_22 : decode cX8_clause 22 = .ok (.aload_n 0, 1) := dk_42 (dk_at dksX8_clause_0 22 rfl rfl)
theorem dX8_clause_23 : decode cX8_clause 23 = .ok (.getfield 30, 3) := dk_180 0 30 (dk_at dksX8_clause_1 0 rfl rfl)
theorem dX8_clause_26 : decode cX8_clause 26 = .ok (.invokevirtual 54, 3) := dk_182 0 54 (dk_at dksX8_clause_1 3 rfl rfl)
theorem dX8_clause_29 : decode cX8_clause 29 = .ok (.goto 24, 3) := dk_167 0 24 (dk_at dksX8_clause_1 6 rfl rfl)
theorem dX8_clause_32 : decode cX8_clause 32 = .ok (.aload_n 0, 1) := dk_42 (dk_at dksX8_clause_1 9 rfl rfl)
theorem dX8_clause_33 : decode cX8_clause 33 = .ok (.getfield 18, 3) := dk_180 0 18 (dk_at dksX8_clause_1 10 rfl rfl)
theorem dX8_clause_36 : decode cX8_clause 36 = .ok (.getfield 133, 3) := dk_180 0 133 (dk_at dksX8_clause_1 13 rfl rfl)
theorem dX8_clause_39 : decode cX8_clause 39 = .ok (.bipush 14, 2) := dk_16 14 (dk_at dksX8_clause_1 16 rfl rfl)
theorem dX8_clause_41 : decode cX8_clause 41 = .ok (.if_icmp .ne 12, 3) := dk_160 0 12 (dk_at dksX8_clause_1 18 rfl rfl)
theorem dX8_clause_44 : decode cX8_clause 44 = .ok (.aload_n 0, 1) := dk_42 (dk_at dksX8_clause_1 21 rfl rfl)
theorem dX8_clause_45 : decode cX8_clause 45 = .ok (.iconst 4, 1) := dk_7 (dk_at dksX8_clause_1 22 rfl rfl)
theorem dX8_clause_46 : decode cX8_clause 46 = .ok (.aload_n 0, 1) := dk_42 (dk_at dksX8_clause_1 23 rfl rfl)
theorem dX8_clause_47 : decode cX8_clause 47 = .ok (.getfield 30, 3) := dk_180 0 30 (dk_at dksX8_clause_2 0 rfl rfl)
theorem dX8_clause_50 : decode cX8_clause 50 = .ok (.invokevirtual 54, 3) := dk_182 0 54 (dk_at dksX8_clause_2 3 rfl rfl)
theorem dX8_clause_53 : decode cX8_clause 53 = .ok (.aload_n 0, 1) := dk_42 (dk_at dksX8_clause_2 6 rfl rfl)
theorem dX8_clause_54 : decode cX8_clause 54 = .ok (.invokevirtual 47, 3) := dk_182 0 47 (dk_at dksX8_clause_2 7 rfl rfl)
theorem dX8_clause_57 : decode cX8_clause 57 = .ok (.ifCond .ne 4, 3) := dk_154 0 4 (dk_at dksX8_clause_2 10 rfl rfl)
theorem dX8_clause_60 : decode cX8_clause 60 = .ok (.return_, 1) := dk_177 (dk_at dksX8_clause_2 13 rfl rfl)
theorem dX8_clause_61 : decode cX8_clause 61 = .ok (.aload_n 0, 1) := dk_42 (dk_at dksX8_clause_2 14 rfl rfl)
theorem dX8_clause_62 : decode cX8_clause 62 = .ok (.dup, 1) := dk_89 (dk_at dksX8_clause_2 15 rfl rfl)
theorem dX8_clause_63 : decode cX8_clause 63 = .ok (.getfield 30, 3) := dk_180 0 30 (dk_at dksX8_clause_2 16 rfl rfl)
theorem dX8_clause_66 : decode cX8_clause 66 = .ok (.iconst 1, 1) := dk_4 (dk_at dksX8_clause_2 19 rfl rfl)
theorem dX8_clause_67 : decode cX8_clause 67 = .ok (.iadd, 1) := dk_96 (dk_at dksX8_clause_2 20 rfl rfl)
theorem dX8_clause_68 : decode cX8_clause 68 = .ok (.putfield 30, 3) := dk_181 0 30 (dk_at dksX8_clause_2 21 rfl rfl)
theorem dX8_clause_71 : decode cX8_clause 71 = .ok (.aload_n 0, 1) := dk_42 (dk_at dksX8_clause_3 0 rfl rfl)
theorem dX8_clause_72 : decode cX8_clause 72 = .ok (.iconst 0, 1) := dk_3 (dk_at dksX8_clause_3 1 rfl rfl)
theorem dX8_clause_73 : decode cX8_clause 73 = .ok (.putfield 58, 3) := dk_181 0 58 (dk_at dksX8_clause_3 2 rfl rfl)
theorem dX8_clause_76 : decode cX8_clause 76 = .ok (.aload_n 0, 1) := dk_42 (dk_at dksX8_clause_3 5 rfl rfl)
theorem dX8_clause_77 : decode cX8_clause 77 = .ok (.invokevirtual 64, 3) := dk_182 0 64 (dk_at dksX8_clause_3 6 rfl rfl)
theorem dX8_clause_80 : decode cX8_clause 80 = .ok (.astore_n 2, 1) := dk_77 (dk_at dksX8_clause_3 9 rfl rfl)
theorem dX8_clause_81 : decode cX8_clause 81 = .ok (.aload_n 0, 1) := dk_42 (dk_at dksX8_clause_3 10 rfl rfl)
theorem dX8_clause_82 : decode cX8_clause 82 = .ok (.invokevirtual 47, 3) := dk_182 0 47 (dk_at dksX8_clause_3 11 rfl rfl)
theorem dX8_clause_85 : decode cX8_clause 85 = .ok (.ifCond .eq 21, 3) := dk_153 0 21 (dk_at dksX8_clause_3 14 rfl rfl)
theorem dX8_clause_88 : decode cX8_clause 88 = .ok (.aload_n 0, 1) := dk_42 (dk_at dksX8_clause_3 17 rfl rfl)
theorem dX8_clause_89 : decode cX8_clause 89 = .ok (.invokevirtual 43, 3) := dk_182 0 43 (dk_at dksX8_clause_3 18 rfl rfl)
theorem dX8_clause_92 : decode cX8_clause 92 = .ok (.bipush 40, 2) := dk_16 40 (dk_at dksX8_clause_3 21 rfl rfl)
theorem dX8_clause_94 : decode cX8_clause 94 = .ok (.if_icmp .eq 12, 3) := dk_159 0 12 (dk_at dksX8_clause_4 0 rfl rfl)
theorem dX8_clause_97 : decode cX8_clause 97 = .ok (.aload_n 0, 1) := dk_42 (dk_at dksX8_clause_4 3 rfl rfl)
theorem dX8_clause_98 : decode cX8_clause 98 = .ok (.iconst 1, 1) := dk_4 (dk_at dksX8_clause_4 4 rfl rfl)
theorem dX8_clause_99 : decode cX8_clause 99 = .ok (.aload_n 0, 1) := dk_42 (dk_at dksX8_clause_4 5 rfl rfl)
theorem dX8_clause_100 : decode cX8_clause 100 = .ok (.getfield 30, 3) := dk_180 0 30 (dk_at dksX8_clause_4 6 rfl rfl)
theorem dX8_clause_103 : decode cX8_clause 103 = .ok (.invokevirtual 54, 3) := dk_182 0 54 (dk_at dksX8_clause_4 9 rfl rfl)
theorem dX8_clause_106 : decode cX8_clause 106 = .ok (.aload_n 0, 1) := dk_42 (dk_at dksX8_clause_4 12 rfl rfl)
theorem dX8_clause_107 : decode cX8_clause 107 = .ok (.invokevirtual 47, 3) := dk_182 0 47 (dk_at dksX8_clause_4 13 rfl rfl)
theorem dX8_clause_110 : decode cX8_clause 110 = .ok (.ifCond .eq 10, 3) := dk_153 0 10 (dk_at dksX8_clause_4 16 rfl rfl)
theorem dX8_clause_113 : decode cX8_clause 113 = .ok (.aload_n 0, 1) := dk_42 (dk_at dksX8_clause_4 19 rfl rfl)
theorem dX8_clause_114 : decode cX8_clause 114 = .ok (.invokevirtual 114, 3) := dk_182 0 114 (dk_at dksX8_clause_4 20 rfl rfl)
theorem dX8_clause_117 : decode cX8_clause 117 = .ok (.goto 4, 3) := dk_167 0 4 (dk_at dksX8_clause_5 0 rfl rfl)
theorem dX8_clause_120 : decode cX8_clause 120 = .ok (.aconst_null, 1) := dk_1 (dk_at dksX8_clause_5 3 rfl rfl)
theorem dX8_clause_121 : decode cX8_clause 121 = .ok (.astore_n 3, 1) := dk_78 (dk_at dksX8_clause_5 4 rfl rfl)
theorem dX8_clause_122 : decode cX8_clause 122 = .ok (.aload_n 0, 1) := dk_42 (dk_at dksX8_clause_5 5 rfl rfl)
theorem dX8_clause_123 : decode cX8_clause 123 = .ok (.getfield 18, 3) := dk_180 0 18 (dk_at dksX8_clause_5 6 rfl rfl)
theorem dX8_clause_126 : decode cX8_clause 126 = .ok (.getfield 136, 3) := dk_180 0 136 (dk_at dksX8_clause_5 9 rfl rfl)
theorem dX8_clause_129 : decode cX8_clause 129 = .ok (.aload_n 0, 1) := dk_42 (dk_at dksX8_clause_5 12 rfl rfl)
theorem dX8_clause_130 : decode cX8_clause 130 = .ok (.getfield 18, 3) := dk_180 0 18 (dk_at dksX8_clause_5 13 rfl rfl)
theorem dX8_clause_133 : decode cX8_clause 133 = .ok (.getfield 133, 3) := dk_180 0 133 (dk_at dksX8_clause_5 16 rfl rfl)
theorem dX8_clause_136 : decode cX8_clause 136 = .ok (.iload_n 1, 1) := dk_27 (dk_at dksX8_clause_5 19 rfl rfl)
theorem dX8_clause_137 : decode cX8_clause 137 = .ok (.iastore, 1) := dk_79 (dk_at dksX8_clause_5 20 rfl rfl)
theorem dX8_clause_138 : decode cX8_clause 138 = .ok (.aload_n 0, 1) := dk_42 (dk_at dksX8_clause_5 21 rfl rfl)
theorem dX8_clause_139 : decode cX8_clause 139 = .ok (.getfield 18, 3) := dk_180 0 18 (dk_at dksX8_clause_6 0 rfl rfl)
theorem dX8_clause_142 : decode cX8_clause 142 = .ok (.getfield 139, 3) := dk_180 0 139 (dk_at dksX8_clause_6 3 rfl rfl)
theorem dX8_clause_145 : decode cX8_clause 145 = .ok (.aload_n 0, 1) := dk_42 (dk_at dksX8_clause_6 6 rfl rfl)
theorem dX8_clause_146 : decode cX8_clause 146 = .ok (.getfield 18, 3) := dk_180 0 18 (dk_at dksX8_clause_6 7 rfl rfl)
theorem dX8_clause_149 : decode cX8_clause 149 = .ok (.getfield 133, 3) := dk_180 0 133 (dk_at dksX8_clause_6 10 rfl rfl)
theorem dX8_clause_152 : decode cX8_clause 152 = .ok (.aload_n 2, 1) := dk_44 (dk_at dksX8_clause_6 13 rfl rfl)
theorem dX8_clause_153 : decode cX8_clause 153 = .ok (.aastore, 1) := dk_83 (dk_at dksX8_clause_6 14 rfl rfl)
theorem dX8_clause_154 : decode cX8_clause 154 = .ok (.aload_n 0, 1) := dk_42 (dk_at dksX8_clause_6 15 rfl rfl)
theorem dX8_clause_155 : decode cX8_clause 155 = .ok (.getfield 18, 3) := dk_180 0 18 (dk_at dksX8_clause_6 16 rfl rfl)
theorem dX8_clause_158 : decode cX8_clause 158 = .ok (.getfield 143, 3) := dk_180 0 143 (dk_at dksX8_clause_6 19 rfl rfl)
theorem dX8_clause_161 : decode cX8_clause 161 = .ok (.aload_n 0, 1) := dk_42 (dk_at dksX8_clause_6 22 rfl rfl)
theorem dX8_clause_162 : decode cX8_clause 162 = .ok (.getfield 18, 3) := dk_180 0 18 (dk_at dksX8_clause_7 0 rfl rfl)
theorem dX8_clause_165 : decode cX8_clause 165 = .ok (.getfield 133, 3) := dk_180 0 133 (dk_at dksX8_clause_7 3 rfl rfl)
theorem dX8_clause_168 : decode cX8_clause 168 = .ok (.aload_n 3, 1) := dk_45 (dk_at dksX8_clause_7 6 rfl rfl)
theorem dX8_clause_169 : decode cX8_clause 169 = .ok (.aastore, 1) := dk_83 (dk_at dksX8_clause_7 7 rfl rfl)
theorem dX8_clause_170 : decode cX8_clause 170 = .ok (.aload_n 0, 1) := dk_42 (dk_at dksX8_clause_7 8 rfl rfl)
theorem dX8_clause_171 : decode cX8_clause 171 = .ok (.getfield 18, 3) := dk_180 0 18 (dk_at dksX8_clause_7 9 rfl rfl)
theorem dX8_clause_174 : decode cX8_clause 174 = .ok (.dup, 1) := dk_89 (dk_at dksX8_clause_7 12 rfl rfl)
theorem dX8_clause_175 : decode cX8_clause 175 = .ok (.getfield 133, 3) := dk_180 0 133 (dk_at dksX8_clause_7 13 rfl rfl)
theorem dX8_clause_178 : decode cX8_clause 178 = .ok (.iconst 1, 1) := dk_4 (dk_at dksX8_clause_7 16 rfl rfl)
theorem dX8_clause_179 : decode cX8_clause 179 = .ok (.iadd, 1) := dk_96 (dk_at dksX8_clause_7 17 rfl rfl)
theorem dX8_clause_180 : decode cX8_clause 180 = .ok (.putfield 133, 3) := dk_181 0 133 (dk_at dksX8_clause_7 18 rfl rfl)
theorem dX8_clause_183 : decode cX8_clause 183 = .ok (.return_, 1) := dk_177 (dk_at dksX8_clause_7 21 rfl rfl)
abbrev cX8_here : ByteArray := prog_13_method_2_code
def yX8_here : MethodName := ⟨RX8, "here", "()I"⟩
def dkwX8_here_1 : List UInt8 := [17, 0, 255, 126, 167, 0, 4, 3, 172]
abbrev dktX8_here_1 : List UInt8 := dkwX8_here_1 ++ []
def dkwX8_here_0 : List UInt8 := [42, 180, 0, 30, 42, 180, 0, 22, 162, 0, 22, 42, 180, 0, 3, 180, 0, 33, 42, 180, 0, 30, 51]
abbrev dktX8_here_0 : List UInt8 := dkwX8_here_0 ++ dktX8_here_1
theorem dksX8_here_0 : cX8_here.data.toList.drop 0 = dktX8_here_0 := by decide +kernel
theorem dksX8_here_1 : cX8_here.data.toList.drop 23 = dktX8_here_1 := dk_seg dksX8_here_0 23 rfl rfl
theorem dX8_here_0 : decode cX8_here 0 = .ok (.aload_n 0, 1) := dk_42 (dk_at dksX8_here_0 0 rfl rfl)
theorem dX8_here_1 : decode cX8_here 1 = .ok (.getfield 30, 3) := dk_180 0 30 (dk_at dksX8_here_0 1 rfl rfl)
theorem dX8_here_4 : decode cX8_here 4 = .ok (.aload_n 0, 1) := dk_42 (dk_at dksX8_here_0 4 rfl rfl)
theorem dX8_here_5 : decode cX8_here 5 = .ok (.getfield 22, 3) := dk_180 0 22 (dk_at dksX8_here_0 5 rfl rfl)
theorem dX8_here_8 : decode cX8_here 8 = .ok (.if_icmp .ge 22, 3) := dk_162 0 22 (dk_at dksX8_here_0 8 rfl rfl)
theorem dX8_here_11 : decode cX8_here 11 = .ok (.aload_n 0, 1) := dk_42 (dk_at dksX8_here_0 11 rfl rfl)
theorem dX8_here_12 : decode cX8_here 12 = .ok (.getfield 3, 3) := dk_180 0 3 (dk_at dksX8_here_0 12 rfl rfl)
theorem dX8_here_15 : decode cX8_here 15 = .ok (.getfield 33, 3) := dk_180 0 33 (dk_at dksX8_here_0 15 rfl rfl)
theorem dX8_here_18 : decode cX8_here 18 = .ok (.aload_n 0, 1) := dk_42 (dk_at dksX8_here_0 18 rfl rfl)
theorem dX8_here_19 : decode cX8_here 19 = .ok (.getfield 30, 3) := dk_180 0 30 (dk_at dksX8_here_0 19 rfl rfl)
theorem dX8_here_22 : decode cX8_here 22 = .ok (.baload, 1) := dk_51 (dk_at dksX8_here_0 22 rfl rfl)
theorem dX8_here_23 : decode cX8_here 23 = .ok (.sipush 255, 3) := dk_17 0 255 (dk_at dksX8_here_1 0 rfl rfl)
theorem dX8_here_26 : decode cX8_here 26 = .ok (.iand, 1) := dk_126 (dk_at dksX8_here_1 3 rfl rfl)
theorem dX8_here_27 : decode cX8_here 27 = .ok (.goto 4, 3) := dk_167 0 4 (dk_at dksX8_here_1 4 rfl rfl)
theorem dX8_here_30 : decode cX8_here 30 = .ok (.iconst 0, 1) := dk_3 (dk_at dksX8_here_1 7 rfl rfl)
theorem dX8_here_31 : decode cX8_here 31 = .ok (.ireturn, 1) := dk_172 (dk_at dksX8_here_1 8 rfl rfl)
abbrev cX8_bad : ByteArray := prog_13_method_4_code
def yX8_bad : MethodName := ⟨RX8, "bad", "(II)V"⟩
def dkwX8_bad_0 : List UInt8 := [42, 180, 0, 37, 158, 0, 4, 177, 42, 27, 181, 0, 37, 42, 28, 181, 0, 40, 177]
abbrev dktX8_bad_0 : List UInt8 := dkwX8_bad_0 ++ []
theorem dksX8_bad_0 : cX8_bad.data.toList.drop 0 = dktX8_bad_0 := by decide +kernel
theorem dX8_bad_0 : decode cX8_bad 0 = .ok (.aload_n 0, 1) := dk_42 (dk_at dksX8_bad_0 0 rfl rfl)
theorem dX8_bad_1 : decode cX8_bad 1 = .ok (.getfield 37, 3) := dk_180 0 37 (dk_at dksX8_bad_0 1 rfl rfl)
theorem dX8_bad_4 : decode cX8_bad 4 = .ok (.ifCond .le 4, 3) := dk_158 0 4 (dk_at dksX8_bad_0 4 rfl rfl)
theorem dX8_bad_7 : decode cX8_bad 7 = .ok (.return_, 1) := dk_177 (dk_at dksX8_bad_0 7 rfl rfl)
theorem dX8_bad_8 : decode cX8_bad 8 = .ok (.aload_n 0, 1) := dk_42 (dk_at dksX8_bad_0 8 rfl rfl)
theorem dX8_bad_9 : decode cX8_bad 9 = .ok (.iload_n 1, 1) := dk_27 (dk_at dksX8_bad_0 9 rfl rfl)
theorem dX8_bad_10 : decode cX8_bad 10 = .ok (.putfield 37, 3) := dk_181 0 37 (dk_at dksX8_bad_0 10 rfl rfl)
theorem dX8_bad_13 : decode cX8_bad 13 = .ok (.aload_n 0, 1) := dk_42 (dk_at dksX8_bad_0 13 rfl rfl)
theorem dX8_bad_14 : decode cX8_bad 14 = .ok (.iload_n 2, 1) := dk_28 (dk_at dksX8_bad_0 14 rfl rfl)
theorem dX8_bad_15 : decode cX8_bad 15 = .ok (.putfield 40, 3) := dk_181 0 40 (dk_at dksX8_bad_0 15 rfl rfl)
theorem dX8_bad_18 : decode cX8_bad 18 = .ok (.return_, 1) := dk_177 (dk_at dksX8_bad_0 18 rfl rfl)
abbrev cX8_sum : ByteArray := prog_13_method_11_code
def yX8_sum : MethodName := ⟨RX8, "sum", "()LLandingTree$Sum;"⟩
def dkwX8_sum_3 : List UInt8 := [44, 180, 0, 98, 77, 167, 255, 195, 43, 176]
abbrev dktX8_sum_3 : List UInt8 := dkwX8_sum_3 ++ []
def dkwX8_sum_2 : List UInt8 := [180, 0, 30, 4, 96, 181, 0, 30, 44, 187, 0, 90, 89, 29, 42, 182, 0, 102, 183, 0, 95, 181, 0, 98]
abbrev dktX8_sum_2 : List UInt8 := dkwX8_sum_2 ++ dktX8_sum_3
def dkwX8_sum_1 : List UInt8 := [182, 0, 43, 16, 43, 159, 0, 12, 42, 182, 0, 43, 16, 45, 160, 0, 42, 42, 182, 0, 43, 62, 42, 89]
abbrev dktX8_sum_1 : List UInt8 := dkwX8_sum_1 ++ dktX8_sum_2
def dkwX8_sum_0 : List UInt8 := [187, 0, 90, 89, 3, 42, 182, 0, 102, 183, 0, 95, 76, 43, 77, 42, 182, 0, 47, 153, 0, 60, 42]
abbrev dktX8_sum_0 : List UInt8 := dkwX8_sum_0 ++ dktX8_sum_1
theorem dksX8_sum_0 : cX8_sum.data.toList.drop 0 = dktX8_sum_0 := by decide +kernel
theorem dksX8_sum_1 : cX8_sum.data.toList.drop 23 = dktX8_sum_1 := dk_seg dksX8_sum_0 23 rfl rfl
theorem dksX8_sum_2 : cX8_sum.data.toList.drop 47 = dktX8_sum_2 := dk_seg dksX8_sum_1 24 rfl rfl
theorem dksX8_sum_3 : cX8_sum.data.toList.drop 71 = dktX8_sum_3 := dk_seg dksX8_sum_2 24 rfl rfl
theorem dX8_sum_0 : decode cX8_sum 0 = .ok (.new 90, 3) := dk_187 0 90 (dk_at dksX8_sum_0 0 rfl rfl)
theorem dX8_sum_3 : decode cX8_sum 3 = .ok (.dup, 1) := dk_89 (dk_at dksX8_sum_0 3 rfl rfl)
theorem dX8_sum_4 : decode cX8_sum 4 = .ok (.iconst 0, 1) := dk_3 (dk_at dksX8_sum_0 4 rfl rfl)
theorem dX8_sum_5 : decode cX8_sum 5 = .ok (.aload_n 0, 1) := dk_42 (dk_at dksX8_sum_0 5 rfl rfl)
theorem dX8_sum_6 : decode cX8_sum 6 = .ok (.invokevirtual 102, 3) := dk_182 0 102 (dk_at dksX8_sum_0 6 rfl rfl)
theorem dX8_sum_9 : decode cX8_sum 9 = .ok (.invokespecial 95, 3) := dk_183 0 95 (dk_at dksX8_sum_0 9 rfl rfl)
theorem dX8_sum_12 : decode cX8_sum 12 = .ok (.astore_n 1, 1) := dk_76 (dk_at dksX8_sum_0 12 rfl rfl)
theorem dX8_sum_13 : decode cX8_sum 13 = .ok (.aload_n 1, 1) := dk_43 (dk_at dksX8_sum_0 13 rfl rfl)
theorem dX8_sum_14 : decode cX8_sum 14 = .ok (.astore_n 2, 1) := dk_77 (dk_at dksX8_sum_0 14 rfl rfl)
theorem dX8_sum_15 : decode cX8_sum 15 = .ok (.aload_n 0, 1) := dk_42 (dk_at dksX8_sum_0 15 rfl rfl)
theorem dX8_sum_16 : decode cX8_sum 16 = .ok (.invokevirtual 47, 3) := dk_182 0 47 (dk_at dksX8_sum_0 16 rfl rfl)
theorem dX8_sum_19 : decode cX8_sum 19 = .ok (.ifCond .eq 60, 3) := dk_153 0 60 (dk_at dksX8_sum_0 19 rfl rfl)
theorem dX8_sum_22 : decode cX8_sum 22 = .ok (.aload_n 0, 1) := dk_42 (dk_at dksX8_sum_0 22 rfl rfl)
theorem dX8_sum_23 : decode cX8_sum 23 = .ok (.invokevirtual 43, 3) := dk_182 0 43 (dk_at dksX8_sum_1 0 rfl rfl)
theorem dX8_sum_26 : decode cX8_sum 26 = .ok (.bipush 43, 2) := dk_16 43 (dk_at dksX8_sum_1 3 rfl rfl)
theorem dX8_sum_28 : decode cX8_sum 28 = .ok (.if_icmp .eq 12, 3) := dk_159 0 12 (dk_at dksX8_sum_1 5 rfl rfl)
theorem dX8_sum_31 : decode cX8_sum 31 = .ok (.aload_n 0, 1) := dk_42 (dk_at dksX8_sum_1 8 rfl rfl)
theorem dX8_sum_32 : decode cX8_sum 32 = .ok (.invokevirtual 43, 3) := dk_182 0 43 (dk_at dksX8_sum_1 9 rfl rfl)
theorem dX8_sum_35 : decode cX8_sum 35 = .ok (.bipush 45, 2) := dk_16 45 (dk_at dksX8_sum_1 12 rfl rfl)
theorem dX8_sum_37 : decode cX8_sum 37 = .ok (.if_icmp .ne 42, 3) := dk_160 0 42 (dk_at dksX8_sum_1 14 rfl rfl)
theorem dX8_sum_40 : decode cX8_sum 40 = .ok (.aload_n 0, 1) := dk_42 (dk_at dksX8_sum_1 17 rfl rfl)
theorem dX8_sum_41 : decode cX8_sum 41 = .ok (.invokevirtual 43, 3) := dk_182 0 43 (dk_at dksX8_sum_1 18 rfl rfl)
theorem dX8_sum_44 : decode cX8_sum 44 = .ok (.istore_n 3, 1) := dk_62 (dk_at dksX8_sum_1 21 rfl rfl)
theorem dX8_sum_45 : decode cX8_sum 45 = .ok (.aload_n 0, 1) := dk_42 (dk_at dksX8_sum_1 22 rfl rfl)
theorem dX8_sum_46 : decode cX8_sum 46 = .ok (.dup, 1) := dk_89 (dk_at dksX8_sum_1 23 rfl rfl)
theorem dX8_sum_47 : decode cX8_sum 47 = .ok (.getfield 30, 3) := dk_180 0 30 (dk_at dksX8_sum_2 0 rfl rfl)
theorem dX8_sum_50 : decode cX8_sum 50 = .ok (.iconst 1, 1) := dk_4 (dk_at dksX8_sum_2 3 rfl rfl)
theorem dX8_sum_51 : decode cX8_sum 51 = .ok (.iadd, 1) := dk_96 (dk_at dksX8_sum_2 4 rfl rfl)
theorem dX8_sum_52 : decode cX8_sum 52 = .ok (.putfield 30, 3) := dk_181 0 30 (dk_at dksX8_sum_2 5 rfl rfl)
theorem dX8_sum_55 : decode cX8_sum 55 = .ok (.aload_n 2, 1) := dk_44 (dk_at dksX8_sum_2 8 rfl rfl)
theorem dX8_sum_56 : decode cX8_sum 56 = .ok (.new 90, 3) := dk_187 0 90 (dk_at dksX8_sum_2 9 rfl rfl)
theorem dX8_sum_59 : decode cX8_sum 59 = .ok (.dup, 1) := dk_89 (dk_at dksX8_sum_2 12 rfl rfl)
theorem dX8_sum_60 : decode cX8_sum 60 = .ok (.iload_n 3, 1) := dk_29 (dk_at dksX8_sum_2 13 rfl rfl)
theorem dX8_sum_61 : decode cX8_sum 61 = .ok (.aload_n 0, 1) := dk_42 (dk_at dksX8_sum_2 14 rfl rfl)
theorem dX8_sum_62 : decode cX8_sum 62 = .ok (.invokevirtual 102, 3) := dk_182 0 102 (dk_at dksX8_sum_2 15 rfl rfl)
theorem dX8_sum_65 : decode cX8_sum 65 = .ok (.invokespecial 95, 3) := dk_183 0 95 (dk_at dksX8_sum_2 18 rfl rfl)
theorem dX8_sum_68 : decode cX8_sum 68 = .ok (.putfield 98, 3) := dk_181 0 98 (dk_at dksX8_sum_2 21 rfl rfl)
theorem dX8_sum_71 : decode cX8_sum 71 = .ok (.aload_n 2, 1) := dk_44 (dk_at dksX8_sum_3 0 rfl rfl)
theorem dX8_sum_72 : decode cX8_sum 72 = .ok (.getfield 98, 3) := dk_180 0 98 (dk_at dksX8_sum_3 1 rfl rfl)
theorem dX8_sum_75 : decode cX8_sum 75 = .ok (.astore_n 2, 1) := dk_77 (dk_at dksX8_sum_3 4 rfl rfl)
theorem dX8_sum_76 : decode cX8_sum 76 = .ok (.goto (-61), 3) := dk_167 255 195 (dk_at dksX8_sum_3 5 rfl rfl)
theorem dX8_sum_79 : decode cX8_sum 79 = .ok (.aload_n 1, 1) := dk_43 (dk_at dksX8_sum_3 8 rfl rfl)
theorem dX8_sum_80 : decode cX8_sum 80 = .ok (.areturn, 1) := dk_176 (dk_at dksX8_sum_3 9 rfl rfl)
abbrev cX8_product : ByteArray := prog_13_method_10_code
def yX8_product : MethodName := ⟨RX8, "product", "()LLandingTree$Sum;"⟩
def dkwX8_product_3 : List UInt8 := [42, 182, 0, 92, 183, 0, 95, 181, 0, 98, 44, 180, 0, 98, 77, 167, 255, 186, 43, 176]
abbrev dktX8_product_3 : List UInt8 := dkwX8_product_3 ++ []
def dkwX8_product_2 : List UInt8 := [160, 0, 42, 42, 182, 0, 43, 62, 42, 89, 180, 0, 30, 4, 96, 181, 0, 30, 44, 187, 0, 90, 89, 29]
abbrev dktX8_product_2 : List UInt8 := dkwX8_product_2 ++ dktX8_product_3
def dkwX8_product_1 : List UInt8 := [182, 0, 43, 16, 42, 159, 0, 21, 42, 182, 0, 43, 16, 47, 159, 0, 12, 42, 182, 0, 43, 16, 37]
abbrev dktX8_product_1 : List UInt8 := dkwX8_product_1 ++ dktX8_product_2
def dkwX8_product_0 : List UInt8 := [187, 0, 90, 89, 3, 42, 182, 0, 92, 183, 0, 95, 76, 43, 77, 42, 182, 0, 47, 153, 0, 69, 42]
abbrev dktX8_product_0 : List UInt8 := dkwX8_product_0 ++ dktX8_product_1
theorem dksX8_product_0 : cX8_product.data.toList.drop 0 = dktX8_product_0 := by decide +kernel
theorem dksX8_product_1 : cX8_product.data.toList.drop 23 = dktX8_product_1 := dk_seg dksX8_product_0 23 rfl rfl
theorem dksX8_product_2 : cX8_product.data.toList.drop 46 = dktX8_product_2 := dk_seg dksX8_product_1 23 rfl rfl
theorem dksX8_product_3 : cX8_product.data.toList.drop 70 = dktX8_product_3 := dk_seg dksX8_product_2 24 rfl rfl
theorem dX8_product_0 : decode cX8_product 0 = .ok (.new 90, 3) := dk_187 0 90 (dk_at dksX8_product_0 0 rfl rfl)
theorem dX8_product_3 : decode cX8_product 3 = .ok (.dup, 1) := dk_89 (dk_at dksX8_product_0 3 rfl rfl)
theorem dX8_product_4 : decode cX8_product 4 = .ok (.iconst 0, 1) := dk_3 (dk_at dksX8_product_0 4 rfl rfl)
theorem dX8_product_5 : decode cX8_product 5 = .ok (.aload_n 0, 1) := dk_42 (dk_at dksX8_product_0 5 rfl rfl)
theorem dX8_product_6 : decode cX8_product 6 = .ok (.invokevirtual 92, 3) := dk_182 0 92 (dk_at dksX8_product_0 6 rfl rfl)
theorem dX8_product_9 : decode cX8_product 9 = .ok (.invokespecial 95, 3) := dk_183 0 95 (dk_at dksX8_product_0 9 rfl rfl)
theorem dX8_product_12 : decode cX8_product 12 = .ok (.astore_n 1, 1) := dk_76 (dk_at dksX8_product_0 12 rfl rfl)
theorem dX8_product_13 : decode cX8_product 13 = .ok (.aload_n 1, 1) := dk_43 (dk_at dksX8_product_0 13 rfl rfl)
theorem dX8_product_14 : decode cX8_product 14 = .ok (.astore_n 2, 1) := dk_77 (dk_at dksX8_product_0 14 rfl rfl)
theorem dX8_product_15 : decode cX8_product 15 = .ok (.aload_n 0, 1) := dk_42 (dk_at dksX8_product_0 15 rfl rfl)
theorem dX8_product_16 : decode cX8_product 16 = .ok (.invokevirtual 47, 3) := dk_182 0 47 (dk_at dksX8_product_0 16 rfl rfl)
theorem dX8_product_19 : decode cX8_product 19 = .ok (.ifCond .eq 69, 3) := dk_153 0 69 (dk_at dksX8_product_0 19 rfl rfl)
theorem dX8_product_22 : decode cX8_product 22 = .ok (.aload_n 0, 1) := dk_42 (dk_at dksX8_product_0 22 rfl rfl)
theorem dX8_product_23 : decode cX8_product 23 = .ok (.invokevirtual 43, 3) := dk_182 0 43 (dk_at dksX8_product_1 0 rfl rfl)
theorem dX8_product_26 : decode cX8_product 26 = .ok (.bipush 42, 2) := dk_16 42 (dk_at dksX8_product_1 3 rfl rfl)
theorem dX8_product_28 : decode cX8_product 28 = .ok (.if_icmp .eq 21, 3) := dk_159 0 21 (dk_at dksX8_product_1 5 rfl rfl)
theorem dX8_product_31 : decode cX8_product 31 = .ok (.aload_n 0, 1) := dk_42 (dk_at dksX8_product_1 8 rfl rfl)
theorem dX8_product_32 : decode cX8_product 32 = .ok (.invokevirtual 43, 3) := dk_182 0 43 (dk_at dksX8_product_1 9 rfl rfl)
theorem dX8_product_35 : decode cX8_product 35 = .ok (.bipush 47, 2) := dk_16 47 (dk_at dksX8_product_1 12 rfl rfl)
theorem dX8_product_37 : decode cX8_product 37 = .ok (.if_icmp .eq 12, 3) := dk_159 0 12 (dk_at dksX8_product_1 14 rfl rfl)
theorem dX8_product_40 : decode cX8_product 40 = .ok (.aload_n 0, 1) := dk_42 (dk_at dksX8_product_1 17 rfl rfl)
theorem dX8_product_41 : decode cX8_product 41 = .ok (.invokevirtual 43, 3) := dk_182 0 43 (dk_at dksX8_product_1 18 rfl rfl)
theorem dX8_product_44 : decode cX8_product 44 = .ok (.bipush 37, 2) := dk_16 37 (dk_at dksX8_product_1 21 rfl rfl)
theorem dX8_product_46 : decode cX8_product 46 = .ok (.if_icmp .ne 42, 3) := dk_160 0 42 (dk_at dksX8_product_2 0 rfl rfl)
theorem dX8_product_49 : decode cX8_product 49 = .ok (.aload_n 0, 1) := dk_42 (dk_at dksX8_product_2 3 rfl rfl)
theorem dX8_product_50 : decode cX8_product 50 = .ok (.invokevirtual 43, 3) := dk_182 0 43 (dk_at dksX8_product_2 4 rfl rfl)
theorem dX8_product_53 : decode cX8_product 53 = .ok (.istore_n 3, 1) := dk_62 (dk_at dksX8_product_2 7 rfl rfl)
theorem dX8_product_54 : decode cX8_product 54 = .ok (.aload_n 0, 1) := dk_42 (dk_at dksX8_product_2 8 rfl rfl)
theorem dX8_product_55 : decode cX8_product 55 = .ok (.dup, 1) := dk_89 (dk_at dksX8_product_2 9 rfl rfl)
theorem dX8_product_56 : decode cX8_product 56 = .ok (.getfield 30, 3) := dk_180 0 30 (dk_at dksX8_product_2 10 rfl rfl)
theorem dX8_product_59 : decode cX8_product 59 = .ok (.iconst 1, 1) := dk_4 (dk_at dksX8_product_2 13 rfl rfl)
theorem dX8_product_60 : decode cX8_product 60 = .ok (.iadd, 1) := dk_96 (dk_at dksX8_product_2 14 rfl rfl)
theorem dX8_product_61 : decode cX8_product 61 = .ok (.putfield 30, 3) := dk_181 0 30 (dk_at dksX8_product_2 15 rfl rfl)
theorem dX8_product_64 : decode cX8_product 64 = .ok (.aload_n 2, 1) := dk_44 (dk_at dksX8_product_2 18 rfl rfl)
theorem dX8_product_65 : decode cX8_product 65 = .ok (.new 90, 3) := dk_187 0 90 (dk_at dksX8_product_2 19 rfl rfl)
theorem dX8_product_68 : decode cX8_product 68 = .ok (.dup, 1) := dk_89 (dk_at dksX8_product_2 22 rfl rfl)
theorem dX8_product_69 : decode cX8_product 69 = .ok (.iload_n 3, 1) := dk_29 (dk_at dksX8_product_2 23 rfl rfl)
theorem dX8_product_70 : decode cX8_product 70 = .ok (.aload_n 0, 1) := dk_42 (dk_at dksX8_product_3 0 rfl rfl)
theorem dX8_product_71 : decode cX8_product 71 = .ok (.invokevirtual 92, 3) := dk_182 0 92 (dk_at dksX8_product_3 1 rfl rfl)
theorem dX8_product_74 : decode cX8_product 74 = .ok (.invokespecial 95, 3) := dk_183 0 95 (dk_at dksX8_product_3 4 rfl rfl)
theorem dX8_product_77 : decode cX8_product 77 = .ok (.putfield 98, 3) := dk_181 0 98 (dk_at dksX8_product_3 7 rfl rfl)
theorem dX8_product_80 : decode cX8_product 80 = .ok (.aload_n 2, 1) := dk_44 (dk_at dksX8_product_3 10 rfl rfl)
theorem dX8_product_81 : decode cX8_product 81 = .ok (.getfield 98, 3) := dk_180 0 98 (dk_at dksX8_product_3 11 rfl rfl)
theorem dX8_product_84 : decode cX8_product 84 = .ok (.astore_n 2, 1) := dk_77 (dk_at dksX8_product_3 14 rfl rfl)
theorem dX8_product_85 : decode cX8_product 85 = .ok (.goto (-70), 3) := dk_167 255 186 (dk_at dksX8_product_3 15 rfl rfl)
theorem dX8_product_88 : decode cX8_product 88 = .ok (.aload_n 1, 1) := dk_43 (dk_at dksX8_product_3 18 rfl rfl)
theorem dX8_product_89 : decode cX8_product 89 = .ok (.areturn, 1) := dk_176 (dk_at dksX8_product_3 19 rfl rfl)
abbrev cX8_factor : ByteArray := prog_13_method_9_code
def yX8_factor : MethodName := ⟨RX8, "factor", "()LLandingTree$Sum;"⟩
def dkwX8_factor_5 : List UInt8 := [176]
abbrev dktX8_factor_5 : List UInt8 := dkwX8_factor_5 ++ []
def dkwX8_factor_4 : List UInt8 := [180, 0, 30, 182, 0, 54, 42, 89, 180, 0, 30, 4, 96, 181, 0, 30, 187, 0, 87, 89, 27, 183, 0, 89]
abbrev dktX8_factor_4 : List UInt8 := dkwX8_factor_4 ++ dktX8_factor_5
def dkwX8_factor_3 : List UInt8 := [182, 0, 74, 183, 0, 77, 176, 27, 153, 0, 12, 18, 79, 27, 182, 0, 81, 156, 0, 12, 42, 4, 42]
abbrev dktX8_factor_3 : List UInt8 := dkwX8_factor_3 ++ dktX8_factor_4
def dkwX8_factor_2 : List UInt8 := [180, 0, 58, 4, 100, 181, 0, 58, 44, 176, 42, 182, 0, 51, 153, 0, 15, 187, 0, 72, 89, 42]
abbrev dktX8_factor_2 : List UInt8 := dkwX8_factor_2 ++ dktX8_factor_3
def dkwX8_factor_1 : List UInt8 := [182, 0, 64, 167, 0, 4, 1, 77, 42, 182, 0, 47, 153, 0, 9, 42, 16, 93, 182, 0, 68, 42, 89]
abbrev dktX8_factor_1 : List UInt8 := dkwX8_factor_1 ++ dktX8_factor_2
def dkwX8_factor_0 : List UInt8 := [42, 182, 0, 43, 60, 27, 16, 91, 160, 0, 48, 42, 182, 0, 61, 42, 182, 0, 47, 153, 0, 10, 42]
abbrev dktX8_factor_0 : List UInt8 := dkwX8_factor_0 ++ dktX8_factor_1
theorem dksX8_factor_0 : cX8_factor.data.toList.drop 0 = dktX8_factor_0 := by decide +kernel
theorem dksX8_factor_1 : cX8_factor.data.toList.drop 23 = dktX8_factor_1 := dk_seg dksX8_factor_0 23 rfl rfl
theorem dksX8_factor_2 : cX8_factor.data.toList.drop 46 = dktX8_factor_2 := dk_seg dksX8_factor_1 23 rfl rfl
theorem dksX8_factor_3 : cX8_factor.data.toList.drop 68 = dktX8_factor_3 := dk_seg dksX8_factor_2 22 rfl rfl
theorem dksX8_factor_4 : cX8_factor.data.toList.drop 91 = dktX8_factor_4 := dk_seg dksX8_factor_3 23 rfl rfl
theorem dksX8_factor_5 : cX8_factor.data.toList.drop 115 = dktX8_factor_5 := dk_seg dksX8_factor_4 24 rfl rfl
theorem dX8_factor_0 : decode cX8_factor 0 = .ok (.aload_n 0, 1) := dk_42 (dk_at dksX8_factor_0 0 rfl rfl)
theorem dX8_factor_1 : decode cX8_factor 1 = .ok (.invokevirtual 43, 3) := dk_182 0 43 (dk_at dksX8_factor_0 1 rfl rfl)
theorem dX8_factor_4 : decode cX8_factor 4 = .ok (.istore_n 1, 1) := dk_60 (dk_at dksX8_factor_0 4 rfl rfl)
theorem dX8_factor_5 : decode cX8_factor 5 = .ok (.iload_n 1, 1) := dk_27 (dk_at dksX8_factor_0 5 rfl rfl)
theorem dX8_factor_6 : decode cX8_factor 6 = .ok (.bipush 91, 2) := dk_16 91 (dk_at dksX8_factor_0 6 rfl rfl)
theorem dX8_factor_8 : decode cX8_factor 8 = .ok (.if_icmp .ne 48, 3) := dk_160 0 48 (dk_at dksX8_factor_0 8 rfl rfl)
theorem dX8_factor_11 : decode cX8_factor 11 = .ok (.aload_n 0, 1) := dk_42 (dk_at dksX8_factor_0 11 rfl rfl)
theorem dX8_factor_12 : decode cX8_factor 12 = .ok (.invokevirtual 61, 3) := dk_182 0 61 (dk_at dksX8_factor_0 12 rfl rfl)
theorem dX8_factor_15 : decode cX8_factor 15 = .ok (.aload_n 0, 1) := dk_42 (dk_at dksX8_factor_0 15 rfl rfl)
theorem dX8_factor_16 : decode cX8_factor 16 = .ok (.invokevirtual 47, 3) := dk_182 0 47 (dk_at dksX8_factor_0 16 rfl rfl)
theorem dX8_factor_19 : decode cX8_factor 19 = .ok (.ifCond .eq 10, 3) := dk_153 0 10 (dk_at dksX8_factor_0 19 rfl rfl)
theorem dX8_factor_22 : decode cX8_factor 22 = .ok (.aload_n 0, 1) := dk_42 (dk_at dksX8_factor_0 22 rfl rfl)
theorem dX8_factor_23 : decode cX8_factor 23 = .ok (.invokevirtual 64, 3) := dk_182 0 64 (dk_at dksX8_factor_1 0 rfl rfl)
theorem dX8_factor_26 : decode cX8_factor 26 = .ok (.goto 4, 3) := dk_167 0 4 (dk_at dksX8_factor_1 3 rfl rfl)
theorem dX8_factor_29 : decode cX8_factor 29 = .ok (.aconst_null, 1) := dk_1 (dk_at dksX8_factor_1 6 rfl rfl)
theorem dX8_factor_30 : decode cX8_factor 30 = .ok (.astore_n 2, 1) := dk_77 (dk_at dksX8_factor_1 7 rfl rfl)
theorem dX8_factor_31 : decode cX8_factor 31 = .ok (.aload_n 0, 1) := dk_42 (dk_at dksX8_factor_1 8 rfl rfl)
theorem dX8_factor_32 : decode cX8_factor 32 = .ok (.invokevirtual 47, 3) := dk_182 0 47 (dk_at dksX8_factor_1 9 rfl rfl)
theorem dX8_factor_35 : decode cX8_factor 35 = .ok (.ifCond .eq 9, 3) := dk_153 0 9 (dk_at dksX8_factor_1 12 rfl rfl)
theorem dX8_factor_38 : decode cX8_factor 38 = .ok (.aload_n 0, 1) := dk_42 (dk_at dksX8_factor_1 15 rfl rfl)
theorem dX8_factor_39 : decode cX8_factor 39 = .ok (.bipush 93, 2) := dk_16 93 (dk_at dksX8_factor_1 16 rfl rfl)
theorem dX8_factor_41 : decode cX8_factor 41 = .ok (.invokevirtual 68, 3) := dk_182 0 68 (dk_at dksX8_factor_1 18 rfl rfl)
theorem dX8_factor_44 : decode cX8_factor 44 = .ok (.aload_n 0, 1) := dk_42 (dk_at dksX8_factor_1 21 rfl rfl)
theorem dX8_factor_45 : decode cX8_factor 45 = .ok (.dup, 1) := dk_89 (dk_at dksX8_factor_1 22 rfl rfl)
theorem dX8_factor_46 : decode cX8_factor 46 = .ok (.getfield 58, 3) := dk_180 0 58 (dk_at dksX8_factor_2 0 rfl rfl)
theorem dX8_factor_49 : decode cX8_factor 49 = .ok (.iconst 1, 1) := dk_4 (dk_at dksX8_factor_2 3 rfl rfl)
theorem dX8_factor_50 : decode cX8_factor 50 = .ok (.isub, 1) := dk_100 (dk_at dksX8_factor_2 4 rfl rfl)
theorem dX8_factor_51 : decode cX8_factor 51 = .ok (.putfield 58, 3) := dk_181 0 58 (dk_at dksX8_factor_2 5 rfl rfl)
theorem dX8_factor_54 : decode cX8_factor 54 = .ok (.aload_n 2, 1) := dk_44 (dk_at dksX8_factor_2 8 rfl rfl)
theorem dX8_factor_55 : decode cX8_factor 55 = .ok (.areturn, 1) := dk_176 (dk_at dksX8_factor_2 9 rfl rfl)
theorem dX8_factor_56 : decode cX8_factor 56 = .ok (.aload_n 0, 1) := dk_42 (dk_at dksX8_factor_2 10 rfl rfl)
theorem dX8_factor_57 : decode cX8_factor 57 = .ok (.invokevirtual 51, 3) := dk_182 0 51 (dk_at dksX8_factor_2 11 rfl rfl)
theorem dX8_factor_60 : decode cX8_factor 60 = .ok (.ifCond .eq 15, 3) := dk_153 0 15 (dk_at dksX8_factor_2 14 rfl rfl)
theorem dX8_factor_63 : decode cX8_factor 63 = .ok (.new 72, 3) := dk_187 0 72 (dk_at dksX8_factor_2 17 rfl rfl)
theorem dX8_factor_66 : decode cX8_factor 66 = .ok (.dup, 1) := dk_89 (dk_at dksX8_factor_2 20 rfl rfl)
theorem dX8_factor_67 : decode cX8_factor 67 = .ok (.aload_n 0, 1) := dk_42 (dk_at dksX8_factor_2 21 rfl rfl)
theorem dX8_factor_68 : decode cX8_factor 68 = .ok (.invokevirtual 74, 3) := dk_182 0 74 (dk_at dksX8_factor_3 0 rfl rfl)
theorem dX8_factor_71 : decode cX8_factor 71 = .ok (.invokespecial 77, 3) := dk_183 0 77 (dk_at dksX8_factor_3 3 rfl rfl)
theorem dX8_factor_74 : decode cX8_factor 74 = .ok (.areturn, 1) := dk_176 (dk_at dksX8_factor_3 6 rfl rfl)
theorem dX8_factor_75 : decode cX8_factor 75 = .ok (.iload_n 1, 1) := dk_27 (dk_at dksX8_factor_3 7 rfl rfl)
theorem dX8_factor_76 : decode cX8_factor 76 = .ok (.ifCond .eq 12, 3) := dk_153 0 12 (dk_at dksX8_factor_3 8 rfl rfl)
theorem dX8_factor_79 : decode cX8_factor 79 = .ok (.ldc 79, 2) := dk_18 79 (dk_at dksX8_factor_3 11 rfl rfl)
theorem dX8_factor_81 : decode cX8_factor 81 = .ok (.iload_n 1, 1) := dk_27 (dk_at dksX8_factor_3 13 rfl rfl)
theorem dX8_factor_82 : decode cX8_factor 82 = .ok (.invokevirtual 81, 3) := dk_182 0 81 (dk_at dksX8_factor_3 14 rfl rfl)
theorem dX8_factor_85 : decode cX8_factor 85 = .ok (.ifCond .ge 12, 3) := dk_156 0 12 (dk_at dksX8_factor_3 17 rfl rfl)
theorem dX8_factor_88 : decode cX8_factor 88 = .ok (.aload_n 0, 1) := dk_42 (dk_at dksX8_factor_3 20 rfl rfl)
theorem dX8_factor_89 : decode cX8_factor 89 = .ok (.iconst 1, 1) := dk_4 (dk_at dksX8_factor_3 21 rfl rfl)
theorem dX8_factor_90 : decode cX8_factor 90 = .ok (.aload_n 0, 1) := dk_42 (dk_at dksX8_factor_3 22 rfl rfl)
theorem dX8_factor_91 : decode cX8_factor 91 = .ok (.getfield 30, 3) := dk_180 0 30 (dk_at dksX8_factor_4 0 rfl rfl)
theorem dX8_factor_94 : decode cX8_factor 94 = .ok (.invokevirtual 54, 3) := dk_182 0 54 (dk_at dksX8_factor_4 3 rfl rfl)
theorem dX8_factor_97 : decode cX8_factor 97 = .ok (.aload_n 0, 1) := dk_42 (dk_at dksX8_factor_4 6 rfl rfl)
theorem dX8_factor_98 : decode cX8_factor 98 = .ok (.dup, 1) := dk_89 (dk_at dksX8_factor_4 7 rfl rfl)
theorem dX8_factor_99 : decode cX8_factor 99 = .ok (.getfield 30, 3) := dk_180 0 30 (dk_at dksX8_factor_4 8 rfl rfl)
theorem dX8_factor_102 : decode cX8_factor 102 = .ok (.iconst 1, 1) := dk_4 (dk_at dksX8_factor_4 11 rfl rfl)
theorem dX8_factor_103 : decode cX8_factor 103 = .ok (.iadd, 1) := dk_96 (dk_at dksX8_factor_4 12 rfl rfl)
theorem dX8_factor_104 : decode cX8_factor 104 = .ok (.putfield 30, 3) := dk_181 0 30 (dk_at dksX8_factor_4 13 rfl rfl)
theorem dX8_factor_107 : decode cX8_factor 107 = .ok (.new 87, 3) := dk_187 0 87 (dk_at dksX8_factor_4 16 rfl rfl)
theorem dX8_factor_110 : decode cX8_factor 110 = .ok (.dup, 1) := dk_89 (dk_at dksX8_factor_4 19 rfl rfl)
theorem dX8_factor_111 : decode cX8_factor 111 = .ok (.iload_n 1, 1) := dk_27 (dk_at dksX8_factor_4 20 rfl rfl)
theorem dX8_factor_112 : decode cX8_factor 112 = .ok (.invokespecial 89, 3) := dk_183 0 89 (dk_at dksX8_factor_4 21 rfl rfl)
theorem dX8_factor_115 : decode cX8_factor 115 = .ok (.areturn, 1) := dk_176 (dk_at dksX8_factor_5 0 rfl rfl)
abbrev cX8_opens : ByteArray := prog_13_method_8_code
def yX8_opens : MethodName := ⟨RX8, "opens", "()V"⟩
def dkwX8_opens_1 : List UInt8 := [96, 181, 0, 58, 42, 89, 180, 0, 30, 4, 96, 181, 0, 30, 177]
abbrev dktX8_opens_1 : List UInt8 := dkwX8_opens_1 ++ []
def dkwX8_opens_0 : List UInt8 := [42, 180, 0, 58, 16, 6, 160, 0, 12, 42, 8, 42, 180, 0, 30, 182, 0, 54, 42, 89, 180, 0, 58, 4]
abbrev dktX8_opens_0 : List UInt8 := dkwX8_opens_0 ++ dktX8_opens_1
theorem dksX8_opens_0 : cX8_opens.data.toList.drop 0 = dktX8_opens_0 := by decide +kernel
theorem dksX8_opens_1 : cX8_opens.data.toList.drop 24 = dktX8_opens_1 := dk_seg dksX8_opens_0 24 rfl rfl
theorem dX8_opens_0 : decode cX8_opens 0 = .ok (.aload_n 0, 1) := dk_42 (dk_at dksX8_opens_0 0 rfl rfl)
theorem dX8_opens_1 : decode cX8_opens 1 = .ok (.getfield 58, 3) := dk_180 0 58 (dk_at dksX8_opens_0 1 rfl rfl)
theorem dX8_opens_4 : decode cX8_opens 4 = .ok (.bipush 6, 2) := dk_16 6 (dk_at dksX8_opens_0 4 rfl rfl)
theorem dX8_opens_6 : decode cX8_opens 6 = .ok (.if_icmp .ne 12, 3) := dk_160 0 12 (dk_at dksX8_opens_0 6 rfl rfl)
theorem dX8_opens_9 : decode cX8_opens 9 = .ok (.aload_n 0, 1) := dk_42 (dk_at dksX8_opens_0 9 rfl rfl)
theorem dX8_opens_10 : decode cX8_opens 10 = .ok (.iconst 5, 1) := dk_8 (dk_at dksX8_opens_0 10 rfl rfl)
theorem dX8_opens_11 : decode cX8_opens 11 = .ok (.aload_n 0, 1) := dk_42 (dk_at dksX8_opens_0 11 rfl rfl)
theorem dX8_opens_12 : decode cX8_opens 12 = .ok (.getfield 30, 3) := dk_180 0 30 (dk_at dksX8_opens_0 12 rfl rfl)
theorem dX8_opens_15 : decode cX8_opens 15 = .ok (.invokevirtual 54, 3) := dk_182 0 54 (dk_at dksX8_opens_0 15 rfl rfl)
theorem dX8_opens_18 : decode cX8_opens 18 = .ok (.aload_n 0, 1) := dk_42 (dk_at dksX8_opens_0 18 rfl rfl)
theorem dX8_opens_19 : decode cX8_opens 19 = .ok (.dup, 1) := dk_89 (dk_at dksX8_opens_0 19 rfl rfl)
theorem dX8_opens_20 : decode cX8_opens 20 = .ok (.getfield 58, 3) := dk_180 0 58 (dk_at dksX8_opens_0 20 rfl rfl)
theorem dX8_opens_23 : decode cX8_opens 23 = .ok (.iconst 1, 1) := dk_4 (dk_at dksX8_opens_0 23 rfl rfl)
theorem dX8_opens_24 : decode cX8_opens 24 = .ok (.iadd, 1) := dk_96 (dk_at dksX8_opens_1 0 rfl rfl)
theorem dX8_opens_25 : decode cX8_opens 25 = .ok (.putfield 58, 3) := dk_181 0 58 (dk_at dksX8_opens_1 1 rfl rfl)
theorem dX8_opens_28 : decode cX8_opens 28 = .ok (.aload_n 0, 1) := dk_42 (dk_at dksX8_opens_1 4 rfl rfl)
theorem dX8_opens_29 : decode cX8_opens 29 = .ok (.dup, 1) := dk_89 (dk_at dksX8_opens_1 5 rfl rfl)
theorem dX8_opens_30 : decode cX8_opens 30 = .ok (.getfield 30, 3) := dk_180 0 30 (dk_at dksX8_opens_1 6 rfl rfl)
theorem dX8_opens_33 : decode cX8_opens 33 = .ok (.iconst 1, 1) := dk_4 (dk_at dksX8_opens_1 9 rfl rfl)
theorem dX8_opens_34 : decode cX8_opens 34 = .ok (.iadd, 1) := dk_96 (dk_at dksX8_opens_1 10 rfl rfl)
theorem dX8_opens_35 : decode cX8_opens 35 = .ok (.putfield 30, 3) := dk_181 0 30 (dk_at dksX8_opens_1 11 rfl rfl)
theorem dX8_opens_38 : decode cX8_opens 38 = .ok (.return_, 1) := dk_177 (dk_at dksX8_opens_1 14 rfl rfl)
abbrev cX8_must : ByteArray := prog_13_method_7_code
def yX8_must : MethodName := ⟨RX8, "must", "(I)V"⟩
def dkwX8_must_1 : List UInt8 := [181, 0, 30, 177]
abbrev dktX8_must_1 : List UInt8 := dkwX8_must_1 ++ []
def dkwX8_must_0 : List UInt8 := [42, 182, 0, 43, 27, 159, 0, 12, 42, 4, 42, 180, 0, 30, 182, 0, 54, 42, 89, 180, 0, 30, 4, 96]
abbrev dktX8_must_0 : List UInt8 := dkwX8_must_0 ++ dktX8_must_1
theorem dksX8_must_0 : cX8_must.data.toList.drop 0 = dktX8_must_0 := by decide +kernel
theorem dksX8_must_1 : cX8_must.data.toList.drop 24 = dktX8_must_1 := dk_seg dksX8_must_0 24 rfl rfl
theorem dX8_must_0 : decode cX8_must 0 = .ok (.aload_n 0, 1) := dk_42 (dk_at dksX8_must_0 0 rfl rfl)
theorem dX8_must_1 : decode cX8_must 1 = .ok (.invokevirtual 43, 3) := dk_182 0 43 (dk_at dksX8_must_0 1 rfl rfl)
theorem dX8_must_4 : decode cX8_must 4 = .ok (.iload_n 1, 1) := dk_27 (dk_at dksX8_must_0 4 rfl rfl)
theorem dX8_must_5 : decode cX8_must 5 = .ok (.if_icmp .eq 12, 3) := dk_159 0 12 (dk_at dksX8_must_0 5 rfl rfl)
theorem dX8_must_8 : decode cX8_must 8 = .ok (.aload_n 0, 1) := dk_42 (dk_at dksX8_must_0 8 rfl rfl)
theorem dX8_must_9 : decode cX8_must 9 = .ok (.iconst 1, 1) := dk_4 (dk_at dksX8_must_0 9 rfl rfl)
theorem dX8_must_10 : decode cX8_must 10 = .ok (.aload_n 0, 1) := dk_42 (dk_at dksX8_must_0 10 rfl rfl)
theorem dX8_must_11 : decode cX8_must 11 = .ok (.getfield 30, 3) := dk_180 0 30 (dk_at dksX8_must_0 11 rfl rfl)
theorem dX8_must_14 : decode cX8_must 14 = .ok (.invokevirtual 54, 3) := dk_182 0 54 (dk_at dksX8_must_0 14 rfl rfl)
theorem dX8_must_17 : decode cX8_must 17 = .ok (.aload_n 0, 1) := dk_42 (dk_at dksX8_must_0 17 rfl rfl)
theorem dX8_must_18 : decode cX8_must 18 = .ok (.dup, 1) := dk_89 (dk_at dksX8_must_0 18 rfl rfl)
theorem dX8_must_19 : decode cX8_must 19 = .ok (.getfield 30, 3) := dk_180 0 30 (dk_at dksX8_must_0 19 rfl rfl)
theorem dX8_must_22 : decode cX8_must 22 = .ok (.iconst 1, 1) := dk_4 (dk_at dksX8_must_0 22 rfl rfl)
theorem dX8_must_23 : decode cX8_must 23 = .ok (.iadd, 1) := dk_96 (dk_at dksX8_must_0 23 rfl rfl)
theorem dX8_must_24 : decode cX8_must 24 = .ok (.putfield 30, 3) := dk_181 0 30 (dk_at dksX8_must_1 0 rfl rfl)
theorem dX8_must_27 : decode cX8_must 27 = .ok (.return_, 1) := dk_177 (dk_at dksX8_must_1 3 rfl rfl)
abbrev cX8_seesDigit : ByteArray := prog_13_method_5_code
def yX8_seesDigit : MethodName := ⟨RX8, "seesDigit", "()Z"⟩
def dkwX8_seesDigit_0 : List UInt8 := [42, 182, 0, 43, 16, 48, 161, 0, 16, 42, 182, 0, 43, 16, 57, 163, 0, 7, 4, 167, 0, 4, 3, 172]
abbrev dktX8_seesDigit_0 : List UInt8 := dkwX8_seesDigit_0 ++ []
theorem dksX8_seesDigit_0 : cX8_seesDigit.data.toList.drop 0 = dktX8_seesDigit_0 := by decide +kernel
theorem dX8_seesDigit_0 : decode cX8_seesDigit 0 = .ok (.aload_n 0, 1) := dk_42 (dk_at dksX8_seesDigit_0 0 rfl rfl)
theorem dX8_seesDigit_1 : decode cX8_seesDigit 1 = .ok (.invokevirtual 43, 3) := dk_182 0 43 (dk_at dksX8_seesDigit_0 1 rfl rfl)
theorem dX8_seesDigit_4 : decode cX8_seesDigit 4 = .ok (.bipush 48, 2) := dk_16 48 (dk_at dksX8_seesDigit_0 4 rfl rfl)
theorem dX8_seesDigit_6 : decode cX8_seesDigit 6 = .ok (.if_icmp .lt 16, 3) := dk_161 0 16 (dk_at dksX8_seesDigit_0 6 rfl rfl)
theorem dX8_seesDigit_9 : decode cX8_seesDigit 9 = .ok (.aload_n 0, 1) := dk_42 (dk_at dksX8_seesDigit_0 9 rfl rfl)
theorem dX8_seesDigit_10 : decode cX8_seesDigit 10 = .ok (.invokevirtual 43, 3) := dk_182 0 43 (dk_at dksX8_seesDigit_0 10 rfl rfl)
theorem dX8_seesDigit_13 : decode cX8_seesDigit 13 = .ok (.bipush 57, 2) := dk_16 57 (dk_at dksX8_seesDigit_0 13 rfl rfl)
theorem dX8_seesDigit_15 : decode cX8_seesDigit 15 = .ok (.if_icmp .gt 7, 3) := dk_163 0 7 (dk_at dksX8_seesDigit_0 15 rfl rfl)
theorem dX8_seesDigit_18 : decode cX8_seesDigit 18 = .ok (.iconst 1, 1) := dk_4 (dk_at dksX8_seesDigit_0 18 rfl rfl)
theorem dX8_seesDigit_19 : decode cX8_seesDigit 19 = .ok (.goto 4, 3) := dk_167 0 4 (dk_at dksX8_seesDigit_0 19 rfl rfl)
theorem dX8_seesDigit_22 : decode cX8_seesDigit 22 = .ok (.iconst 0, 1) := dk_3 (dk_at dksX8_seesDigit_0 22 rfl rfl)
theorem dX8_seesDigit_23 : decode cX8_seesDigit 23 = .ok (.ireturn, 1) := dk_172 (dk_at dksX8_seesDigit_0 23 rfl rfl)
abbrev cX8_number : ByteArray := prog_13_method_6_code
def yX8_number : MethodName := ⟨RX8, "number", "()I"⟩
def dkwX8_number_2 : List UInt8 := [182, 0, 43, 96, 16, 48, 100, 61, 42, 89, 180, 0, 30, 4, 96, 181, 0, 30, 167, 255, 200, 28, 172]
abbrev dktX8_number_2 : List UInt8 := dkwX8_number_2 ++ []
def dkwX8_number_1 : List UInt8 := [180, 0, 30, 27, 8, 96, 160, 0, 12, 42, 5, 42, 180, 0, 30, 182, 0, 54, 16, 10, 28, 104, 42]
abbrev dktX8_number_1 : List UInt8 := dkwX8_number_1 ++ dktX8_number_2
def dkwX8_number_0 : List UInt8 := [42, 180, 0, 30, 60, 3, 61, 42, 182, 0, 47, 153, 0, 55, 42, 182, 0, 51, 153, 0, 48, 42]
abbrev dktX8_number_0 : List UInt8 := dkwX8_number_0 ++ dktX8_number_1
theorem dksX8_number_0 : cX8_number.data.toList.drop 0 = dktX8_number_0 := by decide +kernel
theorem dksX8_number_1 : cX8_number.data.toList.drop 22 = dktX8_number_1 := dk_seg dksX8_number_0 22 rfl rfl
theorem dksX8_number_2 : cX8_number.data.toList.drop 45 = dktX8_number_2 := dk_seg dksX8_number_1 23 rfl rfl
theorem dX8_number_0 : decode cX8_number 0 = .ok (.aload_n 0, 1) := dk_42 (dk_at dksX8_number_0 0 rfl rfl)
theorem dX8_number_1 : decode cX8_number 1 = .ok (.getfield 30, 3) := dk_180 0 30 (dk_at dksX8_number_0 1 rfl rfl)
theorem dX8_number_4 : decode cX8_number 4 = .ok (.istore_n 1, 1) := dk_60 (dk_at dksX8_number_0 4 rfl rfl)
theorem dX8_number_5 : decode cX8_number 5 = .ok (.iconst 0, 1) := dk_3 (dk_at dksX8_number_0 5 rfl rfl)
theorem dX8_number_6 : decode cX8_number 6 = .ok (.istore_n 2, 1) := dk_61 (dk_at dksX8_number_0 6 rfl rfl)
theorem dX8_number_7 : decode cX8_number 7 = .ok (.aload_n 0, 1) := dk_42 (dk_at dksX8_number_0 7 rfl rfl)
theorem dX8_number_8 : decode cX8_number 8 = .ok (.invokevirtual 47, 3) := dk_182 0 47 (dk_at dksX8_number_0 8 rfl rfl)
theorem dX8_number_11 : decode cX8_number 11 = .ok (.ifCond .eq 55, 3) := dk_153 0 55 (dk_at dksX8_number_0 11 rfl rfl)
theorem dX8_number_14 : decode cX8_number 14 = .ok (.aload_n 0, 1) := dk_42 (dk_at dksX8_number_0 14 rfl rfl)
theorem dX8_number_15 : decode cX8_number 15 = .ok (.invokevirtual 51, 3) := dk_182 0 51 (dk_at dksX8_number_0 15 rfl rfl)
theorem dX8_number_18 : decode cX8_number 18 = .ok (.ifCond .eq 48, 3) := dk_153 0 48 (dk_at dksX8_number_0 18 rfl rfl)
theorem dX8_number_21 : decode cX8_number 21 = .ok (.aload_n 0, 1) := dk_42 (dk_at dksX8_number_0 21 rfl rfl)
theorem dX8_number_22 : decode cX8_number 22 = .ok (.getfield 30, 3) := dk_180 0 30 (dk_at dksX8_number_1 0 rfl rfl)
theorem dX8_number_25 : decode cX8_number 25 = .ok (.iload_n 1, 1) := dk_27 (dk_at dksX8_number_1 3 rfl rfl)
theorem dX8_number_26 : decode cX8_number 26 = .ok (.iconst 5, 1) := dk_8 (dk_at dksX8_number_1 4 rfl rfl)
theorem dX8_number_27 : decode cX8_number 27 = .ok (.iadd, 1) := dk_96 (dk_at dksX8_number_1 5 rfl rfl)
theorem dX8_number_28 : decode cX8_number 28 = .ok (.if_icmp .ne 12, 3) := dk_160 0 12 (dk_at dksX8_number_1 6 rfl rfl)
theorem dX8_number_31 : decode cX8_number 31 = .ok (.aload_n 0, 1) := dk_42 (dk_at dksX8_number_1 9 rfl rfl)
theorem dX8_number_32 : decode cX8_number 32 = .ok (.iconst 2, 1) := dk_5 (dk_at dksX8_number_1 10 rfl rfl)
theorem dX8_number_33 : decode cX8_number 33 = .ok (.aload_n 0, 1) := dk_42 (dk_at dksX8_number_1 11 rfl rfl)
theorem dX8_number_34 : decode cX8_number 34 = .ok (.getfield 30, 3) := dk_180 0 30 (dk_at dksX8_number_1 12 rfl rfl)
theorem dX8_number_37 : decode cX8_number 37 = .ok (.invokevirtual 54, 3) := dk_182 0 54 (dk_at dksX8_number_1 15 rfl rfl)
theorem dX8_number_40 : decode cX8_number 40 = .ok (.bipush 10, 2) := dk_16 10 (dk_at dksX8_number_1 18 rfl rfl)
theorem dX8_number_42 : decode cX8_number 42 = .ok (.iload_n 2, 1) := dk_28 (dk_at dksX8_number_1 20 rfl rfl)
theorem dX8_number_43 : decode cX8_number 43 = .ok (.imul, 1) := dk_104 (dk_at dksX8_number_1 21 rfl rfl)
theorem dX8_number_44 : decode cX8_number 44 = .ok (.aload_n 0, 1) := dk_42 (dk_at dksX8_number_1 22 rfl rfl)
theorem dX8_number_45 : decode cX8_number 45 = .ok (.invokevirtual 43, 3) := dk_182 0 43 (dk_at dksX8_number_2 0 rfl rfl)
theorem dX8_number_48 : decode cX8_number 48 = .ok (.iadd, 1) := dk_96 (dk_at dksX8_number_2 3 rfl rfl)
theorem dX8_number_49 : decode cX8_number 49 = .ok (.bipush 48, 2) := dk_16 48 (dk_at dksX8_number_2 4 rfl rfl)
theorem dX8_number_51 : decode cX8_number 51 = .ok (.isub, 1) := dk_100 (dk_at dksX8_number_2 6 rfl rfl)
theorem dX8_number_52 : decode cX8_number 52 = .ok (.istore_n 2, 1) := dk_61 (dk_at dksX8_number_2 7 rfl rfl)
theorem dX8_number_53 : decode cX8_number 53 = .ok (.aload_n 0, 1) := dk_42 (dk_at dksX8_number_2 8 rfl rfl)
theorem dX8_number_54 : decode cX8_number 54 = .ok (.dup, 1) := dk_89 (dk_at dksX8_number_2 9 rfl rfl)
theorem dX8_number_55 : decode cX8_number 55 = .ok (.getfield 30, 3) := dk_180 0 30 (dk_at dksX8_number_2 10 rfl rfl)
theorem dX8_number_58 : decode cX8_number 58 = .ok (.iconst 1, 1) := dk_4 (dk_at dksX8_number_2 13 rfl rfl)
theorem dX8_number_59 : decode cX8_number 59 = .ok (.iadd, 1) := dk_96 (dk_at dksX8_number_2 14 rfl rfl)
theorem dX8_number_60 : decode cX8_number 60 = .ok (.putfield 30, 3) := dk_181 0 30 (dk_at dksX8_number_2 15 rfl rfl)
theorem dX8_number_63 : decode cX8_number 63 = .ok (.goto (-56), 3) := dk_167 255 200 (dk_at dksX8_number_2 18 rfl rfl)
theorem dX8_number_66 : decode cX8_number 66 = .ok (.iload_n 2, 1) := dk_28 (dk_at dksX8_number_2 21 rfl rfl)
theorem dX8_number_67 : decode cX8_number 67 = .ok (.ireturn, 1) := dk_172 (dk_at dksX8_number_2 22 rfl rfl)
abbrev cX8_condition : ByteArray := prog_13_method_14_code
def yX8_condition : MethodName := ⟨RX8, "condition", "()LLandingTree$Condition;"⟩
def dkwX8_condition_4 : List UInt8 := [42, 89, 180, 0, 58, 4, 100, 181, 0, 58, 43, 176]
abbrev dktX8_condition_4 : List UInt8 := dkwX8_condition_4 ++ []
def dkwX8_condition_3 : List UInt8 := [181, 0, 127, 44, 180, 0, 127, 77, 167, 255, 209, 42, 182, 0, 47, 153, 0, 9, 42, 16, 41, 182, 0, 68]
abbrev dktX8_condition_3 : List UInt8 := dkwX8_condition_3 ++ dktX8_condition_4
def dkwX8_condition_2 : List UInt8 := [89, 180, 0, 30, 4, 96, 181, 0, 30, 44, 187, 0, 122, 89, 42, 182, 0, 130, 4, 183, 0, 124]
abbrev dktX8_condition_2 : List UInt8 := dkwX8_condition_2 ++ dktX8_condition_3
def dkwX8_condition_1 : List UInt8 := [167, 0, 4, 1, 76, 43, 77, 42, 182, 0, 47, 153, 0, 46, 42, 182, 0, 43, 16, 124, 160, 0, 37, 42]
abbrev dktX8_condition_1 : List UInt8 := dkwX8_condition_1 ++ dktX8_condition_2
def dkwX8_condition_0 : List UInt8 := [42, 182, 0, 61, 42, 182, 0, 47, 153, 0, 18, 187, 0, 122, 89, 42, 182, 0, 130, 4, 183, 0, 124]
abbrev dktX8_condition_0 : List UInt8 := dkwX8_condition_0 ++ dktX8_condition_1
theorem dksX8_condition_0 : cX8_condition.data.toList.drop 0 = dktX8_condition_0 := by decide +kernel
theorem dksX8_condition_1 : cX8_condition.data.toList.drop 23 = dktX8_condition_1 := dk_seg dksX8_condition_0 23 rfl rfl
theorem dksX8_condition_2 : cX8_condition.data.toList.drop 47 = dktX8_condition_2 := dk_seg dksX8_condition_1 24 rfl rfl
theorem dksX8_condition_3 : cX8_condition.data.toList.drop 69 = dktX8_condition_3 := dk_seg dksX8_condition_2 22 rfl rfl
theorem dksX8_condition_4 : cX8_condition.data.toList.drop 93 = dktX8_condition_4 := dk_seg dksX8_condition_3 24 rfl rfl
theorem dX8_condition_0 : decode cX8_condition 0 = .ok (.aload_n 0, 1) := dk_42 (dk_at dksX8_condition_0 0 rfl rfl)
theorem dX8_condition_1 : decode cX8_condition 1 = .ok (.invokevirtual 61, 3) := dk_182 0 61 (dk_at dksX8_condition_0 1 rfl rfl)
theorem dX8_condition_4 : decode cX8_condition 4 = .ok (.aload_n 0, 1) := dk_42 (dk_at dksX8_condition_0 4 rfl rfl)
theorem dX8_condition_5 : decode cX8_condition 5 = .ok (.invokevirtual 47, 3) := dk_182 0 47 (dk_at dksX8_condition_0 5 rfl rfl)
theorem dX8_condition_8 : decode cX8_condition 8 = .ok (.ifCond .eq 18, 3) := dk_153 0 18 (dk_at dksX8_condition_0 8 rfl rfl)
theorem dX8_condition_11 : decode cX8_condition 11 = .ok (.new 122, 3) := dk_187 0 122 (dk_at dksX8_condition_0 11 rfl rfl)
theorem dX8_condition_14 : decode cX8_condition 14 = .ok (.dup, 1) := dk_89 (dk_at dksX8_condition_0 14 rfl rfl)
theorem dX8_condition_15 : decode cX8_condition 15 = .ok (.aload_n 0, 1) := dk_42 (dk_at dksX8_condition_0 15 rfl rfl)
theorem dX8_condition_16 : decode cX8_condition 16 = .ok (.invokevirtual 130, 3) := dk_182 0 130 (dk_at dksX8_condition_0 16 rfl rfl)
theorem dX8_condition_19 : decode cX8_condition 19 = .ok (.iconst 1, 1) := dk_4 (dk_at dksX8_condition_0 19 rfl rfl)
theorem dX8_condition_20 : decode cX8_condition 20 = .ok (.invokespecial 124, 3) := dk_183 0 124 (dk_at dksX8_condition_0 20 rfl rfl)
theorem dX8_condition_23 : decode cX8_condition 23 = .ok (.goto 4, 3) := dk_167 0 4 (dk_at dksX8_condition_1 0 rfl rfl)
theorem dX8_condition_26 : decode cX8_condition 26 = .ok (.aconst_null, 1) := dk_1 (dk_at dksX8_condition_1 3 rfl rfl)
theorem dX8_condition_27 : decode cX8_condition 27 = .ok (.astore_n 1, 1) := dk_76 (dk_at dksX8_condition_1 4 rfl rfl)
theorem dX8_condition_28 : decode cX8_condition 28 = .ok (.aload_n 1, 1) := dk_43 (dk_at dksX8_condition_1 5 rfl rfl)
theorem dX8_condition_29 : decode cX8_condition 29 = .ok (.astore_n 2, 1) := dk_77 (dk_at dksX8_condition_1 6 rfl rfl)
theorem dX8_condition_30 : decode cX8_condition 30 = .ok (.aload_n 0, 1) := dk_42 (dk_at dksX8_condition_1 7 rfl rfl)
theorem dX8_condition_31 : decode cX8_condition 31 = .ok (.invokevirtual 47, 3) := dk_182 0 47 (dk_at dksX8_condition_1 8 rfl rfl)
theorem dX8_condition_34 : decode cX8_condition 34 = .ok (.ifCond .eq 46, 3) := dk_153 0 46 (dk_at dksX8_condition_1 11 rfl rfl)
theorem dX8_condition_37 : decode cX8_condition 37 = .ok (.aload_n 0, 1) := dk_42 (dk_at dksX8_condition_1 14 rfl rfl)
theorem dX8_condition_38 : decode cX8_condition 38 = .ok (.invokevirtual 43, 3) := dk_182 0 43 (dk_at dksX8_condition_1 15 rfl rfl)
theorem dX8_condition_41 : decode cX8_condition 41 = .ok (.bipush 124, 2) := dk_16 124 (dk_at dksX8_condition_1 18 rfl rfl)
theorem dX8_condition_43 : decode cX8_condition 43 = .ok (.if_icmp .ne 37, 3) := dk_160 0 37 (dk_at dksX8_condition_1 20 rfl rfl)
theorem dX8_condition_46 : decode cX8_condition 46 = .ok (.aload_n 0, 1) := dk_42 (dk_at dksX8_condition_1 23 rfl rfl)
theorem dX8_condition_47 : decode cX8_condition 47 = .ok (.dup, 1) := dk_89 (dk_at dksX8_condition_2 0 rfl rfl)
theorem dX8_condition_48 : decode cX8_condition 48 = .ok (.getfield 30, 3) := dk_180 0 30 (dk_at dksX8_condition_2 1 rfl rfl)
theorem dX8_condition_51 : decode cX8_condition 51 = .ok (.iconst 1, 1) := dk_4 (dk_at dksX8_condition_2 4 rfl rfl)
theorem dX8_condition_52 : decode cX8_condition 52 = .ok (.iadd, 1) := dk_96 (dk_at dksX8_condition_2 5 rfl rfl)
theorem dX8_condition_53 : decode cX8_condition 53 = .ok (.putfield 30, 3) := dk_181 0 30 (dk_at dksX8_condition_2 6 rfl rfl)
theorem dX8_condition_56 : decode cX8_condition 56 = .ok (.aload_n 2, 1) := dk_44 (dk_at dksX8_condition_2 9 rfl rfl)
theorem dX8_condition_57 : decode cX8_condition 57 = .ok (.new 122, 3) := dk_187 0 122 (dk_at dksX8_condition_2 10 rfl rfl)
theorem dX8_condition_60 : decode cX8_condition 60 = .ok (.dup, 1) := dk_89 (dk_at dksX8_condition_2 13 rfl rfl)
theorem dX8_condition_61 : decode cX8_condition 61 = .ok (.aload_n 0, 1) := dk_42 (dk_at dksX8_condition_2 14 rfl rfl)
theorem dX8_condition_62 : decode cX8_condition 62 = .ok (.invokevirtual 130, 3) := dk_182 0 130 (dk_at dksX8_condition_2 15 rfl rfl)
theorem dX8_condition_65 : decode cX8_condition 65 = .ok (.iconst 1, 1) := dk_4 (dk_at dksX8_condition_2 18 rfl rfl)
theorem dX8_condition_66 : decode cX8_condition 66 = .ok (.invokespecial 124, 3) := dk_183 0 124 (dk_at dksX8_condition_2 19 rfl rfl)
theorem dX8_condition_69 : decode cX8_condition 69 = .ok (.putfield 127, 3) := dk_181 0 127 (dk_at dksX8_condition_3 0 rfl rfl)
theorem dX8_condition_72 : decode cX8_condition 72 = .ok (.aload_n 2, 1) := dk_44 (dk_at dksX8_condition_3 3 rfl rfl)
theorem dX8_condition_73 : decode cX8_condition 73 = .ok (.getfield 127, 3) := dk_180 0 127 (dk_at dksX8_condition_3 4 rfl rfl)
theorem dX8_condition_76 : decode cX8_condition 76 = .ok (.astore_n 2, 1) := dk_77 (dk_at dksX8_condition_3 7 rfl rfl)
theorem dX8_condition_77 : decode cX8_condition 77 = .ok (.goto (-47), 3) := dk_167 255 209 (dk_at dksX8_condition_3 8 rfl rfl)
theorem dX8_condition_80 : decode cX8_condition 80 = .ok (.aload_n 0, 1) := dk_42 (dk_at dksX8_condition_3 11 rfl rfl)
theorem dX8_condition_81 : decode cX8_condition 81 = .ok (.invokevirtual 47, 3) := dk_182 0 47 (dk_at dksX8_condition_3 12 rfl rfl)
theorem dX8_condition_84 : decode cX8_condition 84 = .ok (.ifCond .eq 9, 3) := dk_153 0 9 (dk_at dksX8_condition_3 15 rfl rfl)
theorem dX8_condition_87 : decode cX8_condition 87 = .ok (.aload_n 0, 1) := dk_42 (dk_at dksX8_condition_3 18 rfl rfl)
theorem dX8_condition_88 : decode cX8_condition 88 = .ok (.bipush 41, 2) := dk_16 41 (dk_at dksX8_condition_3 19 rfl rfl)
theorem dX8_condition_90 : decode cX8_condition 90 = .ok (.invokevirtual 68, 3) := dk_182 0 68 (dk_at dksX8_condition_3 21 rfl rfl)
theorem dX8_condition_93 : decode cX8_condition 93 = .ok (.aload_n 0, 1) := dk_42 (dk_at dksX8_condition_4 0 rfl rfl)
theorem dX8_condition_94 : decode cX8_condition 94 = .ok (.dup, 1) := dk_89 (dk_at dksX8_condition_4 1 rfl rfl)
theorem dX8_condition_95 : decode cX8_condition 95 = .ok (.getfield 58, 3) := dk_180 0 58 (dk_at dksX8_condition_4 2 rfl rfl)
theorem dX8_condition_98 : decode cX8_condition 98 = .ok (.iconst 1, 1) := dk_4 (dk_at dksX8_condition_4 5 rfl rfl)
theorem dX8_condition_99 : decode cX8_condition 99 = .ok (.isub, 1) := dk_100 (dk_at dksX8_condition_4 6 rfl rfl)
theorem dX8_condition_100 : decode cX8_condition 100 = .ok (.putfield 58, 3) := dk_181 0 58 (dk_at dksX8_condition_4 7 rfl rfl)
theorem dX8_condition_103 : decode cX8_condition 103 = .ok (.aload_n 1, 1) := dk_43 (dk_at dksX8_condition_4 10 rfl rfl)
theorem dX8_condition_104 : decode cX8_condition 104 = .ok (.areturn, 1) := dk_176 (dk_at dksX8_condition_4 11 rfl rfl)
abbrev cX8_pieces : ByteArray := prog_13_method_13_code
def yX8_pieces : MethodName := ⟨RX8, "pieces", "()LLandingTree$Condition;"⟩
def dkwX8_pieces_2 : List UInt8 := [182, 0, 105, 3, 183, 0, 124, 181, 0, 127, 44, 180, 0, 127, 77, 167, 255, 209, 43, 176]
abbrev dktX8_pieces_2 : List UInt8 := dkwX8_pieces_2 ++ []
def dkwX8_pieces_1 : List UInt8 := [182, 0, 43, 16, 38, 160, 0, 37, 42, 89, 180, 0, 30, 4, 96, 181, 0, 30, 44, 187, 0, 122, 89, 42]
abbrev dktX8_pieces_1 : List UInt8 := dkwX8_pieces_1 ++ dktX8_pieces_2
def dkwX8_pieces_0 : List UInt8 := [187, 0, 122, 89, 42, 182, 0, 105, 3, 183, 0, 124, 76, 43, 77, 42, 182, 0, 47, 153, 0, 46, 42]
abbrev dktX8_pieces_0 : List UInt8 := dkwX8_pieces_0 ++ dktX8_pieces_1
theorem dksX8_pieces_0 : cX8_pieces.data.toList.drop 0 = dktX8_pieces_0 := by decide +kernel
theorem dksX8_pieces_1 : cX8_pieces.data.toList.drop 23 = dktX8_pieces_1 := dk_seg dksX8_pieces_0 23 rfl rfl
theorem dksX8_pieces_2 : cX8_pieces.data.toList.drop 47 = dktX8_pieces_2 := dk_seg dksX8_pieces_1 24 rfl rfl
theorem dX8_pieces_0 : decode cX8_pieces 0 = .ok (.new 122, 3) := dk_187 0 122 (dk_at dksX8_pieces_0 0 rfl rfl)
theorem dX8_pieces_3 : decode cX8_pieces 3 = .ok (.dup, 1) := dk_89 (dk_at dksX8_pieces_0 3 rfl rfl)
theorem dX8_pieces_4 : decode cX8_pieces 4 = .ok (.aload_n 0, 1) := dk_42 (dk_at dksX8_pieces_0 4 rfl rfl)
theorem dX8_pieces_5 : decode cX8_pieces 5 = .ok (.invokevirtual 105, 3) := dk_182 0 105 (dk_at dksX8_pieces_0 5 rfl rfl)
theorem dX8_pieces_8 : decode cX8_pieces 8 = .ok (.iconst 0, 1) := dk_3 (dk_at dksX8_pieces_0 8 rfl rfl)
theorem dX8_pieces_9 : decode cX8_pieces 9 = .ok (.invokespecial 124, 3) := dk_183 0 124 (dk_at dksX8_pieces_0 9 rfl rfl)
theorem dX8_pieces_12 : decode cX8_pieces 12 = .ok (.astore_n 1, 1) := dk_76 (dk_at dksX8_pieces_0 12 rfl rfl)
theorem dX8_pieces_13 : decode cX8_pieces 13 = .ok (.aload_n 1, 1) := dk_43 (dk_at dksX8_pieces_0 13 rfl rfl)
theorem dX8_pieces_14 : decode cX8_pieces 14 = .ok (.astore_n 2, 1) := dk_77 (dk_at dksX8_pieces_0 14 rfl rfl)
theorem dX8_pieces_15 : decode cX8_pieces 15 = .ok (.aload_n 0, 1) := dk_42 (dk_at dksX8_pieces_0 15 rfl rfl)
theorem dX8_pieces_16 : decode cX8_pieces 16 = .ok (.invokevirtual 47, 3) := dk_182 0 47 (dk_at dksX8_pieces_0 16 rfl rfl)
theorem dX8_pieces_19 : decode cX8_pieces 19 = .ok (.ifCond .eq 46, 3) := dk_153 0 46 (dk_at dksX8_pieces_0 19 rfl rfl)
theorem dX8_pieces_22 : decode cX8_pieces 22 = .ok (.aload_n 0, 1) := dk_42 (dk_at dksX8_pieces_0 22 rfl rfl)
theorem dX8_pieces_23 : decode cX8_pieces 23 = .ok (.invokevirtual 43, 3) := dk_182 0 43 (dk_at dksX8_pieces_1 0 rfl rfl)
theorem dX8_pieces_26 : decode cX8_pieces 26 = .ok (.bipush 38, 2) := dk_16 38 (dk_at dksX8_pieces_1 3 rfl rfl)
theorem dX8_pieces_28 : decode cX8_pieces 28 = .ok (.if_icmp .ne 37, 3) := dk_160 0 37 (dk_at dksX8_pieces_1 5 rfl rfl)
theorem dX8_pieces_31 : decode cX8_pieces 31 = .ok (.aload_n 0, 1) := dk_42 (dk_at dksX8_pieces_1 8 rfl rfl)
theorem dX8_pieces_32 : decode cX8_pieces 32 = .ok (.dup, 1) := dk_89 (dk_at dksX8_pieces_1 9 rfl rfl)
theorem dX8_pieces_33 : decode cX8_pieces 33 = .ok (.getfield 30, 3) := dk_180 0 30 (dk_at dksX8_pieces_1 10 rfl rfl)
theorem dX8_pieces_36 : decode cX8_pieces 36 = .ok (.iconst 1, 1) := dk_4 (dk_at dksX8_pieces_1 13 rfl rfl)
theorem dX8_pieces_37 : decode cX8_pieces 37 = .ok (.iadd, 1) := dk_96 (dk_at dksX8_pieces_1 14 rfl rfl)
theorem dX8_pieces_38 : decode cX8_pieces 38 = .ok (.putfield 30, 3) := dk_181 0 30 (dk_at dksX8_pieces_1 15 rfl rfl)
theorem dX8_pieces_41 : decode cX8_pieces 41 = .ok (.aload_n 2, 1) := dk_44 (dk_at dksX8_pieces_1 18 rfl rfl)
theorem dX8_pieces_42 : decode cX8_pieces 42 = .ok (.new 122, 3) := dk_187 0 122 (dk_at dksX8_pieces_1 19 rfl rfl)
theorem dX8_pieces_45 : decode cX8_pieces 45 = .ok (.dup, 1) := dk_89 (dk_at dksX8_pieces_1 22 rfl rfl)
theorem dX8_pieces_46 : decode cX8_pieces 46 = .ok (.aload_n 0, 1) := dk_42 (dk_at dksX8_pieces_1 23 rfl rfl)
theorem dX8_pieces_47 : decode cX8_pieces 47 = .ok (.invokevirtual 105, 3) := dk_182 0 105 (dk_at dksX8_pieces_2 0 rfl rfl)
theorem dX8_pieces_50 : decode cX8_pieces 50 = .ok (.iconst 0, 1) := dk_3 (dk_at dksX8_pieces_2 3 rfl rfl)
theorem dX8_pieces_51 : decode cX8_pieces 51 = .ok (.invokespecial 124, 3) := dk_183 0 124 (dk_at dksX8_pieces_2 4 rfl rfl)
theorem dX8_pieces_54 : decode cX8_pieces 54 = .ok (.putfield 127, 3) := dk_181 0 127 (dk_at dksX8_pieces_2 7 rfl rfl)
theorem dX8_pieces_57 : decode cX8_pieces 57 = .ok (.aload_n 2, 1) := dk_44 (dk_at dksX8_pieces_2 10 rfl rfl)
theorem dX8_pieces_58 : decode cX8_pieces 58 = .ok (.getfield 127, 3) := dk_180 0 127 (dk_at dksX8_pieces_2 11 rfl rfl)
theorem dX8_pieces_61 : decode cX8_pieces 61 = .ok (.astore_n 2, 1) := dk_77 (dk_at dksX8_pieces_2 14 rfl rfl)
theorem dX8_pieces_62 : decode cX8_pieces 62 = .ok (.goto (-47), 3) := dk_167 255 209 (dk_at dksX8_pieces_2 15 rfl rfl)
theorem dX8_pieces_65 : decode cX8_pieces 65 = .ok (.aload_n 1, 1) := dk_43 (dk_at dksX8_pieces_2 18 rfl rfl)
theorem dX8_pieces_66 : decode cX8_pieces 66 = .ok (.areturn, 1) := dk_176 (dk_at dksX8_pieces_2 19 rfl rfl)
abbrev cX8_piece : ByteArray := prog_13_method_12_code
def yX8_piece : MethodName := ⟨RX8, "piece", "()LLandingTree$Condition;"⟩
def dkwX8_piece_5 : List UInt8 := [182, 0, 47, 153, 0, 10, 42, 182, 0, 64, 167, 0, 4, 1, 183, 0, 119, 176]
abbrev dktX8_piece_5 : List UInt8 := dkwX8_piece_5 ++ []
def dkwX8_piece_4 : List UInt8 := [180, 0, 30, 182, 0, 54, 42, 89, 180, 0, 30, 4, 96, 181, 0, 30, 187, 0, 117, 89, 44, 29, 42]
abbrev dktX8_piece_4 : List UInt8 := dkwX8_piece_4 ++ dktX8_piece_5
def dkwX8_piece_3 : List UInt8 := [62, 29, 16, 60, 159, 0, 24, 29, 16, 62, 159, 0, 18, 29, 16, 61, 159, 0, 12, 42, 4, 42]
abbrev dktX8_piece_3 : List UInt8 := dkwX8_piece_3 ++ dktX8_piece_4
def dkwX8_piece_2 : List UInt8 := [183, 0, 111, 176, 27, 16, 40, 160, 0, 8, 42, 182, 0, 114, 176, 42, 182, 0, 64, 77, 42, 182, 0, 43]
abbrev dktX8_piece_2 : List UInt8 := dkwX8_piece_2 ++ dktX8_piece_3
def dkwX8_piece_1 : List UInt8 := [182, 0, 105, 167, 0, 4, 1, 77, 42, 89, 180, 0, 58, 4, 100, 181, 0, 58, 187, 0, 109, 89, 44]
abbrev dktX8_piece_1 : List UInt8 := dkwX8_piece_1 ++ dktX8_piece_2
def dkwX8_piece_0 : List UInt8 := [42, 182, 0, 43, 60, 27, 16, 33, 160, 0, 42, 42, 182, 0, 61, 42, 182, 0, 47, 153, 0, 10, 42]
abbrev dktX8_piece_0 : List UInt8 := dkwX8_piece_0 ++ dktX8_piece_1
theorem dksX8_piece_0 : cX8_piece.data.toList.drop 0 = dktX8_piece_0 := by decide +kernel
theorem dksX8_piece_1 : cX8_piece.data.toList.drop 23 = dktX8_piece_1 := dk_seg dksX8_piece_0 23 rfl rfl
theorem dksX8_piece_2 : cX8_piece.data.toList.drop 46 = dktX8_piece_2 := dk_seg dksX8_piece_1 23 rfl rfl
theorem dksX8_piece_3 : cX8_piece.data.toList.drop 70 = dktX8_piece_3 := dk_seg dksX8_piece_2 24 rfl rfl
theorem dksX8_piece_4 : cX8_piece.data.toList.drop 92 = dktX8_piece_4 := dk_seg dksX8_piece_3 22 rfl rfl
theorem dksX8_piece_5 : cX8_piece.data.toList.drop 115 = dktX8_piece_5 := dk_seg dksX8_piece_4 23 rfl rfl
theorem dX8_piece_0 : decode cX8_piece 0 = .ok (.aload_n 0, 1) := dk_42 (dk_at dksX8_piece_0 0 rfl rfl)
theorem dX8_piece_1 : decode cX8_piece 1 = .ok (.invokevirtual 43, 3) := dk_182 0 43 (dk_at dksX8_piece_0 1 rfl rfl)
theorem dX8_piece_4 : decode cX8_piece 4 = .ok (.istore_n 1, 1) := dk_60 (dk_at dksX8_piece_0 4 rfl rfl)
theorem dX8_piece_5 : decode cX8_piece 5 = .ok (.iload_n 1, 1) := dk_27 (dk_at dksX8_piece_0 5 rfl rfl)
theorem dX8_piece_6 : decode cX8_piece 6 = .ok (.bipush 33, 2) := dk_16 33 (dk_at dksX8_piece_0 6 rfl rfl)
theorem dX8_piece_8 : decode cX8_piece 8 = .ok (.if_icmp .ne 42, 3) := dk_160 0 42 (dk_at dksX8_piece_0 8 rfl rfl)
theorem dX8_piece_11 : decode cX8_piece 11 = .ok (.aload_n 0, 1) := dk_42 (dk_at dksX8_piece_0 11 rfl rfl)
theorem dX8_piece_12 : decode cX8_piece 12 = .ok (.invokevirtual 61, 3) := dk_182 0 61 (dk_at dksX8_piece_0 12 rfl rfl)
theorem dX8_piece_15 : decode cX8_piece 15 = .ok (.aload_n 0, 1) := dk_42 (dk_at dksX8_piece_0 15 rfl rfl)
theorem dX8_piece_16 : decode cX8_piece 16 = .ok (.invokevirtual 47, 3) := dk_182 0 47 (dk_at dksX8_piece_0 16 rfl rfl)
theorem dX8_piece_19 : decode cX8_piece 19 = .ok (.ifCond .eq 10, 3) := dk_153 0 10 (dk_at dksX8_piece_0 19 rfl rfl)
theorem dX8_piece_22 : decode cX8_piece 22 = .ok (.aload_n 0, 1) := dk_42 (dk_at dksX8_piece_0 22 rfl rfl)
theorem dX8_piece_23 : decode cX8_piece 23 = .ok (.invokevirtual 105, 3) := dk_182 0 105 (dk_at dksX8_piece_1 0 rfl rfl)
theorem dX8_piece_26 : decode cX8_piece 26 = .ok (.goto 4, 3) := dk_167 0 4 (dk_at dksX8_piece_1 3 rfl rfl)
theorem dX8_piece_29 : decode cX8_piece 29 = .ok (.aconst_null, 1) := dk_1 (dk_at dksX8_piece_1 6 rfl rfl)
theorem dX8_piece_30 : decode cX8_piece 30 = .ok (.astore_n 2, 1) := dk_77 (dk_at dksX8_piece_1 7 rfl rfl)
theorem dX8_piece_31 : decode cX8_piece 31 = .ok (.aload_n 0, 1) := dk_42 (dk_at dksX8_piece_1 8 rfl rfl)
theorem dX8_piece_32 : decode cX8_piece 32 = .ok (.dup, 1) := dk_89 (dk_at dksX8_piece_1 9 rfl rfl)
theorem dX8_piece_33 : decode cX8_piece 33 = .ok (.getfield 58, 3) := dk_180 0 58 (dk_at dksX8_piece_1 10 rfl rfl)
theorem dX8_piece_36 : decode cX8_piece 36 = .ok (.iconst 1, 1) := dk_4 (dk_at dksX8_piece_1 13 rfl rfl)
theorem dX8_piece_37 : decode cX8_piece 37 = .ok (.isub, 1) := dk_100 (dk_at dksX8_piece_1 14 rfl rfl)
theorem dX8_piece_38 : decode cX8_piece 38 = .ok (.putfield 58, 3) := dk_181 0 58 (dk_at dksX8_piece_1 15 rfl rfl)
theorem dX8_piece_41 : decode cX8_piece 41 = .ok (.new 109, 3) := dk_187 0 109 (dk_at dksX8_piece_1 18 rfl rfl)
theorem dX8_piece_44 : decode cX8_piece 44 = .ok (.dup, 1) := dk_89 (dk_at dksX8_piece_1 21 rfl rfl)
theorem dX8_piece_45 : decode cX8_piece 45 = .ok (.aload_n 2, 1) := dk_44 (dk_at dksX8_piece_1 22 rfl rfl)
theorem dX8_piece_46 : decode cX8_piece 46 = .ok (.invokespecial 111, 3) := dk_183 0 111 (dk_at dksX8_piece_2 0 rfl rfl)
theorem dX8_piece_49 : decode cX8_piece 49 = .ok (.areturn, 1) := dk_176 (dk_at dksX8_piece_2 3 rfl rfl)
theorem dX8_piece_50 : decode cX8_piece 50 = .ok (.iload_n 1, 1) := dk_27 (dk_at dksX8_piece_2 4 rfl rfl)
theorem dX8_piece_51 : decode cX8_piece 51 = .ok (.bipush 40, 2) := dk_16 40 (dk_at dksX8_piece_2 5 rfl rfl)
theorem dX8_piece_53 : decode cX8_piece 53 = .ok (.if_icmp .ne 8, 3) := dk_160 0 8 (dk_at dksX8_piece_2 7 rfl rfl)
theorem dX8_piece_56 : decode cX8_piece 56 = .ok (.aload_n 0, 1) := dk_42 (dk_at dksX8_piece_2 10 rfl rfl)
theorem dX8_piece_57 : decode cX8_piece 57 = .ok (.invokevirtual 114, 3) := dk_182 0 114 (dk_at dksX8_piece_2 11 rfl rfl)
theorem dX8_piece_60 : decode cX8_piece 60 = .ok (.areturn, 1) := dk_176 (dk_at dksX8_piece_2 14 rfl rfl)
theorem dX8_piece_61 : decode cX8_piece 61 = .ok (.aload_n 0, 1) := dk_42 (dk_at dksX8_piece_2 15 rfl rfl)
theorem dX8_piece_62 : decode cX8_piece 62 = .ok (.invokevirtual 64, 3) := dk_182 0 64 (dk_at dksX8_piece_2 16 rfl rfl)
theorem dX8_piece_65 : decode cX8_piece 65 = .ok (.astore_n 2, 1) := dk_77 (dk_at dksX8_piece_2 19 rfl rfl)
theorem dX8_piece_66 : decode cX8_piece 66 = .ok (.aload_n 0, 1) := dk_42 (dk_at dksX8_piece_2 20 rfl rfl)
theorem dX8_piece_67 : decode cX8_piece 67 = .ok (.invokevirtual 43, 3) := dk_182 0 43 (dk_at dksX8_piece_2 21 rfl rfl)
theorem dX8_piece_70 : decode cX8_piece 70 = .ok (.istore_n 3, 1) := dk_62 (dk_at dksX8_piece_3 0 rfl rfl)
theorem dX8_piece_71 : decode cX8_piece 71 = .ok (.iload_n 3, 1) := dk_29 (dk_at dksX8_piece_3 1 rfl rfl)
theorem dX8_piece_72 : decode cX8_piece 72 = .ok (.bipush 60, 2) := dk_16 60 (dk_at dksX8_piece_3 2 rfl rfl)
theorem dX8_piece_74 : decode cX8_piece 74 = .ok (.if_icmp .eq 24, 3) := dk_159 0 24 (dk_at dksX8_piece_3 4 rfl rfl)
theorem dX8_piece_77 : decode cX8_piece 77 = .ok (.iload_n 3, 1) := dk_29 (dk_at dksX8_piece_3 7 rfl rfl)
theorem dX8_piece_78 : decode cX8_piece 78 = .ok (.bipush 62, 2) := dk_16 62 (dk_at dksX8_piece_3 8 rfl rfl)
theorem dX8_piece_80 : decode cX8_piece 80 = .ok (.if_icmp .eq 18, 3) := dk_159 0 18 (dk_at dksX8_piece_3 10 rfl rfl)
theorem dX8_piece_83 : decode cX8_piece 83 = .ok (.iload_n 3, 1) := dk_29 (dk_at dksX8_piece_3 13 rfl rfl)
theorem dX8_piece_84 : decode cX8_piece 84 = .ok (.bipush 61, 2) := dk_16 61 (dk_at dksX8_piece_3 14 rfl rfl)
theorem dX8_piece_86 : decode cX8_piece 86 = .ok (.if_icmp .eq 12, 3) := dk_159 0 12 (dk_at dksX8_piece_3 16 rfl rfl)
theorem dX8_piece_89 : decode cX8_piece 89 = .ok (.aload_n 0, 1) := dk_42 (dk_at dksX8_piece_3 19 rfl rfl)
theorem dX8_piece_90 : decode cX8_piece 90 = .ok (.iconst 1, 1) := dk_4 (dk_at dksX8_piece_3 20 rfl rfl)
theorem dX8_piece_91 : decode cX8_piece 91 = .ok (.aload_n 0, 1) := dk_42 (dk_at dksX8_piece_3 21 rfl rfl)
theorem dX8_piece_92 : decode cX8_piece 92 = .ok (.getfield 30, 3) := dk_180 0 30 (dk_at dksX8_piece_4 0 rfl rfl)
theorem dX8_piece_95 : decode cX8_piece 95 = .ok (.invokevirtual 54, 3) := dk_182 0 54 (dk_at dksX8_piece_4 3 rfl rfl)
theorem dX8_piece_98 : decode cX8_piece 98 = .ok (.aload_n 0, 1) := dk_42 (dk_at dksX8_piece_4 6 rfl rfl)
theorem dX8_piece_99 : decode cX8_piece 99 = .ok (.dup, 1) := dk_89 (dk_at dksX8_piece_4 7 rfl rfl)
theorem dX8_piece_100 : decode cX8_piece 100 = .ok (.getfield 30, 3) := dk_180 0 30 (dk_at dksX8_piece_4 8 rfl rfl)
theorem dX8_piece_103 : decode cX8_piece 103 = .ok (.iconst 1, 1) := dk_4 (dk_at dksX8_piece_4 11 rfl rfl)
theorem dX8_piece_104 : decode cX8_piece 104 = .ok (.iadd, 1) := dk_96 (dk_at dksX8_piece_4 12 rfl rfl)
theorem dX8_piece_105 : decode cX8_piece 105 = .ok (.putfield 30, 3) := dk_181 0 30 (dk_at dksX8_piece_4 13 rfl rfl)
theorem dX8_piece_108 : decode cX8_piece 108 = .ok (.new 117, 3) := dk_187 0 117 (dk_at dksX8_piece_4 16 rfl rfl)
theorem dX8_piece_111 : decode cX8_piece 111 = .ok (.dup, 1) := dk_89 (dk_at dksX8_piece_4 19 rfl rfl)
theorem dX8_piece_112 : decode cX8_piece 112 = .ok (.aload_n 2, 1) := dk_44 (dk_at dksX8_piece_4 20 rfl rfl)
theorem dX8_piece_113 : decode cX8_piece 113 = .ok (.iload_n 3, 1) := dk_29 (dk_at dksX8_piece_4 21 rfl rfl)
theorem dX8_piece_114 : decode cX8_piece 114 = .ok (.aload_n 0, 1) := dk_42 (dk_at dksX8_piece_4 22 rfl rfl)
theorem dX8_piece_115 : decode cX8_piece 115 = .ok (.invokevirtual 47, 3) := dk_182 0 47 (dk_at dksX8_piece_5 0 rfl rfl)
theorem dX8_piece_118 : decode cX8_piece 118 = .ok (.ifCond .eq 10, 3) := dk_153 0 10 (dk_at dksX8_piece_5 3 rfl rfl)
theorem dX8_piece_121 : decode cX8_piece 121 = .ok (.aload_n 0, 1) := dk_42 (dk_at dksX8_piece_5 6 rfl rfl)
theorem dX8_piece_122 : decode cX8_piece 122 = .ok (.invokevirtual 64, 3) := dk_182 0 64 (dk_at dksX8_piece_5 7 rfl rfl)
theorem dX8_piece_125 : decode cX8_piece 125 = .ok (.goto 4, 3) := dk_167 0 4 (dk_at dksX8_piece_5 10 rfl rfl)
theorem dX8_piece_128 : decode cX8_piece 128 = .ok (.aconst_null, 1) := dk_1 (dk_at dksX8_piece_5 13 rfl rfl)
theorem dX8_piece_129 : decode cX8_piece 129 = .ok (.invokespecial 119, 3) := dk_183 0 119 (dk_at dksX8_piece_5 14 rfl rfl)
theorem dX8_piece_132 : decode cX8_piece 132 = .ok (.areturn, 1) := dk_176 (dk_at dksX8_piece_5 17 rfl rfl)
theorem q114 : (Jvm.Cond.initialized "LandingTree$Reader") ∈ lw_all := lw_g (lw_at lw_m1 10 rfl) rfl
theorem q326 : (Jvm.Cond.fieldLinkNest "LandingTree$Reader" (136 : Nat) "LandingTree$Text" "letters" "[I" "LandingTree") ∈ lw_tbl := lw_at lw_m1 222 rfl
theorem q328 : (Jvm.Cond.fieldLinkNest "LandingTree$Reader" (139 : Nat) "LandingTree$Text" "sums" "[LLandingTree$Sum;" "LandingTree") ∈ lw_tbl := lw_at lw_m1 224 rfl
theorem q330 : (Jvm.Cond.fieldLinkNest "LandingTree$Reader" (143 : Nat) "LandingTree$Text" "conditions" "[LLandingTree$Condition;" "LandingTree") ∈ lw_tbl := lw_at lw_m1 226 rfl
theorem q332 : (Jvm.Cond.fieldLinkNest "LandingTree$Reader" (133 : Nat) "LandingTree$Text" "many" "I" "LandingTree") ∈ lw_tbl := lw_at lw_m1 228 rfl
theorem q354 : (Jvm.Cond.fieldLinkNest "LandingTree$Reader" (33 : Nat) "LandingTree" "tape" "[B" "LandingTree") ∈ lw_tbl := lw_at lw_m2 10 rfl
theorem q505 : (Jvm.Cond.instantiable "LandingTree$Reader" (8 : Nat)) ∈ lw_all := lw_g (lw_at lw_m2 161 rfl) rfl
theorem q508 : (Jvm.Cond.instanceMethod ({ cls := "LandingTree$Reader", name := "<init>", desc := "(LLandingTree;ILjava/lang/String;)V" } : Jvm.MethodName)) ∈ lw_all := lw_g (lw_at lw_m2 164 rfl) rfl
theorem q509 : (Jvm.Cond.code ({ cls := "LandingTree$Reader", name := "<init>", desc := "(LLandingTree;ILjava/lang/String;)V" } : Jvm.MethodName) prog_13_method_1_code (4 : Nat) (Option.none : Option Jvm.ClassFile.FieldType)) ∈ lw_all := lw_g (lw_at lw_m2 165 rfl) rfl
theorem q510 : (Jvm.Cond.methodLink "LandingTree$Reader" (9 : Nat) ({ cls := "java/lang/Object", name := "<init>", desc := "()V" } : Jvm.MethodName)) ∈ lw_all := lw_g (lw_at lw_m2 166 rfl) rfl
theorem q511 : (Jvm.Cond.classLink "LandingTree$Reader" (15 : Nat) "LandingTree$Text") ∈ lw_all := lw_g (lw_at lw_m2 167 rfl) rfl
theorem q512 : (Jvm.Cond.methodLinkNest "LandingTree$Reader" (17 : Nat) ({ cls := "LandingTree$Text", name := "<init>", desc := "()V" } : Jvm.MethodName) "LandingTree") ∈ lw_tbl := lw_at lw_m2 168 rfl
theorem q513 : (Jvm.Cond.fieldLink "LandingTree$Reader" (22 : Nat) "LandingTree$Reader" "n" "I") ∈ lw_all := lw_g (lw_at lw_m2 169 rfl) rfl
theorem q514 : (Jvm.Cond.fieldLink "LandingTree$Reader" (26 : Nat) "LandingTree$Reader" "letters" "Ljava/lang/String;") ∈ lw_all := lw_g (lw_at lw_m2 170 rfl) rfl
theorem q515 : (Jvm.Cond.fieldLink "LandingTree$Reader" (18 : Nat) "LandingTree$Reader" "text" "LLandingTree$Text;") ∈ lw_all := lw_g (lw_at lw_m2 171 rfl) rfl
theorem q517 : (Jvm.Cond.fieldLink "LandingTree$Reader" (30 : Nat) "LandingTree$Reader" "at" "I") ∈ lw_all := lw_g (lw_at lw_m2 173 rfl) rfl
theorem q518 : (Jvm.Cond.fieldLink "LandingTree$Reader" (58 : Nat) "LandingTree$Reader" "open" "I") ∈ lw_all := lw_g (lw_at lw_m2 174 rfl) rfl
theorem q519 : (Jvm.Cond.fieldLink "LandingTree$Reader" (37 : Nat) "LandingTree$Reader" "fault" "I") ∈ lw_all := lw_g (lw_at lw_m2 175 rfl) rfl
theorem q520 : (Jvm.Cond.fieldLink "LandingTree$Reader" (40 : Nat) "LandingTree$Reader" "place" "I") ∈ lw_all := lw_g (lw_at lw_m2 176 rfl) rfl
theorem q521 : (Jvm.Cond.fieldLink "LandingTree$Reader" (3 : Nat) "LandingTree$Reader" "this$0" "LLandingTree;") ∈ lw_all := lw_g (lw_at lw_m2 177 rfl) rfl
theorem q522 : (Jvm.Cond.laysFinal "LandingTree$Reader" "LandingTree$Reader" "n" "I") ∈ lw_all := lw_g (lw_at lw_m2 178 rfl) rfl
theorem q523 : (Jvm.Cond.soleField "LandingTree$Reader" "n") ∈ lw_all := lw_g (lw_at lw_m2 179 rfl) rfl
theorem q524 : (Jvm.Cond.laysFinal "LandingTree$Reader" "LandingTree$Reader" "letters" "Ljava/lang/String;") ∈ lw_all := lw_g (lw_at lw_m2 180 rfl) rfl
theorem q525 : (Jvm.Cond.soleField "LandingTree$Reader" "letters") ∈ lw_all := lw_g (lw_at lw_m2 181 rfl) rfl
theorem q526 : (Jvm.Cond.laysFinal "LandingTree$Reader" "LandingTree$Reader" "text" "LLandingTree$Text;") ∈ lw_all := lw_g (lw_at lw_m2 182 rfl) rfl
theorem q527 : (Jvm.Cond.soleField "LandingTree$Reader" "text") ∈ lw_all := lw_g (lw_at lw_m2 183 rfl) rfl
theorem q528 : (Jvm.Cond.lays "LandingTree$Reader" "LandingTree$Reader" "at" "I") ∈ lw_all := lw_g (lw_at lw_m2 184 rfl) rfl
theorem q529 : (Jvm.Cond.soleField "LandingTree$Reader" "at") ∈ lw_all := lw_g (lw_at lw_m2 185 rfl) rfl
theorem q530 : (Jvm.Cond.lays "LandingTree$Reader" "LandingTree$Reader" "open" "I") ∈ lw_all := lw_g (lw_at lw_m2 186 rfl) rfl
theorem q531 : (Jvm.Cond.soleField "LandingTree$Reader" "open") ∈ lw_all := lw_g (lw_at lw_m2 187 rfl) rfl
theorem q532 : (Jvm.Cond.lays "LandingTree$Reader" "LandingTree$Reader" "fault" "I") ∈ lw_all := lw_g (lw_at lw_m2 188 rfl) rfl
theorem q533 : (Jvm.Cond.soleField "LandingTree$Reader" "fault") ∈ lw_all := lw_g (lw_at lw_m2 189 rfl) rfl
theorem q534 : (Jvm.Cond.lays "LandingTree$Reader" "LandingTree$Reader" "place" "I") ∈ lw_all := lw_g (lw_at lw_m2 190 rfl) rfl
theorem q535 : (Jvm.Cond.soleField "LandingTree$Reader" "place") ∈ lw_all := lw_g (lw_at lw_m2 191 rfl) rfl
theorem q536 : (Jvm.Cond.laysFinal "LandingTree$Reader" "LandingTree$Reader" "this$0" "LLandingTree;") ∈ lw_all := lw_g (lw_at lw_m2 192 rfl) rfl
theorem q537 : (Jvm.Cond.soleField "LandingTree$Reader" "this$0") ∈ lw_all := lw_g (lw_at lw_m2 193 rfl) rfl
theorem q538 : (Jvm.Cond.superclass "LandingTree$Reader" "java/lang/Object") ∈ lw_all := lw_g (lw_at lw_m2 194 rfl) rfl
theorem q540 : (Jvm.Cond.instanceMethod ({ cls := "LandingTree$Reader", name := "read", desc := "()I" } : Jvm.MethodName)) ∈ lw_all := lw_g (lw_at lw_m2 196 rfl) rfl
theorem q541 : (Jvm.Cond.selects "LandingTree$Reader" ({ cls := "LandingTree$Reader", name := "read", desc := "()I" } : Jvm.MethodName) ({ cls := "LandingTree$Reader", name := "read", desc := "()I" } : Jvm.MethodName)) ∈ lw_all := lw_g (lw_at lw_m2 197 rfl) rfl
theorem q542 : (Jvm.Cond.code ({ cls := "LandingTree$Reader", name := "read", desc := "()I" } : Jvm.MethodName) prog_13_method_16_code (2 : Nat) (Option.some Jvm.ClassFile.FieldType.int)) ∈ lw_all := lw_g (lw_at lw_m2 198 rfl) rfl
theorem q543 : (Jvm.Cond.methodLink "LandingTree$Reader" (47 : Nat) ({ cls := "LandingTree$Reader", name := "isGood", desc := "()Z" } : Jvm.MethodName)) ∈ lw_all := lw_g (lw_at lw_m2 199 rfl) rfl
theorem q544 : (Jvm.Cond.privateMethod ({ cls := "LandingTree$Reader", name := "isGood", desc := "()Z" } : Jvm.MethodName)) ∈ lw_tbl := lw_at lw_m2 200 rfl
theorem q545 : (Jvm.Cond.instanceMethod ({ cls := "LandingTree$Reader", name := "isGood", desc := "()Z" } : Jvm.MethodName)) ∈ lw_all := lw_g (lw_at lw_m2 201 rfl) rfl
theorem q546 : (Jvm.Cond.code ({ cls := "LandingTree$Reader", name := "isGood", desc := "()Z" } : Jvm.MethodName) prog_13_method_3_code (1 : Nat) (Option.some Jvm.ClassFile.FieldType.boolean)) ∈ lw_all := lw_g (lw_at lw_m2 202 rfl) rfl
theorem q547 : (Jvm.Cond.methodLink "LandingTree$Reader" (147 : Nat) ({ cls := "LandingTree$Reader", name := "clause", desc := "()V" } : Jvm.MethodName)) ∈ lw_all := lw_g (lw_at lw_m2 203 rfl) rfl
theorem q548 : (Jvm.Cond.privateMethod ({ cls := "LandingTree$Reader", name := "clause", desc := "()V" } : Jvm.MethodName)) ∈ lw_tbl := lw_at lw_m2 204 rfl
theorem q549 : (Jvm.Cond.instanceMethod ({ cls := "LandingTree$Reader", name := "clause", desc := "()V" } : Jvm.MethodName)) ∈ lw_all := lw_g (lw_at lw_m2 205 rfl) rfl
theorem q550 : (Jvm.Cond.code ({ cls := "LandingTree$Reader", name := "clause", desc := "()V" } : Jvm.MethodName) prog_13_method_15_code (4 : Nat) (Option.none : Option Jvm.ClassFile.FieldType)) ∈ lw_all := lw_g (lw_at lw_m2 206 rfl) rfl
theorem q551 : (Jvm.Cond.methodLink "LandingTree$Reader" (43 : Nat) ({ cls := "LandingTree$Reader", name := "here", desc := "()I" } : Jvm.MethodName)) ∈ lw_all := lw_g (lw_at lw_m2 207 rfl) rfl
theorem q552 : (Jvm.Cond.privateMethod ({ cls := "LandingTree$Reader", name := "here", desc := "()I" } : Jvm.MethodName)) ∈ lw_tbl := lw_at lw_m2 208 rfl
theorem q553 : (Jvm.Cond.instanceMethod ({ cls := "LandingTree$Reader", name := "here", desc := "()I" } : Jvm.MethodName)) ∈ lw_all := lw_g (lw_at lw_m2 209 rfl) rfl
theorem q554 : (Jvm.Cond.code ({ cls := "LandingTree$Reader", name := "here", desc := "()I" } : Jvm.MethodName) prog_13_method_2_code (1 : Nat) (Option.some Jvm.ClassFile.FieldType.int)) ∈ lw_all := lw_g (lw_at lw_m2 210 rfl) rfl
theorem q555 : (Jvm.Cond.methodLink "LandingTree$Reader" (81 : Nat) ({ cls := "java/lang/String", name := "indexOf", desc := "(I)I" } : Jvm.MethodName)) ∈ lw_all := lw_g (lw_at lw_m2 211 rfl) rfl
theorem q639 : (Jvm.Cond.methodLink "LandingTree$Reader" (54 : Nat) ({ cls := "LandingTree$Reader", name := "bad", desc := "(II)V" } : Jvm.MethodName)) ∈ lw_all := lw_g (lw_at lw_m3 55 rfl) rfl
theorem q640 : (Jvm.Cond.privateMethod ({ cls := "LandingTree$Reader", name := "bad", desc := "(II)V" } : Jvm.MethodName)) ∈ lw_tbl := lw_at lw_m3 56 rfl
theorem q641 : (Jvm.Cond.instanceMethod ({ cls := "LandingTree$Reader", name := "bad", desc := "(II)V" } : Jvm.MethodName)) ∈ lw_all := lw_g (lw_at lw_m3 57 rfl) rfl
theorem q642 : (Jvm.Cond.code ({ cls := "LandingTree$Reader", name := "bad", desc := "(II)V" } : Jvm.MethodName) prog_13_method_4_code (3 : Nat) (Option.none : Option Jvm.ClassFile.FieldType)) ∈ lw_all := lw_g (lw_at lw_m3 58 rfl) rfl
theorem q643 : (Jvm.Cond.methodLink "LandingTree$Reader" (64 : Nat) ({ cls := "LandingTree$Reader", name := "sum", desc := "()LLandingTree$Sum;" } : Jvm.MethodName)) ∈ lw_all := lw_g (lw_at lw_m3 59 rfl) rfl
theorem q644 : (Jvm.Cond.privateMethod ({ cls := "LandingTree$Reader", name := "sum", desc := "()LLandingTree$Sum;" } : Jvm.MethodName)) ∈ lw_tbl := lw_at lw_m3 60 rfl
theorem q645 : (Jvm.Cond.instanceMethod ({ cls := "LandingTree$Reader", name := "sum", desc := "()LLandingTree$Sum;" } : Jvm.MethodName)) ∈ lw_all := lw_g (lw_at lw_m3 61 rfl) rfl
theorem q646 : (Jvm.Cond.code ({ cls := "LandingTree$Reader", name := "sum", desc := "()LLandingTree$Sum;" } : Jvm.MethodName) prog_13_method_11_code (4 : Nat) (Option.some (Jvm.ClassFile.FieldType.object "LandingTree$Sum"))) ∈ lw_all := lw_g (lw_at lw_m3 62 rfl) rfl
theorem q647 : (Jvm.Cond.classLink "LandingTree$Reader" (90 : Nat) "LandingTree$Row") ∈ lw_all := lw_g (lw_at lw_m3 63 rfl) rfl
theorem q649 : (Jvm.Cond.methodLink "LandingTree$Reader" (102 : Nat) ({ cls := "LandingTree$Reader", name := "product", desc := "()LLandingTree$Sum;" } : Jvm.MethodName)) ∈ lw_all := lw_g (lw_at lw_m3 65 rfl) rfl
theorem q650 : (Jvm.Cond.privateMethod ({ cls := "LandingTree$Reader", name := "product", desc := "()LLandingTree$Sum;" } : Jvm.MethodName)) ∈ lw_tbl := lw_at lw_m3 66 rfl
theorem q651 : (Jvm.Cond.instanceMethod ({ cls := "LandingTree$Reader", name := "product", desc := "()LLandingTree$Sum;" } : Jvm.MethodName)) ∈ lw_all := lw_g (lw_at lw_m3 67 rfl) rfl
theorem q652 : (Jvm.Cond.code ({ cls := "LandingTree$Reader", name := "product", desc := "()LLandingTree$Sum;" } : Jvm.MethodName) prog_13_method_10_code (4 : Nat) (Option.some (Jvm.ClassFile.FieldType.object "LandingTree$Sum"))) ∈ lw_all := lw_g (lw_at lw_m3 68 rfl) rfl
theorem q653 : (Jvm.Cond.methodLink "LandingTree$Reader" (92 : Nat) ({ cls := "LandingTree$Reader", name := "factor", desc := "()LLandingTree$Sum;" } : Jvm.MethodName)) ∈ lw_all := lw_g (lw_at lw_m3 69 rfl) rfl
theorem q654 : (Jvm.Cond.privateMethod ({ cls := "LandingTree$Reader", name := "factor", desc := "()LLandingTree$Sum;" } : Jvm.MethodName)) ∈ lw_tbl := lw_at lw_m3 70 rfl
theorem q655 : (Jvm.Cond.instanceMethod ({ cls := "LandingTree$Reader", name := "factor", desc := "()LLandingTree$Sum;" } : Jvm.MethodName)) ∈ lw_all := lw_g (lw_at lw_m3 71 rfl) rfl
theorem q656 : (Jvm.Cond.code ({ cls := "LandingTree$Reader", name := "factor", desc := "()LLandingTree$Sum;" } : Jvm.MethodName) prog_13_method_9_code (3 : Nat) (Option.some (Jvm.ClassFile.FieldType.object "LandingTree$Sum"))) ∈ lw_all := lw_g (lw_at lw_m3 72 rfl) rfl
theorem q657 : (Jvm.Cond.methodLink "LandingTree$Reader" (61 : Nat) ({ cls := "LandingTree$Reader", name := "opens", desc := "()V" } : Jvm.MethodName)) ∈ lw_all := lw_g (lw_at lw_m3 73 rfl) rfl
theorem q658 : (Jvm.Cond.privateMethod ({ cls := "LandingTree$Reader", name := "opens", desc := "()V" } : Jvm.MethodName)) ∈ lw_tbl := lw_at lw_m3 74 rfl
theorem q659 : (Jvm.Cond.instanceMethod ({ cls := "LandingTree$Reader", name := "opens", desc := "()V" } : Jvm.MethodName)) ∈ lw_all := lw_g (lw_at lw_m3 75 rfl) rfl
theorem q660 : (Jvm.Cond.code ({ cls := "LandingTree$Reader", name := "opens", desc := "()V" } : Jvm.MethodName) prog_13_method_8_code (1 : Nat) (Option.none : Option Jvm.ClassFile.FieldType)) ∈ lw_all := lw_g (lw_at lw_m3 76 rfl) rfl
theorem q661 : (Jvm.Cond.methodLink "LandingTree$Reader" (68 : Nat) ({ cls := "LandingTree$Reader", name := "must", desc := "(I)V" } : Jvm.MethodName)) ∈ lw_all := lw_g (lw_at lw_m3 77 rfl) rfl
theorem q662 : (Jvm.Cond.privateMethod ({ cls := "LandingTree$Reader", name := "must", desc := "(I)V" } : Jvm.MethodName)) ∈ lw_tbl := lw_at lw_m3 78 rfl
theorem q663 : (Jvm.Cond.instanceMethod ({ cls := "LandingTree$Reader", name := "must", desc := "(I)V" } : Jvm.MethodName)) ∈ lw_all := lw_g (lw_at lw_m3 79 rfl) rfl
theorem q664 : (Jvm.Cond.code ({ cls := "LandingTree$Reader", name := "must", desc := "(I)V" } : Jvm.MethodName) prog_13_method_7_code (2 : Nat) (Option.none : Option Jvm.ClassFile.FieldType)) ∈ lw_all := lw_g (lw_at lw_m3 80 rfl) rfl
theorem q665 : (Jvm.Cond.methodLink "LandingTree$Reader" (51 : Nat) ({ cls := "LandingTree$Reader", name := "seesDigit", desc := "()Z" } : Jvm.MethodName)) ∈ lw_all := lw_g (lw_at lw_m3 81 rfl) rfl
theorem q666 : (Jvm.Cond.privateMethod ({ cls := "LandingTree$Reader", name := "seesDigit", desc := "()Z" } : Jvm.MethodName)) ∈ lw_tbl := lw_at lw_m3 82 rfl
theorem q667 : (Jvm.Cond.instanceMethod ({ cls := "LandingTree$Reader", name := "seesDigit", desc := "()Z" } : Jvm.MethodName)) ∈ lw_all := lw_g (lw_at lw_m3 83 rfl) rfl
theorem q668 : (Jvm.Cond.code ({ cls := "LandingTree$Reader", name := "seesDigit", desc := "()Z" } : Jvm.MethodName) prog_13_method_5_code (1 : Nat) (Option.some Jvm.ClassFile.FieldType.boolean)) ∈ lw_all := lw_g (lw_at lw_m3 84 rfl) rfl
theorem q669 : (Jvm.Cond.classLink "LandingTree$Reader" (72 : Nat) "LandingTree$Number") ∈ lw_all := lw_g (lw_at lw_m3 85 rfl) rfl
theorem q671 : (Jvm.Cond.methodLink "LandingTree$Reader" (74 : Nat) ({ cls := "LandingTree$Reader", name := "number", desc := "()I" } : Jvm.MethodName)) ∈ lw_all := lw_g (lw_at lw_m3 87 rfl) rfl
theorem q672 : (Jvm.Cond.privateMethod ({ cls := "LandingTree$Reader", name := "number", desc := "()I" } : Jvm.MethodName)) ∈ lw_tbl := lw_at lw_m3 88 rfl
theorem q673 : (Jvm.Cond.instanceMethod ({ cls := "LandingTree$Reader", name := "number", desc := "()I" } : Jvm.MethodName)) ∈ lw_all := lw_g (lw_at lw_m3 89 rfl) rfl
theorem q674 : (Jvm.Cond.code ({ cls := "LandingTree$Reader", name := "number", desc := "()I" } : Jvm.MethodName) prog_13_method_6_code (3 : Nat) (Option.some Jvm.ClassFile.FieldType.int)) ∈ lw_all := lw_g (lw_at lw_m3 90 rfl) rfl
theorem q675 : (Jvm.Cond.methodLink "LandingTree$Reader" (77 : Nat) ({ cls := "LandingTree$Number", name := "<init>", desc := "(I)V" } : Jvm.MethodName)) ∈ lw_all := lw_g (lw_at lw_m3 91 rfl) rfl
theorem q686 : (Jvm.Cond.stringRef "LandingTree$Reader" (79 : Nat) "dwlofsyzptnaq") ∈ lw_tbl := lw_at lw_m3 102 rfl
theorem q687 : (Jvm.Cond.classLink "LandingTree$Reader" (87 : Nat) "LandingTree$Letter") ∈ lw_all := lw_g (lw_at lw_m3 103 rfl) rfl
theorem q689 : (Jvm.Cond.methodLink "LandingTree$Reader" (89 : Nat) ({ cls := "LandingTree$Letter", name := "<init>", desc := "(I)V" } : Jvm.MethodName)) ∈ lw_all := lw_g (lw_at lw_m3 105 rfl) rfl
theorem q697 : (Jvm.Cond.methodLink "LandingTree$Reader" (95 : Nat) ({ cls := "LandingTree$Row", name := "<init>", desc := "(ILLandingTree$Sum;)V" } : Jvm.MethodName)) ∈ lw_all := lw_g (lw_at lw_m3 113 rfl) rfl
theorem q704 : (Jvm.Cond.fieldLinkNest "LandingTree$Reader" (98 : Nat) "LandingTree$Row" "next" "LLandingTree$Row;" "LandingTree") ∈ lw_tbl := lw_at lw_m3 120 rfl
theorem q712 : (Jvm.Cond.methodLink "LandingTree$Reader" (114 : Nat) ({ cls := "LandingTree$Reader", name := "condition", desc := "()LLandingTree$Condition;" } : Jvm.MethodName)) ∈ lw_all := lw_g (lw_at lw_m3 128 rfl) rfl
theorem q713 : (Jvm.Cond.privateMethod ({ cls := "LandingTree$Reader", name := "condition", desc := "()LLandingTree$Condition;" } : Jvm.MethodName)) ∈ lw_tbl := lw_at lw_m3 129 rfl
theorem q714 : (Jvm.Cond.instanceMethod ({ cls := "LandingTree$Reader", name := "condition", desc := "()LLandingTree$Condition;" } : Jvm.MethodName)) ∈ lw_all := lw_g (lw_at lw_m3 130 rfl) rfl
theorem q715 : (Jvm.Cond.code ({ cls := "LandingTree$Reader", name := "condition", desc := "()LLandingTree$Condition;" } : Jvm.MethodName) prog_13_method_14_code (3 : Nat) (Option.some (Jvm.ClassFile.FieldType.object "LandingTree$Condition"))) ∈ lw_all := lw_g (lw_at lw_m3 131 rfl) rfl
theorem q716 : (Jvm.Cond.classLink "LandingTree$Reader" (122 : Nat) "LandingTree$Some") ∈ lw_all := lw_g (lw_at lw_m3 132 rfl) rfl
theorem q718 : (Jvm.Cond.methodLink "LandingTree$Reader" (130 : Nat) ({ cls := "LandingTree$Reader", name := "pieces", desc := "()LLandingTree$Condition;" } : Jvm.MethodName)) ∈ lw_all := lw_g (lw_at lw_m3 134 rfl) rfl
theorem q719 : (Jvm.Cond.privateMethod ({ cls := "LandingTree$Reader", name := "pieces", desc := "()LLandingTree$Condition;" } : Jvm.MethodName)) ∈ lw_tbl := lw_at lw_m3 135 rfl
theorem q720 : (Jvm.Cond.instanceMethod ({ cls := "LandingTree$Reader", name := "pieces", desc := "()LLandingTree$Condition;" } : Jvm.MethodName)) ∈ lw_all := lw_g (lw_at lw_m3 136 rfl) rfl
theorem q721 : (Jvm.Cond.code ({ cls := "LandingTree$Reader", name := "pieces", desc := "()LLandingTree$Condition;" } : Jvm.MethodName) prog_13_method_13_code (3 : Nat) (Option.some (Jvm.ClassFile.FieldType.object "LandingTree$Condition"))) ∈ lw_all := lw_g (lw_at lw_m3 137 rfl) rfl
theorem q722 : (Jvm.Cond.methodLink "LandingTree$Reader" (105 : Nat) ({ cls := "LandingTree$Reader", name := "piece", desc := "()LLandingTree$Condition;" } : Jvm.MethodName)) ∈ lw_all := lw_g (lw_at lw_m3 138 rfl) rfl
theorem q723 : (Jvm.Cond.privateMethod ({ cls := "LandingTree$Reader", name := "piece", desc := "()LLandingTree$Condition;" } : Jvm.MethodName)) ∈ lw_tbl := lw_at lw_m3 139 rfl
theorem q724 : (Jvm.Cond.instanceMethod ({ cls := "LandingTree$Reader", name := "piece", desc := "()LLandingTree$Condition;" } : Jvm.MethodName)) ∈ lw_all := lw_g (lw_at lw_m3 140 rfl) rfl
theorem q725 : (Jvm.Cond.code ({ cls := "LandingTree$Reader", name := "piece", desc := "()LLandingTree$Condition;" } : Jvm.MethodName) prog_13_method_12_code (4 : Nat) (Option.some (Jvm.ClassFile.FieldType.object "LandingTree$Condition"))) ∈ lw_all := lw_g (lw_at lw_m3 141 rfl) rfl
theorem q726 : (Jvm.Cond.classLink "LandingTree$Reader" (109 : Nat) "LandingTree$Not") ∈ lw_all := lw_g (lw_at lw_m3 142 rfl) rfl
theorem q728 : (Jvm.Cond.methodLink "LandingTree$Reader" (111 : Nat) ({ cls := "LandingTree$Not", name := "<init>", desc := "(LLandingTree$Condition;)V" } : Jvm.MethodName)) ∈ lw_all := lw_g (lw_at lw_m3 144 rfl) rfl
theorem q739 : (Jvm.Cond.classLink "LandingTree$Reader" (117 : Nat) "LandingTree$Compared") ∈ lw_all := lw_g (lw_at lw_m3 155 rfl) rfl
theorem q741 : (Jvm.Cond.methodLink "LandingTree$Reader" (119 : Nat) ({ cls := "LandingTree$Compared", name := "<init>", desc := "(LLandingTree$Sum;ILLandingTree$Sum;)V" } : Jvm.MethodName)) ∈ lw_all := lw_g (lw_at lw_m3 157 rfl) rfl
theorem q755 : (Jvm.Cond.methodLink "LandingTree$Reader" (124 : Nat) ({ cls := "LandingTree$Some", name := "<init>", desc := "(LLandingTree$Condition;I)V" } : Jvm.MethodName)) ∈ lw_all := lw_g (lw_at lw_m3 171 rfl) rfl
theorem q762 : (Jvm.Cond.fieldLinkNest "LandingTree$Reader" (127 : Nat) "LandingTree$Some" "next" "LLandingTree$Some;" "LandingTree") ∈ lw_tbl := lw_at lw_m3 178 rfl
theorem in_X8 : ∀ w ∈ wsX80, w ∈ lw_all := lw_in wsX80 [522, 524, 526, 528, 530, 532, 534, 536] (by decide +kernel) (by decide +kernel)

/-! LandingTree$Sum -/
set_option maxRecDepth 100000
def RX9 : String := "LandingTree$Sum"
abbrev cX9_init : ByteArray := prog_16_method_1_code
def yX9_init : MethodName := ⟨RX9, "<init>", "()V"⟩
theorem dX9_init_0 : decode cX9_init 0 = .ok (.aload_n 0, 1) := by decide +kernel
theorem dX9_init_1 : decode cX9_init 1 = .ok (.invokespecial 1, 3) := by decide +kernel
theorem dX9_init_4 : decode cX9_init 4 = .ok (.return_, 1) := by decide +kernel
abbrev cX9_told : ByteArray := prog_16_method_3_code
def yX9_told : MethodName := ⟨RX9, "told", "(LLandingTree$Asked;)I"⟩
def dkwX9_told_0 : List UInt8 := [43, 3, 181, 0, 7, 42, 43, 182, 0, 13, 61, 43, 180, 0, 7, 153, 0, 7, 3, 167, 0, 4, 28, 172]
abbrev dktX9_told_0 : List UInt8 := dkwX9_told_0 ++ []
theorem dksX9_told_0 : cX9_told.data.toList.drop 0 = dktX9_told_0 := by decide +kernel
theorem dX9_told_0 : decode cX9_told 0 = .ok (.aload_n 1, 1) := dk_43 (dk_at dksX9_told_0 0 rfl rfl)
theorem dX9_told_1 : decode cX9_told 1 = .ok (.iconst 0, 1) := dk_3 (dk_at dksX9_told_0 1 rfl rfl)
theorem dX9_told_2 : decode cX9_told 2 = .ok (.putfield 7, 3) := dk_181 0 7 (dk_at dksX9_told_0 2 rfl rfl)
theorem dX9_told_5 : decode cX9_told 5 = .ok (.aload_n 0, 1) := dk_42 (dk_at dksX9_told_0 5 rfl rfl)
theorem dX9_told_6 : decode cX9_told 6 = .ok (.aload_n 1, 1) := dk_43 (dk_at dksX9_told_0 6 rfl rfl)
theorem dX9_told_7 : decode cX9_told 7 = .ok (.invokevirtual 13, 3) := dk_182 0 13 (dk_at dksX9_told_0 7 rfl rfl)
theorem dX9_told_10 : decode cX9_told 10 = .ok (.istore_n 2, 1) := dk_61 (dk_at dksX9_told_0 10 rfl rfl)
theorem dX9_told_11 : decode cX9_told 11 = .ok (.aload_n 1, 1) := dk_43 (dk_at dksX9_told_0 11 rfl rfl)
theorem dX9_told_12 : decode cX9_told 12 = .ok (.getfield 7, 3) := dk_180 0 7 (dk_at dksX9_told_0 12 rfl rfl)
theorem dX9_told_15 : decode cX9_told 15 = .ok (.ifCond .eq 7, 3) := dk_153 0 7 (dk_at dksX9_told_0 15 rfl rfl)
theorem dX9_told_18 : decode cX9_told 18 = .ok (.iconst 0, 1) := dk_3 (dk_at dksX9_told_0 18 rfl rfl)
theorem dX9_told_19 : decode cX9_told 19 = .ok (.goto 4, 3) := dk_167 0 4 (dk_at dksX9_told_0 19 rfl rfl)
theorem dX9_told_22 : decode cX9_told 22 = .ok (.iload_n 2, 1) := dk_28 (dk_at dksX9_told_0 22 rfl rfl)
theorem dX9_told_23 : decode cX9_told 23 = .ok (.ireturn, 1) := dk_172 (dk_at dksX9_told_0 23 rfl rfl)
theorem q120 : (Jvm.Cond.initialized "LandingTree$Sum") ∈ lw_all := lw_g (lw_at lw_m1 16 rfl) rfl
theorem q162 : (Jvm.Cond.fieldLinkNest "LandingTree$Sum" (7 : Nat) "LandingTree$Asked" "isRefused" "Z" "LandingTree") ∈ lw_tbl := lw_at lw_m1 58 rfl
theorem q679 : (Jvm.Cond.instanceMethod ({ cls := "LandingTree$Sum", name := "<init>", desc := "()V" } : Jvm.MethodName)) ∈ lw_all := lw_g (lw_at lw_m3 95 rfl) rfl
theorem q680 : (Jvm.Cond.code ({ cls := "LandingTree$Sum", name := "<init>", desc := "()V" } : Jvm.MethodName) prog_16_method_1_code (1 : Nat) (Option.none : Option Jvm.ClassFile.FieldType)) ∈ lw_all := lw_g (lw_at lw_m3 96 rfl) rfl
theorem q681 : (Jvm.Cond.methodLink "LandingTree$Sum" (1 : Nat) ({ cls := "java/lang/Object", name := "<init>", desc := "()V" } : Jvm.MethodName)) ∈ lw_all := lw_g (lw_at lw_m3 97 rfl) rfl
theorem q845 : (Jvm.Cond.declares ({ cls := "LandingTree$Sum", name := "worth", desc := "(LLandingTree$Asked;)I" } : Jvm.MethodName)) ∈ lw_tbl := lw_at lw_m4 21 rfl
theorem q846 : (Jvm.Cond.sameMethod "LandingTree$Sum" "LandingTree$Sum" "worth" "(LLandingTree$Asked;)I") ∈ lw_all := lw_g (lw_at lw_m4 22 rfl) rfl
theorem q875 : (Jvm.Cond.instanceMethod ({ cls := "LandingTree$Sum", name := "told", desc := "(LLandingTree$Asked;)I" } : Jvm.MethodName)) ∈ lw_all := lw_g (lw_at lw_m4 51 rfl) rfl
theorem q876 : (Jvm.Cond.sameMethod "LandingTree$Sum" "LandingTree$Sum" "told" "(LLandingTree$Asked;)I") ∈ lw_all := lw_g (lw_at lw_m4 52 rfl) rfl
theorem q880 : (Jvm.Cond.code ({ cls := "LandingTree$Sum", name := "told", desc := "(LLandingTree$Asked;)I" } : Jvm.MethodName) prog_16_method_3_code (3 : Nat) (Option.some Jvm.ClassFile.FieldType.int)) ∈ lw_all := lw_g (lw_at lw_m4 56 rfl) rfl
theorem q881 : (Jvm.Cond.methodLink "LandingTree$Sum" (13 : Nat) ({ cls := "LandingTree$Sum", name := "worth", desc := "(LLandingTree$Asked;)I" } : Jvm.MethodName)) ∈ lw_all := lw_g (lw_at lw_m4 57 rfl) rfl

/-! LandingTree$Row -/
set_option maxRecDepth 100000
def RX10 : String := "LandingTree$Row"
def TX10 : u_T := fun k => match k with
  | 0 => ("LandingTree$Row", "sign", "I", true)
  | 1 => ("LandingTree$Row", "part", "LLandingTree$Sum;", true)
  | _ => ("LandingTree$Row", "next", "LLandingTree$Row;", false)
def tyX10 : Nat → FieldType := fun k => match k with
  | 0 => .int
  | 1 => .object "LandingTree$Sum"
  | _ => .object "LandingTree$Row"
abbrev wsX100 : List Cond := u_ws RX10 TX10 3
theorem nmX10 : ∀ a, a < 3 → ∀ b, b < 3 → a ≠ b → (TX10 a).2.1 ≠ (TX10 b).2.1 := by decide +kernel
theorem tyX10_ok : ∀ k, k < 3 → parseFieldDescriptor (TX10 k).2.2.1 = some (tyX10 k) := by decide +kernel
abbrev cX10_init : ByteArray := prog_14_method_1_code
def yX10_init : MethodName := ⟨RX10, "<init>", "(ILLandingTree$Sum;)V"⟩
def dkwX10_init_0 : List UInt8 := [42, 183, 0, 1, 42, 27, 181, 0, 7, 42, 44, 181, 0, 13, 177]
abbrev dktX10_init_0 : List UInt8 := dkwX10_init_0 ++ []
theorem dksX10_init_0 : cX10_init.data.toList.drop 0 = dktX10_init_0 := by decide +kernel
theorem dX10_init_0 : decode cX10_init 0 = .ok (.aload_n 0, 1) := dk_42 (dk_at dksX10_init_0 0 rfl rfl)
theorem dX10_init_1 : decode cX10_init 1 = .ok (.invokespecial 1, 3) := dk_183 0 1 (dk_at dksX10_init_0 1 rfl rfl)
theorem dX10_init_4 : decode cX10_init 4 = .ok (.aload_n 0, 1) := dk_42 (dk_at dksX10_init_0 4 rfl rfl)
theorem dX10_init_5 : decode cX10_init 5 = .ok (.iload_n 1, 1) := dk_27 (dk_at dksX10_init_0 5 rfl rfl)
theorem dX10_init_6 : decode cX10_init 6 = .ok (.putfield 7, 3) := dk_181 0 7 (dk_at dksX10_init_0 6 rfl rfl)
theorem dX10_init_9 : decode cX10_init 9 = .ok (.aload_n 0, 1) := dk_42 (dk_at dksX10_init_0 9 rfl rfl)
theorem dX10_init_10 : decode cX10_init 10 = .ok (.aload_n 2, 1) := dk_44 (dk_at dksX10_init_0 10 rfl rfl)
theorem dX10_init_11 : decode cX10_init 11 = .ok (.putfield 13, 3) := dk_181 0 13 (dk_at dksX10_init_0 11 rfl rfl)
theorem dX10_init_14 : decode cX10_init 14 = .ok (.return_, 1) := dk_177 (dk_at dksX10_init_0 14 rfl rfl)
abbrev cX10_worth : ByteArray := prog_14_method_3_code
def yX10_worth : MethodName := ⟨RX10, "worth", "(LLandingTree$Asked;)I"⟩
def dkwX10_worth_1 : List UInt8 := [180, 0, 13, 43, 182, 0, 23, 43, 184, 0, 31, 61, 45, 180, 0, 27, 78, 167, 255, 229, 28, 172]
abbrev dktX10_worth_1 : List UInt8 := dkwX10_worth_1 ++ []
def dkwX10_worth_0 : List UInt8 := [42, 180, 0, 13, 43, 182, 0, 23, 61, 42, 180, 0, 27, 78, 45, 198, 0, 29, 45, 180, 0, 7, 28, 45]
abbrev dktX10_worth_0 : List UInt8 := dkwX10_worth_0 ++ dktX10_worth_1
theorem dksX10_worth_0 : cX10_worth.data.toList.drop 0 = dktX10_worth_0 := by decide +kernel
theorem dksX10_worth_1 : cX10_worth.data.toList.drop 24 = dktX10_worth_1 := dk_seg dksX10_worth_0 24 rfl rfl
theorem dX10_worth_0 : decode cX10_worth 0 = .ok (.aload_n 0, 1) := dk_42 (dk_at dksX10_worth_0 0 rfl rfl)
theorem dX10_worth_1 : decode cX10_worth 1 = .ok (.getfield 13, 3) := dk_180 0 13 (dk_at dksX10_worth_0 1 rfl rfl)
theorem dX10_worth_4 : decode cX10_worth 4 = .ok (.aload_n 1, 1) := dk_43 (dk_at dksX10_worth_0 4 rfl rfl)
theorem dX10_worth_5 : decode cX10_worth 5 = .ok (.invokevirtual 23, 3) := dk_182 0 23 (dk_at dksX10_worth_0 5 rfl rfl)
theorem dX10_worth_8 : decode cX10_worth 8 = .ok (.istore_n 2, 1) := dk_61 (dk_at dksX10_worth_0 8 rfl rfl)
theorem dX10_worth_9 : decode cX10_worth 9 = .ok (.aload_n 0, 1) := dk_42 (dk_at dksX10_worth_0 9 rfl rfl)
theorem dX10_worth_10 : decode cX10_worth 10 = .ok (.getfield 27, 3) := dk_180 0 27 (dk_at dksX10_worth_0 10 rfl rfl)
theorem dX10_worth_13 : decode cX10_worth 13 = .ok (.astore_n 3, 1) := dk_78 (dk_at dksX10_worth_0 13 rfl rfl)
theorem dX10_worth_14 : decode cX10_worth 14 = .ok (.aload_n 3, 1) := dk_45 (dk_at dksX10_worth_0 14 rfl rfl)
theorem dX10_worth_15 : decode cX10_worth 15 = .ok (.ifnull 29, 3) := dk_198 0 29 (dk_at dksX10_worth_0 15 rfl rfl)
theorem dX10_worth_18 : decode cX10_worth 18 = .ok (.aload_n 3, 1) := dk_45 (dk_at dksX10_worth_0 18 rfl rfl)
theorem dX10_worth_19 : decode cX10_worth 19 = .ok (.getfield 7, 3) := dk_180 0 7 (dk_at dksX10_worth_0 19 rfl rfl)
theorem dX10_worth_22 : decode cX10_worth 22 = .ok (.iload_n 2, 1) := dk_28 (dk_at dksX10_worth_0 22 rfl rfl)
theorem dX10_worth_23 : decode cX10_worth 23 = .ok (.aload_n 3, 1) := dk_45 (dk_at dksX10_worth_0 23 rfl rfl)
theorem dX10_worth_24 : decode cX10_worth 24 = .ok (.getfield 13, 3) := dk_180 0 13 (dk_at dksX10_worth_1 0 rfl rfl)
theorem dX10_worth_27 : decode cX10_worth 27 = .ok (.aload_n 1, 1) := dk_43 (dk_at dksX10_worth_1 3 rfl rfl)
theorem dX10_worth_28 : decode cX10_worth 28 = .ok (.invokevirtual 23, 3) := dk_182 0 23 (dk_at dksX10_worth_1 4 rfl rfl)
theorem dX10_worth_31 : decode cX10_worth 31 = .ok (.aload_n 1, 1) := dk_43 (dk_at dksX10_worth_1 7 rfl rfl)
theorem dX10_worth_32 : decode cX10_worth 32 = .ok (.invokestatic 31, 3) := dk_184 0 31 (dk_at dksX10_worth_1 8 rfl rfl)
theorem dX10_worth_35 : decode cX10_worth 35 = .ok (.istore_n 2, 1) := dk_61 (dk_at dksX10_worth_1 11 rfl rfl)
theorem dX10_worth_36 : decode cX10_worth 36 = .ok (.aload_n 3, 1) := dk_45 (dk_at dksX10_worth_1 12 rfl rfl)
theorem dX10_worth_37 : decode cX10_worth 37 = .ok (.getfield 27, 3) := dk_180 0 27 (dk_at dksX10_worth_1 13 rfl rfl)
theorem dX10_worth_40 : decode cX10_worth 40 = .ok (.astore_n 3, 1) := dk_78 (dk_at dksX10_worth_1 16 rfl rfl)
theorem dX10_worth_41 : decode cX10_worth 41 = .ok (.goto (-27), 3) := dk_167 255 229 (dk_at dksX10_worth_1 17 rfl rfl)
theorem dX10_worth_44 : decode cX10_worth 44 = .ok (.iload_n 2, 1) := dk_28 (dk_at dksX10_worth_1 20 rfl rfl)
theorem dX10_worth_45 : decode cX10_worth 45 = .ok (.ireturn, 1) := dk_172 (dk_at dksX10_worth_1 21 rfl rfl)
abbrev cX10_worked : ByteArray := prog_14_method_2_code
def yX10_worked : MethodName := ⟨RX10, "worked", "(IIILLandingTree$Asked;)I"⟩
def dkwX10_worked_3 : List UInt8 := [154, 0, 7, 3, 167, 0, 18, 26, 16, 47, 160, 0, 9, 27, 28, 108, 167, 0, 6, 27, 28, 112, 172]
abbrev dktX10_worked_3 : List UInt8 := dkwX10_worked_3 ++ []
def dkwX10_worked_2 : List UInt8 := [27, 28, 96, 172, 27, 28, 100, 172, 27, 28, 104, 172, 28, 154, 0, 8, 45, 4, 181, 0, 17, 28]
abbrev dktX10_worked_2 : List UInt8 := dkwX10_worked_2 ++ dktX10_worked_3
def dkwX10_worked_1 : List UInt8 := [170, 0, 0, 0, 0, 0, 43, 0, 0, 0, 42, 0, 0, 0, 45, 0, 0, 0, 39, 0, 0, 0, 31, 0, 0, 0, 43, 0, 0, 0, 35]
abbrev dktX10_worked_1 : List UInt8 := dkwX10_worked_1 ++ dktX10_worked_2
def dkwX10_worked_0 : List UInt8 := [26]
abbrev dktX10_worked_0 : List UInt8 := dkwX10_worked_0 ++ dktX10_worked_1
theorem dksX10_worked_0 : cX10_worked.data.toList.drop 0 = dktX10_worked_0 := by decide +kernel
theorem dksX10_worked_1 : cX10_worked.data.toList.drop 1 = dktX10_worked_1 := dk_seg dksX10_worked_0 1 rfl rfl
theorem dksX10_worked_2 : cX10_worked.data.toList.drop 32 = dktX10_worked_2 := dk_seg dksX10_worked_1 31 rfl rfl
theorem dksX10_worked_3 : cX10_worked.data.toList.drop 54 = dktX10_worked_3 := dk_seg dksX10_worked_2 22 rfl rfl
theorem dX10_worked_0 : decode cX10_worked 0 = .ok (.iload_n 0, 1) := dk_26 (dk_at dksX10_worked_0 0 rfl rfl)
theorem dX10_worked_1 : decode cX10_worked 1 = .ok (.tableswitch 43 42 45 #[39, 31, 43, 35], 31) := by decide +kernel
theorem dX10_worked_32 : decode cX10_worked 32 = .ok (.iload_n 1, 1) := dk_27 (dk_at dksX10_worked_2 0 rfl rfl)
theorem dX10_worked_33 : decode cX10_worked 33 = .ok (.iload_n 2, 1) := dk_28 (dk_at dksX10_worked_2 1 rfl rfl)
theorem dX10_worked_34 : decode cX10_worked 34 = .ok (.iadd, 1) := dk_96 (dk_at dksX10_worked_2 2 rfl rfl)
theorem dX10_worked_35 : decode cX10_worked 35 = .ok (.ireturn, 1) := dk_172 (dk_at dksX10_worked_2 3 rfl rfl)
theorem dX10_worked_36 : decode cX10_worked 36 = .ok (.iload_n 1, 1) := dk_27 (dk_at dksX10_worked_2 4 rfl rfl)
theorem dX10_worked_37 : decode cX10_worked 37 = .ok (.iload_n 2, 1) := dk_28 (dk_at dksX10_worked_2 5 rfl rfl)
theorem dX10_worked_38 : decode cX10_worked 38 = .ok (.isub, 1) := dk_100 (dk_at dksX10_worked_2 6 rfl rfl)
theorem dX10_worked_39 : decode cX10_worked 39 = .ok (.ireturn, 1) := dk_172 (dk_at dksX10_worked_2 7 rfl rfl)
theorem dX10_worked_40 : decode cX10_worked 40 = .ok (.iload_n 1, 1) := dk_27 (dk_at dksX10_worked_2 8 rfl rfl)
theorem dX10_worked_41 : decode cX10_worked 41 = .ok (.iload_n 2, 1) := dk_28 (dk_at dksX10_worked_2 9 rfl rfl)
theorem dX10_worked_42 : decode cX10_worked 42 = .ok (.imul, 1) := dk_104 (dk_at dksX10_worked_2 10 rfl rfl)
theorem dX10_worked_43 : decode cX10_worked 43 = .ok (.ireturn, 1) := dk_172 (dk_at dksX10_worked_2 11 rfl rfl)
theorem dX10_worked_44 : decode cX10_worked 44 = .ok (.iload_n 2, 1) := dk_28 (dk_at dksX10_worked_2 12 rfl rfl)
theorem dX10_worked_45 : decode cX10_worked 45 = .ok (.ifCond .ne 8, 3) := dk_154 0 8 (dk_at dksX10_worked_2 13 rfl rfl)
theorem dX10_worked_48 : decode cX10_worked 48 = .ok (.aload_n 3, 1) := dk_45 (dk_at dksX10_worked_2 16 rfl rfl)
theorem dX10_worked_49 : decode cX10_worked 49 = .ok (.iconst 1, 1) := dk_4 (dk_at dksX10_worked_2 17 rfl rfl)
theorem dX10_worked_50 : decode cX10_worked 50 = .ok (.putfield 17, 3) := dk_181 0 17 (dk_at dksX10_worked_2 18 rfl rfl)
theorem dX10_worked_53 : decode cX10_worked 53 = .ok (.iload_n 2, 1) := dk_28 (dk_at dksX10_worked_2 21 rfl rfl)
theorem dX10_worked_54 : decode cX10_worked 54 = .ok (.ifCond .ne 7, 3) := dk_154 0 7 (dk_at dksX10_worked_3 0 rfl rfl)
theorem dX10_worked_57 : decode cX10_worked 57 = .ok (.iconst 0, 1) := dk_3 (dk_at dksX10_worked_3 3 rfl rfl)
theorem dX10_worked_58 : decode cX10_worked 58 = .ok (.goto 18, 3) := dk_167 0 18 (dk_at dksX10_worked_3 4 rfl rfl)
theorem dX10_worked_61 : decode cX10_worked 61 = .ok (.iload_n 0, 1) := dk_26 (dk_at dksX10_worked_3 7 rfl rfl)
theorem dX10_worked_62 : decode cX10_worked 62 = .ok (.bipush 47, 2) := dk_16 47 (dk_at dksX10_worked_3 8 rfl rfl)
theorem dX10_worked_64 : decode cX10_worked 64 = .ok (.if_icmp .ne 9, 3) := dk_160 0 9 (dk_at dksX10_worked_3 10 rfl rfl)
theorem dX10_worked_67 : decode cX10_worked 67 = .ok (.iload_n 1, 1) := dk_27 (dk_at dksX10_worked_3 13 rfl rfl)
theorem dX10_worked_68 : decode cX10_worked 68 = .ok (.iload_n 2, 1) := dk_28 (dk_at dksX10_worked_3 14 rfl rfl)
theorem dX10_worked_69 : decode cX10_worked 69 = .ok (.idiv, 1) := dk_108 (dk_at dksX10_worked_3 15 rfl rfl)
theorem dX10_worked_70 : decode cX10_worked 70 = .ok (.goto 6, 3) := dk_167 0 6 (dk_at dksX10_worked_3 16 rfl rfl)
theorem dX10_worked_73 : decode cX10_worked 73 = .ok (.iload_n 1, 1) := dk_27 (dk_at dksX10_worked_3 19 rfl rfl)
theorem dX10_worked_74 : decode cX10_worked 74 = .ok (.iload_n 2, 1) := dk_28 (dk_at dksX10_worked_3 20 rfl rfl)
theorem dX10_worked_75 : decode cX10_worked 75 = .ok (.irem, 1) := dk_112 (dk_at dksX10_worked_3 21 rfl rfl)
theorem dX10_worked_76 : decode cX10_worked 76 = .ok (.ireturn, 1) := dk_172 (dk_at dksX10_worked_3 22 rfl rfl)
theorem q121 : (Jvm.Cond.initialized "LandingTree$Row") ∈ lw_all := lw_g (lw_at lw_m1 17 rfl) rfl
theorem q161 : (Jvm.Cond.fieldLinkNest "LandingTree$Row" (17 : Nat) "LandingTree$Asked" "isRefused" "Z" "LandingTree") ∈ lw_tbl := lw_at lw_m1 57 rfl
theorem q648 : (Jvm.Cond.instantiable "LandingTree$Row" (3 : Nat)) ∈ lw_all := lw_g (lw_at lw_m3 64 rfl) rfl
theorem q698 : (Jvm.Cond.instanceMethod ({ cls := "LandingTree$Row", name := "<init>", desc := "(ILLandingTree$Sum;)V" } : Jvm.MethodName)) ∈ lw_all := lw_g (lw_at lw_m3 114 rfl) rfl
theorem q699 : (Jvm.Cond.code ({ cls := "LandingTree$Row", name := "<init>", desc := "(ILLandingTree$Sum;)V" } : Jvm.MethodName) prog_14_method_1_code (3 : Nat) (Option.none : Option Jvm.ClassFile.FieldType)) ∈ lw_all := lw_g (lw_at lw_m3 115 rfl) rfl
theorem q700 : (Jvm.Cond.methodLinkNest "LandingTree$Row" (1 : Nat) ({ cls := "LandingTree$Sum", name := "<init>", desc := "()V" } : Jvm.MethodName) "LandingTree") ∈ lw_tbl := lw_at lw_m3 116 rfl
theorem q701 : (Jvm.Cond.fieldLink "LandingTree$Row" (7 : Nat) "LandingTree$Row" "sign" "I") ∈ lw_all := lw_g (lw_at lw_m3 117 rfl) rfl
theorem q702 : (Jvm.Cond.fieldLink "LandingTree$Row" (13 : Nat) "LandingTree$Row" "part" "LLandingTree$Sum;") ∈ lw_all := lw_g (lw_at lw_m3 118 rfl) rfl
theorem q703 : (Jvm.Cond.fieldLink "LandingTree$Row" (27 : Nat) "LandingTree$Row" "next" "LLandingTree$Row;") ∈ lw_all := lw_g (lw_at lw_m3 119 rfl) rfl
theorem q705 : (Jvm.Cond.laysFinal "LandingTree$Row" "LandingTree$Row" "sign" "I") ∈ lw_all := lw_g (lw_at lw_m3 121 rfl) rfl
theorem q706 : (Jvm.Cond.soleField "LandingTree$Row" "sign") ∈ lw_all := lw_g (lw_at lw_m3 122 rfl) rfl
theorem q707 : (Jvm.Cond.laysFinal "LandingTree$Row" "LandingTree$Row" "part" "LLandingTree$Sum;") ∈ lw_all := lw_g (lw_at lw_m3 123 rfl) rfl
theorem q708 : (Jvm.Cond.soleField "LandingTree$Row" "part") ∈ lw_all := lw_g (lw_at lw_m3 124 rfl) rfl
theorem q709 : (Jvm.Cond.lays "LandingTree$Row" "LandingTree$Row" "next" "LLandingTree$Row;") ∈ lw_all := lw_g (lw_at lw_m3 125 rfl) rfl
theorem q710 : (Jvm.Cond.soleField "LandingTree$Row" "next") ∈ lw_all := lw_g (lw_at lw_m3 126 rfl) rfl
theorem q711 : (Jvm.Cond.superclass "LandingTree$Row" "LandingTree$Sum") ∈ lw_all := lw_g (lw_at lw_m3 127 rfl) rfl
theorem q859 : (Jvm.Cond.selects "LandingTree$Row" ({ cls := "LandingTree$Sum", name := "worth", desc := "(LLandingTree$Asked;)I" } : Jvm.MethodName) ({ cls := "LandingTree$Row", name := "worth", desc := "(LLandingTree$Asked;)I" } : Jvm.MethodName)) ∈ lw_all := lw_g (lw_at lw_m4 35 rfl) rfl
theorem q860 : (Jvm.Cond.instanceMethod ({ cls := "LandingTree$Row", name := "worth", desc := "(LLandingTree$Asked;)I" } : Jvm.MethodName)) ∈ lw_all := lw_g (lw_at lw_m4 36 rfl) rfl
theorem q861 : (Jvm.Cond.code ({ cls := "LandingTree$Row", name := "worth", desc := "(LLandingTree$Asked;)I" } : Jvm.MethodName) prog_14_method_3_code (4 : Nat) (Option.some Jvm.ClassFile.FieldType.int)) ∈ lw_all := lw_g (lw_at lw_m4 37 rfl) rfl
theorem q862 : (Jvm.Cond.methodLink "LandingTree$Row" (23 : Nat) ({ cls := "LandingTree$Sum", name := "worth", desc := "(LLandingTree$Asked;)I" } : Jvm.MethodName)) ∈ lw_all := lw_g (lw_at lw_m4 38 rfl) rfl
theorem q863 : (Jvm.Cond.methodLink "LandingTree$Row" (31 : Nat) ({ cls := "LandingTree$Row", name := "worked", desc := "(IIILLandingTree$Asked;)I" } : Jvm.MethodName)) ∈ lw_all := lw_g (lw_at lw_m4 39 rfl) rfl
theorem q864 : (Jvm.Cond.static ({ cls := "LandingTree$Row", name := "worked", desc := "(IIILLandingTree$Asked;)I" } : Jvm.MethodName)) ∈ lw_all := lw_g (lw_at lw_m4 40 rfl) rfl
theorem q865 : (Jvm.Cond.code ({ cls := "LandingTree$Row", name := "worked", desc := "(IIILLandingTree$Asked;)I" } : Jvm.MethodName) prog_14_method_2_code (4 : Nat) (Option.some Jvm.ClassFile.FieldType.int)) ∈ lw_all := lw_g (lw_at lw_m4 41 rfl) rfl
theorem q879 : (Jvm.Cond.selects "LandingTree$Row" ({ cls := "LandingTree$Sum", name := "told", desc := "(LLandingTree$Asked;)I" } : Jvm.MethodName) ({ cls := "LandingTree$Sum", name := "told", desc := "(LLandingTree$Asked;)I" } : Jvm.MethodName)) ∈ lw_all := lw_g (lw_at lw_m4 55 rfl) rfl
theorem q1796 : (Jvm.Cond.castable "LandingTree$Row" "LandingTree$Sum") ∈ lw_tbl := lw_at lw_m8 12 rfl
theorem in_X10 : ∀ w ∈ wsX100, w ∈ lw_all := lw_in wsX100 [705, 707, 709] (by decide +kernel) (by decide +kernel)

/-! LandingTree$Number -/
set_option maxRecDepth 100000
def RX11 : String := "LandingTree$Number"
def TX11 : u_T := fun k => match k with
  | _ => ("LandingTree$Number", "n", "I", true)
def tyX11 : Nat → FieldType := fun k => match k with
  | _ => .int
abbrev wsX110 : List Cond := u_ws RX11 TX11 1
theorem nmX11 : ∀ a, a < 1 → ∀ b, b < 1 → a ≠ b → (TX11 a).2.1 ≠ (TX11 b).2.1 := by decide +kernel
theorem tyX11_ok : ∀ k, k < 1 → parseFieldDescriptor (TX11 k).2.2.1 = some (tyX11 k) := by decide +kernel
abbrev cX11_init : ByteArray := prog_10_method_1_code
def yX11_init : MethodName := ⟨RX11, "<init>", "(I)V"⟩
def dkwX11_init_0 : List UInt8 := [42, 183, 0, 1, 42, 27, 181, 0, 7, 177]
abbrev dktX11_init_0 : List UInt8 := dkwX11_init_0 ++ []
theorem dksX11_init_0 : cX11_init.data.toList.drop 0 = dktX11_init_0 := by decide +kernel
theorem dX11_init_0 : decode cX11_init 0 = .ok (.aload_n 0, 1) := dk_42 (dk_at dksX11_init_0 0 rfl rfl)
theorem dX11_init_1 : decode cX11_init 1 = .ok (.invokespecial 1, 3) := dk_183 0 1 (dk_at dksX11_init_0 1 rfl rfl)
theorem dX11_init_4 : decode cX11_init 4 = .ok (.aload_n 0, 1) := dk_42 (dk_at dksX11_init_0 4 rfl rfl)
theorem dX11_init_5 : decode cX11_init 5 = .ok (.iload_n 1, 1) := dk_27 (dk_at dksX11_init_0 5 rfl rfl)
theorem dX11_init_6 : decode cX11_init 6 = .ok (.putfield 7, 3) := dk_181 0 7 (dk_at dksX11_init_0 6 rfl rfl)
theorem dX11_init_9 : decode cX11_init 9 = .ok (.return_, 1) := dk_177 (dk_at dksX11_init_0 9 rfl rfl)
abbrev cX11_worth : ByteArray := prog_10_method_2_code
def yX11_worth : MethodName := ⟨RX11, "worth", "(LLandingTree$Asked;)I"⟩
theorem dX11_worth_0 : decode cX11_worth 0 = .ok (.aload_n 0, 1) := by decide +kernel
theorem dX11_worth_1 : decode cX11_worth 1 = .ok (.getfield 7, 3) := by decide +kernel
theorem dX11_worth_4 : decode cX11_worth 4 = .ok (.ireturn, 1) := by decide +kernel
theorem q122 : (Jvm.Cond.initialized "LandingTree$Number") ∈ lw_all := lw_g (lw_at lw_m1 18 rfl) rfl
theorem q670 : (Jvm.Cond.instantiable "LandingTree$Number" (1 : Nat)) ∈ lw_all := lw_g (lw_at lw_m3 86 rfl) rfl
theorem q676 : (Jvm.Cond.instanceMethod ({ cls := "LandingTree$Number", name := "<init>", desc := "(I)V" } : Jvm.MethodName)) ∈ lw_all := lw_g (lw_at lw_m3 92 rfl) rfl
theorem q677 : (Jvm.Cond.code ({ cls := "LandingTree$Number", name := "<init>", desc := "(I)V" } : Jvm.MethodName) prog_10_method_1_code (2 : Nat) (Option.none : Option Jvm.ClassFile.FieldType)) ∈ lw_all := lw_g (lw_at lw_m3 93 rfl) rfl
theorem q678 : (Jvm.Cond.methodLinkNest "LandingTree$Number" (1 : Nat) ({ cls := "LandingTree$Sum", name := "<init>", desc := "()V" } : Jvm.MethodName) "LandingTree") ∈ lw_tbl := lw_at lw_m3 94 rfl
theorem q682 : (Jvm.Cond.fieldLink "LandingTree$Number" (7 : Nat) "LandingTree$Number" "n" "I") ∈ lw_all := lw_g (lw_at lw_m3 98 rfl) rfl
theorem q683 : (Jvm.Cond.laysFinal "LandingTree$Number" "LandingTree$Number" "n" "I") ∈ lw_all := lw_g (lw_at lw_m3 99 rfl) rfl
theorem q684 : (Jvm.Cond.soleField "LandingTree$Number" "n") ∈ lw_all := lw_g (lw_at lw_m3 100 rfl) rfl
theorem q685 : (Jvm.Cond.superclass "LandingTree$Number" "LandingTree$Sum") ∈ lw_all := lw_g (lw_at lw_m3 101 rfl) rfl
theorem q856 : (Jvm.Cond.selects "LandingTree$Number" ({ cls := "LandingTree$Sum", name := "worth", desc := "(LLandingTree$Asked;)I" } : Jvm.MethodName) ({ cls := "LandingTree$Number", name := "worth", desc := "(LLandingTree$Asked;)I" } : Jvm.MethodName)) ∈ lw_all := lw_g (lw_at lw_m4 32 rfl) rfl
theorem q857 : (Jvm.Cond.instanceMethod ({ cls := "LandingTree$Number", name := "worth", desc := "(LLandingTree$Asked;)I" } : Jvm.MethodName)) ∈ lw_all := lw_g (lw_at lw_m4 33 rfl) rfl
theorem q858 : (Jvm.Cond.code ({ cls := "LandingTree$Number", name := "worth", desc := "(LLandingTree$Asked;)I" } : Jvm.MethodName) prog_10_method_2_code (2 : Nat) (Option.some Jvm.ClassFile.FieldType.int)) ∈ lw_all := lw_g (lw_at lw_m4 34 rfl) rfl
theorem q878 : (Jvm.Cond.selects "LandingTree$Number" ({ cls := "LandingTree$Sum", name := "told", desc := "(LLandingTree$Asked;)I" } : Jvm.MethodName) ({ cls := "LandingTree$Sum", name := "told", desc := "(LLandingTree$Asked;)I" } : Jvm.MethodName)) ∈ lw_all := lw_g (lw_at lw_m4 54 rfl) rfl
theorem q1797 : (Jvm.Cond.castable "LandingTree$Number" "LandingTree$Sum") ∈ lw_tbl := lw_at lw_m8 13 rfl
theorem in_X11 : ∀ w ∈ wsX110, w ∈ lw_all := lw_in wsX110 [683] (by decide +kernel) (by decide +kernel)

/-! LandingTree$Letter -/
set_option maxRecDepth 100000
def RX12 : String := "LandingTree$Letter"
def TX12 : u_T := fun k => match k with
  | _ => ("LandingTree$Letter", "letter", "I", true)
def tyX12 : Nat → FieldType := fun k => match k with
  | _ => .int
abbrev wsX120 : List Cond := u_ws RX12 TX12 1
theorem nmX12 : ∀ a, a < 1 → ∀ b, b < 1 → a ≠ b → (TX12 a).2.1 ≠ (TX12 b).2.1 := by decide +kernel
theorem tyX12_ok : ∀ k, k < 1 → parseFieldDescriptor (TX12 k).2.2.1 = some (tyX12 k) := by decide +kernel
abbrev cX12_init : ByteArray := prog_7_method_1_code
def yX12_init : MethodName := ⟨RX12, "<init>", "(I)V"⟩
def dkwX12_init_0 : List UInt8 := [42, 183, 0, 1, 42, 27, 181, 0, 7, 177]
abbrev dktX12_init_0 : List UInt8 := dkwX12_init_0 ++ []
theorem dksX12_init_0 : cX12_init.data.toList.drop 0 = dktX12_init_0 := by decide +kernel
theorem dX12_init_0 : decode cX12_init 0 = .ok (.aload_n 0, 1) := dk_42 (dk_at dksX12_init_0 0 rfl rfl)
theorem dX12_init_1 : decode cX12_init 1 = .ok (.invokespecial 1, 3) := dk_183 0 1 (dk_at dksX12_init_0 1 rfl rfl)
theorem dX12_init_4 : decode cX12_init 4 = .ok (.aload_n 0, 1) := dk_42 (dk_at dksX12_init_0 4 rfl rfl)
theorem dX12_init_5 : decode cX12_init 5 = .ok (.iload_n 1, 1) := dk_27 (dk_at dksX12_init_0 5 rfl rfl)
theorem dX12_init_6 : decode cX12_init 6 = .ok (.putfield 7, 3) := dk_181 0 7 (dk_at dksX12_init_0 6 rfl rfl)
theorem dX12_init_9 : decode cX12_init 9 = .ok (.return_, 1) := dk_177 (dk_at dksX12_init_0 9 rfl rfl)
abbrev cX12_worth : ByteArray := prog_7_method_2_code
def yX12_worth : MethodName := ⟨RX12, "worth", "(LLandingTree$Asked;)I"⟩
def dkwX12_worth_0 : List UInt8 := [43, 42, 180, 0, 7, 182, 0, 13, 172]
abbrev dktX12_worth_0 : List UInt8 := dkwX12_worth_0 ++ []
theorem dksX12_worth_0 : cX12_worth.data.toList.drop 0 = dktX12_worth_0 := by decide +kernel
theorem dX12_worth_0 : decode cX12_worth 0 = .ok (.aload_n 1, 1) := dk_43 (dk_at dksX12_worth_0 0 rfl rfl)
theorem dX12_worth_1 : decode cX12_worth 1 = .ok (.aload_n 0, 1) := dk_42 (dk_at dksX12_worth_0 1 rfl rfl)
theorem dX12_worth_2 : decode cX12_worth 2 = .ok (.getfield 7, 3) := dk_180 0 7 (dk_at dksX12_worth_0 2 rfl rfl)
theorem dX12_worth_5 : decode cX12_worth 5 = .ok (.invokevirtual 13, 3) := dk_182 0 13 (dk_at dksX12_worth_0 5 rfl rfl)
theorem dX12_worth_8 : decode cX12_worth 8 = .ok (.ireturn, 1) := dk_172 (dk_at dksX12_worth_0 8 rfl rfl)
theorem q123 : (Jvm.Cond.initialized "LandingTree$Letter") ∈ lw_all := lw_g (lw_at lw_m1 19 rfl) rfl
theorem q688 : (Jvm.Cond.instantiable "LandingTree$Letter" (1 : Nat)) ∈ lw_all := lw_g (lw_at lw_m3 104 rfl) rfl
theorem q690 : (Jvm.Cond.instanceMethod ({ cls := "LandingTree$Letter", name := "<init>", desc := "(I)V" } : Jvm.MethodName)) ∈ lw_all := lw_g (lw_at lw_m3 106 rfl) rfl
theorem q691 : (Jvm.Cond.code ({ cls := "LandingTree$Letter", name := "<init>", desc := "(I)V" } : Jvm.MethodName) prog_7_method_1_code (2 : Nat) (Option.none : Option Jvm.ClassFile.FieldType)) ∈ lw_all := lw_g (lw_at lw_m3 107 rfl) rfl
theorem q692 : (Jvm.Cond.methodLinkNest "LandingTree$Letter" (1 : Nat) ({ cls := "LandingTree$Sum", name := "<init>", desc := "()V" } : Jvm.MethodName) "LandingTree") ∈ lw_tbl := lw_at lw_m3 108 rfl
theorem q693 : (Jvm.Cond.fieldLink "LandingTree$Letter" (7 : Nat) "LandingTree$Letter" "letter" "I") ∈ lw_all := lw_g (lw_at lw_m3 109 rfl) rfl
theorem q694 : (Jvm.Cond.laysFinal "LandingTree$Letter" "LandingTree$Letter" "letter" "I") ∈ lw_all := lw_g (lw_at lw_m3 110 rfl) rfl
theorem q695 : (Jvm.Cond.soleField "LandingTree$Letter" "letter") ∈ lw_all := lw_g (lw_at lw_m3 111 rfl) rfl
theorem q696 : (Jvm.Cond.superclass "LandingTree$Letter" "LandingTree$Sum") ∈ lw_all := lw_g (lw_at lw_m3 112 rfl) rfl
theorem q847 : (Jvm.Cond.selects "LandingTree$Letter" ({ cls := "LandingTree$Sum", name := "worth", desc := "(LLandingTree$Asked;)I" } : Jvm.MethodName) ({ cls := "LandingTree$Letter", name := "worth", desc := "(LLandingTree$Asked;)I" } : Jvm.MethodName)) ∈ lw_all := lw_g (lw_at lw_m4 23 rfl) rfl
theorem q848 : (Jvm.Cond.instanceMethod ({ cls := "LandingTree$Letter", name := "worth", desc := "(LLandingTree$Asked;)I" } : Jvm.MethodName)) ∈ lw_all := lw_g (lw_at lw_m4 24 rfl) rfl
theorem q849 : (Jvm.Cond.code ({ cls := "LandingTree$Letter", name := "worth", desc := "(LLandingTree$Asked;)I" } : Jvm.MethodName) prog_7_method_2_code (2 : Nat) (Option.some Jvm.ClassFile.FieldType.int)) ∈ lw_all := lw_g (lw_at lw_m4 25 rfl) rfl
theorem q850 : (Jvm.Cond.methodLink "LandingTree$Letter" (13 : Nat) ({ cls := "LandingTree$Asked", name := "value", desc := "(I)I" } : Jvm.MethodName)) ∈ lw_all := lw_g (lw_at lw_m4 26 rfl) rfl
theorem q877 : (Jvm.Cond.selects "LandingTree$Letter" ({ cls := "LandingTree$Sum", name := "told", desc := "(LLandingTree$Asked;)I" } : Jvm.MethodName) ({ cls := "LandingTree$Sum", name := "told", desc := "(LLandingTree$Asked;)I" } : Jvm.MethodName)) ∈ lw_all := lw_g (lw_at lw_m4 53 rfl) rfl
theorem q1798 : (Jvm.Cond.castable "LandingTree$Letter" "LandingTree$Sum") ∈ lw_tbl := lw_at lw_m8 14 rfl
theorem in_X12 : ∀ w ∈ wsX120, w ∈ lw_all := lw_in wsX120 [694] (by decide +kernel) (by decide +kernel)

/-! LandingTree$Condition -/
set_option maxRecDepth 100000
def RX13 : String := "LandingTree$Condition"
abbrev cX13_init : ByteArray := prog_5_method_1_code
def yX13_init : MethodName := ⟨RX13, "<init>", "()V"⟩
theorem dX13_init_0 : decode cX13_init 0 = .ok (.aload_n 0, 1) := by decide +kernel
theorem dX13_init_1 : decode cX13_init 1 = .ok (.invokespecial 1, 3) := by decide +kernel
theorem dX13_init_4 : decode cX13_init 4 = .ok (.return_, 1) := by decide +kernel
theorem q124 : (Jvm.Cond.initialized "LandingTree$Condition") ∈ lw_all := lw_g (lw_at lw_m1 20 rfl) rfl
theorem q732 : (Jvm.Cond.instanceMethod ({ cls := "LandingTree$Condition", name := "<init>", desc := "()V" } : Jvm.MethodName)) ∈ lw_all := lw_g (lw_at lw_m3 148 rfl) rfl
theorem q733 : (Jvm.Cond.code ({ cls := "LandingTree$Condition", name := "<init>", desc := "()V" } : Jvm.MethodName) prog_5_method_1_code (1 : Nat) (Option.none : Option Jvm.ClassFile.FieldType)) ∈ lw_all := lw_g (lw_at lw_m3 149 rfl) rfl
theorem q734 : (Jvm.Cond.methodLink "LandingTree$Condition" (1 : Nat) ({ cls := "java/lang/Object", name := "<init>", desc := "()V" } : Jvm.MethodName)) ∈ lw_all := lw_g (lw_at lw_m3 150 rfl) rfl
theorem q839 : (Jvm.Cond.declares ({ cls := "LandingTree$Condition", name := "holds", desc := "(LLandingTree$Asked;)I" } : Jvm.MethodName)) ∈ lw_tbl := lw_at lw_m4 15 rfl
theorem q840 : (Jvm.Cond.sameMethod "LandingTree$Condition" "LandingTree$Condition" "holds" "(LLandingTree$Asked;)I") ∈ lw_all := lw_g (lw_at lw_m4 16 rfl) rfl

/-! LandingTree$Some -/
set_option maxRecDepth 100000
def RX14 : String := "LandingTree$Some"
def TX14 : u_T := fun k => match k with
  | 0 => ("LandingTree$Some", "part", "LLandingTree$Condition;", true)
  | 1 => ("LandingTree$Some", "decides", "I", true)
  | _ => ("LandingTree$Some", "next", "LLandingTree$Some;", false)
def tyX14 : Nat → FieldType := fun k => match k with
  | 0 => .object "LandingTree$Condition"
  | 1 => .int
  | _ => .object "LandingTree$Some"
abbrev wsX140 : List Cond := u_ws RX14 TX14 3
theorem nmX14 : ∀ a, a < 3 → ∀ b, b < 3 → a ≠ b → (TX14 a).2.1 ≠ (TX14 b).2.1 := by decide +kernel
theorem tyX14_ok : ∀ k, k < 3 → parseFieldDescriptor (TX14 k).2.2.1 = some (tyX14 k) := by decide +kernel
abbrev cX14_init : ByteArray := prog_15_method_1_code
def yX14_init : MethodName := ⟨RX14, "<init>", "(LLandingTree$Condition;I)V"⟩
def dkwX14_init_0 : List UInt8 := [42, 183, 0, 1, 42, 43, 181, 0, 7, 42, 28, 181, 0, 13, 177]
abbrev dktX14_init_0 : List UInt8 := dkwX14_init_0 ++ []
theorem dksX14_init_0 : cX14_init.data.toList.drop 0 = dktX14_init_0 := by decide +kernel
theorem dX14_init_0 : decode cX14_init 0 = .ok (.aload_n 0, 1) := dk_42 (dk_at dksX14_init_0 0 rfl rfl)
theorem dX14_init_1 : decode cX14_init 1 = .ok (.invokespecial 1, 3) := dk_183 0 1 (dk_at dksX14_init_0 1 rfl rfl)
theorem dX14_init_4 : decode cX14_init 4 = .ok (.aload_n 0, 1) := dk_42 (dk_at dksX14_init_0 4 rfl rfl)
theorem dX14_init_5 : decode cX14_init 5 = .ok (.aload_n 1, 1) := dk_43 (dk_at dksX14_init_0 5 rfl rfl)
theorem dX14_init_6 : decode cX14_init 6 = .ok (.putfield 7, 3) := dk_181 0 7 (dk_at dksX14_init_0 6 rfl rfl)
theorem dX14_init_9 : decode cX14_init 9 = .ok (.aload_n 0, 1) := dk_42 (dk_at dksX14_init_0 9 rfl rfl)
theorem dX14_init_10 : decode cX14_init 10 = .ok (.iload_n 2, 1) := dk_28 (dk_at dksX14_init_0 10 rfl rfl)
theorem dX14_init_11 : decode cX14_init 11 = .ok (.putfield 13, 3) := dk_181 0 13 (dk_at dksX14_init_0 11 rfl rfl)
theorem dX14_init_14 : decode cX14_init 14 = .ok (.return_, 1) := dk_177 (dk_at dksX14_init_0 14 rfl rfl)
abbrev cX14_holds : ByteArray := prog_15_method_2_code
def yX14_holds : MethodName := ⟨RX14, "holds", "(LLandingTree$Asked;)I"⟩
def dkwX14_holds_1 : List UInt8 := [180, 0, 13, 160, 0, 5, 29, 172, 44, 180, 0, 21, 77, 167, 255, 223, 4, 42, 180, 0, 13, 100, 172]
abbrev dktX14_holds_1 : List UInt8 := dkwX14_holds_1 ++ []
def dkwX14_holds_0 : List UInt8 := [42, 77, 44, 198, 0, 35, 44, 180, 0, 7, 43, 182, 0, 17, 62, 29, 5, 159, 0, 11, 29, 42]
abbrev dktX14_holds_0 : List UInt8 := dkwX14_holds_0 ++ dktX14_holds_1
theorem dksX14_holds_0 : cX14_holds.data.toList.drop 0 = dktX14_holds_0 := by decide +kernel
theorem dksX14_holds_1 : cX14_holds.data.toList.drop 22 = dktX14_holds_1 := dk_seg dksX14_holds_0 22 rfl rfl
theorem dX14_holds_0 : decode cX14_holds 0 = .ok (.aload_n 0, 1) := dk_42 (dk_at dksX14_holds_0 0 rfl rfl)
theorem dX14_holds_1 : decode cX14_holds 1 = .ok (.astore_n 2, 1) := dk_77 (dk_at dksX14_holds_0 1 rfl rfl)
theorem dX14_holds_2 : decode cX14_holds 2 = .ok (.aload_n 2, 1) := dk_44 (dk_at dksX14_holds_0 2 rfl rfl)
theorem dX14_holds_3 : decode cX14_holds 3 = .ok (.ifnull 35, 3) := dk_198 0 35 (dk_at dksX14_holds_0 3 rfl rfl)
theorem dX14_holds_6 : decode cX14_holds 6 = .ok (.aload_n 2, 1) := dk_44 (dk_at dksX14_holds_0 6 rfl rfl)
theorem dX14_holds_7 : decode cX14_holds 7 = .ok (.getfield 7, 3) := dk_180 0 7 (dk_at dksX14_holds_0 7 rfl rfl)
theorem dX14_holds_10 : decode cX14_holds 10 = .ok (.aload_n 1, 1) := dk_43 (dk_at dksX14_holds_0 10 rfl rfl)
theorem dX14_holds_11 : decode cX14_holds 11 = .ok (.invokevirtual 17, 3) := dk_182 0 17 (dk_at dksX14_holds_0 11 rfl rfl)
theorem dX14_holds_14 : decode cX14_holds 14 = .ok (.istore_n 3, 1) := dk_62 (dk_at dksX14_holds_0 14 rfl rfl)
theorem dX14_holds_15 : decode cX14_holds 15 = .ok (.iload_n 3, 1) := dk_29 (dk_at dksX14_holds_0 15 rfl rfl)
theorem dX14_holds_16 : decode cX14_holds 16 = .ok (.iconst 2, 1) := dk_5 (dk_at dksX14_holds_0 16 rfl rfl)
theorem dX14_holds_17 : decode cX14_holds 17 = .ok (.if_icmp .eq 11, 3) := dk_159 0 11 (dk_at dksX14_holds_0 17 rfl rfl)
theorem dX14_holds_20 : decode cX14_holds 20 = .ok (.iload_n 3, 1) := dk_29 (dk_at dksX14_holds_0 20 rfl rfl)
theorem dX14_holds_21 : decode cX14_holds 21 = .ok (.aload_n 0, 1) := dk_42 (dk_at dksX14_holds_0 21 rfl rfl)
theorem dX14_holds_22 : decode cX14_holds 22 = .ok (.getfield 13, 3) := dk_180 0 13 (dk_at dksX14_holds_1 0 rfl rfl)
theorem dX14_holds_25 : decode cX14_holds 25 = .ok (.if_icmp .ne 5, 3) := dk_160 0 5 (dk_at dksX14_holds_1 3 rfl rfl)
theorem dX14_holds_28 : decode cX14_holds 28 = .ok (.iload_n 3, 1) := dk_29 (dk_at dksX14_holds_1 6 rfl rfl)
theorem dX14_holds_29 : decode cX14_holds 29 = .ok (.ireturn, 1) := dk_172 (dk_at dksX14_holds_1 7 rfl rfl)
theorem dX14_holds_30 : decode cX14_holds 30 = .ok (.aload_n 2, 1) := dk_44 (dk_at dksX14_holds_1 8 rfl rfl)
theorem dX14_holds_31 : decode cX14_holds 31 = .ok (.getfield 21, 3) := dk_180 0 21 (dk_at dksX14_holds_1 9 rfl rfl)
theorem dX14_holds_34 : decode cX14_holds 34 = .ok (.astore_n 2, 1) := dk_77 (dk_at dksX14_holds_1 12 rfl rfl)
theorem dX14_holds_35 : decode cX14_holds 35 = .ok (.goto (-33), 3) := dk_167 255 223 (dk_at dksX14_holds_1 13 rfl rfl)
theorem dX14_holds_38 : decode cX14_holds 38 = .ok (.iconst 1, 1) := dk_4 (dk_at dksX14_holds_1 16 rfl rfl)
theorem dX14_holds_39 : decode cX14_holds 39 = .ok (.aload_n 0, 1) := dk_42 (dk_at dksX14_holds_1 17 rfl rfl)
theorem dX14_holds_40 : decode cX14_holds 40 = .ok (.getfield 13, 3) := dk_180 0 13 (dk_at dksX14_holds_1 18 rfl rfl)
theorem dX14_holds_43 : decode cX14_holds 43 = .ok (.isub, 1) := dk_100 (dk_at dksX14_holds_1 21 rfl rfl)
theorem dX14_holds_44 : decode cX14_holds 44 = .ok (.ireturn, 1) := dk_172 (dk_at dksX14_holds_1 22 rfl rfl)
theorem q125 : (Jvm.Cond.initialized "LandingTree$Some") ∈ lw_all := lw_g (lw_at lw_m1 21 rfl) rfl
theorem q717 : (Jvm.Cond.instantiable "LandingTree$Some" (3 : Nat)) ∈ lw_all := lw_g (lw_at lw_m3 133 rfl) rfl
theorem q756 : (Jvm.Cond.instanceMethod ({ cls := "LandingTree$Some", name := "<init>", desc := "(LLandingTree$Condition;I)V" } : Jvm.MethodName)) ∈ lw_all := lw_g (lw_at lw_m3 172 rfl) rfl
theorem q757 : (Jvm.Cond.code ({ cls := "LandingTree$Some", name := "<init>", desc := "(LLandingTree$Condition;I)V" } : Jvm.MethodName) prog_15_method_1_code (3 : Nat) (Option.none : Option Jvm.ClassFile.FieldType)) ∈ lw_all := lw_g (lw_at lw_m3 173 rfl) rfl
theorem q758 : (Jvm.Cond.methodLinkNest "LandingTree$Some" (1 : Nat) ({ cls := "LandingTree$Condition", name := "<init>", desc := "()V" } : Jvm.MethodName) "LandingTree") ∈ lw_tbl := lw_at lw_m3 174 rfl
theorem q759 : (Jvm.Cond.fieldLink "LandingTree$Some" (7 : Nat) "LandingTree$Some" "part" "LLandingTree$Condition;") ∈ lw_all := lw_g (lw_at lw_m3 175 rfl) rfl
theorem q760 : (Jvm.Cond.fieldLink "LandingTree$Some" (13 : Nat) "LandingTree$Some" "decides" "I") ∈ lw_all := lw_g (lw_at lw_m3 176 rfl) rfl
theorem q761 : (Jvm.Cond.fieldLink "LandingTree$Some" (21 : Nat) "LandingTree$Some" "next" "LLandingTree$Some;") ∈ lw_all := lw_g (lw_at lw_m3 177 rfl) rfl
theorem q763 : (Jvm.Cond.laysFinal "LandingTree$Some" "LandingTree$Some" "part" "LLandingTree$Condition;") ∈ lw_all := lw_g (lw_at lw_m3 179 rfl) rfl
theorem q764 : (Jvm.Cond.soleField "LandingTree$Some" "part") ∈ lw_all := lw_g (lw_at lw_m3 180 rfl) rfl
theorem q765 : (Jvm.Cond.laysFinal "LandingTree$Some" "LandingTree$Some" "decides" "I") ∈ lw_all := lw_g (lw_at lw_m3 181 rfl) rfl
theorem q766 : (Jvm.Cond.soleField "LandingTree$Some" "decides") ∈ lw_all := lw_g (lw_at lw_m3 182 rfl) rfl
theorem q767 : (Jvm.Cond.lays "LandingTree$Some" "LandingTree$Some" "next" "LLandingTree$Some;") ∈ lw_all := lw_g (lw_at lw_m3 183 rfl) rfl
theorem q768 : (Jvm.Cond.soleField "LandingTree$Some" "next") ∈ lw_all := lw_g (lw_at lw_m3 184 rfl) rfl
theorem q769 : (Jvm.Cond.superclass "LandingTree$Some" "LandingTree$Condition") ∈ lw_all := lw_g (lw_at lw_m3 185 rfl) rfl
theorem q870 : (Jvm.Cond.instanceMethod ({ cls := "LandingTree$Some", name := "holds", desc := "(LLandingTree$Asked;)I" } : Jvm.MethodName)) ∈ lw_all := lw_g (lw_at lw_m4 46 rfl) rfl
theorem q871 : (Jvm.Cond.code ({ cls := "LandingTree$Some", name := "holds", desc := "(LLandingTree$Asked;)I" } : Jvm.MethodName) prog_15_method_2_code (4 : Nat) (Option.some Jvm.ClassFile.FieldType.int)) ∈ lw_all := lw_g (lw_at lw_m4 47 rfl) rfl
theorem q872 : (Jvm.Cond.methodLink "LandingTree$Some" (17 : Nat) ({ cls := "LandingTree$Condition", name := "holds", desc := "(LLandingTree$Asked;)I" } : Jvm.MethodName)) ∈ lw_all := lw_g (lw_at lw_m4 48 rfl) rfl
theorem q873 : (Jvm.Cond.selects "LandingTree$Some" ({ cls := "LandingTree$Condition", name := "holds", desc := "(LLandingTree$Asked;)I" } : Jvm.MethodName) ({ cls := "LandingTree$Some", name := "holds", desc := "(LLandingTree$Asked;)I" } : Jvm.MethodName)) ∈ lw_all := lw_g (lw_at lw_m4 49 rfl) rfl
theorem q1799 : (Jvm.Cond.castable "LandingTree$Some" "LandingTree$Condition") ∈ lw_tbl := lw_at lw_m8 15 rfl
theorem in_X14 : ∀ w ∈ wsX140, w ∈ lw_all := lw_in wsX140 [763, 765, 767] (by decide +kernel) (by decide +kernel)

/-! LandingTree$Not -/
set_option maxRecDepth 100000
def RX15 : String := "LandingTree$Not"
def TX15 : u_T := fun k => match k with
  | _ => ("LandingTree$Not", "x", "LLandingTree$Condition;", true)
def tyX15 : Nat → FieldType := fun k => match k with
  | _ => .object "LandingTree$Condition"
abbrev wsX150 : List Cond := u_ws RX15 TX15 1
theorem nmX15 : ∀ a, a < 1 → ∀ b, b < 1 → a ≠ b → (TX15 a).2.1 ≠ (TX15 b).2.1 := by decide +kernel
theorem tyX15_ok : ∀ k, k < 1 → parseFieldDescriptor (TX15 k).2.2.1 = some (tyX15 k) := by decide +kernel
abbrev cX15_init : ByteArray := prog_9_method_1_code
def yX15_init : MethodName := ⟨RX15, "<init>", "(LLandingTree$Condition;)V"⟩
def dkwX15_init_0 : List UInt8 := [42, 183, 0, 1, 42, 43, 181, 0, 7, 177]
abbrev dktX15_init_0 : List UInt8 := dkwX15_init_0 ++ []
theorem dksX15_init_0 : cX15_init.data.toList.drop 0 = dktX15_init_0 := by decide +kernel
theorem dX15_init_0 : decode cX15_init 0 = .ok (.aload_n 0, 1) := dk_42 (dk_at dksX15_init_0 0 rfl rfl)
theorem dX15_init_1 : decode cX15_init 1 = .ok (.invokespecial 1, 3) := dk_183 0 1 (dk_at dksX15_init_0 1 rfl rfl)
theorem dX15_init_4 : decode cX15_init 4 = .ok (.aload_n 0, 1) := dk_42 (dk_at dksX15_init_0 4 rfl rfl)
theorem dX15_init_5 : decode cX15_init 5 = .ok (.aload_n 1, 1) := dk_43 (dk_at dksX15_init_0 5 rfl rfl)
theorem dX15_init_6 : decode cX15_init 6 = .ok (.putfield 7, 3) := dk_181 0 7 (dk_at dksX15_init_0 6 rfl rfl)
theorem dX15_init_9 : decode cX15_init 9 = .ok (.return_, 1) := dk_177 (dk_at dksX15_init_0 9 rfl rfl)
abbrev cX15_holds : ByteArray := prog_9_method_2_code
def yX15_holds : MethodName := ⟨RX15, "holds", "(LLandingTree$Asked;)I"⟩
def dkwX15_holds_0 : List UInt8 := [42, 180, 0, 7, 43, 182, 0, 13, 61, 28, 5, 160, 0, 7, 5, 167, 0, 6, 4, 28, 100, 172]
abbrev dktX15_holds_0 : List UInt8 := dkwX15_holds_0 ++ []
theorem dksX15_holds_0 : cX15_holds.data.toList.drop 0 = dktX15_holds_0 := by decide +kernel
theorem dX15_holds_0 : decode cX15_holds 0 = .ok (.aload_n 0, 1) := dk_42 (dk_at dksX15_holds_0 0 rfl rfl)
theorem dX15_holds_1 : decode cX15_holds 1 = .ok (.getfield 7, 3) := dk_180 0 7 (dk_at dksX15_holds_0 1 rfl rfl)
theorem dX15_holds_4 : decode cX15_holds 4 = .ok (.aload_n 1, 1) := dk_43 (dk_at dksX15_holds_0 4 rfl rfl)
theorem dX15_holds_5 : decode cX15_holds 5 = .ok (.invokevirtual 13, 3) := dk_182 0 13 (dk_at dksX15_holds_0 5 rfl rfl)
theorem dX15_holds_8 : decode cX15_holds 8 = .ok (.istore_n 2, 1) := dk_61 (dk_at dksX15_holds_0 8 rfl rfl)
theorem dX15_holds_9 : decode cX15_holds 9 = .ok (.iload_n 2, 1) := dk_28 (dk_at dksX15_holds_0 9 rfl rfl)
theorem dX15_holds_10 : decode cX15_holds 10 = .ok (.iconst 2, 1) := dk_5 (dk_at dksX15_holds_0 10 rfl rfl)
theorem dX15_holds_11 : decode cX15_holds 11 = .ok (.if_icmp .ne 7, 3) := dk_160 0 7 (dk_at dksX15_holds_0 11 rfl rfl)
theorem dX15_holds_14 : decode cX15_holds 14 = .ok (.iconst 2, 1) := dk_5 (dk_at dksX15_holds_0 14 rfl rfl)
theorem dX15_holds_15 : decode cX15_holds 15 = .ok (.goto 6, 3) := dk_167 0 6 (dk_at dksX15_holds_0 15 rfl rfl)
theorem dX15_holds_18 : decode cX15_holds 18 = .ok (.iconst 1, 1) := dk_4 (dk_at dksX15_holds_0 18 rfl rfl)
theorem dX15_holds_19 : decode cX15_holds 19 = .ok (.iload_n 2, 1) := dk_28 (dk_at dksX15_holds_0 19 rfl rfl)
theorem dX15_holds_20 : decode cX15_holds 20 = .ok (.isub, 1) := dk_100 (dk_at dksX15_holds_0 20 rfl rfl)
theorem dX15_holds_21 : decode cX15_holds 21 = .ok (.ireturn, 1) := dk_172 (dk_at dksX15_holds_0 21 rfl rfl)
theorem q126 : (Jvm.Cond.initialized "LandingTree$Not") ∈ lw_all := lw_g (lw_at lw_m1 22 rfl) rfl
theorem q727 : (Jvm.Cond.instantiable "LandingTree$Not" (1 : Nat)) ∈ lw_all := lw_g (lw_at lw_m3 143 rfl) rfl
theorem q729 : (Jvm.Cond.instanceMethod ({ cls := "LandingTree$Not", name := "<init>", desc := "(LLandingTree$Condition;)V" } : Jvm.MethodName)) ∈ lw_all := lw_g (lw_at lw_m3 145 rfl) rfl
theorem q730 : (Jvm.Cond.code ({ cls := "LandingTree$Not", name := "<init>", desc := "(LLandingTree$Condition;)V" } : Jvm.MethodName) prog_9_method_1_code (2 : Nat) (Option.none : Option Jvm.ClassFile.FieldType)) ∈ lw_all := lw_g (lw_at lw_m3 146 rfl) rfl
theorem q731 : (Jvm.Cond.methodLinkNest "LandingTree$Not" (1 : Nat) ({ cls := "LandingTree$Condition", name := "<init>", desc := "()V" } : Jvm.MethodName) "LandingTree") ∈ lw_tbl := lw_at lw_m3 147 rfl
theorem q735 : (Jvm.Cond.fieldLink "LandingTree$Not" (7 : Nat) "LandingTree$Not" "x" "LLandingTree$Condition;") ∈ lw_all := lw_g (lw_at lw_m3 151 rfl) rfl
theorem q736 : (Jvm.Cond.laysFinal "LandingTree$Not" "LandingTree$Not" "x" "LLandingTree$Condition;") ∈ lw_all := lw_g (lw_at lw_m3 152 rfl) rfl
theorem q737 : (Jvm.Cond.soleField "LandingTree$Not" "x") ∈ lw_all := lw_g (lw_at lw_m3 153 rfl) rfl
theorem q738 : (Jvm.Cond.superclass "LandingTree$Not" "LandingTree$Condition") ∈ lw_all := lw_g (lw_at lw_m3 154 rfl) rfl
theorem q866 : (Jvm.Cond.selects "LandingTree$Not" ({ cls := "LandingTree$Condition", name := "holds", desc := "(LLandingTree$Asked;)I" } : Jvm.MethodName) ({ cls := "LandingTree$Not", name := "holds", desc := "(LLandingTree$Asked;)I" } : Jvm.MethodName)) ∈ lw_all := lw_g (lw_at lw_m4 42 rfl) rfl
theorem q867 : (Jvm.Cond.instanceMethod ({ cls := "LandingTree$Not", name := "holds", desc := "(LLandingTree$Asked;)I" } : Jvm.MethodName)) ∈ lw_all := lw_g (lw_at lw_m4 43 rfl) rfl
theorem q868 : (Jvm.Cond.code ({ cls := "LandingTree$Not", name := "holds", desc := "(LLandingTree$Asked;)I" } : Jvm.MethodName) prog_9_method_2_code (3 : Nat) (Option.some Jvm.ClassFile.FieldType.int)) ∈ lw_all := lw_g (lw_at lw_m4 44 rfl) rfl
theorem q869 : (Jvm.Cond.methodLink "LandingTree$Not" (13 : Nat) ({ cls := "LandingTree$Condition", name := "holds", desc := "(LLandingTree$Asked;)I" } : Jvm.MethodName)) ∈ lw_all := lw_g (lw_at lw_m4 45 rfl) rfl
theorem q1800 : (Jvm.Cond.castable "LandingTree$Not" "LandingTree$Condition") ∈ lw_tbl := lw_at lw_m8 16 rfl
theorem in_X15 : ∀ w ∈ wsX150, w ∈ lw_all := lw_in wsX150 [736] (by decide +kernel) (by decide +kernel)

/-! LandingTree$Compared -/
set_option maxRecDepth 100000
def RX16 : String := "LandingTree$Compared"
def TX16 : u_T := fun k => match k with
  | 0 => ("LandingTree$Compared", "x", "LLandingTree$Sum;", true)
  | 1 => ("LandingTree$Compared", "y", "LLandingTree$Sum;", true)
  | _ => ("LandingTree$Compared", "sign", "I", true)
def tyX16 : Nat → FieldType := fun k => match k with
  | 0 => .object "LandingTree$Sum"
  | 1 => .object "LandingTree$Sum"
  | _ => .int
abbrev wsX160 : List Cond := u_ws RX16 TX16 3
theorem nmX16 : ∀ a, a < 3 → ∀ b, b < 3 → a ≠ b → (TX16 a).2.1 ≠ (TX16 b).2.1 := by decide +kernel
theorem tyX16_ok : ∀ k, k < 3 → parseFieldDescriptor (TX16 k).2.2.1 = some (tyX16 k) := by decide +kernel
abbrev cX16_init : ByteArray := prog_4_method_1_code
def yX16_init : MethodName := ⟨RX16, "<init>", "(LLandingTree$Sum;ILLandingTree$Sum;)V"⟩
def dkwX16_init_0 : List UInt8 := [42, 183, 0, 1, 42, 43, 181, 0, 7, 42, 28, 181, 0, 13, 42, 45, 181, 0, 17, 177]
abbrev dktX16_init_0 : List UInt8 := dkwX16_init_0 ++ []
theorem dksX16_init_0 : cX16_init.data.toList.drop 0 = dktX16_init_0 := by decide +kernel
theorem dX16_init_0 : decode cX16_init 0 = .ok (.aload_n 0, 1) := dk_42 (dk_at dksX16_init_0 0 rfl rfl)
theorem dX16_init_1 : decode cX16_init 1 = .ok (.invokespecial 1, 3) := dk_183 0 1 (dk_at dksX16_init_0 1 rfl rfl)
theorem dX16_init_4 : decode cX16_init 4 = .ok (.aload_n 0, 1) := dk_42 (dk_at dksX16_init_0 4 rfl rfl)
theorem dX16_init_5 : decode cX16_init 5 = .ok (.aload_n 1, 1) := dk_43 (dk_at dksX16_init_0 5 rfl rfl)
theorem dX16_init_6 : decode cX16_init 6 = .ok (.putfield 7, 3) := dk_181 0 7 (dk_at dksX16_init_0 6 rfl rfl)
theorem dX16_init_9 : decode cX16_init 9 = .ok (.aload_n 0, 1) := dk_42 (dk_at dksX16_init_0 9 rfl rfl)
theorem dX16_init_10 : decode cX16_init 10 = .ok (.iload_n 2, 1) := dk_28 (dk_at dksX16_init_0 10 rfl rfl)
theorem dX16_init_11 : decode cX16_init 11 = .ok (.putfield 13, 3) := dk_181 0 13 (dk_at dksX16_init_0 11 rfl rfl)
theorem dX16_init_14 : decode cX16_init 14 = .ok (.aload_n 0, 1) := dk_42 (dk_at dksX16_init_0 14 rfl rfl)
theorem dX16_init_15 : decode cX16_init 15 = .ok (.aload_n 3, 1) := dk_45 (dk_at dksX16_init_0 15 rfl rfl)
theorem dX16_init_16 : decode cX16_init 16 = .ok (.putfield 17, 3) := dk_181 0 17 (dk_at dksX16_init_0 16 rfl rfl)
theorem dX16_init_19 : decode cX16_init 19 = .ok (.return_, 1) := dk_177 (dk_at dksX16_init_0 19 rfl rfl)
abbrev cX16_holds : ByteArray := prog_4_method_2_code
def yX16_holds : MethodName := ⟨RX16, "holds", "(LLandingTree$Asked;)I"⟩
def dkwX16_holds_4 : List UInt8 := [153, 0, 7, 4, 167, 0, 4, 3, 172]
abbrev dktX16_holds_4 : List UInt8 := dkwX16_holds_4 ++ []
def dkwX16_holds_3 : List UInt8 := [160, 0, 7, 4, 167, 0, 4, 3, 54, 4, 43, 180, 0, 20, 153, 0, 7, 5, 167, 0, 13, 21, 4]
abbrev dktX16_holds_3 : List UInt8 := dkwX16_holds_3 ++ dktX16_holds_4
def dkwX16_holds_2 : List UInt8 := [180, 0, 13, 16, 62, 160, 0, 16, 28, 29, 164, 0, 7, 4, 167, 0, 17, 3, 167, 0, 13, 28, 29]
abbrev dktX16_holds_2 : List UInt8 := dkwX16_holds_2 ++ dktX16_holds_3
def dkwX16_holds_1 : List UInt8 := [180, 0, 13, 16, 60, 160, 0, 16, 28, 29, 162, 0, 7, 4, 167, 0, 39, 3, 167, 0, 35, 42]
abbrev dktX16_holds_1 : List UInt8 := dkwX16_holds_1 ++ dktX16_holds_2
def dkwX16_holds_0 : List UInt8 := [43, 3, 181, 0, 20, 42, 180, 0, 7, 43, 182, 0, 26, 61, 42, 180, 0, 17, 43, 182, 0, 26, 62, 42]
abbrev dktX16_holds_0 : List UInt8 := dkwX16_holds_0 ++ dktX16_holds_1
theorem dksX16_holds_0 : cX16_holds.data.toList.drop 0 = dktX16_holds_0 := by decide +kernel
theorem dksX16_holds_1 : cX16_holds.data.toList.drop 24 = dktX16_holds_1 := dk_seg dksX16_holds_0 24 rfl rfl
theorem dksX16_holds_2 : cX16_holds.data.toList.drop 46 = dktX16_holds_2 := dk_seg dksX16_holds_1 22 rfl rfl
theorem dksX16_holds_3 : cX16_holds.data.toList.drop 69 = dktX16_holds_3 := dk_seg dksX16_holds_2 23 rfl rfl
theorem dksX16_holds_4 : cX16_holds.data.toList.drop 92 = dktX16_holds_4 := dk_seg dksX16_holds_3 23 rfl rfl
theorem dX16_holds_0 : decode cX16_holds 0 = .ok (.aload_n 1, 1) := dk_43 (dk_at dksX16_holds_0 0 rfl rfl)
theorem dX16_holds_1 : decode cX16_holds 1 = .ok (.iconst 0, 1) := dk_3 (dk_at dksX16_holds_0 1 rfl rfl)
theorem dX16_holds_2 : decode cX16_holds 2 = .ok (.putfield 20, 3) := dk_181 0 20 (dk_at dksX16_holds_0 2 rfl rfl)
theorem dX16_holds_5 : decode cX16_holds 5 = .ok (.aload_n 0, 1) := dk_42 (dk_at dksX16_holds_0 5 rfl rfl)
theorem dX16_holds_6 : decode cX16_holds 6 = .ok (.getfield 7, 3) := dk_180 0 7 (dk_at dksX16_holds_0 6 rfl rfl)
theorem dX16_holds_9 : decode cX16_holds 9 = .ok (.aload_n 1, 1) := dk_43 (dk_at dksX16_holds_0 9 rfl rfl)
theorem dX16_holds_10 : decode cX16_holds 10 = .ok (.invokevirtual 26, 3) := dk_182 0 26 (dk_at dksX16_holds_0 10 rfl rfl)
theorem dX16_holds_13 : decode cX16_holds 13 = .ok (.istore_n 2, 1) := dk_61 (dk_at dksX16_holds_0 13 rfl rfl)
theorem dX16_holds_14 : decode cX16_holds 14 = .ok (.aload_n 0, 1) := dk_42 (dk_at dksX16_holds_0 14 rfl rfl)
theorem dX16_holds_15 : decode cX16_holds 15 = .ok (.getfield 17, 3) := dk_180 0 17 (dk_at dksX16_holds_0 15 rfl rfl)
theorem dX16_holds_18 : decode cX16_holds 18 = .ok (.aload_n 1, 1) := dk_43 (dk_at dksX16_holds_0 18 rfl rfl)
theorem dX16_holds_19 : decode cX16_holds 19 = .ok (.invokevirtual 26, 3) := dk_182 0 26 (dk_at dksX16_holds_0 19 rfl rfl)
theorem dX16_holds_22 : decode cX16_holds 22 = .ok (.istore_n 3, 1) := dk_62 (dk_at dksX16_holds_0 22 rfl rfl)
theorem dX16_holds_23 : decode cX16_holds 23 = .ok (.aload_n 0, 1) := dk_42 (dk_at dksX16_holds_0 23 rfl rfl)
theorem dX16_holds_24 : decode cX16_holds 24 = .ok (.getfield 13, 3) := dk_180 0 13 (dk_at dksX16_holds_1 0 rfl rfl)
theorem dX16_holds_27 : decode cX16_holds 27 = .ok (.bipush 60, 2) := dk_16 60 (dk_at dksX16_holds_1 3 rfl rfl)
theorem dX16_holds_29 : decode cX16_holds 29 = .ok (.if_icmp .ne 16, 3) := dk_160 0 16 (dk_at dksX16_holds_1 5 rfl rfl)
theorem dX16_holds_32 : decode cX16_holds 32 = .ok (.iload_n 2, 1) := dk_28 (dk_at dksX16_holds_1 8 rfl rfl)
theorem dX16_holds_33 : decode cX16_holds 33 = .ok (.iload_n 3, 1) := dk_29 (dk_at dksX16_holds_1 9 rfl rfl)
theorem dX16_holds_34 : decode cX16_holds 34 = .ok (.if_icmp .ge 7, 3) := dk_162 0 7 (dk_at dksX16_holds_1 10 rfl rfl)
theorem dX16_holds_37 : decode cX16_holds 37 = .ok (.iconst 1, 1) := dk_4 (dk_at dksX16_holds_1 13 rfl rfl)
theorem dX16_holds_38 : decode cX16_holds 38 = .ok (.goto 39, 3) := dk_167 0 39 (dk_at dksX16_holds_1 14 rfl rfl)
theorem dX16_holds_41 : decode cX16_holds 41 = .ok (.iconst 0, 1) := dk_3 (dk_at dksX16_holds_1 17 rfl rfl)
theorem dX16_holds_42 : decode cX16_holds 42 = .ok (.goto 35, 3) := dk_167 0 35 (dk_at dksX16_holds_1 18 rfl rfl)
theorem dX16_holds_45 : decode cX16_holds 45 = .ok (.aload_n 0, 1) := dk_42 (dk_at dksX16_holds_1 21 rfl rfl)
theorem dX16_holds_46 : decode cX16_holds 46 = .ok (.getfield 13, 3) := dk_180 0 13 (dk_at dksX16_holds_2 0 rfl rfl)
theorem dX16_holds_49 : decode cX16_holds 49 = .ok (.bipush 62, 2) := dk_16 62 (dk_at dksX16_holds_2 3 rfl rfl)
theorem dX16_holds_51 : decode cX16_holds 51 = .ok (.if_icmp .ne 16, 3) := dk_160 0 16 (dk_at dksX16_holds_2 5 rfl rfl)
theorem dX16_holds_54 : decode cX16_holds 54 = .ok (.iload_n 2, 1) := dk_28 (dk_at dksX16_holds_2 8 rfl rfl)
theorem dX16_holds_55 : decode cX16_holds 55 = .ok (.iload_n 3, 1) := dk_29 (dk_at dksX16_holds_2 9 rfl rfl)
theorem dX16_holds_56 : decode cX16_holds 56 = .ok (.if_icmp .le 7, 3) := dk_164 0 7 (dk_at dksX16_holds_2 10 rfl rfl)
theorem dX16_holds_59 : decode cX16_holds 59 = .ok (.iconst 1, 1) := dk_4 (dk_at dksX16_holds_2 13 rfl rfl)
theorem dX16_holds_60 : decode cX16_holds 60 = .ok (.goto 17, 3) := dk_167 0 17 (dk_at dksX16_holds_2 14 rfl rfl)
theorem dX16_holds_63 : decode cX16_holds 63 = .ok (.iconst 0, 1) := dk_3 (dk_at dksX16_holds_2 17 rfl rfl)
theorem dX16_holds_64 : decode cX16_holds 64 = .ok (.goto 13, 3) := dk_167 0 13 (dk_at dksX16_holds_2 18 rfl rfl)
theorem dX16_holds_67 : decode cX16_holds 67 = .ok (.iload_n 2, 1) := dk_28 (dk_at dksX16_holds_2 21 rfl rfl)
theorem dX16_holds_68 : decode cX16_holds 68 = .ok (.iload_n 3, 1) := dk_29 (dk_at dksX16_holds_2 22 rfl rfl)
theorem dX16_holds_69 : decode cX16_holds 69 = .ok (.if_icmp .ne 7, 3) := dk_160 0 7 (dk_at dksX16_holds_3 0 rfl rfl)
theorem dX16_holds_72 : decode cX16_holds 72 = .ok (.iconst 1, 1) := dk_4 (dk_at dksX16_holds_3 3 rfl rfl)
theorem dX16_holds_73 : decode cX16_holds 73 = .ok (.goto 4, 3) := dk_167 0 4 (dk_at dksX16_holds_3 4 rfl rfl)
theorem dX16_holds_76 : decode cX16_holds 76 = .ok (.iconst 0, 1) := dk_3 (dk_at dksX16_holds_3 7 rfl rfl)
theorem dX16_holds_77 : decode cX16_holds 77 = .ok (.istore 4, 2) := dk_54 4 (dk_at dksX16_holds_3 8 rfl rfl)
theorem dX16_holds_79 : decode cX16_holds 79 = .ok (.aload_n 1, 1) := dk_43 (dk_at dksX16_holds_3 10 rfl rfl)
theorem dX16_holds_80 : decode cX16_holds 80 = .ok (.getfield 20, 3) := dk_180 0 20 (dk_at dksX16_holds_3 11 rfl rfl)
theorem dX16_holds_83 : decode cX16_holds 83 = .ok (.ifCond .eq 7, 3) := dk_153 0 7 (dk_at dksX16_holds_3 14 rfl rfl)
theorem dX16_holds_86 : decode cX16_holds 86 = .ok (.iconst 2, 1) := dk_5 (dk_at dksX16_holds_3 17 rfl rfl)
theorem dX16_holds_87 : decode cX16_holds 87 = .ok (.goto 13, 3) := dk_167 0 13 (dk_at dksX16_holds_3 18 rfl rfl)
theorem dX16_holds_90 : decode cX16_holds 90 = .ok (.iload 4, 2) := dk_21 4 (dk_at dksX16_holds_3 21 rfl rfl)
theorem dX16_holds_92 : decode cX16_holds 92 = .ok (.ifCond .eq 7, 3) := dk_153 0 7 (dk_at dksX16_holds_4 0 rfl rfl)
theorem dX16_holds_95 : decode cX16_holds 95 = .ok (.iconst 1, 1) := dk_4 (dk_at dksX16_holds_4 3 rfl rfl)
theorem dX16_holds_96 : decode cX16_holds 96 = .ok (.goto 4, 3) := dk_167 0 4 (dk_at dksX16_holds_4 4 rfl rfl)
theorem dX16_holds_99 : decode cX16_holds 99 = .ok (.iconst 0, 1) := dk_3 (dk_at dksX16_holds_4 7 rfl rfl)
theorem dX16_holds_100 : decode cX16_holds 100 = .ok (.ireturn, 1) := dk_172 (dk_at dksX16_holds_4 8 rfl rfl)
theorem q127 : (Jvm.Cond.initialized "LandingTree$Compared") ∈ lw_all := lw_g (lw_at lw_m1 23 rfl) rfl
theorem q160 : (Jvm.Cond.fieldLinkNest "LandingTree$Compared" (20 : Nat) "LandingTree$Asked" "isRefused" "Z" "LandingTree") ∈ lw_tbl := lw_at lw_m1 56 rfl
theorem q740 : (Jvm.Cond.instantiable "LandingTree$Compared" (3 : Nat)) ∈ lw_all := lw_g (lw_at lw_m3 156 rfl) rfl
theorem q742 : (Jvm.Cond.instanceMethod ({ cls := "LandingTree$Compared", name := "<init>", desc := "(LLandingTree$Sum;ILLandingTree$Sum;)V" } : Jvm.MethodName)) ∈ lw_all := lw_g (lw_at lw_m3 158 rfl) rfl
theorem q743 : (Jvm.Cond.code ({ cls := "LandingTree$Compared", name := "<init>", desc := "(LLandingTree$Sum;ILLandingTree$Sum;)V" } : Jvm.MethodName) prog_4_method_1_code (4 : Nat) (Option.none : Option Jvm.ClassFile.FieldType)) ∈ lw_all := lw_g (lw_at lw_m3 159 rfl) rfl
theorem q744 : (Jvm.Cond.methodLinkNest "LandingTree$Compared" (1 : Nat) ({ cls := "LandingTree$Condition", name := "<init>", desc := "()V" } : Jvm.MethodName) "LandingTree") ∈ lw_tbl := lw_at lw_m3 160 rfl
theorem q745 : (Jvm.Cond.fieldLink "LandingTree$Compared" (7 : Nat) "LandingTree$Compared" "x" "LLandingTree$Sum;") ∈ lw_all := lw_g (lw_at lw_m3 161 rfl) rfl
theorem q746 : (Jvm.Cond.fieldLink "LandingTree$Compared" (17 : Nat) "LandingTree$Compared" "y" "LLandingTree$Sum;") ∈ lw_all := lw_g (lw_at lw_m3 162 rfl) rfl
theorem q747 : (Jvm.Cond.fieldLink "LandingTree$Compared" (13 : Nat) "LandingTree$Compared" "sign" "I") ∈ lw_all := lw_g (lw_at lw_m3 163 rfl) rfl
theorem q748 : (Jvm.Cond.laysFinal "LandingTree$Compared" "LandingTree$Compared" "x" "LLandingTree$Sum;") ∈ lw_all := lw_g (lw_at lw_m3 164 rfl) rfl
theorem q749 : (Jvm.Cond.soleField "LandingTree$Compared" "x") ∈ lw_all := lw_g (lw_at lw_m3 165 rfl) rfl
theorem q750 : (Jvm.Cond.laysFinal "LandingTree$Compared" "LandingTree$Compared" "y" "LLandingTree$Sum;") ∈ lw_all := lw_g (lw_at lw_m3 166 rfl) rfl
theorem q751 : (Jvm.Cond.soleField "LandingTree$Compared" "y") ∈ lw_all := lw_g (lw_at lw_m3 167 rfl) rfl
theorem q752 : (Jvm.Cond.laysFinal "LandingTree$Compared" "LandingTree$Compared" "sign" "I") ∈ lw_all := lw_g (lw_at lw_m3 168 rfl) rfl
theorem q753 : (Jvm.Cond.soleField "LandingTree$Compared" "sign") ∈ lw_all := lw_g (lw_at lw_m3 169 rfl) rfl
theorem q754 : (Jvm.Cond.superclass "LandingTree$Compared" "LandingTree$Condition") ∈ lw_all := lw_g (lw_at lw_m3 170 rfl) rfl
theorem q841 : (Jvm.Cond.selects "LandingTree$Compared" ({ cls := "LandingTree$Condition", name := "holds", desc := "(LLandingTree$Asked;)I" } : Jvm.MethodName) ({ cls := "LandingTree$Compared", name := "holds", desc := "(LLandingTree$Asked;)I" } : Jvm.MethodName)) ∈ lw_all := lw_g (lw_at lw_m4 17 rfl) rfl
theorem q842 : (Jvm.Cond.instanceMethod ({ cls := "LandingTree$Compared", name := "holds", desc := "(LLandingTree$Asked;)I" } : Jvm.MethodName)) ∈ lw_all := lw_g (lw_at lw_m4 18 rfl) rfl
theorem q843 : (Jvm.Cond.code ({ cls := "LandingTree$Compared", name := "holds", desc := "(LLandingTree$Asked;)I" } : Jvm.MethodName) prog_4_method_2_code (5 : Nat) (Option.some Jvm.ClassFile.FieldType.int)) ∈ lw_all := lw_g (lw_at lw_m4 19 rfl) rfl
theorem q844 : (Jvm.Cond.methodLink "LandingTree$Compared" (26 : Nat) ({ cls := "LandingTree$Sum", name := "worth", desc := "(LLandingTree$Asked;)I" } : Jvm.MethodName)) ∈ lw_all := lw_g (lw_at lw_m4 20 rfl) rfl
theorem q1801 : (Jvm.Cond.castable "LandingTree$Compared" "LandingTree$Condition") ∈ lw_tbl := lw_at lw_m8 17 rfl
theorem in_X16 : ∀ w ∈ wsX160, w ∈ lw_all := lw_in wsX160 [748, 750, 752] (by decide +kernel) (by decide +kernel)

/-! LandingTree$Clerk -/
set_option maxRecDepth 100000
def RX17 : String := "LandingTree$Clerk"
def TX17 : u_T := fun k => match k with
  | 0 => ("LandingTree$Clerk", "row", "[I", true)
  | 1 => ("LandingTree$Clerk", "n", "I", true)
  | 2 => ("LandingTree$Clerk", "at", "I", false)
  | 3 => ("LandingTree$Clerk", "many", "I", false)
  | 4 => ("LandingTree$Clerk", "fault", "I", false)
  | 5 => ("LandingTree$Clerk", "place", "I", false)
  | _ => ("LandingTree$Clerk", "this$0", "LLandingTree;", true)
def tyX17 : Nat → FieldType := fun k => match k with
  | 0 => .array .int
  | 1 => .int
  | 2 => .int
  | 3 => .int
  | 4 => .int
  | 5 => .int
  | _ => .object "LandingTree"
abbrev wsX170 : List Cond := u_ws RX17 TX17 7
theorem nmX17 : ∀ a, a < 7 → ∀ b, b < 7 → a ≠ b → (TX17 a).2.1 ≠ (TX17 b).2.1 := by decide +kernel
theorem tyX17_ok : ∀ k, k < 7 → parseFieldDescriptor (TX17 k).2.2.1 = some (tyX17 k) := by decide +kernel
abbrev cX17_init : ByteArray := prog_3_method_1_code
def yX17_init : MethodName := ⟨RX17, "<init>", "(LLandingTree;I)V"⟩
def dkwX17_init_0 : List UInt8 := [42, 43, 181, 0, 3, 42, 183, 0, 9, 42, 16, 84, 188, 10, 181, 0, 15, 42, 28, 181, 0, 19, 177]
abbrev dktX17_init_0 : List UInt8 := dkwX17_init_0 ++ []
theorem dksX17_init_0 : cX17_init.data.toList.drop 0 = dktX17_init_0 := by decide +kernel
theorem dX17_init_0 : decode cX17_init 0 = .ok (.aload_n 0, 1) := dk_42 (dk_at dksX17_init_0 0 rfl rfl)
theorem dX17_init_1 : decode cX17_init 1 = .ok (.aload_n 1, 1) := dk_43 (dk_at dksX17_init_0 1 rfl rfl)
theorem dX17_init_2 : decode cX17_init 2 = .ok (.putfield 3, 3) := dk_181 0 3 (dk_at dksX17_init_0 2 rfl rfl)
theorem dX17_init_5 : decode cX17_init 5 = .ok (.aload_n 0, 1) := dk_42 (dk_at dksX17_init_0 5 rfl rfl)
theorem dX17_init_6 : decode cX17_init 6 = .ok (.invokespecial 9, 3) := dk_183 0 9 (dk_at dksX17_init_0 6 rfl rfl)
theorem dX17_init_9 : decode cX17_init 9 = .ok (.aload_n 0, 1) := dk_42 (dk_at dksX17_init_0 9 rfl rfl)
theorem dX17_init_10 : decode cX17_init 10 = .ok (.bipush 84, 2) := dk_16 84 (dk_at dksX17_init_0 10 rfl rfl)
theorem dX17_init_12 : decode cX17_init 12 = .ok (.newarray .int, 2) := dk_188_10 (dk_at dksX17_init_0 12 rfl rfl)
theorem dX17_init_14 : decode cX17_init 14 = .ok (.putfield 15, 3) := dk_181 0 15 (dk_at dksX17_init_0 14 rfl rfl)
theorem dX17_init_17 : decode cX17_init 17 = .ok (.aload_n 0, 1) := dk_42 (dk_at dksX17_init_0 17 rfl rfl)
theorem dX17_init_18 : decode cX17_init 18 = .ok (.iload_n 2, 1) := dk_28 (dk_at dksX17_init_0 18 rfl rfl)
theorem dX17_init_19 : decode cX17_init 19 = .ok (.putfield 19, 3) := dk_181 0 19 (dk_at dksX17_init_0 19 rfl rfl)
theorem dX17_init_22 : decode cX17_init 22 = .ok (.return_, 1) := dk_177 (dk_at dksX17_init_0 22 rfl rfl)
abbrev cX17_read : ByteArray := prog_3_method_10_code
def yX17_read : MethodName := ⟨RX17, "read", "()I"⟩
def dkwX17_read_3 : List UInt8 := [42, 180, 0, 47, 167, 0, 16, 17, 252, 24, 42, 180, 0, 30, 104, 42, 180, 0, 33, 100, 172]
abbrev dktX17_read_3 : List UInt8 := dkwX17_read_3 ++ []
def dkwX17_read_2 : List UInt8 := [181, 0, 23, 42, 182, 0, 54, 153, 255, 206, 42, 182, 0, 68, 167, 255, 199, 42, 182, 0, 54, 153, 0, 10]
abbrev dktX17_read_2 : List UInt8 := dkwX17_read_2 ++ dktX17_read_3
def dkwX17_read_1 : List UInt8 := [182, 0, 36, 16, 47, 159, 0, 12, 42, 4, 42, 180, 0, 23, 182, 0, 50, 42, 89, 180, 0, 23, 4, 96]
abbrev dktX17_read_1 : List UInt8 := dkwX17_read_1 ++ dktX17_read_2
def dkwX17_read_0 : List UInt8 := [42, 182, 0, 68, 42, 182, 0, 54, 153, 0, 56, 42, 180, 0, 23, 42, 180, 0, 19, 162, 0, 45, 42]
abbrev dktX17_read_0 : List UInt8 := dkwX17_read_0 ++ dktX17_read_1
theorem dksX17_read_0 : cX17_read.data.toList.drop 0 = dktX17_read_0 := by decide +kernel
theorem dksX17_read_1 : cX17_read.data.toList.drop 23 = dktX17_read_1 := dk_seg dksX17_read_0 23 rfl rfl
theorem dksX17_read_2 : cX17_read.data.toList.drop 47 = dktX17_read_2 := dk_seg dksX17_read_1 24 rfl rfl
theorem dksX17_read_3 : cX17_read.data.toList.drop 71 = dktX17_read_3 := dk_seg dksX17_read_2 24 rfl rfl
theorem dX17_read_0 : decode cX17_read 0 = .ok (.aload_n 0, 1) := dk_42 (dk_at dksX17_read_0 0 rfl rfl)
theorem dX17_read_1 : decode cX17_read 1 = .ok (.invokevirtual 68, 3) := dk_182 0 68 (dk_at dksX17_read_0 1 rfl rfl)
theorem dX17_read_4 : decode cX17_read 4 = .ok (.aload_n 0, 1) := dk_42 (dk_at dksX17_read_0 4 rfl rfl)
theorem dX17_read_5 : decode cX17_read 5 = .ok (.invokevirtual 54, 3) := dk_182 0 54 (dk_at dksX17_read_0 5 rfl rfl)
theorem dX17_read_8 : decode cX17_read 8 = .ok (.ifCond .eq 56, 3) := dk_153 0 56 (dk_at dksX17_read_0 8 rfl rfl)
theorem dX17_read_11 : decode cX17_read 11 = .ok (.aload_n 0, 1) := dk_42 (dk_at dksX17_read_0 11 rfl rfl)
theorem dX17_read_12 : decode cX17_read 12 = .ok (.getfield 23, 3) := dk_180 0 23 (dk_at dksX17_read_0 12 rfl rfl)
theorem dX17_read_15 : decode cX17_read 15 = .ok (.aload_n 0, 1) := dk_42 (dk_at dksX17_read_0 15 rfl rfl)
theorem dX17_read_16 : decode cX17_read 16 = .ok (.getfield 19, 3) := dk_180 0 19 (dk_at dksX17_read_0 16 rfl rfl)
theorem dX17_read_19 : decode cX17_read 19 = .ok (.if_icmp .ge 45, 3) := dk_162 0 45 (dk_at dksX17_read_0 19 rfl rfl)
theorem dX17_read_22 : decode cX17_read 22 = .ok (.aload_n 0, 1) := dk_42 (dk_at dksX17_read_0 22 rfl rfl)
theorem dX17_read_23 : decode cX17_read 23 = .ok (.invokevirtual 36, 3) := dk_182 0 36 (dk_at dksX17_read_1 0 rfl rfl)
theorem dX17_read_26 : decode cX17_read 26 = .ok (.bipush 47, 2) := dk_16 47 (dk_at dksX17_read_1 3 rfl rfl)
theorem dX17_read_28 : decode cX17_read 28 = .ok (.if_icmp .eq 12, 3) := dk_159 0 12 (dk_at dksX17_read_1 5 rfl rfl)
theorem dX17_read_31 : decode cX17_read 31 = .ok (.aload_n 0, 1) := dk_42 (dk_at dksX17_read_1 8 rfl rfl)
theorem dX17_read_32 : decode cX17_read 32 = .ok (.iconst 1, 1) := dk_4 (dk_at dksX17_read_1 9 rfl rfl)
theorem dX17_read_33 : decode cX17_read 33 = .ok (.aload_n 0, 1) := dk_42 (dk_at dksX17_read_1 10 rfl rfl)
theorem dX17_read_34 : decode cX17_read 34 = .ok (.getfield 23, 3) := dk_180 0 23 (dk_at dksX17_read_1 11 rfl rfl)
theorem dX17_read_37 : decode cX17_read 37 = .ok (.invokevirtual 50, 3) := dk_182 0 50 (dk_at dksX17_read_1 14 rfl rfl)
theorem dX17_read_40 : decode cX17_read 40 = .ok (.aload_n 0, 1) := dk_42 (dk_at dksX17_read_1 17 rfl rfl)
theorem dX17_read_41 : decode cX17_read 41 = .ok (.dup, 1) := dk_89 (dk_at dksX17_read_1 18 rfl rfl)
theorem dX17_read_42 : decode cX17_read 42 = .ok (.getfield 23, 3) := dk_180 0 23 (dk_at dksX17_read_1 19 rfl rfl)
theorem dX17_read_45 : decode cX17_read 45 = .ok (.iconst 1, 1) := dk_4 (dk_at dksX17_read_1 22 rfl rfl)
theorem dX17_read_46 : decode cX17_read 46 = .ok (.iadd, 1) := dk_96 (dk_at dksX17_read_1 23 rfl rfl)
theorem dX17_read_47 : decode cX17_read 47 = .ok (.putfield 23, 3) := dk_181 0 23 (dk_at dksX17_read_2 0 rfl rfl)
theorem dX17_read_50 : decode cX17_read 50 = .ok (.aload_n 0, 1) := dk_42 (dk_at dksX17_read_2 3 rfl rfl)
theorem dX17_read_51 : decode cX17_read 51 = .ok (.invokevirtual 54, 3) := dk_182 0 54 (dk_at dksX17_read_2 4 rfl rfl)
theorem dX17_read_54 : decode cX17_read 54 = .ok (.ifCond .eq (-50), 3) := dk_153 255 206 (dk_at dksX17_read_2 7 rfl rfl)
theorem dX17_read_57 : decode cX17_read 57 = .ok (.aload_n 0, 1) := dk_42 (dk_at dksX17_read_2 10 rfl rfl)
theorem dX17_read_58 : decode cX17_read 58 = .ok (.invokevirtual 68, 3) := dk_182 0 68 (dk_at dksX17_read_2 11 rfl rfl)
theorem dX17_read_61 : decode cX17_read 61 = .ok (.goto (-57), 3) := dk_167 255 199 (dk_at dksX17_read_2 14 rfl rfl)
theorem dX17_read_64 : decode cX17_read 64 = .ok (.aload_n 0, 1) := dk_42 (dk_at dksX17_read_2 17 rfl rfl)
theorem dX17_read_65 : decode cX17_read 65 = .ok (.invokevirtual 54, 3) := dk_182 0 54 (dk_at dksX17_read_2 18 rfl rfl)
theorem dX17_read_68 : decode cX17_read 68 = .ok (.ifCond .eq 10, 3) := dk_153 0 10 (dk_at dksX17_read_2 21 rfl rfl)
theorem dX17_read_71 : decode cX17_read 71 = .ok (.aload_n 0, 1) := dk_42 (dk_at dksX17_read_3 0 rfl rfl)
theorem dX17_read_72 : decode cX17_read 72 = .ok (.getfield 47, 3) := dk_180 0 47 (dk_at dksX17_read_3 1 rfl rfl)
theorem dX17_read_75 : decode cX17_read 75 = .ok (.goto 16, 3) := dk_167 0 16 (dk_at dksX17_read_3 4 rfl rfl)
theorem dX17_read_78 : decode cX17_read 78 = .ok (.sipush (-1000), 3) := dk_17 252 24 (dk_at dksX17_read_3 7 rfl rfl)
theorem dX17_read_81 : decode cX17_read 81 = .ok (.aload_n 0, 1) := dk_42 (dk_at dksX17_read_3 10 rfl rfl)
theorem dX17_read_82 : decode cX17_read 82 = .ok (.getfield 30, 3) := dk_180 0 30 (dk_at dksX17_read_3 11 rfl rfl)
theorem dX17_read_85 : decode cX17_read 85 = .ok (.imul, 1) := dk_104 (dk_at dksX17_read_3 14 rfl rfl)
theorem dX17_read_86 : decode cX17_read 86 = .ok (.aload_n 0, 1) := dk_42 (dk_at dksX17_read_3 15 rfl rfl)
theorem dX17_read_87 : decode cX17_read 87 = .ok (.getfield 33, 3) := dk_180 0 33 (dk_at dksX17_read_3 16 rfl rfl)
theorem dX17_read_90 : decode cX17_read 90 = .ok (.isub, 1) := dk_100 (dk_at dksX17_read_3 19 rfl rfl)
theorem dX17_read_91 : decode cX17_read 91 = .ok (.ireturn, 1) := dk_172 (dk_at dksX17_read_3 20 rfl rfl)
abbrev cX17_week : ByteArray := prog_3_method_9_code
def yX17_week : MethodName := ⟨RX17, "week", "()V"⟩
def dkwX17_week_4 : List UInt8 := [153, 0, 13, 42, 16, 6, 42, 180, 0, 23, 182, 0, 50, 177]
abbrev dktX17_week_4 : List UInt8 := dkwX17_week_4 ++ []
def dkwX17_week_3 : List UInt8 := [162, 0, 11, 42, 27, 182, 0, 64, 167, 255, 236, 42, 182, 0, 54, 153, 0, 20, 42, 182, 0, 61]
abbrev dktX17_week_3 : List UInt8 := dkwX17_week_3 ++ dktX17_week_4
def dkwX17_week_2 : List UInt8 := [154, 0, 12, 42, 4, 42, 180, 0, 23, 182, 0, 50, 42, 182, 0, 54, 153, 0, 19, 42, 180, 0, 47, 27]
abbrev dktX17_week_2 : List UInt8 := dkwX17_week_2 ++ dktX17_week_3
def dkwX17_week_1 : List UInt8 := [182, 0, 50, 42, 180, 0, 47, 16, 7, 96, 60, 42, 182, 0, 54, 153, 0, 19, 42, 182, 0, 61]
abbrev dktX17_week_1 : List UInt8 := dkwX17_week_1 ++ dktX17_week_2
def dkwX17_week_0 : List UInt8 := [42, 182, 0, 61, 153, 0, 21, 42, 180, 0, 47, 16, 84, 160, 0, 12, 42, 7, 42, 180, 0, 23]
abbrev dktX17_week_0 : List UInt8 := dkwX17_week_0 ++ dktX17_week_1
theorem dksX17_week_0 : cX17_week.data.toList.drop 0 = dktX17_week_0 := by decide +kernel
theorem dksX17_week_1 : cX17_week.data.toList.drop 22 = dktX17_week_1 := dk_seg dksX17_week_0 22 rfl rfl
theorem dksX17_week_2 : cX17_week.data.toList.drop 44 = dktX17_week_2 := dk_seg dksX17_week_1 22 rfl rfl
theorem dksX17_week_3 : cX17_week.data.toList.drop 68 = dktX17_week_3 := dk_seg dksX17_week_2 24 rfl rfl
theorem dksX17_week_4 : cX17_week.data.toList.drop 90 = dktX17_week_4 := dk_seg dksX17_week_3 22 rfl rfl
theorem dX17_week_0 : decode cX17_week 0 = .ok (.aload_n 0, 1) := dk_42 (dk_at dksX17_week_0 0 rfl rfl)
theorem dX17_week_1 : decode cX17_week 1 = .ok (.invokevirtual 61, 3) := dk_182 0 61 (dk_at dksX17_week_0 1 rfl rfl)
theorem dX17_week_4 : decode cX17_week 4 = .ok (.ifCond .eq 21, 3) := dk_153 0 21 (dk_at dksX17_week_0 4 rfl rfl)
theorem dX17_week_7 : decode cX17_week 7 = .ok (.aload_n 0, 1) := dk_42 (dk_at dksX17_week_0 7 rfl rfl)
theorem dX17_week_8 : decode cX17_week 8 = .ok (.getfield 47, 3) := dk_180 0 47 (dk_at dksX17_week_0 8 rfl rfl)
theorem dX17_week_11 : decode cX17_week 11 = .ok (.bipush 84, 2) := dk_16 84 (dk_at dksX17_week_0 11 rfl rfl)
theorem dX17_week_13 : decode cX17_week 13 = .ok (.if_icmp .ne 12, 3) := dk_160 0 12 (dk_at dksX17_week_0 13 rfl rfl)
theorem dX17_week_16 : decode cX17_week 16 = .ok (.aload_n 0, 1) := dk_42 (dk_at dksX17_week_0 16 rfl rfl)
theorem dX17_week_17 : decode cX17_week 17 = .ok (.iconst 4, 1) := dk_7 (dk_at dksX17_week_0 17 rfl rfl)
theorem dX17_week_18 : decode cX17_week 18 = .ok (.aload_n 0, 1) := dk_42 (dk_at dksX17_week_0 18 rfl rfl)
theorem dX17_week_19 : decode cX17_week 19 = .ok (.getfield 23, 3) := dk_180 0 23 (dk_at dksX17_week_0 19 rfl rfl)
theorem dX17_week_22 : decode cX17_week 22 = .ok (.invokevirtual 50, 3) := dk_182 0 50 (dk_at dksX17_week_1 0 rfl rfl)
theorem dX17_week_25 : decode cX17_week 25 = .ok (.aload_n 0, 1) := dk_42 (dk_at dksX17_week_1 3 rfl rfl)
theorem dX17_week_26 : decode cX17_week 26 = .ok (.getfield 47, 3) := dk_180 0 47 (dk_at dksX17_week_1 4 rfl rfl)
theorem dX17_week_29 : decode cX17_week 29 = .ok (.bipush 7, 2) := dk_16 7 (dk_at dksX17_week_1 7 rfl rfl)
theorem dX17_week_31 : decode cX17_week 31 = .ok (.iadd, 1) := dk_96 (dk_at dksX17_week_1 9 rfl rfl)
theorem dX17_week_32 : decode cX17_week 32 = .ok (.istore_n 1, 1) := dk_60 (dk_at dksX17_week_1 10 rfl rfl)
theorem dX17_week_33 : decode cX17_week 33 = .ok (.aload_n 0, 1) := dk_42 (dk_at dksX17_week_1 11 rfl rfl)
theorem dX17_week_34 : decode cX17_week 34 = .ok (.invokevirtual 54, 3) := dk_182 0 54 (dk_at dksX17_week_1 12 rfl rfl)
theorem dX17_week_37 : decode cX17_week 37 = .ok (.ifCond .eq 19, 3) := dk_153 0 19 (dk_at dksX17_week_1 15 rfl rfl)
theorem dX17_week_40 : decode cX17_week 40 = .ok (.aload_n 0, 1) := dk_42 (dk_at dksX17_week_1 18 rfl rfl)
theorem dX17_week_41 : decode cX17_week 41 = .ok (.invokevirtual 61, 3) := dk_182 0 61 (dk_at dksX17_week_1 19 rfl rfl)
theorem dX17_week_44 : decode cX17_week 44 = .ok (.ifCond .ne 12, 3) := dk_154 0 12 (dk_at dksX17_week_2 0 rfl rfl)
theorem dX17_week_47 : decode cX17_week 47 = .ok (.aload_n 0, 1) := dk_42 (dk_at dksX17_week_2 3 rfl rfl)
theorem dX17_week_48 : decode cX17_week 48 = .ok (.iconst 1, 1) := dk_4 (dk_at dksX17_week_2 4 rfl rfl)
theorem dX17_week_49 : decode cX17_week 49 = .ok (.aload_n 0, 1) := dk_42 (dk_at dksX17_week_2 5 rfl rfl)
theorem dX17_week_50 : decode cX17_week 50 = .ok (.getfield 23, 3) := dk_180 0 23 (dk_at dksX17_week_2 6 rfl rfl)
theorem dX17_week_53 : decode cX17_week 53 = .ok (.invokevirtual 50, 3) := dk_182 0 50 (dk_at dksX17_week_2 9 rfl rfl)
theorem dX17_week_56 : decode cX17_week 56 = .ok (.aload_n 0, 1) := dk_42 (dk_at dksX17_week_2 12 rfl rfl)
theorem dX17_week_57 : decode cX17_week 57 = .ok (.invokevirtual 54, 3) := dk_182 0 54 (dk_at dksX17_week_2 13 rfl rfl)
theorem dX17_week_60 : decode cX17_week 60 = .ok (.ifCond .eq 19, 3) := dk_153 0 19 (dk_at dksX17_week_2 16 rfl rfl)
theorem dX17_week_63 : decode cX17_week 63 = .ok (.aload_n 0, 1) := dk_42 (dk_at dksX17_week_2 19 rfl rfl)
theorem dX17_week_64 : decode cX17_week 64 = .ok (.getfield 47, 3) := dk_180 0 47 (dk_at dksX17_week_2 20 rfl rfl)
theorem dX17_week_67 : decode cX17_week 67 = .ok (.iload_n 1, 1) := dk_27 (dk_at dksX17_week_2 23 rfl rfl)
theorem dX17_week_68 : decode cX17_week 68 = .ok (.if_icmp .ge 11, 3) := dk_162 0 11 (dk_at dksX17_week_3 0 rfl rfl)
theorem dX17_week_71 : decode cX17_week 71 = .ok (.aload_n 0, 1) := dk_42 (dk_at dksX17_week_3 3 rfl rfl)
theorem dX17_week_72 : decode cX17_week 72 = .ok (.iload_n 1, 1) := dk_27 (dk_at dksX17_week_3 4 rfl rfl)
theorem dX17_week_73 : decode cX17_week 73 = .ok (.invokevirtual 64, 3) := dk_182 0 64 (dk_at dksX17_week_3 5 rfl rfl)
theorem dX17_week_76 : decode cX17_week 76 = .ok (.goto (-20), 3) := dk_167 255 236 (dk_at dksX17_week_3 8 rfl rfl)
theorem dX17_week_79 : decode cX17_week 79 = .ok (.aload_n 0, 1) := dk_42 (dk_at dksX17_week_3 11 rfl rfl)
theorem dX17_week_80 : decode cX17_week 80 = .ok (.invokevirtual 54, 3) := dk_182 0 54 (dk_at dksX17_week_3 12 rfl rfl)
theorem dX17_week_83 : decode cX17_week 83 = .ok (.ifCond .eq 20, 3) := dk_153 0 20 (dk_at dksX17_week_3 15 rfl rfl)
theorem dX17_week_86 : decode cX17_week 86 = .ok (.aload_n 0, 1) := dk_42 (dk_at dksX17_week_3 18 rfl rfl)
theorem dX17_week_87 : decode cX17_week 87 = .ok (.invokevirtual 61, 3) := dk_182 0 61 (dk_at dksX17_week_3 19 rfl rfl)
theorem dX17_week_90 : decode cX17_week 90 = .ok (.ifCond .eq 13, 3) := dk_153 0 13 (dk_at dksX17_week_4 0 rfl rfl)
theorem dX17_week_93 : decode cX17_week 93 = .ok (.aload_n 0, 1) := dk_42 (dk_at dksX17_week_4 3 rfl rfl)
theorem dX17_week_94 : decode cX17_week 94 = .ok (.bipush 6, 2) := dk_16 6 (dk_at dksX17_week_4 4 rfl rfl)
theorem dX17_week_96 : decode cX17_week 96 = .ok (.aload_n 0, 1) := dk_42 (dk_at dksX17_week_4 6 rfl rfl)
theorem dX17_week_97 : decode cX17_week 97 = .ok (.getfield 23, 3) := dk_180 0 23 (dk_at dksX17_week_4 7 rfl rfl)
theorem dX17_week_100 : decode cX17_week 100 = .ok (.invokevirtual 50, 3) := dk_182 0 50 (dk_at dksX17_week_4 10 rfl rfl)
theorem dX17_week_103 : decode cX17_week 103 = .ok (.return_, 1) := dk_177 (dk_at dksX17_week_4 13 rfl rfl)
abbrev cX17_seesDays : ByteArray := prog_3_method_7_code
def yX17_seesDays : MethodName := ⟨RX17, "seesDays", "()Z"⟩
def dkwX17_seesDays_1 : List UInt8 := [167, 0, 4, 3, 172]
abbrev dktX17_seesDays_1 : List UInt8 := dkwX17_seesDays_1 ++ []
def dkwX17_seesDays_0 : List UInt8 := [42, 182, 0, 36, 16, 46, 159, 0, 17, 42, 182, 0, 40, 154, 0, 10, 42, 182, 0, 44, 153, 0, 7, 4]
abbrev dktX17_seesDays_0 : List UInt8 := dkwX17_seesDays_0 ++ dktX17_seesDays_1
theorem dksX17_seesDays_0 : cX17_seesDays.data.toList.drop 0 = dktX17_seesDays_0 := by decide +kernel
theorem dksX17_seesDays_1 : cX17_seesDays.data.toList.drop 24 = dktX17_seesDays_1 := dk_seg dksX17_seesDays_0 24 rfl rfl
theorem dX17_seesDays_0 : decode cX17_seesDays 0 = .ok (.aload_n 0, 1) := dk_42 (dk_at dksX17_seesDays_0 0 rfl rfl)
theorem dX17_seesDays_1 : decode cX17_seesDays 1 = .ok (.invokevirtual 36, 3) := dk_182 0 36 (dk_at dksX17_seesDays_0 1 rfl rfl)
theorem dX17_seesDays_4 : decode cX17_seesDays 4 = .ok (.bipush 46, 2) := dk_16 46 (dk_at dksX17_seesDays_0 4 rfl rfl)
theorem dX17_seesDays_6 : decode cX17_seesDays 6 = .ok (.if_icmp .eq 17, 3) := dk_159 0 17 (dk_at dksX17_seesDays_0 6 rfl rfl)
theorem dX17_seesDays_9 : decode cX17_seesDays 9 = .ok (.aload_n 0, 1) := dk_42 (dk_at dksX17_seesDays_0 9 rfl rfl)
theorem dX17_seesDays_10 : decode cX17_seesDays 10 = .ok (.invokevirtual 40, 3) := dk_182 0 40 (dk_at dksX17_seesDays_0 10 rfl rfl)
theorem dX17_seesDays_13 : decode cX17_seesDays 13 = .ok (.ifCond .ne 10, 3) := dk_154 0 10 (dk_at dksX17_seesDays_0 13 rfl rfl)
theorem dX17_seesDays_16 : decode cX17_seesDays 16 = .ok (.aload_n 0, 1) := dk_42 (dk_at dksX17_seesDays_0 16 rfl rfl)
theorem dX17_seesDays_17 : decode cX17_seesDays 17 = .ok (.invokevirtual 44, 3) := dk_182 0 44 (dk_at dksX17_seesDays_0 17 rfl rfl)
theorem dX17_seesDays_20 : decode cX17_seesDays 20 = .ok (.ifCond .eq 7, 3) := dk_153 0 7 (dk_at dksX17_seesDays_0 20 rfl rfl)
theorem dX17_seesDays_23 : decode cX17_seesDays 23 = .ok (.iconst 1, 1) := dk_4 (dk_at dksX17_seesDays_0 23 rfl rfl)
theorem dX17_seesDays_24 : decode cX17_seesDays 24 = .ok (.goto 4, 3) := dk_167 0 4 (dk_at dksX17_seesDays_1 0 rfl rfl)
theorem dX17_seesDays_27 : decode cX17_seesDays 27 = .ok (.iconst 0, 1) := dk_3 (dk_at dksX17_seesDays_1 3 rfl rfl)
theorem dX17_seesDays_28 : decode cX17_seesDays 28 = .ok (.ireturn, 1) := dk_172 (dk_at dksX17_seesDays_1 4 rfl rfl)
abbrev cX17_here : ByteArray := prog_3_method_2_code
def yX17_here : MethodName := ⟨RX17, "here", "()I"⟩
def dkwX17_here_1 : List UInt8 := [17, 0, 255, 126, 167, 0, 4, 3, 172]
abbrev dktX17_here_1 : List UInt8 := dkwX17_here_1 ++ []
def dkwX17_here_0 : List UInt8 := [42, 180, 0, 23, 42, 180, 0, 19, 162, 0, 22, 42, 180, 0, 3, 180, 0, 26, 42, 180, 0, 23, 51]
abbrev dktX17_here_0 : List UInt8 := dkwX17_here_0 ++ dktX17_here_1
theorem dksX17_here_0 : cX17_here.data.toList.drop 0 = dktX17_here_0 := by decide +kernel
theorem dksX17_here_1 : cX17_here.data.toList.drop 23 = dktX17_here_1 := dk_seg dksX17_here_0 23 rfl rfl
theorem dX17_here_0 : decode cX17_here 0 = .ok (.aload_n 0, 1) := dk_42 (dk_at dksX17_here_0 0 rfl rfl)
theorem dX17_here_1 : decode cX17_here 1 = .ok (.getfield 23, 3) := dk_180 0 23 (dk_at dksX17_here_0 1 rfl rfl)
theorem dX17_here_4 : decode cX17_here 4 = .ok (.aload_n 0, 1) := dk_42 (dk_at dksX17_here_0 4 rfl rfl)
theorem dX17_here_5 : decode cX17_here 5 = .ok (.getfield 19, 3) := dk_180 0 19 (dk_at dksX17_here_0 5 rfl rfl)
theorem dX17_here_8 : decode cX17_here 8 = .ok (.if_icmp .ge 22, 3) := dk_162 0 22 (dk_at dksX17_here_0 8 rfl rfl)
theorem dX17_here_11 : decode cX17_here 11 = .ok (.aload_n 0, 1) := dk_42 (dk_at dksX17_here_0 11 rfl rfl)
theorem dX17_here_12 : decode cX17_here 12 = .ok (.getfield 3, 3) := dk_180 0 3 (dk_at dksX17_here_0 12 rfl rfl)
theorem dX17_here_15 : decode cX17_here 15 = .ok (.getfield 26, 3) := dk_180 0 26 (dk_at dksX17_here_0 15 rfl rfl)
theorem dX17_here_18 : decode cX17_here 18 = .ok (.aload_n 0, 1) := dk_42 (dk_at dksX17_here_0 18 rfl rfl)
theorem dX17_here_19 : decode cX17_here 19 = .ok (.getfield 23, 3) := dk_180 0 23 (dk_at dksX17_here_0 19 rfl rfl)
theorem dX17_here_22 : decode cX17_here 22 = .ok (.baload, 1) := dk_51 (dk_at dksX17_here_0 22 rfl rfl)
theorem dX17_here_23 : decode cX17_here 23 = .ok (.sipush 255, 3) := dk_17 0 255 (dk_at dksX17_here_1 0 rfl rfl)
theorem dX17_here_26 : decode cX17_here 26 = .ok (.iand, 1) := dk_126 (dk_at dksX17_here_1 3 rfl rfl)
theorem dX17_here_27 : decode cX17_here 27 = .ok (.goto 4, 3) := dk_167 0 4 (dk_at dksX17_here_1 4 rfl rfl)
theorem dX17_here_30 : decode cX17_here 30 = .ok (.iconst 0, 1) := dk_3 (dk_at dksX17_here_1 7 rfl rfl)
theorem dX17_here_31 : decode cX17_here 31 = .ok (.ireturn, 1) := dk_172 (dk_at dksX17_here_1 8 rfl rfl)
abbrev cX17_seesPerson : ByteArray := prog_3_method_6_code
def yX17_seesPerson : MethodName := ⟨RX17, "seesPerson", "()Z"⟩
def dkwX17_seesPerson_0 : List UInt8 := [42, 182, 0, 36, 16, 97, 161, 0, 16, 42, 182, 0, 36, 16, 105, 162, 0, 7, 4, 167, 0, 4, 3, 172]
abbrev dktX17_seesPerson_0 : List UInt8 := dkwX17_seesPerson_0 ++ []
theorem dksX17_seesPerson_0 : cX17_seesPerson.data.toList.drop 0 = dktX17_seesPerson_0 := by decide +kernel
theorem dX17_seesPerson_0 : decode cX17_seesPerson 0 = .ok (.aload_n 0, 1) := dk_42 (dk_at dksX17_seesPerson_0 0 rfl rfl)
theorem dX17_seesPerson_1 : decode cX17_seesPerson 1 = .ok (.invokevirtual 36, 3) := dk_182 0 36 (dk_at dksX17_seesPerson_0 1 rfl rfl)
theorem dX17_seesPerson_4 : decode cX17_seesPerson 4 = .ok (.bipush 97, 2) := dk_16 97 (dk_at dksX17_seesPerson_0 4 rfl rfl)
theorem dX17_seesPerson_6 : decode cX17_seesPerson 6 = .ok (.if_icmp .lt 16, 3) := dk_161 0 16 (dk_at dksX17_seesPerson_0 6 rfl rfl)
theorem dX17_seesPerson_9 : decode cX17_seesPerson 9 = .ok (.aload_n 0, 1) := dk_42 (dk_at dksX17_seesPerson_0 9 rfl rfl)
theorem dX17_seesPerson_10 : decode cX17_seesPerson 10 = .ok (.invokevirtual 36, 3) := dk_182 0 36 (dk_at dksX17_seesPerson_0 10 rfl rfl)
theorem dX17_seesPerson_13 : decode cX17_seesPerson 13 = .ok (.bipush 105, 2) := dk_16 105 (dk_at dksX17_seesPerson_0 13 rfl rfl)
theorem dX17_seesPerson_15 : decode cX17_seesPerson 15 = .ok (.if_icmp .ge 7, 3) := dk_162 0 7 (dk_at dksX17_seesPerson_0 15 rfl rfl)
theorem dX17_seesPerson_18 : decode cX17_seesPerson 18 = .ok (.iconst 1, 1) := dk_4 (dk_at dksX17_seesPerson_0 18 rfl rfl)
theorem dX17_seesPerson_19 : decode cX17_seesPerson 19 = .ok (.goto 4, 3) := dk_167 0 4 (dk_at dksX17_seesPerson_0 19 rfl rfl)
theorem dX17_seesPerson_22 : decode cX17_seesPerson 22 = .ok (.iconst 0, 1) := dk_3 (dk_at dksX17_seesPerson_0 22 rfl rfl)
theorem dX17_seesPerson_23 : decode cX17_seesPerson 23 = .ok (.ireturn, 1) := dk_172 (dk_at dksX17_seesPerson_0 23 rfl rfl)
abbrev cX17_seesNumber : ByteArray := prog_3_method_5_code
def yX17_seesNumber : MethodName := ⟨RX17, "seesNumber", "()Z"⟩
def dkwX17_seesNumber_0 : List UInt8 := [42, 182, 0, 36, 16, 50, 161, 0, 16, 42, 182, 0, 36, 16, 55, 163, 0, 7, 4, 167, 0, 4, 3, 172]
abbrev dktX17_seesNumber_0 : List UInt8 := dkwX17_seesNumber_0 ++ []
theorem dksX17_seesNumber_0 : cX17_seesNumber.data.toList.drop 0 = dktX17_seesNumber_0 := by decide +kernel
theorem dX17_seesNumber_0 : decode cX17_seesNumber 0 = .ok (.aload_n 0, 1) := dk_42 (dk_at dksX17_seesNumber_0 0 rfl rfl)
theorem dX17_seesNumber_1 : decode cX17_seesNumber 1 = .ok (.invokevirtual 36, 3) := dk_182 0 36 (dk_at dksX17_seesNumber_0 1 rfl rfl)
theorem dX17_seesNumber_4 : decode cX17_seesNumber 4 = .ok (.bipush 50, 2) := dk_16 50 (dk_at dksX17_seesNumber_0 4 rfl rfl)
theorem dX17_seesNumber_6 : decode cX17_seesNumber 6 = .ok (.if_icmp .lt 16, 3) := dk_161 0 16 (dk_at dksX17_seesNumber_0 6 rfl rfl)
theorem dX17_seesNumber_9 : decode cX17_seesNumber 9 = .ok (.aload_n 0, 1) := dk_42 (dk_at dksX17_seesNumber_0 9 rfl rfl)
theorem dX17_seesNumber_10 : decode cX17_seesNumber 10 = .ok (.invokevirtual 36, 3) := dk_182 0 36 (dk_at dksX17_seesNumber_0 10 rfl rfl)
theorem dX17_seesNumber_13 : decode cX17_seesNumber 13 = .ok (.bipush 55, 2) := dk_16 55 (dk_at dksX17_seesNumber_0 13 rfl rfl)
theorem dX17_seesNumber_15 : decode cX17_seesNumber 15 = .ok (.if_icmp .gt 7, 3) := dk_163 0 7 (dk_at dksX17_seesNumber_0 15 rfl rfl)
theorem dX17_seesNumber_18 : decode cX17_seesNumber 18 = .ok (.iconst 1, 1) := dk_4 (dk_at dksX17_seesNumber_0 18 rfl rfl)
theorem dX17_seesNumber_19 : decode cX17_seesNumber 19 = .ok (.goto 4, 3) := dk_167 0 4 (dk_at dksX17_seesNumber_0 19 rfl rfl)
theorem dX17_seesNumber_22 : decode cX17_seesNumber 22 = .ok (.iconst 0, 1) := dk_3 (dk_at dksX17_seesNumber_0 22 rfl rfl)
theorem dX17_seesNumber_23 : decode cX17_seesNumber 23 = .ok (.ireturn, 1) := dk_172 (dk_at dksX17_seesNumber_0 23 rfl rfl)
abbrev cX17_bad : ByteArray := prog_3_method_3_code
def yX17_bad : MethodName := ⟨RX17, "bad", "(II)V"⟩
def dkwX17_bad_0 : List UInt8 := [42, 180, 0, 30, 158, 0, 4, 177, 42, 27, 181, 0, 30, 42, 28, 181, 0, 33, 177]
abbrev dktX17_bad_0 : List UInt8 := dkwX17_bad_0 ++ []
theorem dksX17_bad_0 : cX17_bad.data.toList.drop 0 = dktX17_bad_0 := by decide +kernel
theorem dX17_bad_0 : decode cX17_bad 0 = .ok (.aload_n 0, 1) := dk_42 (dk_at dksX17_bad_0 0 rfl rfl)
theorem dX17_bad_1 : decode cX17_bad 1 = .ok (.getfield 30, 3) := dk_180 0 30 (dk_at dksX17_bad_0 1 rfl rfl)
theorem dX17_bad_4 : decode cX17_bad 4 = .ok (.ifCond .le 4, 3) := dk_158 0 4 (dk_at dksX17_bad_0 4 rfl rfl)
theorem dX17_bad_7 : decode cX17_bad 7 = .ok (.return_, 1) := dk_177 (dk_at dksX17_bad_0 7 rfl rfl)
theorem dX17_bad_8 : decode cX17_bad 8 = .ok (.aload_n 0, 1) := dk_42 (dk_at dksX17_bad_0 8 rfl rfl)
theorem dX17_bad_9 : decode cX17_bad 9 = .ok (.iload_n 1, 1) := dk_27 (dk_at dksX17_bad_0 9 rfl rfl)
theorem dX17_bad_10 : decode cX17_bad 10 = .ok (.putfield 30, 3) := dk_181 0 30 (dk_at dksX17_bad_0 10 rfl rfl)
theorem dX17_bad_13 : decode cX17_bad 13 = .ok (.aload_n 0, 1) := dk_42 (dk_at dksX17_bad_0 13 rfl rfl)
theorem dX17_bad_14 : decode cX17_bad 14 = .ok (.iload_n 2, 1) := dk_28 (dk_at dksX17_bad_0 14 rfl rfl)
theorem dX17_bad_15 : decode cX17_bad 15 = .ok (.putfield 33, 3) := dk_181 0 33 (dk_at dksX17_bad_0 15 rfl rfl)
theorem dX17_bad_18 : decode cX17_bad 18 = .ok (.return_, 1) := dk_177 (dk_at dksX17_bad_0 18 rfl rfl)
abbrev cX17_isGood : ByteArray := prog_3_method_4_code
def yX17_isGood : MethodName := ⟨RX17, "isGood", "()Z"⟩
def dkwX17_isGood_0 : List UInt8 := [42, 180, 0, 30, 154, 0, 7, 4, 167, 0, 4, 3, 172]
abbrev dktX17_isGood_0 : List UInt8 := dkwX17_isGood_0 ++ []
theorem dksX17_isGood_0 : cX17_isGood.data.toList.drop 0 = dktX17_isGood_0 := by decide +kernel
theorem dX17_isGood_0 : decode cX17_isGood 0 = .ok (.aload_n 0, 1) := dk_42 (dk_at dksX17_isGood_0 0 rfl rfl)
theorem dX17_isGood_1 : decode cX17_isGood 1 = .ok (.getfield 30, 3) := dk_180 0 30 (dk_at dksX17_isGood_0 1 rfl rfl)
theorem dX17_isGood_4 : decode cX17_isGood 4 = .ok (.ifCond .ne 7, 3) := dk_154 0 7 (dk_at dksX17_isGood_0 4 rfl rfl)
theorem dX17_isGood_7 : decode cX17_isGood 7 = .ok (.iconst 1, 1) := dk_4 (dk_at dksX17_isGood_0 7 rfl rfl)
theorem dX17_isGood_8 : decode cX17_isGood 8 = .ok (.goto 4, 3) := dk_167 0 4 (dk_at dksX17_isGood_0 8 rfl rfl)
theorem dX17_isGood_11 : decode cX17_isGood 11 = .ok (.iconst 0, 1) := dk_3 (dk_at dksX17_isGood_0 11 rfl rfl)
theorem dX17_isGood_12 : decode cX17_isGood 12 = .ok (.ireturn, 1) := dk_172 (dk_at dksX17_isGood_0 12 rfl rfl)
abbrev cX17_days : ByteArray := prog_3_method_8_code
def yX17_days : MethodName := ⟨RX17, "days", "(I)V"⟩
def dkwX17_days_7 : List UInt8 := [79, 42, 89, 180, 0, 47, 4, 96, 181, 0, 47, 132, 4, 1, 167, 255, 220, 177]
abbrev dktX17_days_7 : List UInt8 := dkwX17_days_7 ++ []
def dkwX17_days_6 : List UInt8 := [54, 4, 21, 4, 28, 162, 0, 36, 42, 182, 0, 54, 153, 0, 29, 42, 180, 0, 15, 42, 180, 0, 47, 29]
abbrev dktX17_days_6 : List UInt8 := dkwX17_days_6 ++ dktX17_days_7
def dkwX17_days_5 : List UInt8 := [154, 0, 13, 42, 16, 7, 42, 180, 0, 23, 182, 0, 50, 42, 89, 180, 0, 23, 4, 96, 181, 0, 23, 3]
abbrev dktX17_days_5 : List UInt8 := dkwX17_days_5 ++ dktX17_days_6
def dkwX17_days_4 : List UInt8 := [16, 97, 100, 62, 42, 182, 0, 54, 153, 0, 29, 29, 2, 159, 0, 24, 42, 180, 0, 3, 29, 182, 0, 57]
abbrev dktX17_days_4 : List UInt8 := dkwX17_days_4 ++ dktX17_days_5
def dkwX17_days_3 : List UInt8 := [42, 180, 0, 23, 182, 0, 50, 42, 182, 0, 36, 16, 46, 160, 0, 7, 2, 167, 0, 10, 42, 182, 0, 36]
abbrev dktX17_days_3 : List UInt8 := dkwX17_days_3 ++ dktX17_days_4
def dkwX17_days_2 : List UInt8 := [182, 0, 54, 153, 0, 28, 42, 182, 0, 36, 16, 46, 159, 0, 19, 42, 182, 0, 40, 154, 0, 12, 42, 4]
abbrev dktX17_days_2 : List UInt8 := dkwX17_days_2 ++ dktX17_days_3
def dkwX17_days_1 : List UInt8 := [164, 0, 13, 42, 16, 6, 42, 180, 0, 23, 182, 0, 50, 42, 89, 180, 0, 23, 4, 96, 181, 0, 23, 42]
abbrev dktX17_days_1 : List UInt8 := dkwX17_days_1 ++ dktX17_days_2
def dkwX17_days_0 : List UInt8 := [4, 61, 42, 182, 0, 44, 153, 0, 41, 42, 182, 0, 36, 16, 48, 100, 61, 42, 180, 0, 47, 28, 96, 27]
abbrev dktX17_days_0 : List UInt8 := dkwX17_days_0 ++ dktX17_days_1
theorem dksX17_days_0 : cX17_days.data.toList.drop 0 = dktX17_days_0 := by decide +kernel
theorem dksX17_days_1 : cX17_days.data.toList.drop 24 = dktX17_days_1 := dk_seg dksX17_days_0 24 rfl rfl
theorem dksX17_days_2 : cX17_days.data.toList.drop 48 = dktX17_days_2 := dk_seg dksX17_days_1 24 rfl rfl
theorem dksX17_days_3 : cX17_days.data.toList.drop 72 = dktX17_days_3 := dk_seg dksX17_days_2 24 rfl rfl
theorem dksX17_days_4 : cX17_days.data.toList.drop 96 = dktX17_days_4 := dk_seg dksX17_days_3 24 rfl rfl
theorem dksX17_days_5 : cX17_days.data.toList.drop 120 = dktX17_days_5 := dk_seg dksX17_days_4 24 rfl rfl
theorem dksX17_days_6 : cX17_days.data.toList.drop 144 = dktX17_days_6 := dk_seg dksX17_days_5 24 rfl rfl
theorem dksX17_days_7 : cX17_days.data.toList.drop 168 = dktX17_days_7 := dk_seg dksX17_days_6 24 rfl rfl
theorem dX17_days_0 : decode cX17_days 0 = .ok (.iconst 1, 1) := dk_4 (dk_at dksX17_days_0 0 rfl rfl)
theorem dX17_days_1 : decode cX17_days 1 = .ok (.istore_n 2, 1) := dk_61 (dk_at dksX17_days_0 1 rfl rfl)
theorem dX17_days_2 : decode cX17_days 2 = .ok (.aload_n 0, 1) := dk_42 (dk_at dksX17_days_0 2 rfl rfl)
theorem dX17_days_3 : decode cX17_days 3 = .ok (.invokevirtual 44, 3) := dk_182 0 44 (dk_at dksX17_days_0 3 rfl rfl)
theorem dX17_days_6 : decode cX17_days 6 = .ok (.ifCond .eq 41, 3) := dk_153 0 41 (dk_at dksX17_days_0 6 rfl rfl)
theorem dX17_days_9 : decode cX17_days 9 = .ok (.aload_n 0, 1) := dk_42 (dk_at dksX17_days_0 9 rfl rfl)
theorem dX17_days_10 : decode cX17_days 10 = .ok (.invokevirtual 36, 3) := dk_182 0 36 (dk_at dksX17_days_0 10 rfl rfl)
theorem dX17_days_13 : decode cX17_days 13 = .ok (.bipush 48, 2) := dk_16 48 (dk_at dksX17_days_0 13 rfl rfl)
theorem dX17_days_15 : decode cX17_days 15 = .ok (.isub, 1) := dk_100 (dk_at dksX17_days_0 15 rfl rfl)
theorem dX17_days_16 : decode cX17_days 16 = .ok (.istore_n 2, 1) := dk_61 (dk_at dksX17_days_0 16 rfl rfl)
theorem dX17_days_17 : decode cX17_days 17 = .ok (.aload_n 0, 1) := dk_42 (dk_at dksX17_days_0 17 rfl rfl)
theorem dX17_days_18 : decode cX17_days 18 = .ok (.getfield 47, 3) := dk_180 0 47 (dk_at dksX17_days_0 18 rfl rfl)
theorem dX17_days_21 : decode cX17_days 21 = .ok (.iload_n 2, 1) := dk_28 (dk_at dksX17_days_0 21 rfl rfl)
theorem dX17_days_22 : decode cX17_days 22 = .ok (.iadd, 1) := dk_96 (dk_at dksX17_days_0 22 rfl rfl)
theorem dX17_days_23 : decode cX17_days 23 = .ok (.iload_n 1, 1) := dk_27 (dk_at dksX17_days_0 23 rfl rfl)
theorem dX17_days_24 : decode cX17_days 24 = .ok (.if_icmp .le 13, 3) := dk_164 0 13 (dk_at dksX17_days_1 0 rfl rfl)
theorem dX17_days_27 : decode cX17_days 27 = .ok (.aload_n 0, 1) := dk_42 (dk_at dksX17_days_1 3 rfl rfl)
theorem dX17_days_28 : decode cX17_days 28 = .ok (.bipush 6, 2) := dk_16 6 (dk_at dksX17_days_1 4 rfl rfl)
theorem dX17_days_30 : decode cX17_days 30 = .ok (.aload_n 0, 1) := dk_42 (dk_at dksX17_days_1 6 rfl rfl)
theorem dX17_days_31 : decode cX17_days 31 = .ok (.getfield 23, 3) := dk_180 0 23 (dk_at dksX17_days_1 7 rfl rfl)
theorem dX17_days_34 : decode cX17_days 34 = .ok (.invokevirtual 50, 3) := dk_182 0 50 (dk_at dksX17_days_1 10 rfl rfl)
theorem dX17_days_37 : decode cX17_days 37 = .ok (.aload_n 0, 1) := dk_42 (dk_at dksX17_days_1 13 rfl rfl)
theorem dX17_days_38 : decode cX17_days 38 = .ok (.dup, 1) := dk_89 (dk_at dksX17_days_1 14 rfl rfl)
theorem dX17_days_39 : decode cX17_days 39 = .ok (.getfield 23, 3) := dk_180 0 23 (dk_at dksX17_days_1 15 rfl rfl)
theorem dX17_days_42 : decode cX17_days 42 = .ok (.iconst 1, 1) := dk_4 (dk_at dksX17_days_1 18 rfl rfl)
theorem dX17_days_43 : decode cX17_days 43 = .ok (.iadd, 1) := dk_96 (dk_at dksX17_days_1 19 rfl rfl)
theorem dX17_days_44 : decode cX17_days 44 = .ok (.putfield 23, 3) := dk_181 0 23 (dk_at dksX17_days_1 20 rfl rfl)
theorem dX17_days_47 : decode cX17_days 47 = .ok (.aload_n 0, 1) := dk_42 (dk_at dksX17_days_1 23 rfl rfl)
theorem dX17_days_48 : decode cX17_days 48 = .ok (.invokevirtual 54, 3) := dk_182 0 54 (dk_at dksX17_days_2 0 rfl rfl)
theorem dX17_days_51 : decode cX17_days 51 = .ok (.ifCond .eq 28, 3) := dk_153 0 28 (dk_at dksX17_days_2 3 rfl rfl)
theorem dX17_days_54 : decode cX17_days 54 = .ok (.aload_n 0, 1) := dk_42 (dk_at dksX17_days_2 6 rfl rfl)
theorem dX17_days_55 : decode cX17_days 55 = .ok (.invokevirtual 36, 3) := dk_182 0 36 (dk_at dksX17_days_2 7 rfl rfl)
theorem dX17_days_58 : decode cX17_days 58 = .ok (.bipush 46, 2) := dk_16 46 (dk_at dksX17_days_2 10 rfl rfl)
theorem dX17_days_60 : decode cX17_days 60 = .ok (.if_icmp .eq 19, 3) := dk_159 0 19 (dk_at dksX17_days_2 12 rfl rfl)
theorem dX17_days_63 : decode cX17_days 63 = .ok (.aload_n 0, 1) := dk_42 (dk_at dksX17_days_2 15 rfl rfl)
theorem dX17_days_64 : decode cX17_days 64 = .ok (.invokevirtual 40, 3) := dk_182 0 40 (dk_at dksX17_days_2 16 rfl rfl)
theorem dX17_days_67 : decode cX17_days 67 = .ok (.ifCond .ne 12, 3) := dk_154 0 12 (dk_at dksX17_days_2 19 rfl rfl)
theorem dX17_days_70 : decode cX17_days 70 = .ok (.aload_n 0, 1) := dk_42 (dk_at dksX17_days_2 22 rfl rfl)
theorem dX17_days_71 : decode cX17_days 71 = .ok (.iconst 1, 1) := dk_4 (dk_at dksX17_days_2 23 rfl rfl)
theorem dX17_days_72 : decode cX17_days 72 = .ok (.aload_n 0, 1) := dk_42 (dk_at dksX17_days_3 0 rfl rfl)
theorem dX17_days_73 : decode cX17_days 73 = .ok (.getfield 23, 3) := dk_180 0 23 (dk_at dksX17_days_3 1 rfl rfl)
theorem dX17_days_76 : decode cX17_days 76 = .ok (.invokevirtual 50, 3) := dk_182 0 50 (dk_at dksX17_days_3 4 rfl rfl)
theorem dX17_days_79 : decode cX17_days 79 = .ok (.aload_n 0, 1) := dk_42 (dk_at dksX17_days_3 7 rfl rfl)
theorem dX17_days_80 : decode cX17_days 80 = .ok (.invokevirtual 36, 3) := dk_182 0 36 (dk_at dksX17_days_3 8 rfl rfl)
theorem dX17_days_83 : decode cX17_days 83 = .ok (.bipush 46, 2) := dk_16 46 (dk_at dksX17_days_3 11 rfl rfl)
theorem dX17_days_85 : decode cX17_days 85 = .ok (.if_icmp .ne 7, 3) := dk_160 0 7 (dk_at dksX17_days_3 13 rfl rfl)
theorem dX17_days_88 : decode cX17_days 88 = .ok (.iconst (-1), 1) := dk_2 (dk_at dksX17_days_3 16 rfl rfl)
theorem dX17_days_89 : decode cX17_days 89 = .ok (.goto 10, 3) := dk_167 0 10 (dk_at dksX17_days_3 17 rfl rfl)
theorem dX17_days_92 : decode cX17_days 92 = .ok (.aload_n 0, 1) := dk_42 (dk_at dksX17_days_3 20 rfl rfl)
theorem dX17_days_93 : decode cX17_days 93 = .ok (.invokevirtual 36, 3) := dk_182 0 36 (dk_at dksX17_days_3 21 rfl rfl)
theorem dX17_days_96 : decode cX17_days 96 = .ok (.bipush 97, 2) := dk_16 97 (dk_at dksX17_days_4 0 rfl rfl)
theorem dX17_days_98 : decode cX17_days 98 = .ok (.isub, 1) := dk_100 (dk_at dksX17_days_4 2 rfl rfl)
theorem dX17_days_99 : decode cX17_days 99 = .ok (.istore_n 3, 1) := dk_62 (dk_at dksX17_days_4 3 rfl rfl)
theorem dX17_days_100 : decode cX17_days 100 = .ok (.aload_n 0, 1) := dk_42 (dk_at dksX17_days_4 4 rfl rfl)
theorem dX17_days_101 : decode cX17_days 101 = .ok (.invokevirtual 54, 3) := dk_182 0 54 (dk_at dksX17_days_4 5 rfl rfl)
theorem dX17_days_104 : decode cX17_days 104 = .ok (.ifCond .eq 29, 3) := dk_153 0 29 (dk_at dksX17_days_4 8 rfl rfl)
theorem dX17_days_107 : decode cX17_days 107 = .ok (.iload_n 3, 1) := dk_29 (dk_at dksX17_days_4 11 rfl rfl)
theorem dX17_days_108 : decode cX17_days 108 = .ok (.iconst (-1), 1) := dk_2 (dk_at dksX17_days_4 12 rfl rfl)
theorem dX17_days_109 : decode cX17_days 109 = .ok (.if_icmp .eq 24, 3) := dk_159 0 24 (dk_at dksX17_days_4 13 rfl rfl)
theorem dX17_days_112 : decode cX17_days 112 = .ok (.aload_n 0, 1) := dk_42 (dk_at dksX17_days_4 16 rfl rfl)
theorem dX17_days_113 : decode cX17_days 113 = .ok (.getfield 3, 3) := dk_180 0 3 (dk_at dksX17_days_4 17 rfl rfl)
theorem dX17_days_116 : decode cX17_days 116 = .ok (.iload_n 3, 1) := dk_29 (dk_at dksX17_days_4 20 rfl rfl)
theorem dX17_days_117 : decode cX17_days 117 = .ok (.invokevirtual 57, 3) := dk_182 0 57 (dk_at dksX17_days_4 21 rfl rfl)
theorem dX17_days_120 : decode cX17_days 120 = .ok (.ifCond .ne 13, 3) := dk_154 0 13 (dk_at dksX17_days_5 0 rfl rfl)
theorem dX17_days_123 : decode cX17_days 123 = .ok (.aload_n 0, 1) := dk_42 (dk_at dksX17_days_5 3 rfl rfl)
theorem dX17_days_124 : decode cX17_days 124 = .ok (.bipush 7, 2) := dk_16 7 (dk_at dksX17_days_5 4 rfl rfl)
theorem dX17_days_126 : decode cX17_days 126 = .ok (.aload_n 0, 1) := dk_42 (dk_at dksX17_days_5 6 rfl rfl)
theorem dX17_days_127 : decode cX17_days 127 = .ok (.getfield 23, 3) := dk_180 0 23 (dk_at dksX17_days_5 7 rfl rfl)
theorem dX17_days_130 : decode cX17_days 130 = .ok (.invokevirtual 50, 3) := dk_182 0 50 (dk_at dksX17_days_5 10 rfl rfl)
theorem dX17_days_133 : decode cX17_days 133 = .ok (.aload_n 0, 1) := dk_42 (dk_at dksX17_days_5 13 rfl rfl)
theorem dX17_days_134 : decode cX17_days 134 = .ok (.dup, 1) := dk_89 (dk_at dksX17_days_5 14 rfl rfl)
theorem dX17_days_135 : decode cX17_days 135 = .ok (.getfield 23, 3) := dk_180 0 23 (dk_at dksX17_days_5 15 rfl rfl)
theorem dX17_days_138 : decode cX17_days 138 = .ok (.iconst 1, 1) := dk_4 (dk_at dksX17_days_5 18 rfl rfl)
theorem dX17_days_139 : decode cX17_days 139 = .ok (.iadd, 1) := dk_96 (dk_at dksX17_days_5 19 rfl rfl)
theorem dX17_days_140 : decode cX17_days 140 = .ok (.putfield 23, 3) := dk_181 0 23 (dk_at dksX17_days_5 20 rfl rfl)
theorem dX17_days_143 : decode cX17_days 143 = .ok (.iconst 0, 1) := dk_3 (dk_at dksX17_days_5 23 rfl rfl)
theorem dX17_days_144 : decode cX17_days 144 = .ok (.istore 4, 2) := dk_54 4 (dk_at dksX17_days_6 0 rfl rfl)
theorem dX17_days_146 : decode cX17_days 146 = .ok (.iload 4, 2) := dk_21 4 (dk_at dksX17_days_6 2 rfl rfl)
theorem dX17_days_148 : decode cX17_days 148 = .ok (.iload_n 2, 1) := dk_28 (dk_at dksX17_days_6 4 rfl rfl)
theorem dX17_days_149 : decode cX17_days 149 = .ok (.if_icmp .ge 36, 3) := dk_162 0 36 (dk_at dksX17_days_6 5 rfl rfl)
theorem dX17_days_152 : decode cX17_days 152 = .ok (.aload_n 0, 1) := dk_42 (dk_at dksX17_days_6 8 rfl rfl)
theorem dX17_days_153 : decode cX17_days 153 = .ok (.invokevirtual 54, 3) := dk_182 0 54 (dk_at dksX17_days_6 9 rfl rfl)
theorem dX17_days_156 : decode cX17_days 156 = .ok (.ifCond .eq 29, 3) := dk_153 0 29 (dk_at dksX17_days_6 12 rfl rfl)
theorem dX17_days_159 : decode cX17_days 159 = .ok (.aload_n 0, 1) := dk_42 (dk_at dksX17_days_6 15 rfl rfl)
theorem dX17_days_160 : decode cX17_days 160 = .ok (.getfield 15, 3) := dk_180 0 15 (dk_at dksX17_days_6 16 rfl rfl)
theorem dX17_days_163 : decode cX17_days 163 = .ok (.aload_n 0, 1) := dk_42 (dk_at dksX17_days_6 19 rfl rfl)
theorem dX17_days_164 : decode cX17_days 164 = .ok (.getfield 47, 3) := dk_180 0 47 (dk_at dksX17_days_6 20 rfl rfl)
theorem dX17_days_167 : decode cX17_days 167 = .ok (.iload_n 3, 1) := dk_29 (dk_at dksX17_days_6 23 rfl rfl)
theorem dX17_days_168 : decode cX17_days 168 = .ok (.iastore, 1) := dk_79 (dk_at dksX17_days_7 0 rfl rfl)
theorem dX17_days_169 : decode cX17_days 169 = .ok (.aload_n 0, 1) := dk_42 (dk_at dksX17_days_7 1 rfl rfl)
theorem dX17_days_170 : decode cX17_days 170 = .ok (.dup, 1) := dk_89 (dk_at dksX17_days_7 2 rfl rfl)
theorem dX17_days_171 : decode cX17_days 171 = .ok (.getfield 47, 3) := dk_180 0 47 (dk_at dksX17_days_7 3 rfl rfl)
theorem dX17_days_174 : decode cX17_days 174 = .ok (.iconst 1, 1) := dk_4 (dk_at dksX17_days_7 6 rfl rfl)
theorem dX17_days_175 : decode cX17_days 175 = .ok (.iadd, 1) := dk_96 (dk_at dksX17_days_7 7 rfl rfl)
theorem dX17_days_176 : decode cX17_days 176 = .ok (.putfield 47, 3) := dk_181 0 47 (dk_at dksX17_days_7 8 rfl rfl)
theorem dX17_days_179 : decode cX17_days 179 = .ok (.iinc 4 1, 3) := dk_132 4 1 (dk_at dksX17_days_7 11 rfl rfl)
theorem dX17_days_182 : decode cX17_days 182 = .ok (.goto (-36), 3) := dk_167 255 220 (dk_at dksX17_days_7 14 rfl rfl)
theorem dX17_days_185 : decode cX17_days 185 = .ok (.return_, 1) := dk_177 (dk_at dksX17_days_7 17 rfl rfl)
theorem q129 : (Jvm.Cond.initialized "LandingTree$Clerk") ∈ lw_all := lw_g (lw_at lw_m1 25 rfl) rfl
theorem q355 : (Jvm.Cond.fieldLinkNest "LandingTree$Clerk" (26 : Nat) "LandingTree" "tape" "[B" "LandingTree") ∈ lw_tbl := lw_at lw_m2 11 rfl
theorem q1075 : (Jvm.Cond.instantiable "LandingTree$Clerk" (7 : Nat)) ∈ lw_all := lw_g (lw_at lw_m5 11 rfl) rfl
theorem q1077 : (Jvm.Cond.instanceMethod ({ cls := "LandingTree$Clerk", name := "<init>", desc := "(LLandingTree;I)V" } : Jvm.MethodName)) ∈ lw_all := lw_g (lw_at lw_m5 13 rfl) rfl
theorem q1078 : (Jvm.Cond.code ({ cls := "LandingTree$Clerk", name := "<init>", desc := "(LLandingTree;I)V" } : Jvm.MethodName) prog_3_method_1_code (3 : Nat) (Option.none : Option Jvm.ClassFile.FieldType)) ∈ lw_all := lw_g (lw_at lw_m5 14 rfl) rfl
theorem q1079 : (Jvm.Cond.methodLink "LandingTree$Clerk" (9 : Nat) ({ cls := "java/lang/Object", name := "<init>", desc := "()V" } : Jvm.MethodName)) ∈ lw_all := lw_g (lw_at lw_m5 15 rfl) rfl
theorem q1080 : (Jvm.Cond.fieldLink "LandingTree$Clerk" (15 : Nat) "LandingTree$Clerk" "row" "[I") ∈ lw_all := lw_g (lw_at lw_m5 16 rfl) rfl
theorem q1082 : (Jvm.Cond.fieldLink "LandingTree$Clerk" (19 : Nat) "LandingTree$Clerk" "n" "I") ∈ lw_all := lw_g (lw_at lw_m5 18 rfl) rfl
theorem q1083 : (Jvm.Cond.fieldLink "LandingTree$Clerk" (23 : Nat) "LandingTree$Clerk" "at" "I") ∈ lw_all := lw_g (lw_at lw_m5 19 rfl) rfl
theorem q1084 : (Jvm.Cond.fieldLink "LandingTree$Clerk" (47 : Nat) "LandingTree$Clerk" "many" "I") ∈ lw_all := lw_g (lw_at lw_m5 20 rfl) rfl
theorem q1086 : (Jvm.Cond.fieldLink "LandingTree$Clerk" (30 : Nat) "LandingTree$Clerk" "fault" "I") ∈ lw_all := lw_g (lw_at lw_m5 22 rfl) rfl
theorem q1087 : (Jvm.Cond.fieldLink "LandingTree$Clerk" (33 : Nat) "LandingTree$Clerk" "place" "I") ∈ lw_all := lw_g (lw_at lw_m5 23 rfl) rfl
theorem q1088 : (Jvm.Cond.fieldLink "LandingTree$Clerk" (3 : Nat) "LandingTree$Clerk" "this$0" "LLandingTree;") ∈ lw_all := lw_g (lw_at lw_m5 24 rfl) rfl
theorem q1089 : (Jvm.Cond.laysFinal "LandingTree$Clerk" "LandingTree$Clerk" "row" "[I") ∈ lw_all := lw_g (lw_at lw_m5 25 rfl) rfl
theorem q1090 : (Jvm.Cond.soleField "LandingTree$Clerk" "row") ∈ lw_all := lw_g (lw_at lw_m5 26 rfl) rfl
theorem q1091 : (Jvm.Cond.laysFinal "LandingTree$Clerk" "LandingTree$Clerk" "n" "I") ∈ lw_all := lw_g (lw_at lw_m5 27 rfl) rfl
theorem q1092 : (Jvm.Cond.soleField "LandingTree$Clerk" "n") ∈ lw_all := lw_g (lw_at lw_m5 28 rfl) rfl
theorem q1093 : (Jvm.Cond.lays "LandingTree$Clerk" "LandingTree$Clerk" "at" "I") ∈ lw_all := lw_g (lw_at lw_m5 29 rfl) rfl
theorem q1094 : (Jvm.Cond.soleField "LandingTree$Clerk" "at") ∈ lw_all := lw_g (lw_at lw_m5 30 rfl) rfl
theorem q1095 : (Jvm.Cond.lays "LandingTree$Clerk" "LandingTree$Clerk" "many" "I") ∈ lw_all := lw_g (lw_at lw_m5 31 rfl) rfl
theorem q1096 : (Jvm.Cond.soleField "LandingTree$Clerk" "many") ∈ lw_all := lw_g (lw_at lw_m5 32 rfl) rfl
theorem q1097 : (Jvm.Cond.lays "LandingTree$Clerk" "LandingTree$Clerk" "fault" "I") ∈ lw_all := lw_g (lw_at lw_m5 33 rfl) rfl
theorem q1098 : (Jvm.Cond.soleField "LandingTree$Clerk" "fault") ∈ lw_all := lw_g (lw_at lw_m5 34 rfl) rfl
theorem q1099 : (Jvm.Cond.lays "LandingTree$Clerk" "LandingTree$Clerk" "place" "I") ∈ lw_all := lw_g (lw_at lw_m5 35 rfl) rfl
theorem q1100 : (Jvm.Cond.soleField "LandingTree$Clerk" "place") ∈ lw_all := lw_g (lw_at lw_m5 36 rfl) rfl
theorem q1101 : (Jvm.Cond.laysFinal "LandingTree$Clerk" "LandingTree$Clerk" "this$0" "LLandingTree;") ∈ lw_all := lw_g (lw_at lw_m5 37 rfl) rfl
theorem q1102 : (Jvm.Cond.soleField "LandingTree$Clerk" "this$0") ∈ lw_all := lw_g (lw_at lw_m5 38 rfl) rfl
theorem q1103 : (Jvm.Cond.superclass "LandingTree$Clerk" "java/lang/Object") ∈ lw_all := lw_g (lw_at lw_m5 39 rfl) rfl
theorem q1105 : (Jvm.Cond.instanceMethod ({ cls := "LandingTree$Clerk", name := "read", desc := "()I" } : Jvm.MethodName)) ∈ lw_all := lw_g (lw_at lw_m5 41 rfl) rfl
theorem q1106 : (Jvm.Cond.selects "LandingTree$Clerk" ({ cls := "LandingTree$Clerk", name := "read", desc := "()I" } : Jvm.MethodName) ({ cls := "LandingTree$Clerk", name := "read", desc := "()I" } : Jvm.MethodName)) ∈ lw_all := lw_g (lw_at lw_m5 42 rfl) rfl
theorem q1107 : (Jvm.Cond.code ({ cls := "LandingTree$Clerk", name := "read", desc := "()I" } : Jvm.MethodName) prog_3_method_10_code (1 : Nat) (Option.some Jvm.ClassFile.FieldType.int)) ∈ lw_all := lw_g (lw_at lw_m5 43 rfl) rfl
theorem q1108 : (Jvm.Cond.methodLink "LandingTree$Clerk" (68 : Nat) ({ cls := "LandingTree$Clerk", name := "week", desc := "()V" } : Jvm.MethodName)) ∈ lw_all := lw_g (lw_at lw_m5 44 rfl) rfl
theorem q1109 : (Jvm.Cond.privateMethod ({ cls := "LandingTree$Clerk", name := "week", desc := "()V" } : Jvm.MethodName)) ∈ lw_tbl := lw_at lw_m5 45 rfl
theorem q1110 : (Jvm.Cond.instanceMethod ({ cls := "LandingTree$Clerk", name := "week", desc := "()V" } : Jvm.MethodName)) ∈ lw_all := lw_g (lw_at lw_m5 46 rfl) rfl
theorem q1111 : (Jvm.Cond.code ({ cls := "LandingTree$Clerk", name := "week", desc := "()V" } : Jvm.MethodName) prog_3_method_9_code (2 : Nat) (Option.none : Option Jvm.ClassFile.FieldType)) ∈ lw_all := lw_g (lw_at lw_m5 47 rfl) rfl
theorem q1112 : (Jvm.Cond.methodLink "LandingTree$Clerk" (61 : Nat) ({ cls := "LandingTree$Clerk", name := "seesDays", desc := "()Z" } : Jvm.MethodName)) ∈ lw_all := lw_g (lw_at lw_m5 48 rfl) rfl
theorem q1113 : (Jvm.Cond.privateMethod ({ cls := "LandingTree$Clerk", name := "seesDays", desc := "()Z" } : Jvm.MethodName)) ∈ lw_tbl := lw_at lw_m5 49 rfl
theorem q1114 : (Jvm.Cond.instanceMethod ({ cls := "LandingTree$Clerk", name := "seesDays", desc := "()Z" } : Jvm.MethodName)) ∈ lw_all := lw_g (lw_at lw_m5 50 rfl) rfl
theorem q1115 : (Jvm.Cond.code ({ cls := "LandingTree$Clerk", name := "seesDays", desc := "()Z" } : Jvm.MethodName) prog_3_method_7_code (1 : Nat) (Option.some Jvm.ClassFile.FieldType.boolean)) ∈ lw_all := lw_g (lw_at lw_m5 51 rfl) rfl
theorem q1116 : (Jvm.Cond.methodLink "LandingTree$Clerk" (36 : Nat) ({ cls := "LandingTree$Clerk", name := "here", desc := "()I" } : Jvm.MethodName)) ∈ lw_all := lw_g (lw_at lw_m5 52 rfl) rfl
theorem q1117 : (Jvm.Cond.privateMethod ({ cls := "LandingTree$Clerk", name := "here", desc := "()I" } : Jvm.MethodName)) ∈ lw_tbl := lw_at lw_m5 53 rfl
theorem q1118 : (Jvm.Cond.instanceMethod ({ cls := "LandingTree$Clerk", name := "here", desc := "()I" } : Jvm.MethodName)) ∈ lw_all := lw_g (lw_at lw_m5 54 rfl) rfl
theorem q1119 : (Jvm.Cond.code ({ cls := "LandingTree$Clerk", name := "here", desc := "()I" } : Jvm.MethodName) prog_3_method_2_code (1 : Nat) (Option.some Jvm.ClassFile.FieldType.int)) ∈ lw_all := lw_g (lw_at lw_m5 55 rfl) rfl
theorem q1120 : (Jvm.Cond.methodLink "LandingTree$Clerk" (40 : Nat) ({ cls := "LandingTree$Clerk", name := "seesPerson", desc := "()Z" } : Jvm.MethodName)) ∈ lw_all := lw_g (lw_at lw_m5 56 rfl) rfl
theorem q1121 : (Jvm.Cond.privateMethod ({ cls := "LandingTree$Clerk", name := "seesPerson", desc := "()Z" } : Jvm.MethodName)) ∈ lw_tbl := lw_at lw_m5 57 rfl
theorem q1122 : (Jvm.Cond.instanceMethod ({ cls := "LandingTree$Clerk", name := "seesPerson", desc := "()Z" } : Jvm.MethodName)) ∈ lw_all := lw_g (lw_at lw_m5 58 rfl) rfl
theorem q1123 : (Jvm.Cond.code ({ cls := "LandingTree$Clerk", name := "seesPerson", desc := "()Z" } : Jvm.MethodName) prog_3_method_6_code (1 : Nat) (Option.some Jvm.ClassFile.FieldType.boolean)) ∈ lw_all := lw_g (lw_at lw_m5 59 rfl) rfl
theorem q1124 : (Jvm.Cond.methodLink "LandingTree$Clerk" (44 : Nat) ({ cls := "LandingTree$Clerk", name := "seesNumber", desc := "()Z" } : Jvm.MethodName)) ∈ lw_all := lw_g (lw_at lw_m5 60 rfl) rfl
theorem q1125 : (Jvm.Cond.privateMethod ({ cls := "LandingTree$Clerk", name := "seesNumber", desc := "()Z" } : Jvm.MethodName)) ∈ lw_tbl := lw_at lw_m5 61 rfl
theorem q1126 : (Jvm.Cond.instanceMethod ({ cls := "LandingTree$Clerk", name := "seesNumber", desc := "()Z" } : Jvm.MethodName)) ∈ lw_all := lw_g (lw_at lw_m5 62 rfl) rfl
theorem q1127 : (Jvm.Cond.code ({ cls := "LandingTree$Clerk", name := "seesNumber", desc := "()Z" } : Jvm.MethodName) prog_3_method_5_code (1 : Nat) (Option.some Jvm.ClassFile.FieldType.boolean)) ∈ lw_all := lw_g (lw_at lw_m5 63 rfl) rfl
theorem q1128 : (Jvm.Cond.methodLink "LandingTree$Clerk" (50 : Nat) ({ cls := "LandingTree$Clerk", name := "bad", desc := "(II)V" } : Jvm.MethodName)) ∈ lw_all := lw_g (lw_at lw_m5 64 rfl) rfl
theorem q1129 : (Jvm.Cond.privateMethod ({ cls := "LandingTree$Clerk", name := "bad", desc := "(II)V" } : Jvm.MethodName)) ∈ lw_tbl := lw_at lw_m5 65 rfl
theorem q1130 : (Jvm.Cond.instanceMethod ({ cls := "LandingTree$Clerk", name := "bad", desc := "(II)V" } : Jvm.MethodName)) ∈ lw_all := lw_g (lw_at lw_m5 66 rfl) rfl
theorem q1131 : (Jvm.Cond.code ({ cls := "LandingTree$Clerk", name := "bad", desc := "(II)V" } : Jvm.MethodName) prog_3_method_3_code (3 : Nat) (Option.none : Option Jvm.ClassFile.FieldType)) ∈ lw_all := lw_g (lw_at lw_m5 67 rfl) rfl
theorem q1132 : (Jvm.Cond.methodLink "LandingTree$Clerk" (54 : Nat) ({ cls := "LandingTree$Clerk", name := "isGood", desc := "()Z" } : Jvm.MethodName)) ∈ lw_all := lw_g (lw_at lw_m5 68 rfl) rfl
theorem q1133 : (Jvm.Cond.privateMethod ({ cls := "LandingTree$Clerk", name := "isGood", desc := "()Z" } : Jvm.MethodName)) ∈ lw_tbl := lw_at lw_m5 69 rfl
theorem q1134 : (Jvm.Cond.instanceMethod ({ cls := "LandingTree$Clerk", name := "isGood", desc := "()Z" } : Jvm.MethodName)) ∈ lw_all := lw_g (lw_at lw_m5 70 rfl) rfl
theorem q1135 : (Jvm.Cond.code ({ cls := "LandingTree$Clerk", name := "isGood", desc := "()Z" } : Jvm.MethodName) prog_3_method_4_code (1 : Nat) (Option.some Jvm.ClassFile.FieldType.boolean)) ∈ lw_all := lw_g (lw_at lw_m5 71 rfl) rfl
theorem q1136 : (Jvm.Cond.methodLink "LandingTree$Clerk" (64 : Nat) ({ cls := "LandingTree$Clerk", name := "days", desc := "(I)V" } : Jvm.MethodName)) ∈ lw_all := lw_g (lw_at lw_m5 72 rfl) rfl
theorem q1137 : (Jvm.Cond.privateMethod ({ cls := "LandingTree$Clerk", name := "days", desc := "(I)V" } : Jvm.MethodName)) ∈ lw_tbl := lw_at lw_m5 73 rfl
theorem q1138 : (Jvm.Cond.instanceMethod ({ cls := "LandingTree$Clerk", name := "days", desc := "(I)V" } : Jvm.MethodName)) ∈ lw_all := lw_g (lw_at lw_m5 74 rfl) rfl
theorem q1139 : (Jvm.Cond.code ({ cls := "LandingTree$Clerk", name := "days", desc := "(I)V" } : Jvm.MethodName) prog_3_method_8_code (5 : Nat) (Option.none : Option Jvm.ClassFile.FieldType)) ∈ lw_all := lw_g (lw_at lw_m5 75 rfl) rfl
theorem q1140 : (Jvm.Cond.methodLinkNest "LandingTree$Clerk" (57 : Nat) ({ cls := "LandingTree", name := "isPerson", desc := "(I)Z" } : Jvm.MethodName) "LandingTree") ∈ lw_tbl := lw_at lw_m5 76 rfl
theorem in_X17 : ∀ w ∈ wsX170, w ∈ lw_all := lw_in wsX170 [1089, 1091, 1093, 1095, 1097, 1099, 1101] (by decide +kernel) (by decide +kernel)

/-! java/lang/Math -/
set_option maxRecDepth 100000
def RJ0 : String := "java/lang/Math"
abbrev cJ0_max : ByteArray := prog_22_method_65_code
def yJ0_max : MethodName := ⟨RJ0, "max", "(II)I"⟩
def dkwJ0_max_0 : List UInt8 := [26, 27, 161, 0, 7, 26, 167, 0, 4, 27, 172]
abbrev dktJ0_max_0 : List UInt8 := dkwJ0_max_0 ++ []
theorem dksJ0_max_0 : cJ0_max.data.toList.drop 0 = dktJ0_max_0 := by decide +kernel
theorem dJ0_max_0 : decode cJ0_max 0 = .ok (.iload_n 0, 1) := dk_26 (dk_at dksJ0_max_0 0 rfl rfl)
theorem dJ0_max_1 : decode cJ0_max 1 = .ok (.iload_n 1, 1) := dk_27 (dk_at dksJ0_max_0 1 rfl rfl)
theorem dJ0_max_2 : decode cJ0_max 2 = .ok (.if_icmp .lt 7, 3) := dk_161 0 7 (dk_at dksJ0_max_0 2 rfl rfl)
theorem dJ0_max_5 : decode cJ0_max 5 = .ok (.iload_n 0, 1) := dk_26 (dk_at dksJ0_max_0 5 rfl rfl)
theorem dJ0_max_6 : decode cJ0_max 6 = .ok (.goto 4, 3) := dk_167 0 4 (dk_at dksJ0_max_0 6 rfl rfl)
theorem dJ0_max_9 : decode cJ0_max 9 = .ok (.iload_n 1, 1) := dk_27 (dk_at dksJ0_max_0 9 rfl rfl)
theorem dJ0_max_10 : decode cJ0_max 10 = .ok (.ireturn, 1) := dk_172 (dk_at dksJ0_max_0 10 rfl rfl)
abbrev cJ0_min : ByteArray := prog_22_method_69_code
def yJ0_min : MethodName := ⟨RJ0, "min", "(II)I"⟩
def dkwJ0_min_0 : List UInt8 := [26, 27, 163, 0, 7, 26, 167, 0, 4, 27, 172]
abbrev dktJ0_min_0 : List UInt8 := dkwJ0_min_0 ++ []
theorem dksJ0_min_0 : cJ0_min.data.toList.drop 0 = dktJ0_min_0 := by decide +kernel
theorem dJ0_min_0 : decode cJ0_min 0 = .ok (.iload_n 0, 1) := dk_26 (dk_at dksJ0_min_0 0 rfl rfl)
theorem dJ0_min_1 : decode cJ0_min 1 = .ok (.iload_n 1, 1) := dk_27 (dk_at dksJ0_min_0 1 rfl rfl)
theorem dJ0_min_2 : decode cJ0_min 2 = .ok (.if_icmp .gt 7, 3) := dk_163 0 7 (dk_at dksJ0_min_0 2 rfl rfl)
theorem dJ0_min_5 : decode cJ0_min 5 = .ok (.iload_n 0, 1) := dk_26 (dk_at dksJ0_min_0 5 rfl rfl)
theorem dJ0_min_6 : decode cJ0_min 6 = .ok (.goto 4, 3) := dk_167 0 4 (dk_at dksJ0_min_0 6 rfl rfl)
theorem dJ0_min_9 : decode cJ0_min 9 = .ok (.iload_n 1, 1) := dk_27 (dk_at dksJ0_min_0 9 rfl rfl)
theorem dJ0_min_10 : decode cJ0_min 10 = .ok (.ireturn, 1) := dk_172 (dk_at dksJ0_min_0 10 rfl rfl)
theorem q113 : (Jvm.Cond.initialized "java/lang/Math") ∈ lw_all := lw_g (lw_at lw_m1 9 rfl) rfl
theorem q490 : (Jvm.Cond.static ({ cls := "java/lang/Math", name := "max", desc := "(II)I" } : Jvm.MethodName)) ∈ lw_all := lw_g (lw_at lw_m2 146 rfl) rfl
theorem q491 : (Jvm.Cond.code ({ cls := "java/lang/Math", name := "max", desc := "(II)I" } : Jvm.MethodName) prog_22_method_65_code (2 : Nat) (Option.some Jvm.ClassFile.FieldType.int)) ∈ lw_all := lw_g (lw_at lw_m2 147 rfl) rfl
theorem q585 : (Jvm.Cond.static ({ cls := "java/lang/Math", name := "min", desc := "(II)I" } : Jvm.MethodName)) ∈ lw_all := lw_g (lw_at lw_m3 1 rfl) rfl
theorem q586 : (Jvm.Cond.code ({ cls := "java/lang/Math", name := "min", desc := "(II)I" } : Jvm.MethodName) prog_22_method_69_code (2 : Nat) (Option.some Jvm.ClassFile.FieldType.int)) ∈ lw_all := lw_g (lw_at lw_m3 2 rfl) rfl

/-! java/lang/String -/
set_option maxRecDepth 100000
def RJ1 : String := "java/lang/String"
abbrev cJ1_indexOf : ByteArray := prog_23_method_79_code
def yJ1_indexOf : MethodName := ⟨RJ1, "indexOf", "(I)I"⟩
def dkwJ1_indexOf_0 : List UInt8 := [42, 27, 3, 182, 2, 121, 172]
abbrev dktJ1_indexOf_0 : List UInt8 := dkwJ1_indexOf_0 ++ []
theorem dksJ1_indexOf_0 : cJ1_indexOf.data.toList.drop 0 = dktJ1_indexOf_0 := by decide +kernel
theorem dJ1_indexOf_0 : decode cJ1_indexOf 0 = .ok (.aload_n 0, 1) := dk_42 (dk_at dksJ1_indexOf_0 0 rfl rfl)
theorem dJ1_indexOf_1 : decode cJ1_indexOf 1 = .ok (.iload_n 1, 1) := dk_27 (dk_at dksJ1_indexOf_0 1 rfl rfl)
theorem dJ1_indexOf_2 : decode cJ1_indexOf 2 = .ok (.iconst 0, 1) := dk_3 (dk_at dksJ1_indexOf_0 2 rfl rfl)
theorem dJ1_indexOf_3 : decode cJ1_indexOf 3 = .ok (.invokevirtual 633, 3) := dk_182 2 121 (dk_at dksJ1_indexOf_0 3 rfl rfl)
theorem dJ1_indexOf_6 : decode cJ1_indexOf 6 = .ok (.ireturn, 1) := dk_172 (dk_at dksJ1_indexOf_0 6 rfl rfl)
abbrev cJ1_indexOf_2 : ByteArray := prog_23_method_80_code
def yJ1_indexOf_2 : MethodName := ⟨RJ1, "indexOf", "(II)I"⟩
def dkwJ1_indexOf_2_1 : List UInt8 := [180, 0, 9, 27, 28, 42, 182, 1, 249, 184, 2, 128, 172]
abbrev dktJ1_indexOf_2_1 : List UInt8 := dkwJ1_indexOf_2_1 ++ []
def dkwJ1_indexOf_2_0 : List UInt8 := [42, 182, 1, 236, 153, 0, 19, 42, 180, 0, 9, 27, 28, 42, 182, 1, 249, 184, 2, 125, 167, 0, 16, 42]
abbrev dktJ1_indexOf_2_0 : List UInt8 := dkwJ1_indexOf_2_0 ++ dktJ1_indexOf_2_1
theorem dksJ1_indexOf_2_0 : cJ1_indexOf_2.data.toList.drop 0 = dktJ1_indexOf_2_0 := by decide +kernel
theorem dksJ1_indexOf_2_1 : cJ1_indexOf_2.data.toList.drop 24 = dktJ1_indexOf_2_1 := dk_seg dksJ1_indexOf_2_0 24 rfl rfl
theorem dJ1_indexOf_2_0 : decode cJ1_indexOf_2 0 = .ok (.aload_n 0, 1) := dk_42 (dk_at dksJ1_indexOf_2_0 0 rfl rfl)
theorem dJ1_indexOf_2_1 : decode cJ1_indexOf_2 1 = .ok (.invokevirtual 492, 3) := dk_182 1 236 (dk_at dksJ1_indexOf_2_0 1 rfl rfl)
theorem dJ1_indexOf_2_4 : decode cJ1_indexOf_2 4 = .ok (.ifCond .eq 19, 3) := dk_153 0 19 (dk_at dksJ1_indexOf_2_0 4 rfl rfl)
theorem dJ1_indexOf_2_7 : decode cJ1_indexOf_2 7 = .ok (.aload_n 0, 1) := dk_42 (dk_at dksJ1_indexOf_2_0 7 rfl rfl)
theorem dJ1_indexOf_2_8 : decode cJ1_indexOf_2 8 = .ok (.getfield 9, 3) := dk_180 0 9 (dk_at dksJ1_indexOf_2_0 8 rfl rfl)
theorem dJ1_indexOf_2_11 : decode cJ1_indexOf_2 11 = .ok (.iload_n 1, 1) := dk_27 (dk_at dksJ1_indexOf_2_0 11 rfl rfl)
theorem dJ1_indexOf_2_12 : decode cJ1_indexOf_2 12 = .ok (.iload_n 2, 1) := dk_28 (dk_at dksJ1_indexOf_2_0 12 rfl rfl)
theorem dJ1_indexOf_2_13 : decode cJ1_indexOf_2 13 = .ok (.aload_n 0, 1) := dk_42 (dk_at dksJ1_indexOf_2_0 13 rfl rfl)
theorem dJ1_indexOf_2_14 : decode cJ1_indexOf_2 14 = .ok (.invokevirtual 505, 3) := dk_182 1 249 (dk_at dksJ1_indexOf_2_0 14 rfl rfl)
theorem dJ1_indexOf_2_17 : decode cJ1_indexOf_2 17 = .ok (.invokestatic 637, 3) := dk_184 2 125 (dk_at dksJ1_indexOf_2_0 17 rfl rfl)
theorem dJ1_indexOf_2_20 : decode cJ1_indexOf_2 20 = .ok (.goto 16, 3) := dk_167 0 16 (dk_at dksJ1_indexOf_2_0 20 rfl rfl)
theorem dJ1_indexOf_2_23 : decode cJ1_indexOf_2 23 = .ok (.aload_n 0, 1) := dk_42 (dk_at dksJ1_indexOf_2_0 23 rfl rfl)
theorem dJ1_indexOf_2_24 : decode cJ1_indexOf_2 24 = .ok (.getfield 9, 3) := dk_180 0 9 (dk_at dksJ1_indexOf_2_1 0 rfl rfl)
theorem dJ1_indexOf_2_27 : decode cJ1_indexOf_2 27 = .ok (.iload_n 1, 1) := dk_27 (dk_at dksJ1_indexOf_2_1 3 rfl rfl)
theorem dJ1_indexOf_2_28 : decode cJ1_indexOf_2 28 = .ok (.iload_n 2, 1) := dk_28 (dk_at dksJ1_indexOf_2_1 4 rfl rfl)
theorem dJ1_indexOf_2_29 : decode cJ1_indexOf_2 29 = .ok (.aload_n 0, 1) := dk_42 (dk_at dksJ1_indexOf_2_1 5 rfl rfl)
theorem dJ1_indexOf_2_30 : decode cJ1_indexOf_2 30 = .ok (.invokevirtual 505, 3) := dk_182 1 249 (dk_at dksJ1_indexOf_2_1 6 rfl rfl)
theorem dJ1_indexOf_2_33 : decode cJ1_indexOf_2 33 = .ok (.invokestatic 640, 3) := dk_184 2 128 (dk_at dksJ1_indexOf_2_1 9 rfl rfl)
theorem dJ1_indexOf_2_36 : decode cJ1_indexOf_2 36 = .ok (.ireturn, 1) := dk_172 (dk_at dksJ1_indexOf_2_1 12 rfl rfl)
abbrev cJ1_isLatin1 : ByteArray := prog_23_method_154_code
def yJ1_isLatin1 : MethodName := ⟨RJ1, "isLatin1", "()Z"⟩
def dkwJ1_isLatin1_0 : List UInt8 := [178, 0, 38, 153, 0, 14, 42, 180, 0, 15, 154, 0, 7, 4, 167, 0, 4, 3, 172]
abbrev dktJ1_isLatin1_0 : List UInt8 := dkwJ1_isLatin1_0 ++ []
theorem dksJ1_isLatin1_0 : cJ1_isLatin1.data.toList.drop 0 = dktJ1_isLatin1_0 := by decide +kernel
theorem dJ1_isLatin1_0 : decode cJ1_isLatin1 0 = .ok (.getstatic 38, 3) := dk_178 0 38 (dk_at dksJ1_isLatin1_0 0 rfl rfl)
theorem dJ1_isLatin1_3 : decode cJ1_isLatin1 3 = .ok (.ifCond .eq 14, 3) := dk_153 0 14 (dk_at dksJ1_isLatin1_0 3 rfl rfl)
theorem dJ1_isLatin1_6 : decode cJ1_isLatin1 6 = .ok (.aload_n 0, 1) := dk_42 (dk_at dksJ1_isLatin1_0 6 rfl rfl)
theorem dJ1_isLatin1_7 : decode cJ1_isLatin1 7 = .ok (.getfield 15, 3) := dk_180 0 15 (dk_at dksJ1_isLatin1_0 7 rfl rfl)
theorem dJ1_isLatin1_10 : decode cJ1_isLatin1 10 = .ok (.ifCond .ne 7, 3) := dk_154 0 7 (dk_at dksJ1_isLatin1_0 10 rfl rfl)
theorem dJ1_isLatin1_13 : decode cJ1_isLatin1 13 = .ok (.iconst 1, 1) := dk_4 (dk_at dksJ1_isLatin1_0 13 rfl rfl)
theorem dJ1_isLatin1_14 : decode cJ1_isLatin1 14 = .ok (.goto 4, 3) := dk_167 0 4 (dk_at dksJ1_isLatin1_0 14 rfl rfl)
theorem dJ1_isLatin1_17 : decode cJ1_isLatin1 17 = .ok (.iconst 0, 1) := dk_3 (dk_at dksJ1_isLatin1_0 17 rfl rfl)
theorem dJ1_isLatin1_18 : decode cJ1_isLatin1 18 = .ok (.ireturn, 1) := dk_172 (dk_at dksJ1_isLatin1_0 18 rfl rfl)
abbrev cJ1_length : ByteArray := prog_23_method_54_code
def yJ1_length : MethodName := ⟨RJ1, "length", "()I"⟩
def dkwJ1_length_0 : List UInt8 := [42, 180, 0, 9, 190, 42, 182, 1, 79, 122, 172]
abbrev dktJ1_length_0 : List UInt8 := dkwJ1_length_0 ++ []
theorem dksJ1_length_0 : cJ1_length.data.toList.drop 0 = dktJ1_length_0 := by decide +kernel
theorem dJ1_length_0 : decode cJ1_length 0 = .ok (.aload_n 0, 1) := dk_42 (dk_at dksJ1_length_0 0 rfl rfl)
theorem dJ1_length_1 : decode cJ1_length 1 = .ok (.getfield 9, 3) := dk_180 0 9 (dk_at dksJ1_length_0 1 rfl rfl)
theorem dJ1_length_4 : decode cJ1_length 4 = .ok (.arraylength, 1) := dk_190 (dk_at dksJ1_length_0 4 rfl rfl)
theorem dJ1_length_5 : decode cJ1_length 5 = .ok (.aload_n 0, 1) := dk_42 (dk_at dksJ1_length_0 5 rfl rfl)
theorem dJ1_length_6 : decode cJ1_length 6 = .ok (.invokevirtual 335, 3) := dk_182 1 79 (dk_at dksJ1_length_0 6 rfl rfl)
theorem dJ1_length_9 : decode cJ1_length 9 = .ok (.ishr, 1) := dk_122 (dk_at dksJ1_length_0 9 rfl rfl)
theorem dJ1_length_10 : decode cJ1_length 10 = .ok (.ireturn, 1) := dk_172 (dk_at dksJ1_length_0 10 rfl rfl)
abbrev cJ1_coder : ByteArray := prog_23_method_152_code
def yJ1_coder : MethodName := ⟨RJ1, "coder", "()B"⟩
def dkwJ1_coder_0 : List UInt8 := [178, 0, 38, 153, 0, 10, 42, 180, 0, 15, 167, 0, 4, 4, 172]
abbrev dktJ1_coder_0 : List UInt8 := dkwJ1_coder_0 ++ []
theorem dksJ1_coder_0 : cJ1_coder.data.toList.drop 0 = dktJ1_coder_0 := by decide +kernel
theorem dJ1_coder_0 : decode cJ1_coder 0 = .ok (.getstatic 38, 3) := dk_178 0 38 (dk_at dksJ1_coder_0 0 rfl rfl)
theorem dJ1_coder_3 : decode cJ1_coder 3 = .ok (.ifCond .eq 10, 3) := dk_153 0 10 (dk_at dksJ1_coder_0 3 rfl rfl)
theorem dJ1_coder_6 : decode cJ1_coder 6 = .ok (.aload_n 0, 1) := dk_42 (dk_at dksJ1_coder_0 6 rfl rfl)
theorem dJ1_coder_7 : decode cJ1_coder 7 = .ok (.getfield 15, 3) := dk_180 0 15 (dk_at dksJ1_coder_0 7 rfl rfl)
theorem dJ1_coder_10 : decode cJ1_coder 10 = .ok (.goto 4, 3) := dk_167 0 4 (dk_at dksJ1_coder_0 10 rfl rfl)
theorem dJ1_coder_13 : decode cJ1_coder 13 = .ok (.iconst 1, 1) := dk_4 (dk_at dksJ1_coder_0 13 rfl rfl)
theorem dJ1_coder_14 : decode cJ1_coder 14 = .ok (.ireturn, 1) := dk_172 (dk_at dksJ1_coder_0 14 rfl rfl)
abbrev cJ1_checkBoundsBeginEnd : ByteArray := prog_23_method_158_code
def yJ1_checkBoundsBeginEnd : MethodName := ⟨RJ1, "checkBoundsBeginEnd", "(III)V"⟩
def dkwJ1_checkBoundsBeginEnd_0 : List UInt8 := [26, 27, 28, 178, 4, 29, 184, 4, 38, 87, 177]
abbrev dktJ1_checkBoundsBeginEnd_0 : List UInt8 := dkwJ1_checkBoundsBeginEnd_0 ++ []
theorem dksJ1_checkBoundsBeginEnd_0 : cJ1_checkBoundsBeginEnd.data.toList.drop 0 = dktJ1_checkBoundsBeginEnd_0 := by decide +kernel
theorem dJ1_checkBoundsBeginEnd_0 : decode cJ1_checkBoundsBeginEnd 0 = .ok (.iload_n 0, 1) := dk_26 (dk_at dksJ1_checkBoundsBeginEnd_0 0 rfl rfl)
theorem dJ1_checkBoundsBeginEnd_1 : decode cJ1_checkBoundsBeginEnd 1 = .ok (.iload_n 1, 1) := dk_27 (dk_at dksJ1_checkBoundsBeginEnd_0 1 rfl rfl)
theorem dJ1_checkBoundsBeginEnd_2 : decode cJ1_checkBoundsBeginEnd 2 = .ok (.iload_n 2, 1) := dk_28 (dk_at dksJ1_checkBoundsBeginEnd_0 2 rfl rfl)
theorem dJ1_checkBoundsBeginEnd_3 : decode cJ1_checkBoundsBeginEnd 3 = .ok (.getstatic 1053, 3) := dk_178 4 29 (dk_at dksJ1_checkBoundsBeginEnd_0 3 rfl rfl)
theorem dJ1_checkBoundsBeginEnd_6 : decode cJ1_checkBoundsBeginEnd 6 = .ok (.invokestatic 1062, 3) := dk_184 4 38 (dk_at dksJ1_checkBoundsBeginEnd_0 6 rfl rfl)
theorem dJ1_checkBoundsBeginEnd_9 : decode cJ1_checkBoundsBeginEnd 9 = .ok (.pop, 1) := dk_87 (dk_at dksJ1_checkBoundsBeginEnd_0 9 rfl rfl)
theorem dJ1_checkBoundsBeginEnd_10 : decode cJ1_checkBoundsBeginEnd 10 = .ok (.return_, 1) := dk_177 (dk_at dksJ1_checkBoundsBeginEnd_0 10 rfl rfl)
theorem q115 : (Jvm.Cond.initialized "java/lang/String") ∈ lw_all := lw_g (lw_at lw_m1 11 rfl) rfl
theorem q556 : (Jvm.Cond.instanceMethod ({ cls := "java/lang/String", name := "indexOf", desc := "(I)I" } : Jvm.MethodName)) ∈ lw_all := lw_g (lw_at lw_m2 212 rfl) rfl
theorem q557 : (Jvm.Cond.selects "java/lang/String" ({ cls := "java/lang/String", name := "indexOf", desc := "(I)I" } : Jvm.MethodName) ({ cls := "java/lang/String", name := "indexOf", desc := "(I)I" } : Jvm.MethodName)) ∈ lw_all := lw_g (lw_at lw_m2 213 rfl) rfl
theorem q558 : (Jvm.Cond.code ({ cls := "java/lang/String", name := "indexOf", desc := "(I)I" } : Jvm.MethodName) prog_23_method_79_code (2 : Nat) (Option.some Jvm.ClassFile.FieldType.int)) ∈ lw_all := lw_g (lw_at lw_m2 214 rfl) rfl
theorem q559 : (Jvm.Cond.methodLink "java/lang/String" (633 : Nat) ({ cls := "java/lang/String", name := "indexOf", desc := "(II)I" } : Jvm.MethodName)) ∈ lw_all := lw_g (lw_at lw_m2 215 rfl) rfl
theorem q560 : (Jvm.Cond.instanceMethod ({ cls := "java/lang/String", name := "indexOf", desc := "(II)I" } : Jvm.MethodName)) ∈ lw_all := lw_g (lw_at lw_m2 216 rfl) rfl
theorem q561 : (Jvm.Cond.selects "java/lang/String" ({ cls := "java/lang/String", name := "indexOf", desc := "(II)I" } : Jvm.MethodName) ({ cls := "java/lang/String", name := "indexOf", desc := "(II)I" } : Jvm.MethodName)) ∈ lw_all := lw_g (lw_at lw_m2 217 rfl) rfl
theorem q562 : (Jvm.Cond.code ({ cls := "java/lang/String", name := "indexOf", desc := "(II)I" } : Jvm.MethodName) prog_23_method_80_code (3 : Nat) (Option.some Jvm.ClassFile.FieldType.int)) ∈ lw_all := lw_g (lw_at lw_m2 218 rfl) rfl
theorem q563 : (Jvm.Cond.methodLink "java/lang/String" (492 : Nat) ({ cls := "java/lang/String", name := "isLatin1", desc := "()Z" } : Jvm.MethodName)) ∈ lw_all := lw_g (lw_at lw_m2 219 rfl) rfl
theorem q564 : (Jvm.Cond.instanceMethod ({ cls := "java/lang/String", name := "isLatin1", desc := "()Z" } : Jvm.MethodName)) ∈ lw_all := lw_g (lw_at lw_m2 220 rfl) rfl
theorem q565 : (Jvm.Cond.selects "java/lang/String" ({ cls := "java/lang/String", name := "isLatin1", desc := "()Z" } : Jvm.MethodName) ({ cls := "java/lang/String", name := "isLatin1", desc := "()Z" } : Jvm.MethodName)) ∈ lw_all := lw_g (lw_at lw_m2 221 rfl) rfl
theorem q566 : (Jvm.Cond.code ({ cls := "java/lang/String", name := "isLatin1", desc := "()Z" } : Jvm.MethodName) prog_23_method_154_code (1 : Nat) (Option.some Jvm.ClassFile.FieldType.boolean)) ∈ lw_all := lw_g (lw_at lw_m2 222 rfl) rfl
theorem q567 : (Jvm.Cond.fieldLink "java/lang/String" (38 : Nat) "java/lang/String" "COMPACT_STRINGS" "Z") ∈ lw_all := lw_g (lw_at lw_m2 223 rfl) rfl
theorem q568 : (Jvm.Cond.laysStatic "java/lang/String" "COMPACT_STRINGS" "Z") ∈ lw_tbl := lw_at lw_m2 224 rfl
theorem q569 : (Jvm.Cond.methodLink "java/lang/String" (505 : Nat) ({ cls := "java/lang/String", name := "length", desc := "()I" } : Jvm.MethodName)) ∈ lw_all := lw_g (lw_at lw_m2 225 rfl) rfl
theorem q570 : (Jvm.Cond.instanceMethod ({ cls := "java/lang/String", name := "length", desc := "()I" } : Jvm.MethodName)) ∈ lw_all := lw_g (lw_at lw_m2 226 rfl) rfl
theorem q571 : (Jvm.Cond.selects "java/lang/String" ({ cls := "java/lang/String", name := "length", desc := "()I" } : Jvm.MethodName) ({ cls := "java/lang/String", name := "length", desc := "()I" } : Jvm.MethodName)) ∈ lw_all := lw_g (lw_at lw_m2 227 rfl) rfl
theorem q572 : (Jvm.Cond.code ({ cls := "java/lang/String", name := "length", desc := "()I" } : Jvm.MethodName) prog_23_method_54_code (1 : Nat) (Option.some Jvm.ClassFile.FieldType.int)) ∈ lw_all := lw_g (lw_at lw_m2 228 rfl) rfl
theorem q573 : (Jvm.Cond.methodLink "java/lang/String" (335 : Nat) ({ cls := "java/lang/String", name := "coder", desc := "()B" } : Jvm.MethodName)) ∈ lw_all := lw_g (lw_at lw_m2 229 rfl) rfl
theorem q574 : (Jvm.Cond.instanceMethod ({ cls := "java/lang/String", name := "coder", desc := "()B" } : Jvm.MethodName)) ∈ lw_all := lw_g (lw_at lw_m2 230 rfl) rfl
theorem q575 : (Jvm.Cond.selects "java/lang/String" ({ cls := "java/lang/String", name := "coder", desc := "()B" } : Jvm.MethodName) ({ cls := "java/lang/String", name := "coder", desc := "()B" } : Jvm.MethodName)) ∈ lw_all := lw_g (lw_at lw_m2 231 rfl) rfl
theorem q576 : (Jvm.Cond.code ({ cls := "java/lang/String", name := "coder", desc := "()B" } : Jvm.MethodName) prog_23_method_152_code (1 : Nat) (Option.some Jvm.ClassFile.FieldType.byte)) ∈ lw_all := lw_g (lw_at lw_m2 232 rfl) rfl
theorem q577 : (Jvm.Cond.methodLink "java/lang/String" (637 : Nat) ({ cls := "java/lang/StringLatin1", name := "indexOf", desc := "([BIII)I" } : Jvm.MethodName)) ∈ lw_all := lw_g (lw_at lw_m2 233 rfl) rfl
theorem q590 : (Jvm.Cond.methodLink "java/lang/String" (640 : Nat) ({ cls := "java/lang/StringUTF16", name := "indexOf", desc := "([BIII)I" } : Jvm.MethodName)) ∈ lw_all := lw_g (lw_at lw_m3 6 rfl) rfl
theorem q606 : (Jvm.Cond.static ({ cls := "java/lang/String", name := "checkBoundsBeginEnd", desc := "(III)V" } : Jvm.MethodName)) ∈ lw_all := lw_g (lw_at lw_m3 22 rfl) rfl
theorem q607 : (Jvm.Cond.code ({ cls := "java/lang/String", name := "checkBoundsBeginEnd", desc := "(III)V" } : Jvm.MethodName) prog_23_method_158_code (3 : Nat) (Option.none : Option Jvm.ClassFile.FieldType)) ∈ lw_all := lw_g (lw_at lw_m3 23 rfl) rfl
theorem q608 : (Jvm.Cond.fieldLink "java/lang/String" (1053 : Nat) "jdk/internal/util/Preconditions" "SIOOBE_FORMATTER" "Ljava/util/function/BiFunction;") ∈ lw_all := lw_g (lw_at lw_m3 24 rfl) rfl
theorem q610 : (Jvm.Cond.methodLink "java/lang/String" (1062 : Nat) ({ cls := "jdk/internal/util/Preconditions", name := "checkFromToIndex", desc := "(IIILjava/util/function/BiFunction;)I" } : Jvm.MethodName)) ∈ lw_all := lw_g (lw_at lw_m3 26 rfl) rfl
theorem q1802 : (Jvm.Cond.fieldLink "java/lang/String" (15 : Nat) "java/lang/String" "coder" "B") ∈ lw_all := lw_g (lw_at lw_m8 18 rfl) rfl
theorem q1803 : (Jvm.Cond.fieldLink "java/lang/String" (9 : Nat) "java/lang/String" "value" "[B") ∈ lw_all := lw_g (lw_at lw_m8 19 rfl) rfl

/-! java/lang/StringLatin1 -/
set_option maxRecDepth 100000
def RJ2 : String := "java/lang/StringLatin1"
abbrev cJ2_indexOf : ByteArray := prog_24_method_22_code
def yJ2_indexOf : MethodName := ⟨RJ2, "indexOf", "([BIII)I"⟩
def dkwJ2_indexOf_1 : List UInt8 := [161, 0, 5, 2, 172, 42, 27, 28, 29, 184, 0, 95, 172]
abbrev dktJ2_indexOf_1 : List UInt8 := dkwJ2_indexOf_1 ++ []
def dkwJ2_indexOf_0 : List UInt8 := [27, 184, 0, 88, 154, 0, 5, 2, 172, 28, 3, 184, 0, 92, 61, 29, 42, 190, 184, 0, 38, 62, 28, 29]
abbrev dktJ2_indexOf_0 : List UInt8 := dkwJ2_indexOf_0 ++ dktJ2_indexOf_1
theorem dksJ2_indexOf_0 : cJ2_indexOf.data.toList.drop 0 = dktJ2_indexOf_0 := by decide +kernel
theorem dksJ2_indexOf_1 : cJ2_indexOf.data.toList.drop 24 = dktJ2_indexOf_1 := dk_seg dksJ2_indexOf_0 24 rfl rfl
theorem dJ2_indexOf_0 : decode cJ2_indexOf 0 = .ok (.iload_n 1, 1) := dk_27 (dk_at dksJ2_indexOf_0 0 rfl rfl)
theorem dJ2_indexOf_1 : decode cJ2_indexOf 1 = .ok (.invokestatic 88, 3) := dk_184 0 88 (dk_at dksJ2_indexOf_0 1 rfl rfl)
theorem dJ2_indexOf_4 : decode cJ2_indexOf 4 = .ok (.ifCond .ne 5, 3) := dk_154 0 5 (dk_at dksJ2_indexOf_0 4 rfl rfl)
theorem dJ2_indexOf_7 : decode cJ2_indexOf 7 = .ok (.iconst (-1), 1) := dk_2 (dk_at dksJ2_indexOf_0 7 rfl rfl)
theorem dJ2_indexOf_8 : decode cJ2_indexOf 8 = .ok (.ireturn, 1) := dk_172 (dk_at dksJ2_indexOf_0 8 rfl rfl)
theorem dJ2_indexOf_9 : decode cJ2_indexOf 9 = .ok (.iload_n 2, 1) := dk_28 (dk_at dksJ2_indexOf_0 9 rfl rfl)
theorem dJ2_indexOf_10 : decode cJ2_indexOf 10 = .ok (.iconst 0, 1) := dk_3 (dk_at dksJ2_indexOf_0 10 rfl rfl)
theorem dJ2_indexOf_11 : decode cJ2_indexOf 11 = .ok (.invokestatic 92, 3) := dk_184 0 92 (dk_at dksJ2_indexOf_0 11 rfl rfl)
theorem dJ2_indexOf_14 : decode cJ2_indexOf 14 = .ok (.istore_n 2, 1) := dk_61 (dk_at dksJ2_indexOf_0 14 rfl rfl)
theorem dJ2_indexOf_15 : decode cJ2_indexOf 15 = .ok (.iload_n 3, 1) := dk_29 (dk_at dksJ2_indexOf_0 15 rfl rfl)
theorem dJ2_indexOf_16 : decode cJ2_indexOf 16 = .ok (.aload_n 0, 1) := dk_42 (dk_at dksJ2_indexOf_0 16 rfl rfl)
theorem dJ2_indexOf_17 : decode cJ2_indexOf 17 = .ok (.arraylength, 1) := dk_190 (dk_at dksJ2_indexOf_0 17 rfl rfl)
theorem dJ2_indexOf_18 : decode cJ2_indexOf 18 = .ok (.invokestatic 38, 3) := dk_184 0 38 (dk_at dksJ2_indexOf_0 18 rfl rfl)
theorem dJ2_indexOf_21 : decode cJ2_indexOf 21 = .ok (.istore_n 3, 1) := dk_62 (dk_at dksJ2_indexOf_0 21 rfl rfl)
theorem dJ2_indexOf_22 : decode cJ2_indexOf 22 = .ok (.iload_n 2, 1) := dk_28 (dk_at dksJ2_indexOf_0 22 rfl rfl)
theorem dJ2_indexOf_23 : decode cJ2_indexOf 23 = .ok (.iload_n 3, 1) := dk_29 (dk_at dksJ2_indexOf_0 23 rfl rfl)
theorem dJ2_indexOf_24 : decode cJ2_indexOf 24 = .ok (.if_icmp .lt 5, 3) := dk_161 0 5 (dk_at dksJ2_indexOf_1 0 rfl rfl)
theorem dJ2_indexOf_27 : decode cJ2_indexOf 27 = .ok (.iconst (-1), 1) := dk_2 (dk_at dksJ2_indexOf_1 3 rfl rfl)
theorem dJ2_indexOf_28 : decode cJ2_indexOf 28 = .ok (.ireturn, 1) := dk_172 (dk_at dksJ2_indexOf_1 4 rfl rfl)
theorem dJ2_indexOf_29 : decode cJ2_indexOf 29 = .ok (.aload_n 0, 1) := dk_42 (dk_at dksJ2_indexOf_1 5 rfl rfl)
theorem dJ2_indexOf_30 : decode cJ2_indexOf 30 = .ok (.iload_n 1, 1) := dk_27 (dk_at dksJ2_indexOf_1 6 rfl rfl)
theorem dJ2_indexOf_31 : decode cJ2_indexOf 31 = .ok (.iload_n 2, 1) := dk_28 (dk_at dksJ2_indexOf_1 7 rfl rfl)
theorem dJ2_indexOf_32 : decode cJ2_indexOf 32 = .ok (.iload_n 3, 1) := dk_29 (dk_at dksJ2_indexOf_1 8 rfl rfl)
theorem dJ2_indexOf_33 : decode cJ2_indexOf 33 = .ok (.invokestatic 95, 3) := dk_184 0 95 (dk_at dksJ2_indexOf_1 9 rfl rfl)
theorem dJ2_indexOf_36 : decode cJ2_indexOf 36 = .ok (.ireturn, 1) := dk_172 (dk_at dksJ2_indexOf_1 12 rfl rfl)
abbrev cJ2_canEncode : ByteArray := prog_24_method_4_code
def yJ2_canEncode : MethodName := ⟨RJ2, "canEncode", "(I)Z"⟩
def dkwJ2_canEncode_0 : List UInt8 := [26, 155, 0, 14, 26, 17, 0, 255, 163, 0, 7, 4, 167, 0, 4, 3, 172]
abbrev dktJ2_canEncode_0 : List UInt8 := dkwJ2_canEncode_0 ++ []
theorem dksJ2_canEncode_0 : cJ2_canEncode.data.toList.drop 0 = dktJ2_canEncode_0 := by decide +kernel
theorem dJ2_canEncode_0 : decode cJ2_canEncode 0 = .ok (.iload_n 0, 1) := dk_26 (dk_at dksJ2_canEncode_0 0 rfl rfl)
theorem dJ2_canEncode_1 : decode cJ2_canEncode 1 = .ok (.ifCond .lt 14, 3) := dk_155 0 14 (dk_at dksJ2_canEncode_0 1 rfl rfl)
theorem dJ2_canEncode_4 : decode cJ2_canEncode 4 = .ok (.iload_n 0, 1) := dk_26 (dk_at dksJ2_canEncode_0 4 rfl rfl)
theorem dJ2_canEncode_5 : decode cJ2_canEncode 5 = .ok (.sipush 255, 3) := dk_17 0 255 (dk_at dksJ2_canEncode_0 5 rfl rfl)
theorem dJ2_canEncode_8 : decode cJ2_canEncode 8 = .ok (.if_icmp .gt 7, 3) := dk_163 0 7 (dk_at dksJ2_canEncode_0 8 rfl rfl)
theorem dJ2_canEncode_11 : decode cJ2_canEncode 11 = .ok (.iconst 1, 1) := dk_4 (dk_at dksJ2_canEncode_0 11 rfl rfl)
theorem dJ2_canEncode_12 : decode cJ2_canEncode 12 = .ok (.goto 4, 3) := dk_167 0 4 (dk_at dksJ2_canEncode_0 12 rfl rfl)
theorem dJ2_canEncode_15 : decode cJ2_canEncode 15 = .ok (.iconst 0, 1) := dk_3 (dk_at dksJ2_canEncode_0 15 rfl rfl)
theorem dJ2_canEncode_16 : decode cJ2_canEncode 16 = .ok (.ireturn, 1) := dk_172 (dk_at dksJ2_canEncode_0 16 rfl rfl)
abbrev cJ2_indexOfChar : ByteArray := prog_24_method_23_code
def yJ2_indexOfChar : MethodName := ⟨RJ2, "indexOfChar", "([BIII)I"⟩
def dkwJ2_indexOfChar_1 : List UInt8 := [172, 132, 5, 1, 167, 255, 235, 2, 172]
abbrev dktJ2_indexOfChar_1 : List UInt8 := dkwJ2_indexOfChar_1 ++ []
def dkwJ2_indexOfChar_0 : List UInt8 := [27, 145, 54, 4, 28, 54, 5, 21, 5, 29, 162, 0, 21, 42, 21, 5, 51, 21, 4, 160, 0, 6, 21, 5]
abbrev dktJ2_indexOfChar_0 : List UInt8 := dkwJ2_indexOfChar_0 ++ dktJ2_indexOfChar_1
theorem dksJ2_indexOfChar_0 : cJ2_indexOfChar.data.toList.drop 0 = dktJ2_indexOfChar_0 := by decide +kernel
theorem dksJ2_indexOfChar_1 : cJ2_indexOfChar.data.toList.drop 24 = dktJ2_indexOfChar_1 := dk_seg dksJ2_indexOfChar_0 24 rfl rfl
theorem dJ2_indexOfChar_0 : decode cJ2_indexOfChar 0 = .ok (.iload_n 1, 1) := dk_27 (dk_at dksJ2_indexOfChar_0 0 rfl rfl)
theorem dJ2_indexOfChar_1 : decode cJ2_indexOfChar 1 = .ok (.i2b, 1) := dk_145 (dk_at dksJ2_indexOfChar_0 1 rfl rfl)
theorem dJ2_indexOfChar_2 : decode cJ2_indexOfChar 2 = .ok (.istore 4, 2) := dk_54 4 (dk_at dksJ2_indexOfChar_0 2 rfl rfl)
theorem dJ2_indexOfChar_4 : decode cJ2_indexOfChar 4 = .ok (.iload_n 2, 1) := dk_28 (dk_at dksJ2_indexOfChar_0 4 rfl rfl)
theorem dJ2_indexOfChar_5 : decode cJ2_indexOfChar 5 = .ok (.istore 5, 2) := dk_54 5 (dk_at dksJ2_indexOfChar_0 5 rfl rfl)
theorem dJ2_indexOfChar_7 : decode cJ2_indexOfChar 7 = .ok (.iload 5, 2) := dk_21 5 (dk_at dksJ2_indexOfChar_0 7 rfl rfl)
theorem dJ2_indexOfChar_9 : decode cJ2_indexOfChar 9 = .ok (.iload_n 3, 1) := dk_29 (dk_at dksJ2_indexOfChar_0 9 rfl rfl)
theorem dJ2_indexOfChar_10 : decode cJ2_indexOfChar 10 = .ok (.if_icmp .ge 21, 3) := dk_162 0 21 (dk_at dksJ2_indexOfChar_0 10 rfl rfl)
theorem dJ2_indexOfChar_13 : decode cJ2_indexOfChar 13 = .ok (.aload_n 0, 1) := dk_42 (dk_at dksJ2_indexOfChar_0 13 rfl rfl)
theorem dJ2_indexOfChar_14 : decode cJ2_indexOfChar 14 = .ok (.iload 5, 2) := dk_21 5 (dk_at dksJ2_indexOfChar_0 14 rfl rfl)
theorem dJ2_indexOfChar_16 : decode cJ2_indexOfChar 16 = .ok (.baload, 1) := dk_51 (dk_at dksJ2_indexOfChar_0 16 rfl rfl)
theorem dJ2_indexOfChar_17 : decode cJ2_indexOfChar 17 = .ok (.iload 4, 2) := dk_21 4 (dk_at dksJ2_indexOfChar_0 17 rfl rfl)
theorem dJ2_indexOfChar_19 : decode cJ2_indexOfChar 19 = .ok (.if_icmp .ne 6, 3) := dk_160 0 6 (dk_at dksJ2_indexOfChar_0 19 rfl rfl)
theorem dJ2_indexOfChar_22 : decode cJ2_indexOfChar 22 = .ok (.iload 5, 2) := dk_21 5 (dk_at dksJ2_indexOfChar_0 22 rfl rfl)
theorem dJ2_indexOfChar_24 : decode cJ2_indexOfChar 24 = .ok (.ireturn, 1) := dk_172 (dk_at dksJ2_indexOfChar_1 0 rfl rfl)
theorem dJ2_indexOfChar_25 : decode cJ2_indexOfChar 25 = .ok (.iinc 5 1, 3) := dk_132 5 1 (dk_at dksJ2_indexOfChar_1 1 rfl rfl)
theorem dJ2_indexOfChar_28 : decode cJ2_indexOfChar 28 = .ok (.goto (-21), 3) := dk_167 255 235 (dk_at dksJ2_indexOfChar_1 4 rfl rfl)
theorem dJ2_indexOfChar_31 : decode cJ2_indexOfChar 31 = .ok (.iconst (-1), 1) := dk_2 (dk_at dksJ2_indexOfChar_1 7 rfl rfl)
theorem dJ2_indexOfChar_32 : decode cJ2_indexOfChar 32 = .ok (.ireturn, 1) := dk_172 (dk_at dksJ2_indexOfChar_1 8 rfl rfl)
theorem q116 : (Jvm.Cond.initialized "java/lang/StringLatin1") ∈ lw_all := lw_g (lw_at lw_m1 12 rfl) rfl
theorem q578 : (Jvm.Cond.static ({ cls := "java/lang/StringLatin1", name := "indexOf", desc := "([BIII)I" } : Jvm.MethodName)) ∈ lw_all := lw_g (lw_at lw_m2 234 rfl) rfl
theorem q579 : (Jvm.Cond.code ({ cls := "java/lang/StringLatin1", name := "indexOf", desc := "([BIII)I" } : Jvm.MethodName) prog_24_method_22_code (4 : Nat) (Option.some Jvm.ClassFile.FieldType.int)) ∈ lw_all := lw_g (lw_at lw_m2 235 rfl) rfl
theorem q580 : (Jvm.Cond.methodLink "java/lang/StringLatin1" (88 : Nat) ({ cls := "java/lang/StringLatin1", name := "canEncode", desc := "(I)Z" } : Jvm.MethodName)) ∈ lw_all := lw_g (lw_at lw_m2 236 rfl) rfl
theorem q581 : (Jvm.Cond.static ({ cls := "java/lang/StringLatin1", name := "canEncode", desc := "(I)Z" } : Jvm.MethodName)) ∈ lw_all := lw_g (lw_at lw_m2 237 rfl) rfl
theorem q582 : (Jvm.Cond.code ({ cls := "java/lang/StringLatin1", name := "canEncode", desc := "(I)Z" } : Jvm.MethodName) prog_24_method_4_code (1 : Nat) (Option.some Jvm.ClassFile.FieldType.boolean)) ∈ lw_all := lw_g (lw_at lw_m2 238 rfl) rfl
theorem q583 : (Jvm.Cond.methodLink "java/lang/StringLatin1" (92 : Nat) ({ cls := "java/lang/Math", name := "max", desc := "(II)I" } : Jvm.MethodName)) ∈ lw_all := lw_g (lw_at lw_m2 239 rfl) rfl
theorem q584 : (Jvm.Cond.methodLink "java/lang/StringLatin1" (38 : Nat) ({ cls := "java/lang/Math", name := "min", desc := "(II)I" } : Jvm.MethodName)) ∈ lw_all := lw_g (lw_at lw_m3 0 rfl) rfl
theorem q587 : (Jvm.Cond.methodLink "java/lang/StringLatin1" (95 : Nat) ({ cls := "java/lang/StringLatin1", name := "indexOfChar", desc := "([BIII)I" } : Jvm.MethodName)) ∈ lw_all := lw_g (lw_at lw_m3 3 rfl) rfl
theorem q588 : (Jvm.Cond.static ({ cls := "java/lang/StringLatin1", name := "indexOfChar", desc := "([BIII)I" } : Jvm.MethodName)) ∈ lw_all := lw_g (lw_at lw_m3 4 rfl) rfl
theorem q589 : (Jvm.Cond.code ({ cls := "java/lang/StringLatin1", name := "indexOfChar", desc := "([BIII)I" } : Jvm.MethodName) prog_24_method_23_code (6 : Nat) (Option.some Jvm.ClassFile.FieldType.int)) ∈ lw_all := lw_g (lw_at lw_m3 5 rfl) rfl

/-! java/lang/Integer -/
set_option maxRecDepth 100000
def RJ6 : String := "java/lang/Integer"
abbrev cJ6_bitCount : ByteArray := prog_21_method_49_code
def yJ6_bitCount : MethodName := ⟨RJ6, "bitCount", "(I)I"⟩
def dkwJ6_bitCount_2 : List UInt8 := [26, 16, 63, 126, 172]
abbrev dktJ6_bitCount_2 : List UInt8 := dkwJ6_bitCount_2 ++ []
def dkwJ6_bitCount_1 : List UInt8 := [26, 26, 7, 124, 96, 19, 1, 11, 126, 59, 26, 26, 16, 8, 124, 96, 59, 26, 26, 16, 16, 124, 96, 59]
abbrev dktJ6_bitCount_1 : List UInt8 := dkwJ6_bitCount_1 ++ dktJ6_bitCount_2
def dkwJ6_bitCount_0 : List UInt8 := [26, 26, 4, 124, 19, 1, 9, 126, 100, 59, 26, 19, 1, 10, 126, 26, 5, 124, 19, 1, 10, 126, 96, 59]
abbrev dktJ6_bitCount_0 : List UInt8 := dkwJ6_bitCount_0 ++ dktJ6_bitCount_1
theorem dksJ6_bitCount_0 : cJ6_bitCount.data.toList.drop 0 = dktJ6_bitCount_0 := by decide +kernel
theorem dksJ6_bitCount_1 : cJ6_bitCount.data.toList.drop 24 = dktJ6_bitCount_1 := dk_seg dksJ6_bitCount_0 24 rfl rfl
theorem dksJ6_bitCount_2 : cJ6_bitCount.data.toList.drop 48 = dktJ6_bitCount_2 := dk_seg dksJ6_bitCount_1 24 rfl rfl
theorem dJ6_bitCount_0 : decode cJ6_bitCount 0 = .ok (.iload_n 0, 1) := dk_26 (dk_at dksJ6_bitCount_0 0 rfl rfl)
theorem dJ6_bitCount_1 : decode cJ6_bitCount 1 = .ok (.iload_n 0, 1) := dk_26 (dk_at dksJ6_bitCount_0 1 rfl rfl)
theorem dJ6_bitCount_2 : decode cJ6_bitCount 2 = .ok (.iconst 1, 1) := dk_4 (dk_at dksJ6_bitCount_0 2 rfl rfl)
theorem dJ6_bitCount_3 : decode cJ6_bitCount 3 = .ok (.iushr, 1) := dk_124 (dk_at dksJ6_bitCount_0 3 rfl rfl)
theorem dJ6_bitCount_4 : decode cJ6_bitCount 4 = .ok (.ldc_w 265, 3) := dk_19 1 9 (dk_at dksJ6_bitCount_0 4 rfl rfl)
theorem dJ6_bitCount_7 : decode cJ6_bitCount 7 = .ok (.iand, 1) := dk_126 (dk_at dksJ6_bitCount_0 7 rfl rfl)
theorem dJ6_bitCount_8 : decode cJ6_bitCount 8 = .ok (.isub, 1) := dk_100 (dk_at dksJ6_bitCount_0 8 rfl rfl)
theorem dJ6_bitCount_9 : decode cJ6_bitCount 9 = .ok (.istore_n 0, 1) := dk_59 (dk_at dksJ6_bitCount_0 9 rfl rfl)
theorem dJ6_bitCount_10 : decode cJ6_bitCount 10 = .ok (.iload_n 0, 1) := dk_26 (dk_at dksJ6_bitCount_0 10 rfl rfl)
theorem dJ6_bitCount_11 : decode cJ6_bitCount 11 = .ok (.ldc_w 266, 3) := dk_19 1 10 (dk_at dksJ6_bitCount_0 11 rfl rfl)
theorem dJ6_bitCount_14 : decode cJ6_bitCount 14 = .ok (.iand, 1) := dk_126 (dk_at dksJ6_bitCount_0 14 rfl rfl)
theorem dJ6_bitCount_15 : decode cJ6_bitCount 15 = .ok (.iload_n 0, 1) := dk_26 (dk_at dksJ6_bitCount_0 15 rfl rfl)
theorem dJ6_bitCount_16 : decode cJ6_bitCount 16 = .ok (.iconst 2, 1) := dk_5 (dk_at dksJ6_bitCount_0 16 rfl rfl)
theorem dJ6_bitCount_17 : decode cJ6_bitCount 17 = .ok (.iushr, 1) := dk_124 (dk_at dksJ6_bitCount_0 17 rfl rfl)
theorem dJ6_bitCount_18 : decode cJ6_bitCount 18 = .ok (.ldc_w 266, 3) := dk_19 1 10 (dk_at dksJ6_bitCount_0 18 rfl rfl)
theorem dJ6_bitCount_21 : decode cJ6_bitCount 21 = .ok (.iand, 1) := dk_126 (dk_at dksJ6_bitCount_0 21 rfl rfl)
theorem dJ6_bitCount_22 : decode cJ6_bitCount 22 = .ok (.iadd, 1) := dk_96 (dk_at dksJ6_bitCount_0 22 rfl rfl)
theorem dJ6_bitCount_23 : decode cJ6_bitCount 23 = .ok (.istore_n 0, 1) := dk_59 (dk_at dksJ6_bitCount_0 23 rfl rfl)
theorem dJ6_bitCount_24 : decode cJ6_bitCount 24 = .ok (.iload_n 0, 1) := dk_26 (dk_at dksJ6_bitCount_1 0 rfl rfl)
theorem dJ6_bitCount_25 : decode cJ6_bitCount 25 = .ok (.iload_n 0, 1) := dk_26 (dk_at dksJ6_bitCount_1 1 rfl rfl)
theorem dJ6_bitCount_26 : decode cJ6_bitCount 26 = .ok (.iconst 4, 1) := dk_7 (dk_at dksJ6_bitCount_1 2 rfl rfl)
theorem dJ6_bitCount_27 : decode cJ6_bitCount 27 = .ok (.iushr, 1) := dk_124 (dk_at dksJ6_bitCount_1 3 rfl rfl)
theorem dJ6_bitCount_28 : decode cJ6_bitCount 28 = .ok (.iadd, 1) := dk_96 (dk_at dksJ6_bitCount_1 4 rfl rfl)
theorem dJ6_bitCount_29 : decode cJ6_bitCount 29 = .ok (.ldc_w 267, 3) := dk_19 1 11 (dk_at dksJ6_bitCount_1 5 rfl rfl)
theorem dJ6_bitCount_32 : decode cJ6_bitCount 32 = .ok (.iand, 1) := dk_126 (dk_at dksJ6_bitCount_1 8 rfl rfl)
theorem dJ6_bitCount_33 : decode cJ6_bitCount 33 = .ok (.istore_n 0, 1) := dk_59 (dk_at dksJ6_bitCount_1 9 rfl rfl)
theorem dJ6_bitCount_34 : decode cJ6_bitCount 34 = .ok (.iload_n 0, 1) := dk_26 (dk_at dksJ6_bitCount_1 10 rfl rfl)
theorem dJ6_bitCount_35 : decode cJ6_bitCount 35 = .ok (.iload_n 0, 1) := dk_26 (dk_at dksJ6_bitCount_1 11 rfl rfl)
theorem dJ6_bitCount_36 : decode cJ6_bitCount 36 = .ok (.bipush 8, 2) := dk_16 8 (dk_at dksJ6_bitCount_1 12 rfl rfl)
theorem dJ6_bitCount_38 : decode cJ6_bitCount 38 = .ok (.iushr, 1) := dk_124 (dk_at dksJ6_bitCount_1 14 rfl rfl)
theorem dJ6_bitCount_39 : decode cJ6_bitCount 39 = .ok (.iadd, 1) := dk_96 (dk_at dksJ6_bitCount_1 15 rfl rfl)
theorem dJ6_bitCount_40 : decode cJ6_bitCount 40 = .ok (.istore_n 0, 1) := dk_59 (dk_at dksJ6_bitCount_1 16 rfl rfl)
theorem dJ6_bitCount_41 : decode cJ6_bitCount 41 = .ok (.iload_n 0, 1) := dk_26 (dk_at dksJ6_bitCount_1 17 rfl rfl)
theorem dJ6_bitCount_42 : decode cJ6_bitCount 42 = .ok (.iload_n 0, 1) := dk_26 (dk_at dksJ6_bitCount_1 18 rfl rfl)
theorem dJ6_bitCount_43 : decode cJ6_bitCount 43 = .ok (.bipush 16, 2) := dk_16 16 (dk_at dksJ6_bitCount_1 19 rfl rfl)
theorem dJ6_bitCount_45 : decode cJ6_bitCount 45 = .ok (.iushr, 1) := dk_124 (dk_at dksJ6_bitCount_1 21 rfl rfl)
theorem dJ6_bitCount_46 : decode cJ6_bitCount 46 = .ok (.iadd, 1) := dk_96 (dk_at dksJ6_bitCount_1 22 rfl rfl)
theorem dJ6_bitCount_47 : decode cJ6_bitCount 47 = .ok (.istore_n 0, 1) := dk_59 (dk_at dksJ6_bitCount_1 23 rfl rfl)
theorem dJ6_bitCount_48 : decode cJ6_bitCount 48 = .ok (.iload_n 0, 1) := dk_26 (dk_at dksJ6_bitCount_2 0 rfl rfl)
theorem dJ6_bitCount_49 : decode cJ6_bitCount 49 = .ok (.bipush 63, 2) := dk_16 63 (dk_at dksJ6_bitCount_2 1 rfl rfl)
theorem dJ6_bitCount_51 : decode cJ6_bitCount 51 = .ok (.iand, 1) := dk_126 (dk_at dksJ6_bitCount_2 3 rfl rfl)
theorem dJ6_bitCount_52 : decode cJ6_bitCount 52 = .ok (.ireturn, 1) := dk_172 (dk_at dksJ6_bitCount_2 4 rfl rfl)
theorem q128 : (Jvm.Cond.initialized "java/lang/Integer") ∈ lw_all := lw_g (lw_at lw_m1 24 rfl) rfl
theorem q925 : (Jvm.Cond.static ({ cls := "java/lang/Integer", name := "bitCount", desc := "(I)I" } : Jvm.MethodName)) ∈ lw_all := lw_g (lw_at lw_m4 101 rfl) rfl
theorem q926 : (Jvm.Cond.code ({ cls := "java/lang/Integer", name := "bitCount", desc := "(I)I" } : Jvm.MethodName) prog_21_method_49_code (1 : Nat) (Option.some Jvm.ClassFile.FieldType.int)) ∈ lw_all := lw_g (lw_at lw_m4 102 rfl) rfl
theorem q927 : (Jvm.Cond.constant "java/lang/Integer" (265 : Nat) (1431655765 : Int32)) ∈ lw_all := lw_g (lw_at lw_m4 103 rfl) rfl
theorem q928 : (Jvm.Cond.constant "java/lang/Integer" (266 : Nat) (858993459 : Int32)) ∈ lw_all := lw_g (lw_at lw_m4 104 rfl) rfl
theorem q929 : (Jvm.Cond.constant "java/lang/Integer" (267 : Nat) (252645135 : Int32)) ∈ lw_all := lw_g (lw_at lw_m4 105 rfl) rfl

/-! java/lang/Object -/
set_option maxRecDepth 100000
def RJ7 : String := "java/lang/Object"
abbrev cJ7_init : ByteArray := object_method_1_code
def yJ7_init : MethodName := ⟨RJ7, "<init>", "()V"⟩
theorem dJ7_init_0 : decode cJ7_init 0 = .ok (.return_, 1) := by decide +kernel
theorem q136 : (Jvm.Cond.instanceMethod ({ cls := "java/lang/Object", name := "<init>", desc := "()V" } : Jvm.MethodName)) ∈ lw_all := lw_g (lw_at lw_m1 32 rfl) rfl
theorem q137 : (Jvm.Cond.code ({ cls := "java/lang/Object", name := "<init>", desc := "()V" } : Jvm.MethodName) object_method_1_code (1 : Nat) (Option.none : Option Jvm.ClassFile.FieldType)) ∈ lw_all := lw_g (lw_at lw_m1 33 rfl) rfl

theorem q104 : (Jvm.Cond.initialized "LandingTreeLaw") ∈ lw_all := lw_g (lw_at lw_m1 0 rfl) rfl
set_option maxRecDepth 100000
theorem q130 : (Jvm.Cond.classLink "LandingTreeLaw" (7 : Nat) "LandingTree") ∈ lw_all := lw_g (lw_at lw_m1 26 rfl) rfl
theorem q132 : (Jvm.Cond.methodLink "LandingTreeLaw" (9 : Nat) ({ cls := "LandingTree", name := "<init>", desc := "()V" } : Jvm.MethodName)) ∈ lw_all := lw_g (lw_at lw_m1 28 rfl) rfl
theorem q455 : (Jvm.Cond.methodLink "LandingTreeLaw" (13 : Nat) ({ cls := "LandingTree", name := "plant", desc := "(IIII)Z" } : Jvm.MethodName)) ∈ lw_all := lw_g (lw_at lw_m2 111 rfl) rfl
theorem q465 : (Jvm.Cond.methodLink "LandingTreeLaw" (18 : Nat) ({ cls := "LandingTree", name := "person", desc := "(III)Z" } : Jvm.MethodName)) ∈ lw_all := lw_g (lw_at lw_m2 121 rfl) rfl
theorem q469 : (Jvm.Cond.methodLink "LandingTreeLaw" (23 : Nat) ({ cls := "LandingTree", name := "card", desc := "(IZ)Z" } : Jvm.MethodName)) ∈ lw_all := lw_g (lw_at lw_m2 125 rfl) rfl
theorem q477 : (Jvm.Cond.methodLink "LandingTreeLaw" (28 : Nat) ({ cls := "LandingTree", name := "pour", desc := "(II)I" } : Jvm.MethodName)) ∈ lw_all := lw_g (lw_at lw_m2 133 rfl) rfl
theorem q492 : (Jvm.Cond.methodLink "LandingTreeLaw" (33 : Nat) ({ cls := "LandingTree", name := "feed", desc := "(IIIII)I" } : Jvm.MethodName)) ∈ lw_all := lw_g (lw_at lw_m2 148 rfl) rfl
theorem q500 : (Jvm.Cond.methodLink "LandingTreeLaw" (38 : Nat) ({ cls := "LandingTree", name := "law", desc := "(I)I" } : Jvm.MethodName)) ∈ lw_all := lw_g (lw_at lw_m2 156 rfl) rfl
theorem q770 : (Jvm.Cond.methodLink "LandingTreeLaw" (43 : Nat) ({ cls := "LandingTree", name := "rule", desc := "(II)I" } : Jvm.MethodName)) ∈ lw_all := lw_g (lw_at lw_m3 186 rfl) rfl
theorem q775 : (Jvm.Cond.methodLink "LandingTreeLaw" (47 : Nat) ({ cls := "LandingTree", name := "days", desc := "(I)I" } : Jvm.MethodName)) ∈ lw_all := lw_g (lw_at lw_m3 191 rfl) rfl
theorem q900 : (Jvm.Cond.methodLink "LandingTreeLaw" (51 : Nat) ({ cls := "LandingTree", name := "tried", desc := "(II)I" } : Jvm.MethodName)) ∈ lw_all := lw_g (lw_at lw_m4 76 rfl) rfl
theorem q930 : (Jvm.Cond.methodLink "LandingTreeLaw" (55 : Nat) ({ cls := "LandingTree", name := "plantIs", desc := "(II)I" } : Jvm.MethodName)) ∈ lw_all := lw_g (lw_at lw_m4 106 rfl) rfl
theorem q935 : (Jvm.Cond.methodLink "LandingTreeLaw" (59 : Nat) ({ cls := "LandingTree", name := "gives", desc := "(II)I" } : Jvm.MethodName)) ∈ lw_all := lw_g (lw_at lw_m4 111 rfl) rfl
theorem q940 : (Jvm.Cond.methodLink "LandingTreeLaw" (63 : Nat) ({ cls := "LandingTree", name := "exactly", desc := "(IIII)J" } : Jvm.MethodName)) ∈ lw_all := lw_g (lw_at lw_m4 116 rfl) rfl
theorem q997 : (Jvm.Cond.methodLink "LandingTreeLaw" (68 : Nat) ({ cls := "LandingTree", name := "chance", desc := "(IIII)J" } : Jvm.MethodName)) ∈ lw_all := lw_g (lw_at lw_m4 173 rfl) rfl
theorem q1001 : (Jvm.Cond.methodLink "LandingTreeLaw" (72 : Nat) ({ cls := "LandingTree", name := "toAsk", desc := "(IIII)J" } : Jvm.MethodName)) ∈ lw_all := lw_g (lw_at lw_m4 177 rfl) rfl
theorem q1005 : (Jvm.Cond.methodLink "LandingTreeLaw" (103 : Nat) ({ cls := "LandingTree", name := "movesOut", desc := "(IIII)J" } : Jvm.MethodName)) ∈ lw_all := lw_g (lw_at lw_m4 181 rfl) rfl
theorem q1009 : (Jvm.Cond.methodLink "LandingTreeLaw" (76 : Nat) ({ cls := "LandingTree", name := "few", desc := "(IIII)I" } : Jvm.MethodName)) ∈ lw_all := lw_g (lw_at lw_m4 185 rfl) rfl
theorem q1013 : (Jvm.Cond.methodLink "LandingTreeLaw" (81 : Nat) ({ cls := "LandingTree", name := "pot", desc := "(IIII)J" } : Jvm.MethodName)) ∈ lw_all := lw_g (lw_at lw_m4 189 rfl) rfl
theorem q1018 : (Jvm.Cond.methodLink "LandingTreeLaw" (85 : Nat) ({ cls := "LandingTree", name := "ruleFor", desc := "(IIIII)J" } : Jvm.MethodName)) ∈ lw_all := lw_g (lw_at lw_m4 194 rfl) rfl
theorem q1022 : (Jvm.Cond.methodLink "LandingTreeLaw" (90 : Nat) ({ cls := "LandingTree", name := "lasts", desc := "(II)I" } : Jvm.MethodName)) ∈ lw_all := lw_g (lw_at lw_m4 198 rfl) rfl
theorem q1032 : (Jvm.Cond.methodLink "LandingTreeLaw" (94 : Nat) ({ cls := "LandingTree", name := "needs", desc := "(II)I" } : Jvm.MethodName)) ∈ lw_all := lw_g (lw_at lw_m4 208 rfl) rfl
theorem q1036 : (Jvm.Cond.methodLink "LandingTreeLaw" (98 : Nat) ({ cls := "LandingTree", name := "week", desc := "(III)I" } : Jvm.MethodName)) ∈ lw_all := lw_g (lw_at lw_m4 212 rfl) rfl
theorem q1045 : (Jvm.Cond.methodLink "LandingTreeLaw" (107 : Nat) ({ cls := "LandingTree", name := "spread", desc := "(II)I" } : Jvm.MethodName)) ∈ lw_all := lw_g (lw_at lw_m4 221 rfl) rfl
theorem q1054 : (Jvm.Cond.methodLink "LandingTreeLaw" (111 : Nat) ({ cls := "LandingTree", name := "comes", desc := "(III)J" } : Jvm.MethodName)) ∈ lw_all := lw_g (lw_at lw_m4 230 rfl) rfl
theorem q1062 : (Jvm.Cond.methodLink "LandingTreeLaw" (116 : Nat) ({ cls := "LandingTree", name := "share", desc := "(II)I" } : Jvm.MethodName)) ∈ lw_all := lw_g (lw_at lw_m4 238 rfl) rfl
theorem q1070 : (Jvm.Cond.methodLink "LandingTreeLaw" (120 : Nat) ({ cls := "LandingTree", name := "rota", desc := "(III)I" } : Jvm.MethodName)) ∈ lw_all := lw_g (lw_at lw_m5 6 rfl) rfl
theorem q1146 : (Jvm.Cond.methodLink "LandingTreeLaw" (124 : Nat) ({ cls := "LandingTree", name := "alone", desc := "(II)I" } : Jvm.MethodName)) ∈ lw_all := lw_g (lw_at lw_m5 82 rfl) rfl
theorem q1169 : (Jvm.Cond.methodLink "LandingTreeLaw" (128 : Nat) ({ cls := "LandingTree", name := "whoDid", desc := "(IIIII)J" } : Jvm.MethodName)) ∈ lw_all := lw_g (lw_at lw_m5 105 rfl) rfl
theorem q1181 : (Jvm.Cond.methodLink "LandingTreeLaw" (132 : Nat) ({ cls := "LandingTree", name := "can", desc := "(IIII)J" } : Jvm.MethodName)) ∈ lw_all := lw_g (lw_at lw_m5 117 rfl) rfl
theorem q1185 : (Jvm.Cond.methodLink "LandingTreeLaw" (136 : Nat) ({ cls := "LandingTree", name := "seed", desc := "(I)Z" } : Jvm.MethodName)) ∈ lw_all := lw_g (lw_at lw_m5 121 rfl) rfl
theorem q1190 : (Jvm.Cond.methodLink "LandingTreeLaw" (141 : Nat) ({ cls := "LandingTree", name := "keep", desc := "()I" } : Jvm.MethodName)) ∈ lw_all := lw_g (lw_at lw_m5 126 rfl) rfl
theorem q1194 : (Jvm.Cond.methodLink "LandingTreeLaw" (146 : Nat) ({ cls := "LandingTree", name := "undo", desc := "()Z" } : Jvm.MethodName)) ∈ lw_all := lw_g (lw_at lw_m5 130 rfl) rfl
theorem q1198 : (Jvm.Cond.methodLink "LandingTreeLaw" (151 : Nat) ({ cls := "LandingTree", name := "check", desc := "(II)I" } : Jvm.MethodName)) ∈ lw_all := lw_g (lw_at lw_m5 134 rfl) rfl
theorem q1206 : (Jvm.Cond.methodLink "LandingTreeLaw" (155 : Nat) ({ cls := "LandingTree", name := "count", desc := "(I)I" } : Jvm.MethodName)) ∈ lw_all := lw_g (lw_at lw_m5 142 rfl) rfl
theorem q1218 : (Jvm.Cond.classLink "LandingTreeLaw" (10 : Nat) "LandingTreeModel") ∈ lw_all := lw_g (lw_at lw_m5 154 rfl) rfl
theorem q1220 : (Jvm.Cond.methodLink "LandingTreeLaw" (12 : Nat) ({ cls := "LandingTreeModel", name := "<init>", desc := "()V" } : Jvm.MethodName)) ∈ lw_all := lw_g (lw_at lw_m5 156 rfl) rfl
theorem q1387 : (Jvm.Cond.methodLink "LandingTreeLaw" (17 : Nat) ({ cls := "LandingTreeModel", name := "plant", desc := "(IIII)Z" } : Jvm.MethodName)) ∈ lw_all := lw_g (lw_at lw_m6 83 rfl) rfl
theorem q1394 : (Jvm.Cond.methodLink "LandingTreeLaw" (22 : Nat) ({ cls := "LandingTreeModel", name := "person", desc := "(III)Z" } : Jvm.MethodName)) ∈ lw_all := lw_g (lw_at lw_m6 90 rfl) rfl
theorem q1398 : (Jvm.Cond.methodLink "LandingTreeLaw" (27 : Nat) ({ cls := "LandingTreeModel", name := "card", desc := "(IZ)Z" } : Jvm.MethodName)) ∈ lw_all := lw_g (lw_at lw_m6 94 rfl) rfl
theorem q1409 : (Jvm.Cond.methodLink "LandingTreeLaw" (32 : Nat) ({ cls := "LandingTreeModel", name := "pour", desc := "(II)I" } : Jvm.MethodName)) ∈ lw_all := lw_g (lw_at lw_m6 105 rfl) rfl
theorem q1420 : (Jvm.Cond.methodLink "LandingTreeLaw" (37 : Nat) ({ cls := "LandingTreeModel", name := "feed", desc := "(IIIII)I" } : Jvm.MethodName)) ∈ lw_all := lw_g (lw_at lw_m6 116 rfl) rfl
theorem q1428 : (Jvm.Cond.methodLink "LandingTreeLaw" (42 : Nat) ({ cls := "LandingTreeModel", name := "law", desc := "(I)I" } : Jvm.MethodName)) ∈ lw_all := lw_g (lw_at lw_m6 124 rfl) rfl
theorem q1518 : (Jvm.Cond.methodLink "LandingTreeLaw" (46 : Nat) ({ cls := "LandingTreeModel", name := "rule", desc := "(II)I" } : Jvm.MethodName)) ∈ lw_all := lw_g (lw_at lw_m6 214 rfl) rfl
theorem q1522 : (Jvm.Cond.methodLink "LandingTreeLaw" (62 : Nat) ({ cls := "LandingTreeModel", name := "gives", desc := "(II)I" } : Jvm.MethodName)) ∈ lw_all := lw_g (lw_at lw_m6 218 rfl) rfl
theorem q1556 : (Jvm.Cond.methodLink "LandingTreeLaw" (50 : Nat) ({ cls := "LandingTreeModel", name := "days", desc := "(I)I" } : Jvm.MethodName)) ∈ lw_all := lw_g (lw_at lw_m7 12 rfl) rfl
theorem q1584 : (Jvm.Cond.methodLink "LandingTreeLaw" (54 : Nat) ({ cls := "LandingTreeModel", name := "tried", desc := "(II)I" } : Jvm.MethodName)) ∈ lw_all := lw_g (lw_at lw_m7 40 rfl) rfl
theorem q1591 : (Jvm.Cond.methodLink "LandingTreeLaw" (58 : Nat) ({ cls := "LandingTreeModel", name := "plantIs", desc := "(II)I" } : Jvm.MethodName)) ∈ lw_all := lw_g (lw_at lw_m7 47 rfl) rfl
theorem q1595 : (Jvm.Cond.methodLink "LandingTreeLaw" (67 : Nat) ({ cls := "LandingTreeModel", name := "exactly", desc := "(IIII)J" } : Jvm.MethodName)) ∈ lw_all := lw_g (lw_at lw_m7 51 rfl) rfl
theorem q1642 : (Jvm.Cond.methodLink "LandingTreeLaw" (71 : Nat) ({ cls := "LandingTreeModel", name := "chance", desc := "(IIII)J" } : Jvm.MethodName)) ∈ lw_all := lw_g (lw_at lw_m7 98 rfl) rfl
theorem q1646 : (Jvm.Cond.methodLink "LandingTreeLaw" (75 : Nat) ({ cls := "LandingTreeModel", name := "toAsk", desc := "(IIII)J" } : Jvm.MethodName)) ∈ lw_all := lw_g (lw_at lw_m7 102 rfl) rfl
theorem q1650 : (Jvm.Cond.methodLink "LandingTreeLaw" (80 : Nat) ({ cls := "LandingTreeModel", name := "few", desc := "(IIII)I" } : Jvm.MethodName)) ∈ lw_all := lw_g (lw_at lw_m7 106 rfl) rfl
theorem q1654 : (Jvm.Cond.methodLink "LandingTreeLaw" (84 : Nat) ({ cls := "LandingTreeModel", name := "pot", desc := "(IIII)J" } : Jvm.MethodName)) ∈ lw_all := lw_g (lw_at lw_m7 110 rfl) rfl
theorem q1659 : (Jvm.Cond.methodLink "LandingTreeLaw" (89 : Nat) ({ cls := "LandingTreeModel", name := "ruleFor", desc := "(IIIII)J" } : Jvm.MethodName)) ∈ lw_all := lw_g (lw_at lw_m7 115 rfl) rfl
theorem q1663 : (Jvm.Cond.methodLink "LandingTreeLaw" (93 : Nat) ({ cls := "LandingTreeModel", name := "lasts", desc := "(II)I" } : Jvm.MethodName)) ∈ lw_all := lw_g (lw_at lw_m7 119 rfl) rfl
theorem q1671 : (Jvm.Cond.methodLink "LandingTreeLaw" (110 : Nat) ({ cls := "LandingTreeModel", name := "spread", desc := "(II)I" } : Jvm.MethodName)) ∈ lw_all := lw_g (lw_at lw_m7 127 rfl) rfl
theorem q1687 : (Jvm.Cond.methodLink "LandingTreeLaw" (97 : Nat) ({ cls := "LandingTreeModel", name := "needs", desc := "(II)I" } : Jvm.MethodName)) ∈ lw_all := lw_g (lw_at lw_m7 143 rfl) rfl
theorem q1691 : (Jvm.Cond.methodLink "LandingTreeLaw" (106 : Nat) ({ cls := "LandingTreeModel", name := "movesOut", desc := "(IIII)J" } : Jvm.MethodName)) ∈ lw_all := lw_g (lw_at lw_m7 147 rfl) rfl
theorem q1695 : (Jvm.Cond.methodLink "LandingTreeLaw" (102 : Nat) ({ cls := "LandingTreeModel", name := "week", desc := "(III)I" } : Jvm.MethodName)) ∈ lw_all := lw_g (lw_at lw_m7 151 rfl) rfl
theorem q1709 : (Jvm.Cond.methodLink "LandingTreeLaw" (115 : Nat) ({ cls := "LandingTreeModel", name := "comes", desc := "(III)J" } : Jvm.MethodName)) ∈ lw_all := lw_g (lw_at lw_m7 165 rfl) rfl
theorem q1728 : (Jvm.Cond.methodLink "LandingTreeLaw" (119 : Nat) ({ cls := "LandingTreeModel", name := "share", desc := "(II)I" } : Jvm.MethodName)) ∈ lw_all := lw_g (lw_at lw_m7 184 rfl) rfl
theorem q1732 : (Jvm.Cond.methodLink "LandingTreeLaw" (123 : Nat) ({ cls := "LandingTreeModel", name := "rota", desc := "(III)I" } : Jvm.MethodName)) ∈ lw_all := lw_g (lw_at lw_m7 188 rfl) rfl
theorem q1747 : (Jvm.Cond.methodLink "LandingTreeLaw" (127 : Nat) ({ cls := "LandingTreeModel", name := "alone", desc := "(II)I" } : Jvm.MethodName)) ∈ lw_all := lw_g (lw_at lw_m7 203 rfl) rfl
theorem q1763 : (Jvm.Cond.methodLink "LandingTreeLaw" (131 : Nat) ({ cls := "LandingTreeModel", name := "whoDid", desc := "(IIIII)J" } : Jvm.MethodName)) ∈ lw_all := lw_g (lw_at lw_m7 219 rfl) rfl
theorem q1767 : (Jvm.Cond.methodLink "LandingTreeLaw" (135 : Nat) ({ cls := "LandingTreeModel", name := "can", desc := "(IIII)J" } : Jvm.MethodName)) ∈ lw_all := lw_g (lw_at lw_m7 223 rfl) rfl
theorem q1771 : (Jvm.Cond.methodLink "LandingTreeLaw" (140 : Nat) ({ cls := "LandingTreeModel", name := "seed", desc := "(I)Z" } : Jvm.MethodName)) ∈ lw_all := lw_g (lw_at lw_m7 227 rfl) rfl
theorem q1776 : (Jvm.Cond.methodLink "LandingTreeLaw" (145 : Nat) ({ cls := "LandingTreeModel", name := "keep", desc := "()I" } : Jvm.MethodName)) ∈ lw_all := lw_g (lw_at lw_m7 232 rfl) rfl
theorem q1780 : (Jvm.Cond.methodLink "LandingTreeLaw" (150 : Nat) ({ cls := "LandingTreeModel", name := "undo", desc := "()Z" } : Jvm.MethodName)) ∈ lw_all := lw_g (lw_at lw_m7 236 rfl) rfl
theorem q1784 : (Jvm.Cond.methodLink "LandingTreeLaw" (154 : Nat) ({ cls := "LandingTreeModel", name := "check", desc := "(II)I" } : Jvm.MethodName)) ∈ lw_all := lw_g (lw_at lw_m8 0 rfl) rfl
theorem q1792 : (Jvm.Cond.methodLink "LandingTreeLaw" (158 : Nat) ({ cls := "LandingTreeModel", name := "count", desc := "(I)I" } : Jvm.MethodName)) ∈ lw_all := lw_g (lw_at lw_m8 8 rfl) rfl

theorem q199 : (Jvm.Cond.arrayOver (Jvm.ClassFile.FieldType.object "LandingTree$Plant")) ∈ lw_tbl := lw_at lw_m1 95 rfl
set_option maxRecDepth 100000
theorem q201 : (Jvm.Cond.arrayOver (Jvm.ClassFile.FieldType.object "LandingTree$Person")) ∈ lw_tbl := lw_at lw_m1 97 rfl
theorem q255 : (Jvm.Cond.arrayClass Jvm.ClassFile.FieldType.int) ∈ lw_all := lw_g (lw_at lw_m1 151 rfl) rfl
theorem q315 : (Jvm.Cond.arrayOver (Jvm.ClassFile.FieldType.object "LandingTree$Text")) ∈ lw_tbl := lw_at lw_m1 211 rfl
theorem q322 : (Jvm.Cond.arrayOver (Jvm.ClassFile.FieldType.object "LandingTree$Sum")) ∈ lw_tbl := lw_at lw_m1 218 rfl
theorem q324 : (Jvm.Cond.arrayOver (Jvm.ClassFile.FieldType.object "LandingTree$Condition")) ∈ lw_tbl := lw_at lw_m1 220 rfl
theorem q343 : (Jvm.Cond.arrayClass Jvm.ClassFile.FieldType.byte) ∈ lw_all := lw_g (lw_at lw_m1 239 rfl) rfl
theorem q345 : (Jvm.Cond.arrayOver (Jvm.ClassFile.FieldType.array Jvm.ClassFile.FieldType.long)) ∈ lw_tbl := lw_at lw_m2 1 rfl
theorem q346 : (Jvm.Cond.arrayOver (Jvm.ClassFile.FieldType.object "LandingTree$Landing")) ∈ lw_tbl := lw_at lw_m2 2 rfl
theorem q348 : (Jvm.Cond.arrayOver (Jvm.ClassFile.FieldType.array Jvm.ClassFile.FieldType.int)) ∈ lw_tbl := lw_at lw_m2 4 rfl
theorem q454 : (Jvm.Cond.arrayClass Jvm.ClassFile.FieldType.long) ∈ lw_all := lw_g (lw_at lw_m2 110 rfl) rfl

