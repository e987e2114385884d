/-! LandingTree -/
set_option maxRecDepth 100000
def RX0 : String := "LandingTree"
def TX0 : u_T := fun k => match k with
  | 0 => ("LandingTree", "moment", "LLandingTree$Moment;", true)
  | 1 => ("LandingTree", "landing", "LLandingTree$Landing;", true)
  | 2 => ("LandingTree", "then", "LLandingTree$Landing;", true)
  | 3 => ("LandingTree", "kept", "LLandingTree$Landing;", true)
  | 4 => ("LandingTree", "tape", "[B", true)
  | 5 => ("LandingTree", "rules", "[LLandingTree$Text;", true)
  | 6 => ("LandingTree", "law", "LLandingTree$Text;", false)
  | 7 => ("LandingTree", "taped", "I", false)
  | 8 => ("LandingTree", "isKept", "Z", false)
  | 9 => ("LandingTree", "weights", "[[J", true)
  | 10 => ("LandingTree", "comes", "[[J", true)
  | 11 => ("LandingTree", "some", "[I", true)
  | 12 => ("LandingTree", "tenths", "[I", true)
  | 13 => ("LandingTree", "someMany", "I", false)
  | 14 => ("LandingTree", "plantThen", "I", false)
  | 15 => ("LandingTree", "potThen", "I", false)
  | 16 => ("LandingTree", "bearsThen", "I", false)
  | 17 => ("LandingTree", "wetThen", "I", false)
  | 18 => ("LandingTree", "dayThen", "I", false)
  | 19 => ("LandingTree", "toldMany", "I", false)
  | 20 => ("LandingTree", "deadWeight", "J", false)
  | 21 => ("LandingTree", "cupsThen", "I", false)
  | 22 => ("LandingTree", "limitThen", "I", false)
  | 23 => ("LandingTree", "comers", "[I", true)
  | 24 => ("LandingTree", "bestComers", "[I", true)
  | 25 => ("LandingTree", "fewest", "I", false)
  | 26 => ("LandingTree", "endsWet", "I", false)
  | 27 => ("LandingTree", "daily", "[LLandingTree$Landing;", true)
  | 28 => ("LandingTree", "lasting", "[[I", true)
  | 29 => ("LandingTree", "row", "[I", true)
  | 30 => ("LandingTree", "bestRow", "[I", true)
  | 31 => ("LandingTree", "longest", "I", false)
  | _ => ("LandingTree", "chances", "[J", true)
def tyX0 : Nat → FieldType := fun k => match k with
  | 0 => .object "LandingTree$Moment"
  | 1 => .object "LandingTree$Landing"
  | 2 => .object "LandingTree$Landing"
  | 3 => .object "LandingTree$Landing"
  | 4 => .array .byte
  | 5 => .array (.object "LandingTree$Text")
  | 6 => .object "LandingTree$Text"
  | 7 => .int
  | 8 => .boolean
  | 9 => .array (.array .long)
  | 10 => .array (.array .long)
  | 11 => .array .int
  | 12 => .array .int
  | 13 => .int
  | 14 => .int
  | 15 => .int
  | 16 => .int
  | 17 => .int
  | 18 => .int
  | 19 => .int
  | 20 => .long
  | 21 => .int
  | 22 => .int
  | 23 => .array .int
  | 24 => .array .int
  | 25 => .int
  | 26 => .int
  | 27 => .array (.object "LandingTree$Landing")
  | 28 => .array (.array .int)
  | 29 => .array .int
  | 30 => .array .int
  | 31 => .int
  | _ => .array .long
abbrev wsX00 : List Cond := u_ws RX0 TX0 33
set_option maxRecDepth 100000 in
theorem nmX0 : ∀ a, a < 33 → ∀ b, b < 33 → a ≠ b → (TX0 a).2.1 ≠ (TX0 b).2.1 := by decide +kernel
set_option maxRecDepth 100000 in
theorem tyX0_ok : ∀ k, k < 33 → parseFieldDescriptor (TX0 k).2.2.1 = some (tyX0 k) := by decide +kernel
abbrev cX0_init : ByteArray := prog_1_method_7_code
def yX0_init : MethodName := ⟨RX0, "<init>", "()V"⟩
def dkwX0_init_11 : List UInt8 := [181, 0, 88, 42, 16, 13, 188, 11, 181, 0, 91, 42, 180, 0, 30, 4, 181, 0, 95, 177]
abbrev dktX0_init_11 : List UInt8 := dkwX0_init_11 ++ []
def dkwX0_init_10 : List UInt8 := [42, 7, 16, 25, 197, 0, 80, 2, 181, 0, 82, 42, 7, 188, 10, 181, 0, 85, 42, 7, 188, 10]
abbrev dktX0_init_10 : List UInt8 := dkwX0_init_10 ++ dktX0_init_11
def dkwX0_init_9 : List UInt8 := [187, 0, 27, 89, 42, 183, 0, 29, 83, 89, 16, 7, 187, 0, 27, 89, 42, 183, 0, 29, 83, 181, 0, 76]
abbrev dktX0_init_9 : List UInt8 := dkwX0_init_9 ++ dktX0_init_10
def dkwX0_init_8 : List UInt8 := [7, 187, 0, 27, 89, 42, 183, 0, 29, 83, 89, 8, 187, 0, 27, 89, 42, 183, 0, 29, 83, 89, 16, 6]
abbrev dktX0_init_8 : List UInt8 := dkwX0_init_8 ++ dktX0_init_9
def dkwX0_init_7 : List UInt8 := [83, 89, 5, 187, 0, 27, 89, 42, 183, 0, 29, 83, 89, 6, 187, 0, 27, 89, 42, 183, 0, 29, 83, 89]
abbrev dktX0_init_7 : List UInt8 := dkwX0_init_7 ++ dktX0_init_8
def dkwX0_init_6 : List UInt8 := [189, 0, 27, 89, 3, 187, 0, 27, 89, 42, 183, 0, 29, 83, 89, 4, 187, 0, 27, 89, 42, 183, 0, 29]
abbrev dktX0_init_6 : List UInt8 := dkwX0_init_6 ++ dktX0_init_7
def dkwX0_init_5 : List UInt8 := [181, 0, 67, 42, 16, 7, 188, 10, 181, 0, 70, 42, 16, 7, 188, 10, 181, 0, 73, 42, 16, 8]
abbrev dktX0_init_5 : List UInt8 := dkwX0_init_5 ++ dktX0_init_6
def dkwX0_init_4 : List UInt8 := [16, 25, 16, 20, 197, 0, 55, 2, 181, 0, 60, 42, 6, 188, 10, 181, 0, 63, 42, 6, 188, 10]
abbrev dktX0_init_4 : List UInt8 := dkwX0_init_4 ++ dktX0_init_5
def dkwX0_init_3 : List UInt8 := [187, 0, 44, 89, 183, 0, 50, 181, 0, 51, 42, 16, 25, 16, 20, 197, 0, 55, 2, 181, 0, 57, 42]
abbrev dktX0_init_3 : List UInt8 := dkwX0_init_3 ++ dktX0_init_4
def dkwX0_init_2 : List UInt8 := [183, 0, 29, 181, 0, 37, 42, 17, 0, 220, 188, 8, 181, 0, 40, 42, 7, 189, 0, 44, 181, 0, 46, 42]
abbrev dktX0_init_2 : List UInt8 := dkwX0_init_2 ++ dktX0_init_3
def dkwX0_init_1 : List UInt8 := [183, 0, 29, 181, 0, 30, 42, 187, 0, 27, 89, 42, 183, 0, 29, 181, 0, 34, 42, 187, 0, 27, 89, 42]
abbrev dktX0_init_1 : List UInt8 := dkwX0_init_1 ++ dktX0_init_2
def dkwX0_init_0 : List UInt8 := [42, 183, 0, 12, 42, 187, 0, 18, 89, 42, 183, 0, 20, 181, 0, 23, 42, 187, 0, 27, 89, 42]
abbrev dktX0_init_0 : List UInt8 := dkwX0_init_0 ++ dktX0_init_1
theorem dksX0_init_0 : cX0_init.data.toList.drop 0 = dktX0_init_0 := by decide +kernel
theorem dksX0_init_1 : cX0_init.data.toList.drop 22 = dktX0_init_1 := dk_seg dksX0_init_0 22 rfl rfl
theorem dksX0_init_2 : cX0_init.data.toList.drop 46 = dktX0_init_2 := dk_seg dksX0_init_1 24 rfl rfl
theorem dksX0_init_3 : cX0_init.data.toList.drop 70 = dktX0_init_3 := dk_seg dksX0_init_2 24 rfl rfl
theorem dksX0_init_4 : cX0_init.data.toList.drop 93 = dktX0_init_4 := dk_seg dksX0_init_3 23 rfl rfl
theorem dksX0_init_5 : cX0_init.data.toList.drop 115 = dktX0_init_5 := dk_seg dksX0_init_4 22 rfl rfl
theorem dksX0_init_6 : cX0_init.data.toList.drop 137 = dktX0_init_6 := dk_seg dksX0_init_5 22 rfl rfl
theorem dksX0_init_7 : cX0_init.data.toList.drop 161 = dktX0_init_7 := dk_seg dksX0_init_6 24 rfl rfl
theorem dksX0_init_8 : cX0_init.data.toList.drop 185 = dktX0_init_8 := dk_seg dksX0_init_7 24 rfl rfl
theorem dksX0_init_9 : cX0_init.data.toList.drop 209 = dktX0_init_9 := dk_seg dksX0_init_8 24 rfl rfl
theorem dksX0_init_10 : cX0_init.data.toList.drop 233 = dktX0_init_10 := dk_seg dksX0_init_9 24 rfl rfl
theorem dksX0_init_11 : cX0_init.data.toList.drop 255 = dktX0_init_11 := dk_seg dksX0_init_10 22 rfl rfl
theorem dX0_init_0 : decode cX0_init 0 = .ok (.aload_n 0, 1) := dk_42 (dk_at dksX0_init_0 0 rfl rfl)
theorem dX0_init_1 : decode cX0_init 1 = .ok (.invokespecial 12, 3) := dk_183 0 12 (dk_at dksX0_init_0 1 rfl rfl)
theorem dX0_init_4 : decode cX0_init 4 = .ok (.aload_n 0, 1) := dk_42 (dk_at dksX0_init_0 4 rfl rfl)
theorem dX0_init_5 : decode cX0_init 5 = .ok (.new 18, 3) := dk_187 0 18 (dk_at dksX0_init_0 5 rfl rfl)
theorem dX0_init_8 : decode cX0_init 8 = .ok (.dup, 1) := dk_89 (dk_at dksX0_init_0 8 rfl rfl)
theorem dX0_init_9 : decode cX0_init 9 = .ok (.aload_n 0, 1) := dk_42 (dk_at dksX0_init_0 9 rfl rfl)
theorem dX0_init_10 : decode cX0_init 10 = .ok (.invokespecial 20, 3) := dk_183 0 20 (dk_at dksX0_init_0 10 rfl rfl)
theorem dX0_init_13 : decode cX0_init 13 = .ok (.putfield 23, 3) := dk_181 0 23 (dk_at dksX0_init_0 13 rfl rfl)
theorem dX0_init_16 : decode cX0_init 16 = .ok (.aload_n 0, 1) := dk_42 (dk_at dksX0_init_0 16 rfl rfl)
theorem dX0_init_17 : decode cX0_init 17 = .ok (.new 27, 3) := dk_187 0 27 (dk_at dksX0_init_0 17 rfl rfl)
theorem dX0_init_20 : decode cX0_init 20 = .ok (.dup, 1) := dk_89 (dk_at dksX0_init_0 20 rfl rfl)
theorem dX0_init_21 : decode cX0_init 21 = .ok (.aload_n 0, 1) := dk_42 (dk_at dksX0_init_0 21 rfl rfl)
theorem dX0_init_22 : decode cX0_init 22 = .ok (.invokespecial 29, 3) := dk_183 0 29 (dk_at dksX0_init_1 0 rfl rfl)
theorem dX0_init_25 : decode cX0_init 25 = .ok (.putfield 30, 3) := dk_181 0 30 (dk_at dksX0_init_1 3 rfl rfl)
theorem dX0_init_28 : decode cX0_init 28 = .ok (.aload_n 0, 1) := dk_42 (dk_at dksX0_init_1 6 rfl rfl)
theorem dX0_init_29 : decode cX0_init 29 = .ok (.new 27, 3) := dk_187 0 27 (dk_at dksX0_init_1 7 rfl rfl)
theorem dX0_init_32 : decode cX0_init 32 = .ok (.dup, 1) := dk_89 (dk_at dksX0_init_1 10 rfl rfl)
theorem dX0_init_33 : decode cX0_init 33 = .ok (.aload_n 0, 1) := dk_42 (dk_at dksX0_init_1 11 rfl rfl)
theorem dX0_init_34 : decode cX0_init 34 = .ok (.invokespecial 29, 3) := dk_183 0 29 (dk_at dksX0_init_1 12 rfl rfl)
theorem dX0_init_37 : decode cX0_init 37 = .ok (.putfield 34, 3) := dk_181 0 34 (dk_at dksX0_init_1 15 rfl rfl)
theorem dX0_init_40 : decode cX0_init 40 = .ok (.aload_n 0, 1) := dk_42 (dk_at dksX0_init_1 18 rfl rfl)
theorem dX0_init_41 : decode cX0_init 41 = .ok (.new 27, 3) := dk_187 0 27 (dk_at dksX0_init_1 19 rfl rfl)
theorem dX0_init_44 : decode cX0_init 44 = .ok (.dup, 1) := dk_89 (dk_at dksX0_init_1 22 rfl rfl)
theorem dX0_init_45 : decode cX0_init 45 = .ok (.aload_n 0, 1) := dk_42 (dk_at dksX0_init_1 23 rfl rfl)
theorem dX0_init_46 : decode cX0_init 46 = .ok (.invokespecial 29, 3) := dk_183 0 29 (dk_at dksX0_init_2 0 rfl rfl)
theorem dX0_init_49 : decode cX0_init 49 = .ok (.putfield 37, 3) := dk_181 0 37 (dk_at dksX0_init_2 3 rfl rfl)
theorem dX0_init_52 : decode cX0_init 52 = .ok (.aload_n 0, 1) := dk_42 (dk_at dksX0_init_2 6 rfl rfl)
theorem dX0_init_53 : decode cX0_init 53 = .ok (.sipush 220, 3) := dk_17 0 220 (dk_at dksX0_init_2 7 rfl rfl)
theorem dX0_init_56 : decode cX0_init 56 = .ok (.newarray .byte, 2) := dk_188_8 (dk_at dksX0_init_2 10 rfl rfl)
theorem dX0_init_58 : decode cX0_init 58 = .ok (.putfield 40, 3) := dk_181 0 40 (dk_at dksX0_init_2 12 rfl rfl)
theorem dX0_init_61 : decode cX0_init 61 = .ok (.aload_n 0, 1) := dk_42 (dk_at dksX0_init_2 15 rfl rfl)
theorem dX0_init_62 : decode cX0_init 62 = .ok (.iconst 4, 1) := dk_7 (dk_at dksX0_init_2 16 rfl rfl)
theorem dX0_init_63 : decode cX0_init 63 = .ok (.anewarray 44, 3) := dk_189 0 44 (dk_at dksX0_init_2 17 rfl rfl)
theorem dX0_init_66 : decode cX0_init 66 = .ok (.putfield 46, 3) := dk_181 0 46 (dk_at dksX0_init_2 20 rfl rfl)
theorem dX0_init_69 : decode cX0_init 69 = .ok (.aload_n 0, 1) := dk_42 (dk_at dksX0_init_2 23 rfl rfl)
theorem dX0_init_70 : decode cX0_init 70 = .ok (.new 44, 3) := dk_187 0 44 (dk_at dksX0_init_3 0 rfl rfl)
theorem dX0_init_73 : decode cX0_init 73 = .ok (.dup, 1) := dk_89 (dk_at dksX0_init_3 3 rfl rfl)
theorem dX0_init_74 : decode cX0_init 74 = .ok (.invokespecial 50, 3) := dk_183 0 50 (dk_at dksX0_init_3 4 rfl rfl)
theorem dX0_init_77 : decode cX0_init 77 = .ok (.putfield 51, 3) := dk_181 0 51 (dk_at dksX0_init_3 7 rfl rfl)
theorem dX0_init_80 : decode cX0_init 80 = .ok (.aload_n 0, 1) := dk_42 (dk_at dksX0_init_3 10 rfl rfl)
theorem dX0_init_81 : decode cX0_init 81 = .ok (.bipush 25, 2) := dk_16 25 (dk_at dksX0_init_3 11 rfl rfl)
theorem dX0_init_83 : decode cX0_init 83 = .ok (.bipush 20, 2) := dk_16 20 (dk_at dksX0_init_3 13 rfl rfl)
theorem dX0_init_85 : decode cX0_init 85 = .ok (.multianewarray 55 2, 4) := by decide +kernel
theorem dX0_init_89 : decode cX0_init 89 = .ok (.putfield 57, 3) := dk_181 0 57 (dk_at dksX0_init_3 19 rfl rfl)
theorem dX0_init_92 : decode cX0_init 92 = .ok (.aload_n 0, 1) := dk_42 (dk_at dksX0_init_3 22 rfl rfl)
theorem dX0_init_93 : decode cX0_init 93 = .ok (.bipush 25, 2) := dk_16 25 (dk_at dksX0_init_4 0 rfl rfl)
theorem dX0_init_95 : decode cX0_init 95 = .ok (.bipush 20, 2) := dk_16 20 (dk_at dksX0_init_4 2 rfl rfl)
theorem dX0_init_97 : decode cX0_init 97 = .ok (.multianewarray 55 2, 4) := by decide +kernel
theorem dX0_init_101 : decode cX0_init 101 = .ok (.putfield 60, 3) := dk_181 0 60 (dk_at dksX0_init_4 8 rfl rfl)
theorem dX0_init_104 : decode cX0_init 104 = .ok (.aload_n 0, 1) := dk_42 (dk_at dksX0_init_4 11 rfl rfl)
theorem dX0_init_105 : decode cX0_init 105 = .ok (.iconst 3, 1) := dk_6 (dk_at dksX0_init_4 12 rfl rfl)
theorem dX0_init_106 : decode cX0_init 106 = .ok (.newarray .int, 2) := dk_188_10 (dk_at dksX0_init_4 13 rfl rfl)
theorem dX0_init_108 : decode cX0_init 108 = .ok (.putfield 63, 3) := dk_181 0 63 (dk_at dksX0_init_4 15 rfl rfl)
theorem dX0_init_111 : decode cX0_init 111 = .ok (.aload_n 0, 1) := dk_42 (dk_at dksX0_init_4 18 rfl rfl)
theorem dX0_init_112 : decode cX0_init 112 = .ok (.iconst 3, 1) := dk_6 (dk_at dksX0_init_4 19 rfl rfl)
theorem dX0_init_113 : decode cX0_init 113 = .ok (.newarray .int, 2) := dk_188_10 (dk_at dksX0_init_4 20 rfl rfl)
theorem dX0_init_115 : decode cX0_init 115 = .ok (.putfield 67, 3) := dk_181 0 67 (dk_at dksX0_init_5 0 rfl rfl)
theorem dX0_init_118 : decode cX0_init 118 = .ok (.aload_n 0, 1) := dk_42 (dk_at dksX0_init_5 3 rfl rfl)
theorem dX0_init_119 : decode cX0_init 119 = .ok (.bipush 7, 2) := dk_16 7 (dk_at dksX0_init_5 4 rfl rfl)
theorem dX0_init_121 : decode cX0_init 121 = .ok (.newarray .int, 2) := dk_188_10 (dk_at dksX0_init_5 6 rfl rfl)
theorem dX0_init_123 : decode cX0_init 123 = .ok (.putfield 70, 3) := dk_181 0 70 (dk_at dksX0_init_5 8 rfl rfl)
theorem dX0_init_126 : decode cX0_init 126 = .ok (.aload_n 0, 1) := dk_42 (dk_at dksX0_init_5 11 rfl rfl)
theorem dX0_init_127 : decode cX0_init 127 = .ok (.bipush 7, 2) := dk_16 7 (dk_at dksX0_init_5 12 rfl rfl)
theorem dX0_init_129 : decode cX0_init 129 = .ok (.newarray .int, 2) := dk_188_10 (dk_at dksX0_init_5 14 rfl rfl)
theorem dX0_init_131 : decode cX0_init 131 = .ok (.putfield 73, 3) := dk_181 0 73 (dk_at dksX0_init_5 16 rfl rfl)
theorem dX0_init_134 : decode cX0_init 134 = .ok (.aload_n 0, 1) := dk_42 (dk_at dksX0_init_5 19 rfl rfl)
theorem dX0_init_135 : decode cX0_init 135 = .ok (.bipush 8, 2) := dk_16 8 (dk_at dksX0_init_5 20 rfl rfl)
theorem dX0_init_137 : decode cX0_init 137 = .ok (.anewarray 27, 3) := dk_189 0 27 (dk_at dksX0_init_6 0 rfl rfl)
theorem dX0_init_140 : decode cX0_init 140 = .ok (.dup, 1) := dk_89 (dk_at dksX0_init_6 3 rfl rfl)
theorem dX0_init_141 : decode cX0_init 141 = .ok (.iconst 0, 1) := dk_3 (dk_at dksX0_init_6 4 rfl rfl)
theorem dX0_init_142 : decode cX0_init 142 = .ok (.new 27, 3) := dk_187 0 27 (dk_at dksX0_init_6 5 rfl rfl)
theorem dX0_init_145 : decode cX0_init 145 = .ok (.dup, 1) := dk_89 (dk_at dksX0_init_6 8 rfl rfl)
theorem dX0_init_146 : decode cX0_init 146 = .ok (.aload_n 0, 1) := dk_42 (dk_at dksX0_init_6 9 rfl rfl)
theorem dX0_init_147 : decode cX0_init 147 = .ok (.invokespecial 29, 3) := dk_183 0 29 (dk_at dksX0_init_6 10 rfl rfl)
theorem dX0_init_150 : decode cX0_init 150 = .ok (.aastore, 1) := dk_83 (dk_at dksX0_init_6 13 rfl rfl)
theorem dX0_init_151 : decode cX0_init 151 = .ok (.dup, 1) := dk_89 (dk_at dksX0_init_6 14 rfl rfl)
theorem dX0_init_152 : decode cX0_init 152 = .ok (.iconst 1, 1) := dk_4 (dk_at dksX0_init_6 15 rfl rfl)
theorem dX0_init_153 : decode cX0_init 153 = .ok (.new 27, 3) := dk_187 0 27 (dk_at dksX0_init_6 16 rfl rfl)
theorem dX0_init_156 : decode cX0_init 156 = .ok (.dup, 1) := dk_89 (dk_at dksX0_init_6 19 rfl rfl)
theorem dX0_init_157 : decode cX0_init 157 = .ok (.aload_n 0, 1) := dk_42 (dk_at dksX0_init_6 20 rfl rfl)
theorem dX0_init_158 : decode cX0_init 158 = .ok (.invokespecial 29, 3) := dk_183 0 29 (dk_at dksX0_init_6 21 rfl rfl)
theorem dX0_init_161 : decode cX0_init 161 = .ok (.aastore, 1) := dk_83 (dk_at dksX0_init_7 0 rfl rfl)
theorem dX0_init_162 : decode cX0_init 162 = .ok (.dup, 1) := dk_89 (dk_at dksX0_init_7 1 rfl rfl)
theorem dX0_init_163 : decode cX0_init 163 = .ok (.iconst 2, 1) := dk_5 (dk_at dksX0_init_7 2 rfl rfl)
theorem dX0_init_164 : decode cX0_init 164 = .ok (.new 27, 3) := dk_187 0 27 (dk_at dksX0_init_7 3 rfl rfl)
theorem dX0_init_167 : decode cX0_init 167 = .ok (.dup, 1) := dk_89 (dk_at dksX0_init_7 6 rfl rfl)
theorem dX0_init_168 : decode cX0_init 168 = .ok (.aload_n 0, 1) := dk_42 (dk_at dksX0_init_7 7 rfl rfl)
theorem dX0_init_169 : decode cX0_init 169 = .ok (.invokespecial 29, 3) := dk_183 0 29 (dk_at dksX0_init_7 8 rfl rfl)
theorem dX0_init_172 : decode cX0_init 172 = .ok (.aastore, 1) := dk_83 (dk_at dksX0_init_7 11 rfl rfl)
theorem dX0_init_173 : decode cX0_init 173 = .ok (.dup, 1) := dk_89 (dk_at dksX0_init_7 12 rfl rfl)
theorem dX0_init_174 : decode cX0_init 174 = .ok (.iconst 3, 1) := dk_6 (dk_at dksX0_init_7 13 rfl rfl)
theorem dX0_init_175 : decode cX0_init 175 = .ok (.new 27, 3) := dk_187 0 27 (dk_at dksX0_init_7 14 rfl rfl)
theorem dX0_init_178 : decode cX0_init 178 = .ok (.dup, 1) := dk_89 (dk_at dksX0_init_7 17 rfl rfl)
theorem dX0_init_179 : decode cX0_init 179 = .ok (.aload_n 0, 1) := dk_42 (dk_at dksX0_init_7 18 rfl rfl)
theorem dX0_init_180 : decode cX0_init 180 = .ok (.invokespecial 29, 3) := dk_183 0 29 (dk_at dksX0_init_7 19 rfl rfl)
theorem dX0_init_183 : decode cX0_init 183 = .ok (.aastore, 1) := dk_83 (dk_at dksX0_init_7 22 rfl rfl)
theorem dX0_init_184 : decode cX0_init 184 = .ok (.dup, 1) := dk_89 (dk_at dksX0_init_7 23 rfl rfl)
theorem dX0_init_185 : decode cX0_init 185 = .ok (.iconst 4, 1) := dk_7 (dk_at dksX0_init_8 0 rfl rfl)
theorem dX0_init_186 : decode cX0_init 186 = .ok (.new 27, 3) := dk_187 0 27 (dk_at dksX0_init_8 1 rfl rfl)
theorem dX0_init_189 : decode cX0_init 189 = .ok (.dup, 1) := dk_89 (dk_at dksX0_init_8 4 rfl rfl)
theorem dX0_init_190 : decode cX0_init 190 = .ok (.aload_n 0, 1) := dk_42 (dk_at dksX0_init_8 5 rfl rfl)
theorem dX0_init_191 : decode cX0_init 191 = .ok (.invokespecial 29, 3) := dk_183 0 29 (dk_at dksX0_init_8 6 rfl rfl)
theorem dX0_init_194 : decode cX0_init 194 = .ok (.aastore, 1) := dk_83 (dk_at dksX0_init_8 9 rfl rfl)
theorem dX0_init_195 : decode cX0_init 195 = .ok (.dup, 1) := dk_89 (dk_at dksX0_init_8 10 rfl rfl)
theorem dX0_init_196 : decode cX0_init 196 = .ok (.iconst 5, 1) := dk_8 (dk_at dksX0_init_8 11 rfl rfl)
theorem dX0_init_197 : decode cX0_init 197 = .ok (.new 27, 3) := dk_187 0 27 (dk_at dksX0_init_8 12 rfl rfl)
theorem dX0_init_200 : decode cX0_init 200 = .ok (.dup, 1) := dk_89 (dk_at dksX0_init_8 15 rfl rfl)
theorem dX0_init_201 : decode cX0_init 201 = .ok (.aload_n 0, 1) := dk_42 (dk_at dksX0_init_8 16 rfl rfl)
theorem dX0_init_202 : decode cX0_init 202 = .ok (.invokespecial 29, 3) := dk_183 0 29 (dk_at dksX0_init_8 17 rfl rfl)
theorem dX0_init_205 : decode cX0_init 205 = .ok (.aastore, 1) := dk_83 (dk_at dksX0_init_8 20 rfl rfl)
theorem dX0_init_206 : decode cX0_init 206 = .ok (.dup, 1) := dk_89 (dk_at dksX0_init_8 21 rfl rfl)
theorem dX0_init_207 : decode cX0_init 207 = .ok (.bipush 6, 2) := dk_16 6 (dk_at dksX0_init_8 22 rfl rfl)
theorem dX0_init_209 : decode cX0_init 209 = .ok (.new 27, 3) := dk_187 0 27 (dk_at dksX0_init_9 0 rfl rfl)
theorem dX0_init_212 : decode cX0_init 212 = .ok (.dup, 1) := dk_89 (dk_at dksX0_init_9 3 rfl rfl)
theorem dX0_init_213 : decode cX0_init 213 = .ok (.aload_n 0, 1) := dk_42 (dk_at dksX0_init_9 4 rfl rfl)
theorem dX0_init_214 : decode cX0_init 214 = .ok (.invokespecial 29, 3) := dk_183 0 29 (dk_at dksX0_init_9 5 rfl rfl)
theorem dX0_init_217 : decode cX0_init 217 = .ok (.aastore, 1) := dk_83 (dk_at dksX0_init_9 8 rfl rfl)
theorem dX0_init_218 : decode cX0_init 218 = .ok (.dup, 1) := dk_89 (dk_at dksX0_init_9 9 rfl rfl)
theorem dX0_init_219 : decode cX0_init 219 = .ok (.bipush 7, 2) := dk_16 7 (dk_at dksX0_init_9 10 rfl rfl)
theorem dX0_init_221 : decode cX0_init 221 = .ok (.new 27, 3) := dk_187 0 27 (dk_at dksX0_init_9 12 rfl rfl)
theorem dX0_init_224 : decode cX0_init 224 = .ok (.dup, 1) := dk_89 (dk_at dksX0_init_9 15 rfl rfl)
theorem dX0_init_225 : decode cX0_init 225 = .ok (.aload_n 0, 1) := dk_42 (dk_at dksX0_init_9 16 rfl rfl)
theorem dX0_init_226 : decode cX0_init 226 = .ok (.invokespecial 29, 3) := dk_183 0 29 (dk_at dksX0_init_9 17 rfl rfl)
theorem dX0_init_229 : decode cX0_init 229 = .ok (.aastore, 1) := dk_83 (dk_at dksX0_init_9 20 rfl rfl)
theorem dX0_init_230 : decode cX0_init 230 = .ok (.putfield 76, 3) := dk_181 0 76 (dk_at dksX0_init_9 21 rfl rfl)
theorem dX0_init_233 : decode cX0_init 233 = .ok (.aload_n 0, 1) := dk_42 (dk_at dksX0_init_10 0 rfl rfl)
theorem dX0_init_234 : decode cX0_init 234 = .ok (.iconst 4, 1) := dk_7 (dk_at dksX0_init_10 1 rfl rfl)
theorem dX0_init_235 : decode cX0_init 235 = .ok (.bipush 25, 2) := dk_16 25 (dk_at dksX0_init_10 2 rfl rfl)
theorem dX0_init_237 : decode cX0_init 237 = .ok (.multianewarray 80 2, 4) := by decide +kernel
theorem dX0_init_241 : decode cX0_init 241 = .ok (.putfield 82, 3) := dk_181 0 82 (dk_at dksX0_init_10 8 rfl rfl)
theorem dX0_init_244 : decode cX0_init 244 = .ok (.aload_n 0, 1) := dk_42 (dk_at dksX0_init_10 11 rfl rfl)
theorem dX0_init_245 : decode cX0_init 245 = .ok (.iconst 4, 1) := dk_7 (dk_at dksX0_init_10 12 rfl rfl)
theorem dX0_init_246 : decode cX0_init 246 = .ok (.newarray .int, 2) := dk_188_10 (dk_at dksX0_init_10 13 rfl rfl)
theorem dX0_init_248 : decode cX0_init 248 = .ok (.putfield 85, 3) := dk_181 0 85 (dk_at dksX0_init_10 15 rfl rfl)
theorem dX0_init_251 : decode cX0_init 251 = .ok (.aload_n 0, 1) := dk_42 (dk_at dksX0_init_10 18 rfl rfl)
theorem dX0_init_252 : decode cX0_init 252 = .ok (.iconst 4, 1) := dk_7 (dk_at dksX0_init_10 19 rfl rfl)
theorem dX0_init_253 : decode cX0_init 253 = .ok (.newarray .int, 2) := dk_188_10 (dk_at dksX0_init_10 20 rfl rfl)
theorem dX0_init_255 : decode cX0_init 255 = .ok (.putfield 88, 3) := dk_181 0 88 (dk_at dksX0_init_11 0 rfl rfl)
theorem dX0_init_258 : decode cX0_init 258 = .ok (.aload_n 0, 1) := dk_42 (dk_at dksX0_init_11 3 rfl rfl)
theorem dX0_init_259 : decode cX0_init 259 = .ok (.bipush 13, 2) := dk_16 13 (dk_at dksX0_init_11 4 rfl rfl)
theorem dX0_init_261 : decode cX0_init 261 = .ok (.newarray .long, 2) := dk_188_11 (dk_at dksX0_init_11 6 rfl rfl)
theorem dX0_init_263 : decode cX0_init 263 = .ok (.putfield 91, 3) := dk_181 0 91 (dk_at dksX0_init_11 8 rfl rfl)
theorem dX0_init_266 : decode cX0_init 266 = .ok (.aload_n 0, 1) := dk_42 (dk_at dksX0_init_11 11 rfl rfl)
theorem dX0_init_267 : decode cX0_init 267 = .ok (.getfield 30, 3) := dk_180 0 30 (dk_at dksX0_init_11 12 rfl rfl)
theorem dX0_init_270 : decode cX0_init 270 = .ok (.iconst 1, 1) := dk_4 (dk_at dksX0_init_11 15 rfl rfl)
theorem dX0_init_271 : decode cX0_init 271 = .ok (.putfield 95, 3) := dk_181 0 95 (dk_at dksX0_init_11 16 rfl rfl)
theorem dX0_init_274 : decode cX0_init 274 = .ok (.return_, 1) := dk_177 (dk_at dksX0_init_11 19 rfl rfl)
abbrev cX0_plant : ByteArray := prog_1_method_10_code
def yX0_plant : MethodName := ⟨RX0, "plant", "(IIII)Z"⟩
def dkwX0_plant_5 : List UInt8 := [180, 0, 148, 21, 6, 29, 79, 132, 6, 1, 167, 255, 237, 4, 172]
abbrev dktX0_plant_5 : List UInt8 := dkwX0_plant_5 ++ []
def dkwX0_plant_4 : List UInt8 := [3, 181, 0, 142, 25, 5, 3, 181, 0, 145, 3, 54, 6, 21, 6, 16, 7, 162, 0, 18, 25, 5]
abbrev dktX0_plant_4 : List UInt8 := dkwX0_plant_4 ++ dktX0_plant_5
def dkwX0_plant_3 : List UInt8 := [181, 0, 130, 25, 5, 29, 181, 0, 133, 25, 5, 21, 4, 181, 0, 136, 25, 5, 3, 181, 0, 139, 25, 5]
abbrev dktX0_plant_3 : List UInt8 := dkwX0_plant_3 ++ dktX0_plant_4
def dkwX0_plant_2 : List UInt8 := [50, 58, 5, 25, 5, 4, 181, 0, 107, 25, 5, 3, 181, 0, 124, 25, 5, 2, 181, 0, 127, 25, 5, 28]
abbrev dktX0_plant_2 : List UInt8 := dkwX0_plant_2 ++ dktX0_plant_3
def dkwX0_plant_1 : List UInt8 := [153, 0, 14, 21, 4, 4, 16, 9, 184, 0, 120, 154, 0, 5, 3, 172, 42, 180, 0, 30, 180, 0, 103, 27]
abbrev dktX0_plant_1 : List UInt8 := dkwX0_plant_1 ++ dktX0_plant_2
def dkwX0_plant_0 : List UInt8 := [27, 7, 184, 0, 99, 153, 0, 33, 28, 7, 16, 24, 184, 0, 120, 153, 0, 23, 29, 3, 28, 184, 0, 120]
abbrev dktX0_plant_0 : List UInt8 := dkwX0_plant_0 ++ dktX0_plant_1
theorem dksX0_plant_0 : cX0_plant.data.toList.drop 0 = dktX0_plant_0 := by decide +kernel
theorem dksX0_plant_1 : cX0_plant.data.toList.drop 24 = dktX0_plant_1 := dk_seg dksX0_plant_0 24 rfl rfl
theorem dksX0_plant_2 : cX0_plant.data.toList.drop 48 = dktX0_plant_2 := dk_seg dksX0_plant_1 24 rfl rfl
theorem dksX0_plant_3 : cX0_plant.data.toList.drop 72 = dktX0_plant_3 := dk_seg dksX0_plant_2 24 rfl rfl
theorem dksX0_plant_4 : cX0_plant.data.toList.drop 96 = dktX0_plant_4 := dk_seg dksX0_plant_3 24 rfl rfl
theorem dksX0_plant_5 : cX0_plant.data.toList.drop 118 = dktX0_plant_5 := dk_seg dksX0_plant_4 22 rfl rfl
theorem dX0_plant_0 : decode cX0_plant 0 = .ok (.iload_n 1, 1) := dk_27 (dk_at dksX0_plant_0 0 rfl rfl)
theorem dX0_plant_1 : decode cX0_plant 1 = .ok (.iconst 4, 1) := dk_7 (dk_at dksX0_plant_0 1 rfl rfl)
theorem dX0_plant_2 : decode cX0_plant 2 = .ok (.invokestatic 99, 3) := dk_184 0 99 (dk_at dksX0_plant_0 2 rfl rfl)
theorem dX0_plant_5 : decode cX0_plant 5 = .ok (.ifCond .eq 33, 3) := dk_153 0 33 (dk_at dksX0_plant_0 5 rfl rfl)
theorem dX0_plant_8 : decode cX0_plant 8 = .ok (.iload_n 2, 1) := dk_28 (dk_at dksX0_plant_0 8 rfl rfl)
theorem dX0_plant_9 : decode cX0_plant 9 = .ok (.iconst 4, 1) := dk_7 (dk_at dksX0_plant_0 9 rfl rfl)
theorem dX0_plant_10 : decode cX0_plant 10 = .ok (.bipush 24, 2) := dk_16 24 (dk_at dksX0_plant_0 10 rfl rfl)
theorem dX0_plant_12 : decode cX0_plant 12 = .ok (.invokestatic 120, 3) := dk_184 0 120 (dk_at dksX0_plant_0 12 rfl rfl)
theorem dX0_plant_15 : decode cX0_plant 15 = .ok (.ifCond .eq 23, 3) := dk_153 0 23 (dk_at dksX0_plant_0 15 rfl rfl)
theorem dX0_plant_18 : decode cX0_plant 18 = .ok (.iload_n 3, 1) := dk_29 (dk_at dksX0_plant_0 18 rfl rfl)
theorem dX0_plant_19 : decode cX0_plant 19 = .ok (.iconst 0, 1) := dk_3 (dk_at dksX0_plant_0 19 rfl rfl)
theorem dX0_plant_20 : decode cX0_plant 20 = .ok (.iload_n 2, 1) := dk_28 (dk_at dksX0_plant_0 20 rfl rfl)
theorem dX0_plant_21 : decode cX0_plant 21 = .ok (.invokestatic 120, 3) := dk_184 0 120 (dk_at dksX0_plant_0 21 rfl rfl)
theorem dX0_plant_24 : decode cX0_plant 24 = .ok (.ifCond .eq 14, 3) := dk_153 0 14 (dk_at dksX0_plant_1 0 rfl rfl)
theorem dX0_plant_27 : decode cX0_plant 27 = .ok (.iload 4, 2) := dk_21 4 (dk_at dksX0_plant_1 3 rfl rfl)
theorem dX0_plant_29 : decode cX0_plant 29 = .ok (.iconst 1, 1) := dk_4 (dk_at dksX0_plant_1 5 rfl rfl)
theorem dX0_plant_30 : decode cX0_plant 30 = .ok (.bipush 9, 2) := dk_16 9 (dk_at dksX0_plant_1 6 rfl rfl)
theorem dX0_plant_32 : decode cX0_plant 32 = .ok (.invokestatic 120, 3) := dk_184 0 120 (dk_at dksX0_plant_1 8 rfl rfl)
theorem dX0_plant_35 : decode cX0_plant 35 = .ok (.ifCond .ne 5, 3) := dk_154 0 5 (dk_at dksX0_plant_1 11 rfl rfl)
theorem dX0_plant_38 : decode cX0_plant 38 = .ok (.iconst 0, 1) := dk_3 (dk_at dksX0_plant_1 14 rfl rfl)
theorem dX0_plant_39 : decode cX0_plant 39 = .ok (.ireturn, 1) := dk_172 (dk_at dksX0_plant_1 15 rfl rfl)
theorem dX0_plant_40 : decode cX0_plant 40 = .ok (.aload_n 0, 1) := dk_42 (dk_at dksX0_plant_1 16 rfl rfl)
theorem dX0_plant_41 : decode cX0_plant 41 = .ok (.getfield 30, 3) := dk_180 0 30 (dk_at dksX0_plant_1 17 rfl rfl)
theorem dX0_plant_44 : decode cX0_plant 44 = .ok (.getfield 103, 3) := dk_180 0 103 (dk_at dksX0_plant_1 20 rfl rfl)
theorem dX0_plant_47 : decode cX0_plant 47 = .ok (.iload_n 1, 1) := dk_27 (dk_at dksX0_plant_1 23 rfl rfl)
theorem dX0_plant_48 : decode cX0_plant 48 = .ok (.aaload, 1) := dk_50 (dk_at dksX0_plant_2 0 rfl rfl)
theorem dX0_plant_49 : decode cX0_plant 49 = .ok (.astore 5, 2) := dk_58 5 (dk_at dksX0_plant_2 1 rfl rfl)
theorem dX0_plant_51 : decode cX0_plant 51 = .ok (.aload 5, 2) := dk_25 5 (dk_at dksX0_plant_2 3 rfl rfl)
theorem dX0_plant_53 : decode cX0_plant 53 = .ok (.iconst 1, 1) := dk_4 (dk_at dksX0_plant_2 5 rfl rfl)
theorem dX0_plant_54 : decode cX0_plant 54 = .ok (.putfield 107, 3) := dk_181 0 107 (dk_at dksX0_plant_2 6 rfl rfl)
theorem dX0_plant_57 : decode cX0_plant 57 = .ok (.aload 5, 2) := dk_25 5 (dk_at dksX0_plant_2 9 rfl rfl)
theorem dX0_plant_59 : decode cX0_plant 59 = .ok (.iconst 0, 1) := dk_3 (dk_at dksX0_plant_2 11 rfl rfl)
theorem dX0_plant_60 : decode cX0_plant 60 = .ok (.putfield 124, 3) := dk_181 0 124 (dk_at dksX0_plant_2 12 rfl rfl)
theorem dX0_plant_63 : decode cX0_plant 63 = .ok (.aload 5, 2) := dk_25 5 (dk_at dksX0_plant_2 15 rfl rfl)
theorem dX0_plant_65 : decode cX0_plant 65 = .ok (.iconst (-1), 1) := dk_2 (dk_at dksX0_plant_2 17 rfl rfl)
theorem dX0_plant_66 : decode cX0_plant 66 = .ok (.putfield 127, 3) := dk_181 0 127 (dk_at dksX0_plant_2 18 rfl rfl)
theorem dX0_plant_69 : decode cX0_plant 69 = .ok (.aload 5, 2) := dk_25 5 (dk_at dksX0_plant_2 21 rfl rfl)
theorem dX0_plant_71 : decode cX0_plant 71 = .ok (.iload_n 2, 1) := dk_28 (dk_at dksX0_plant_2 23 rfl rfl)
theorem dX0_plant_72 : decode cX0_plant 72 = .ok (.putfield 130, 3) := dk_181 0 130 (dk_at dksX0_plant_3 0 rfl rfl)
theorem dX0_plant_75 : decode cX0_plant 75 = .ok (.aload 5, 2) := dk_25 5 (dk_at dksX0_plant_3 3 rfl rfl)
theorem dX0_plant_77 : decode cX0_plant 77 = .ok (.iload_n 3, 1) := dk_29 (dk_at dksX0_plant_3 5 rfl rfl)
theorem dX0_plant_78 : decode cX0_plant 78 = .ok (.putfield 133, 3) := dk_181 0 133 (dk_at dksX0_plant_3 6 rfl rfl)
theorem dX0_plant_81 : decode cX0_plant 81 = .ok (.aload 5, 2) := dk_25 5 (dk_at dksX0_plant_3 9 rfl rfl)
theorem dX0_plant_83 : decode cX0_plant 83 = .ok (.iload 4, 2) := dk_21 4 (dk_at dksX0_plant_3 11 rfl rfl)
theorem dX0_plant_85 : decode cX0_plant 85 = .ok (.putfield 136, 3) := dk_181 0 136 (dk_at dksX0_plant_3 13 rfl rfl)
theorem dX0_plant_88 : decode cX0_plant 88 = .ok (.aload 5, 2) := dk_25 5 (dk_at dksX0_plant_3 16 rfl rfl)
theorem dX0_plant_90 : decode cX0_plant 90 = .ok (.iconst 0, 1) := dk_3 (dk_at dksX0_plant_3 18 rfl rfl)
theorem dX0_plant_91 : decode cX0_plant 91 = .ok (.putfield 139, 3) := dk_181 0 139 (dk_at dksX0_plant_3 19 rfl rfl)
theorem dX0_plant_94 : decode cX0_plant 94 = .ok (.aload 5, 2) := dk_25 5 (dk_at dksX0_plant_3 22 rfl rfl)
theorem dX0_plant_96 : decode cX0_plant 96 = .ok (.iconst 0, 1) := dk_3 (dk_at dksX0_plant_4 0 rfl rfl)
theorem dX0_plant_97 : decode cX0_plant 97 = .ok (.putfield 142, 3) := dk_181 0 142 (dk_at dksX0_plant_4 1 rfl rfl)
theorem dX0_plant_100 : decode cX0_plant 100 = .ok (.aload 5, 2) := dk_25 5 (dk_at dksX0_plant_4 4 rfl rfl)
theorem dX0_plant_102 : decode cX0_plant 102 = .ok (.iconst 0, 1) := dk_3 (dk_at dksX0_plant_4 6 rfl rfl)
theorem dX0_plant_103 : decode cX0_plant 103 = .ok (.putfield 145, 3) := dk_181 0 145 (dk_at dksX0_plant_4 7 rfl rfl)
theorem dX0_plant_106 : decode cX0_plant 106 = .ok (.iconst 0, 1) := dk_3 (dk_at dksX0_plant_4 10 rfl rfl)
theorem dX0_plant_107 : decode cX0_plant 107 = .ok (.istore 6, 2) := dk_54 6 (dk_at dksX0_plant_4 11 rfl rfl)
theorem dX0_plant_109 : decode cX0_plant 109 = .ok (.iload 6, 2) := dk_21 6 (dk_at dksX0_plant_4 13 rfl rfl)
theorem dX0_plant_111 : decode cX0_plant 111 = .ok (.bipush 7, 2) := dk_16 7 (dk_at dksX0_plant_4 15 rfl rfl)
theorem dX0_plant_113 : decode cX0_plant 113 = .ok (.if_icmp .ge 18, 3) := dk_162 0 18 (dk_at dksX0_plant_4 17 rfl rfl)
theorem dX0_plant_116 : decode cX0_plant 116 = .ok (.aload 5, 2) := dk_25 5 (dk_at dksX0_plant_4 20 rfl rfl)
theorem dX0_plant_118 : decode cX0_plant 118 = .ok (.getfield 148, 3) := dk_180 0 148 (dk_at dksX0_plant_5 0 rfl rfl)
theorem dX0_plant_121 : decode cX0_plant 121 = .ok (.iload 6, 2) := dk_21 6 (dk_at dksX0_plant_5 3 rfl rfl)
theorem dX0_plant_123 : decode cX0_plant 123 = .ok (.iload_n 3, 1) := dk_29 (dk_at dksX0_plant_5 5 rfl rfl)
theorem dX0_plant_124 : decode cX0_plant 124 = .ok (.iastore, 1) := dk_79 (dk_at dksX0_plant_5 6 rfl rfl)
theorem dX0_plant_125 : decode cX0_plant 125 = .ok (.iinc 6 1, 3) := dk_132 6 1 (dk_at dksX0_plant_5 7 rfl rfl)
theorem dX0_plant_128 : decode cX0_plant 128 = .ok (.goto (-19), 3) := dk_167 255 237 (dk_at dksX0_plant_5 10 rfl rfl)
theorem dX0_plant_131 : decode cX0_plant 131 = .ok (.iconst 1, 1) := dk_4 (dk_at dksX0_plant_5 13 rfl rfl)
theorem dX0_plant_132 : decode cX0_plant 132 = .ok (.ireturn, 1) := dk_172 (dk_at dksX0_plant_5 14 rfl rfl)
abbrev cX0_in : ByteArray := prog_1_method_1_code
def yX0_in : MethodName := ⟨RX0, "in", "(II)Z"⟩
def dkwX0_in_0 : List UInt8 := [26, 155, 0, 12, 26, 27, 162, 0, 7, 4, 167, 0, 4, 3, 172]
abbrev dktX0_in_0 : List UInt8 := dkwX0_in_0 ++ []
theorem dksX0_in_0 : cX0_in.data.toList.drop 0 = dktX0_in_0 := by decide +kernel
theorem dX0_in_0 : decode cX0_in 0 = .ok (.iload_n 0, 1) := dk_26 (dk_at dksX0_in_0 0 rfl rfl)
theorem dX0_in_1 : decode cX0_in 1 = .ok (.ifCond .lt 12, 3) := dk_155 0 12 (dk_at dksX0_in_0 1 rfl rfl)
theorem dX0_in_4 : decode cX0_in 4 = .ok (.iload_n 0, 1) := dk_26 (dk_at dksX0_in_0 4 rfl rfl)
theorem dX0_in_5 : decode cX0_in 5 = .ok (.iload_n 1, 1) := dk_27 (dk_at dksX0_in_0 5 rfl rfl)
theorem dX0_in_6 : decode cX0_in 6 = .ok (.if_icmp .ge 7, 3) := dk_162 0 7 (dk_at dksX0_in_0 6 rfl rfl)
theorem dX0_in_9 : decode cX0_in 9 = .ok (.iconst 1, 1) := dk_4 (dk_at dksX0_in_0 9 rfl rfl)
theorem dX0_in_10 : decode cX0_in 10 = .ok (.goto 4, 3) := dk_167 0 4 (dk_at dksX0_in_0 10 rfl rfl)
theorem dX0_in_13 : decode cX0_in 13 = .ok (.iconst 0, 1) := dk_3 (dk_at dksX0_in_0 13 rfl rfl)
theorem dX0_in_14 : decode cX0_in 14 = .ok (.ireturn, 1) := dk_172 (dk_at dksX0_in_0 14 rfl rfl)
abbrev cX0_within : ByteArray := prog_1_method_2_code
def yX0_within : MethodName := ⟨RX0, "within", "(III)Z"⟩
def dkwX0_within_0 : List UInt8 := [26, 27, 161, 0, 12, 26, 28, 163, 0, 7, 4, 167, 0, 4, 3, 172]
abbrev dktX0_within_0 : List UInt8 := dkwX0_within_0 ++ []
theorem dksX0_within_0 : cX0_within.data.toList.drop 0 = dktX0_within_0 := by decide +kernel
theorem dX0_within_0 : decode cX0_within 0 = .ok (.iload_n 0, 1) := dk_26 (dk_at dksX0_within_0 0 rfl rfl)
theorem dX0_within_1 : decode cX0_within 1 = .ok (.iload_n 1, 1) := dk_27 (dk_at dksX0_within_0 1 rfl rfl)
theorem dX0_within_2 : decode cX0_within 2 = .ok (.if_icmp .lt 12, 3) := dk_161 0 12 (dk_at dksX0_within_0 2 rfl rfl)
theorem dX0_within_5 : decode cX0_within 5 = .ok (.iload_n 0, 1) := dk_26 (dk_at dksX0_within_0 5 rfl rfl)
theorem dX0_within_6 : decode cX0_within 6 = .ok (.iload_n 2, 1) := dk_28 (dk_at dksX0_within_0 6 rfl rfl)
theorem dX0_within_7 : decode cX0_within 7 = .ok (.if_icmp .gt 7, 3) := dk_163 0 7 (dk_at dksX0_within_0 7 rfl rfl)
theorem dX0_within_10 : decode cX0_within 10 = .ok (.iconst 1, 1) := dk_4 (dk_at dksX0_within_0 10 rfl rfl)
theorem dX0_within_11 : decode cX0_within 11 = .ok (.goto 4, 3) := dk_167 0 4 (dk_at dksX0_within_0 11 rfl rfl)
theorem dX0_within_14 : decode cX0_within 14 = .ok (.iconst 0, 1) := dk_3 (dk_at dksX0_within_0 14 rfl rfl)
theorem dX0_within_15 : decode cX0_within 15 = .ok (.ireturn, 1) := dk_172 (dk_at dksX0_within_0 15 rfl rfl)
abbrev cX0_person : ByteArray := prog_1_method_11_code
def yX0_person : MethodName := ⟨RX0, "person", "(III)Z"⟩
def dkwX0_person_2 : List UInt8 := [28, 181, 0, 151, 25, 4, 29, 181, 0, 153, 25, 4, 3, 181, 0, 156, 4, 172]
abbrev dktX0_person_2 : List UInt8 := dkwX0_person_2 ++ []
def dkwX0_person_1 : List UInt8 := [154, 0, 5, 3, 172, 42, 180, 0, 30, 180, 0, 113, 27, 50, 58, 4, 25, 4, 4, 181, 0, 117, 25, 4]
abbrev dktX0_person_1 : List UInt8 := dkwX0_person_1 ++ dktX0_person_2
def dkwX0_person_0 : List UInt8 := [27, 16, 8, 184, 0, 99, 153, 0, 21, 28, 3, 16, 10, 184, 0, 120, 153, 0, 11, 29, 7, 184, 0, 99]
abbrev dktX0_person_0 : List UInt8 := dkwX0_person_0 ++ dktX0_person_1
theorem dksX0_person_0 : cX0_person.data.toList.drop 0 = dktX0_person_0 := by decide +kernel
theorem dksX0_person_1 : cX0_person.data.toList.drop 24 = dktX0_person_1 := dk_seg dksX0_person_0 24 rfl rfl
theorem dksX0_person_2 : cX0_person.data.toList.drop 48 = dktX0_person_2 := dk_seg dksX0_person_1 24 rfl rfl
theorem dX0_person_0 : decode cX0_person 0 = .ok (.iload_n 1, 1) := dk_27 (dk_at dksX0_person_0 0 rfl rfl)
theorem dX0_person_1 : decode cX0_person 1 = .ok (.bipush 8, 2) := dk_16 8 (dk_at dksX0_person_0 1 rfl rfl)
theorem dX0_person_3 : decode cX0_person 3 = .ok (.invokestatic 99, 3) := dk_184 0 99 (dk_at dksX0_person_0 3 rfl rfl)
theorem dX0_person_6 : decode cX0_person 6 = .ok (.ifCond .eq 21, 3) := dk_153 0 21 (dk_at dksX0_person_0 6 rfl rfl)
theorem dX0_person_9 : decode cX0_person 9 = .ok (.iload_n 2, 1) := dk_28 (dk_at dksX0_person_0 9 rfl rfl)
theorem dX0_person_10 : decode cX0_person 10 = .ok (.iconst 0, 1) := dk_3 (dk_at dksX0_person_0 10 rfl rfl)
theorem dX0_person_11 : decode cX0_person 11 = .ok (.bipush 10, 2) := dk_16 10 (dk_at dksX0_person_0 11 rfl rfl)
theorem dX0_person_13 : decode cX0_person 13 = .ok (.invokestatic 120, 3) := dk_184 0 120 (dk_at dksX0_person_0 13 rfl rfl)
theorem dX0_person_16 : decode cX0_person 16 = .ok (.ifCond .eq 11, 3) := dk_153 0 11 (dk_at dksX0_person_0 16 rfl rfl)
theorem dX0_person_19 : decode cX0_person 19 = .ok (.iload_n 3, 1) := dk_29 (dk_at dksX0_person_0 19 rfl rfl)
theorem dX0_person_20 : decode cX0_person 20 = .ok (.iconst 4, 1) := dk_7 (dk_at dksX0_person_0 20 rfl rfl)
theorem dX0_person_21 : decode cX0_person 21 = .ok (.invokestatic 99, 3) := dk_184 0 99 (dk_at dksX0_person_0 21 rfl rfl)
theorem dX0_person_24 : decode cX0_person 24 = .ok (.ifCond .ne 5, 3) := dk_154 0 5 (dk_at dksX0_person_1 0 rfl rfl)
theorem dX0_person_27 : decode cX0_person 27 = .ok (.iconst 0, 1) := dk_3 (dk_at dksX0_person_1 3 rfl rfl)
theorem dX0_person_28 : decode cX0_person 28 = .ok (.ireturn, 1) := dk_172 (dk_at dksX0_person_1 4 rfl rfl)
theorem dX0_person_29 : decode cX0_person 29 = .ok (.aload_n 0, 1) := dk_42 (dk_at dksX0_person_1 5 rfl rfl)
theorem dX0_person_30 : decode cX0_person 30 = .ok (.getfield 30, 3) := dk_180 0 30 (dk_at dksX0_person_1 6 rfl rfl)
theorem dX0_person_33 : decode cX0_person 33 = .ok (.getfield 113, 3) := dk_180 0 113 (dk_at dksX0_person_1 9 rfl rfl)
theorem dX0_person_36 : decode cX0_person 36 = .ok (.iload_n 1, 1) := dk_27 (dk_at dksX0_person_1 12 rfl rfl)
theorem dX0_person_37 : decode cX0_person 37 = .ok (.aaload, 1) := dk_50 (dk_at dksX0_person_1 13 rfl rfl)
theorem dX0_person_38 : decode cX0_person 38 = .ok (.astore 4, 2) := dk_58 4 (dk_at dksX0_person_1 14 rfl rfl)
theorem dX0_person_40 : decode cX0_person 40 = .ok (.aload 4, 2) := dk_25 4 (dk_at dksX0_person_1 16 rfl rfl)
theorem dX0_person_42 : decode cX0_person 42 = .ok (.iconst 1, 1) := dk_4 (dk_at dksX0_person_1 18 rfl rfl)
theorem dX0_person_43 : decode cX0_person 43 = .ok (.putfield 117, 3) := dk_181 0 117 (dk_at dksX0_person_1 19 rfl rfl)
theorem dX0_person_46 : decode cX0_person 46 = .ok (.aload 4, 2) := dk_25 4 (dk_at dksX0_person_1 22 rfl rfl)
theorem dX0_person_48 : decode cX0_person 48 = .ok (.iload_n 2, 1) := dk_28 (dk_at dksX0_person_2 0 rfl rfl)
theorem dX0_person_49 : decode cX0_person 49 = .ok (.putfield 151, 3) := dk_181 0 151 (dk_at dksX0_person_2 1 rfl rfl)
theorem dX0_person_52 : decode cX0_person 52 = .ok (.aload 4, 2) := dk_25 4 (dk_at dksX0_person_2 4 rfl rfl)
theorem dX0_person_54 : decode cX0_person 54 = .ok (.iload_n 3, 1) := dk_29 (dk_at dksX0_person_2 6 rfl rfl)
theorem dX0_person_55 : decode cX0_person 55 = .ok (.putfield 153, 3) := dk_181 0 153 (dk_at dksX0_person_2 7 rfl rfl)
theorem dX0_person_58 : decode cX0_person 58 = .ok (.aload 4, 2) := dk_25 4 (dk_at dksX0_person_2 10 rfl rfl)
theorem dX0_person_60 : decode cX0_person 60 = .ok (.iconst 0, 1) := dk_3 (dk_at dksX0_person_2 12 rfl rfl)
theorem dX0_person_61 : decode cX0_person 61 = .ok (.putfield 156, 3) := dk_181 0 156 (dk_at dksX0_person_2 13 rfl rfl)
theorem dX0_person_64 : decode cX0_person 64 = .ok (.iconst 1, 1) := dk_4 (dk_at dksX0_person_2 16 rfl rfl)
theorem dX0_person_65 : decode cX0_person 65 = .ok (.ireturn, 1) := dk_172 (dk_at dksX0_person_2 17 rfl rfl)
abbrev cX0_card : ByteArray := prog_1_method_12_code
def yX0_card : MethodName := ⟨RX0, "card", "(IZ)Z"⟩
def dkwX0_card_2 : List UInt8 := [2, 181, 0, 127, 4, 172]
abbrev dktX0_card_2 : List UInt8 := dkwX0_card_2 ++ []
def dkwX0_card_1 : List UInt8 := [3, 172, 42, 180, 0, 30, 180, 0, 103, 27, 50, 28, 181, 0, 124, 42, 180, 0, 30, 180, 0, 103, 27, 50]
abbrev dktX0_card_1 : List UInt8 := dkwX0_card_1 ++ dktX0_card_2
def dkwX0_card_0 : List UInt8 := [42, 27, 182, 0, 159, 153, 0, 19, 42, 180, 0, 30, 180, 0, 103, 27, 50, 180, 0, 124, 28, 160, 0, 5]
abbrev dktX0_card_0 : List UInt8 := dkwX0_card_0 ++ dktX0_card_1
theorem dksX0_card_0 : cX0_card.data.toList.drop 0 = dktX0_card_0 := by decide +kernel
theorem dksX0_card_1 : cX0_card.data.toList.drop 24 = dktX0_card_1 := dk_seg dksX0_card_0 24 rfl rfl
theorem dksX0_card_2 : cX0_card.data.toList.drop 48 = dktX0_card_2 := dk_seg dksX0_card_1 24 rfl rfl
theorem dX0_card_0 : decode cX0_card 0 = .ok (.aload_n 0, 1) := dk_42 (dk_at dksX0_card_0 0 rfl rfl)
theorem dX0_card_1 : decode cX0_card 1 = .ok (.iload_n 1, 1) := dk_27 (dk_at dksX0_card_0 1 rfl rfl)
theorem dX0_card_2 : decode cX0_card 2 = .ok (.invokevirtual 159, 3) := dk_182 0 159 (dk_at dksX0_card_0 2 rfl rfl)
theorem dX0_card_5 : decode cX0_card 5 = .ok (.ifCond .eq 19, 3) := dk_153 0 19 (dk_at dksX0_card_0 5 rfl rfl)
theorem dX0_card_8 : decode cX0_card 8 = .ok (.aload_n 0, 1) := dk_42 (dk_at dksX0_card_0 8 rfl rfl)
theorem dX0_card_9 : decode cX0_card 9 = .ok (.getfield 30, 3) := dk_180 0 30 (dk_at dksX0_card_0 9 rfl rfl)
theorem dX0_card_12 : decode cX0_card 12 = .ok (.getfield 103, 3) := dk_180 0 103 (dk_at dksX0_card_0 12 rfl rfl)
theorem dX0_card_15 : decode cX0_card 15 = .ok (.iload_n 1, 1) := dk_27 (dk_at dksX0_card_0 15 rfl rfl)
theorem dX0_card_16 : decode cX0_card 16 = .ok (.aaload, 1) := dk_50 (dk_at dksX0_card_0 16 rfl rfl)
theorem dX0_card_17 : decode cX0_card 17 = .ok (.getfield 124, 3) := dk_180 0 124 (dk_at dksX0_card_0 17 rfl rfl)
theorem dX0_card_20 : decode cX0_card 20 = .ok (.iload_n 2, 1) := dk_28 (dk_at dksX0_card_0 20 rfl rfl)
theorem dX0_card_21 : decode cX0_card 21 = .ok (.if_icmp .ne 5, 3) := dk_160 0 5 (dk_at dksX0_card_0 21 rfl rfl)
theorem dX0_card_24 : decode cX0_card 24 = .ok (.iconst 0, 1) := dk_3 (dk_at dksX0_card_1 0 rfl rfl)
theorem dX0_card_25 : decode cX0_card 25 = .ok (.ireturn, 1) := dk_172 (dk_at dksX0_card_1 1 rfl rfl)
theorem dX0_card_26 : decode cX0_card 26 = .ok (.aload_n 0, 1) := dk_42 (dk_at dksX0_card_1 2 rfl rfl)
theorem dX0_card_27 : decode cX0_card 27 = .ok (.getfield 30, 3) := dk_180 0 30 (dk_at dksX0_card_1 3 rfl rfl)
theorem dX0_card_30 : decode cX0_card 30 = .ok (.getfield 103, 3) := dk_180 0 103 (dk_at dksX0_card_1 6 rfl rfl)
theorem dX0_card_33 : decode cX0_card 33 = .ok (.iload_n 1, 1) := dk_27 (dk_at dksX0_card_1 9 rfl rfl)
theorem dX0_card_34 : decode cX0_card 34 = .ok (.aaload, 1) := dk_50 (dk_at dksX0_card_1 10 rfl rfl)
theorem dX0_card_35 : decode cX0_card 35 = .ok (.iload_n 2, 1) := dk_28 (dk_at dksX0_card_1 11 rfl rfl)
theorem dX0_card_36 : decode cX0_card 36 = .ok (.putfield 124, 3) := dk_181 0 124 (dk_at dksX0_card_1 12 rfl rfl)
theorem dX0_card_39 : decode cX0_card 39 = .ok (.aload_n 0, 1) := dk_42 (dk_at dksX0_card_1 15 rfl rfl)
theorem dX0_card_40 : decode cX0_card 40 = .ok (.getfield 30, 3) := dk_180 0 30 (dk_at dksX0_card_1 16 rfl rfl)
theorem dX0_card_43 : decode cX0_card 43 = .ok (.getfield 103, 3) := dk_180 0 103 (dk_at dksX0_card_1 19 rfl rfl)
theorem dX0_card_46 : decode cX0_card 46 = .ok (.iload_n 1, 1) := dk_27 (dk_at dksX0_card_1 22 rfl rfl)
theorem dX0_card_47 : decode cX0_card 47 = .ok (.aaload, 1) := dk_50 (dk_at dksX0_card_1 23 rfl rfl)
theorem dX0_card_48 : decode cX0_card 48 = .ok (.iconst (-1), 1) := dk_2 (dk_at dksX0_card_2 0 rfl rfl)
theorem dX0_card_49 : decode cX0_card 49 = .ok (.putfield 127, 3) := dk_181 0 127 (dk_at dksX0_card_2 1 rfl rfl)
theorem dX0_card_52 : decode cX0_card 52 = .ok (.iconst 1, 1) := dk_4 (dk_at dksX0_card_2 4 rfl rfl)
theorem dX0_card_53 : decode cX0_card 53 = .ok (.ireturn, 1) := dk_172 (dk_at dksX0_card_2 5 rfl rfl)
abbrev cX0_isPlant : ByteArray := prog_1_method_8_code
def yX0_isPlant : MethodName := ⟨RX0, "isPlant", "(I)Z"⟩
def dkwX0_isPlant_1 : List UInt8 := [167, 0, 4, 3, 172]
abbrev dktX0_isPlant_1 : List UInt8 := dkwX0_isPlant_1 ++ []
def dkwX0_isPlant_0 : List UInt8 := [27, 7, 184, 0, 99, 153, 0, 22, 42, 180, 0, 30, 180, 0, 103, 27, 50, 180, 0, 107, 153, 0, 7, 4]
abbrev dktX0_isPlant_0 : List UInt8 := dkwX0_isPlant_0 ++ dktX0_isPlant_1
theorem dksX0_isPlant_0 : cX0_isPlant.data.toList.drop 0 = dktX0_isPlant_0 := by decide +kernel
theorem dksX0_isPlant_1 : cX0_isPlant.data.toList.drop 24 = dktX0_isPlant_1 := dk_seg dksX0_isPlant_0 24 rfl rfl
theorem dX0_isPlant_0 : decode cX0_isPlant 0 = .ok (.iload_n 1, 1) := dk_27 (dk_at dksX0_isPlant_0 0 rfl rfl)
theorem dX0_isPlant_1 : decode cX0_isPlant 1 = .ok (.iconst 4, 1) := dk_7 (dk_at dksX0_isPlant_0 1 rfl rfl)
theorem dX0_isPlant_2 : decode cX0_isPlant 2 = .ok (.invokestatic 99, 3) := dk_184 0 99 (dk_at dksX0_isPlant_0 2 rfl rfl)
theorem dX0_isPlant_5 : decode cX0_isPlant 5 = .ok (.ifCond .eq 22, 3) := dk_153 0 22 (dk_at dksX0_isPlant_0 5 rfl rfl)
theorem dX0_isPlant_8 : decode cX0_isPlant 8 = .ok (.aload_n 0, 1) := dk_42 (dk_at dksX0_isPlant_0 8 rfl rfl)
theorem dX0_isPlant_9 : decode cX0_isPlant 9 = .ok (.getfield 30, 3) := dk_180 0 30 (dk_at dksX0_isPlant_0 9 rfl rfl)
theorem dX0_isPlant_12 : decode cX0_isPlant 12 = .ok (.getfield 103, 3) := dk_180 0 103 (dk_at dksX0_isPlant_0 12 rfl rfl)
theorem dX0_isPlant_15 : decode cX0_isPlant 15 = .ok (.iload_n 1, 1) := dk_27 (dk_at dksX0_isPlant_0 15 rfl rfl)
theorem dX0_isPlant_16 : decode cX0_isPlant 16 = .ok (.aaload, 1) := dk_50 (dk_at dksX0_isPlant_0 16 rfl rfl)
theorem dX0_isPlant_17 : decode cX0_isPlant 17 = .ok (.getfield 107, 3) := dk_180 0 107 (dk_at dksX0_isPlant_0 17 rfl rfl)
theorem dX0_isPlant_20 : decode cX0_isPlant 20 = .ok (.ifCond .eq 7, 3) := dk_153 0 7 (dk_at dksX0_isPlant_0 20 rfl rfl)
theorem dX0_isPlant_23 : decode cX0_isPlant 23 = .ok (.iconst 1, 1) := dk_4 (dk_at dksX0_isPlant_0 23 rfl rfl)
theorem dX0_isPlant_24 : decode cX0_isPlant 24 = .ok (.goto 4, 3) := dk_167 0 4 (dk_at dksX0_isPlant_1 0 rfl rfl)
theorem dX0_isPlant_27 : decode cX0_isPlant 27 = .ok (.iconst 0, 1) := dk_3 (dk_at dksX0_isPlant_1 3 rfl rfl)
theorem dX0_isPlant_28 : decode cX0_isPlant 28 = .ok (.ireturn, 1) := dk_172 (dk_at dksX0_isPlant_1 4 rfl rfl)
abbrev cX0_pour : ByteArray := prog_1_method_13_code
def yX0_pour : MethodName := ⟨RX0, "pour", "(II)I"⟩
def dkwX0_pour_2 : List UInt8 := [87, 42, 180, 0, 30, 180, 0, 103, 27, 50, 180, 0, 133, 172]
abbrev dktX0_pour_2 : List UInt8 := dkwX0_pour_2 ++ []
def dkwX0_pour_1 : List UInt8 := [3, 16, 24, 184, 0, 120, 154, 0, 5, 2, 172, 42, 180, 0, 30, 180, 0, 103, 27, 50, 28, 182, 0, 167]
abbrev dktX0_pour_1 : List UInt8 := dkwX0_pour_1 ++ dktX0_pour_2
def dkwX0_pour_0 : List UInt8 := [42, 27, 182, 0, 159, 153, 0, 28, 42, 180, 0, 30, 180, 0, 103, 27, 50, 182, 0, 163, 154, 0, 13, 28]
abbrev dktX0_pour_0 : List UInt8 := dkwX0_pour_0 ++ dktX0_pour_1
theorem dksX0_pour_0 : cX0_pour.data.toList.drop 0 = dktX0_pour_0 := by decide +kernel
theorem dksX0_pour_1 : cX0_pour.data.toList.drop 24 = dktX0_pour_1 := dk_seg dksX0_pour_0 24 rfl rfl
theorem dksX0_pour_2 : cX0_pour.data.toList.drop 48 = dktX0_pour_2 := dk_seg dksX0_pour_1 24 rfl rfl
theorem dX0_pour_0 : decode cX0_pour 0 = .ok (.aload_n 0, 1) := dk_42 (dk_at dksX0_pour_0 0 rfl rfl)
theorem dX0_pour_1 : decode cX0_pour 1 = .ok (.iload_n 1, 1) := dk_27 (dk_at dksX0_pour_0 1 rfl rfl)
theorem dX0_pour_2 : decode cX0_pour 2 = .ok (.invokevirtual 159, 3) := dk_182 0 159 (dk_at dksX0_pour_0 2 rfl rfl)
theorem dX0_pour_5 : decode cX0_pour 5 = .ok (.ifCond .eq 28, 3) := dk_153 0 28 (dk_at dksX0_pour_0 5 rfl rfl)
theorem dX0_pour_8 : decode cX0_pour 8 = .ok (.aload_n 0, 1) := dk_42 (dk_at dksX0_pour_0 8 rfl rfl)
theorem dX0_pour_9 : decode cX0_pour 9 = .ok (.getfield 30, 3) := dk_180 0 30 (dk_at dksX0_pour_0 9 rfl rfl)
theorem dX0_pour_12 : decode cX0_pour 12 = .ok (.getfield 103, 3) := dk_180 0 103 (dk_at dksX0_pour_0 12 rfl rfl)
theorem dX0_pour_15 : decode cX0_pour 15 = .ok (.iload_n 1, 1) := dk_27 (dk_at dksX0_pour_0 15 rfl rfl)
theorem dX0_pour_16 : decode cX0_pour 16 = .ok (.aaload, 1) := dk_50 (dk_at dksX0_pour_0 16 rfl rfl)
theorem dX0_pour_17 : decode cX0_pour 17 = .ok (.invokevirtual 163, 3) := dk_182 0 163 (dk_at dksX0_pour_0 17 rfl rfl)
theorem dX0_pour_20 : decode cX0_pour 20 = .ok (.ifCond .ne 13, 3) := dk_154 0 13 (dk_at dksX0_pour_0 20 rfl rfl)
theorem dX0_pour_23 : decode cX0_pour 23 = .ok (.iload_n 2, 1) := dk_28 (dk_at dksX0_pour_0 23 rfl rfl)
theorem dX0_pour_24 : decode cX0_pour 24 = .ok (.iconst 0, 1) := dk_3 (dk_at dksX0_pour_1 0 rfl rfl)
theorem dX0_pour_25 : decode cX0_pour 25 = .ok (.bipush 24, 2) := dk_16 24 (dk_at dksX0_pour_1 1 rfl rfl)
theorem dX0_pour_27 : decode cX0_pour 27 = .ok (.invokestatic 120, 3) := dk_184 0 120 (dk_at dksX0_pour_1 3 rfl rfl)
theorem dX0_pour_30 : decode cX0_pour 30 = .ok (.ifCond .ne 5, 3) := dk_154 0 5 (dk_at dksX0_pour_1 6 rfl rfl)
theorem dX0_pour_33 : decode cX0_pour 33 = .ok (.iconst (-1), 1) := dk_2 (dk_at dksX0_pour_1 9 rfl rfl)
theorem dX0_pour_34 : decode cX0_pour 34 = .ok (.ireturn, 1) := dk_172 (dk_at dksX0_pour_1 10 rfl rfl)
theorem dX0_pour_35 : decode cX0_pour 35 = .ok (.aload_n 0, 1) := dk_42 (dk_at dksX0_pour_1 11 rfl rfl)
theorem dX0_pour_36 : decode cX0_pour 36 = .ok (.getfield 30, 3) := dk_180 0 30 (dk_at dksX0_pour_1 12 rfl rfl)
theorem dX0_pour_39 : decode cX0_pour 39 = .ok (.getfield 103, 3) := dk_180 0 103 (dk_at dksX0_pour_1 15 rfl rfl)
theorem dX0_pour_42 : decode cX0_pour 42 = .ok (.iload_n 1, 1) := dk_27 (dk_at dksX0_pour_1 18 rfl rfl)
theorem dX0_pour_43 : decode cX0_pour 43 = .ok (.aaload, 1) := dk_50 (dk_at dksX0_pour_1 19 rfl rfl)
theorem dX0_pour_44 : decode cX0_pour 44 = .ok (.iload_n 2, 1) := dk_28 (dk_at dksX0_pour_1 20 rfl rfl)
theorem dX0_pour_45 : decode cX0_pour 45 = .ok (.invokevirtual 167, 3) := dk_182 0 167 (dk_at dksX0_pour_1 21 rfl rfl)
theorem dX0_pour_48 : decode cX0_pour 48 = .ok (.pop, 1) := dk_87 (dk_at dksX0_pour_2 0 rfl rfl)
theorem dX0_pour_49 : decode cX0_pour 49 = .ok (.aload_n 0, 1) := dk_42 (dk_at dksX0_pour_2 1 rfl rfl)
theorem dX0_pour_50 : decode cX0_pour 50 = .ok (.getfield 30, 3) := dk_180 0 30 (dk_at dksX0_pour_2 2 rfl rfl)
theorem dX0_pour_53 : decode cX0_pour 53 = .ok (.getfield 103, 3) := dk_180 0 103 (dk_at dksX0_pour_2 5 rfl rfl)
theorem dX0_pour_56 : decode cX0_pour 56 = .ok (.iload_n 1, 1) := dk_27 (dk_at dksX0_pour_2 8 rfl rfl)
theorem dX0_pour_57 : decode cX0_pour 57 = .ok (.aaload, 1) := dk_50 (dk_at dksX0_pour_2 9 rfl rfl)
theorem dX0_pour_58 : decode cX0_pour 58 = .ok (.getfield 133, 3) := dk_180 0 133 (dk_at dksX0_pour_2 10 rfl rfl)
theorem dX0_pour_61 : decode cX0_pour 61 = .ok (.ireturn, 1) := dk_172 (dk_at dksX0_pour_2 13 rfl rfl)
abbrev cX0_feed : ByteArray := prog_1_method_15_code
def yX0_feed : MethodName := ⟨RX0, "feed", "(IIIII)I"⟩
def dkwX0_feed_2 : List UInt8 := [172]
abbrev dktX0_feed_2 : List UInt8 := dkwX0_feed_2 ++ []
def dkwX0_feed_1 : List UInt8 := [182, 0, 174, 42, 29, 182, 0, 174, 42, 21, 4, 182, 0, 174, 42, 21, 5, 182, 0, 174, 42, 180, 0, 171]
abbrev dktX0_feed_1 : List UInt8 := dkwX0_feed_1 ++ dktX0_feed_2
def dkwX0_feed_0 : List UInt8 := [42, 180, 0, 171, 16, 20, 96, 17, 0, 220, 164, 0, 5, 2, 172, 42, 27, 182, 0, 174, 42, 28]
abbrev dktX0_feed_0 : List UInt8 := dkwX0_feed_0 ++ dktX0_feed_1
theorem dksX0_feed_0 : cX0_feed.data.toList.drop 0 = dktX0_feed_0 := by decide +kernel
theorem dksX0_feed_1 : cX0_feed.data.toList.drop 22 = dktX0_feed_1 := dk_seg dksX0_feed_0 22 rfl rfl
theorem dksX0_feed_2 : cX0_feed.data.toList.drop 46 = dktX0_feed_2 := dk_seg dksX0_feed_1 24 rfl rfl
theorem dX0_feed_0 : decode cX0_feed 0 = .ok (.aload_n 0, 1) := dk_42 (dk_at dksX0_feed_0 0 rfl rfl)
theorem dX0_feed_1 : decode cX0_feed 1 = .ok (.getfield 171, 3) := dk_180 0 171 (dk_at dksX0_feed_0 1 rfl rfl)
theorem dX0_feed_4 : decode cX0_feed 4 = .ok (.bipush 20, 2) := dk_16 20 (dk_at dksX0_feed_0 4 rfl rfl)
theorem dX0_feed_6 : decode cX0_feed 6 = .ok (.iadd, 1) := dk_96 (dk_at dksX0_feed_0 6 rfl rfl)
theorem dX0_feed_7 : decode cX0_feed 7 = .ok (.sipush 220, 3) := dk_17 0 220 (dk_at dksX0_feed_0 7 rfl rfl)
theorem dX0_feed_10 : decode cX0_feed 10 = .ok (.if_icmp .le 5, 3) := dk_164 0 5 (dk_at dksX0_feed_0 10 rfl rfl)
theorem dX0_feed_13 : decode cX0_feed 13 = .ok (.iconst (-1), 1) := dk_2 (dk_at dksX0_feed_0 13 rfl rfl)
theorem dX0_feed_14 : decode cX0_feed 14 = .ok (.ireturn, 1) := dk_172 (dk_at dksX0_feed_0 14 rfl rfl)
theorem dX0_feed_15 : decode cX0_feed 15 = .ok (.aload_n 0, 1) := dk_42 (dk_at dksX0_feed_0 15 rfl rfl)
theorem dX0_feed_16 : decode cX0_feed 16 = .ok (.iload_n 1, 1) := dk_27 (dk_at dksX0_feed_0 16 rfl rfl)
theorem dX0_feed_17 : decode cX0_feed 17 = .ok (.invokevirtual 174, 3) := dk_182 0 174 (dk_at dksX0_feed_0 17 rfl rfl)
theorem dX0_feed_20 : decode cX0_feed 20 = .ok (.aload_n 0, 1) := dk_42 (dk_at dksX0_feed_0 20 rfl rfl)
theorem dX0_feed_21 : decode cX0_feed 21 = .ok (.iload_n 2, 1) := dk_28 (dk_at dksX0_feed_0 21 rfl rfl)
theorem dX0_feed_22 : decode cX0_feed 22 = .ok (.invokevirtual 174, 3) := dk_182 0 174 (dk_at dksX0_feed_1 0 rfl rfl)
theorem dX0_feed_25 : decode cX0_feed 25 = .ok (.aload_n 0, 1) := dk_42 (dk_at dksX0_feed_1 3 rfl rfl)
theorem dX0_feed_26 : decode cX0_feed 26 = .ok (.iload_n 3, 1) := dk_29 (dk_at dksX0_feed_1 4 rfl rfl)
theorem dX0_feed_27 : decode cX0_feed 27 = .ok (.invokevirtual 174, 3) := dk_182 0 174 (dk_at dksX0_feed_1 5 rfl rfl)
theorem dX0_feed_30 : decode cX0_feed 30 = .ok (.aload_n 0, 1) := dk_42 (dk_at dksX0_feed_1 8 rfl rfl)
theorem dX0_feed_31 : decode cX0_feed 31 = .ok (.iload 4, 2) := dk_21 4 (dk_at dksX0_feed_1 9 rfl rfl)
theorem dX0_feed_33 : decode cX0_feed 33 = .ok (.invokevirtual 174, 3) := dk_182 0 174 (dk_at dksX0_feed_1 11 rfl rfl)
theorem dX0_feed_36 : decode cX0_feed 36 = .ok (.aload_n 0, 1) := dk_42 (dk_at dksX0_feed_1 14 rfl rfl)
theorem dX0_feed_37 : decode cX0_feed 37 = .ok (.iload 5, 2) := dk_21 5 (dk_at dksX0_feed_1 15 rfl rfl)
theorem dX0_feed_39 : decode cX0_feed 39 = .ok (.invokevirtual 174, 3) := dk_182 0 174 (dk_at dksX0_feed_1 17 rfl rfl)
theorem dX0_feed_42 : decode cX0_feed 42 = .ok (.aload_n 0, 1) := dk_42 (dk_at dksX0_feed_1 20 rfl rfl)
theorem dX0_feed_43 : decode cX0_feed 43 = .ok (.getfield 171, 3) := dk_180 0 171 (dk_at dksX0_feed_1 21 rfl rfl)
theorem dX0_feed_46 : decode cX0_feed 46 = .ok (.ireturn, 1) := dk_172 (dk_at dksX0_feed_2 0 rfl rfl)
abbrev cX0_push : ByteArray := prog_1_method_14_code
def yX0_push : MethodName := ⟨RX0, "push", "(I)V"⟩
def dkwX0_push_1 : List UInt8 := [180, 0, 171, 4, 96, 181, 0, 171, 132, 2, 248, 167, 255, 226, 177]
abbrev dktX0_push_1 : List UInt8 := dkwX0_push_1 ++ []
def dkwX0_push_0 : List UInt8 := [16, 24, 61, 28, 155, 0, 32, 42, 180, 0, 40, 42, 180, 0, 171, 27, 28, 122, 145, 84, 42, 89]
abbrev dktX0_push_0 : List UInt8 := dkwX0_push_0 ++ dktX0_push_1
theorem dksX0_push_0 : cX0_push.data.toList.drop 0 = dktX0_push_0 := by decide +kernel
theorem dksX0_push_1 : cX0_push.data.toList.drop 22 = dktX0_push_1 := dk_seg dksX0_push_0 22 rfl rfl
theorem dX0_push_0 : decode cX0_push 0 = .ok (.bipush 24, 2) := dk_16 24 (dk_at dksX0_push_0 0 rfl rfl)
theorem dX0_push_2 : decode cX0_push 2 = .ok (.istore_n 2, 1) := dk_61 (dk_at dksX0_push_0 2 rfl rfl)
theorem dX0_push_3 : decode cX0_push 3 = .ok (.iload_n 2, 1) := dk_28 (dk_at dksX0_push_0 3 rfl rfl)
theorem dX0_push_4 : decode cX0_push 4 = .ok (.ifCond .lt 32, 3) := dk_155 0 32 (dk_at dksX0_push_0 4 rfl rfl)
theorem dX0_push_7 : decode cX0_push 7 = .ok (.aload_n 0, 1) := dk_42 (dk_at dksX0_push_0 7 rfl rfl)
theorem dX0_push_8 : decode cX0_push 8 = .ok (.getfield 40, 3) := dk_180 0 40 (dk_at dksX0_push_0 8 rfl rfl)
theorem dX0_push_11 : decode cX0_push 11 = .ok (.aload_n 0, 1) := dk_42 (dk_at dksX0_push_0 11 rfl rfl)
theorem dX0_push_12 : decode cX0_push 12 = .ok (.getfield 171, 3) := dk_180 0 171 (dk_at dksX0_push_0 12 rfl rfl)
theorem dX0_push_15 : decode cX0_push 15 = .ok (.iload_n 1, 1) := dk_27 (dk_at dksX0_push_0 15 rfl rfl)
theorem dX0_push_16 : decode cX0_push 16 = .ok (.iload_n 2, 1) := dk_28 (dk_at dksX0_push_0 16 rfl rfl)
theorem dX0_push_17 : decode cX0_push 17 = .ok (.ishr, 1) := dk_122 (dk_at dksX0_push_0 17 rfl rfl)
theorem dX0_push_18 : decode cX0_push 18 = .ok (.i2b, 1) := dk_145 (dk_at dksX0_push_0 18 rfl rfl)
theorem dX0_push_19 : decode cX0_push 19 = .ok (.bastore, 1) := dk_84 (dk_at dksX0_push_0 19 rfl rfl)
theorem dX0_push_20 : decode cX0_push 20 = .ok (.aload_n 0, 1) := dk_42 (dk_at dksX0_push_0 20 rfl rfl)
theorem dX0_push_21 : decode cX0_push 21 = .ok (.dup, 1) := dk_89 (dk_at dksX0_push_0 21 rfl rfl)
theorem dX0_push_22 : decode cX0_push 22 = .ok (.getfield 171, 3) := dk_180 0 171 (dk_at dksX0_push_1 0 rfl rfl)
theorem dX0_push_25 : decode cX0_push 25 = .ok (.iconst 1, 1) := dk_4 (dk_at dksX0_push_1 3 rfl rfl)
theorem dX0_push_26 : decode cX0_push 26 = .ok (.iadd, 1) := dk_96 (dk_at dksX0_push_1 4 rfl rfl)
theorem dX0_push_27 : decode cX0_push 27 = .ok (.putfield 171, 3) := dk_181 0 171 (dk_at dksX0_push_1 5 rfl rfl)
theorem dX0_push_30 : decode cX0_push 30 = .ok (.iinc 2 (-8), 3) := dk_132 2 248 (dk_at dksX0_push_1 8 rfl rfl)
theorem dX0_push_33 : decode cX0_push 33 = .ok (.goto (-30), 3) := dk_167 255 226 (dk_at dksX0_push_1 11 rfl rfl)
theorem dX0_push_36 : decode cX0_push 36 = .ok (.return_, 1) := dk_177 (dk_at dksX0_push_1 14 rfl rfl)
abbrev cX0_law : ByteArray := prog_1_method_16_code
def yX0_law : MethodName := ⟨RX0, "law", "(I)I"⟩
def dkwX0_law_2 : List UInt8 := [42, 44, 180, 0, 189, 181, 0, 51, 29, 172]
abbrev dktX0_law_2 : List UInt8 := dkwX0_law_2 ++ []
def dkwX0_law_1 : List UInt8 := [181, 0, 171, 187, 0, 178, 89, 42, 27, 18, 180, 183, 0, 182, 77, 44, 182, 0, 185, 62, 29, 155, 0, 11]
abbrev dktX0_law_1 : List UInt8 := dkwX0_law_1 ++ dktX0_law_2
def dkwX0_law_0 : List UInt8 := [27, 4, 17, 0, 200, 184, 0, 120, 153, 0, 11, 27, 42, 180, 0, 171, 164, 0, 5, 2, 172, 42, 3]
abbrev dktX0_law_0 : List UInt8 := dkwX0_law_0 ++ dktX0_law_1
theorem dksX0_law_0 : cX0_law.data.toList.drop 0 = dktX0_law_0 := by decide +kernel
theorem dksX0_law_1 : cX0_law.data.toList.drop 23 = dktX0_law_1 := dk_seg dksX0_law_0 23 rfl rfl
theorem dksX0_law_2 : cX0_law.data.toList.drop 47 = dktX0_law_2 := dk_seg dksX0_law_1 24 rfl rfl
theorem dX0_law_0 : decode cX0_law 0 = .ok (.iload_n 1, 1) := dk_27 (dk_at dksX0_law_0 0 rfl rfl)
theorem dX0_law_1 : decode cX0_law 1 = .ok (.iconst 1, 1) := dk_4 (dk_at dksX0_law_0 1 rfl rfl)
theorem dX0_law_2 : decode cX0_law 2 = .ok (.sipush 200, 3) := dk_17 0 200 (dk_at dksX0_law_0 2 rfl rfl)
theorem dX0_law_5 : decode cX0_law 5 = .ok (.invokestatic 120, 3) := dk_184 0 120 (dk_at dksX0_law_0 5 rfl rfl)
theorem dX0_law_8 : decode cX0_law 8 = .ok (.ifCond .eq 11, 3) := dk_153 0 11 (dk_at dksX0_law_0 8 rfl rfl)
theorem dX0_law_11 : decode cX0_law 11 = .ok (.iload_n 1, 1) := dk_27 (dk_at dksX0_law_0 11 rfl rfl)
theorem dX0_law_12 : decode cX0_law 12 = .ok (.aload_n 0, 1) := dk_42 (dk_at dksX0_law_0 12 rfl rfl)
theorem dX0_law_13 : decode cX0_law 13 = .ok (.getfield 171, 3) := dk_180 0 171 (dk_at dksX0_law_0 13 rfl rfl)
theorem dX0_law_16 : decode cX0_law 16 = .ok (.if_icmp .le 5, 3) := dk_164 0 5 (dk_at dksX0_law_0 16 rfl rfl)
theorem dX0_law_19 : decode cX0_law 19 = .ok (.iconst (-1), 1) := dk_2 (dk_at dksX0_law_0 19 rfl rfl)
theorem dX0_law_20 : decode cX0_law 20 = .ok (.ireturn, 1) := dk_172 (dk_at dksX0_law_0 20 rfl rfl)
theorem dX0_law_21 : decode cX0_law 21 = .ok (.aload_n 0, 1) := dk_42 (dk_at dksX0_law_0 21 rfl rfl)
theorem dX0_law_22 : decode cX0_law 22 = .ok (.iconst 0, 1) := dk_3 (dk_at dksX0_law_0 22 rfl rfl)
theorem dX0_law_23 : decode cX0_law 23 = .ok (.putfield 171, 3) := dk_181 0 171 (dk_at dksX0_law_1 0 rfl rfl)
theorem dX0_law_26 : decode cX0_law 26 = .ok (.new 178, 3) := dk_187 0 178 (dk_at dksX0_law_1 3 rfl rfl)
theorem dX0_law_29 : decode cX0_law 29 = .ok (.dup, 1) := dk_89 (dk_at dksX0_law_1 6 rfl rfl)
theorem dX0_law_30 : decode cX0_law 30 = .ok (.aload_n 0, 1) := dk_42 (dk_at dksX0_law_1 7 rfl rfl)
theorem dX0_law_31 : decode cX0_law 31 = .ok (.iload_n 1, 1) := dk_27 (dk_at dksX0_law_1 8 rfl rfl)
theorem dX0_law_32 : decode cX0_law 32 = .ok (.ldc 180, 2) := dk_18 180 (dk_at dksX0_law_1 9 rfl rfl)
theorem dX0_law_34 : decode cX0_law 34 = .ok (.invokespecial 182, 3) := dk_183 0 182 (dk_at dksX0_law_1 11 rfl rfl)
theorem dX0_law_37 : decode cX0_law 37 = .ok (.astore_n 2, 1) := dk_77 (dk_at dksX0_law_1 14 rfl rfl)
theorem dX0_law_38 : decode cX0_law 38 = .ok (.aload_n 2, 1) := dk_44 (dk_at dksX0_law_1 15 rfl rfl)
theorem dX0_law_39 : decode cX0_law 39 = .ok (.invokevirtual 185, 3) := dk_182 0 185 (dk_at dksX0_law_1 16 rfl rfl)
theorem dX0_law_42 : decode cX0_law 42 = .ok (.istore_n 3, 1) := dk_62 (dk_at dksX0_law_1 19 rfl rfl)
theorem dX0_law_43 : decode cX0_law 43 = .ok (.iload_n 3, 1) := dk_29 (dk_at dksX0_law_1 20 rfl rfl)
theorem dX0_law_44 : decode cX0_law 44 = .ok (.ifCond .lt 11, 3) := dk_155 0 11 (dk_at dksX0_law_1 21 rfl rfl)
theorem dX0_law_47 : decode cX0_law 47 = .ok (.aload_n 0, 1) := dk_42 (dk_at dksX0_law_2 0 rfl rfl)
theorem dX0_law_48 : decode cX0_law 48 = .ok (.aload_n 2, 1) := dk_44 (dk_at dksX0_law_2 1 rfl rfl)
theorem dX0_law_49 : decode cX0_law 49 = .ok (.getfield 189, 3) := dk_180 0 189 (dk_at dksX0_law_2 2 rfl rfl)
theorem dX0_law_52 : decode cX0_law 52 = .ok (.putfield 51, 3) := dk_181 0 51 (dk_at dksX0_law_2 5 rfl rfl)
theorem dX0_law_55 : decode cX0_law 55 = .ok (.iload_n 3, 1) := dk_29 (dk_at dksX0_law_2 8 rfl rfl)
theorem dX0_law_56 : decode cX0_law 56 = .ok (.ireturn, 1) := dk_172 (dk_at dksX0_law_2 9 rfl rfl)
abbrev cX0_rule : ByteArray := prog_1_method_17_code
def yX0_rule : MethodName := ⟨RX0, "rule", "(II)I"⟩
def dkwX0_rule_2 : List UInt8 := [182, 0, 185, 54, 4, 21, 4, 155, 0, 13, 42, 180, 0, 46, 27, 45, 180, 0, 189, 83, 21, 4, 172]
abbrev dktX0_rule_2 : List UInt8 := dkwX0_rule_2 ++ []
def dkwX0_rule_1 : List UInt8 := [164, 0, 5, 2, 172, 42, 3, 181, 0, 171, 187, 0, 178, 89, 42, 28, 18, 192, 183, 0, 182, 78, 45]
abbrev dktX0_rule_1 : List UInt8 := dkwX0_rule_1 ++ dktX0_rule_2
def dkwX0_rule_0 : List UInt8 := [27, 7, 184, 0, 99, 153, 0, 22, 28, 4, 17, 0, 200, 184, 0, 120, 153, 0, 11, 28, 42, 180, 0, 171]
abbrev dktX0_rule_0 : List UInt8 := dkwX0_rule_0 ++ dktX0_rule_1
theorem dksX0_rule_0 : cX0_rule.data.toList.drop 0 = dktX0_rule_0 := by decide +kernel
theorem dksX0_rule_1 : cX0_rule.data.toList.drop 24 = dktX0_rule_1 := dk_seg dksX0_rule_0 24 rfl rfl
theorem dksX0_rule_2 : cX0_rule.data.toList.drop 47 = dktX0_rule_2 := dk_seg dksX0_rule_1 23 rfl rfl
theorem dX0_rule_0 : decode cX0_rule 0 = .ok (.iload_n 1, 1) := dk_27 (dk_at dksX0_rule_0 0 rfl rfl)
theorem dX0_rule_1 : decode cX0_rule 1 = .ok (.iconst 4, 1) := dk_7 (dk_at dksX0_rule_0 1 rfl rfl)
theorem dX0_rule_2 : decode cX0_rule 2 = .ok (.invokestatic 99, 3) := dk_184 0 99 (dk_at dksX0_rule_0 2 rfl rfl)
theorem dX0_rule_5 : decode cX0_rule 5 = .ok (.ifCond .eq 22, 3) := dk_153 0 22 (dk_at dksX0_rule_0 5 rfl rfl)
theorem dX0_rule_8 : decode cX0_rule 8 = .ok (.iload_n 2, 1) := dk_28 (dk_at dksX0_rule_0 8 rfl rfl)
theorem dX0_rule_9 : decode cX0_rule 9 = .ok (.iconst 1, 1) := dk_4 (dk_at dksX0_rule_0 9 rfl rfl)
theorem dX0_rule_10 : decode cX0_rule 10 = .ok (.sipush 200, 3) := dk_17 0 200 (dk_at dksX0_rule_0 10 rfl rfl)
theorem dX0_rule_13 : decode cX0_rule 13 = .ok (.invokestatic 120, 3) := dk_184 0 120 (dk_at dksX0_rule_0 13 rfl rfl)
theorem dX0_rule_16 : decode cX0_rule 16 = .ok (.ifCond .eq 11, 3) := dk_153 0 11 (dk_at dksX0_rule_0 16 rfl rfl)
theorem dX0_rule_19 : decode cX0_rule 19 = .ok (.iload_n 2, 1) := dk_28 (dk_at dksX0_rule_0 19 rfl rfl)
theorem dX0_rule_20 : decode cX0_rule 20 = .ok (.aload_n 0, 1) := dk_42 (dk_at dksX0_rule_0 20 rfl rfl)
theorem dX0_rule_21 : decode cX0_rule 21 = .ok (.getfield 171, 3) := dk_180 0 171 (dk_at dksX0_rule_0 21 rfl rfl)
theorem dX0_rule_24 : decode cX0_rule 24 = .ok (.if_icmp .le 5, 3) := dk_164 0 5 (dk_at dksX0_rule_1 0 rfl rfl)
theorem dX0_rule_27 : decode cX0_rule 27 = .ok (.iconst (-1), 1) := dk_2 (dk_at dksX0_rule_1 3 rfl rfl)
theorem dX0_rule_28 : decode cX0_rule 28 = .ok (.ireturn, 1) := dk_172 (dk_at dksX0_rule_1 4 rfl rfl)
theorem dX0_rule_29 : decode cX0_rule 29 = .ok (.aload_n 0, 1) := dk_42 (dk_at dksX0_rule_1 5 rfl rfl)
theorem dX0_rule_30 : decode cX0_rule 30 = .ok (.iconst 0, 1) := dk_3 (dk_at dksX0_rule_1 6 rfl rfl)
theorem dX0_rule_31 : decode cX0_rule 31 = .ok (.putfield 171, 3) := dk_181 0 171 (dk_at dksX0_rule_1 7 rfl rfl)
theorem dX0_rule_34 : decode cX0_rule 34 = .ok (.new 178, 3) := dk_187 0 178 (dk_at dksX0_rule_1 10 rfl rfl)
theorem dX0_rule_37 : decode cX0_rule 37 = .ok (.dup, 1) := dk_89 (dk_at dksX0_rule_1 13 rfl rfl)
theorem dX0_rule_38 : decode cX0_rule 38 = .ok (.aload_n 0, 1) := dk_42 (dk_at dksX0_rule_1 14 rfl rfl)
theorem dX0_rule_39 : decode cX0_rule 39 = .ok (.iload_n 2, 1) := dk_28 (dk_at dksX0_rule_1 15 rfl rfl)
theorem dX0_rule_40 : decode cX0_rule 40 = .ok (.ldc 192, 2) := dk_18 192 (dk_at dksX0_rule_1 16 rfl rfl)
theorem dX0_rule_42 : decode cX0_rule 42 = .ok (.invokespecial 182, 3) := dk_183 0 182 (dk_at dksX0_rule_1 18 rfl rfl)
theorem dX0_rule_45 : decode cX0_rule 45 = .ok (.astore_n 3, 1) := dk_78 (dk_at dksX0_rule_1 21 rfl rfl)
theorem dX0_rule_46 : decode cX0_rule 46 = .ok (.aload_n 3, 1) := dk_45 (dk_at dksX0_rule_1 22 rfl rfl)
theorem dX0_rule_47 : decode cX0_rule 47 = .ok (.invokevirtual 185, 3) := dk_182 0 185 (dk_at dksX0_rule_2 0 rfl rfl)
theorem dX0_rule_50 : decode cX0_rule 50 = .ok (.istore 4, 2) := dk_54 4 (dk_at dksX0_rule_2 3 rfl rfl)
theorem dX0_rule_52 : decode cX0_rule 52 = .ok (.iload 4, 2) := dk_21 4 (dk_at dksX0_rule_2 5 rfl rfl)
theorem dX0_rule_54 : decode cX0_rule 54 = .ok (.ifCond .lt 13, 3) := dk_155 0 13 (dk_at dksX0_rule_2 7 rfl rfl)
theorem dX0_rule_57 : decode cX0_rule 57 = .ok (.aload_n 0, 1) := dk_42 (dk_at dksX0_rule_2 10 rfl rfl)
theorem dX0_rule_58 : decode cX0_rule 58 = .ok (.getfield 46, 3) := dk_180 0 46 (dk_at dksX0_rule_2 11 rfl rfl)
theorem dX0_rule_61 : decode cX0_rule 61 = .ok (.iload_n 1, 1) := dk_27 (dk_at dksX0_rule_2 14 rfl rfl)
theorem dX0_rule_62 : decode cX0_rule 62 = .ok (.aload_n 3, 1) := dk_45 (dk_at dksX0_rule_2 15 rfl rfl)
theorem dX0_rule_63 : decode cX0_rule 63 = .ok (.getfield 189, 3) := dk_180 0 189 (dk_at dksX0_rule_2 16 rfl rfl)
theorem dX0_rule_66 : decode cX0_rule 66 = .ok (.aastore, 1) := dk_83 (dk_at dksX0_rule_2 19 rfl rfl)
theorem dX0_rule_67 : decode cX0_rule 67 = .ok (.iload 4, 2) := dk_21 4 (dk_at dksX0_rule_2 20 rfl rfl)
theorem dX0_rule_69 : decode cX0_rule 69 = .ok (.ireturn, 1) := dk_172 (dk_at dksX0_rule_2 22 rfl rfl)
abbrev cX0_days : ByteArray := prog_1_method_18_code
def yX0_days : MethodName := ⟨RX0, "days", "(I)I"⟩
def dkwX0_days_1 : List UInt8 := [2, 172]
abbrev dktX0_days_1 : List UInt8 := dkwX0_days_1 ++ []
def dkwX0_days_0 : List UInt8 := [27, 4, 16, 60, 184, 0, 120, 153, 0, 17, 42, 180, 0, 30, 27, 182, 0, 194, 180, 0, 198, 167, 0, 4]
abbrev dktX0_days_0 : List UInt8 := dkwX0_days_0 ++ dktX0_days_1
theorem dksX0_days_0 : cX0_days.data.toList.drop 0 = dktX0_days_0 := by decide +kernel
theorem dksX0_days_1 : cX0_days.data.toList.drop 24 = dktX0_days_1 := dk_seg dksX0_days_0 24 rfl rfl
theorem dX0_days_0 : decode cX0_days 0 = .ok (.iload_n 1, 1) := dk_27 (dk_at dksX0_days_0 0 rfl rfl)
theorem dX0_days_1 : decode cX0_days 1 = .ok (.iconst 1, 1) := dk_4 (dk_at dksX0_days_0 1 rfl rfl)
theorem dX0_days_2 : decode cX0_days 2 = .ok (.bipush 60, 2) := dk_16 60 (dk_at dksX0_days_0 2 rfl rfl)
theorem dX0_days_4 : decode cX0_days 4 = .ok (.invokestatic 120, 3) := dk_184 0 120 (dk_at dksX0_days_0 4 rfl rfl)
theorem dX0_days_7 : decode cX0_days 7 = .ok (.ifCond .eq 17, 3) := dk_153 0 17 (dk_at dksX0_days_0 7 rfl rfl)
theorem dX0_days_10 : decode cX0_days 10 = .ok (.aload_n 0, 1) := dk_42 (dk_at dksX0_days_0 10 rfl rfl)
theorem dX0_days_11 : decode cX0_days 11 = .ok (.getfield 30, 3) := dk_180 0 30 (dk_at dksX0_days_0 11 rfl rfl)
theorem dX0_days_14 : decode cX0_days 14 = .ok (.iload_n 1, 1) := dk_27 (dk_at dksX0_days_0 14 rfl rfl)
theorem dX0_days_15 : decode cX0_days 15 = .ok (.invokevirtual 194, 3) := dk_182 0 194 (dk_at dksX0_days_0 15 rfl rfl)
theorem dX0_days_18 : decode cX0_days 18 = .ok (.getfield 198, 3) := dk_180 0 198 (dk_at dksX0_days_0 18 rfl rfl)
theorem dX0_days_21 : decode cX0_days 21 = .ok (.goto 4, 3) := dk_167 0 4 (dk_at dksX0_days_0 21 rfl rfl)
theorem dX0_days_24 : decode cX0_days 24 = .ok (.iconst (-1), 1) := dk_2 (dk_at dksX0_days_1 0 rfl rfl)
theorem dX0_days_25 : decode cX0_days 25 = .ok (.ireturn, 1) := dk_172 (dk_at dksX0_days_1 1 rfl rfl)
abbrev cX0_held : ByteArray := prog_1_method_4_code
def yX0_held : MethodName := ⟨RX0, "held", "(II)I"⟩
def dkwX0_held_0 : List UInt8 := [3, 27, 26, 184, 0, 3, 184, 0, 9, 172]
abbrev dktX0_held_0 : List UInt8 := dkwX0_held_0 ++ []
theorem dksX0_held_0 : cX0_held.data.toList.drop 0 = dktX0_held_0 := by decide +kernel
theorem dX0_held_0 : decode cX0_held 0 = .ok (.iconst 0, 1) := dk_3 (dk_at dksX0_held_0 0 rfl rfl)
theorem dX0_held_1 : decode cX0_held 1 = .ok (.iload_n 1, 1) := dk_27 (dk_at dksX0_held_0 1 rfl rfl)
theorem dX0_held_2 : decode cX0_held 2 = .ok (.iload_n 0, 1) := dk_26 (dk_at dksX0_held_0 2 rfl rfl)
theorem dX0_held_3 : decode cX0_held 3 = .ok (.invokestatic 3, 3) := dk_184 0 3 (dk_at dksX0_held_0 3 rfl rfl)
theorem dX0_held_6 : decode cX0_held 6 = .ok (.invokestatic 9, 3) := dk_184 0 9 (dk_at dksX0_held_0 6 rfl rfl)
theorem dX0_held_9 : decode cX0_held 9 = .ok (.ireturn, 1) := dk_172 (dk_at dksX0_held_0 9 rfl rfl)
abbrev cX0_tried : ByteArray := prog_1_method_19_code
def yX0_tried : MethodName := ⟨RX0, "tried", "(II)I"⟩
def dkwX0_tried_7 : List UInt8 := [100, 50, 180, 0, 156, 42, 180, 0, 30, 180, 0, 113, 28, 16, 20, 100, 50, 180, 0, 156, 100, 172]
abbrev dktX0_tried_7 : List UInt8 := dkwX0_tried_7 ++ []
def dkwX0_tried_6 : List UInt8 := [180, 0, 103, 28, 16, 10, 100, 50, 180, 0, 133, 167, 0, 34, 42, 180, 0, 34, 180, 0, 113, 28, 16, 20]
abbrev dktX0_tried_6 : List UInt8 := dkwX0_tried_6 ++ dktX0_tried_7
def dkwX0_tried_5 : List UInt8 := [184, 0, 212, 172, 42, 180, 0, 34, 180, 0, 217, 172, 28, 16, 20, 162, 0, 21, 42, 180, 0, 34]
abbrev dktX0_tried_5 : List UInt8 := dkwX0_tried_5 ++ dktX0_tried_6
def dkwX0_tried_4 : List UInt8 := [42, 180, 0, 34, 180, 0, 198, 172, 42, 180, 0, 34, 180, 0, 206, 172, 42, 180, 0, 34, 182, 0, 209]
abbrev dktX0_tried_4 : List UInt8 := dkwX0_tried_4 ++ dktX0_tried_5
def dkwX0_tried_3 : List UInt8 := [170, 0, 0, 0, 64, 0, 0, 0, 0, 0, 0, 0, 3, 0, 0, 0, 29, 0, 0, 0, 37, 0, 0, 0, 45, 0, 0, 0, 56]
abbrev dktX0_tried_3 : List UInt8 := dkwX0_tried_3 ++ dktX0_tried_4
def dkwX0_tried_2 : List UInt8 := [180, 0, 30, 182, 0, 202, 27, 182, 0, 194, 87, 28]
abbrev dktX0_tried_2 : List UInt8 := dkwX0_tried_2 ++ dktX0_tried_3
def dkwX0_tried_1 : List UInt8 := [182, 0, 159, 154, 0, 16, 42, 28, 16, 20, 100, 182, 0, 199, 154, 0, 5, 2, 172, 42, 180, 0, 34, 42]
abbrev dktX0_tried_1 : List UInt8 := dkwX0_tried_1 ++ dktX0_tried_2
def dkwX0_tried_0 : List UInt8 := [27, 4, 16, 60, 184, 0, 120, 153, 0, 33, 28, 7, 184, 0, 99, 154, 0, 27, 42, 28, 16, 10, 100]
abbrev dktX0_tried_0 : List UInt8 := dkwX0_tried_0 ++ dktX0_tried_1
theorem dksX0_tried_0 : cX0_tried.data.toList.drop 0 = dktX0_tried_0 := by decide +kernel
theorem dksX0_tried_1 : cX0_tried.data.toList.drop 23 = dktX0_tried_1 := dk_seg dksX0_tried_0 23 rfl rfl
theorem dksX0_tried_2 : cX0_tried.data.toList.drop 47 = dktX0_tried_2 := dk_seg dksX0_tried_1 24 rfl rfl
theorem dksX0_tried_3 : cX0_tried.data.toList.drop 59 = dktX0_tried_3 := dk_seg dksX0_tried_2 12 rfl rfl
theorem dksX0_tried_4 : cX0_tried.data.toList.drop 88 = dktX0_tried_4 := dk_seg dksX0_tried_3 29 rfl rfl
theorem dksX0_tried_5 : cX0_tried.data.toList.drop 111 = dktX0_tried_5 := dk_seg dksX0_tried_4 23 rfl rfl
theorem dksX0_tried_6 : cX0_tried.data.toList.drop 133 = dktX0_tried_6 := dk_seg dksX0_tried_5 22 rfl rfl
theorem dksX0_tried_7 : cX0_tried.data.toList.drop 157 = dktX0_tried_7 := dk_seg dksX0_tried_6 24 rfl rfl
theorem dX0_tried_0 : decode cX0_tried 0 = .ok (.iload_n 1, 1) := dk_27 (dk_at dksX0_tried_0 0 rfl rfl)
theorem dX0_tried_1 : decode cX0_tried 1 = .ok (.iconst 1, 1) := dk_4 (dk_at dksX0_tried_0 1 rfl rfl)
theorem dX0_tried_2 : decode cX0_tried 2 = .ok (.bipush 60, 2) := dk_16 60 (dk_at dksX0_tried_0 2 rfl rfl)
theorem dX0_tried_4 : decode cX0_tried 4 = .ok (.invokestatic 120, 3) := dk_184 0 120 (dk_at dksX0_tried_0 4 rfl rfl)
theorem dX0_tried_7 : decode cX0_tried 7 = .ok (.ifCond .eq 33, 3) := dk_153 0 33 (dk_at dksX0_tried_0 7 rfl rfl)
theorem dX0_tried_10 : decode cX0_tried 10 = .ok (.iload_n 2, 1) := dk_28 (dk_at dksX0_tried_0 10 rfl rfl)
theorem dX0_tried_11 : decode cX0_tried 11 = .ok (.iconst 4, 1) := dk_7 (dk_at dksX0_tried_0 11 rfl rfl)
theorem dX0_tried_12 : decode cX0_tried 12 = .ok (.invokestatic 99, 3) := dk_184 0 99 (dk_at dksX0_tried_0 12 rfl rfl)
theorem dX0_tried_15 : decode cX0_tried 15 = .ok (.ifCond .ne 27, 3) := dk_154 0 27 (dk_at dksX0_tried_0 15 rfl rfl)
theorem dX0_tried_18 : decode cX0_tried 18 = .ok (.aload_n 0, 1) := dk_42 (dk_at dksX0_tried_0 18 rfl rfl)
theorem dX0_tried_19 : decode cX0_tried 19 = .ok (.iload_n 2, 1) := dk_28 (dk_at dksX0_tried_0 19 rfl rfl)
theorem dX0_tried_20 : decode cX0_tried 20 = .ok (.bipush 10, 2) := dk_16 10 (dk_at dksX0_tried_0 20 rfl rfl)
theorem dX0_tried_22 : decode cX0_tried 22 = .ok (.isub, 1) := dk_100 (dk_at dksX0_tried_0 22 rfl rfl)
theorem dX0_tried_23 : decode cX0_tried 23 = .ok (.invokevirtual 159, 3) := dk_182 0 159 (dk_at dksX0_tried_1 0 rfl rfl)
theorem dX0_tried_26 : decode cX0_tried 26 = .ok (.ifCond .ne 16, 3) := dk_154 0 16 (dk_at dksX0_tried_1 3 rfl rfl)
theorem dX0_tried_29 : decode cX0_tried 29 = .ok (.aload_n 0, 1) := dk_42 (dk_at dksX0_tried_1 6 rfl rfl)
theorem dX0_tried_30 : decode cX0_tried 30 = .ok (.iload_n 2, 1) := dk_28 (dk_at dksX0_tried_1 7 rfl rfl)
theorem dX0_tried_31 : decode cX0_tried 31 = .ok (.bipush 20, 2) := dk_16 20 (dk_at dksX0_tried_1 8 rfl rfl)
theorem dX0_tried_33 : decode cX0_tried 33 = .ok (.isub, 1) := dk_100 (dk_at dksX0_tried_1 10 rfl rfl)
theorem dX0_tried_34 : decode cX0_tried 34 = .ok (.invokevirtual 199, 3) := dk_182 0 199 (dk_at dksX0_tried_1 11 rfl rfl)
theorem dX0_tried_37 : decode cX0_tried 37 = .ok (.ifCond .ne 5, 3) := dk_154 0 5 (dk_at dksX0_tried_1 14 rfl rfl)
theorem dX0_tried_40 : decode cX0_tried 40 = .ok (.iconst (-1), 1) := dk_2 (dk_at dksX0_tried_1 17 rfl rfl)
theorem dX0_tried_41 : decode cX0_tried 41 = .ok (.ireturn, 1) := dk_172 (dk_at dksX0_tried_1 18 rfl rfl)
theorem dX0_tried_42 : decode cX0_tried 42 = .ok (.aload_n 0, 1) := dk_42 (dk_at dksX0_tried_1 19 rfl rfl)
theorem dX0_tried_43 : decode cX0_tried 43 = .ok (.getfield 34, 3) := dk_180 0 34 (dk_at dksX0_tried_1 20 rfl rfl)
theorem dX0_tried_46 : decode cX0_tried 46 = .ok (.aload_n 0, 1) := dk_42 (dk_at dksX0_tried_1 23 rfl rfl)
theorem dX0_tried_47 : decode cX0_tried 47 = .ok (.getfield 30, 3) := dk_180 0 30 (dk_at dksX0_tried_2 0 rfl rfl)
theorem dX0_tried_50 : decode cX0_tried 50 = .ok (.invokevirtual 202, 3) := dk_182 0 202 (dk_at dksX0_tried_2 3 rfl rfl)
theorem dX0_tried_53 : decode cX0_tried 53 = .ok (.iload_n 1, 1) := dk_27 (dk_at dksX0_tried_2 6 rfl rfl)
theorem dX0_tried_54 : decode cX0_tried 54 = .ok (.invokevirtual 194, 3) := dk_182 0 194 (dk_at dksX0_tried_2 7 rfl rfl)
theorem dX0_tried_57 : decode cX0_tried 57 = .ok (.pop, 1) := dk_87 (dk_at dksX0_tried_2 10 rfl rfl)
theorem dX0_tried_58 : decode cX0_tried 58 = .ok (.iload_n 2, 1) := dk_28 (dk_at dksX0_tried_2 11 rfl rfl)
theorem dX0_tried_59 : decode cX0_tried 59 = .ok (.tableswitch 64 0 3 #[29, 37, 45, 56], 29) := by decide +kernel
theorem dX0_tried_88 : decode cX0_tried 88 = .ok (.aload_n 0, 1) := dk_42 (dk_at dksX0_tried_4 0 rfl rfl)
theorem dX0_tried_89 : decode cX0_tried 89 = .ok (.getfield 34, 3) := dk_180 0 34 (dk_at dksX0_tried_4 1 rfl rfl)
theorem dX0_tried_92 : decode cX0_tried 92 = .ok (.getfield 198, 3) := dk_180 0 198 (dk_at dksX0_tried_4 4 rfl rfl)
theorem dX0_tried_95 : decode cX0_tried 95 = .ok (.ireturn, 1) := dk_172 (dk_at dksX0_tried_4 7 rfl rfl)
theorem dX0_tried_96 : decode cX0_tried 96 = .ok (.aload_n 0, 1) := dk_42 (dk_at dksX0_tried_4 8 rfl rfl)
theorem dX0_tried_97 : decode cX0_tried 97 = .ok (.getfield 34, 3) := dk_180 0 34 (dk_at dksX0_tried_4 9 rfl rfl)
theorem dX0_tried_100 : decode cX0_tried 100 = .ok (.getfield 206, 3) := dk_180 0 206 (dk_at dksX0_tried_4 12 rfl rfl)
theorem dX0_tried_103 : decode cX0_tried 103 = .ok (.ireturn, 1) := dk_172 (dk_at dksX0_tried_4 15 rfl rfl)
theorem dX0_tried_104 : decode cX0_tried 104 = .ok (.aload_n 0, 1) := dk_42 (dk_at dksX0_tried_4 16 rfl rfl)
theorem dX0_tried_105 : decode cX0_tried 105 = .ok (.getfield 34, 3) := dk_180 0 34 (dk_at dksX0_tried_4 17 rfl rfl)
theorem dX0_tried_108 : decode cX0_tried 108 = .ok (.invokevirtual 209, 3) := dk_182 0 209 (dk_at dksX0_tried_4 20 rfl rfl)
theorem dX0_tried_111 : decode cX0_tried 111 = .ok (.invokestatic 212, 3) := dk_184 0 212 (dk_at dksX0_tried_5 0 rfl rfl)
theorem dX0_tried_114 : decode cX0_tried 114 = .ok (.ireturn, 1) := dk_172 (dk_at dksX0_tried_5 3 rfl rfl)
theorem dX0_tried_115 : decode cX0_tried 115 = .ok (.aload_n 0, 1) := dk_42 (dk_at dksX0_tried_5 4 rfl rfl)
theorem dX0_tried_116 : decode cX0_tried 116 = .ok (.getfield 34, 3) := dk_180 0 34 (dk_at dksX0_tried_5 5 rfl rfl)
theorem dX0_tried_119 : decode cX0_tried 119 = .ok (.getfield 217, 3) := dk_180 0 217 (dk_at dksX0_tried_5 8 rfl rfl)
theorem dX0_tried_122 : decode cX0_tried 122 = .ok (.ireturn, 1) := dk_172 (dk_at dksX0_tried_5 11 rfl rfl)
theorem dX0_tried_123 : decode cX0_tried 123 = .ok (.iload_n 2, 1) := dk_28 (dk_at dksX0_tried_5 12 rfl rfl)
theorem dX0_tried_124 : decode cX0_tried 124 = .ok (.bipush 20, 2) := dk_16 20 (dk_at dksX0_tried_5 13 rfl rfl)
theorem dX0_tried_126 : decode cX0_tried 126 = .ok (.if_icmp .ge 21, 3) := dk_162 0 21 (dk_at dksX0_tried_5 15 rfl rfl)
theorem dX0_tried_129 : decode cX0_tried 129 = .ok (.aload_n 0, 1) := dk_42 (dk_at dksX0_tried_5 18 rfl rfl)
theorem dX0_tried_130 : decode cX0_tried 130 = .ok (.getfield 34, 3) := dk_180 0 34 (dk_at dksX0_tried_5 19 rfl rfl)
theorem dX0_tried_133 : decode cX0_tried 133 = .ok (.getfield 103, 3) := dk_180 0 103 (dk_at dksX0_tried_6 0 rfl rfl)
theorem dX0_tried_136 : decode cX0_tried 136 = .ok (.iload_n 2, 1) := dk_28 (dk_at dksX0_tried_6 3 rfl rfl)
theorem dX0_tried_137 : decode cX0_tried 137 = .ok (.bipush 10, 2) := dk_16 10 (dk_at dksX0_tried_6 4 rfl rfl)
theorem dX0_tried_139 : decode cX0_tried 139 = .ok (.isub, 1) := dk_100 (dk_at dksX0_tried_6 6 rfl rfl)
theorem dX0_tried_140 : decode cX0_tried 140 = .ok (.aaload, 1) := dk_50 (dk_at dksX0_tried_6 7 rfl rfl)
theorem dX0_tried_141 : decode cX0_tried 141 = .ok (.getfield 133, 3) := dk_180 0 133 (dk_at dksX0_tried_6 8 rfl rfl)
theorem dX0_tried_144 : decode cX0_tried 144 = .ok (.goto 34, 3) := dk_167 0 34 (dk_at dksX0_tried_6 11 rfl rfl)
theorem dX0_tried_147 : decode cX0_tried 147 = .ok (.aload_n 0, 1) := dk_42 (dk_at dksX0_tried_6 14 rfl rfl)
theorem dX0_tried_148 : decode cX0_tried 148 = .ok (.getfield 34, 3) := dk_180 0 34 (dk_at dksX0_tried_6 15 rfl rfl)
theorem dX0_tried_151 : decode cX0_tried 151 = .ok (.getfield 113, 3) := dk_180 0 113 (dk_at dksX0_tried_6 18 rfl rfl)
theorem dX0_tried_154 : decode cX0_tried 154 = .ok (.iload_n 2, 1) := dk_28 (dk_at dksX0_tried_6 21 rfl rfl)
theorem dX0_tried_155 : decode cX0_tried 155 = .ok (.bipush 20, 2) := dk_16 20 (dk_at dksX0_tried_6 22 rfl rfl)
theorem dX0_tried_157 : decode cX0_tried 157 = .ok (.isub, 1) := dk_100 (dk_at dksX0_tried_7 0 rfl rfl)
theorem dX0_tried_158 : decode cX0_tried 158 = .ok (.aaload, 1) := dk_50 (dk_at dksX0_tried_7 1 rfl rfl)
theorem dX0_tried_159 : decode cX0_tried 159 = .ok (.getfield 156, 3) := dk_180 0 156 (dk_at dksX0_tried_7 2 rfl rfl)
theorem dX0_tried_162 : decode cX0_tried 162 = .ok (.aload_n 0, 1) := dk_42 (dk_at dksX0_tried_7 5 rfl rfl)
theorem dX0_tried_163 : decode cX0_tried 163 = .ok (.getfield 30, 3) := dk_180 0 30 (dk_at dksX0_tried_7 6 rfl rfl)
theorem dX0_tried_166 : decode cX0_tried 166 = .ok (.getfield 113, 3) := dk_180 0 113 (dk_at dksX0_tried_7 9 rfl rfl)
theorem dX0_tried_169 : decode cX0_tried 169 = .ok (.iload_n 2, 1) := dk_28 (dk_at dksX0_tried_7 12 rfl rfl)
theorem dX0_tried_170 : decode cX0_tried 170 = .ok (.bipush 20, 2) := dk_16 20 (dk_at dksX0_tried_7 13 rfl rfl)
theorem dX0_tried_172 : decode cX0_tried 172 = .ok (.isub, 1) := dk_100 (dk_at dksX0_tried_7 15 rfl rfl)
theorem dX0_tried_173 : decode cX0_tried 173 = .ok (.aaload, 1) := dk_50 (dk_at dksX0_tried_7 16 rfl rfl)
theorem dX0_tried_174 : decode cX0_tried 174 = .ok (.getfield 156, 3) := dk_180 0 156 (dk_at dksX0_tried_7 17 rfl rfl)
theorem dX0_tried_177 : decode cX0_tried 177 = .ok (.isub, 1) := dk_100 (dk_at dksX0_tried_7 20 rfl rfl)
theorem dX0_tried_178 : decode cX0_tried 178 = .ok (.ireturn, 1) := dk_172 (dk_at dksX0_tried_7 21 rfl rfl)
abbrev cX0_isPerson : ByteArray := prog_1_method_9_code
def yX0_isPerson : MethodName := ⟨RX0, "isPerson", "(I)Z"⟩
def dkwX0_isPerson_1 : List UInt8 := [4, 167, 0, 4, 3, 172]
abbrev dktX0_isPerson_1 : List UInt8 := dkwX0_isPerson_1 ++ []
def dkwX0_isPerson_0 : List UInt8 := [27, 16, 8, 184, 0, 99, 153, 0, 22, 42, 180, 0, 30, 180, 0, 113, 27, 50, 180, 0, 117, 153, 0, 7]
abbrev dktX0_isPerson_0 : List UInt8 := dkwX0_isPerson_0 ++ dktX0_isPerson_1
theorem dksX0_isPerson_0 : cX0_isPerson.data.toList.drop 0 = dktX0_isPerson_0 := by decide +kernel
theorem dksX0_isPerson_1 : cX0_isPerson.data.toList.drop 24 = dktX0_isPerson_1 := dk_seg dksX0_isPerson_0 24 rfl rfl
theorem dX0_isPerson_0 : decode cX0_isPerson 0 = .ok (.iload_n 1, 1) := dk_27 (dk_at dksX0_isPerson_0 0 rfl rfl)
theorem dX0_isPerson_1 : decode cX0_isPerson 1 = .ok (.bipush 8, 2) := dk_16 8 (dk_at dksX0_isPerson_0 1 rfl rfl)
theorem dX0_isPerson_3 : decode cX0_isPerson 3 = .ok (.invokestatic 99, 3) := dk_184 0 99 (dk_at dksX0_isPerson_0 3 rfl rfl)
theorem dX0_isPerson_6 : decode cX0_isPerson 6 = .ok (.ifCond .eq 22, 3) := dk_153 0 22 (dk_at dksX0_isPerson_0 6 rfl rfl)
theorem dX0_isPerson_9 : decode cX0_isPerson 9 = .ok (.aload_n 0, 1) := dk_42 (dk_at dksX0_isPerson_0 9 rfl rfl)
theorem dX0_isPerson_10 : decode cX0_isPerson 10 = .ok (.getfield 30, 3) := dk_180 0 30 (dk_at dksX0_isPerson_0 10 rfl rfl)
theorem dX0_isPerson_13 : decode cX0_isPerson 13 = .ok (.getfield 113, 3) := dk_180 0 113 (dk_at dksX0_isPerson_0 13 rfl rfl)
theorem dX0_isPerson_16 : decode cX0_isPerson 16 = .ok (.iload_n 1, 1) := dk_27 (dk_at dksX0_isPerson_0 16 rfl rfl)
theorem dX0_isPerson_17 : decode cX0_isPerson 17 = .ok (.aaload, 1) := dk_50 (dk_at dksX0_isPerson_0 17 rfl rfl)
theorem dX0_isPerson_18 : decode cX0_isPerson 18 = .ok (.getfield 117, 3) := dk_180 0 117 (dk_at dksX0_isPerson_0 18 rfl rfl)
theorem dX0_isPerson_21 : decode cX0_isPerson 21 = .ok (.ifCond .eq 7, 3) := dk_153 0 7 (dk_at dksX0_isPerson_0 21 rfl rfl)
theorem dX0_isPerson_24 : decode cX0_isPerson 24 = .ok (.iconst 1, 1) := dk_4 (dk_at dksX0_isPerson_1 0 rfl rfl)
theorem dX0_isPerson_25 : decode cX0_isPerson 25 = .ok (.goto 4, 3) := dk_167 0 4 (dk_at dksX0_isPerson_1 1 rfl rfl)
theorem dX0_isPerson_28 : decode cX0_isPerson 28 = .ok (.iconst 0, 1) := dk_3 (dk_at dksX0_isPerson_1 4 rfl rfl)
theorem dX0_isPerson_29 : decode cX0_isPerson 29 = .ok (.ireturn, 1) := dk_172 (dk_at dksX0_isPerson_1 5 rfl rfl)
abbrev cX0_plantIs : ByteArray := prog_1_method_20_code
def yX0_plantIs : MethodName := ⟨RX0, "plantIs", "(II)I"⟩
def dkwX0_plantIs_5 : List UInt8 := [167, 0, 20, 45, 180, 0, 127, 2, 160, 0, 8, 16, 253, 167, 0, 7, 45, 180, 0, 127, 172, 2, 172]
abbrev dktX0_plantIs_5 : List UInt8 := dkwX0_plantIs_5 ++ []
def dkwX0_plantIs_4 : List UInt8 := [172, 45, 182, 0, 163, 153, 0, 7, 4, 167, 0, 4, 3, 172, 45, 180, 0, 124, 154, 0, 8, 16, 254]
abbrev dktX0_plantIs_4 : List UInt8 := dkwX0_plantIs_4 ++ dktX0_plantIs_5
def dkwX0_plantIs_3 : List UInt8 := [45, 180, 0, 130, 172, 45, 180, 0, 133, 172, 45, 180, 0, 136, 172, 45, 180, 0, 139, 172, 45, 180, 0, 142]
abbrev dktX0_plantIs_3 : List UInt8 := dkwX0_plantIs_3 ++ dktX0_plantIs_4
def dkwX0_plantIs_2 : List UInt8 := [170, 0, 0, 0, 0, 110, 0, 0, 0, 0, 0, 0, 0, 6, 0, 0, 0, 42, 0, 0, 0, 47, 0, 0, 0, 52, 0, 0, 0, 57, 0, 0, 0, 62, 0, 0, 0, 67, 0, 0, 0, 80]
abbrev dktX0_plantIs_2 : List UInt8 := dkwX0_plantIs_2 ++ dktX0_plantIs_3
def dkwX0_plantIs_1 : List UInt8 := [16, 7, 184, 0, 99, 153, 0, 12, 45, 28, 16, 10, 100, 182, 0, 220, 172, 28]
abbrev dktX0_plantIs_1 : List UInt8 := dkwX0_plantIs_1 ++ dktX0_plantIs_2
def dkwX0_plantIs_0 : List UInt8 := [42, 27, 182, 0, 159, 154, 0, 5, 2, 172, 42, 180, 0, 30, 180, 0, 103, 27, 50, 78, 28, 16, 10, 100]
abbrev dktX0_plantIs_0 : List UInt8 := dkwX0_plantIs_0 ++ dktX0_plantIs_1
theorem dksX0_plantIs_0 : cX0_plantIs.data.toList.drop 0 = dktX0_plantIs_0 := by decide +kernel
theorem dksX0_plantIs_1 : cX0_plantIs.data.toList.drop 24 = dktX0_plantIs_1 := dk_seg dksX0_plantIs_0 24 rfl rfl
theorem dksX0_plantIs_2 : cX0_plantIs.data.toList.drop 42 = dktX0_plantIs_2 := dk_seg dksX0_plantIs_1 18 rfl rfl
theorem dksX0_plantIs_3 : cX0_plantIs.data.toList.drop 84 = dktX0_plantIs_3 := dk_seg dksX0_plantIs_2 42 rfl rfl
theorem dksX0_plantIs_4 : cX0_plantIs.data.toList.drop 108 = dktX0_plantIs_4 := dk_seg dksX0_plantIs_3 24 rfl rfl
theorem dksX0_plantIs_5 : cX0_plantIs.data.toList.drop 131 = dktX0_plantIs_5 := dk_seg dksX0_plantIs_4 23 rfl rfl
theorem dX0_plantIs_0 : decode cX0_plantIs 0 = .ok (.aload_n 0, 1) := dk_42 (dk_at dksX0_plantIs_0 0 rfl rfl)
theorem dX0_plantIs_1 : decode cX0_plantIs 1 = .ok (.iload_n 1, 1) := dk_27 (dk_at dksX0_plantIs_0 1 rfl rfl)
theorem dX0_plantIs_2 : decode cX0_plantIs 2 = .ok (.invokevirtual 159, 3) := dk_182 0 159 (dk_at dksX0_plantIs_0 2 rfl rfl)
theorem dX0_plantIs_5 : decode cX0_plantIs 5 = .ok (.ifCond .ne 5, 3) := dk_154 0 5 (dk_at dksX0_plantIs_0 5 rfl rfl)
theorem dX0_plantIs_8 : decode cX0_plantIs 8 = .ok (.iconst (-1), 1) := dk_2 (dk_at dksX0_plantIs_0 8 rfl rfl)
theorem dX0_plantIs_9 : decode cX0_plantIs 9 = .ok (.ireturn, 1) := dk_172 (dk_at dksX0_plantIs_0 9 rfl rfl)
theorem dX0_plantIs_10 : decode cX0_plantIs 10 = .ok (.aload_n 0, 1) := dk_42 (dk_at dksX0_plantIs_0 10 rfl rfl)
theorem dX0_plantIs_11 : decode cX0_plantIs 11 = .ok (.getfield 30, 3) := dk_180 0 30 (dk_at dksX0_plantIs_0 11 rfl rfl)
theorem dX0_plantIs_14 : decode cX0_plantIs 14 = .ok (.getfield 103, 3) := dk_180 0 103 (dk_at dksX0_plantIs_0 14 rfl rfl)
theorem dX0_plantIs_17 : decode cX0_plantIs 17 = .ok (.iload_n 1, 1) := dk_27 (dk_at dksX0_plantIs_0 17 rfl rfl)
theorem dX0_plantIs_18 : decode cX0_plantIs 18 = .ok (.aaload, 1) := dk_50 (dk_at dksX0_plantIs_0 18 rfl rfl)
theorem dX0_plantIs_19 : decode cX0_plantIs 19 = .ok (.astore_n 3, 1) := dk_78 (dk_at dksX0_plantIs_0 19 rfl rfl)
theorem dX0_plantIs_20 : decode cX0_plantIs 20 = .ok (.iload_n 2, 1) := dk_28 (dk_at dksX0_plantIs_0 20 rfl rfl)
theorem dX0_plantIs_21 : decode cX0_plantIs 21 = .ok (.bipush 10, 2) := dk_16 10 (dk_at dksX0_plantIs_0 21 rfl rfl)
theorem dX0_plantIs_23 : decode cX0_plantIs 23 = .ok (.isub, 1) := dk_100 (dk_at dksX0_plantIs_0 23 rfl rfl)
theorem dX0_plantIs_24 : decode cX0_plantIs 24 = .ok (.bipush 7, 2) := dk_16 7 (dk_at dksX0_plantIs_1 0 rfl rfl)
theorem dX0_plantIs_26 : decode cX0_plantIs 26 = .ok (.invokestatic 99, 3) := dk_184 0 99 (dk_at dksX0_plantIs_1 2 rfl rfl)
theorem dX0_plantIs_29 : decode cX0_plantIs 29 = .ok (.ifCond .eq 12, 3) := dk_153 0 12 (dk_at dksX0_plantIs_1 5 rfl rfl)
theorem dX0_plantIs_32 : decode cX0_plantIs 32 = .ok (.aload_n 3, 1) := dk_45 (dk_at dksX0_plantIs_1 8 rfl rfl)
theorem dX0_plantIs_33 : decode cX0_plantIs 33 = .ok (.iload_n 2, 1) := dk_28 (dk_at dksX0_plantIs_1 9 rfl rfl)
theorem dX0_plantIs_34 : decode cX0_plantIs 34 = .ok (.bipush 10, 2) := dk_16 10 (dk_at dksX0_plantIs_1 10 rfl rfl)
theorem dX0_plantIs_36 : decode cX0_plantIs 36 = .ok (.isub, 1) := dk_100 (dk_at dksX0_plantIs_1 12 rfl rfl)
theorem dX0_plantIs_37 : decode cX0_plantIs 37 = .ok (.invokevirtual 220, 3) := dk_182 0 220 (dk_at dksX0_plantIs_1 13 rfl rfl)
theorem dX0_plantIs_40 : decode cX0_plantIs 40 = .ok (.ireturn, 1) := dk_172 (dk_at dksX0_plantIs_1 16 rfl rfl)
theorem dX0_plantIs_41 : decode cX0_plantIs 41 = .ok (.iload_n 2, 1) := dk_28 (dk_at dksX0_plantIs_1 17 rfl rfl)
theorem dX0_plantIs_42 : decode cX0_plantIs 42 = .ok (.tableswitch 110 0 6 #[42, 47, 52, 57, 62, 67, 80], 42) := by decide +kernel
theorem dX0_plantIs_84 : decode cX0_plantIs 84 = .ok (.aload_n 3, 1) := dk_45 (dk_at dksX0_plantIs_3 0 rfl rfl)
theorem dX0_plantIs_85 : decode cX0_plantIs 85 = .ok (.getfield 130, 3) := dk_180 0 130 (dk_at dksX0_plantIs_3 1 rfl rfl)
theorem dX0_plantIs_88 : decode cX0_plantIs 88 = .ok (.ireturn, 1) := dk_172 (dk_at dksX0_plantIs_3 4 rfl rfl)
theorem dX0_plantIs_89 : decode cX0_plantIs 89 = .ok (.aload_n 3, 1) := dk_45 (dk_at dksX0_plantIs_3 5 rfl rfl)
theorem dX0_plantIs_90 : decode cX0_plantIs 90 = .ok (.getfield 133, 3) := dk_180 0 133 (dk_at dksX0_plantIs_3 6 rfl rfl)
theorem dX0_plantIs_93 : decode cX0_plantIs 93 = .ok (.ireturn, 1) := dk_172 (dk_at dksX0_plantIs_3 9 rfl rfl)
theorem dX0_plantIs_94 : decode cX0_plantIs 94 = .ok (.aload_n 3, 1) := dk_45 (dk_at dksX0_plantIs_3 10 rfl rfl)
theorem dX0_plantIs_95 : decode cX0_plantIs 95 = .ok (.getfield 136, 3) := dk_180 0 136 (dk_at dksX0_plantIs_3 11 rfl rfl)
theorem dX0_plantIs_98 : decode cX0_plantIs 98 = .ok (.ireturn, 1) := dk_172 (dk_at dksX0_plantIs_3 14 rfl rfl)
theorem dX0_plantIs_99 : decode cX0_plantIs 99 = .ok (.aload_n 3, 1) := dk_45 (dk_at dksX0_plantIs_3 15 rfl rfl)
theorem dX0_plantIs_100 : decode cX0_plantIs 100 = .ok (.getfield 139, 3) := dk_180 0 139 (dk_at dksX0_plantIs_3 16 rfl rfl)
theorem dX0_plantIs_103 : decode cX0_plantIs 103 = .ok (.ireturn, 1) := dk_172 (dk_at dksX0_plantIs_3 19 rfl rfl)
theorem dX0_plantIs_104 : decode cX0_plantIs 104 = .ok (.aload_n 3, 1) := dk_45 (dk_at dksX0_plantIs_3 20 rfl rfl)
theorem dX0_plantIs_105 : decode cX0_plantIs 105 = .ok (.getfield 142, 3) := dk_180 0 142 (dk_at dksX0_plantIs_3 21 rfl rfl)
theorem dX0_plantIs_108 : decode cX0_plantIs 108 = .ok (.ireturn, 1) := dk_172 (dk_at dksX0_plantIs_4 0 rfl rfl)
theorem dX0_plantIs_109 : decode cX0_plantIs 109 = .ok (.aload_n 3, 1) := dk_45 (dk_at dksX0_plantIs_4 1 rfl rfl)
theorem dX0_plantIs_110 : decode cX0_plantIs 110 = .ok (.invokevirtual 163, 3) := dk_182 0 163 (dk_at dksX0_plantIs_4 2 rfl rfl)
theorem dX0_plantIs_113 : decode cX0_plantIs 113 = .ok (.ifCond .eq 7, 3) := dk_153 0 7 (dk_at dksX0_plantIs_4 5 rfl rfl)
theorem dX0_plantIs_116 : decode cX0_plantIs 116 = .ok (.iconst 1, 1) := dk_4 (dk_at dksX0_plantIs_4 8 rfl rfl)
theorem dX0_plantIs_117 : decode cX0_plantIs 117 = .ok (.goto 4, 3) := dk_167 0 4 (dk_at dksX0_plantIs_4 9 rfl rfl)
theorem dX0_plantIs_120 : decode cX0_plantIs 120 = .ok (.iconst 0, 1) := dk_3 (dk_at dksX0_plantIs_4 12 rfl rfl)
theorem dX0_plantIs_121 : decode cX0_plantIs 121 = .ok (.ireturn, 1) := dk_172 (dk_at dksX0_plantIs_4 13 rfl rfl)
theorem dX0_plantIs_122 : decode cX0_plantIs 122 = .ok (.aload_n 3, 1) := dk_45 (dk_at dksX0_plantIs_4 14 rfl rfl)
theorem dX0_plantIs_123 : decode cX0_plantIs 123 = .ok (.getfield 124, 3) := dk_180 0 124 (dk_at dksX0_plantIs_4 15 rfl rfl)
theorem dX0_plantIs_126 : decode cX0_plantIs 126 = .ok (.ifCond .ne 8, 3) := dk_154 0 8 (dk_at dksX0_plantIs_4 18 rfl rfl)
theorem dX0_plantIs_129 : decode cX0_plantIs 129 = .ok (.bipush (-2), 2) := dk_16 254 (dk_at dksX0_plantIs_4 21 rfl rfl)
theorem dX0_plantIs_131 : decode cX0_plantIs 131 = .ok (.goto 20, 3) := dk_167 0 20 (dk_at dksX0_plantIs_5 0 rfl rfl)
theorem dX0_plantIs_134 : decode cX0_plantIs 134 = .ok (.aload_n 3, 1) := dk_45 (dk_at dksX0_plantIs_5 3 rfl rfl)
theorem dX0_plantIs_135 : decode cX0_plantIs 135 = .ok (.getfield 127, 3) := dk_180 0 127 (dk_at dksX0_plantIs_5 4 rfl rfl)
theorem dX0_plantIs_138 : decode cX0_plantIs 138 = .ok (.iconst (-1), 1) := dk_2 (dk_at dksX0_plantIs_5 7 rfl rfl)
theorem dX0_plantIs_139 : decode cX0_plantIs 139 = .ok (.if_icmp .ne 8, 3) := dk_160 0 8 (dk_at dksX0_plantIs_5 8 rfl rfl)
theorem dX0_plantIs_142 : decode cX0_plantIs 142 = .ok (.bipush (-3), 2) := dk_16 253 (dk_at dksX0_plantIs_5 11 rfl rfl)
theorem dX0_plantIs_144 : decode cX0_plantIs 144 = .ok (.goto 7, 3) := dk_167 0 7 (dk_at dksX0_plantIs_5 13 rfl rfl)
theorem dX0_plantIs_147 : decode cX0_plantIs 147 = .ok (.aload_n 3, 1) := dk_45 (dk_at dksX0_plantIs_5 16 rfl rfl)
theorem dX0_plantIs_148 : decode cX0_plantIs 148 = .ok (.getfield 127, 3) := dk_180 0 127 (dk_at dksX0_plantIs_5 17 rfl rfl)
theorem dX0_plantIs_151 : decode cX0_plantIs 151 = .ok (.ireturn, 1) := dk_172 (dk_at dksX0_plantIs_5 20 rfl rfl)
theorem dX0_plantIs_152 : decode cX0_plantIs 152 = .ok (.iconst (-1), 1) := dk_2 (dk_at dksX0_plantIs_5 21 rfl rfl)
theorem dX0_plantIs_153 : decode cX0_plantIs 153 = .ok (.ireturn, 1) := dk_172 (dk_at dksX0_plantIs_5 22 rfl rfl)
abbrev cX0_gives : ByteArray := prog_1_method_21_code
def yX0_gives : MethodName := ⟨RX0, "gives", "(II)I"⟩
def dkwX0_gives_1 : List UInt8 := [182, 0, 223, 167, 0, 4, 2, 172]
abbrev dktX0_gives_1 : List UInt8 := dkwX0_gives_1 ++ []
def dkwX0_gives_0 : List UInt8 := [42, 27, 182, 0, 199, 153, 0, 23, 42, 28, 182, 0, 159, 153, 0, 15, 42, 180, 0, 30, 27, 28]
abbrev dktX0_gives_0 : List UInt8 := dkwX0_gives_0 ++ dktX0_gives_1
theorem dksX0_gives_0 : cX0_gives.data.toList.drop 0 = dktX0_gives_0 := by decide +kernel
theorem dksX0_gives_1 : cX0_gives.data.toList.drop 22 = dktX0_gives_1 := dk_seg dksX0_gives_0 22 rfl rfl
theorem dX0_gives_0 : decode cX0_gives 0 = .ok (.aload_n 0, 1) := dk_42 (dk_at dksX0_gives_0 0 rfl rfl)
theorem dX0_gives_1 : decode cX0_gives 1 = .ok (.iload_n 1, 1) := dk_27 (dk_at dksX0_gives_0 1 rfl rfl)
theorem dX0_gives_2 : decode cX0_gives 2 = .ok (.invokevirtual 199, 3) := dk_182 0 199 (dk_at dksX0_gives_0 2 rfl rfl)
theorem dX0_gives_5 : decode cX0_gives 5 = .ok (.ifCond .eq 23, 3) := dk_153 0 23 (dk_at dksX0_gives_0 5 rfl rfl)
theorem dX0_gives_8 : decode cX0_gives 8 = .ok (.aload_n 0, 1) := dk_42 (dk_at dksX0_gives_0 8 rfl rfl)
theorem dX0_gives_9 : decode cX0_gives 9 = .ok (.iload_n 2, 1) := dk_28 (dk_at dksX0_gives_0 9 rfl rfl)
theorem dX0_gives_10 : decode cX0_gives 10 = .ok (.invokevirtual 159, 3) := dk_182 0 159 (dk_at dksX0_gives_0 10 rfl rfl)
theorem dX0_gives_13 : decode cX0_gives 13 = .ok (.ifCond .eq 15, 3) := dk_153 0 15 (dk_at dksX0_gives_0 13 rfl rfl)
theorem dX0_gives_16 : decode cX0_gives 16 = .ok (.aload_n 0, 1) := dk_42 (dk_at dksX0_gives_0 16 rfl rfl)
theorem dX0_gives_17 : decode cX0_gives 17 = .ok (.getfield 30, 3) := dk_180 0 30 (dk_at dksX0_gives_0 17 rfl rfl)
theorem dX0_gives_20 : decode cX0_gives 20 = .ok (.iload_n 1, 1) := dk_27 (dk_at dksX0_gives_0 20 rfl rfl)
theorem dX0_gives_21 : decode cX0_gives 21 = .ok (.iload_n 2, 1) := dk_28 (dk_at dksX0_gives_0 21 rfl rfl)
theorem dX0_gives_22 : decode cX0_gives 22 = .ok (.invokevirtual 223, 3) := dk_182 0 223 (dk_at dksX0_gives_1 0 rfl rfl)
theorem dX0_gives_25 : decode cX0_gives 25 = .ok (.goto 4, 3) := dk_167 0 4 (dk_at dksX0_gives_1 3 rfl rfl)
theorem dX0_gives_28 : decode cX0_gives 28 = .ok (.iconst (-1), 1) := dk_2 (dk_at dksX0_gives_1 6 rfl rfl)
theorem dX0_gives_29 : decode cX0_gives 29 = .ok (.ireturn, 1) := dk_172 (dk_at dksX0_gives_1 7 rfl rfl)
abbrev cX0_exactly : ByteArray := prog_1_method_33_code
def yX0_exactly : MethodName := ⟨RX0, "exactly", "(IIII)J"⟩
def dkwX0_exactly_3 : List UInt8 := [180, 0, 57, 21, 4, 50, 21, 7, 47, 97, 55, 5, 132, 7, 1, 167, 255, 231, 22, 5, 173]
abbrev dktX0_exactly_3 : List UInt8 := dkwX0_exactly_3 ++ []
def dkwX0_exactly_2 : List UInt8 := [160, 0, 8, 42, 180, 1, 31, 173, 9, 55, 5, 3, 54, 7, 21, 7, 16, 20, 162, 0, 24, 22, 5, 42]
abbrev dktX0_exactly_2 : List UInt8 := dkwX0_exactly_2 ++ dktX0_exactly_3
def dkwX0_exactly_1 : List UInt8 := [173, 42, 27, 28, 29, 42, 180, 0, 30, 180, 0, 103, 27, 50, 180, 0, 130, 182, 1, 65, 88, 21, 4, 2]
abbrev dktX0_exactly_1 : List UInt8 := dkwX0_exactly_1 ++ dktX0_exactly_2
def dkwX0_exactly_0 : List UInt8 := [42, 27, 28, 29, 182, 1, 60, 153, 0, 14, 21, 4, 2, 16, 24, 184, 0, 120, 154, 0, 7, 20, 1, 63]
abbrev dktX0_exactly_0 : List UInt8 := dkwX0_exactly_0 ++ dktX0_exactly_1
theorem dksX0_exactly_0 : cX0_exactly.data.toList.drop 0 = dktX0_exactly_0 := by decide +kernel
theorem dksX0_exactly_1 : cX0_exactly.data.toList.drop 24 = dktX0_exactly_1 := dk_seg dksX0_exactly_0 24 rfl rfl
theorem dksX0_exactly_2 : cX0_exactly.data.toList.drop 48 = dktX0_exactly_2 := dk_seg dksX0_exactly_1 24 rfl rfl
theorem dksX0_exactly_3 : cX0_exactly.data.toList.drop 72 = dktX0_exactly_3 := dk_seg dksX0_exactly_2 24 rfl rfl
theorem dX0_exactly_0 : decode cX0_exactly 0 = .ok (.aload_n 0, 1) := dk_42 (dk_at dksX0_exactly_0 0 rfl rfl)
theorem dX0_exactly_1 : decode cX0_exactly 1 = .ok (.iload_n 1, 1) := dk_27 (dk_at dksX0_exactly_0 1 rfl rfl)
theorem dX0_exactly_2 : decode cX0_exactly 2 = .ok (.iload_n 2, 1) := dk_28 (dk_at dksX0_exactly_0 2 rfl rfl)
theorem dX0_exactly_3 : decode cX0_exactly 3 = .ok (.iload_n 3, 1) := dk_29 (dk_at dksX0_exactly_0 3 rfl rfl)
theorem dX0_exactly_4 : decode cX0_exactly 4 = .ok (.invokevirtual 316, 3) := dk_182 1 60 (dk_at dksX0_exactly_0 4 rfl rfl)
theorem dX0_exactly_7 : decode cX0_exactly 7 = .ok (.ifCond .eq 14, 3) := dk_153 0 14 (dk_at dksX0_exactly_0 7 rfl rfl)
theorem dX0_exactly_10 : decode cX0_exactly 10 = .ok (.iload 4, 2) := dk_21 4 (dk_at dksX0_exactly_0 10 rfl rfl)
theorem dX0_exactly_12 : decode cX0_exactly 12 = .ok (.iconst (-1), 1) := dk_2 (dk_at dksX0_exactly_0 12 rfl rfl)
theorem dX0_exactly_13 : decode cX0_exactly 13 = .ok (.bipush 24, 2) := dk_16 24 (dk_at dksX0_exactly_0 13 rfl rfl)
theorem dX0_exactly_15 : decode cX0_exactly 15 = .ok (.invokestatic 120, 3) := dk_184 0 120 (dk_at dksX0_exactly_0 15 rfl rfl)
theorem dX0_exactly_18 : decode cX0_exactly 18 = .ok (.ifCond .ne 7, 3) := dk_154 0 7 (dk_at dksX0_exactly_0 18 rfl rfl)
theorem dX0_exactly_21 : decode cX0_exactly 21 = .ok (.ldc2_w 319, 3) := dk_20 1 63 (dk_at dksX0_exactly_0 21 rfl rfl)
theorem dX0_exactly_24 : decode cX0_exactly 24 = .ok (.lreturn, 1) := dk_173 (dk_at dksX0_exactly_1 0 rfl rfl)
theorem dX0_exactly_25 : decode cX0_exactly 25 = .ok (.aload_n 0, 1) := dk_42 (dk_at dksX0_exactly_1 1 rfl rfl)
theorem dX0_exactly_26 : decode cX0_exactly 26 = .ok (.iload_n 1, 1) := dk_27 (dk_at dksX0_exactly_1 2 rfl rfl)
theorem dX0_exactly_27 : decode cX0_exactly 27 = .ok (.iload_n 2, 1) := dk_28 (dk_at dksX0_exactly_1 3 rfl rfl)
theorem dX0_exactly_28 : decode cX0_exactly 28 = .ok (.iload_n 3, 1) := dk_29 (dk_at dksX0_exactly_1 4 rfl rfl)
theorem dX0_exactly_29 : decode cX0_exactly 29 = .ok (.aload_n 0, 1) := dk_42 (dk_at dksX0_exactly_1 5 rfl rfl)
theorem dX0_exactly_30 : decode cX0_exactly 30 = .ok (.getfield 30, 3) := dk_180 0 30 (dk_at dksX0_exactly_1 6 rfl rfl)
theorem dX0_exactly_33 : decode cX0_exactly 33 = .ok (.getfield 103, 3) := dk_180 0 103 (dk_at dksX0_exactly_1 9 rfl rfl)
theorem dX0_exactly_36 : decode cX0_exactly 36 = .ok (.iload_n 1, 1) := dk_27 (dk_at dksX0_exactly_1 12 rfl rfl)
theorem dX0_exactly_37 : decode cX0_exactly 37 = .ok (.aaload, 1) := dk_50 (dk_at dksX0_exactly_1 13 rfl rfl)
theorem dX0_exactly_38 : decode cX0_exactly 38 = .ok (.getfield 130, 3) := dk_180 0 130 (dk_at dksX0_exactly_1 14 rfl rfl)
theorem dX0_exactly_41 : decode cX0_exactly 41 = .ok (.invokevirtual 321, 3) := dk_182 1 65 (dk_at dksX0_exactly_1 17 rfl rfl)
theorem dX0_exactly_44 : decode cX0_exactly 44 = .ok (.pop2, 1) := dk_88 (dk_at dksX0_exactly_1 20 rfl rfl)
theorem dX0_exactly_45 : decode cX0_exactly 45 = .ok (.iload 4, 2) := dk_21 4 (dk_at dksX0_exactly_1 21 rfl rfl)
theorem dX0_exactly_47 : decode cX0_exactly 47 = .ok (.iconst (-1), 1) := dk_2 (dk_at dksX0_exactly_1 23 rfl rfl)
theorem dX0_exactly_48 : decode cX0_exactly 48 = .ok (.if_icmp .ne 8, 3) := dk_160 0 8 (dk_at dksX0_exactly_2 0 rfl rfl)
theorem dX0_exactly_51 : decode cX0_exactly 51 = .ok (.aload_n 0, 1) := dk_42 (dk_at dksX0_exactly_2 3 rfl rfl)
theorem dX0_exactly_52 : decode cX0_exactly 52 = .ok (.getfield 287, 3) := dk_180 1 31 (dk_at dksX0_exactly_2 4 rfl rfl)
theorem dX0_exactly_55 : decode cX0_exactly 55 = .ok (.lreturn, 1) := dk_173 (dk_at dksX0_exactly_2 7 rfl rfl)
theorem dX0_exactly_56 : decode cX0_exactly 56 = .ok (.lconst 0, 1) := dk_9 (dk_at dksX0_exactly_2 8 rfl rfl)
theorem dX0_exactly_57 : decode cX0_exactly 57 = .ok (.lstore 5, 2) := dk_55 5 (dk_at dksX0_exactly_2 9 rfl rfl)
theorem dX0_exactly_59 : decode cX0_exactly 59 = .ok (.iconst 0, 1) := dk_3 (dk_at dksX0_exactly_2 11 rfl rfl)
theorem dX0_exactly_60 : decode cX0_exactly 60 = .ok (.istore 7, 2) := dk_54 7 (dk_at dksX0_exactly_2 12 rfl rfl)
theorem dX0_exactly_62 : decode cX0_exactly 62 = .ok (.iload 7, 2) := dk_21 7 (dk_at dksX0_exactly_2 14 rfl rfl)
theorem dX0_exactly_64 : decode cX0_exactly 64 = .ok (.bipush 20, 2) := dk_16 20 (dk_at dksX0_exactly_2 16 rfl rfl)
theorem dX0_exactly_66 : decode cX0_exactly 66 = .ok (.if_icmp .ge 24, 3) := dk_162 0 24 (dk_at dksX0_exactly_2 18 rfl rfl)
theorem dX0_exactly_69 : decode cX0_exactly 69 = .ok (.lload 5, 2) := dk_22 5 (dk_at dksX0_exactly_2 21 rfl rfl)
theorem dX0_exactly_71 : decode cX0_exactly 71 = .ok (.aload_n 0, 1) := dk_42 (dk_at dksX0_exactly_2 23 rfl rfl)
theorem dX0_exactly_72 : decode cX0_exactly 72 = .ok (.getfield 57, 3) := dk_180 0 57 (dk_at dksX0_exactly_3 0 rfl rfl)
theorem dX0_exactly_75 : decode cX0_exactly 75 = .ok (.iload 4, 2) := dk_21 4 (dk_at dksX0_exactly_3 3 rfl rfl)
theorem dX0_exactly_77 : decode cX0_exactly 77 = .ok (.aaload, 1) := dk_50 (dk_at dksX0_exactly_3 5 rfl rfl)
theorem dX0_exactly_78 : decode cX0_exactly 78 = .ok (.iload 7, 2) := dk_21 7 (dk_at dksX0_exactly_3 6 rfl rfl)
theorem dX0_exactly_80 : decode cX0_exactly 80 = .ok (.laload, 1) := dk_47 (dk_at dksX0_exactly_3 8 rfl rfl)
theorem dX0_exactly_81 : decode cX0_exactly 81 = .ok (.ladd, 1) := dk_97 (dk_at dksX0_exactly_3 9 rfl rfl)
theorem dX0_exactly_82 : decode cX0_exactly 82 = .ok (.lstore 5, 2) := dk_55 5 (dk_at dksX0_exactly_3 10 rfl rfl)
theorem dX0_exactly_84 : decode cX0_exactly 84 = .ok (.iinc 7 1, 3) := dk_132 7 1 (dk_at dksX0_exactly_3 12 rfl rfl)
theorem dX0_exactly_87 : decode cX0_exactly 87 = .ok (.goto (-25), 3) := dk_167 255 231 (dk_at dksX0_exactly_3 15 rfl rfl)
theorem dX0_exactly_90 : decode cX0_exactly 90 = .ok (.lload 5, 2) := dk_22 5 (dk_at dksX0_exactly_3 18 rfl rfl)
theorem dX0_exactly_92 : decode cX0_exactly 92 = .ok (.lreturn, 1) := dk_173 (dk_at dksX0_exactly_3 20 rfl rfl)
abbrev cX0_canLay : ByteArray := prog_1_method_23_code
def yX0_canLay : MethodName := ⟨RX0, "canLay", "(III)Z"⟩
def dkwX0_canLay_2 : List UInt8 := [16, 18, 163, 0, 15, 42, 29, 182, 0, 229, 153, 0, 7, 4, 167, 0, 4, 3, 172]
abbrev dktX0_canLay_2 : List UInt8 := dkwX0_canLay_2 ++ []
def dkwX0_canLay_1 : List UInt8 := [4, 16, 9, 184, 0, 120, 153, 0, 34, 29, 4, 6, 184, 0, 120, 153, 0, 25, 28, 29, 4, 96, 104]
abbrev dktX0_canLay_1 : List UInt8 := dkwX0_canLay_1 ++ dktX0_canLay_2
def dkwX0_canLay_0 : List UInt8 := [42, 27, 182, 0, 159, 153, 0, 59, 42, 180, 0, 30, 180, 0, 103, 27, 50, 182, 0, 163, 154, 0, 44, 28]
abbrev dktX0_canLay_0 : List UInt8 := dkwX0_canLay_0 ++ dktX0_canLay_1
theorem dksX0_canLay_0 : cX0_canLay.data.toList.drop 0 = dktX0_canLay_0 := by decide +kernel
theorem dksX0_canLay_1 : cX0_canLay.data.toList.drop 24 = dktX0_canLay_1 := dk_seg dksX0_canLay_0 24 rfl rfl
theorem dksX0_canLay_2 : cX0_canLay.data.toList.drop 47 = dktX0_canLay_2 := dk_seg dksX0_canLay_1 23 rfl rfl
theorem dX0_canLay_0 : decode cX0_canLay 0 = .ok (.aload_n 0, 1) := dk_42 (dk_at dksX0_canLay_0 0 rfl rfl)
theorem dX0_canLay_1 : decode cX0_canLay 1 = .ok (.iload_n 1, 1) := dk_27 (dk_at dksX0_canLay_0 1 rfl rfl)
theorem dX0_canLay_2 : decode cX0_canLay 2 = .ok (.invokevirtual 159, 3) := dk_182 0 159 (dk_at dksX0_canLay_0 2 rfl rfl)
theorem dX0_canLay_5 : decode cX0_canLay 5 = .ok (.ifCond .eq 59, 3) := dk_153 0 59 (dk_at dksX0_canLay_0 5 rfl rfl)
theorem dX0_canLay_8 : decode cX0_canLay 8 = .ok (.aload_n 0, 1) := dk_42 (dk_at dksX0_canLay_0 8 rfl rfl)
theorem dX0_canLay_9 : decode cX0_canLay 9 = .ok (.getfield 30, 3) := dk_180 0 30 (dk_at dksX0_canLay_0 9 rfl rfl)
theorem dX0_canLay_12 : decode cX0_canLay 12 = .ok (.getfield 103, 3) := dk_180 0 103 (dk_at dksX0_canLay_0 12 rfl rfl)
theorem dX0_canLay_15 : decode cX0_canLay 15 = .ok (.iload_n 1, 1) := dk_27 (dk_at dksX0_canLay_0 15 rfl rfl)
theorem dX0_canLay_16 : decode cX0_canLay 16 = .ok (.aaload, 1) := dk_50 (dk_at dksX0_canLay_0 16 rfl rfl)
theorem dX0_canLay_17 : decode cX0_canLay 17 = .ok (.invokevirtual 163, 3) := dk_182 0 163 (dk_at dksX0_canLay_0 17 rfl rfl)
theorem dX0_canLay_20 : decode cX0_canLay 20 = .ok (.ifCond .ne 44, 3) := dk_154 0 44 (dk_at dksX0_canLay_0 20 rfl rfl)
theorem dX0_canLay_23 : decode cX0_canLay 23 = .ok (.iload_n 2, 1) := dk_28 (dk_at dksX0_canLay_0 23 rfl rfl)
theorem dX0_canLay_24 : decode cX0_canLay 24 = .ok (.iconst 1, 1) := dk_4 (dk_at dksX0_canLay_1 0 rfl rfl)
theorem dX0_canLay_25 : decode cX0_canLay 25 = .ok (.bipush 9, 2) := dk_16 9 (dk_at dksX0_canLay_1 1 rfl rfl)
theorem dX0_canLay_27 : decode cX0_canLay 27 = .ok (.invokestatic 120, 3) := dk_184 0 120 (dk_at dksX0_canLay_1 3 rfl rfl)
theorem dX0_canLay_30 : decode cX0_canLay 30 = .ok (.ifCond .eq 34, 3) := dk_153 0 34 (dk_at dksX0_canLay_1 6 rfl rfl)
theorem dX0_canLay_33 : decode cX0_canLay 33 = .ok (.iload_n 3, 1) := dk_29 (dk_at dksX0_canLay_1 9 rfl rfl)
theorem dX0_canLay_34 : decode cX0_canLay 34 = .ok (.iconst 1, 1) := dk_4 (dk_at dksX0_canLay_1 10 rfl rfl)
theorem dX0_canLay_35 : decode cX0_canLay 35 = .ok (.iconst 3, 1) := dk_6 (dk_at dksX0_canLay_1 11 rfl rfl)
theorem dX0_canLay_36 : decode cX0_canLay 36 = .ok (.invokestatic 120, 3) := dk_184 0 120 (dk_at dksX0_canLay_1 12 rfl rfl)
theorem dX0_canLay_39 : decode cX0_canLay 39 = .ok (.ifCond .eq 25, 3) := dk_153 0 25 (dk_at dksX0_canLay_1 15 rfl rfl)
theorem dX0_canLay_42 : decode cX0_canLay 42 = .ok (.iload_n 2, 1) := dk_28 (dk_at dksX0_canLay_1 18 rfl rfl)
theorem dX0_canLay_43 : decode cX0_canLay 43 = .ok (.iload_n 3, 1) := dk_29 (dk_at dksX0_canLay_1 19 rfl rfl)
theorem dX0_canLay_44 : decode cX0_canLay 44 = .ok (.iconst 1, 1) := dk_4 (dk_at dksX0_canLay_1 20 rfl rfl)
theorem dX0_canLay_45 : decode cX0_canLay 45 = .ok (.iadd, 1) := dk_96 (dk_at dksX0_canLay_1 21 rfl rfl)
theorem dX0_canLay_46 : decode cX0_canLay 46 = .ok (.imul, 1) := dk_104 (dk_at dksX0_canLay_1 22 rfl rfl)
theorem dX0_canLay_47 : decode cX0_canLay 47 = .ok (.bipush 18, 2) := dk_16 18 (dk_at dksX0_canLay_2 0 rfl rfl)
theorem dX0_canLay_49 : decode cX0_canLay 49 = .ok (.if_icmp .gt 15, 3) := dk_163 0 15 (dk_at dksX0_canLay_2 2 rfl rfl)
theorem dX0_canLay_52 : decode cX0_canLay 52 = .ok (.aload_n 0, 1) := dk_42 (dk_at dksX0_canLay_2 5 rfl rfl)
theorem dX0_canLay_53 : decode cX0_canLay 53 = .ok (.iload_n 3, 1) := dk_29 (dk_at dksX0_canLay_2 6 rfl rfl)
theorem dX0_canLay_54 : decode cX0_canLay 54 = .ok (.invokevirtual 229, 3) := dk_182 0 229 (dk_at dksX0_canLay_2 7 rfl rfl)
theorem dX0_canLay_57 : decode cX0_canLay 57 = .ok (.ifCond .eq 7, 3) := dk_153 0 7 (dk_at dksX0_canLay_2 10 rfl rfl)
theorem dX0_canLay_60 : decode cX0_canLay 60 = .ok (.iconst 1, 1) := dk_4 (dk_at dksX0_canLay_2 13 rfl rfl)
theorem dX0_canLay_61 : decode cX0_canLay 61 = .ok (.goto 4, 3) := dk_167 0 4 (dk_at dksX0_canLay_2 14 rfl rfl)
theorem dX0_canLay_64 : decode cX0_canLay 64 = .ok (.iconst 0, 1) := dk_3 (dk_at dksX0_canLay_2 17 rfl rfl)
theorem dX0_canLay_65 : decode cX0_canLay 65 = .ok (.ireturn, 1) := dk_172 (dk_at dksX0_canLay_2 18 rfl rfl)
abbrev cX0_takesPeople : ByteArray := prog_1_method_22_code
def yX0_takesPeople : MethodName := ⟨RX0, "takesPeople", "(I)Z"⟩
def dkwX0_takesPeople_3 : List UInt8 := [181, 0, 226, 132, 2, 1, 167, 255, 187, 42, 180, 0, 226, 27, 160, 0, 7, 4, 167, 0, 4, 3, 172]
abbrev dktX0_takesPeople_3 : List UInt8 := dkwX0_takesPeople_3 ++ []
def dkwX0_takesPeople_2 : List UInt8 := [180, 0, 226, 42, 180, 0, 30, 180, 0, 113, 28, 50, 180, 0, 151, 79, 42, 89, 180, 0, 226, 4, 96]
abbrev dktX0_takesPeople_2 : List UInt8 := dkwX0_takesPeople_2 ++ dktX0_takesPeople_3
def dkwX0_takesPeople_1 : List UInt8 := [182, 0, 199, 154, 0, 6, 167, 0, 44, 42, 180, 0, 63, 42, 180, 0, 226, 28, 79, 42, 180, 0, 67, 42]
abbrev dktX0_takesPeople_1 : List UInt8 := dkwX0_takesPeople_1 ++ dktX0_takesPeople_2
def dkwX0_takesPeople_0 : List UInt8 := [42, 3, 181, 0, 226, 3, 61, 28, 16, 8, 162, 0, 69, 42, 180, 0, 226, 27, 162, 0, 61, 42, 28]
abbrev dktX0_takesPeople_0 : List UInt8 := dkwX0_takesPeople_0 ++ dktX0_takesPeople_1
theorem dksX0_takesPeople_0 : cX0_takesPeople.data.toList.drop 0 = dktX0_takesPeople_0 := by decide +kernel
theorem dksX0_takesPeople_1 : cX0_takesPeople.data.toList.drop 23 = dktX0_takesPeople_1 := dk_seg dksX0_takesPeople_0 23 rfl rfl
theorem dksX0_takesPeople_2 : cX0_takesPeople.data.toList.drop 47 = dktX0_takesPeople_2 := dk_seg dksX0_takesPeople_1 24 rfl rfl
theorem dksX0_takesPeople_3 : cX0_takesPeople.data.toList.drop 70 = dktX0_takesPeople_3 := dk_seg dksX0_takesPeople_2 23 rfl rfl
theorem dX0_takesPeople_0 : decode cX0_takesPeople 0 = .ok (.aload_n 0, 1) := dk_42 (dk_at dksX0_takesPeople_0 0 rfl rfl)
theorem dX0_takesPeople_1 : decode cX0_takesPeople 1 = .ok (.iconst 0, 1) := dk_3 (dk_at dksX0_takesPeople_0 1 rfl rfl)
theorem dX0_takesPeople_2 : decode cX0_takesPeople 2 = .ok (.putfield 226, 3) := dk_181 0 226 (dk_at dksX0_takesPeople_0 2 rfl rfl)
theorem dX0_takesPeople_5 : decode cX0_takesPeople 5 = .ok (.iconst 0, 1) := dk_3 (dk_at dksX0_takesPeople_0 5 rfl rfl)
theorem dX0_takesPeople_6 : decode cX0_takesPeople 6 = .ok (.istore_n 2, 1) := dk_61 (dk_at dksX0_takesPeople_0 6 rfl rfl)
theorem dX0_takesPeople_7 : decode cX0_takesPeople 7 = .ok (.iload_n 2, 1) := dk_28 (dk_at dksX0_takesPeople_0 7 rfl rfl)
theorem dX0_takesPeople_8 : decode cX0_takesPeople 8 = .ok (.bipush 8, 2) := dk_16 8 (dk_at dksX0_takesPeople_0 8 rfl rfl)
theorem dX0_takesPeople_10 : decode cX0_takesPeople 10 = .ok (.if_icmp .ge 69, 3) := dk_162 0 69 (dk_at dksX0_takesPeople_0 10 rfl rfl)
theorem dX0_takesPeople_13 : decode cX0_takesPeople 13 = .ok (.aload_n 0, 1) := dk_42 (dk_at dksX0_takesPeople_0 13 rfl rfl)
theorem dX0_takesPeople_14 : decode cX0_takesPeople 14 = .ok (.getfield 226, 3) := dk_180 0 226 (dk_at dksX0_takesPeople_0 14 rfl rfl)
theorem dX0_takesPeople_17 : decode cX0_takesPeople 17 = .ok (.iload_n 1, 1) := dk_27 (dk_at dksX0_takesPeople_0 17 rfl rfl)
theorem dX0_takesPeople_18 : decode cX0_takesPeople 18 = .ok (.if_icmp .ge 61, 3) := dk_162 0 61 (dk_at dksX0_takesPeople_0 18 rfl rfl)
theorem dX0_takesPeople_21 : decode cX0_takesPeople 21 = .ok (.aload_n 0, 1) := dk_42 (dk_at dksX0_takesPeople_0 21 rfl rfl)
theorem dX0_takesPeople_22 : decode cX0_takesPeople 22 = .ok (.iload_n 2, 1) := dk_28 (dk_at dksX0_takesPeople_0 22 rfl rfl)
theorem dX0_takesPeople_23 : decode cX0_takesPeople 23 = .ok (.invokevirtual 199, 3) := dk_182 0 199 (dk_at dksX0_takesPeople_1 0 rfl rfl)
theorem dX0_takesPeople_26 : decode cX0_takesPeople 26 = .ok (.ifCond .ne 6, 3) := dk_154 0 6 (dk_at dksX0_takesPeople_1 3 rfl rfl)
theorem dX0_takesPeople_29 : decode cX0_takesPeople 29 = .ok (.goto 44, 3) := dk_167 0 44 (dk_at dksX0_takesPeople_1 6 rfl rfl)
theorem dX0_takesPeople_32 : decode cX0_takesPeople 32 = .ok (.aload_n 0, 1) := dk_42 (dk_at dksX0_takesPeople_1 9 rfl rfl)
theorem dX0_takesPeople_33 : decode cX0_takesPeople 33 = .ok (.getfield 63, 3) := dk_180 0 63 (dk_at dksX0_takesPeople_1 10 rfl rfl)
theorem dX0_takesPeople_36 : decode cX0_takesPeople 36 = .ok (.aload_n 0, 1) := dk_42 (dk_at dksX0_takesPeople_1 13 rfl rfl)
theorem dX0_takesPeople_37 : decode cX0_takesPeople 37 = .ok (.getfield 226, 3) := dk_180 0 226 (dk_at dksX0_takesPeople_1 14 rfl rfl)
theorem dX0_takesPeople_40 : decode cX0_takesPeople 40 = .ok (.iload_n 2, 1) := dk_28 (dk_at dksX0_takesPeople_1 17 rfl rfl)
theorem dX0_takesPeople_41 : decode cX0_takesPeople 41 = .ok (.iastore, 1) := dk_79 (dk_at dksX0_takesPeople_1 18 rfl rfl)
theorem dX0_takesPeople_42 : decode cX0_takesPeople 42 = .ok (.aload_n 0, 1) := dk_42 (dk_at dksX0_takesPeople_1 19 rfl rfl)
theorem dX0_takesPeople_43 : decode cX0_takesPeople 43 = .ok (.getfield 67, 3) := dk_180 0 67 (dk_at dksX0_takesPeople_1 20 rfl rfl)
theorem dX0_takesPeople_46 : decode cX0_takesPeople 46 = .ok (.aload_n 0, 1) := dk_42 (dk_at dksX0_takesPeople_1 23 rfl rfl)
theorem dX0_takesPeople_47 : decode cX0_takesPeople 47 = .ok (.getfield 226, 3) := dk_180 0 226 (dk_at dksX0_takesPeople_2 0 rfl rfl)
theorem dX0_takesPeople_50 : decode cX0_takesPeople 50 = .ok (.aload_n 0, 1) := dk_42 (dk_at dksX0_takesPeople_2 3 rfl rfl)
theorem dX0_takesPeople_51 : decode cX0_takesPeople 51 = .ok (.getfield 30, 3) := dk_180 0 30 (dk_at dksX0_takesPeople_2 4 rfl rfl)
theorem dX0_takesPeople_54 : decode cX0_takesPeople 54 = .ok (.getfield 113, 3) := dk_180 0 113 (dk_at dksX0_takesPeople_2 7 rfl rfl)
theorem dX0_takesPeople_57 : decode cX0_takesPeople 57 = .ok (.iload_n 2, 1) := dk_28 (dk_at dksX0_takesPeople_2 10 rfl rfl)
theorem dX0_takesPeople_58 : decode cX0_takesPeople 58 = .ok (.aaload, 1) := dk_50 (dk_at dksX0_takesPeople_2 11 rfl rfl)
theorem dX0_takesPeople_59 : decode cX0_takesPeople 59 = .ok (.getfield 151, 3) := dk_180 0 151 (dk_at dksX0_takesPeople_2 12 rfl rfl)
theorem dX0_takesPeople_62 : decode cX0_takesPeople 62 = .ok (.iastore, 1) := dk_79 (dk_at dksX0_takesPeople_2 15 rfl rfl)
theorem dX0_takesPeople_63 : decode cX0_takesPeople 63 = .ok (.aload_n 0, 1) := dk_42 (dk_at dksX0_takesPeople_2 16 rfl rfl)
theorem dX0_takesPeople_64 : decode cX0_takesPeople 64 = .ok (.dup, 1) := dk_89 (dk_at dksX0_takesPeople_2 17 rfl rfl)
theorem dX0_takesPeople_65 : decode cX0_takesPeople 65 = .ok (.getfield 226, 3) := dk_180 0 226 (dk_at dksX0_takesPeople_2 18 rfl rfl)
theorem dX0_takesPeople_68 : decode cX0_takesPeople 68 = .ok (.iconst 1, 1) := dk_4 (dk_at dksX0_takesPeople_2 21 rfl rfl)
theorem dX0_takesPeople_69 : decode cX0_takesPeople 69 = .ok (.iadd, 1) := dk_96 (dk_at dksX0_takesPeople_2 22 rfl rfl)
theorem dX0_takesPeople_70 : decode cX0_takesPeople 70 = .ok (.putfield 226, 3) := dk_181 0 226 (dk_at dksX0_takesPeople_3 0 rfl rfl)
theorem dX0_takesPeople_73 : decode cX0_takesPeople 73 = .ok (.iinc 2 1, 3) := dk_132 2 1 (dk_at dksX0_takesPeople_3 3 rfl rfl)
theorem dX0_takesPeople_76 : decode cX0_takesPeople 76 = .ok (.goto (-69), 3) := dk_167 255 187 (dk_at dksX0_takesPeople_3 6 rfl rfl)
theorem dX0_takesPeople_79 : decode cX0_takesPeople 79 = .ok (.aload_n 0, 1) := dk_42 (dk_at dksX0_takesPeople_3 9 rfl rfl)
theorem dX0_takesPeople_80 : decode cX0_takesPeople 80 = .ok (.getfield 226, 3) := dk_180 0 226 (dk_at dksX0_takesPeople_3 10 rfl rfl)
theorem dX0_takesPeople_83 : decode cX0_takesPeople 83 = .ok (.iload_n 1, 1) := dk_27 (dk_at dksX0_takesPeople_3 13 rfl rfl)
theorem dX0_takesPeople_84 : decode cX0_takesPeople 84 = .ok (.if_icmp .ne 7, 3) := dk_160 0 7 (dk_at dksX0_takesPeople_3 14 rfl rfl)
theorem dX0_takesPeople_87 : decode cX0_takesPeople 87 = .ok (.iconst 1, 1) := dk_4 (dk_at dksX0_takesPeople_3 17 rfl rfl)
theorem dX0_takesPeople_88 : decode cX0_takesPeople 88 = .ok (.goto 4, 3) := dk_167 0 4 (dk_at dksX0_takesPeople_3 18 rfl rfl)
theorem dX0_takesPeople_91 : decode cX0_takesPeople 91 = .ok (.iconst 0, 1) := dk_3 (dk_at dksX0_takesPeople_3 21 rfl rfl)
theorem dX0_takesPeople_92 : decode cX0_takesPeople 92 = .ok (.ireturn, 1) := dk_172 (dk_at dksX0_takesPeople_3 22 rfl rfl)
abbrev cX0_laysDays : ByteArray := prog_1_method_32_code
def yX0_laysDays : MethodName := ⟨RX0, "laysDays", "(IIII)J"⟩
def dkwX0_laysDays_8 : List UInt8 := [101, 173]
abbrev dktX0_laysDays_8 : List UInt8 := dkwX0_laysDays_8 ++ []
def dkwX0_laysDays_7 : List UInt8 := [42, 182, 1, 57, 132, 6, 1, 167, 255, 191, 16, 10, 28, 29, 4, 96, 104, 184, 1, 50, 42, 180, 1, 31]
abbrev dktX0_laysDays_7 : List UInt8 := dkwX0_laysDays_7 ++ dktX0_laysDays_8
def dkwX0_laysDays_6 : List UInt8 := [181, 1, 31, 3, 54, 7, 21, 7, 29, 162, 0, 15, 42, 21, 7, 182, 1, 54, 132, 7, 1, 167, 255, 241]
abbrev dktX0_laysDays_6 : List UInt8 := dkwX0_laysDays_6 ++ dktX0_laysDays_7
def dkwX0_laysDays_5 : List UInt8 := [180, 1, 47, 21, 6, 96, 181, 0, 232, 42, 89, 180, 1, 31, 16, 10, 29, 4, 96, 184, 1, 50, 105]
abbrev dktX0_laysDays_5 : List UInt8 := dkwX0_laysDays_5 ++ dktX0_laysDays_6
def dkwX0_laysDays_4 : List UInt8 := [167, 0, 8, 25, 5, 180, 0, 139, 10, 80, 3, 54, 6, 21, 6, 28, 162, 0, 65, 42, 42, 180, 0, 30]
abbrev dktX0_laysDays_4 : List UInt8 := dkwX0_laysDays_4 ++ dktX0_laysDays_5
def dkwX0_laysDays_3 : List UInt8 := [180, 0, 57, 42, 180, 0, 248, 50, 25, 5, 180, 0, 142, 158, 0, 14, 16, 10, 25, 5, 180, 0, 142, 96]
abbrev dktX0_laysDays_3 : List UInt8 := dkwX0_laysDays_3 ++ dktX0_laysDays_4
def dkwX0_laysDays_2 : List UInt8 := [180, 0, 30, 182, 1, 44, 181, 0, 235, 42, 9, 181, 1, 31, 42, 42, 180, 0, 57, 182, 1, 5, 42]
abbrev dktX0_laysDays_2 : List UInt8 := dkwX0_laysDays_2 ++ dktX0_laysDays_3
def dkwX0_laysDays_1 : List UInt8 := [25, 5, 180, 0, 136, 181, 1, 28, 42, 21, 4, 25, 5, 180, 0, 133, 184, 0, 3, 181, 0, 248, 42, 42]
abbrev dktX0_laysDays_1 : List UInt8 := dkwX0_laysDays_1 ++ dktX0_laysDays_2
def dkwX0_laysDays_0 : List UInt8 := [42, 180, 0, 30, 180, 0, 103, 27, 50, 58, 5, 42, 27, 181, 0, 242, 42, 21, 4, 181, 0, 245, 42]
abbrev dktX0_laysDays_0 : List UInt8 := dkwX0_laysDays_0 ++ dktX0_laysDays_1
theorem dksX0_laysDays_0 : cX0_laysDays.data.toList.drop 0 = dktX0_laysDays_0 := by decide +kernel
theorem dksX0_laysDays_1 : cX0_laysDays.data.toList.drop 23 = dktX0_laysDays_1 := dk_seg dksX0_laysDays_0 23 rfl rfl
theorem dksX0_laysDays_2 : cX0_laysDays.data.toList.drop 47 = dktX0_laysDays_2 := dk_seg dksX0_laysDays_1 24 rfl rfl
theorem dksX0_laysDays_3 : cX0_laysDays.data.toList.drop 70 = dktX0_laysDays_3 := dk_seg dksX0_laysDays_2 23 rfl rfl
theorem dksX0_laysDays_4 : cX0_laysDays.data.toList.drop 94 = dktX0_laysDays_4 := dk_seg dksX0_laysDays_3 24 rfl rfl
theorem dksX0_laysDays_5 : cX0_laysDays.data.toList.drop 118 = dktX0_laysDays_5 := dk_seg dksX0_laysDays_4 24 rfl rfl
theorem dksX0_laysDays_6 : cX0_laysDays.data.toList.drop 141 = dktX0_laysDays_6 := dk_seg dksX0_laysDays_5 23 rfl rfl
theorem dksX0_laysDays_7 : cX0_laysDays.data.toList.drop 165 = dktX0_laysDays_7 := dk_seg dksX0_laysDays_6 24 rfl rfl
theorem dksX0_laysDays_8 : cX0_laysDays.data.toList.drop 189 = dktX0_laysDays_8 := dk_seg dksX0_laysDays_7 24 rfl rfl
theorem dX0_laysDays_0 : decode cX0_laysDays 0 = .ok (.aload_n 0, 1) := dk_42 (dk_at dksX0_laysDays_0 0 rfl rfl)
theorem dX0_laysDays_1 : decode cX0_laysDays 1 = .ok (.getfield 30, 3) := dk_180 0 30 (dk_at dksX0_laysDays_0 1 rfl rfl)
theorem dX0_laysDays_4 : decode cX0_laysDays 4 = .ok (.getfield 103, 3) := dk_180 0 103 (dk_at dksX0_laysDays_0 4 rfl rfl)
theorem dX0_laysDays_7 : decode cX0_laysDays 7 = .ok (.iload_n 1, 1) := dk_27 (dk_at dksX0_laysDays_0 7 rfl rfl)
theorem dX0_laysDays_8 : decode cX0_laysDays 8 = .ok (.aaload, 1) := dk_50 (dk_at dksX0_laysDays_0 8 rfl rfl)
theorem dX0_laysDays_9 : decode cX0_laysDays 9 = .ok (.astore 5, 2) := dk_58 5 (dk_at dksX0_laysDays_0 9 rfl rfl)
theorem dX0_laysDays_11 : decode cX0_laysDays 11 = .ok (.aload_n 0, 1) := dk_42 (dk_at dksX0_laysDays_0 11 rfl rfl)
theorem dX0_laysDays_12 : decode cX0_laysDays 12 = .ok (.iload_n 1, 1) := dk_27 (dk_at dksX0_laysDays_0 12 rfl rfl)
theorem dX0_laysDays_13 : decode cX0_laysDays 13 = .ok (.putfield 242, 3) := dk_181 0 242 (dk_at dksX0_laysDays_0 13 rfl rfl)
theorem dX0_laysDays_16 : decode cX0_laysDays 16 = .ok (.aload_n 0, 1) := dk_42 (dk_at dksX0_laysDays_0 16 rfl rfl)
theorem dX0_laysDays_17 : decode cX0_laysDays 17 = .ok (.iload 4, 2) := dk_21 4 (dk_at dksX0_laysDays_0 17 rfl rfl)
theorem dX0_laysDays_19 : decode cX0_laysDays 19 = .ok (.putfield 245, 3) := dk_181 0 245 (dk_at dksX0_laysDays_0 19 rfl rfl)
theorem dX0_laysDays_22 : decode cX0_laysDays 22 = .ok (.aload_n 0, 1) := dk_42 (dk_at dksX0_laysDays_0 22 rfl rfl)
theorem dX0_laysDays_23 : decode cX0_laysDays 23 = .ok (.aload 5, 2) := dk_25 5 (dk_at dksX0_laysDays_1 0 rfl rfl)
theorem dX0_laysDays_25 : decode cX0_laysDays 25 = .ok (.getfield 136, 3) := dk_180 0 136 (dk_at dksX0_laysDays_1 2 rfl rfl)
theorem dX0_laysDays_28 : decode cX0_laysDays 28 = .ok (.putfield 284, 3) := dk_181 1 28 (dk_at dksX0_laysDays_1 5 rfl rfl)
theorem dX0_laysDays_31 : decode cX0_laysDays 31 = .ok (.aload_n 0, 1) := dk_42 (dk_at dksX0_laysDays_1 8 rfl rfl)
theorem dX0_laysDays_32 : decode cX0_laysDays 32 = .ok (.iload 4, 2) := dk_21 4 (dk_at dksX0_laysDays_1 9 rfl rfl)
theorem dX0_laysDays_34 : decode cX0_laysDays 34 = .ok (.aload 5, 2) := dk_25 5 (dk_at dksX0_laysDays_1 11 rfl rfl)
theorem dX0_laysDays_36 : decode cX0_laysDays 36 = .ok (.getfield 133, 3) := dk_180 0 133 (dk_at dksX0_laysDays_1 13 rfl rfl)
theorem dX0_laysDays_39 : decode cX0_laysDays 39 = .ok (.invokestatic 3, 3) := dk_184 0 3 (dk_at dksX0_laysDays_1 16 rfl rfl)
theorem dX0_laysDays_42 : decode cX0_laysDays 42 = .ok (.putfield 248, 3) := dk_181 0 248 (dk_at dksX0_laysDays_1 19 rfl rfl)
theorem dX0_laysDays_45 : decode cX0_laysDays 45 = .ok (.aload_n 0, 1) := dk_42 (dk_at dksX0_laysDays_1 22 rfl rfl)
theorem dX0_laysDays_46 : decode cX0_laysDays 46 = .ok (.aload_n 0, 1) := dk_42 (dk_at dksX0_laysDays_1 23 rfl rfl)
theorem dX0_laysDays_47 : decode cX0_laysDays 47 = .ok (.getfield 30, 3) := dk_180 0 30 (dk_at dksX0_laysDays_2 0 rfl rfl)
theorem dX0_laysDays_50 : decode cX0_laysDays 50 = .ok (.invokevirtual 300, 3) := dk_182 1 44 (dk_at dksX0_laysDays_2 3 rfl rfl)
theorem dX0_laysDays_53 : decode cX0_laysDays 53 = .ok (.putfield 235, 3) := dk_181 0 235 (dk_at dksX0_laysDays_2 6 rfl rfl)
theorem dX0_laysDays_56 : decode cX0_laysDays 56 = .ok (.aload_n 0, 1) := dk_42 (dk_at dksX0_laysDays_2 9 rfl rfl)
theorem dX0_laysDays_57 : decode cX0_laysDays 57 = .ok (.lconst 0, 1) := dk_9 (dk_at dksX0_laysDays_2 10 rfl rfl)
theorem dX0_laysDays_58 : decode cX0_laysDays 58 = .ok (.putfield 287, 3) := dk_181 1 31 (dk_at dksX0_laysDays_2 11 rfl rfl)
theorem dX0_laysDays_61 : decode cX0_laysDays 61 = .ok (.aload_n 0, 1) := dk_42 (dk_at dksX0_laysDays_2 14 rfl rfl)
theorem dX0_laysDays_62 : decode cX0_laysDays 62 = .ok (.aload_n 0, 1) := dk_42 (dk_at dksX0_laysDays_2 15 rfl rfl)
theorem dX0_laysDays_63 : decode cX0_laysDays 63 = .ok (.getfield 57, 3) := dk_180 0 57 (dk_at dksX0_laysDays_2 16 rfl rfl)
theorem dX0_laysDays_66 : decode cX0_laysDays 66 = .ok (.invokevirtual 261, 3) := dk_182 1 5 (dk_at dksX0_laysDays_2 19 rfl rfl)
theorem dX0_laysDays_69 : decode cX0_laysDays 69 = .ok (.aload_n 0, 1) := dk_42 (dk_at dksX0_laysDays_2 22 rfl rfl)
theorem dX0_laysDays_70 : decode cX0_laysDays 70 = .ok (.getfield 57, 3) := dk_180 0 57 (dk_at dksX0_laysDays_3 0 rfl rfl)
theorem dX0_laysDays_73 : decode cX0_laysDays 73 = .ok (.aload_n 0, 1) := dk_42 (dk_at dksX0_laysDays_3 3 rfl rfl)
theorem dX0_laysDays_74 : decode cX0_laysDays 74 = .ok (.getfield 248, 3) := dk_180 0 248 (dk_at dksX0_laysDays_3 4 rfl rfl)
theorem dX0_laysDays_77 : decode cX0_laysDays 77 = .ok (.aaload, 1) := dk_50 (dk_at dksX0_laysDays_3 7 rfl rfl)
theorem dX0_laysDays_78 : decode cX0_laysDays 78 = .ok (.aload 5, 2) := dk_25 5 (dk_at dksX0_laysDays_3 8 rfl rfl)
theorem dX0_laysDays_80 : decode cX0_laysDays 80 = .ok (.getfield 142, 3) := dk_180 0 142 (dk_at dksX0_laysDays_3 10 rfl rfl)
theorem dX0_laysDays_83 : decode cX0_laysDays 83 = .ok (.ifCond .le 14, 3) := dk_158 0 14 (dk_at dksX0_laysDays_3 13 rfl rfl)
theorem dX0_laysDays_86 : decode cX0_laysDays 86 = .ok (.bipush 10, 2) := dk_16 10 (dk_at dksX0_laysDays_3 16 rfl rfl)
theorem dX0_laysDays_88 : decode cX0_laysDays 88 = .ok (.aload 5, 2) := dk_25 5 (dk_at dksX0_laysDays_3 18 rfl rfl)
theorem dX0_laysDays_90 : decode cX0_laysDays 90 = .ok (.getfield 142, 3) := dk_180 0 142 (dk_at dksX0_laysDays_3 20 rfl rfl)
theorem dX0_laysDays_93 : decode cX0_laysDays 93 = .ok (.iadd, 1) := dk_96 (dk_at dksX0_laysDays_3 23 rfl rfl)
theorem dX0_laysDays_94 : decode cX0_laysDays 94 = .ok (.goto 8, 3) := dk_167 0 8 (dk_at dksX0_laysDays_4 0 rfl rfl)
theorem dX0_laysDays_97 : decode cX0_laysDays 97 = .ok (.aload 5, 2) := dk_25 5 (dk_at dksX0_laysDays_4 3 rfl rfl)
theorem dX0_laysDays_99 : decode cX0_laysDays 99 = .ok (.getfield 139, 3) := dk_180 0 139 (dk_at dksX0_laysDays_4 5 rfl rfl)
theorem dX0_laysDays_102 : decode cX0_laysDays 102 = .ok (.lconst 1, 1) := dk_10 (dk_at dksX0_laysDays_4 8 rfl rfl)
theorem dX0_laysDays_103 : decode cX0_laysDays 103 = .ok (.lastore, 1) := dk_80 (dk_at dksX0_laysDays_4 9 rfl rfl)
theorem dX0_laysDays_104 : decode cX0_laysDays 104 = .ok (.iconst 0, 1) := dk_3 (dk_at dksX0_laysDays_4 10 rfl rfl)
theorem dX0_laysDays_105 : decode cX0_laysDays 105 = .ok (.istore 6, 2) := dk_54 6 (dk_at dksX0_laysDays_4 11 rfl rfl)
theorem dX0_laysDays_107 : decode cX0_laysDays 107 = .ok (.iload 6, 2) := dk_21 6 (dk_at dksX0_laysDays_4 13 rfl rfl)
theorem dX0_laysDays_109 : decode cX0_laysDays 109 = .ok (.iload_n 2, 1) := dk_28 (dk_at dksX0_laysDays_4 15 rfl rfl)
theorem dX0_laysDays_110 : decode cX0_laysDays 110 = .ok (.if_icmp .ge 65, 3) := dk_162 0 65 (dk_at dksX0_laysDays_4 16 rfl rfl)
theorem dX0_laysDays_113 : decode cX0_laysDays 113 = .ok (.aload_n 0, 1) := dk_42 (dk_at dksX0_laysDays_4 19 rfl rfl)
theorem dX0_laysDays_114 : decode cX0_laysDays 114 = .ok (.aload_n 0, 1) := dk_42 (dk_at dksX0_laysDays_4 20 rfl rfl)
theorem dX0_laysDays_115 : decode cX0_laysDays 115 = .ok (.getfield 30, 3) := dk_180 0 30 (dk_at dksX0_laysDays_4 21 rfl rfl)
theorem dX0_laysDays_118 : decode cX0_laysDays 118 = .ok (.getfield 303, 3) := dk_180 1 47 (dk_at dksX0_laysDays_5 0 rfl rfl)
theorem dX0_laysDays_121 : decode cX0_laysDays 121 = .ok (.iload 6, 2) := dk_21 6 (dk_at dksX0_laysDays_5 3 rfl rfl)
theorem dX0_laysDays_123 : decode cX0_laysDays 123 = .ok (.iadd, 1) := dk_96 (dk_at dksX0_laysDays_5 5 rfl rfl)
theorem dX0_laysDays_124 : decode cX0_laysDays 124 = .ok (.putfield 232, 3) := dk_181 0 232 (dk_at dksX0_laysDays_5 6 rfl rfl)
theorem dX0_laysDays_127 : decode cX0_laysDays 127 = .ok (.aload_n 0, 1) := dk_42 (dk_at dksX0_laysDays_5 9 rfl rfl)
theorem dX0_laysDays_128 : decode cX0_laysDays 128 = .ok (.dup, 1) := dk_89 (dk_at dksX0_laysDays_5 10 rfl rfl)
theorem dX0_laysDays_129 : decode cX0_laysDays 129 = .ok (.getfield 287, 3) := dk_180 1 31 (dk_at dksX0_laysDays_5 11 rfl rfl)
theorem dX0_laysDays_132 : decode cX0_laysDays 132 = .ok (.bipush 10, 2) := dk_16 10 (dk_at dksX0_laysDays_5 14 rfl rfl)
theorem dX0_laysDays_134 : decode cX0_laysDays 134 = .ok (.iload_n 3, 1) := dk_29 (dk_at dksX0_laysDays_5 16 rfl rfl)
theorem dX0_laysDays_135 : decode cX0_laysDays 135 = .ok (.iconst 1, 1) := dk_4 (dk_at dksX0_laysDays_5 17 rfl rfl)
theorem dX0_laysDays_136 : decode cX0_laysDays 136 = .ok (.iadd, 1) := dk_96 (dk_at dksX0_laysDays_5 18 rfl rfl)
theorem dX0_laysDays_137 : decode cX0_laysDays 137 = .ok (.invokestatic 306, 3) := dk_184 1 50 (dk_at dksX0_laysDays_5 19 rfl rfl)
theorem dX0_laysDays_140 : decode cX0_laysDays 140 = .ok (.lmul, 1) := dk_105 (dk_at dksX0_laysDays_5 22 rfl rfl)
theorem dX0_laysDays_141 : decode cX0_laysDays 141 = .ok (.putfield 287, 3) := dk_181 1 31 (dk_at dksX0_laysDays_6 0 rfl rfl)
theorem dX0_laysDays_144 : decode cX0_laysDays 144 = .ok (.iconst 0, 1) := dk_3 (dk_at dksX0_laysDays_6 3 rfl rfl)
theorem dX0_laysDays_145 : decode cX0_laysDays 145 = .ok (.istore 7, 2) := dk_54 7 (dk_at dksX0_laysDays_6 4 rfl rfl)
theorem dX0_laysDays_147 : decode cX0_laysDays 147 = .ok (.iload 7, 2) := dk_21 7 (dk_at dksX0_laysDays_6 6 rfl rfl)
theorem dX0_laysDays_149 : decode cX0_laysDays 149 = .ok (.iload_n 3, 1) := dk_29 (dk_at dksX0_laysDays_6 8 rfl rfl)
theorem dX0_laysDays_150 : decode cX0_laysDays 150 = .ok (.if_icmp .ge 15, 3) := dk_162 0 15 (dk_at dksX0_laysDays_6 9 rfl rfl)
theorem dX0_laysDays_153 : decode cX0_laysDays 153 = .ok (.aload_n 0, 1) := dk_42 (dk_at dksX0_laysDays_6 12 rfl rfl)
theorem dX0_laysDays_154 : decode cX0_laysDays 154 = .ok (.iload 7, 2) := dk_21 7 (dk_at dksX0_laysDays_6 13 rfl rfl)
theorem dX0_laysDays_156 : decode cX0_laysDays 156 = .ok (.invokevirtual 310, 3) := dk_182 1 54 (dk_at dksX0_laysDays_6 15 rfl rfl)
theorem dX0_laysDays_159 : decode cX0_laysDays 159 = .ok (.iinc 7 1, 3) := dk_132 7 1 (dk_at dksX0_laysDays_6 18 rfl rfl)
theorem dX0_laysDays_162 : decode cX0_laysDays 162 = .ok (.goto (-15), 3) := dk_167 255 241 (dk_at dksX0_laysDays_6 21 rfl rfl)
theorem dX0_laysDays_165 : decode cX0_laysDays 165 = .ok (.aload_n 0, 1) := dk_42 (dk_at dksX0_laysDays_7 0 rfl rfl)
theorem dX0_laysDays_166 : decode cX0_laysDays 166 = .ok (.invokevirtual 313, 3) := dk_182 1 57 (dk_at dksX0_laysDays_7 1 rfl rfl)
theorem dX0_laysDays_169 : decode cX0_laysDays 169 = .ok (.iinc 6 1, 3) := dk_132 6 1 (dk_at dksX0_laysDays_7 4 rfl rfl)
theorem dX0_laysDays_172 : decode cX0_laysDays 172 = .ok (.goto (-65), 3) := dk_167 255 191 (dk_at dksX0_laysDays_7 7 rfl rfl)
theorem dX0_laysDays_175 : decode cX0_laysDays 175 = .ok (.bipush 10, 2) := dk_16 10 (dk_at dksX0_laysDays_7 10 rfl rfl)
theorem dX0_laysDays_177 : decode cX0_laysDays 177 = .ok (.iload_n 2, 1) := dk_28 (dk_at dksX0_laysDays_7 12 rfl rfl)
theorem dX0_laysDays_178 : decode cX0_laysDays 178 = .ok (.iload_n 3, 1) := dk_29 (dk_at dksX0_laysDays_7 13 rfl rfl)
theorem dX0_laysDays_179 : decode cX0_laysDays 179 = .ok (.iconst 1, 1) := dk_4 (dk_at dksX0_laysDays_7 14 rfl rfl)
theorem dX0_laysDays_180 : decode cX0_laysDays 180 = .ok (.iadd, 1) := dk_96 (dk_at dksX0_laysDays_7 15 rfl rfl)
theorem dX0_laysDays_181 : decode cX0_laysDays 181 = .ok (.imul, 1) := dk_104 (dk_at dksX0_laysDays_7 16 rfl rfl)
theorem dX0_laysDays_182 : decode cX0_laysDays 182 = .ok (.invokestatic 306, 3) := dk_184 1 50 (dk_at dksX0_laysDays_7 17 rfl rfl)
theorem dX0_laysDays_185 : decode cX0_laysDays 185 = .ok (.aload_n 0, 1) := dk_42 (dk_at dksX0_laysDays_7 20 rfl rfl)
theorem dX0_laysDays_186 : decode cX0_laysDays 186 = .ok (.getfield 287, 3) := dk_180 1 31 (dk_at dksX0_laysDays_7 21 rfl rfl)
theorem dX0_laysDays_189 : decode cX0_laysDays 189 = .ok (.lsub, 1) := dk_101 (dk_at dksX0_laysDays_8 0 rfl rfl)
theorem dX0_laysDays_190 : decode cX0_laysDays 190 = .ok (.lreturn, 1) := dk_173 (dk_at dksX0_laysDays_8 1 rfl rfl)
abbrev cX0_clears : ByteArray := prog_1_method_27_code
def yX0_clears : MethodName := ⟨RX0, "clears", "([[J)V"⟩
def dkwX0_clears_1 : List UInt8 := [132, 3, 1, 167, 255, 241, 132, 2, 1, 167, 255, 227, 177]
abbrev dktX0_clears_1 : List UInt8 := dkwX0_clears_1 ++ []
def dkwX0_clears_0 : List UInt8 := [3, 61, 28, 16, 24, 163, 0, 29, 3, 62, 29, 16, 20, 162, 0, 15, 43, 28, 50, 29, 9, 80]
abbrev dktX0_clears_0 : List UInt8 := dkwX0_clears_0 ++ dktX0_clears_1
theorem dksX0_clears_0 : cX0_clears.data.toList.drop 0 = dktX0_clears_0 := by decide +kernel
theorem dksX0_clears_1 : cX0_clears.data.toList.drop 22 = dktX0_clears_1 := dk_seg dksX0_clears_0 22 rfl rfl
theorem dX0_clears_0 : decode cX0_clears 0 = .ok (.iconst 0, 1) := dk_3 (dk_at dksX0_clears_0 0 rfl rfl)
theorem dX0_clears_1 : decode cX0_clears 1 = .ok (.istore_n 2, 1) := dk_61 (dk_at dksX0_clears_0 1 rfl rfl)
theorem dX0_clears_2 : decode cX0_clears 2 = .ok (.iload_n 2, 1) := dk_28 (dk_at dksX0_clears_0 2 rfl rfl)
theorem dX0_clears_3 : decode cX0_clears 3 = .ok (.bipush 24, 2) := dk_16 24 (dk_at dksX0_clears_0 3 rfl rfl)
theorem dX0_clears_5 : decode cX0_clears 5 = .ok (.if_icmp .gt 29, 3) := dk_163 0 29 (dk_at dksX0_clears_0 5 rfl rfl)
theorem dX0_clears_8 : decode cX0_clears 8 = .ok (.iconst 0, 1) := dk_3 (dk_at dksX0_clears_0 8 rfl rfl)
theorem dX0_clears_9 : decode cX0_clears 9 = .ok (.istore_n 3, 1) := dk_62 (dk_at dksX0_clears_0 9 rfl rfl)
theorem dX0_clears_10 : decode cX0_clears 10 = .ok (.iload_n 3, 1) := dk_29 (dk_at dksX0_clears_0 10 rfl rfl)
theorem dX0_clears_11 : decode cX0_clears 11 = .ok (.bipush 20, 2) := dk_16 20 (dk_at dksX0_clears_0 11 rfl rfl)
theorem dX0_clears_13 : decode cX0_clears 13 = .ok (.if_icmp .ge 15, 3) := dk_162 0 15 (dk_at dksX0_clears_0 13 rfl rfl)
theorem dX0_clears_16 : decode cX0_clears 16 = .ok (.aload_n 1, 1) := dk_43 (dk_at dksX0_clears_0 16 rfl rfl)
theorem dX0_clears_17 : decode cX0_clears 17 = .ok (.iload_n 2, 1) := dk_28 (dk_at dksX0_clears_0 17 rfl rfl)
theorem dX0_clears_18 : decode cX0_clears 18 = .ok (.aaload, 1) := dk_50 (dk_at dksX0_clears_0 18 rfl rfl)
theorem dX0_clears_19 : decode cX0_clears 19 = .ok (.iload_n 3, 1) := dk_29 (dk_at dksX0_clears_0 19 rfl rfl)
theorem dX0_clears_20 : decode cX0_clears 20 = .ok (.lconst 0, 1) := dk_9 (dk_at dksX0_clears_0 20 rfl rfl)
theorem dX0_clears_21 : decode cX0_clears 21 = .ok (.lastore, 1) := dk_80 (dk_at dksX0_clears_0 21 rfl rfl)
theorem dX0_clears_22 : decode cX0_clears 22 = .ok (.iinc 3 1, 3) := dk_132 3 1 (dk_at dksX0_clears_1 0 rfl rfl)
theorem dX0_clears_25 : decode cX0_clears 25 = .ok (.goto (-15), 3) := dk_167 255 241 (dk_at dksX0_clears_1 3 rfl rfl)
theorem dX0_clears_28 : decode cX0_clears 28 = .ok (.iinc 2 1, 3) := dk_132 2 1 (dk_at dksX0_clears_1 6 rfl rfl)
theorem dX0_clears_31 : decode cX0_clears 31 = .ok (.goto (-29), 3) := dk_167 255 227 (dk_at dksX0_clears_1 9 rfl rfl)
theorem dX0_clears_34 : decode cX0_clears 34 = .ok (.return_, 1) := dk_177 (dk_at dksX0_clears_1 12 rfl rfl)
abbrev cX0_powerOf : ByteArray := prog_1_method_6_code
def yX0_powerOf : MethodName := ⟨RX0, "powerOf", "(II)J"⟩
def dkwX0_powerOf_0 : List UInt8 := [10, 65, 3, 54, 4, 21, 4, 27, 162, 0, 14, 32, 26, 133, 105, 65, 132, 4, 1, 167, 255, 242, 32, 173]
abbrev dktX0_powerOf_0 : List UInt8 := dkwX0_powerOf_0 ++ []
theorem dksX0_powerOf_0 : cX0_powerOf.data.toList.drop 0 = dktX0_powerOf_0 := by decide +kernel
theorem dX0_powerOf_0 : decode cX0_powerOf 0 = .ok (.lconst 1, 1) := dk_10 (dk_at dksX0_powerOf_0 0 rfl rfl)
theorem dX0_powerOf_1 : decode cX0_powerOf 1 = .ok (.lstore_n 2, 1) := dk_65 (dk_at dksX0_powerOf_0 1 rfl rfl)
theorem dX0_powerOf_2 : decode cX0_powerOf 2 = .ok (.iconst 0, 1) := dk_3 (dk_at dksX0_powerOf_0 2 rfl rfl)
theorem dX0_powerOf_3 : decode cX0_powerOf 3 = .ok (.istore 4, 2) := dk_54 4 (dk_at dksX0_powerOf_0 3 rfl rfl)
theorem dX0_powerOf_5 : decode cX0_powerOf 5 = .ok (.iload 4, 2) := dk_21 4 (dk_at dksX0_powerOf_0 5 rfl rfl)
theorem dX0_powerOf_7 : decode cX0_powerOf 7 = .ok (.iload_n 1, 1) := dk_27 (dk_at dksX0_powerOf_0 7 rfl rfl)
theorem dX0_powerOf_8 : decode cX0_powerOf 8 = .ok (.if_icmp .ge 14, 3) := dk_162 0 14 (dk_at dksX0_powerOf_0 8 rfl rfl)
theorem dX0_powerOf_11 : decode cX0_powerOf 11 = .ok (.lload_n 2, 1) := dk_32 (dk_at dksX0_powerOf_0 11 rfl rfl)
theorem dX0_powerOf_12 : decode cX0_powerOf 12 = .ok (.iload_n 0, 1) := dk_26 (dk_at dksX0_powerOf_0 12 rfl rfl)
theorem dX0_powerOf_13 : decode cX0_powerOf 13 = .ok (.i2l, 1) := dk_133 (dk_at dksX0_powerOf_0 13 rfl rfl)
theorem dX0_powerOf_14 : decode cX0_powerOf 14 = .ok (.lmul, 1) := dk_105 (dk_at dksX0_powerOf_0 14 rfl rfl)
theorem dX0_powerOf_15 : decode cX0_powerOf 15 = .ok (.lstore_n 2, 1) := dk_65 (dk_at dksX0_powerOf_0 15 rfl rfl)
theorem dX0_powerOf_16 : decode cX0_powerOf 16 = .ok (.iinc 4 1, 3) := dk_132 4 1 (dk_at dksX0_powerOf_0 16 rfl rfl)
theorem dX0_powerOf_19 : decode cX0_powerOf 19 = .ok (.goto (-14), 3) := dk_167 255 242 (dk_at dksX0_powerOf_0 19 rfl rfl)
theorem dX0_powerOf_22 : decode cX0_powerOf 22 = .ok (.lload_n 2, 1) := dk_32 (dk_at dksX0_powerOf_0 22 rfl rfl)
theorem dX0_powerOf_23 : decode cX0_powerOf 23 = .ok (.lreturn, 1) := dk_173 (dk_at dksX0_powerOf_0 23 rfl rfl)
abbrev cX0_personComes : ByteArray := prog_1_method_29_code
def yX0_personComes : MethodName := ⟨RX0, "personComes", "(I)V"⟩
def dkwX0_personComes_8 : List UInt8 := [97, 80, 132, 4, 1, 167, 255, 103, 132, 3, 1, 167, 255, 88, 42, 182, 1, 25, 177]
abbrev dktX0_personComes_8 : List UInt8 := dkwX0_personComes_8 ++ []
def dkwX0_personComes_7 : List UInt8 := [21, 4, 92, 47, 42, 180, 0, 57, 29, 50, 21, 4, 47, 16, 10, 42, 180, 0, 67, 27, 46, 100, 133, 105]
abbrev dktX0_personComes_7 : List UInt8 := dkwX0_personComes_7 ++ dktX0_personComes_8
def dkwX0_personComes_6 : List UInt8 := [180, 0, 57, 29, 50, 21, 4, 47, 42, 180, 0, 67, 27, 46, 133, 105, 97, 80, 42, 180, 0, 60, 29, 50]
abbrev dktX0_personComes_6 : List UInt8 := dkwX0_personComes_6 ++ dktX0_personComes_7
def dkwX0_personComes_5 : List UInt8 := [54, 5, 42, 180, 0, 60, 42, 180, 0, 245, 29, 21, 5, 96, 184, 0, 3, 50, 21, 4, 92, 47, 42]
abbrev dktX0_personComes_5 : List UInt8 := dkwX0_personComes_5 ++ dktX0_personComes_6
def dkwX0_personComes_4 : List UInt8 := [182, 1, 15, 42, 180, 0, 63, 27, 46, 42, 180, 0, 67, 27, 46, 3, 182, 1, 18, 28, 182, 1, 22]
abbrev dktX0_personComes_4 : List UInt8 := dkwX0_personComes_4 ++ dktX0_personComes_5
def dkwX0_personComes_3 : List UInt8 := [42, 180, 1, 12, 162, 0, 10, 42, 180, 1, 9, 167, 0, 34, 3, 167, 0, 30, 42, 29, 21, 4]
abbrev dktX0_personComes_3 : List UInt8 := dkwX0_personComes_3 ++ dktX0_personComes_4
def dkwX0_personComes_2 : List UInt8 := [180, 0, 57, 29, 50, 21, 4, 47, 9, 148, 154, 0, 6, 167, 0, 129, 42, 180, 1, 9, 158, 0, 22, 29]
abbrev dktX0_personComes_2 : List UInt8 := dkwX0_personComes_2 ++ dktX0_personComes_3
def dkwX0_personComes_1 : List UInt8 := [180, 0, 153, 61, 3, 62, 29, 16, 24, 163, 0, 168, 3, 54, 4, 21, 4, 16, 20, 162, 0, 152, 42]
abbrev dktX0_personComes_1 : List UInt8 := dkwX0_personComes_1 ++ dktX0_personComes_2
def dkwX0_personComes_0 : List UInt8 := [42, 42, 180, 0, 60, 182, 1, 5, 42, 180, 0, 30, 180, 0, 113, 42, 180, 0, 63, 27, 46, 50]
abbrev dktX0_personComes_0 : List UInt8 := dkwX0_personComes_0 ++ dktX0_personComes_1
theorem dksX0_personComes_0 : cX0_personComes.data.toList.drop 0 = dktX0_personComes_0 := by decide +kernel
theorem dksX0_personComes_1 : cX0_personComes.data.toList.drop 22 = dktX0_personComes_1 := dk_seg dksX0_personComes_0 22 rfl rfl
theorem dksX0_personComes_2 : cX0_personComes.data.toList.drop 45 = dktX0_personComes_2 := dk_seg dksX0_personComes_1 23 rfl rfl
theorem dksX0_personComes_3 : cX0_personComes.data.toList.drop 69 = dktX0_personComes_3 := dk_seg dksX0_personComes_2 24 rfl rfl
theorem dksX0_personComes_4 : cX0_personComes.data.toList.drop 91 = dktX0_personComes_4 := dk_seg dksX0_personComes_3 22 rfl rfl
theorem dksX0_personComes_5 : cX0_personComes.data.toList.drop 114 = dktX0_personComes_5 := dk_seg dksX0_personComes_4 23 rfl rfl
theorem dksX0_personComes_6 : cX0_personComes.data.toList.drop 137 = dktX0_personComes_6 := dk_seg dksX0_personComes_5 23 rfl rfl
theorem dksX0_personComes_7 : cX0_personComes.data.toList.drop 161 = dktX0_personComes_7 := dk_seg dksX0_personComes_6 24 rfl rfl
theorem dksX0_personComes_8 : cX0_personComes.data.toList.drop 185 = dktX0_personComes_8 := dk_seg dksX0_personComes_7 24 rfl rfl
theorem dX0_personComes_0 : decode cX0_personComes 0 = .ok (.aload_n 0, 1) := dk_42 (dk_at dksX0_personComes_0 0 rfl rfl)
theorem dX0_personComes_1 : decode cX0_personComes 1 = .ok (.aload_n 0, 1) := dk_42 (dk_at dksX0_personComes_0 1 rfl rfl)
theorem dX0_personComes_2 : decode cX0_personComes 2 = .ok (.getfield 60, 3) := dk_180 0 60 (dk_at dksX0_personComes_0 2 rfl rfl)
theorem dX0_personComes_5 : decode cX0_personComes 5 = .ok (.invokevirtual 261, 3) := dk_182 1 5 (dk_at dksX0_personComes_0 5 rfl rfl)
theorem dX0_personComes_8 : decode cX0_personComes 8 = .ok (.aload_n 0, 1) := dk_42 (dk_at dksX0_personComes_0 8 rfl rfl)
theorem dX0_personComes_9 : decode cX0_personComes 9 = .ok (.getfield 30, 3) := dk_180 0 30 (dk_at dksX0_personComes_0 9 rfl rfl)
theorem dX0_personComes_12 : decode cX0_personComes 12 = .ok (.getfield 113, 3) := dk_180 0 113 (dk_at dksX0_personComes_0 12 rfl rfl)
theorem dX0_personComes_15 : decode cX0_personComes 15 = .ok (.aload_n 0, 1) := dk_42 (dk_at dksX0_personComes_0 15 rfl rfl)
theorem dX0_personComes_16 : decode cX0_personComes 16 = .ok (.getfield 63, 3) := dk_180 0 63 (dk_at dksX0_personComes_0 16 rfl rfl)
theorem dX0_personComes_19 : decode cX0_personComes 19 = .ok (.iload_n 1, 1) := dk_27 (dk_at dksX0_personComes_0 19 rfl rfl)
theorem dX0_personComes_20 : decode cX0_personComes 20 = .ok (.iaload, 1) := dk_46 (dk_at dksX0_personComes_0 20 rfl rfl)
theorem dX0_personComes_21 : decode cX0_personComes 21 = .ok (.aaload, 1) := dk_50 (dk_at dksX0_personComes_0 21 rfl rfl)
theorem dX0_personComes_22 : decode cX0_personComes 22 = .ok (.getfield 153, 3) := dk_180 0 153 (dk_at dksX0_personComes_1 0 rfl rfl)
theorem dX0_personComes_25 : decode cX0_personComes 25 = .ok (.istore_n 2, 1) := dk_61 (dk_at dksX0_personComes_1 3 rfl rfl)
theorem dX0_personComes_26 : decode cX0_personComes 26 = .ok (.iconst 0, 1) := dk_3 (dk_at dksX0_personComes_1 4 rfl rfl)
theorem dX0_personComes_27 : decode cX0_personComes 27 = .ok (.istore_n 3, 1) := dk_62 (dk_at dksX0_personComes_1 5 rfl rfl)
theorem dX0_personComes_28 : decode cX0_personComes 28 = .ok (.iload_n 3, 1) := dk_29 (dk_at dksX0_personComes_1 6 rfl rfl)
theorem dX0_personComes_29 : decode cX0_personComes 29 = .ok (.bipush 24, 2) := dk_16 24 (dk_at dksX0_personComes_1 7 rfl rfl)
theorem dX0_personComes_31 : decode cX0_personComes 31 = .ok (.if_icmp .gt 168, 3) := dk_163 0 168 (dk_at dksX0_personComes_1 9 rfl rfl)
theorem dX0_personComes_34 : decode cX0_personComes 34 = .ok (.iconst 0, 1) := dk_3 (dk_at dksX0_personComes_1 12 rfl rfl)
theorem dX0_personComes_35 : decode cX0_personComes 35 = .ok (.istore 4, 2) := dk_54 4 (dk_at dksX0_personComes_1 13 rfl rfl)
theorem dX0_personComes_37 : decode cX0_personComes 37 = .ok (.iload 4, 2) := dk_21 4 (dk_at dksX0_personComes_1 15 rfl rfl)
theorem dX0_personComes_39 : decode cX0_personComes 39 = .ok (.bipush 20, 2) := dk_16 20 (dk_at dksX0_personComes_1 17 rfl rfl)
theorem dX0_personComes_41 : decode cX0_personComes 41 = .ok (.if_icmp .ge 152, 3) := dk_162 0 152 (dk_at dksX0_personComes_1 19 rfl rfl)
theorem dX0_personComes_44 : decode cX0_personComes 44 = .ok (.aload_n 0, 1) := dk_42 (dk_at dksX0_personComes_1 22 rfl rfl)
theorem dX0_personComes_45 : decode cX0_personComes 45 = .ok (.getfield 57, 3) := dk_180 0 57 (dk_at dksX0_personComes_2 0 rfl rfl)
theorem dX0_personComes_48 : decode cX0_personComes 48 = .ok (.iload_n 3, 1) := dk_29 (dk_at dksX0_personComes_2 3 rfl rfl)
theorem dX0_personComes_49 : decode cX0_personComes 49 = .ok (.aaload, 1) := dk_50 (dk_at dksX0_personComes_2 4 rfl rfl)
theorem dX0_personComes_50 : decode cX0_personComes 50 = .ok (.iload 4, 2) := dk_21 4 (dk_at dksX0_personComes_2 5 rfl rfl)
theorem dX0_personComes_52 : decode cX0_personComes 52 = .ok (.laload, 1) := dk_47 (dk_at dksX0_personComes_2 7 rfl rfl)
theorem dX0_personComes_53 : decode cX0_personComes 53 = .ok (.lconst 0, 1) := dk_9 (dk_at dksX0_personComes_2 8 rfl rfl)
theorem dX0_personComes_54 : decode cX0_personComes 54 = .ok (.lcmp, 1) := dk_148 (dk_at dksX0_personComes_2 9 rfl rfl)
theorem dX0_personComes_55 : decode cX0_personComes 55 = .ok (.ifCond .ne 6, 3) := dk_154 0 6 (dk_at dksX0_personComes_2 10 rfl rfl)
theorem dX0_personComes_58 : decode cX0_personComes 58 = .ok (.goto 129, 3) := dk_167 0 129 (dk_at dksX0_personComes_2 13 rfl rfl)
theorem dX0_personComes_61 : decode cX0_personComes 61 = .ok (.aload_n 0, 1) := dk_42 (dk_at dksX0_personComes_2 16 rfl rfl)
theorem dX0_personComes_62 : decode cX0_personComes 62 = .ok (.getfield 265, 3) := dk_180 1 9 (dk_at dksX0_personComes_2 17 rfl rfl)
theorem dX0_personComes_65 : decode cX0_personComes 65 = .ok (.ifCond .le 22, 3) := dk_158 0 22 (dk_at dksX0_personComes_2 20 rfl rfl)
theorem dX0_personComes_68 : decode cX0_personComes 68 = .ok (.iload_n 3, 1) := dk_29 (dk_at dksX0_personComes_2 23 rfl rfl)
theorem dX0_personComes_69 : decode cX0_personComes 69 = .ok (.aload_n 0, 1) := dk_42 (dk_at dksX0_personComes_3 0 rfl rfl)
theorem dX0_personComes_70 : decode cX0_personComes 70 = .ok (.getfield 268, 3) := dk_180 1 12 (dk_at dksX0_personComes_3 1 rfl rfl)
theorem dX0_personComes_73 : decode cX0_personComes 73 = .ok (.if_icmp .ge 10, 3) := dk_162 0 10 (dk_at dksX0_personComes_3 4 rfl rfl)
theorem dX0_personComes_76 : decode cX0_personComes 76 = .ok (.aload_n 0, 1) := dk_42 (dk_at dksX0_personComes_3 7 rfl rfl)
theorem dX0_personComes_77 : decode cX0_personComes 77 = .ok (.getfield 265, 3) := dk_180 1 9 (dk_at dksX0_personComes_3 8 rfl rfl)
theorem dX0_personComes_80 : decode cX0_personComes 80 = .ok (.goto 34, 3) := dk_167 0 34 (dk_at dksX0_personComes_3 11 rfl rfl)
theorem dX0_personComes_83 : decode cX0_personComes 83 = .ok (.iconst 0, 1) := dk_3 (dk_at dksX0_personComes_3 14 rfl rfl)
theorem dX0_personComes_84 : decode cX0_personComes 84 = .ok (.goto 30, 3) := dk_167 0 30 (dk_at dksX0_personComes_3 15 rfl rfl)
theorem dX0_personComes_87 : decode cX0_personComes 87 = .ok (.aload_n 0, 1) := dk_42 (dk_at dksX0_personComes_3 18 rfl rfl)
theorem dX0_personComes_88 : decode cX0_personComes 88 = .ok (.iload_n 3, 1) := dk_29 (dk_at dksX0_personComes_3 19 rfl rfl)
theorem dX0_personComes_89 : decode cX0_personComes 89 = .ok (.iload 4, 2) := dk_21 4 (dk_at dksX0_personComes_3 20 rfl rfl)
theorem dX0_personComes_91 : decode cX0_personComes 91 = .ok (.invokevirtual 271, 3) := dk_182 1 15 (dk_at dksX0_personComes_4 0 rfl rfl)
theorem dX0_personComes_94 : decode cX0_personComes 94 = .ok (.aload_n 0, 1) := dk_42 (dk_at dksX0_personComes_4 3 rfl rfl)
theorem dX0_personComes_95 : decode cX0_personComes 95 = .ok (.getfield 63, 3) := dk_180 0 63 (dk_at dksX0_personComes_4 4 rfl rfl)
theorem dX0_personComes_98 : decode cX0_personComes 98 = .ok (.iload_n 1, 1) := dk_27 (dk_at dksX0_personComes_4 7 rfl rfl)
theorem dX0_personComes_99 : decode cX0_personComes 99 = .ok (.iaload, 1) := dk_46 (dk_at dksX0_personComes_4 8 rfl rfl)
theorem dX0_personComes_100 : decode cX0_personComes 100 = .ok (.aload_n 0, 1) := dk_42 (dk_at dksX0_personComes_4 9 rfl rfl)
theorem dX0_personComes_101 : decode cX0_personComes 101 = .ok (.getfield 67, 3) := dk_180 0 67 (dk_at dksX0_personComes_4 10 rfl rfl)
theorem dX0_personComes_104 : decode cX0_personComes 104 = .ok (.iload_n 1, 1) := dk_27 (dk_at dksX0_personComes_4 13 rfl rfl)
theorem dX0_personComes_105 : decode cX0_personComes 105 = .ok (.iaload, 1) := dk_46 (dk_at dksX0_personComes_4 14 rfl rfl)
theorem dX0_personComes_106 : decode cX0_personComes 106 = .ok (.iconst 0, 1) := dk_3 (dk_at dksX0_personComes_4 15 rfl rfl)
theorem dX0_personComes_107 : decode cX0_personComes 107 = .ok (.invokevirtual 274, 3) := dk_182 1 18 (dk_at dksX0_personComes_4 16 rfl rfl)
theorem dX0_personComes_110 : decode cX0_personComes 110 = .ok (.iload_n 2, 1) := dk_28 (dk_at dksX0_personComes_4 19 rfl rfl)
theorem dX0_personComes_111 : decode cX0_personComes 111 = .ok (.invokevirtual 278, 3) := dk_182 1 22 (dk_at dksX0_personComes_4 20 rfl rfl)
theorem dX0_personComes_114 : decode cX0_personComes 114 = .ok (.istore 5, 2) := dk_54 5 (dk_at dksX0_personComes_5 0 rfl rfl)
theorem dX0_personComes_116 : decode cX0_personComes 116 = .ok (.aload_n 0, 1) := dk_42 (dk_at dksX0_personComes_5 2 rfl rfl)
theorem dX0_personComes_117 : decode cX0_personComes 117 = .ok (.getfield 60, 3) := dk_180 0 60 (dk_at dksX0_personComes_5 3 rfl rfl)
theorem dX0_personComes_120 : decode cX0_personComes 120 = .ok (.aload_n 0, 1) := dk_42 (dk_at dksX0_personComes_5 6 rfl rfl)
theorem dX0_personComes_121 : decode cX0_personComes 121 = .ok (.getfield 245, 3) := dk_180 0 245 (dk_at dksX0_personComes_5 7 rfl rfl)
theorem dX0_personComes_124 : decode cX0_personComes 124 = .ok (.iload_n 3, 1) := dk_29 (dk_at dksX0_personComes_5 10 rfl rfl)
theorem dX0_personComes_125 : decode cX0_personComes 125 = .ok (.iload 5, 2) := dk_21 5 (dk_at dksX0_personComes_5 11 rfl rfl)
theorem dX0_personComes_127 : decode cX0_personComes 127 = .ok (.iadd, 1) := dk_96 (dk_at dksX0_personComes_5 13 rfl rfl)
theorem dX0_personComes_128 : decode cX0_personComes 128 = .ok (.invokestatic 3, 3) := dk_184 0 3 (dk_at dksX0_personComes_5 14 rfl rfl)
theorem dX0_personComes_131 : decode cX0_personComes 131 = .ok (.aaload, 1) := dk_50 (dk_at dksX0_personComes_5 17 rfl rfl)
theorem dX0_personComes_132 : decode cX0_personComes 132 = .ok (.iload 4, 2) := dk_21 4 (dk_at dksX0_personComes_5 18 rfl rfl)
theorem dX0_personComes_134 : decode cX0_personComes 134 = .ok (.dup2, 1) := dk_92 (dk_at dksX0_personComes_5 20 rfl rfl)
theorem dX0_personComes_135 : decode cX0_personComes 135 = .ok (.laload, 1) := dk_47 (dk_at dksX0_personComes_5 21 rfl rfl)
theorem dX0_personComes_136 : decode cX0_personComes 136 = .ok (.aload_n 0, 1) := dk_42 (dk_at dksX0_personComes_5 22 rfl rfl)
theorem dX0_personComes_137 : decode cX0_personComes 137 = .ok (.getfield 57, 3) := dk_180 0 57 (dk_at dksX0_personComes_6 0 rfl rfl)
theorem dX0_personComes_140 : decode cX0_personComes 140 = .ok (.iload_n 3, 1) := dk_29 (dk_at dksX0_personComes_6 3 rfl rfl)
theorem dX0_personComes_141 : decode cX0_personComes 141 = .ok (.aaload, 1) := dk_50 (dk_at dksX0_personComes_6 4 rfl rfl)
theorem dX0_personComes_142 : decode cX0_personComes 142 = .ok (.iload 4, 2) := dk_21 4 (dk_at dksX0_personComes_6 5 rfl rfl)
theorem dX0_personComes_144 : decode cX0_personComes 144 = .ok (.laload, 1) := dk_47 (dk_at dksX0_personComes_6 7 rfl rfl)
theorem dX0_personComes_145 : decode cX0_personComes 145 = .ok (.aload_n 0, 1) := dk_42 (dk_at dksX0_personComes_6 8 rfl rfl)
theorem dX0_personComes_146 : decode cX0_personComes 146 = .ok (.getfield 67, 3) := dk_180 0 67 (dk_at dksX0_personComes_6 9 rfl rfl)
theorem dX0_personComes_149 : decode cX0_personComes 149 = .ok (.iload_n 1, 1) := dk_27 (dk_at dksX0_personComes_6 12 rfl rfl)
theorem dX0_personComes_150 : decode cX0_personComes 150 = .ok (.iaload, 1) := dk_46 (dk_at dksX0_personComes_6 13 rfl rfl)
theorem dX0_personComes_151 : decode cX0_personComes 151 = .ok (.i2l, 1) := dk_133 (dk_at dksX0_personComes_6 14 rfl rfl)
theorem dX0_personComes_152 : decode cX0_personComes 152 = .ok (.lmul, 1) := dk_105 (dk_at dksX0_personComes_6 15 rfl rfl)
theorem dX0_personComes_153 : decode cX0_personComes 153 = .ok (.ladd, 1) := dk_97 (dk_at dksX0_personComes_6 16 rfl rfl)
theorem dX0_personComes_154 : decode cX0_personComes 154 = .ok (.lastore, 1) := dk_80 (dk_at dksX0_personComes_6 17 rfl rfl)
theorem dX0_personComes_155 : decode cX0_personComes 155 = .ok (.aload_n 0, 1) := dk_42 (dk_at dksX0_personComes_6 18 rfl rfl)
theorem dX0_personComes_156 : decode cX0_personComes 156 = .ok (.getfield 60, 3) := dk_180 0 60 (dk_at dksX0_personComes_6 19 rfl rfl)
theorem dX0_personComes_159 : decode cX0_personComes 159 = .ok (.iload_n 3, 1) := dk_29 (dk_at dksX0_personComes_6 22 rfl rfl)
theorem dX0_personComes_160 : decode cX0_personComes 160 = .ok (.aaload, 1) := dk_50 (dk_at dksX0_personComes_6 23 rfl rfl)
theorem dX0_personComes_161 : decode cX0_personComes 161 = .ok (.iload 4, 2) := dk_21 4 (dk_at dksX0_personComes_7 0 rfl rfl)
theorem dX0_personComes_163 : decode cX0_personComes 163 = .ok (.dup2, 1) := dk_92 (dk_at dksX0_personComes_7 2 rfl rfl)
theorem dX0_personComes_164 : decode cX0_personComes 164 = .ok (.laload, 1) := dk_47 (dk_at dksX0_personComes_7 3 rfl rfl)
theorem dX0_personComes_165 : decode cX0_personComes 165 = .ok (.aload_n 0, 1) := dk_42 (dk_at dksX0_personComes_7 4 rfl rfl)
theorem dX0_personComes_166 : decode cX0_personComes 166 = .ok (.getfield 57, 3) := dk_180 0 57 (dk_at dksX0_personComes_7 5 rfl rfl)
theorem dX0_personComes_169 : decode cX0_personComes 169 = .ok (.iload_n 3, 1) := dk_29 (dk_at dksX0_personComes_7 8 rfl rfl)
theorem dX0_personComes_170 : decode cX0_personComes 170 = .ok (.aaload, 1) := dk_50 (dk_at dksX0_personComes_7 9 rfl rfl)
theorem dX0_personComes_171 : decode cX0_personComes 171 = .ok (.iload 4, 2) := dk_21 4 (dk_at dksX0_personComes_7 10 rfl rfl)
theorem dX0_personComes_173 : decode cX0_personComes 173 = .ok (.laload, 1) := dk_47 (dk_at dksX0_personComes_7 12 rfl rfl)
theorem dX0_personComes_174 : decode cX0_personComes 174 = .ok (.bipush 10, 2) := dk_16 10 (dk_at dksX0_personComes_7 13 rfl rfl)
theorem dX0_personComes_176 : decode cX0_personComes 176 = .ok (.aload_n 0, 1) := dk_42 (dk_at dksX0_personComes_7 15 rfl rfl)
theorem dX0_personComes_177 : decode cX0_personComes 177 = .ok (.getfield 67, 3) := dk_180 0 67 (dk_at dksX0_personComes_7 16 rfl rfl)
theorem dX0_personComes_180 : decode cX0_personComes 180 = .ok (.iload_n 1, 1) := dk_27 (dk_at dksX0_personComes_7 19 rfl rfl)
theorem dX0_personComes_181 : decode cX0_personComes 181 = .ok (.iaload, 1) := dk_46 (dk_at dksX0_personComes_7 20 rfl rfl)
theorem dX0_personComes_182 : decode cX0_personComes 182 = .ok (.isub, 1) := dk_100 (dk_at dksX0_personComes_7 21 rfl rfl)
theorem dX0_personComes_183 : decode cX0_personComes 183 = .ok (.i2l, 1) := dk_133 (dk_at dksX0_personComes_7 22 rfl rfl)
theorem dX0_personComes_184 : decode cX0_personComes 184 = .ok (.lmul, 1) := dk_105 (dk_at dksX0_personComes_7 23 rfl rfl)
theorem dX0_personComes_185 : decode cX0_personComes 185 = .ok (.ladd, 1) := dk_97 (dk_at dksX0_personComes_8 0 rfl rfl)
theorem dX0_personComes_186 : decode cX0_personComes 186 = .ok (.lastore, 1) := dk_80 (dk_at dksX0_personComes_8 1 rfl rfl)
theorem dX0_personComes_187 : decode cX0_personComes 187 = .ok (.iinc 4 1, 3) := dk_132 4 1 (dk_at dksX0_personComes_8 2 rfl rfl)
theorem dX0_personComes_190 : decode cX0_personComes 190 = .ok (.goto (-153), 3) := dk_167 255 103 (dk_at dksX0_personComes_8 5 rfl rfl)
theorem dX0_personComes_193 : decode cX0_personComes 193 = .ok (.iinc 3 1, 3) := dk_132 3 1 (dk_at dksX0_personComes_8 8 rfl rfl)
theorem dX0_personComes_196 : decode cX0_personComes 196 = .ok (.goto (-168), 3) := dk_167 255 88 (dk_at dksX0_personComes_8 11 rfl rfl)
theorem dX0_personComes_199 : decode cX0_personComes 199 = .ok (.aload_n 0, 1) := dk_42 (dk_at dksX0_personComes_8 14 rfl rfl)
theorem dX0_personComes_200 : decode cX0_personComes 200 = .ok (.invokevirtual 281, 3) := dk_182 1 25 (dk_at dksX0_personComes_8 15 rfl rfl)
theorem dX0_personComes_203 : decode cX0_personComes 203 = .ok (.return_, 1) := dk_177 (dk_at dksX0_personComes_8 18 rfl rfl)
abbrev cX0_thenAt : ByteArray := prog_1_method_26_code
def yX0_thenAt : MethodName := ⟨RX0, "thenAt", "(II)LLandingTree$Moment;"⟩
def dkwX0_thenAt_1 : List UInt8 := [42, 180, 0, 248, 28, 184, 0, 251, 28, 184, 0, 254, 16, 99, 182, 1, 1, 176]
abbrev dktX0_thenAt_1 : List UInt8 := dkwX0_thenAt_1 ++ []
def dkwX0_thenAt_0 : List UInt8 := [42, 180, 0, 23, 42, 180, 0, 232, 42, 180, 0, 235, 182, 0, 238, 42, 180, 0, 242, 42, 180, 0, 245, 27]
abbrev dktX0_thenAt_0 : List UInt8 := dkwX0_thenAt_0 ++ dktX0_thenAt_1
theorem dksX0_thenAt_0 : cX0_thenAt.data.toList.drop 0 = dktX0_thenAt_0 := by decide +kernel
theorem dksX0_thenAt_1 : cX0_thenAt.data.toList.drop 24 = dktX0_thenAt_1 := dk_seg dksX0_thenAt_0 24 rfl rfl
theorem dX0_thenAt_0 : decode cX0_thenAt 0 = .ok (.aload_n 0, 1) := dk_42 (dk_at dksX0_thenAt_0 0 rfl rfl)
theorem dX0_thenAt_1 : decode cX0_thenAt 1 = .ok (.getfield 23, 3) := dk_180 0 23 (dk_at dksX0_thenAt_0 1 rfl rfl)
theorem dX0_thenAt_4 : decode cX0_thenAt 4 = .ok (.aload_n 0, 1) := dk_42 (dk_at dksX0_thenAt_0 4 rfl rfl)
theorem dX0_thenAt_5 : decode cX0_thenAt 5 = .ok (.getfield 232, 3) := dk_180 0 232 (dk_at dksX0_thenAt_0 5 rfl rfl)
theorem dX0_thenAt_8 : decode cX0_thenAt 8 = .ok (.aload_n 0, 1) := dk_42 (dk_at dksX0_thenAt_0 8 rfl rfl)
theorem dX0_thenAt_9 : decode cX0_thenAt 9 = .ok (.getfield 235, 3) := dk_180 0 235 (dk_at dksX0_thenAt_0 9 rfl rfl)
theorem dX0_thenAt_12 : decode cX0_thenAt 12 = .ok (.invokevirtual 238, 3) := dk_182 0 238 (dk_at dksX0_thenAt_0 12 rfl rfl)
theorem dX0_thenAt_15 : decode cX0_thenAt 15 = .ok (.aload_n 0, 1) := dk_42 (dk_at dksX0_thenAt_0 15 rfl rfl)
theorem dX0_thenAt_16 : decode cX0_thenAt 16 = .ok (.getfield 242, 3) := dk_180 0 242 (dk_at dksX0_thenAt_0 16 rfl rfl)
theorem dX0_thenAt_19 : decode cX0_thenAt 19 = .ok (.aload_n 0, 1) := dk_42 (dk_at dksX0_thenAt_0 19 rfl rfl)
theorem dX0_thenAt_20 : decode cX0_thenAt 20 = .ok (.getfield 245, 3) := dk_180 0 245 (dk_at dksX0_thenAt_0 20 rfl rfl)
theorem dX0_thenAt_23 : decode cX0_thenAt 23 = .ok (.iload_n 1, 1) := dk_27 (dk_at dksX0_thenAt_0 23 rfl rfl)
theorem dX0_thenAt_24 : decode cX0_thenAt 24 = .ok (.aload_n 0, 1) := dk_42 (dk_at dksX0_thenAt_1 0 rfl rfl)
theorem dX0_thenAt_25 : decode cX0_thenAt 25 = .ok (.getfield 248, 3) := dk_180 0 248 (dk_at dksX0_thenAt_1 1 rfl rfl)
theorem dX0_thenAt_28 : decode cX0_thenAt 28 = .ok (.iload_n 2, 1) := dk_28 (dk_at dksX0_thenAt_1 4 rfl rfl)
theorem dX0_thenAt_29 : decode cX0_thenAt 29 = .ok (.invokestatic 251, 3) := dk_184 0 251 (dk_at dksX0_thenAt_1 5 rfl rfl)
theorem dX0_thenAt_32 : decode cX0_thenAt 32 = .ok (.iload_n 2, 1) := dk_28 (dk_at dksX0_thenAt_1 8 rfl rfl)
theorem dX0_thenAt_33 : decode cX0_thenAt 33 = .ok (.invokestatic 254, 3) := dk_184 0 254 (dk_at dksX0_thenAt_1 9 rfl rfl)
theorem dX0_thenAt_36 : decode cX0_thenAt 36 = .ok (.bipush 99, 2) := dk_16 99 (dk_at dksX0_thenAt_1 12 rfl rfl)
theorem dX0_thenAt_38 : decode cX0_thenAt 38 = .ok (.invokevirtual 257, 3) := dk_182 1 1 (dk_at dksX0_thenAt_1 14 rfl rfl)
theorem dX0_thenAt_41 : decode cX0_thenAt 41 = .ok (.areturn, 1) := dk_176 (dk_at dksX0_thenAt_1 17 rfl rfl)
abbrev cX0_dryOf : ByteArray := prog_1_method_24_code
def yX0_dryOf : MethodName := ⟨RX0, "dryOf", "(I)I"⟩
def dkwX0_dryOf_0 : List UInt8 := [26, 16, 9, 163, 0, 7, 26, 167, 0, 4, 3, 172]
abbrev dktX0_dryOf_0 : List UInt8 := dkwX0_dryOf_0 ++ []
theorem dksX0_dryOf_0 : cX0_dryOf.data.toList.drop 0 = dktX0_dryOf_0 := by decide +kernel
theorem dX0_dryOf_0 : decode cX0_dryOf 0 = .ok (.iload_n 0, 1) := dk_26 (dk_at dksX0_dryOf_0 0 rfl rfl)
theorem dX0_dryOf_1 : decode cX0_dryOf 1 = .ok (.bipush 9, 2) := dk_16 9 (dk_at dksX0_dryOf_0 1 rfl rfl)
theorem dX0_dryOf_3 : decode cX0_dryOf 3 = .ok (.if_icmp .gt 7, 3) := dk_163 0 7 (dk_at dksX0_dryOf_0 3 rfl rfl)
theorem dX0_dryOf_6 : decode cX0_dryOf 6 = .ok (.iload_n 0, 1) := dk_26 (dk_at dksX0_dryOf_0 6 rfl rfl)
theorem dX0_dryOf_7 : decode cX0_dryOf 7 = .ok (.goto 4, 3) := dk_167 0 4 (dk_at dksX0_dryOf_0 7 rfl rfl)
theorem dX0_dryOf_10 : decode cX0_dryOf 10 = .ok (.iconst 0, 1) := dk_3 (dk_at dksX0_dryOf_0 10 rfl rfl)
theorem dX0_dryOf_11 : decode cX0_dryOf 11 = .ok (.ireturn, 1) := dk_172 (dk_at dksX0_dryOf_0 11 rfl rfl)
abbrev cX0_drownedOf : ByteArray := prog_1_method_25_code
def yX0_drownedOf : MethodName := ⟨RX0, "drownedOf", "(I)I"⟩
def dkwX0_drownedOf_0 : List UInt8 := [26, 16, 9, 163, 0, 7, 3, 167, 0, 9, 26, 16, 9, 100, 4, 100, 172]
abbrev dktX0_drownedOf_0 : List UInt8 := dkwX0_drownedOf_0 ++ []
theorem dksX0_drownedOf_0 : cX0_drownedOf.data.toList.drop 0 = dktX0_drownedOf_0 := by decide +kernel
theorem dX0_drownedOf_0 : decode cX0_drownedOf 0 = .ok (.iload_n 0, 1) := dk_26 (dk_at dksX0_drownedOf_0 0 rfl rfl)
theorem dX0_drownedOf_1 : decode cX0_drownedOf 1 = .ok (.bipush 9, 2) := dk_16 9 (dk_at dksX0_drownedOf_0 1 rfl rfl)
theorem dX0_drownedOf_3 : decode cX0_drownedOf 3 = .ok (.if_icmp .gt 7, 3) := dk_163 0 7 (dk_at dksX0_drownedOf_0 3 rfl rfl)
theorem dX0_drownedOf_6 : decode cX0_drownedOf 6 = .ok (.iconst 0, 1) := dk_3 (dk_at dksX0_drownedOf_0 6 rfl rfl)
theorem dX0_drownedOf_7 : decode cX0_drownedOf 7 = .ok (.goto 9, 3) := dk_167 0 9 (dk_at dksX0_drownedOf_0 7 rfl rfl)
theorem dX0_drownedOf_10 : decode cX0_drownedOf 10 = .ok (.iload_n 0, 1) := dk_26 (dk_at dksX0_drownedOf_0 10 rfl rfl)
theorem dX0_drownedOf_11 : decode cX0_drownedOf 11 = .ok (.bipush 9, 2) := dk_16 9 (dk_at dksX0_drownedOf_0 11 rfl rfl)
theorem dX0_drownedOf_13 : decode cX0_drownedOf 13 = .ok (.isub, 1) := dk_100 (dk_at dksX0_drownedOf_0 13 rfl rfl)
theorem dX0_drownedOf_14 : decode cX0_drownedOf 14 = .ok (.iconst 1, 1) := dk_4 (dk_at dksX0_drownedOf_0 14 rfl rfl)
theorem dX0_drownedOf_15 : decode cX0_drownedOf 15 = .ok (.isub, 1) := dk_100 (dk_at dksX0_drownedOf_0 15 rfl rfl)
theorem dX0_drownedOf_16 : decode cX0_drownedOf 16 = .ok (.ireturn, 1) := dk_172 (dk_at dksX0_drownedOf_0 16 rfl rfl)
abbrev cX0_takesComes : ByteArray := prog_1_method_28_code
def yX0_takesComes : MethodName := ⟨RX0, "takesComes", "()V"⟩
def dkwX0_takesComes_1 : List UInt8 := [180, 0, 60, 27, 50, 28, 47, 80, 132, 2, 1, 167, 255, 231, 132, 1, 1, 167, 255, 217, 177]
abbrev dktX0_takesComes_1 : List UInt8 := dkwX0_takesComes_1 ++ []
def dkwX0_takesComes_0 : List UInt8 := [3, 60, 27, 16, 24, 163, 0, 39, 3, 61, 28, 16, 20, 162, 0, 25, 42, 180, 0, 57, 27, 50, 28, 42]
abbrev dktX0_takesComes_0 : List UInt8 := dkwX0_takesComes_0 ++ dktX0_takesComes_1
theorem dksX0_takesComes_0 : cX0_takesComes.data.toList.drop 0 = dktX0_takesComes_0 := by decide +kernel
theorem dksX0_takesComes_1 : cX0_takesComes.data.toList.drop 24 = dktX0_takesComes_1 := dk_seg dksX0_takesComes_0 24 rfl rfl
theorem dX0_takesComes_0 : decode cX0_takesComes 0 = .ok (.iconst 0, 1) := dk_3 (dk_at dksX0_takesComes_0 0 rfl rfl)
theorem dX0_takesComes_1 : decode cX0_takesComes 1 = .ok (.istore_n 1, 1) := dk_60 (dk_at dksX0_takesComes_0 1 rfl rfl)
theorem dX0_takesComes_2 : decode cX0_takesComes 2 = .ok (.iload_n 1, 1) := dk_27 (dk_at dksX0_takesComes_0 2 rfl rfl)
theorem dX0_takesComes_3 : decode cX0_takesComes 3 = .ok (.bipush 24, 2) := dk_16 24 (dk_at dksX0_takesComes_0 3 rfl rfl)
theorem dX0_takesComes_5 : decode cX0_takesComes 5 = .ok (.if_icmp .gt 39, 3) := dk_163 0 39 (dk_at dksX0_takesComes_0 5 rfl rfl)
theorem dX0_takesComes_8 : decode cX0_takesComes 8 = .ok (.iconst 0, 1) := dk_3 (dk_at dksX0_takesComes_0 8 rfl rfl)
theorem dX0_takesComes_9 : decode cX0_takesComes 9 = .ok (.istore_n 2, 1) := dk_61 (dk_at dksX0_takesComes_0 9 rfl rfl)
theorem dX0_takesComes_10 : decode cX0_takesComes 10 = .ok (.iload_n 2, 1) := dk_28 (dk_at dksX0_takesComes_0 10 rfl rfl)
theorem dX0_takesComes_11 : decode cX0_takesComes 11 = .ok (.bipush 20, 2) := dk_16 20 (dk_at dksX0_takesComes_0 11 rfl rfl)
theorem dX0_takesComes_13 : decode cX0_takesComes 13 = .ok (.if_icmp .ge 25, 3) := dk_162 0 25 (dk_at dksX0_takesComes_0 13 rfl rfl)
theorem dX0_takesComes_16 : decode cX0_takesComes 16 = .ok (.aload_n 0, 1) := dk_42 (dk_at dksX0_takesComes_0 16 rfl rfl)
theorem dX0_takesComes_17 : decode cX0_takesComes 17 = .ok (.getfield 57, 3) := dk_180 0 57 (dk_at dksX0_takesComes_0 17 rfl rfl)
theorem dX0_takesComes_20 : decode cX0_takesComes 20 = .ok (.iload_n 1, 1) := dk_27 (dk_at dksX0_takesComes_0 20 rfl rfl)
theorem dX0_takesComes_21 : decode cX0_takesComes 21 = .ok (.aaload, 1) := dk_50 (dk_at dksX0_takesComes_0 21 rfl rfl)
theorem dX0_takesComes_22 : decode cX0_takesComes 22 = .ok (.iload_n 2, 1) := dk_28 (dk_at dksX0_takesComes_0 22 rfl rfl)
theorem dX0_takesComes_23 : decode cX0_takesComes 23 = .ok (.aload_n 0, 1) := dk_42 (dk_at dksX0_takesComes_0 23 rfl rfl)
theorem dX0_takesComes_24 : decode cX0_takesComes 24 = .ok (.getfield 60, 3) := dk_180 0 60 (dk_at dksX0_takesComes_1 0 rfl rfl)
theorem dX0_takesComes_27 : decode cX0_takesComes 27 = .ok (.iload_n 1, 1) := dk_27 (dk_at dksX0_takesComes_1 3 rfl rfl)
theorem dX0_takesComes_28 : decode cX0_takesComes 28 = .ok (.aaload, 1) := dk_50 (dk_at dksX0_takesComes_1 4 rfl rfl)
theorem dX0_takesComes_29 : decode cX0_takesComes 29 = .ok (.iload_n 2, 1) := dk_28 (dk_at dksX0_takesComes_1 5 rfl rfl)
theorem dX0_takesComes_30 : decode cX0_takesComes 30 = .ok (.laload, 1) := dk_47 (dk_at dksX0_takesComes_1 6 rfl rfl)
theorem dX0_takesComes_31 : decode cX0_takesComes 31 = .ok (.lastore, 1) := dk_80 (dk_at dksX0_takesComes_1 7 rfl rfl)
theorem dX0_takesComes_32 : decode cX0_takesComes 32 = .ok (.iinc 2 1, 3) := dk_132 2 1 (dk_at dksX0_takesComes_1 8 rfl rfl)
theorem dX0_takesComes_35 : decode cX0_takesComes 35 = .ok (.goto (-25), 3) := dk_167 255 231 (dk_at dksX0_takesComes_1 11 rfl rfl)
theorem dX0_takesComes_38 : decode cX0_takesComes 38 = .ok (.iinc 1 1, 3) := dk_132 1 1 (dk_at dksX0_takesComes_1 14 rfl rfl)
theorem dX0_takesComes_41 : decode cX0_takesComes 41 = .ok (.goto (-39), 3) := dk_167 255 217 (dk_at dksX0_takesComes_1 17 rfl rfl)
theorem dX0_takesComes_44 : decode cX0_takesComes 44 = .ok (.return_, 1) := dk_177 (dk_at dksX0_takesComes_1 20 rfl rfl)
abbrev cX0_sunComes : ByteArray := prog_1_method_31_code
def yX0_sunComes : MethodName := ⟨RX0, "sunComes", "()V"⟩
def dkwX0_sunComes_5 : List UInt8 := [167, 255, 147, 42, 182, 1, 25, 177]
abbrev dktX0_sunComes_5 : List UInt8 := dkwX0_sunComes_5 ++ []
def dkwX0_sunComes_4 : List UInt8 := [180, 0, 57, 27, 50, 28, 47, 20, 1, 38, 105, 182, 1, 40, 132, 2, 1, 167, 255, 161, 132, 1, 1]
abbrev dktX0_sunComes_4 : List UInt8 := dkwX0_sunComes_4 ++ dktX0_sunComes_5
def dkwX0_sunComes_3 : List UInt8 := [29, 21, 4, 96, 42, 180, 0, 57, 27, 50, 28, 47, 20, 1, 38, 105, 182, 1, 40, 42, 27, 28, 29, 42]
abbrev dktX0_sunComes_3 : List UInt8 := dkwX0_sunComes_3 ++ dktX0_sunComes_4
def dkwX0_sunComes_2 : List UInt8 := [16, 9, 182, 1, 35, 62, 42, 27, 28, 182, 1, 15, 16, 104, 16, 9, 182, 1, 35, 54, 4, 42, 27, 28]
abbrev dktX0_sunComes_2 : List UInt8 := dkwX0_sunComes_2 ++ dktX0_sunComes_3
def dkwX0_sunComes_1 : List UInt8 := [42, 180, 0, 57, 27, 50, 28, 47, 9, 148, 154, 0, 6, 167, 0, 73, 42, 27, 28, 182, 1, 15, 16, 101]
abbrev dktX0_sunComes_1 : List UInt8 := dkwX0_sunComes_1 ++ dktX0_sunComes_2
def dkwX0_sunComes_0 : List UInt8 := [42, 42, 180, 0, 60, 182, 1, 5, 3, 60, 27, 16, 24, 163, 0, 109, 3, 61, 28, 16, 20, 162, 0, 95]
abbrev dktX0_sunComes_0 : List UInt8 := dkwX0_sunComes_0 ++ dktX0_sunComes_1
theorem dksX0_sunComes_0 : cX0_sunComes.data.toList.drop 0 = dktX0_sunComes_0 := by decide +kernel
theorem dksX0_sunComes_1 : cX0_sunComes.data.toList.drop 24 = dktX0_sunComes_1 := dk_seg dksX0_sunComes_0 24 rfl rfl
theorem dksX0_sunComes_2 : cX0_sunComes.data.toList.drop 48 = dktX0_sunComes_2 := dk_seg dksX0_sunComes_1 24 rfl rfl
theorem dksX0_sunComes_3 : cX0_sunComes.data.toList.drop 72 = dktX0_sunComes_3 := dk_seg dksX0_sunComes_2 24 rfl rfl
theorem dksX0_sunComes_4 : cX0_sunComes.data.toList.drop 96 = dktX0_sunComes_4 := dk_seg dksX0_sunComes_3 24 rfl rfl
theorem dksX0_sunComes_5 : cX0_sunComes.data.toList.drop 119 = dktX0_sunComes_5 := dk_seg dksX0_sunComes_4 23 rfl rfl
theorem dX0_sunComes_0 : decode cX0_sunComes 0 = .ok (.aload_n 0, 1) := dk_42 (dk_at dksX0_sunComes_0 0 rfl rfl)
theorem dX0_sunComes_1 : decode cX0_sunComes 1 = .ok (.aload_n 0, 1) := dk_42 (dk_at dksX0_sunComes_0 1 rfl rfl)
theorem dX0_sunComes_2 : decode cX0_sunComes 2 = .ok (.getfield 60, 3) := dk_180 0 60 (dk_at dksX0_sunComes_0 2 rfl rfl)
theorem dX0_sunComes_5 : decode cX0_sunComes 5 = .ok (.invokevirtual 261, 3) := dk_182 1 5 (dk_at dksX0_sunComes_0 5 rfl rfl)
theorem dX0_sunComes_8 : decode cX0_sunComes 8 = .ok (.iconst 0, 1) := dk_3 (dk_at dksX0_sunComes_0 8 rfl rfl)
theorem dX0_sunComes_9 : decode cX0_sunComes 9 = .ok (.istore_n 1, 1) := dk_60 (dk_at dksX0_sunComes_0 9 rfl rfl)
theorem dX0_sunComes_10 : decode cX0_sunComes 10 = .ok (.iload_n 1, 1) := dk_27 (dk_at dksX0_sunComes_0 10 rfl rfl)
theorem dX0_sunComes_11 : decode cX0_sunComes 11 = .ok (.bipush 24, 2) := dk_16 24 (dk_at dksX0_sunComes_0 11 rfl rfl)
theorem dX0_sunComes_13 : decode cX0_sunComes 13 = .ok (.if_icmp .gt 109, 3) := dk_163 0 109 (dk_at dksX0_sunComes_0 13 rfl rfl)
theorem dX0_sunComes_16 : decode cX0_sunComes 16 = .ok (.iconst 0, 1) := dk_3 (dk_at dksX0_sunComes_0 16 rfl rfl)
theorem dX0_sunComes_17 : decode cX0_sunComes 17 = .ok (.istore_n 2, 1) := dk_61 (dk_at dksX0_sunComes_0 17 rfl rfl)
theorem dX0_sunComes_18 : decode cX0_sunComes 18 = .ok (.iload_n 2, 1) := dk_28 (dk_at dksX0_sunComes_0 18 rfl rfl)
theorem dX0_sunComes_19 : decode cX0_sunComes 19 = .ok (.bipush 20, 2) := dk_16 20 (dk_at dksX0_sunComes_0 19 rfl rfl)
theorem dX0_sunComes_21 : decode cX0_sunComes 21 = .ok (.if_icmp .ge 95, 3) := dk_162 0 95 (dk_at dksX0_sunComes_0 21 rfl rfl)
theorem dX0_sunComes_24 : decode cX0_sunComes 24 = .ok (.aload_n 0, 1) := dk_42 (dk_at dksX0_sunComes_1 0 rfl rfl)
theorem dX0_sunComes_25 : decode cX0_sunComes 25 = .ok (.getfield 57, 3) := dk_180 0 57 (dk_at dksX0_sunComes_1 1 rfl rfl)
theorem dX0_sunComes_28 : decode cX0_sunComes 28 = .ok (.iload_n 1, 1) := dk_27 (dk_at dksX0_sunComes_1 4 rfl rfl)
theorem dX0_sunComes_29 : decode cX0_sunComes 29 = .ok (.aaload, 1) := dk_50 (dk_at dksX0_sunComes_1 5 rfl rfl)
theorem dX0_sunComes_30 : decode cX0_sunComes 30 = .ok (.iload_n 2, 1) := dk_28 (dk_at dksX0_sunComes_1 6 rfl rfl)
theorem dX0_sunComes_31 : decode cX0_sunComes 31 = .ok (.laload, 1) := dk_47 (dk_at dksX0_sunComes_1 7 rfl rfl)
theorem dX0_sunComes_32 : decode cX0_sunComes 32 = .ok (.lconst 0, 1) := dk_9 (dk_at dksX0_sunComes_1 8 rfl rfl)
theorem dX0_sunComes_33 : decode cX0_sunComes 33 = .ok (.lcmp, 1) := dk_148 (dk_at dksX0_sunComes_1 9 rfl rfl)
theorem dX0_sunComes_34 : decode cX0_sunComes 34 = .ok (.ifCond .ne 6, 3) := dk_154 0 6 (dk_at dksX0_sunComes_1 10 rfl rfl)
theorem dX0_sunComes_37 : decode cX0_sunComes 37 = .ok (.goto 73, 3) := dk_167 0 73 (dk_at dksX0_sunComes_1 13 rfl rfl)
theorem dX0_sunComes_40 : decode cX0_sunComes 40 = .ok (.aload_n 0, 1) := dk_42 (dk_at dksX0_sunComes_1 16 rfl rfl)
theorem dX0_sunComes_41 : decode cX0_sunComes 41 = .ok (.iload_n 1, 1) := dk_27 (dk_at dksX0_sunComes_1 17 rfl rfl)
theorem dX0_sunComes_42 : decode cX0_sunComes 42 = .ok (.iload_n 2, 1) := dk_28 (dk_at dksX0_sunComes_1 18 rfl rfl)
theorem dX0_sunComes_43 : decode cX0_sunComes 43 = .ok (.invokevirtual 271, 3) := dk_182 1 15 (dk_at dksX0_sunComes_1 19 rfl rfl)
theorem dX0_sunComes_46 : decode cX0_sunComes 46 = .ok (.bipush 101, 2) := dk_16 101 (dk_at dksX0_sunComes_1 22 rfl rfl)
theorem dX0_sunComes_48 : decode cX0_sunComes 48 = .ok (.bipush 9, 2) := dk_16 9 (dk_at dksX0_sunComes_2 0 rfl rfl)
theorem dX0_sunComes_50 : decode cX0_sunComes 50 = .ok (.invokevirtual 291, 3) := dk_182 1 35 (dk_at dksX0_sunComes_2 2 rfl rfl)
theorem dX0_sunComes_53 : decode cX0_sunComes 53 = .ok (.istore_n 3, 1) := dk_62 (dk_at dksX0_sunComes_2 5 rfl rfl)
theorem dX0_sunComes_54 : decode cX0_sunComes 54 = .ok (.aload_n 0, 1) := dk_42 (dk_at dksX0_sunComes_2 6 rfl rfl)
theorem dX0_sunComes_55 : decode cX0_sunComes 55 = .ok (.iload_n 1, 1) := dk_27 (dk_at dksX0_sunComes_2 7 rfl rfl)
theorem dX0_sunComes_56 : decode cX0_sunComes 56 = .ok (.iload_n 2, 1) := dk_28 (dk_at dksX0_sunComes_2 8 rfl rfl)
theorem dX0_sunComes_57 : decode cX0_sunComes 57 = .ok (.invokevirtual 271, 3) := dk_182 1 15 (dk_at dksX0_sunComes_2 9 rfl rfl)
theorem dX0_sunComes_60 : decode cX0_sunComes 60 = .ok (.bipush 104, 2) := dk_16 104 (dk_at dksX0_sunComes_2 12 rfl rfl)
theorem dX0_sunComes_62 : decode cX0_sunComes 62 = .ok (.bipush 9, 2) := dk_16 9 (dk_at dksX0_sunComes_2 14 rfl rfl)
theorem dX0_sunComes_64 : decode cX0_sunComes 64 = .ok (.invokevirtual 291, 3) := dk_182 1 35 (dk_at dksX0_sunComes_2 16 rfl rfl)
theorem dX0_sunComes_67 : decode cX0_sunComes 67 = .ok (.istore 4, 2) := dk_54 4 (dk_at dksX0_sunComes_2 19 rfl rfl)
theorem dX0_sunComes_69 : decode cX0_sunComes 69 = .ok (.aload_n 0, 1) := dk_42 (dk_at dksX0_sunComes_2 21 rfl rfl)
theorem dX0_sunComes_70 : decode cX0_sunComes 70 = .ok (.iload_n 1, 1) := dk_27 (dk_at dksX0_sunComes_2 22 rfl rfl)
theorem dX0_sunComes_71 : decode cX0_sunComes 71 = .ok (.iload_n 2, 1) := dk_28 (dk_at dksX0_sunComes_2 23 rfl rfl)
theorem dX0_sunComes_72 : decode cX0_sunComes 72 = .ok (.iload_n 3, 1) := dk_29 (dk_at dksX0_sunComes_3 0 rfl rfl)
theorem dX0_sunComes_73 : decode cX0_sunComes 73 = .ok (.iload 4, 2) := dk_21 4 (dk_at dksX0_sunComes_3 1 rfl rfl)
theorem dX0_sunComes_75 : decode cX0_sunComes 75 = .ok (.iadd, 1) := dk_96 (dk_at dksX0_sunComes_3 3 rfl rfl)
theorem dX0_sunComes_76 : decode cX0_sunComes 76 = .ok (.aload_n 0, 1) := dk_42 (dk_at dksX0_sunComes_3 4 rfl rfl)
theorem dX0_sunComes_77 : decode cX0_sunComes 77 = .ok (.getfield 57, 3) := dk_180 0 57 (dk_at dksX0_sunComes_3 5 rfl rfl)
theorem dX0_sunComes_80 : decode cX0_sunComes 80 = .ok (.iload_n 1, 1) := dk_27 (dk_at dksX0_sunComes_3 8 rfl rfl)
theorem dX0_sunComes_81 : decode cX0_sunComes 81 = .ok (.aaload, 1) := dk_50 (dk_at dksX0_sunComes_3 9 rfl rfl)
theorem dX0_sunComes_82 : decode cX0_sunComes 82 = .ok (.iload_n 2, 1) := dk_28 (dk_at dksX0_sunComes_3 10 rfl rfl)
theorem dX0_sunComes_83 : decode cX0_sunComes 83 = .ok (.laload, 1) := dk_47 (dk_at dksX0_sunComes_3 11 rfl rfl)
theorem dX0_sunComes_84 : decode cX0_sunComes 84 = .ok (.ldc2_w 294, 3) := dk_20 1 38 (dk_at dksX0_sunComes_3 12 rfl rfl)
theorem dX0_sunComes_87 : decode cX0_sunComes 87 = .ok (.lmul, 1) := dk_105 (dk_at dksX0_sunComes_3 15 rfl rfl)
theorem dX0_sunComes_88 : decode cX0_sunComes 88 = .ok (.invokevirtual 296, 3) := dk_182 1 40 (dk_at dksX0_sunComes_3 16 rfl rfl)
theorem dX0_sunComes_91 : decode cX0_sunComes 91 = .ok (.aload_n 0, 1) := dk_42 (dk_at dksX0_sunComes_3 19 rfl rfl)
theorem dX0_sunComes_92 : decode cX0_sunComes 92 = .ok (.iload_n 1, 1) := dk_27 (dk_at dksX0_sunComes_3 20 rfl rfl)
theorem dX0_sunComes_93 : decode cX0_sunComes 93 = .ok (.iload_n 2, 1) := dk_28 (dk_at dksX0_sunComes_3 21 rfl rfl)
theorem dX0_sunComes_94 : decode cX0_sunComes 94 = .ok (.iload_n 3, 1) := dk_29 (dk_at dksX0_sunComes_3 22 rfl rfl)
theorem dX0_sunComes_95 : decode cX0_sunComes 95 = .ok (.aload_n 0, 1) := dk_42 (dk_at dksX0_sunComes_3 23 rfl rfl)
theorem dX0_sunComes_96 : decode cX0_sunComes 96 = .ok (.getfield 57, 3) := dk_180 0 57 (dk_at dksX0_sunComes_4 0 rfl rfl)
theorem dX0_sunComes_99 : decode cX0_sunComes 99 = .ok (.iload_n 1, 1) := dk_27 (dk_at dksX0_sunComes_4 3 rfl rfl)
theorem dX0_sunComes_100 : decode cX0_sunComes 100 = .ok (.aaload, 1) := dk_50 (dk_at dksX0_sunComes_4 4 rfl rfl)
theorem dX0_sunComes_101 : decode cX0_sunComes 101 = .ok (.iload_n 2, 1) := dk_28 (dk_at dksX0_sunComes_4 5 rfl rfl)
theorem dX0_sunComes_102 : decode cX0_sunComes 102 = .ok (.laload, 1) := dk_47 (dk_at dksX0_sunComes_4 6 rfl rfl)
theorem dX0_sunComes_103 : decode cX0_sunComes 103 = .ok (.ldc2_w 294, 3) := dk_20 1 38 (dk_at dksX0_sunComes_4 7 rfl rfl)
theorem dX0_sunComes_106 : decode cX0_sunComes 106 = .ok (.lmul, 1) := dk_105 (dk_at dksX0_sunComes_4 10 rfl rfl)
theorem dX0_sunComes_107 : decode cX0_sunComes 107 = .ok (.invokevirtual 296, 3) := dk_182 1 40 (dk_at dksX0_sunComes_4 11 rfl rfl)
theorem dX0_sunComes_110 : decode cX0_sunComes 110 = .ok (.iinc 2 1, 3) := dk_132 2 1 (dk_at dksX0_sunComes_4 14 rfl rfl)
theorem dX0_sunComes_113 : decode cX0_sunComes 113 = .ok (.goto (-95), 3) := dk_167 255 161 (dk_at dksX0_sunComes_4 17 rfl rfl)
theorem dX0_sunComes_116 : decode cX0_sunComes 116 = .ok (.iinc 1 1, 3) := dk_132 1 1 (dk_at dksX0_sunComes_4 20 rfl rfl)
theorem dX0_sunComes_119 : decode cX0_sunComes 119 = .ok (.goto (-109), 3) := dk_167 255 147 (dk_at dksX0_sunComes_5 0 rfl rfl)
theorem dX0_sunComes_122 : decode cX0_sunComes 122 = .ok (.aload_n 0, 1) := dk_42 (dk_at dksX0_sunComes_5 3 rfl rfl)
theorem dX0_sunComes_123 : decode cX0_sunComes 123 = .ok (.invokevirtual 281, 3) := dk_182 1 25 (dk_at dksX0_sunComes_5 4 rfl rfl)
theorem dX0_sunComes_126 : decode cX0_sunComes 126 = .ok (.return_, 1) := dk_177 (dk_at dksX0_sunComes_5 7 rfl rfl)
abbrev cX0_endsBy : ByteArray := prog_1_method_30_code
def yX0_endsBy : MethodName := ⟨RX0, "endsBy", "(IIIJ)V"⟩
def dkwX0_endsBy_4 : List UInt8 := [21, 8, 96, 167, 0, 5, 21, 7, 92, 47, 22, 4, 97, 80, 177]
abbrev dktX0_endsBy_4 : List UInt8 := dkwX0_endsBy_4 ++ []
def dkwX0_endsBy_3 : List UInt8 := [22, 4, 97, 181, 1, 31, 167, 0, 31, 42, 180, 0, 60, 21, 6, 50, 21, 8, 158, 0, 11, 16, 10]
abbrev dktX0_endsBy_3 : List UInt8 := dkwX0_endsBy_3 ++ dktX0_endsBy_4
def dkwX0_endsBy_2 : List UInt8 := [21, 7, 42, 180, 1, 28, 162, 0, 12, 21, 8, 42, 180, 1, 28, 161, 0, 17, 42, 89, 180, 1, 31]
abbrev dktX0_endsBy_2 : List UInt8 := dkwX0_endsBy_2 ++ dktX0_endsBy_3
def dkwX0_endsBy_1 : List UInt8 := [54, 7, 21, 6, 42, 180, 0, 245, 160, 0, 12, 28, 184, 0, 254, 4, 96, 167, 0, 4, 3, 54, 8]
abbrev dktX0_endsBy_1 : List UInt8 := dkwX0_endsBy_1 ++ dktX0_endsBy_2
def dkwX0_endsBy_0 : List UInt8 := [3, 27, 29, 100, 184, 0, 9, 54, 6, 21, 6, 154, 0, 12, 28, 184, 0, 251, 4, 96, 167, 0, 4, 3]
abbrev dktX0_endsBy_0 : List UInt8 := dkwX0_endsBy_0 ++ dktX0_endsBy_1
theorem dksX0_endsBy_0 : cX0_endsBy.data.toList.drop 0 = dktX0_endsBy_0 := by decide +kernel
theorem dksX0_endsBy_1 : cX0_endsBy.data.toList.drop 24 = dktX0_endsBy_1 := dk_seg dksX0_endsBy_0 24 rfl rfl
theorem dksX0_endsBy_2 : cX0_endsBy.data.toList.drop 47 = dktX0_endsBy_2 := dk_seg dksX0_endsBy_1 23 rfl rfl
theorem dksX0_endsBy_3 : cX0_endsBy.data.toList.drop 70 = dktX0_endsBy_3 := dk_seg dksX0_endsBy_2 23 rfl rfl
theorem dksX0_endsBy_4 : cX0_endsBy.data.toList.drop 93 = dktX0_endsBy_4 := dk_seg dksX0_endsBy_3 23 rfl rfl
theorem dX0_endsBy_0 : decode cX0_endsBy 0 = .ok (.iconst 0, 1) := dk_3 (dk_at dksX0_endsBy_0 0 rfl rfl)
theorem dX0_endsBy_1 : decode cX0_endsBy 1 = .ok (.iload_n 1, 1) := dk_27 (dk_at dksX0_endsBy_0 1 rfl rfl)
theorem dX0_endsBy_2 : decode cX0_endsBy 2 = .ok (.iload_n 3, 1) := dk_29 (dk_at dksX0_endsBy_0 2 rfl rfl)
theorem dX0_endsBy_3 : decode cX0_endsBy 3 = .ok (.isub, 1) := dk_100 (dk_at dksX0_endsBy_0 3 rfl rfl)
theorem dX0_endsBy_4 : decode cX0_endsBy 4 = .ok (.invokestatic 9, 3) := dk_184 0 9 (dk_at dksX0_endsBy_0 4 rfl rfl)
theorem dX0_endsBy_7 : decode cX0_endsBy 7 = .ok (.istore 6, 2) := dk_54 6 (dk_at dksX0_endsBy_0 7 rfl rfl)
theorem dX0_endsBy_9 : decode cX0_endsBy 9 = .ok (.iload 6, 2) := dk_21 6 (dk_at dksX0_endsBy_0 9 rfl rfl)
theorem dX0_endsBy_11 : decode cX0_endsBy 11 = .ok (.ifCond .ne 12, 3) := dk_154 0 12 (dk_at dksX0_endsBy_0 11 rfl rfl)
theorem dX0_endsBy_14 : decode cX0_endsBy 14 = .ok (.iload_n 2, 1) := dk_28 (dk_at dksX0_endsBy_0 14 rfl rfl)
theorem dX0_endsBy_15 : decode cX0_endsBy 15 = .ok (.invokestatic 251, 3) := dk_184 0 251 (dk_at dksX0_endsBy_0 15 rfl rfl)
theorem dX0_endsBy_18 : decode cX0_endsBy 18 = .ok (.iconst 1, 1) := dk_4 (dk_at dksX0_endsBy_0 18 rfl rfl)
theorem dX0_endsBy_19 : decode cX0_endsBy 19 = .ok (.iadd, 1) := dk_96 (dk_at dksX0_endsBy_0 19 rfl rfl)
theorem dX0_endsBy_20 : decode cX0_endsBy 20 = .ok (.goto 4, 3) := dk_167 0 4 (dk_at dksX0_endsBy_0 20 rfl rfl)
theorem dX0_endsBy_23 : decode cX0_endsBy 23 = .ok (.iconst 0, 1) := dk_3 (dk_at dksX0_endsBy_0 23 rfl rfl)
theorem dX0_endsBy_24 : decode cX0_endsBy 24 = .ok (.istore 7, 2) := dk_54 7 (dk_at dksX0_endsBy_1 0 rfl rfl)
theorem dX0_endsBy_26 : decode cX0_endsBy 26 = .ok (.iload 6, 2) := dk_21 6 (dk_at dksX0_endsBy_1 2 rfl rfl)
theorem dX0_endsBy_28 : decode cX0_endsBy 28 = .ok (.aload_n 0, 1) := dk_42 (dk_at dksX0_endsBy_1 4 rfl rfl)
theorem dX0_endsBy_29 : decode cX0_endsBy 29 = .ok (.getfield 245, 3) := dk_180 0 245 (dk_at dksX0_endsBy_1 5 rfl rfl)
theorem dX0_endsBy_32 : decode cX0_endsBy 32 = .ok (.if_icmp .ne 12, 3) := dk_160 0 12 (dk_at dksX0_endsBy_1 8 rfl rfl)
theorem dX0_endsBy_35 : decode cX0_endsBy 35 = .ok (.iload_n 2, 1) := dk_28 (dk_at dksX0_endsBy_1 11 rfl rfl)
theorem dX0_endsBy_36 : decode cX0_endsBy 36 = .ok (.invokestatic 254, 3) := dk_184 0 254 (dk_at dksX0_endsBy_1 12 rfl rfl)
theorem dX0_endsBy_39 : decode cX0_endsBy 39 = .ok (.iconst 1, 1) := dk_4 (dk_at dksX0_endsBy_1 15 rfl rfl)
theorem dX0_endsBy_40 : decode cX0_endsBy 40 = .ok (.iadd, 1) := dk_96 (dk_at dksX0_endsBy_1 16 rfl rfl)
theorem dX0_endsBy_41 : decode cX0_endsBy 41 = .ok (.goto 4, 3) := dk_167 0 4 (dk_at dksX0_endsBy_1 17 rfl rfl)
theorem dX0_endsBy_44 : decode cX0_endsBy 44 = .ok (.iconst 0, 1) := dk_3 (dk_at dksX0_endsBy_1 20 rfl rfl)
theorem dX0_endsBy_45 : decode cX0_endsBy 45 = .ok (.istore 8, 2) := dk_54 8 (dk_at dksX0_endsBy_1 21 rfl rfl)
theorem dX0_endsBy_47 : decode cX0_endsBy 47 = .ok (.iload 7, 2) := dk_21 7 (dk_at dksX0_endsBy_2 0 rfl rfl)
theorem dX0_endsBy_49 : decode cX0_endsBy 49 = .ok (.aload_n 0, 1) := dk_42 (dk_at dksX0_endsBy_2 2 rfl rfl)
theorem dX0_endsBy_50 : decode cX0_endsBy 50 = .ok (.getfield 284, 3) := dk_180 1 28 (dk_at dksX0_endsBy_2 3 rfl rfl)
theorem dX0_endsBy_53 : decode cX0_endsBy 53 = .ok (.if_icmp .ge 12, 3) := dk_162 0 12 (dk_at dksX0_endsBy_2 6 rfl rfl)
theorem dX0_endsBy_56 : decode cX0_endsBy 56 = .ok (.iload 8, 2) := dk_21 8 (dk_at dksX0_endsBy_2 9 rfl rfl)
theorem dX0_endsBy_58 : decode cX0_endsBy 58 = .ok (.aload_n 0, 1) := dk_42 (dk_at dksX0_endsBy_2 11 rfl rfl)
theorem dX0_endsBy_59 : decode cX0_endsBy 59 = .ok (.getfield 284, 3) := dk_180 1 28 (dk_at dksX0_endsBy_2 12 rfl rfl)
theorem dX0_endsBy_62 : decode cX0_endsBy 62 = .ok (.if_icmp .lt 17, 3) := dk_161 0 17 (dk_at dksX0_endsBy_2 15 rfl rfl)
theorem dX0_endsBy_65 : decode cX0_endsBy 65 = .ok (.aload_n 0, 1) := dk_42 (dk_at dksX0_endsBy_2 18 rfl rfl)
theorem dX0_endsBy_66 : decode cX0_endsBy 66 = .ok (.dup, 1) := dk_89 (dk_at dksX0_endsBy_2 19 rfl rfl)
theorem dX0_endsBy_67 : decode cX0_endsBy 67 = .ok (.getfield 287, 3) := dk_180 1 31 (dk_at dksX0_endsBy_2 20 rfl rfl)
theorem dX0_endsBy_70 : decode cX0_endsBy 70 = .ok (.lload 4, 2) := dk_22 4 (dk_at dksX0_endsBy_3 0 rfl rfl)
theorem dX0_endsBy_72 : decode cX0_endsBy 72 = .ok (.ladd, 1) := dk_97 (dk_at dksX0_endsBy_3 2 rfl rfl)
theorem dX0_endsBy_73 : decode cX0_endsBy 73 = .ok (.putfield 287, 3) := dk_181 1 31 (dk_at dksX0_endsBy_3 3 rfl rfl)
theorem dX0_endsBy_76 : decode cX0_endsBy 76 = .ok (.goto 31, 3) := dk_167 0 31 (dk_at dksX0_endsBy_3 6 rfl rfl)
theorem dX0_endsBy_79 : decode cX0_endsBy 79 = .ok (.aload_n 0, 1) := dk_42 (dk_at dksX0_endsBy_3 9 rfl rfl)
theorem dX0_endsBy_80 : decode cX0_endsBy 80 = .ok (.getfield 60, 3) := dk_180 0 60 (dk_at dksX0_endsBy_3 10 rfl rfl)
theorem dX0_endsBy_83 : decode cX0_endsBy 83 = .ok (.iload 6, 2) := dk_21 6 (dk_at dksX0_endsBy_3 13 rfl rfl)
theorem dX0_endsBy_85 : decode cX0_endsBy 85 = .ok (.aaload, 1) := dk_50 (dk_at dksX0_endsBy_3 15 rfl rfl)
theorem dX0_endsBy_86 : decode cX0_endsBy 86 = .ok (.iload 8, 2) := dk_21 8 (dk_at dksX0_endsBy_3 16 rfl rfl)
theorem dX0_endsBy_88 : decode cX0_endsBy 88 = .ok (.ifCond .le 11, 3) := dk_158 0 11 (dk_at dksX0_endsBy_3 18 rfl rfl)
theorem dX0_endsBy_91 : decode cX0_endsBy 91 = .ok (.bipush 10, 2) := dk_16 10 (dk_at dksX0_endsBy_3 21 rfl rfl)
theorem dX0_endsBy_93 : decode cX0_endsBy 93 = .ok (.iload 8, 2) := dk_21 8 (dk_at dksX0_endsBy_4 0 rfl rfl)
theorem dX0_endsBy_95 : decode cX0_endsBy 95 = .ok (.iadd, 1) := dk_96 (dk_at dksX0_endsBy_4 2 rfl rfl)
theorem dX0_endsBy_96 : decode cX0_endsBy 96 = .ok (.goto 5, 3) := dk_167 0 5 (dk_at dksX0_endsBy_4 3 rfl rfl)
theorem dX0_endsBy_99 : decode cX0_endsBy 99 = .ok (.iload 7, 2) := dk_21 7 (dk_at dksX0_endsBy_4 6 rfl rfl)
theorem dX0_endsBy_101 : decode cX0_endsBy 101 = .ok (.dup2, 1) := dk_92 (dk_at dksX0_endsBy_4 8 rfl rfl)
theorem dX0_endsBy_102 : decode cX0_endsBy 102 = .ok (.laload, 1) := dk_47 (dk_at dksX0_endsBy_4 9 rfl rfl)
theorem dX0_endsBy_103 : decode cX0_endsBy 103 = .ok (.lload 4, 2) := dk_22 4 (dk_at dksX0_endsBy_4 10 rfl rfl)
theorem dX0_endsBy_105 : decode cX0_endsBy 105 = .ok (.ladd, 1) := dk_97 (dk_at dksX0_endsBy_4 12 rfl rfl)
theorem dX0_endsBy_106 : decode cX0_endsBy 106 = .ok (.lastore, 1) := dk_80 (dk_at dksX0_endsBy_4 13 rfl rfl)
theorem dX0_endsBy_107 : decode cX0_endsBy 107 = .ok (.return_, 1) := dk_177 (dk_at dksX0_endsBy_4 14 rfl rfl)
abbrev cX0_chance : ByteArray := prog_1_method_34_code
def yX0_chance : MethodName := ⟨RX0, "chance", "(IIII)J"⟩
def dkwX0_chance_5 : List UInt8 := [133, 167, 0, 5, 22, 6, 173]
abbrev dktX0_chance_5 : List UInt8 := dkwX0_chance_5 ++ []
def dkwX0_chance_4 : List UInt8 := [167, 0, 11, 21, 8, 54, 5, 22, 9, 55, 6, 132, 8, 1, 167, 255, 182, 21, 4, 154, 0, 9, 21, 5]
abbrev dktX0_chance_4 : List UInt8 := dkwX0_chance_4 ++ dktX0_chance_5
def dkwX0_chance_3 : List UInt8 := [180, 0, 30, 180, 0, 103, 27, 50, 180, 0, 130, 182, 1, 65, 55, 9, 22, 9, 22, 6, 148, 157, 0, 6]
abbrev dktX0_chance_3 : List UInt8 := dkwX0_chance_3 ++ dktX0_chance_4
def dkwX0_chance_2 : List UInt8 := [162, 0, 18, 42, 180, 0, 67, 21, 9, 21, 8, 79, 132, 9, 1, 167, 255, 238, 42, 27, 28, 29, 42]
abbrev dktX0_chance_2 : List UInt8 := dkwX0_chance_2 ++ dktX0_chance_3
def dkwX0_chance_1 : List UInt8 := [54, 5, 20, 1, 63, 55, 6, 3, 54, 8, 21, 8, 16, 10, 163, 0, 73, 3, 54, 9, 21, 9, 29]
abbrev dktX0_chance_1 : List UInt8 := dkwX0_chance_1 ++ dktX0_chance_2
def dkwX0_chance_0 : List UInt8 := [42, 27, 28, 29, 182, 1, 60, 153, 0, 12, 21, 4, 5, 184, 0, 99, 154, 0, 7, 20, 1, 63, 173, 3]
abbrev dktX0_chance_0 : List UInt8 := dkwX0_chance_0 ++ dktX0_chance_1
theorem dksX0_chance_0 : cX0_chance.data.toList.drop 0 = dktX0_chance_0 := by decide +kernel
theorem dksX0_chance_1 : cX0_chance.data.toList.drop 24 = dktX0_chance_1 := dk_seg dksX0_chance_0 24 rfl rfl
theorem dksX0_chance_2 : cX0_chance.data.toList.drop 47 = dktX0_chance_2 := dk_seg dksX0_chance_1 23 rfl rfl
theorem dksX0_chance_3 : cX0_chance.data.toList.drop 70 = dktX0_chance_3 := dk_seg dksX0_chance_2 23 rfl rfl
theorem dksX0_chance_4 : cX0_chance.data.toList.drop 94 = dktX0_chance_4 := dk_seg dksX0_chance_3 24 rfl rfl
theorem dksX0_chance_5 : cX0_chance.data.toList.drop 118 = dktX0_chance_5 := dk_seg dksX0_chance_4 24 rfl rfl
theorem dX0_chance_0 : decode cX0_chance 0 = .ok (.aload_n 0, 1) := dk_42 (dk_at dksX0_chance_0 0 rfl rfl)
theorem dX0_chance_1 : decode cX0_chance 1 = .ok (.iload_n 1, 1) := dk_27 (dk_at dksX0_chance_0 1 rfl rfl)
theorem dX0_chance_2 : decode cX0_chance 2 = .ok (.iload_n 2, 1) := dk_28 (dk_at dksX0_chance_0 2 rfl rfl)
theorem dX0_chance_3 : decode cX0_chance 3 = .ok (.iload_n 3, 1) := dk_29 (dk_at dksX0_chance_0 3 rfl rfl)
theorem dX0_chance_4 : decode cX0_chance 4 = .ok (.invokevirtual 316, 3) := dk_182 1 60 (dk_at dksX0_chance_0 4 rfl rfl)
theorem dX0_chance_7 : decode cX0_chance 7 = .ok (.ifCond .eq 12, 3) := dk_153 0 12 (dk_at dksX0_chance_0 7 rfl rfl)
theorem dX0_chance_10 : decode cX0_chance 10 = .ok (.iload 4, 2) := dk_21 4 (dk_at dksX0_chance_0 10 rfl rfl)
theorem dX0_chance_12 : decode cX0_chance 12 = .ok (.iconst 2, 1) := dk_5 (dk_at dksX0_chance_0 12 rfl rfl)
theorem dX0_chance_13 : decode cX0_chance 13 = .ok (.invokestatic 99, 3) := dk_184 0 99 (dk_at dksX0_chance_0 13 rfl rfl)
theorem dX0_chance_16 : decode cX0_chance 16 = .ok (.ifCond .ne 7, 3) := dk_154 0 7 (dk_at dksX0_chance_0 16 rfl rfl)
theorem dX0_chance_19 : decode cX0_chance 19 = .ok (.ldc2_w 319, 3) := dk_20 1 63 (dk_at dksX0_chance_0 19 rfl rfl)
theorem dX0_chance_22 : decode cX0_chance 22 = .ok (.lreturn, 1) := dk_173 (dk_at dksX0_chance_0 22 rfl rfl)
theorem dX0_chance_23 : decode cX0_chance 23 = .ok (.iconst 0, 1) := dk_3 (dk_at dksX0_chance_0 23 rfl rfl)
theorem dX0_chance_24 : decode cX0_chance 24 = .ok (.istore 5, 2) := dk_54 5 (dk_at dksX0_chance_1 0 rfl rfl)
theorem dX0_chance_26 : decode cX0_chance 26 = .ok (.ldc2_w 319, 3) := dk_20 1 63 (dk_at dksX0_chance_1 2 rfl rfl)
theorem dX0_chance_29 : decode cX0_chance 29 = .ok (.lstore 6, 2) := dk_55 6 (dk_at dksX0_chance_1 5 rfl rfl)
theorem dX0_chance_31 : decode cX0_chance 31 = .ok (.iconst 0, 1) := dk_3 (dk_at dksX0_chance_1 7 rfl rfl)
theorem dX0_chance_32 : decode cX0_chance 32 = .ok (.istore 8, 2) := dk_54 8 (dk_at dksX0_chance_1 8 rfl rfl)
theorem dX0_chance_34 : decode cX0_chance 34 = .ok (.iload 8, 2) := dk_21 8 (dk_at dksX0_chance_1 10 rfl rfl)
theorem dX0_chance_36 : decode cX0_chance 36 = .ok (.bipush 10, 2) := dk_16 10 (dk_at dksX0_chance_1 12 rfl rfl)
theorem dX0_chance_38 : decode cX0_chance 38 = .ok (.if_icmp .gt 73, 3) := dk_163 0 73 (dk_at dksX0_chance_1 14 rfl rfl)
theorem dX0_chance_41 : decode cX0_chance 41 = .ok (.iconst 0, 1) := dk_3 (dk_at dksX0_chance_1 17 rfl rfl)
theorem dX0_chance_42 : decode cX0_chance 42 = .ok (.istore 9, 2) := dk_54 9 (dk_at dksX0_chance_1 18 rfl rfl)
theorem dX0_chance_44 : decode cX0_chance 44 = .ok (.iload 9, 2) := dk_21 9 (dk_at dksX0_chance_1 20 rfl rfl)
theorem dX0_chance_46 : decode cX0_chance 46 = .ok (.iload_n 3, 1) := dk_29 (dk_at dksX0_chance_1 22 rfl rfl)
theorem dX0_chance_47 : decode cX0_chance 47 = .ok (.if_icmp .ge 18, 3) := dk_162 0 18 (dk_at dksX0_chance_2 0 rfl rfl)
theorem dX0_chance_50 : decode cX0_chance 50 = .ok (.aload_n 0, 1) := dk_42 (dk_at dksX0_chance_2 3 rfl rfl)
theorem dX0_chance_51 : decode cX0_chance 51 = .ok (.getfield 67, 3) := dk_180 0 67 (dk_at dksX0_chance_2 4 rfl rfl)
theorem dX0_chance_54 : decode cX0_chance 54 = .ok (.iload 9, 2) := dk_21 9 (dk_at dksX0_chance_2 7 rfl rfl)
theorem dX0_chance_56 : decode cX0_chance 56 = .ok (.iload 8, 2) := dk_21 8 (dk_at dksX0_chance_2 9 rfl rfl)
theorem dX0_chance_58 : decode cX0_chance 58 = .ok (.iastore, 1) := dk_79 (dk_at dksX0_chance_2 11 rfl rfl)
theorem dX0_chance_59 : decode cX0_chance 59 = .ok (.iinc 9 1, 3) := dk_132 9 1 (dk_at dksX0_chance_2 12 rfl rfl)
theorem dX0_chance_62 : decode cX0_chance 62 = .ok (.goto (-18), 3) := dk_167 255 238 (dk_at dksX0_chance_2 15 rfl rfl)
theorem dX0_chance_65 : decode cX0_chance 65 = .ok (.aload_n 0, 1) := dk_42 (dk_at dksX0_chance_2 18 rfl rfl)
theorem dX0_chance_66 : decode cX0_chance 66 = .ok (.iload_n 1, 1) := dk_27 (dk_at dksX0_chance_2 19 rfl rfl)
theorem dX0_chance_67 : decode cX0_chance 67 = .ok (.iload_n 2, 1) := dk_28 (dk_at dksX0_chance_2 20 rfl rfl)
theorem dX0_chance_68 : decode cX0_chance 68 = .ok (.iload_n 3, 1) := dk_29 (dk_at dksX0_chance_2 21 rfl rfl)
theorem dX0_chance_69 : decode cX0_chance 69 = .ok (.aload_n 0, 1) := dk_42 (dk_at dksX0_chance_2 22 rfl rfl)
theorem dX0_chance_70 : decode cX0_chance 70 = .ok (.getfield 30, 3) := dk_180 0 30 (dk_at dksX0_chance_3 0 rfl rfl)
theorem dX0_chance_73 : decode cX0_chance 73 = .ok (.getfield 103, 3) := dk_180 0 103 (dk_at dksX0_chance_3 3 rfl rfl)
theorem dX0_chance_76 : decode cX0_chance 76 = .ok (.iload_n 1, 1) := dk_27 (dk_at dksX0_chance_3 6 rfl rfl)
theorem dX0_chance_77 : decode cX0_chance 77 = .ok (.aaload, 1) := dk_50 (dk_at dksX0_chance_3 7 rfl rfl)
theorem dX0_chance_78 : decode cX0_chance 78 = .ok (.getfield 130, 3) := dk_180 0 130 (dk_at dksX0_chance_3 8 rfl rfl)
theorem dX0_chance_81 : decode cX0_chance 81 = .ok (.invokevirtual 321, 3) := dk_182 1 65 (dk_at dksX0_chance_3 11 rfl rfl)
theorem dX0_chance_84 : decode cX0_chance 84 = .ok (.lstore 9, 2) := dk_55 9 (dk_at dksX0_chance_3 14 rfl rfl)
theorem dX0_chance_86 : decode cX0_chance 86 = .ok (.lload 9, 2) := dk_22 9 (dk_at dksX0_chance_3 16 rfl rfl)
theorem dX0_chance_88 : decode cX0_chance 88 = .ok (.lload 6, 2) := dk_22 6 (dk_at dksX0_chance_3 18 rfl rfl)
theorem dX0_chance_90 : decode cX0_chance 90 = .ok (.lcmp, 1) := dk_148 (dk_at dksX0_chance_3 20 rfl rfl)
theorem dX0_chance_91 : decode cX0_chance 91 = .ok (.ifCond .gt 6, 3) := dk_157 0 6 (dk_at dksX0_chance_3 21 rfl rfl)
theorem dX0_chance_94 : decode cX0_chance 94 = .ok (.goto 11, 3) := dk_167 0 11 (dk_at dksX0_chance_4 0 rfl rfl)
theorem dX0_chance_97 : decode cX0_chance 97 = .ok (.iload 8, 2) := dk_21 8 (dk_at dksX0_chance_4 3 rfl rfl)
theorem dX0_chance_99 : decode cX0_chance 99 = .ok (.istore 5, 2) := dk_54 5 (dk_at dksX0_chance_4 5 rfl rfl)
theorem dX0_chance_101 : decode cX0_chance 101 = .ok (.lload 9, 2) := dk_22 9 (dk_at dksX0_chance_4 7 rfl rfl)
theorem dX0_chance_103 : decode cX0_chance 103 = .ok (.lstore 6, 2) := dk_55 6 (dk_at dksX0_chance_4 9 rfl rfl)
theorem dX0_chance_105 : decode cX0_chance 105 = .ok (.iinc 8 1, 3) := dk_132 8 1 (dk_at dksX0_chance_4 11 rfl rfl)
theorem dX0_chance_108 : decode cX0_chance 108 = .ok (.goto (-74), 3) := dk_167 255 182 (dk_at dksX0_chance_4 14 rfl rfl)
theorem dX0_chance_111 : decode cX0_chance 111 = .ok (.iload 4, 2) := dk_21 4 (dk_at dksX0_chance_4 17 rfl rfl)
theorem dX0_chance_113 : decode cX0_chance 113 = .ok (.ifCond .ne 9, 3) := dk_154 0 9 (dk_at dksX0_chance_4 19 rfl rfl)
theorem dX0_chance_116 : decode cX0_chance 116 = .ok (.iload 5, 2) := dk_21 5 (dk_at dksX0_chance_4 22 rfl rfl)
theorem dX0_chance_118 : decode cX0_chance 118 = .ok (.i2l, 1) := dk_133 (dk_at dksX0_chance_5 0 rfl rfl)
theorem dX0_chance_119 : decode cX0_chance 119 = .ok (.goto 5, 3) := dk_167 0 5 (dk_at dksX0_chance_5 1 rfl rfl)
theorem dX0_chance_122 : decode cX0_chance 122 = .ok (.lload 6, 2) := dk_22 6 (dk_at dksX0_chance_5 4 rfl rfl)
theorem dX0_chance_124 : decode cX0_chance 124 = .ok (.lreturn, 1) := dk_173 (dk_at dksX0_chance_5 6 rfl rfl)
abbrev cX0_toAsk : ByteArray := prog_1_method_35_code
def yX0_toAsk : MethodName := ⟨RX0, "toAsk", "(IIII)J"⟩
def dkwX0_toAsk_7 : List UInt8 := [154, 0, 9, 21, 7, 133, 167, 0, 5, 22, 5, 173]
abbrev dktX0_toAsk_7 : List UInt8 := dkwX0_toAsk_7 ++ []
def dkwX0_toAsk_6 : List UInt8 := [167, 0, 16, 42, 180, 0, 63, 21, 8, 46, 54, 7, 22, 9, 55, 5, 132, 8, 1, 167, 255, 144, 21, 4]
abbrev dktX0_toAsk_6 : List UInt8 := dkwX0_toAsk_6 ++ dktX0_toAsk_7
def dkwX0_toAsk_5 : List UInt8 := [180, 0, 30, 180, 0, 103, 27, 50, 180, 0, 130, 182, 1, 65, 55, 9, 22, 9, 22, 5, 148, 157, 0, 6]
abbrev dktX0_toAsk_5 : List UInt8 := dkwX0_toAsk_5 ++ dktX0_toAsk_6
def dkwX0_toAsk_4 : List UInt8 := [21, 9, 46, 50, 180, 0, 151, 5, 100, 184, 0, 9, 79, 132, 9, 1, 167, 255, 204, 42, 27, 28, 29, 42]
abbrev dktX0_toAsk_4 : List UInt8 := dkwX0_toAsk_4 ++ dktX0_toAsk_5
def dkwX0_toAsk_3 : List UInt8 := [21, 9, 21, 8, 160, 0, 8, 16, 10, 167, 0, 27, 3, 42, 180, 0, 30, 180, 0, 113, 42, 180, 0, 63]
abbrev dktX0_toAsk_3 : List UInt8 := dkwX0_toAsk_3 ++ dktX0_toAsk_4
def dkwX0_toAsk_2 : List UInt8 := [3, 54, 8, 21, 8, 29, 162, 0, 112, 3, 54, 9, 21, 9, 29, 162, 0, 52, 42, 180, 0, 67, 21, 9]
abbrev dktX0_toAsk_2 : List UInt8 := dkwX0_toAsk_2 ++ dktX0_toAsk_3
def dkwX0_toAsk_1 : List UInt8 := [27, 28, 29, 42, 180, 0, 30, 180, 0, 103, 27, 50, 180, 0, 130, 182, 1, 65, 55, 5, 16, 254, 54, 7]
abbrev dktX0_toAsk_1 : List UInt8 := dkwX0_toAsk_1 ++ dktX0_toAsk_2
def dkwX0_toAsk_0 : List UInt8 := [42, 27, 28, 29, 182, 1, 60, 153, 0, 12, 21, 4, 5, 184, 0, 99, 154, 0, 7, 20, 1, 63, 173, 42]
abbrev dktX0_toAsk_0 : List UInt8 := dkwX0_toAsk_0 ++ dktX0_toAsk_1
theorem dksX0_toAsk_0 : cX0_toAsk.data.toList.drop 0 = dktX0_toAsk_0 := by decide +kernel
theorem dksX0_toAsk_1 : cX0_toAsk.data.toList.drop 24 = dktX0_toAsk_1 := dk_seg dksX0_toAsk_0 24 rfl rfl
theorem dksX0_toAsk_2 : cX0_toAsk.data.toList.drop 48 = dktX0_toAsk_2 := dk_seg dksX0_toAsk_1 24 rfl rfl
theorem dksX0_toAsk_3 : cX0_toAsk.data.toList.drop 72 = dktX0_toAsk_3 := dk_seg dksX0_toAsk_2 24 rfl rfl
theorem dksX0_toAsk_4 : cX0_toAsk.data.toList.drop 96 = dktX0_toAsk_4 := dk_seg dksX0_toAsk_3 24 rfl rfl
theorem dksX0_toAsk_5 : cX0_toAsk.data.toList.drop 120 = dktX0_toAsk_5 := dk_seg dksX0_toAsk_4 24 rfl rfl
theorem dksX0_toAsk_6 : cX0_toAsk.data.toList.drop 144 = dktX0_toAsk_6 := dk_seg dksX0_toAsk_5 24 rfl rfl
theorem dksX0_toAsk_7 : cX0_toAsk.data.toList.drop 168 = dktX0_toAsk_7 := dk_seg dksX0_toAsk_6 24 rfl rfl
theorem dX0_toAsk_0 : decode cX0_toAsk 0 = .ok (.aload_n 0, 1) := dk_42 (dk_at dksX0_toAsk_0 0 rfl rfl)
theorem dX0_toAsk_1 : decode cX0_toAsk 1 = .ok (.iload_n 1, 1) := dk_27 (dk_at dksX0_toAsk_0 1 rfl rfl)
theorem dX0_toAsk_2 : decode cX0_toAsk 2 = .ok (.iload_n 2, 1) := dk_28 (dk_at dksX0_toAsk_0 2 rfl rfl)
theorem dX0_toAsk_3 : decode cX0_toAsk 3 = .ok (.iload_n 3, 1) := dk_29 (dk_at dksX0_toAsk_0 3 rfl rfl)
theorem dX0_toAsk_4 : decode cX0_toAsk 4 = .ok (.invokevirtual 316, 3) := dk_182 1 60 (dk_at dksX0_toAsk_0 4 rfl rfl)
theorem dX0_toAsk_7 : decode cX0_toAsk 7 = .ok (.ifCond .eq 12, 3) := dk_153 0 12 (dk_at dksX0_toAsk_0 7 rfl rfl)
theorem dX0_toAsk_10 : decode cX0_toAsk 10 = .ok (.iload 4, 2) := dk_21 4 (dk_at dksX0_toAsk_0 10 rfl rfl)
theorem dX0_toAsk_12 : decode cX0_toAsk 12 = .ok (.iconst 2, 1) := dk_5 (dk_at dksX0_toAsk_0 12 rfl rfl)
theorem dX0_toAsk_13 : decode cX0_toAsk 13 = .ok (.invokestatic 99, 3) := dk_184 0 99 (dk_at dksX0_toAsk_0 13 rfl rfl)
theorem dX0_toAsk_16 : decode cX0_toAsk 16 = .ok (.ifCond .ne 7, 3) := dk_154 0 7 (dk_at dksX0_toAsk_0 16 rfl rfl)
theorem dX0_toAsk_19 : decode cX0_toAsk 19 = .ok (.ldc2_w 319, 3) := dk_20 1 63 (dk_at dksX0_toAsk_0 19 rfl rfl)
theorem dX0_toAsk_22 : decode cX0_toAsk 22 = .ok (.lreturn, 1) := dk_173 (dk_at dksX0_toAsk_0 22 rfl rfl)
theorem dX0_toAsk_23 : decode cX0_toAsk 23 = .ok (.aload_n 0, 1) := dk_42 (dk_at dksX0_toAsk_0 23 rfl rfl)
theorem dX0_toAsk_24 : decode cX0_toAsk 24 = .ok (.iload_n 1, 1) := dk_27 (dk_at dksX0_toAsk_1 0 rfl rfl)
theorem dX0_toAsk_25 : decode cX0_toAsk 25 = .ok (.iload_n 2, 1) := dk_28 (dk_at dksX0_toAsk_1 1 rfl rfl)
theorem dX0_toAsk_26 : decode cX0_toAsk 26 = .ok (.iload_n 3, 1) := dk_29 (dk_at dksX0_toAsk_1 2 rfl rfl)
theorem dX0_toAsk_27 : decode cX0_toAsk 27 = .ok (.aload_n 0, 1) := dk_42 (dk_at dksX0_toAsk_1 3 rfl rfl)
theorem dX0_toAsk_28 : decode cX0_toAsk 28 = .ok (.getfield 30, 3) := dk_180 0 30 (dk_at dksX0_toAsk_1 4 rfl rfl)
theorem dX0_toAsk_31 : decode cX0_toAsk 31 = .ok (.getfield 103, 3) := dk_180 0 103 (dk_at dksX0_toAsk_1 7 rfl rfl)
theorem dX0_toAsk_34 : decode cX0_toAsk 34 = .ok (.iload_n 1, 1) := dk_27 (dk_at dksX0_toAsk_1 10 rfl rfl)
theorem dX0_toAsk_35 : decode cX0_toAsk 35 = .ok (.aaload, 1) := dk_50 (dk_at dksX0_toAsk_1 11 rfl rfl)
theorem dX0_toAsk_36 : decode cX0_toAsk 36 = .ok (.getfield 130, 3) := dk_180 0 130 (dk_at dksX0_toAsk_1 12 rfl rfl)
theorem dX0_toAsk_39 : decode cX0_toAsk 39 = .ok (.invokevirtual 321, 3) := dk_182 1 65 (dk_at dksX0_toAsk_1 15 rfl rfl)
theorem dX0_toAsk_42 : decode cX0_toAsk 42 = .ok (.lstore 5, 2) := dk_55 5 (dk_at dksX0_toAsk_1 18 rfl rfl)
theorem dX0_toAsk_44 : decode cX0_toAsk 44 = .ok (.bipush (-2), 2) := dk_16 254 (dk_at dksX0_toAsk_1 20 rfl rfl)
theorem dX0_toAsk_46 : decode cX0_toAsk 46 = .ok (.istore 7, 2) := dk_54 7 (dk_at dksX0_toAsk_1 22 rfl rfl)
theorem dX0_toAsk_48 : decode cX0_toAsk 48 = .ok (.iconst 0, 1) := dk_3 (dk_at dksX0_toAsk_2 0 rfl rfl)
theorem dX0_toAsk_49 : decode cX0_toAsk 49 = .ok (.istore 8, 2) := dk_54 8 (dk_at dksX0_toAsk_2 1 rfl rfl)
theorem dX0_toAsk_51 : decode cX0_toAsk 51 = .ok (.iload 8, 2) := dk_21 8 (dk_at dksX0_toAsk_2 3 rfl rfl)
theorem dX0_toAsk_53 : decode cX0_toAsk 53 = .ok (.iload_n 3, 1) := dk_29 (dk_at dksX0_toAsk_2 5 rfl rfl)
theorem dX0_toAsk_54 : decode cX0_toAsk 54 = .ok (.if_icmp .ge 112, 3) := dk_162 0 112 (dk_at dksX0_toAsk_2 6 rfl rfl)
theorem dX0_toAsk_57 : decode cX0_toAsk 57 = .ok (.iconst 0, 1) := dk_3 (dk_at dksX0_toAsk_2 9 rfl rfl)
theorem dX0_toAsk_58 : decode cX0_toAsk 58 = .ok (.istore 9, 2) := dk_54 9 (dk_at dksX0_toAsk_2 10 rfl rfl)
theorem dX0_toAsk_60 : decode cX0_toAsk 60 = .ok (.iload 9, 2) := dk_21 9 (dk_at dksX0_toAsk_2 12 rfl rfl)
theorem dX0_toAsk_62 : decode cX0_toAsk 62 = .ok (.iload_n 3, 1) := dk_29 (dk_at dksX0_toAsk_2 14 rfl rfl)
theorem dX0_toAsk_63 : decode cX0_toAsk 63 = .ok (.if_icmp .ge 52, 3) := dk_162 0 52 (dk_at dksX0_toAsk_2 15 rfl rfl)
theorem dX0_toAsk_66 : decode cX0_toAsk 66 = .ok (.aload_n 0, 1) := dk_42 (dk_at dksX0_toAsk_2 18 rfl rfl)
theorem dX0_toAsk_67 : decode cX0_toAsk 67 = .ok (.getfield 67, 3) := dk_180 0 67 (dk_at dksX0_toAsk_2 19 rfl rfl)
theorem dX0_toAsk_70 : decode cX0_toAsk 70 = .ok (.iload 9, 2) := dk_21 9 (dk_at dksX0_toAsk_2 22 rfl rfl)
theorem dX0_toAsk_72 : decode cX0_toAsk 72 = .ok (.iload 9, 2) := dk_21 9 (dk_at dksX0_toAsk_3 0 rfl rfl)
theorem dX0_toAsk_74 : decode cX0_toAsk 74 = .ok (.iload 8, 2) := dk_21 8 (dk_at dksX0_toAsk_3 2 rfl rfl)
theorem dX0_toAsk_76 : decode cX0_toAsk 76 = .ok (.if_icmp .ne 8, 3) := dk_160 0 8 (dk_at dksX0_toAsk_3 4 rfl rfl)
theorem dX0_toAsk_79 : decode cX0_toAsk 79 = .ok (.bipush 10, 2) := dk_16 10 (dk_at dksX0_toAsk_3 7 rfl rfl)
theorem dX0_toAsk_81 : decode cX0_toAsk 81 = .ok (.goto 27, 3) := dk_167 0 27 (dk_at dksX0_toAsk_3 9 rfl rfl)
theorem dX0_toAsk_84 : decode cX0_toAsk 84 = .ok (.iconst 0, 1) := dk_3 (dk_at dksX0_toAsk_3 12 rfl rfl)
theorem dX0_toAsk_85 : decode cX0_toAsk 85 = .ok (.aload_n 0, 1) := dk_42 (dk_at dksX0_toAsk_3 13 rfl rfl)
theorem dX0_toAsk_86 : decode cX0_toAsk 86 = .ok (.getfield 30, 3) := dk_180 0 30 (dk_at dksX0_toAsk_3 14 rfl rfl)
theorem dX0_toAsk_89 : decode cX0_toAsk 89 = .ok (.getfield 113, 3) := dk_180 0 113 (dk_at dksX0_toAsk_3 17 rfl rfl)
theorem dX0_toAsk_92 : decode cX0_toAsk 92 = .ok (.aload_n 0, 1) := dk_42 (dk_at dksX0_toAsk_3 20 rfl rfl)
theorem dX0_toAsk_93 : decode cX0_toAsk 93 = .ok (.getfield 63, 3) := dk_180 0 63 (dk_at dksX0_toAsk_3 21 rfl rfl)
theorem dX0_toAsk_96 : decode cX0_toAsk 96 = .ok (.iload 9, 2) := dk_21 9 (dk_at dksX0_toAsk_4 0 rfl rfl)
theorem dX0_toAsk_98 : decode cX0_toAsk 98 = .ok (.iaload, 1) := dk_46 (dk_at dksX0_toAsk_4 2 rfl rfl)
theorem dX0_toAsk_99 : decode cX0_toAsk 99 = .ok (.aaload, 1) := dk_50 (dk_at dksX0_toAsk_4 3 rfl rfl)
theorem dX0_toAsk_100 : decode cX0_toAsk 100 = .ok (.getfield 151, 3) := dk_180 0 151 (dk_at dksX0_toAsk_4 4 rfl rfl)
theorem dX0_toAsk_103 : decode cX0_toAsk 103 = .ok (.iconst 2, 1) := dk_5 (dk_at dksX0_toAsk_4 7 rfl rfl)
theorem dX0_toAsk_104 : decode cX0_toAsk 104 = .ok (.isub, 1) := dk_100 (dk_at dksX0_toAsk_4 8 rfl rfl)
theorem dX0_toAsk_105 : decode cX0_toAsk 105 = .ok (.invokestatic 9, 3) := dk_184 0 9 (dk_at dksX0_toAsk_4 9 rfl rfl)
theorem dX0_toAsk_108 : decode cX0_toAsk 108 = .ok (.iastore, 1) := dk_79 (dk_at dksX0_toAsk_4 12 rfl rfl)
theorem dX0_toAsk_109 : decode cX0_toAsk 109 = .ok (.iinc 9 1, 3) := dk_132 9 1 (dk_at dksX0_toAsk_4 13 rfl rfl)
theorem dX0_toAsk_112 : decode cX0_toAsk 112 = .ok (.goto (-52), 3) := dk_167 255 204 (dk_at dksX0_toAsk_4 16 rfl rfl)
theorem dX0_toAsk_115 : decode cX0_toAsk 115 = .ok (.aload_n 0, 1) := dk_42 (dk_at dksX0_toAsk_4 19 rfl rfl)
theorem dX0_toAsk_116 : decode cX0_toAsk 116 = .ok (.iload_n 1, 1) := dk_27 (dk_at dksX0_toAsk_4 20 rfl rfl)
theorem dX0_toAsk_117 : decode cX0_toAsk 117 = .ok (.iload_n 2, 1) := dk_28 (dk_at dksX0_toAsk_4 21 rfl rfl)
theorem dX0_toAsk_118 : decode cX0_toAsk 118 = .ok (.iload_n 3, 1) := dk_29 (dk_at dksX0_toAsk_4 22 rfl rfl)
theorem dX0_toAsk_119 : decode cX0_toAsk 119 = .ok (.aload_n 0, 1) := dk_42 (dk_at dksX0_toAsk_4 23 rfl rfl)
theorem dX0_toAsk_120 : decode cX0_toAsk 120 = .ok (.getfield 30, 3) := dk_180 0 30 (dk_at dksX0_toAsk_5 0 rfl rfl)
theorem dX0_toAsk_123 : decode cX0_toAsk 123 = .ok (.getfield 103, 3) := dk_180 0 103 (dk_at dksX0_toAsk_5 3 rfl rfl)
theorem dX0_toAsk_126 : decode cX0_toAsk 126 = .ok (.iload_n 1, 1) := dk_27 (dk_at dksX0_toAsk_5 6 rfl rfl)
theorem dX0_toAsk_127 : decode cX0_toAsk 127 = .ok (.aaload, 1) := dk_50 (dk_at dksX0_toAsk_5 7 rfl rfl)
theorem dX0_toAsk_128 : decode cX0_toAsk 128 = .ok (.getfield 130, 3) := dk_180 0 130 (dk_at dksX0_toAsk_5 8 rfl rfl)
theorem dX0_toAsk_131 : decode cX0_toAsk 131 = .ok (.invokevirtual 321, 3) := dk_182 1 65 (dk_at dksX0_toAsk_5 11 rfl rfl)
theorem dX0_toAsk_134 : decode cX0_toAsk 134 = .ok (.lstore 9, 2) := dk_55 9 (dk_at dksX0_toAsk_5 14 rfl rfl)
theorem dX0_toAsk_136 : decode cX0_toAsk 136 = .ok (.lload 9, 2) := dk_22 9 (dk_at dksX0_toAsk_5 16 rfl rfl)
theorem dX0_toAsk_138 : decode cX0_toAsk 138 = .ok (.lload 5, 2) := dk_22 5 (dk_at dksX0_toAsk_5 18 rfl rfl)
theorem dX0_toAsk_140 : decode cX0_toAsk 140 = .ok (.lcmp, 1) := dk_148 (dk_at dksX0_toAsk_5 20 rfl rfl)
theorem dX0_toAsk_141 : decode cX0_toAsk 141 = .ok (.ifCond .gt 6, 3) := dk_157 0 6 (dk_at dksX0_toAsk_5 21 rfl rfl)
theorem dX0_toAsk_144 : decode cX0_toAsk 144 = .ok (.goto 16, 3) := dk_167 0 16 (dk_at dksX0_toAsk_6 0 rfl rfl)
theorem dX0_toAsk_147 : decode cX0_toAsk 147 = .ok (.aload_n 0, 1) := dk_42 (dk_at dksX0_toAsk_6 3 rfl rfl)
theorem dX0_toAsk_148 : decode cX0_toAsk 148 = .ok (.getfield 63, 3) := dk_180 0 63 (dk_at dksX0_toAsk_6 4 rfl rfl)
theorem dX0_toAsk_151 : decode cX0_toAsk 151 = .ok (.iload 8, 2) := dk_21 8 (dk_at dksX0_toAsk_6 7 rfl rfl)
theorem dX0_toAsk_153 : decode cX0_toAsk 153 = .ok (.iaload, 1) := dk_46 (dk_at dksX0_toAsk_6 9 rfl rfl)
theorem dX0_toAsk_154 : decode cX0_toAsk 154 = .ok (.istore 7, 2) := dk_54 7 (dk_at dksX0_toAsk_6 10 rfl rfl)
theorem dX0_toAsk_156 : decode cX0_toAsk 156 = .ok (.lload 9, 2) := dk_22 9 (dk_at dksX0_toAsk_6 12 rfl rfl)
theorem dX0_toAsk_158 : decode cX0_toAsk 158 = .ok (.lstore 5, 2) := dk_55 5 (dk_at dksX0_toAsk_6 14 rfl rfl)
theorem dX0_toAsk_160 : decode cX0_toAsk 160 = .ok (.iinc 8 1, 3) := dk_132 8 1 (dk_at dksX0_toAsk_6 16 rfl rfl)
theorem dX0_toAsk_163 : decode cX0_toAsk 163 = .ok (.goto (-112), 3) := dk_167 255 144 (dk_at dksX0_toAsk_6 19 rfl rfl)
theorem dX0_toAsk_166 : decode cX0_toAsk 166 = .ok (.iload 4, 2) := dk_21 4 (dk_at dksX0_toAsk_6 22 rfl rfl)
theorem dX0_toAsk_168 : decode cX0_toAsk 168 = .ok (.ifCond .ne 9, 3) := dk_154 0 9 (dk_at dksX0_toAsk_7 0 rfl rfl)
theorem dX0_toAsk_171 : decode cX0_toAsk 171 = .ok (.iload 7, 2) := dk_21 7 (dk_at dksX0_toAsk_7 3 rfl rfl)
theorem dX0_toAsk_173 : decode cX0_toAsk 173 = .ok (.i2l, 1) := dk_133 (dk_at dksX0_toAsk_7 5 rfl rfl)
theorem dX0_toAsk_174 : decode cX0_toAsk 174 = .ok (.goto 5, 3) := dk_167 0 5 (dk_at dksX0_toAsk_7 6 rfl rfl)
theorem dX0_toAsk_177 : decode cX0_toAsk 177 = .ok (.lload 5, 2) := dk_22 5 (dk_at dksX0_toAsk_7 9 rfl rfl)
theorem dX0_toAsk_179 : decode cX0_toAsk 179 = .ok (.lreturn, 1) := dk_173 (dk_at dksX0_toAsk_7 11 rfl rfl)
abbrev cX0_movesOut : ByteArray := prog_1_method_36_code
def yX0_movesOut : MethodName := ⟨RX0, "movesOut", "(IIII)J"⟩
def dkwX0_movesOut_5 : List UInt8 := [167, 255, 170, 21, 4, 154, 0, 9, 21, 5, 133, 167, 0, 5, 22, 6, 173]
abbrev dktX0_movesOut_5 : List UInt8 := dkwX0_movesOut_5 ++ []
def dkwX0_movesOut_4 : List UInt8 := [148, 155, 0, 6, 167, 0, 16, 42, 180, 0, 63, 21, 8, 46, 54, 5, 22, 10, 55, 6, 132, 8, 1]
abbrev dktX0_movesOut_4 : List UInt8 := dkwX0_movesOut_4 ++ dktX0_movesOut_5
def dkwX0_movesOut_3 : List UInt8 := [182, 1, 65, 55, 10, 42, 180, 0, 67, 21, 8, 21, 9, 79, 21, 5, 2, 159, 0, 14, 22, 10, 22, 6]
abbrev dktX0_movesOut_3 : List UInt8 := dkwX0_movesOut_3 ++ dktX0_movesOut_4
def dkwX0_movesOut_2 : List UInt8 := [180, 0, 67, 21, 8, 3, 79, 42, 27, 28, 29, 42, 180, 0, 30, 180, 0, 103, 27, 50, 180, 0, 130]
abbrev dktX0_movesOut_2 : List UInt8 := dkwX0_movesOut_2 ++ dktX0_movesOut_3
def dkwX0_movesOut_1 : List UInt8 := [54, 5, 9, 55, 6, 3, 54, 8, 21, 8, 29, 162, 0, 86, 42, 180, 0, 67, 21, 8, 46, 54, 9, 42]
abbrev dktX0_movesOut_1 : List UInt8 := dkwX0_movesOut_1 ++ dktX0_movesOut_2
def dkwX0_movesOut_0 : List UInt8 := [42, 27, 28, 29, 182, 1, 60, 153, 0, 12, 21, 4, 5, 184, 0, 99, 154, 0, 7, 20, 1, 63, 173, 2]
abbrev dktX0_movesOut_0 : List UInt8 := dkwX0_movesOut_0 ++ dktX0_movesOut_1
theorem dksX0_movesOut_0 : cX0_movesOut.data.toList.drop 0 = dktX0_movesOut_0 := by decide +kernel
theorem dksX0_movesOut_1 : cX0_movesOut.data.toList.drop 24 = dktX0_movesOut_1 := dk_seg dksX0_movesOut_0 24 rfl rfl
theorem dksX0_movesOut_2 : cX0_movesOut.data.toList.drop 48 = dktX0_movesOut_2 := dk_seg dksX0_movesOut_1 24 rfl rfl
theorem dksX0_movesOut_3 : cX0_movesOut.data.toList.drop 71 = dktX0_movesOut_3 := dk_seg dksX0_movesOut_2 23 rfl rfl
theorem dksX0_movesOut_4 : cX0_movesOut.data.toList.drop 95 = dktX0_movesOut_4 := dk_seg dksX0_movesOut_3 24 rfl rfl
theorem dksX0_movesOut_5 : cX0_movesOut.data.toList.drop 118 = dktX0_movesOut_5 := dk_seg dksX0_movesOut_4 23 rfl rfl
theorem dX0_movesOut_0 : decode cX0_movesOut 0 = .ok (.aload_n 0, 1) := dk_42 (dk_at dksX0_movesOut_0 0 rfl rfl)
theorem dX0_movesOut_1 : decode cX0_movesOut 1 = .ok (.iload_n 1, 1) := dk_27 (dk_at dksX0_movesOut_0 1 rfl rfl)
theorem dX0_movesOut_2 : decode cX0_movesOut 2 = .ok (.iload_n 2, 1) := dk_28 (dk_at dksX0_movesOut_0 2 rfl rfl)
theorem dX0_movesOut_3 : decode cX0_movesOut 3 = .ok (.iload_n 3, 1) := dk_29 (dk_at dksX0_movesOut_0 3 rfl rfl)
theorem dX0_movesOut_4 : decode cX0_movesOut 4 = .ok (.invokevirtual 316, 3) := dk_182 1 60 (dk_at dksX0_movesOut_0 4 rfl rfl)
theorem dX0_movesOut_7 : decode cX0_movesOut 7 = .ok (.ifCond .eq 12, 3) := dk_153 0 12 (dk_at dksX0_movesOut_0 7 rfl rfl)
theorem dX0_movesOut_10 : decode cX0_movesOut 10 = .ok (.iload 4, 2) := dk_21 4 (dk_at dksX0_movesOut_0 10 rfl rfl)
theorem dX0_movesOut_12 : decode cX0_movesOut 12 = .ok (.iconst 2, 1) := dk_5 (dk_at dksX0_movesOut_0 12 rfl rfl)
theorem dX0_movesOut_13 : decode cX0_movesOut 13 = .ok (.invokestatic 99, 3) := dk_184 0 99 (dk_at dksX0_movesOut_0 13 rfl rfl)
theorem dX0_movesOut_16 : decode cX0_movesOut 16 = .ok (.ifCond .ne 7, 3) := dk_154 0 7 (dk_at dksX0_movesOut_0 16 rfl rfl)
theorem dX0_movesOut_19 : decode cX0_movesOut 19 = .ok (.ldc2_w 319, 3) := dk_20 1 63 (dk_at dksX0_movesOut_0 19 rfl rfl)
theorem dX0_movesOut_22 : decode cX0_movesOut 22 = .ok (.lreturn, 1) := dk_173 (dk_at dksX0_movesOut_0 22 rfl rfl)
theorem dX0_movesOut_23 : decode cX0_movesOut 23 = .ok (.iconst (-1), 1) := dk_2 (dk_at dksX0_movesOut_0 23 rfl rfl)
theorem dX0_movesOut_24 : decode cX0_movesOut 24 = .ok (.istore 5, 2) := dk_54 5 (dk_at dksX0_movesOut_1 0 rfl rfl)
theorem dX0_movesOut_26 : decode cX0_movesOut 26 = .ok (.lconst 0, 1) := dk_9 (dk_at dksX0_movesOut_1 2 rfl rfl)
theorem dX0_movesOut_27 : decode cX0_movesOut 27 = .ok (.lstore 6, 2) := dk_55 6 (dk_at dksX0_movesOut_1 3 rfl rfl)
theorem dX0_movesOut_29 : decode cX0_movesOut 29 = .ok (.iconst 0, 1) := dk_3 (dk_at dksX0_movesOut_1 5 rfl rfl)
theorem dX0_movesOut_30 : decode cX0_movesOut 30 = .ok (.istore 8, 2) := dk_54 8 (dk_at dksX0_movesOut_1 6 rfl rfl)
theorem dX0_movesOut_32 : decode cX0_movesOut 32 = .ok (.iload 8, 2) := dk_21 8 (dk_at dksX0_movesOut_1 8 rfl rfl)
theorem dX0_movesOut_34 : decode cX0_movesOut 34 = .ok (.iload_n 3, 1) := dk_29 (dk_at dksX0_movesOut_1 10 rfl rfl)
theorem dX0_movesOut_35 : decode cX0_movesOut 35 = .ok (.if_icmp .ge 86, 3) := dk_162 0 86 (dk_at dksX0_movesOut_1 11 rfl rfl)
theorem dX0_movesOut_38 : decode cX0_movesOut 38 = .ok (.aload_n 0, 1) := dk_42 (dk_at dksX0_movesOut_1 14 rfl rfl)
theorem dX0_movesOut_39 : decode cX0_movesOut 39 = .ok (.getfield 67, 3) := dk_180 0 67 (dk_at dksX0_movesOut_1 15 rfl rfl)
theorem dX0_movesOut_42 : decode cX0_movesOut 42 = .ok (.iload 8, 2) := dk_21 8 (dk_at dksX0_movesOut_1 18 rfl rfl)
theorem dX0_movesOut_44 : decode cX0_movesOut 44 = .ok (.iaload, 1) := dk_46 (dk_at dksX0_movesOut_1 20 rfl rfl)
theorem dX0_movesOut_45 : decode cX0_movesOut 45 = .ok (.istore 9, 2) := dk_54 9 (dk_at dksX0_movesOut_1 21 rfl rfl)
theorem dX0_movesOut_47 : decode cX0_movesOut 47 = .ok (.aload_n 0, 1) := dk_42 (dk_at dksX0_movesOut_1 23 rfl rfl)
theorem dX0_movesOut_48 : decode cX0_movesOut 48 = .ok (.getfield 67, 3) := dk_180 0 67 (dk_at dksX0_movesOut_2 0 rfl rfl)
theorem dX0_movesOut_51 : decode cX0_movesOut 51 = .ok (.iload 8, 2) := dk_21 8 (dk_at dksX0_movesOut_2 3 rfl rfl)
theorem dX0_movesOut_53 : decode cX0_movesOut 53 = .ok (.iconst 0, 1) := dk_3 (dk_at dksX0_movesOut_2 5 rfl rfl)
theorem dX0_movesOut_54 : decode cX0_movesOut 54 = .ok (.iastore, 1) := dk_79 (dk_at dksX0_movesOut_2 6 rfl rfl)
theorem dX0_movesOut_55 : decode cX0_movesOut 55 = .ok (.aload_n 0, 1) := dk_42 (dk_at dksX0_movesOut_2 7 rfl rfl)
theorem dX0_movesOut_56 : decode cX0_movesOut 56 = .ok (.iload_n 1, 1) := dk_27 (dk_at dksX0_movesOut_2 8 rfl rfl)
theorem dX0_movesOut_57 : decode cX0_movesOut 57 = .ok (.iload_n 2, 1) := dk_28 (dk_at dksX0_movesOut_2 9 rfl rfl)
theorem dX0_movesOut_58 : decode cX0_movesOut 58 = .ok (.iload_n 3, 1) := dk_29 (dk_at dksX0_movesOut_2 10 rfl rfl)
theorem dX0_movesOut_59 : decode cX0_movesOut 59 = .ok (.aload_n 0, 1) := dk_42 (dk_at dksX0_movesOut_2 11 rfl rfl)
theorem dX0_movesOut_60 : decode cX0_movesOut 60 = .ok (.getfield 30, 3) := dk_180 0 30 (dk_at dksX0_movesOut_2 12 rfl rfl)
theorem dX0_movesOut_63 : decode cX0_movesOut 63 = .ok (.getfield 103, 3) := dk_180 0 103 (dk_at dksX0_movesOut_2 15 rfl rfl)
theorem dX0_movesOut_66 : decode cX0_movesOut 66 = .ok (.iload_n 1, 1) := dk_27 (dk_at dksX0_movesOut_2 18 rfl rfl)
theorem dX0_movesOut_67 : decode cX0_movesOut 67 = .ok (.aaload, 1) := dk_50 (dk_at dksX0_movesOut_2 19 rfl rfl)
theorem dX0_movesOut_68 : decode cX0_movesOut 68 = .ok (.getfield 130, 3) := dk_180 0 130 (dk_at dksX0_movesOut_2 20 rfl rfl)
theorem dX0_movesOut_71 : decode cX0_movesOut 71 = .ok (.invokevirtual 321, 3) := dk_182 1 65 (dk_at dksX0_movesOut_3 0 rfl rfl)
theorem dX0_movesOut_74 : decode cX0_movesOut 74 = .ok (.lstore 10, 2) := dk_55 10 (dk_at dksX0_movesOut_3 3 rfl rfl)
theorem dX0_movesOut_76 : decode cX0_movesOut 76 = .ok (.aload_n 0, 1) := dk_42 (dk_at dksX0_movesOut_3 5 rfl rfl)
theorem dX0_movesOut_77 : decode cX0_movesOut 77 = .ok (.getfield 67, 3) := dk_180 0 67 (dk_at dksX0_movesOut_3 6 rfl rfl)
theorem dX0_movesOut_80 : decode cX0_movesOut 80 = .ok (.iload 8, 2) := dk_21 8 (dk_at dksX0_movesOut_3 9 rfl rfl)
theorem dX0_movesOut_82 : decode cX0_movesOut 82 = .ok (.iload 9, 2) := dk_21 9 (dk_at dksX0_movesOut_3 11 rfl rfl)
theorem dX0_movesOut_84 : decode cX0_movesOut 84 = .ok (.iastore, 1) := dk_79 (dk_at dksX0_movesOut_3 13 rfl rfl)
theorem dX0_movesOut_85 : decode cX0_movesOut 85 = .ok (.iload 5, 2) := dk_21 5 (dk_at dksX0_movesOut_3 14 rfl rfl)
theorem dX0_movesOut_87 : decode cX0_movesOut 87 = .ok (.iconst (-1), 1) := dk_2 (dk_at dksX0_movesOut_3 16 rfl rfl)
theorem dX0_movesOut_88 : decode cX0_movesOut 88 = .ok (.if_icmp .eq 14, 3) := dk_159 0 14 (dk_at dksX0_movesOut_3 17 rfl rfl)
theorem dX0_movesOut_91 : decode cX0_movesOut 91 = .ok (.lload 10, 2) := dk_22 10 (dk_at dksX0_movesOut_3 20 rfl rfl)
theorem dX0_movesOut_93 : decode cX0_movesOut 93 = .ok (.lload 6, 2) := dk_22 6 (dk_at dksX0_movesOut_3 22 rfl rfl)
theorem dX0_movesOut_95 : decode cX0_movesOut 95 = .ok (.lcmp, 1) := dk_148 (dk_at dksX0_movesOut_4 0 rfl rfl)
theorem dX0_movesOut_96 : decode cX0_movesOut 96 = .ok (.ifCond .lt 6, 3) := dk_155 0 6 (dk_at dksX0_movesOut_4 1 rfl rfl)
theorem dX0_movesOut_99 : decode cX0_movesOut 99 = .ok (.goto 16, 3) := dk_167 0 16 (dk_at dksX0_movesOut_4 4 rfl rfl)
theorem dX0_movesOut_102 : decode cX0_movesOut 102 = .ok (.aload_n 0, 1) := dk_42 (dk_at dksX0_movesOut_4 7 rfl rfl)
theorem dX0_movesOut_103 : decode cX0_movesOut 103 = .ok (.getfield 63, 3) := dk_180 0 63 (dk_at dksX0_movesOut_4 8 rfl rfl)
theorem dX0_movesOut_106 : decode cX0_movesOut 106 = .ok (.iload 8, 2) := dk_21 8 (dk_at dksX0_movesOut_4 11 rfl rfl)
theorem dX0_movesOut_108 : decode cX0_movesOut 108 = .ok (.iaload, 1) := dk_46 (dk_at dksX0_movesOut_4 13 rfl rfl)
theorem dX0_movesOut_109 : decode cX0_movesOut 109 = .ok (.istore 5, 2) := dk_54 5 (dk_at dksX0_movesOut_4 14 rfl rfl)
theorem dX0_movesOut_111 : decode cX0_movesOut 111 = .ok (.lload 10, 2) := dk_22 10 (dk_at dksX0_movesOut_4 16 rfl rfl)
theorem dX0_movesOut_113 : decode cX0_movesOut 113 = .ok (.lstore 6, 2) := dk_55 6 (dk_at dksX0_movesOut_4 18 rfl rfl)
theorem dX0_movesOut_115 : decode cX0_movesOut 115 = .ok (.iinc 8 1, 3) := dk_132 8 1 (dk_at dksX0_movesOut_4 20 rfl rfl)
theorem dX0_movesOut_118 : decode cX0_movesOut 118 = .ok (.goto (-86), 3) := dk_167 255 170 (dk_at dksX0_movesOut_5 0 rfl rfl)
theorem dX0_movesOut_121 : decode cX0_movesOut 121 = .ok (.iload 4, 2) := dk_21 4 (dk_at dksX0_movesOut_5 3 rfl rfl)
theorem dX0_movesOut_123 : decode cX0_movesOut 123 = .ok (.ifCond .ne 9, 3) := dk_154 0 9 (dk_at dksX0_movesOut_5 5 rfl rfl)
theorem dX0_movesOut_126 : decode cX0_movesOut 126 = .ok (.iload 5, 2) := dk_21 5 (dk_at dksX0_movesOut_5 8 rfl rfl)
theorem dX0_movesOut_128 : decode cX0_movesOut 128 = .ok (.i2l, 1) := dk_133 (dk_at dksX0_movesOut_5 10 rfl rfl)
theorem dX0_movesOut_129 : decode cX0_movesOut 129 = .ok (.goto 5, 3) := dk_167 0 5 (dk_at dksX0_movesOut_5 11 rfl rfl)
theorem dX0_movesOut_132 : decode cX0_movesOut 132 = .ok (.lload 6, 2) := dk_22 6 (dk_at dksX0_movesOut_5 14 rfl rfl)
theorem dX0_movesOut_134 : decode cX0_movesOut 134 = .ok (.lreturn, 1) := dk_173 (dk_at dksX0_movesOut_5 16 rfl rfl)
abbrev cX0_few : ByteArray := prog_1_method_37_code
def yX0_few : MethodName := ⟨RX0, "few", "(IIII)I"⟩
def dkwX0_few_3 : List UInt8 := [155, 0, 6, 21, 5, 172, 132, 5, 1, 167, 255, 203, 16, 254, 172]
abbrev dktX0_few_3 : List UInt8 := dkwX0_few_3 ++ []
def dkwX0_few_2 : List UInt8 := [180, 0, 130, 182, 1, 65, 21, 4, 133, 16, 10, 28, 21, 5, 4, 96, 104, 4, 100, 184, 1, 50, 105, 148]
abbrev dktX0_few_2 : List UInt8 := dkwX0_few_2 ++ dktX0_few_3
def dkwX0_few_1 : List UInt8 := [54, 5, 21, 5, 29, 163, 0, 53, 42, 27, 28, 21, 5, 42, 180, 0, 30, 180, 0, 103, 27, 50]
abbrev dktX0_few_1 : List UInt8 := dkwX0_few_1 ++ dktX0_few_2
def dkwX0_few_0 : List UInt8 := [42, 27, 28, 29, 182, 1, 60, 153, 0, 14, 21, 4, 3, 16, 10, 184, 0, 120, 154, 0, 5, 2, 172, 3]
abbrev dktX0_few_0 : List UInt8 := dkwX0_few_0 ++ dktX0_few_1
theorem dksX0_few_0 : cX0_few.data.toList.drop 0 = dktX0_few_0 := by decide +kernel
theorem dksX0_few_1 : cX0_few.data.toList.drop 24 = dktX0_few_1 := dk_seg dksX0_few_0 24 rfl rfl
theorem dksX0_few_2 : cX0_few.data.toList.drop 46 = dktX0_few_2 := dk_seg dksX0_few_1 22 rfl rfl
theorem dksX0_few_3 : cX0_few.data.toList.drop 70 = dktX0_few_3 := dk_seg dksX0_few_2 24 rfl rfl
theorem dX0_few_0 : decode cX0_few 0 = .ok (.aload_n 0, 1) := dk_42 (dk_at dksX0_few_0 0 rfl rfl)
theorem dX0_few_1 : decode cX0_few 1 = .ok (.iload_n 1, 1) := dk_27 (dk_at dksX0_few_0 1 rfl rfl)
theorem dX0_few_2 : decode cX0_few 2 = .ok (.iload_n 2, 1) := dk_28 (dk_at dksX0_few_0 2 rfl rfl)
theorem dX0_few_3 : decode cX0_few 3 = .ok (.iload_n 3, 1) := dk_29 (dk_at dksX0_few_0 3 rfl rfl)
theorem dX0_few_4 : decode cX0_few 4 = .ok (.invokevirtual 316, 3) := dk_182 1 60 (dk_at dksX0_few_0 4 rfl rfl)
theorem dX0_few_7 : decode cX0_few 7 = .ok (.ifCond .eq 14, 3) := dk_153 0 14 (dk_at dksX0_few_0 7 rfl rfl)
theorem dX0_few_10 : decode cX0_few 10 = .ok (.iload 4, 2) := dk_21 4 (dk_at dksX0_few_0 10 rfl rfl)
theorem dX0_few_12 : decode cX0_few 12 = .ok (.iconst 0, 1) := dk_3 (dk_at dksX0_few_0 12 rfl rfl)
theorem dX0_few_13 : decode cX0_few 13 = .ok (.bipush 10, 2) := dk_16 10 (dk_at dksX0_few_0 13 rfl rfl)
theorem dX0_few_15 : decode cX0_few 15 = .ok (.invokestatic 120, 3) := dk_184 0 120 (dk_at dksX0_few_0 15 rfl rfl)
theorem dX0_few_18 : decode cX0_few 18 = .ok (.ifCond .ne 5, 3) := dk_154 0 5 (dk_at dksX0_few_0 18 rfl rfl)
theorem dX0_few_21 : decode cX0_few 21 = .ok (.iconst (-1), 1) := dk_2 (dk_at dksX0_few_0 21 rfl rfl)
theorem dX0_few_22 : decode cX0_few 22 = .ok (.ireturn, 1) := dk_172 (dk_at dksX0_few_0 22 rfl rfl)
theorem dX0_few_23 : decode cX0_few 23 = .ok (.iconst 0, 1) := dk_3 (dk_at dksX0_few_0 23 rfl rfl)
theorem dX0_few_24 : decode cX0_few 24 = .ok (.istore 5, 2) := dk_54 5 (dk_at dksX0_few_1 0 rfl rfl)
theorem dX0_few_26 : decode cX0_few 26 = .ok (.iload 5, 2) := dk_21 5 (dk_at dksX0_few_1 2 rfl rfl)
theorem dX0_few_28 : decode cX0_few 28 = .ok (.iload_n 3, 1) := dk_29 (dk_at dksX0_few_1 4 rfl rfl)
theorem dX0_few_29 : decode cX0_few 29 = .ok (.if_icmp .gt 53, 3) := dk_163 0 53 (dk_at dksX0_few_1 5 rfl rfl)
theorem dX0_few_32 : decode cX0_few 32 = .ok (.aload_n 0, 1) := dk_42 (dk_at dksX0_few_1 8 rfl rfl)
theorem dX0_few_33 : decode cX0_few 33 = .ok (.iload_n 1, 1) := dk_27 (dk_at dksX0_few_1 9 rfl rfl)
theorem dX0_few_34 : decode cX0_few 34 = .ok (.iload_n 2, 1) := dk_28 (dk_at dksX0_few_1 10 rfl rfl)
theorem dX0_few_35 : decode cX0_few 35 = .ok (.iload 5, 2) := dk_21 5 (dk_at dksX0_few_1 11 rfl rfl)
theorem dX0_few_37 : decode cX0_few 37 = .ok (.aload_n 0, 1) := dk_42 (dk_at dksX0_few_1 13 rfl rfl)
theorem dX0_few_38 : decode cX0_few 38 = .ok (.getfield 30, 3) := dk_180 0 30 (dk_at dksX0_few_1 14 rfl rfl)
theorem dX0_few_41 : decode cX0_few 41 = .ok (.getfield 103, 3) := dk_180 0 103 (dk_at dksX0_few_1 17 rfl rfl)
theorem dX0_few_44 : decode cX0_few 44 = .ok (.iload_n 1, 1) := dk_27 (dk_at dksX0_few_1 20 rfl rfl)
theorem dX0_few_45 : decode cX0_few 45 = .ok (.aaload, 1) := dk_50 (dk_at dksX0_few_1 21 rfl rfl)
theorem dX0_few_46 : decode cX0_few 46 = .ok (.getfield 130, 3) := dk_180 0 130 (dk_at dksX0_few_2 0 rfl rfl)
theorem dX0_few_49 : decode cX0_few 49 = .ok (.invokevirtual 321, 3) := dk_182 1 65 (dk_at dksX0_few_2 3 rfl rfl)
theorem dX0_few_52 : decode cX0_few 52 = .ok (.iload 4, 2) := dk_21 4 (dk_at dksX0_few_2 6 rfl rfl)
theorem dX0_few_54 : decode cX0_few 54 = .ok (.i2l, 1) := dk_133 (dk_at dksX0_few_2 8 rfl rfl)
theorem dX0_few_55 : decode cX0_few 55 = .ok (.bipush 10, 2) := dk_16 10 (dk_at dksX0_few_2 9 rfl rfl)
theorem dX0_few_57 : decode cX0_few 57 = .ok (.iload_n 2, 1) := dk_28 (dk_at dksX0_few_2 11 rfl rfl)
theorem dX0_few_58 : decode cX0_few 58 = .ok (.iload 5, 2) := dk_21 5 (dk_at dksX0_few_2 12 rfl rfl)
theorem dX0_few_60 : decode cX0_few 60 = .ok (.iconst 1, 1) := dk_4 (dk_at dksX0_few_2 14 rfl rfl)
theorem dX0_few_61 : decode cX0_few 61 = .ok (.iadd, 1) := dk_96 (dk_at dksX0_few_2 15 rfl rfl)
theorem dX0_few_62 : decode cX0_few 62 = .ok (.imul, 1) := dk_104 (dk_at dksX0_few_2 16 rfl rfl)
theorem dX0_few_63 : decode cX0_few 63 = .ok (.iconst 1, 1) := dk_4 (dk_at dksX0_few_2 17 rfl rfl)
theorem dX0_few_64 : decode cX0_few 64 = .ok (.isub, 1) := dk_100 (dk_at dksX0_few_2 18 rfl rfl)
theorem dX0_few_65 : decode cX0_few 65 = .ok (.invokestatic 306, 3) := dk_184 1 50 (dk_at dksX0_few_2 19 rfl rfl)
theorem dX0_few_68 : decode cX0_few 68 = .ok (.lmul, 1) := dk_105 (dk_at dksX0_few_2 22 rfl rfl)
theorem dX0_few_69 : decode cX0_few 69 = .ok (.lcmp, 1) := dk_148 (dk_at dksX0_few_2 23 rfl rfl)
theorem dX0_few_70 : decode cX0_few 70 = .ok (.ifCond .lt 6, 3) := dk_155 0 6 (dk_at dksX0_few_3 0 rfl rfl)
theorem dX0_few_73 : decode cX0_few 73 = .ok (.iload 5, 2) := dk_21 5 (dk_at dksX0_few_3 3 rfl rfl)
theorem dX0_few_75 : decode cX0_few 75 = .ok (.ireturn, 1) := dk_172 (dk_at dksX0_few_3 5 rfl rfl)
theorem dX0_few_76 : decode cX0_few 76 = .ok (.iinc 5 1, 3) := dk_132 5 1 (dk_at dksX0_few_3 6 rfl rfl)
theorem dX0_few_79 : decode cX0_few 79 = .ok (.goto (-53), 3) := dk_167 255 203 (dk_at dksX0_few_3 9 rfl rfl)
theorem dX0_few_82 : decode cX0_few 82 = .ok (.bipush (-2), 2) := dk_16 254 (dk_at dksX0_few_3 12 rfl rfl)
theorem dX0_few_84 : decode cX0_few 84 = .ok (.ireturn, 1) := dk_172 (dk_at dksX0_few_3 14 rfl rfl)
abbrev cX0_pot : ByteArray := prog_1_method_38_code
def yX0_pot : MethodName := ⟨RX0, "pot", "(IIII)J"⟩
def dkwX0_pot_2 : List UInt8 := [180, 0, 130, 182, 1, 65, 101, 173]
abbrev dktX0_pot_2 : List UInt8 := dkwX0_pot_2 ++ []
def dkwX0_pot_1 : List UInt8 := [173, 42, 27, 28, 29, 21, 4, 182, 1, 65, 42, 27, 28, 29, 42, 180, 0, 30, 180, 0, 103, 27, 50]
abbrev dktX0_pot_1 : List UInt8 := dkwX0_pot_1 ++ dktX0_pot_2
def dkwX0_pot_0 : List UInt8 := [42, 27, 28, 29, 182, 1, 60, 153, 0, 14, 21, 4, 7, 16, 24, 184, 0, 120, 154, 0, 7, 20, 1, 69]
abbrev dktX0_pot_0 : List UInt8 := dkwX0_pot_0 ++ dktX0_pot_1
theorem dksX0_pot_0 : cX0_pot.data.toList.drop 0 = dktX0_pot_0 := by decide +kernel
theorem dksX0_pot_1 : cX0_pot.data.toList.drop 24 = dktX0_pot_1 := dk_seg dksX0_pot_0 24 rfl rfl
theorem dksX0_pot_2 : cX0_pot.data.toList.drop 47 = dktX0_pot_2 := dk_seg dksX0_pot_1 23 rfl rfl
theorem dX0_pot_0 : decode cX0_pot 0 = .ok (.aload_n 0, 1) := dk_42 (dk_at dksX0_pot_0 0 rfl rfl)
theorem dX0_pot_1 : decode cX0_pot 1 = .ok (.iload_n 1, 1) := dk_27 (dk_at dksX0_pot_0 1 rfl rfl)
theorem dX0_pot_2 : decode cX0_pot 2 = .ok (.iload_n 2, 1) := dk_28 (dk_at dksX0_pot_0 2 rfl rfl)
theorem dX0_pot_3 : decode cX0_pot 3 = .ok (.iload_n 3, 1) := dk_29 (dk_at dksX0_pot_0 3 rfl rfl)
theorem dX0_pot_4 : decode cX0_pot 4 = .ok (.invokevirtual 316, 3) := dk_182 1 60 (dk_at dksX0_pot_0 4 rfl rfl)
theorem dX0_pot_7 : decode cX0_pot 7 = .ok (.ifCond .eq 14, 3) := dk_153 0 14 (dk_at dksX0_pot_0 7 rfl rfl)
theorem dX0_pot_10 : decode cX0_pot 10 = .ok (.iload 4, 2) := dk_21 4 (dk_at dksX0_pot_0 10 rfl rfl)
theorem dX0_pot_12 : decode cX0_pot 12 = .ok (.iconst 4, 1) := dk_7 (dk_at dksX0_pot_0 12 rfl rfl)
theorem dX0_pot_13 : decode cX0_pot 13 = .ok (.bipush 24, 2) := dk_16 24 (dk_at dksX0_pot_0 13 rfl rfl)
theorem dX0_pot_15 : decode cX0_pot 15 = .ok (.invokestatic 120, 3) := dk_184 0 120 (dk_at dksX0_pot_0 15 rfl rfl)
theorem dX0_pot_18 : decode cX0_pot 18 = .ok (.ifCond .ne 7, 3) := dk_154 0 7 (dk_at dksX0_pot_0 18 rfl rfl)
theorem dX0_pot_21 : decode cX0_pot 21 = .ok (.ldc2_w 325, 3) := dk_20 1 69 (dk_at dksX0_pot_0 21 rfl rfl)
theorem dX0_pot_24 : decode cX0_pot 24 = .ok (.lreturn, 1) := dk_173 (dk_at dksX0_pot_1 0 rfl rfl)
theorem dX0_pot_25 : decode cX0_pot 25 = .ok (.aload_n 0, 1) := dk_42 (dk_at dksX0_pot_1 1 rfl rfl)
theorem dX0_pot_26 : decode cX0_pot 26 = .ok (.iload_n 1, 1) := dk_27 (dk_at dksX0_pot_1 2 rfl rfl)
theorem dX0_pot_27 : decode cX0_pot 27 = .ok (.iload_n 2, 1) := dk_28 (dk_at dksX0_pot_1 3 rfl rfl)
theorem dX0_pot_28 : decode cX0_pot 28 = .ok (.iload_n 3, 1) := dk_29 (dk_at dksX0_pot_1 4 rfl rfl)
theorem dX0_pot_29 : decode cX0_pot 29 = .ok (.iload 4, 2) := dk_21 4 (dk_at dksX0_pot_1 5 rfl rfl)
theorem dX0_pot_31 : decode cX0_pot 31 = .ok (.invokevirtual 321, 3) := dk_182 1 65 (dk_at dksX0_pot_1 7 rfl rfl)
theorem dX0_pot_34 : decode cX0_pot 34 = .ok (.aload_n 0, 1) := dk_42 (dk_at dksX0_pot_1 10 rfl rfl)
theorem dX0_pot_35 : decode cX0_pot 35 = .ok (.iload_n 1, 1) := dk_27 (dk_at dksX0_pot_1 11 rfl rfl)
theorem dX0_pot_36 : decode cX0_pot 36 = .ok (.iload_n 2, 1) := dk_28 (dk_at dksX0_pot_1 12 rfl rfl)
theorem dX0_pot_37 : decode cX0_pot 37 = .ok (.iload_n 3, 1) := dk_29 (dk_at dksX0_pot_1 13 rfl rfl)
theorem dX0_pot_38 : decode cX0_pot 38 = .ok (.aload_n 0, 1) := dk_42 (dk_at dksX0_pot_1 14 rfl rfl)
theorem dX0_pot_39 : decode cX0_pot 39 = .ok (.getfield 30, 3) := dk_180 0 30 (dk_at dksX0_pot_1 15 rfl rfl)
theorem dX0_pot_42 : decode cX0_pot 42 = .ok (.getfield 103, 3) := dk_180 0 103 (dk_at dksX0_pot_1 18 rfl rfl)
theorem dX0_pot_45 : decode cX0_pot 45 = .ok (.iload_n 1, 1) := dk_27 (dk_at dksX0_pot_1 21 rfl rfl)
theorem dX0_pot_46 : decode cX0_pot 46 = .ok (.aaload, 1) := dk_50 (dk_at dksX0_pot_1 22 rfl rfl)
theorem dX0_pot_47 : decode cX0_pot 47 = .ok (.getfield 130, 3) := dk_180 0 130 (dk_at dksX0_pot_2 0 rfl rfl)
theorem dX0_pot_50 : decode cX0_pot 50 = .ok (.invokevirtual 321, 3) := dk_182 1 65 (dk_at dksX0_pot_2 3 rfl rfl)
theorem dX0_pot_53 : decode cX0_pot 53 = .ok (.lsub, 1) := dk_101 (dk_at dksX0_pot_2 6 rfl rfl)
theorem dX0_pot_54 : decode cX0_pot 54 = .ok (.lreturn, 1) := dk_173 (dk_at dksX0_pot_2 7 rfl rfl)
abbrev cX0_ruleFor : ByteArray := prog_1_method_39_code
def yX0_ruleFor : MethodName := ⟨RX0, "ruleFor", "(IIIII)J"⟩
def dkwX0_ruleFor_5 : List UInt8 := [21, 6, 133, 167, 0, 5, 22, 7, 173]
abbrev dktX0_ruleFor_5 : List UInt8 := dkwX0_ruleFor_5 ++ []
def dkwX0_ruleFor_4 : List UInt8 := [21, 9, 54, 6, 22, 10, 55, 7, 132, 9, 1, 167, 255, 200, 42, 3, 181, 1, 9, 21, 5, 154, 0, 9]
abbrev dktX0_ruleFor_4 : List UInt8 := dkwX0_ruleFor_4 ++ dktX0_ruleFor_5
def dkwX0_ruleFor_3 : List UInt8 := [180, 0, 103, 27, 50, 180, 0, 130, 182, 1, 65, 55, 10, 22, 10, 22, 7, 148, 157, 0, 6, 167, 0, 11]
abbrev dktX0_ruleFor_3 : List UInt8 := dkwX0_ruleFor_3 ++ dktX0_ruleFor_4
def dkwX0_ruleFor_2 : List UInt8 := [3, 54, 9, 21, 9, 16, 24, 163, 0, 55, 42, 21, 9, 181, 1, 12, 42, 27, 28, 29, 42, 180, 0, 30]
abbrev dktX0_ruleFor_2 : List UInt8 := dkwX0_ruleFor_2 ++ dktX0_ruleFor_3
def dkwX0_ruleFor_1 : List UInt8 := [184, 0, 99, 154, 0, 7, 20, 1, 63, 173, 3, 54, 6, 20, 1, 63, 55, 7, 42, 21, 4, 181, 1, 9]
abbrev dktX0_ruleFor_1 : List UInt8 := dkwX0_ruleFor_1 ++ dktX0_ruleFor_2
def dkwX0_ruleFor_0 : List UInt8 := [42, 27, 28, 29, 182, 1, 60, 153, 0, 23, 21, 4, 4, 16, 9, 184, 0, 120, 153, 0, 12, 21, 5, 5]
abbrev dktX0_ruleFor_0 : List UInt8 := dkwX0_ruleFor_0 ++ dktX0_ruleFor_1
theorem dksX0_ruleFor_0 : cX0_ruleFor.data.toList.drop 0 = dktX0_ruleFor_0 := by decide +kernel
theorem dksX0_ruleFor_1 : cX0_ruleFor.data.toList.drop 24 = dktX0_ruleFor_1 := dk_seg dksX0_ruleFor_0 24 rfl rfl
theorem dksX0_ruleFor_2 : cX0_ruleFor.data.toList.drop 48 = dktX0_ruleFor_2 := dk_seg dksX0_ruleFor_1 24 rfl rfl
theorem dksX0_ruleFor_3 : cX0_ruleFor.data.toList.drop 72 = dktX0_ruleFor_3 := dk_seg dksX0_ruleFor_2 24 rfl rfl
theorem dksX0_ruleFor_4 : cX0_ruleFor.data.toList.drop 96 = dktX0_ruleFor_4 := dk_seg dksX0_ruleFor_3 24 rfl rfl
theorem dksX0_ruleFor_5 : cX0_ruleFor.data.toList.drop 120 = dktX0_ruleFor_5 := dk_seg dksX0_ruleFor_4 24 rfl rfl
theorem dX0_ruleFor_0 : decode cX0_ruleFor 0 = .ok (.aload_n 0, 1) := dk_42 (dk_at dksX0_ruleFor_0 0 rfl rfl)
theorem dX0_ruleFor_1 : decode cX0_ruleFor 1 = .ok (.iload_n 1, 1) := dk_27 (dk_at dksX0_ruleFor_0 1 rfl rfl)
theorem dX0_ruleFor_2 : decode cX0_ruleFor 2 = .ok (.iload_n 2, 1) := dk_28 (dk_at dksX0_ruleFor_0 2 rfl rfl)
theorem dX0_ruleFor_3 : decode cX0_ruleFor 3 = .ok (.iload_n 3, 1) := dk_29 (dk_at dksX0_ruleFor_0 3 rfl rfl)
theorem dX0_ruleFor_4 : decode cX0_ruleFor 4 = .ok (.invokevirtual 316, 3) := dk_182 1 60 (dk_at dksX0_ruleFor_0 4 rfl rfl)
theorem dX0_ruleFor_7 : decode cX0_ruleFor 7 = .ok (.ifCond .eq 23, 3) := dk_153 0 23 (dk_at dksX0_ruleFor_0 7 rfl rfl)
theorem dX0_ruleFor_10 : decode cX0_ruleFor 10 = .ok (.iload 4, 2) := dk_21 4 (dk_at dksX0_ruleFor_0 10 rfl rfl)
theorem dX0_ruleFor_12 : decode cX0_ruleFor 12 = .ok (.iconst 1, 1) := dk_4 (dk_at dksX0_ruleFor_0 12 rfl rfl)
theorem dX0_ruleFor_13 : decode cX0_ruleFor 13 = .ok (.bipush 9, 2) := dk_16 9 (dk_at dksX0_ruleFor_0 13 rfl rfl)
theorem dX0_ruleFor_15 : decode cX0_ruleFor 15 = .ok (.invokestatic 120, 3) := dk_184 0 120 (dk_at dksX0_ruleFor_0 15 rfl rfl)
theorem dX0_ruleFor_18 : decode cX0_ruleFor 18 = .ok (.ifCond .eq 12, 3) := dk_153 0 12 (dk_at dksX0_ruleFor_0 18 rfl rfl)
theorem dX0_ruleFor_21 : decode cX0_ruleFor 21 = .ok (.iload 5, 2) := dk_21 5 (dk_at dksX0_ruleFor_0 21 rfl rfl)
theorem dX0_ruleFor_23 : decode cX0_ruleFor 23 = .ok (.iconst 2, 1) := dk_5 (dk_at dksX0_ruleFor_0 23 rfl rfl)
theorem dX0_ruleFor_24 : decode cX0_ruleFor 24 = .ok (.invokestatic 99, 3) := dk_184 0 99 (dk_at dksX0_ruleFor_1 0 rfl rfl)
theorem dX0_ruleFor_27 : decode cX0_ruleFor 27 = .ok (.ifCond .ne 7, 3) := dk_154 0 7 (dk_at dksX0_ruleFor_1 3 rfl rfl)
theorem dX0_ruleFor_30 : decode cX0_ruleFor 30 = .ok (.ldc2_w 319, 3) := dk_20 1 63 (dk_at dksX0_ruleFor_1 6 rfl rfl)
theorem dX0_ruleFor_33 : decode cX0_ruleFor 33 = .ok (.lreturn, 1) := dk_173 (dk_at dksX0_ruleFor_1 9 rfl rfl)
theorem dX0_ruleFor_34 : decode cX0_ruleFor 34 = .ok (.iconst 0, 1) := dk_3 (dk_at dksX0_ruleFor_1 10 rfl rfl)
theorem dX0_ruleFor_35 : decode cX0_ruleFor 35 = .ok (.istore 6, 2) := dk_54 6 (dk_at dksX0_ruleFor_1 11 rfl rfl)
theorem dX0_ruleFor_37 : decode cX0_ruleFor 37 = .ok (.ldc2_w 319, 3) := dk_20 1 63 (dk_at dksX0_ruleFor_1 13 rfl rfl)
theorem dX0_ruleFor_40 : decode cX0_ruleFor 40 = .ok (.lstore 7, 2) := dk_55 7 (dk_at dksX0_ruleFor_1 16 rfl rfl)
theorem dX0_ruleFor_42 : decode cX0_ruleFor 42 = .ok (.aload_n 0, 1) := dk_42 (dk_at dksX0_ruleFor_1 18 rfl rfl)
theorem dX0_ruleFor_43 : decode cX0_ruleFor 43 = .ok (.iload 4, 2) := dk_21 4 (dk_at dksX0_ruleFor_1 19 rfl rfl)
theorem dX0_ruleFor_45 : decode cX0_ruleFor 45 = .ok (.putfield 265, 3) := dk_181 1 9 (dk_at dksX0_ruleFor_1 21 rfl rfl)
theorem dX0_ruleFor_48 : decode cX0_ruleFor 48 = .ok (.iconst 0, 1) := dk_3 (dk_at dksX0_ruleFor_2 0 rfl rfl)
theorem dX0_ruleFor_49 : decode cX0_ruleFor 49 = .ok (.istore 9, 2) := dk_54 9 (dk_at dksX0_ruleFor_2 1 rfl rfl)
theorem dX0_ruleFor_51 : decode cX0_ruleFor 51 = .ok (.iload 9, 2) := dk_21 9 (dk_at dksX0_ruleFor_2 3 rfl rfl)
theorem dX0_ruleFor_53 : decode cX0_ruleFor 53 = .ok (.bipush 24, 2) := dk_16 24 (dk_at dksX0_ruleFor_2 5 rfl rfl)
theorem dX0_ruleFor_55 : decode cX0_ruleFor 55 = .ok (.if_icmp .gt 55, 3) := dk_163 0 55 (dk_at dksX0_ruleFor_2 7 rfl rfl)
theorem dX0_ruleFor_58 : decode cX0_ruleFor 58 = .ok (.aload_n 0, 1) := dk_42 (dk_at dksX0_ruleFor_2 10 rfl rfl)
theorem dX0_ruleFor_59 : decode cX0_ruleFor 59 = .ok (.iload 9, 2) := dk_21 9 (dk_at dksX0_ruleFor_2 11 rfl rfl)
theorem dX0_ruleFor_61 : decode cX0_ruleFor 61 = .ok (.putfield 268, 3) := dk_181 1 12 (dk_at dksX0_ruleFor_2 13 rfl rfl)
theorem dX0_ruleFor_64 : decode cX0_ruleFor 64 = .ok (.aload_n 0, 1) := dk_42 (dk_at dksX0_ruleFor_2 16 rfl rfl)
theorem dX0_ruleFor_65 : decode cX0_ruleFor 65 = .ok (.iload_n 1, 1) := dk_27 (dk_at dksX0_ruleFor_2 17 rfl rfl)
theorem dX0_ruleFor_66 : decode cX0_ruleFor 66 = .ok (.iload_n 2, 1) := dk_28 (dk_at dksX0_ruleFor_2 18 rfl rfl)
theorem dX0_ruleFor_67 : decode cX0_ruleFor 67 = .ok (.iload_n 3, 1) := dk_29 (dk_at dksX0_ruleFor_2 19 rfl rfl)
theorem dX0_ruleFor_68 : decode cX0_ruleFor 68 = .ok (.aload_n 0, 1) := dk_42 (dk_at dksX0_ruleFor_2 20 rfl rfl)
theorem dX0_ruleFor_69 : decode cX0_ruleFor 69 = .ok (.getfield 30, 3) := dk_180 0 30 (dk_at dksX0_ruleFor_2 21 rfl rfl)
theorem dX0_ruleFor_72 : decode cX0_ruleFor 72 = .ok (.getfield 103, 3) := dk_180 0 103 (dk_at dksX0_ruleFor_3 0 rfl rfl)
theorem dX0_ruleFor_75 : decode cX0_ruleFor 75 = .ok (.iload_n 1, 1) := dk_27 (dk_at dksX0_ruleFor_3 3 rfl rfl)
theorem dX0_ruleFor_76 : decode cX0_ruleFor 76 = .ok (.aaload, 1) := dk_50 (dk_at dksX0_ruleFor_3 4 rfl rfl)
theorem dX0_ruleFor_77 : decode cX0_ruleFor 77 = .ok (.getfield 130, 3) := dk_180 0 130 (dk_at dksX0_ruleFor_3 5 rfl rfl)
theorem dX0_ruleFor_80 : decode cX0_ruleFor 80 = .ok (.invokevirtual 321, 3) := dk_182 1 65 (dk_at dksX0_ruleFor_3 8 rfl rfl)
theorem dX0_ruleFor_83 : decode cX0_ruleFor 83 = .ok (.lstore 10, 2) := dk_55 10 (dk_at dksX0_ruleFor_3 11 rfl rfl)
theorem dX0_ruleFor_85 : decode cX0_ruleFor 85 = .ok (.lload 10, 2) := dk_22 10 (dk_at dksX0_ruleFor_3 13 rfl rfl)
theorem dX0_ruleFor_87 : decode cX0_ruleFor 87 = .ok (.lload 7, 2) := dk_22 7 (dk_at dksX0_ruleFor_3 15 rfl rfl)
theorem dX0_ruleFor_89 : decode cX0_ruleFor 89 = .ok (.lcmp, 1) := dk_148 (dk_at dksX0_ruleFor_3 17 rfl rfl)
theorem dX0_ruleFor_90 : decode cX0_ruleFor 90 = .ok (.ifCond .gt 6, 3) := dk_157 0 6 (dk_at dksX0_ruleFor_3 18 rfl rfl)
theorem dX0_ruleFor_93 : decode cX0_ruleFor 93 = .ok (.goto 11, 3) := dk_167 0 11 (dk_at dksX0_ruleFor_3 21 rfl rfl)
theorem dX0_ruleFor_96 : decode cX0_ruleFor 96 = .ok (.iload 9, 2) := dk_21 9 (dk_at dksX0_ruleFor_4 0 rfl rfl)
theorem dX0_ruleFor_98 : decode cX0_ruleFor 98 = .ok (.istore 6, 2) := dk_54 6 (dk_at dksX0_ruleFor_4 2 rfl rfl)
theorem dX0_ruleFor_100 : decode cX0_ruleFor 100 = .ok (.lload 10, 2) := dk_22 10 (dk_at dksX0_ruleFor_4 4 rfl rfl)
theorem dX0_ruleFor_102 : decode cX0_ruleFor 102 = .ok (.lstore 7, 2) := dk_55 7 (dk_at dksX0_ruleFor_4 6 rfl rfl)
theorem dX0_ruleFor_104 : decode cX0_ruleFor 104 = .ok (.iinc 9 1, 3) := dk_132 9 1 (dk_at dksX0_ruleFor_4 8 rfl rfl)
theorem dX0_ruleFor_107 : decode cX0_ruleFor 107 = .ok (.goto (-56), 3) := dk_167 255 200 (dk_at dksX0_ruleFor_4 11 rfl rfl)
theorem dX0_ruleFor_110 : decode cX0_ruleFor 110 = .ok (.aload_n 0, 1) := dk_42 (dk_at dksX0_ruleFor_4 14 rfl rfl)
theorem dX0_ruleFor_111 : decode cX0_ruleFor 111 = .ok (.iconst 0, 1) := dk_3 (dk_at dksX0_ruleFor_4 15 rfl rfl)
theorem dX0_ruleFor_112 : decode cX0_ruleFor 112 = .ok (.putfield 265, 3) := dk_181 1 9 (dk_at dksX0_ruleFor_4 16 rfl rfl)
theorem dX0_ruleFor_115 : decode cX0_ruleFor 115 = .ok (.iload 5, 2) := dk_21 5 (dk_at dksX0_ruleFor_4 19 rfl rfl)
theorem dX0_ruleFor_117 : decode cX0_ruleFor 117 = .ok (.ifCond .ne 9, 3) := dk_154 0 9 (dk_at dksX0_ruleFor_4 21 rfl rfl)
theorem dX0_ruleFor_120 : decode cX0_ruleFor 120 = .ok (.iload 6, 2) := dk_21 6 (dk_at dksX0_ruleFor_5 0 rfl rfl)
theorem dX0_ruleFor_122 : decode cX0_ruleFor 122 = .ok (.i2l, 1) := dk_133 (dk_at dksX0_ruleFor_5 2 rfl rfl)
theorem dX0_ruleFor_123 : decode cX0_ruleFor 123 = .ok (.goto 5, 3) := dk_167 0 5 (dk_at dksX0_ruleFor_5 3 rfl rfl)
theorem dX0_ruleFor_126 : decode cX0_ruleFor 126 = .ok (.lload 7, 2) := dk_22 7 (dk_at dksX0_ruleFor_5 6 rfl rfl)
theorem dX0_ruleFor_128 : decode cX0_ruleFor 128 = .ok (.lreturn, 1) := dk_173 (dk_at dksX0_ruleFor_5 8 rfl rfl)
abbrev cX0_lasts : ByteArray := prog_1_method_41_code
def yX0_lasts : MethodName := ⟨RX0, "lasts", "(II)I"⟩
def dkwX0_lasts_1 : List UInt8 := [3, 16, 24, 184, 0, 120, 153, 0, 12, 42, 27, 28, 182, 1, 78, 167, 0, 4, 2, 172]
abbrev dktX0_lasts_1 : List UInt8 := dkwX0_lasts_1 ++ []
def dkwX0_lasts_0 : List UInt8 := [42, 27, 182, 0, 159, 153, 0, 37, 42, 180, 0, 30, 180, 0, 103, 27, 50, 182, 0, 163, 154, 0, 22, 28]
abbrev dktX0_lasts_0 : List UInt8 := dkwX0_lasts_0 ++ dktX0_lasts_1
theorem dksX0_lasts_0 : cX0_lasts.data.toList.drop 0 = dktX0_lasts_0 := by decide +kernel
theorem dksX0_lasts_1 : cX0_lasts.data.toList.drop 24 = dktX0_lasts_1 := dk_seg dksX0_lasts_0 24 rfl rfl
theorem dX0_lasts_0 : decode cX0_lasts 0 = .ok (.aload_n 0, 1) := dk_42 (dk_at dksX0_lasts_0 0 rfl rfl)
theorem dX0_lasts_1 : decode cX0_lasts 1 = .ok (.iload_n 1, 1) := dk_27 (dk_at dksX0_lasts_0 1 rfl rfl)
theorem dX0_lasts_2 : decode cX0_lasts 2 = .ok (.invokevirtual 159, 3) := dk_182 0 159 (dk_at dksX0_lasts_0 2 rfl rfl)
theorem dX0_lasts_5 : decode cX0_lasts 5 = .ok (.ifCond .eq 37, 3) := dk_153 0 37 (dk_at dksX0_lasts_0 5 rfl rfl)
theorem dX0_lasts_8 : decode cX0_lasts 8 = .ok (.aload_n 0, 1) := dk_42 (dk_at dksX0_lasts_0 8 rfl rfl)
theorem dX0_lasts_9 : decode cX0_lasts 9 = .ok (.getfield 30, 3) := dk_180 0 30 (dk_at dksX0_lasts_0 9 rfl rfl)
theorem dX0_lasts_12 : decode cX0_lasts 12 = .ok (.getfield 103, 3) := dk_180 0 103 (dk_at dksX0_lasts_0 12 rfl rfl)
theorem dX0_lasts_15 : decode cX0_lasts 15 = .ok (.iload_n 1, 1) := dk_27 (dk_at dksX0_lasts_0 15 rfl rfl)
theorem dX0_lasts_16 : decode cX0_lasts 16 = .ok (.aaload, 1) := dk_50 (dk_at dksX0_lasts_0 16 rfl rfl)
theorem dX0_lasts_17 : decode cX0_lasts 17 = .ok (.invokevirtual 163, 3) := dk_182 0 163 (dk_at dksX0_lasts_0 17 rfl rfl)
theorem dX0_lasts_20 : decode cX0_lasts 20 = .ok (.ifCond .ne 22, 3) := dk_154 0 22 (dk_at dksX0_lasts_0 20 rfl rfl)
theorem dX0_lasts_23 : decode cX0_lasts 23 = .ok (.iload_n 2, 1) := dk_28 (dk_at dksX0_lasts_0 23 rfl rfl)
theorem dX0_lasts_24 : decode cX0_lasts 24 = .ok (.iconst 0, 1) := dk_3 (dk_at dksX0_lasts_1 0 rfl rfl)
theorem dX0_lasts_25 : decode cX0_lasts 25 = .ok (.bipush 24, 2) := dk_16 24 (dk_at dksX0_lasts_1 1 rfl rfl)
theorem dX0_lasts_27 : decode cX0_lasts 27 = .ok (.invokestatic 120, 3) := dk_184 0 120 (dk_at dksX0_lasts_1 3 rfl rfl)
theorem dX0_lasts_30 : decode cX0_lasts 30 = .ok (.ifCond .eq 12, 3) := dk_153 0 12 (dk_at dksX0_lasts_1 6 rfl rfl)
theorem dX0_lasts_33 : decode cX0_lasts 33 = .ok (.aload_n 0, 1) := dk_42 (dk_at dksX0_lasts_1 9 rfl rfl)
theorem dX0_lasts_34 : decode cX0_lasts 34 = .ok (.iload_n 1, 1) := dk_27 (dk_at dksX0_lasts_1 10 rfl rfl)
theorem dX0_lasts_35 : decode cX0_lasts 35 = .ok (.iload_n 2, 1) := dk_28 (dk_at dksX0_lasts_1 11 rfl rfl)
theorem dX0_lasts_36 : decode cX0_lasts 36 = .ok (.invokevirtual 334, 3) := dk_182 1 78 (dk_at dksX0_lasts_1 12 rfl rfl)
theorem dX0_lasts_39 : decode cX0_lasts 39 = .ok (.goto 4, 3) := dk_167 0 4 (dk_at dksX0_lasts_1 15 rfl rfl)
theorem dX0_lasts_42 : decode cX0_lasts 42 = .ok (.iconst (-1), 1) := dk_2 (dk_at dksX0_lasts_1 18 rfl rfl)
theorem dX0_lasts_43 : decode cX0_lasts 43 = .ok (.ireturn, 1) := dk_172 (dk_at dksX0_lasts_1 19 rfl rfl)
abbrev cX0_lastsWith : ByteArray := prog_1_method_40_code
def yX0_lastsWith : MethodName := ⟨RX0, "lastsWith", "(II)I"⟩
def dkwX0_lastsWith_4 : List UInt8 := [54, 4, 167, 255, 193, 21, 4, 172]
abbrev dktX0_lastsWith_4 : List UInt8 := dkwX0_lastsWith_4 ++ []
def dkwX0_lastsWith_3 : List UInt8 := [180, 1, 47, 4, 96, 181, 1, 47, 21, 4, 45, 182, 0, 163, 153, 0, 7, 3, 167, 0, 4, 4, 96]
abbrev dktX0_lastsWith_3 : List UInt8 := dkwX0_lastsWith_3 ++ dktX0_lastsWith_4
def dkwX0_lastsWith_2 : List UInt8 := [180, 0, 34, 27, 182, 1, 71, 16, 101, 16, 9, 182, 1, 35, 182, 1, 75, 42, 180, 0, 34, 89]
abbrev dktX0_lastsWith_2 : List UInt8 := dkwX0_lastsWith_2 ++ dktX0_lastsWith_3
def dkwX0_lastsWith_1 : List UInt8 := [182, 0, 167, 87, 3, 54, 4, 21, 4, 16, 60, 162, 0, 62, 45, 182, 0, 163, 154, 0, 55, 45, 42]
abbrev dktX0_lastsWith_1 : List UInt8 := dkwX0_lastsWith_1 ++ dktX0_lastsWith_2
def dkwX0_lastsWith_0 : List UInt8 := [42, 180, 0, 34, 42, 180, 0, 30, 182, 0, 202, 87, 42, 180, 0, 34, 180, 0, 103, 27, 50, 78, 45, 28]
abbrev dktX0_lastsWith_0 : List UInt8 := dkwX0_lastsWith_0 ++ dktX0_lastsWith_1
theorem dksX0_lastsWith_0 : cX0_lastsWith.data.toList.drop 0 = dktX0_lastsWith_0 := by decide +kernel
theorem dksX0_lastsWith_1 : cX0_lastsWith.data.toList.drop 24 = dktX0_lastsWith_1 := dk_seg dksX0_lastsWith_0 24 rfl rfl
theorem dksX0_lastsWith_2 : cX0_lastsWith.data.toList.drop 47 = dktX0_lastsWith_2 := dk_seg dksX0_lastsWith_1 23 rfl rfl
theorem dksX0_lastsWith_3 : cX0_lastsWith.data.toList.drop 69 = dktX0_lastsWith_3 := dk_seg dksX0_lastsWith_2 22 rfl rfl
theorem dksX0_lastsWith_4 : cX0_lastsWith.data.toList.drop 92 = dktX0_lastsWith_4 := dk_seg dksX0_lastsWith_3 23 rfl rfl
theorem dX0_lastsWith_0 : decode cX0_lastsWith 0 = .ok (.aload_n 0, 1) := dk_42 (dk_at dksX0_lastsWith_0 0 rfl rfl)
theorem dX0_lastsWith_1 : decode cX0_lastsWith 1 = .ok (.getfield 34, 3) := dk_180 0 34 (dk_at dksX0_lastsWith_0 1 rfl rfl)
theorem dX0_lastsWith_4 : decode cX0_lastsWith 4 = .ok (.aload_n 0, 1) := dk_42 (dk_at dksX0_lastsWith_0 4 rfl rfl)
theorem dX0_lastsWith_5 : decode cX0_lastsWith 5 = .ok (.getfield 30, 3) := dk_180 0 30 (dk_at dksX0_lastsWith_0 5 rfl rfl)
theorem dX0_lastsWith_8 : decode cX0_lastsWith 8 = .ok (.invokevirtual 202, 3) := dk_182 0 202 (dk_at dksX0_lastsWith_0 8 rfl rfl)
theorem dX0_lastsWith_11 : decode cX0_lastsWith 11 = .ok (.pop, 1) := dk_87 (dk_at dksX0_lastsWith_0 11 rfl rfl)
theorem dX0_lastsWith_12 : decode cX0_lastsWith 12 = .ok (.aload_n 0, 1) := dk_42 (dk_at dksX0_lastsWith_0 12 rfl rfl)
theorem dX0_lastsWith_13 : decode cX0_lastsWith 13 = .ok (.getfield 34, 3) := dk_180 0 34 (dk_at dksX0_lastsWith_0 13 rfl rfl)
theorem dX0_lastsWith_16 : decode cX0_lastsWith 16 = .ok (.getfield 103, 3) := dk_180 0 103 (dk_at dksX0_lastsWith_0 16 rfl rfl)
theorem dX0_lastsWith_19 : decode cX0_lastsWith 19 = .ok (.iload_n 1, 1) := dk_27 (dk_at dksX0_lastsWith_0 19 rfl rfl)
theorem dX0_lastsWith_20 : decode cX0_lastsWith 20 = .ok (.aaload, 1) := dk_50 (dk_at dksX0_lastsWith_0 20 rfl rfl)
theorem dX0_lastsWith_21 : decode cX0_lastsWith 21 = .ok (.astore_n 3, 1) := dk_78 (dk_at dksX0_lastsWith_0 21 rfl rfl)
theorem dX0_lastsWith_22 : decode cX0_lastsWith 22 = .ok (.aload_n 3, 1) := dk_45 (dk_at dksX0_lastsWith_0 22 rfl rfl)
theorem dX0_lastsWith_23 : decode cX0_lastsWith 23 = .ok (.iload_n 2, 1) := dk_28 (dk_at dksX0_lastsWith_0 23 rfl rfl)
theorem dX0_lastsWith_24 : decode cX0_lastsWith 24 = .ok (.invokevirtual 167, 3) := dk_182 0 167 (dk_at dksX0_lastsWith_1 0 rfl rfl)
theorem dX0_lastsWith_27 : decode cX0_lastsWith 27 = .ok (.pop, 1) := dk_87 (dk_at dksX0_lastsWith_1 3 rfl rfl)
theorem dX0_lastsWith_28 : decode cX0_lastsWith 28 = .ok (.iconst 0, 1) := dk_3 (dk_at dksX0_lastsWith_1 4 rfl rfl)
theorem dX0_lastsWith_29 : decode cX0_lastsWith 29 = .ok (.istore 4, 2) := dk_54 4 (dk_at dksX0_lastsWith_1 5 rfl rfl)
theorem dX0_lastsWith_31 : decode cX0_lastsWith 31 = .ok (.iload 4, 2) := dk_21 4 (dk_at dksX0_lastsWith_1 7 rfl rfl)
theorem dX0_lastsWith_33 : decode cX0_lastsWith 33 = .ok (.bipush 60, 2) := dk_16 60 (dk_at dksX0_lastsWith_1 9 rfl rfl)
theorem dX0_lastsWith_35 : decode cX0_lastsWith 35 = .ok (.if_icmp .ge 62, 3) := dk_162 0 62 (dk_at dksX0_lastsWith_1 11 rfl rfl)
theorem dX0_lastsWith_38 : decode cX0_lastsWith 38 = .ok (.aload_n 3, 1) := dk_45 (dk_at dksX0_lastsWith_1 14 rfl rfl)
theorem dX0_lastsWith_39 : decode cX0_lastsWith 39 = .ok (.invokevirtual 163, 3) := dk_182 0 163 (dk_at dksX0_lastsWith_1 15 rfl rfl)
theorem dX0_lastsWith_42 : decode cX0_lastsWith 42 = .ok (.ifCond .ne 55, 3) := dk_154 0 55 (dk_at dksX0_lastsWith_1 18 rfl rfl)
theorem dX0_lastsWith_45 : decode cX0_lastsWith 45 = .ok (.aload_n 3, 1) := dk_45 (dk_at dksX0_lastsWith_1 21 rfl rfl)
theorem dX0_lastsWith_46 : decode cX0_lastsWith 46 = .ok (.aload_n 0, 1) := dk_42 (dk_at dksX0_lastsWith_1 22 rfl rfl)
theorem dX0_lastsWith_47 : decode cX0_lastsWith 47 = .ok (.getfield 34, 3) := dk_180 0 34 (dk_at dksX0_lastsWith_2 0 rfl rfl)
theorem dX0_lastsWith_50 : decode cX0_lastsWith 50 = .ok (.iload_n 1, 1) := dk_27 (dk_at dksX0_lastsWith_2 3 rfl rfl)
theorem dX0_lastsWith_51 : decode cX0_lastsWith 51 = .ok (.invokevirtual 327, 3) := dk_182 1 71 (dk_at dksX0_lastsWith_2 4 rfl rfl)
theorem dX0_lastsWith_54 : decode cX0_lastsWith 54 = .ok (.bipush 101, 2) := dk_16 101 (dk_at dksX0_lastsWith_2 7 rfl rfl)
theorem dX0_lastsWith_56 : decode cX0_lastsWith 56 = .ok (.bipush 9, 2) := dk_16 9 (dk_at dksX0_lastsWith_2 9 rfl rfl)
theorem dX0_lastsWith_58 : decode cX0_lastsWith 58 = .ok (.invokevirtual 291, 3) := dk_182 1 35 (dk_at dksX0_lastsWith_2 11 rfl rfl)
theorem dX0_lastsWith_61 : decode cX0_lastsWith 61 = .ok (.invokevirtual 331, 3) := dk_182 1 75 (dk_at dksX0_lastsWith_2 14 rfl rfl)
theorem dX0_lastsWith_64 : decode cX0_lastsWith 64 = .ok (.aload_n 0, 1) := dk_42 (dk_at dksX0_lastsWith_2 17 rfl rfl)
theorem dX0_lastsWith_65 : decode cX0_lastsWith 65 = .ok (.getfield 34, 3) := dk_180 0 34 (dk_at dksX0_lastsWith_2 18 rfl rfl)
theorem dX0_lastsWith_68 : decode cX0_lastsWith 68 = .ok (.dup, 1) := dk_89 (dk_at dksX0_lastsWith_2 21 rfl rfl)
theorem dX0_lastsWith_69 : decode cX0_lastsWith 69 = .ok (.getfield 303, 3) := dk_180 1 47 (dk_at dksX0_lastsWith_3 0 rfl rfl)
theorem dX0_lastsWith_72 : decode cX0_lastsWith 72 = .ok (.iconst 1, 1) := dk_4 (dk_at dksX0_lastsWith_3 3 rfl rfl)
theorem dX0_lastsWith_73 : decode cX0_lastsWith 73 = .ok (.iadd, 1) := dk_96 (dk_at dksX0_lastsWith_3 4 rfl rfl)
theorem dX0_lastsWith_74 : decode cX0_lastsWith 74 = .ok (.putfield 303, 3) := dk_181 1 47 (dk_at dksX0_lastsWith_3 5 rfl rfl)
theorem dX0_lastsWith_77 : decode cX0_lastsWith 77 = .ok (.iload 4, 2) := dk_21 4 (dk_at dksX0_lastsWith_3 8 rfl rfl)
theorem dX0_lastsWith_79 : decode cX0_lastsWith 79 = .ok (.aload_n 3, 1) := dk_45 (dk_at dksX0_lastsWith_3 10 rfl rfl)
theorem dX0_lastsWith_80 : decode cX0_lastsWith 80 = .ok (.invokevirtual 163, 3) := dk_182 0 163 (dk_at dksX0_lastsWith_3 11 rfl rfl)
theorem dX0_lastsWith_83 : decode cX0_lastsWith 83 = .ok (.ifCond .eq 7, 3) := dk_153 0 7 (dk_at dksX0_lastsWith_3 14 rfl rfl)
theorem dX0_lastsWith_86 : decode cX0_lastsWith 86 = .ok (.iconst 0, 1) := dk_3 (dk_at dksX0_lastsWith_3 17 rfl rfl)
theorem dX0_lastsWith_87 : decode cX0_lastsWith 87 = .ok (.goto 4, 3) := dk_167 0 4 (dk_at dksX0_lastsWith_3 18 rfl rfl)
theorem dX0_lastsWith_90 : decode cX0_lastsWith 90 = .ok (.iconst 1, 1) := dk_4 (dk_at dksX0_lastsWith_3 21 rfl rfl)
theorem dX0_lastsWith_91 : decode cX0_lastsWith 91 = .ok (.iadd, 1) := dk_96 (dk_at dksX0_lastsWith_3 22 rfl rfl)
theorem dX0_lastsWith_92 : decode cX0_lastsWith 92 = .ok (.istore 4, 2) := dk_54 4 (dk_at dksX0_lastsWith_4 0 rfl rfl)
theorem dX0_lastsWith_94 : decode cX0_lastsWith 94 = .ok (.goto (-63), 3) := dk_167 255 193 (dk_at dksX0_lastsWith_4 2 rfl rfl)
theorem dX0_lastsWith_97 : decode cX0_lastsWith 97 = .ok (.iload 4, 2) := dk_21 4 (dk_at dksX0_lastsWith_4 5 rfl rfl)
theorem dX0_lastsWith_99 : decode cX0_lastsWith 99 = .ok (.ireturn, 1) := dk_172 (dk_at dksX0_lastsWith_4 7 rfl rfl)
abbrev cX0_needs : ByteArray := prog_1_method_42_code
def yX0_needs : MethodName := ⟨RX0, "needs", "(II)I"⟩
def dkwX0_needs_2 : List UInt8 := [182, 1, 78, 28, 161, 0, 5, 29, 172, 132, 3, 1, 167, 255, 235, 16, 254, 172]
abbrev dktX0_needs_2 : List UInt8 := dkwX0_needs_2 ++ []
def dkwX0_needs_1 : List UInt8 := [4, 16, 60, 184, 0, 120, 154, 0, 5, 2, 172, 3, 62, 29, 16, 24, 163, 0, 21, 42, 27, 29]
abbrev dktX0_needs_1 : List UInt8 := dkwX0_needs_1 ++ dktX0_needs_2
def dkwX0_needs_0 : List UInt8 := [42, 27, 182, 0, 159, 153, 0, 28, 42, 180, 0, 30, 180, 0, 103, 27, 50, 182, 0, 163, 154, 0, 13, 28]
abbrev dktX0_needs_0 : List UInt8 := dkwX0_needs_0 ++ dktX0_needs_1
theorem dksX0_needs_0 : cX0_needs.data.toList.drop 0 = dktX0_needs_0 := by decide +kernel
theorem dksX0_needs_1 : cX0_needs.data.toList.drop 24 = dktX0_needs_1 := dk_seg dksX0_needs_0 24 rfl rfl
theorem dksX0_needs_2 : cX0_needs.data.toList.drop 46 = dktX0_needs_2 := dk_seg dksX0_needs_1 22 rfl rfl
theorem dX0_needs_0 : decode cX0_needs 0 = .ok (.aload_n 0, 1) := dk_42 (dk_at dksX0_needs_0 0 rfl rfl)
theorem dX0_needs_1 : decode cX0_needs 1 = .ok (.iload_n 1, 1) := dk_27 (dk_at dksX0_needs_0 1 rfl rfl)
theorem dX0_needs_2 : decode cX0_needs 2 = .ok (.invokevirtual 159, 3) := dk_182 0 159 (dk_at dksX0_needs_0 2 rfl rfl)
theorem dX0_needs_5 : decode cX0_needs 5 = .ok (.ifCond .eq 28, 3) := dk_153 0 28 (dk_at dksX0_needs_0 5 rfl rfl)
theorem dX0_needs_8 : decode cX0_needs 8 = .ok (.aload_n 0, 1) := dk_42 (dk_at dksX0_needs_0 8 rfl rfl)
theorem dX0_needs_9 : decode cX0_needs 9 = .ok (.getfield 30, 3) := dk_180 0 30 (dk_at dksX0_needs_0 9 rfl rfl)
theorem dX0_needs_12 : decode cX0_needs 12 = .ok (.getfield 103, 3) := dk_180 0 103 (dk_at dksX0_needs_0 12 rfl rfl)
theorem dX0_needs_15 : decode cX0_needs 15 = .ok (.iload_n 1, 1) := dk_27 (dk_at dksX0_needs_0 15 rfl rfl)
theorem dX0_needs_16 : decode cX0_needs 16 = .ok (.aaload, 1) := dk_50 (dk_at dksX0_needs_0 16 rfl rfl)
theorem dX0_needs_17 : decode cX0_needs 17 = .ok (.invokevirtual 163, 3) := dk_182 0 163 (dk_at dksX0_needs_0 17 rfl rfl)
theorem dX0_needs_20 : decode cX0_needs 20 = .ok (.ifCond .ne 13, 3) := dk_154 0 13 (dk_at dksX0_needs_0 20 rfl rfl)
theorem dX0_needs_23 : decode cX0_needs 23 = .ok (.iload_n 2, 1) := dk_28 (dk_at dksX0_needs_0 23 rfl rfl)
theorem dX0_needs_24 : decode cX0_needs 24 = .ok (.iconst 1, 1) := dk_4 (dk_at dksX0_needs_1 0 rfl rfl)
theorem dX0_needs_25 : decode cX0_needs 25 = .ok (.bipush 60, 2) := dk_16 60 (dk_at dksX0_needs_1 1 rfl rfl)
theorem dX0_needs_27 : decode cX0_needs 27 = .ok (.invokestatic 120, 3) := dk_184 0 120 (dk_at dksX0_needs_1 3 rfl rfl)
theorem dX0_needs_30 : decode cX0_needs 30 = .ok (.ifCond .ne 5, 3) := dk_154 0 5 (dk_at dksX0_needs_1 6 rfl rfl)
theorem dX0_needs_33 : decode cX0_needs 33 = .ok (.iconst (-1), 1) := dk_2 (dk_at dksX0_needs_1 9 rfl rfl)
theorem dX0_needs_34 : decode cX0_needs 34 = .ok (.ireturn, 1) := dk_172 (dk_at dksX0_needs_1 10 rfl rfl)
theorem dX0_needs_35 : decode cX0_needs 35 = .ok (.iconst 0, 1) := dk_3 (dk_at dksX0_needs_1 11 rfl rfl)
theorem dX0_needs_36 : decode cX0_needs 36 = .ok (.istore_n 3, 1) := dk_62 (dk_at dksX0_needs_1 12 rfl rfl)
theorem dX0_needs_37 : decode cX0_needs 37 = .ok (.iload_n 3, 1) := dk_29 (dk_at dksX0_needs_1 13 rfl rfl)
theorem dX0_needs_38 : decode cX0_needs 38 = .ok (.bipush 24, 2) := dk_16 24 (dk_at dksX0_needs_1 14 rfl rfl)
theorem dX0_needs_40 : decode cX0_needs 40 = .ok (.if_icmp .gt 21, 3) := dk_163 0 21 (dk_at dksX0_needs_1 16 rfl rfl)
theorem dX0_needs_43 : decode cX0_needs 43 = .ok (.aload_n 0, 1) := dk_42 (dk_at dksX0_needs_1 19 rfl rfl)
theorem dX0_needs_44 : decode cX0_needs 44 = .ok (.iload_n 1, 1) := dk_27 (dk_at dksX0_needs_1 20 rfl rfl)
theorem dX0_needs_45 : decode cX0_needs 45 = .ok (.iload_n 3, 1) := dk_29 (dk_at dksX0_needs_1 21 rfl rfl)
theorem dX0_needs_46 : decode cX0_needs 46 = .ok (.invokevirtual 334, 3) := dk_182 1 78 (dk_at dksX0_needs_2 0 rfl rfl)
theorem dX0_needs_49 : decode cX0_needs 49 = .ok (.iload_n 2, 1) := dk_28 (dk_at dksX0_needs_2 3 rfl rfl)
theorem dX0_needs_50 : decode cX0_needs 50 = .ok (.if_icmp .lt 5, 3) := dk_161 0 5 (dk_at dksX0_needs_2 4 rfl rfl)
theorem dX0_needs_53 : decode cX0_needs 53 = .ok (.iload_n 3, 1) := dk_29 (dk_at dksX0_needs_2 7 rfl rfl)
theorem dX0_needs_54 : decode cX0_needs 54 = .ok (.ireturn, 1) := dk_172 (dk_at dksX0_needs_2 8 rfl rfl)
theorem dX0_needs_55 : decode cX0_needs 55 = .ok (.iinc 3 1, 3) := dk_132 3 1 (dk_at dksX0_needs_2 9 rfl rfl)
theorem dX0_needs_58 : decode cX0_needs 58 = .ok (.goto (-21), 3) := dk_167 255 235 (dk_at dksX0_needs_2 12 rfl rfl)
theorem dX0_needs_61 : decode cX0_needs 61 = .ok (.bipush (-2), 2) := dk_16 254 (dk_at dksX0_needs_2 15 rfl rfl)
theorem dX0_needs_63 : decode cX0_needs 63 = .ok (.ireturn, 1) := dk_172 (dk_at dksX0_needs_2 17 rfl rfl)
abbrev cX0_week : ByteArray := prog_1_method_44_code
def yX0_week : MethodName := ⟨RX0, "week", "(III)I"⟩
def dkwX0_week_6 : List UInt8 := [16, 253, 167, 0, 14, 42, 180, 0, 63, 42, 180, 0, 73, 29, 46, 46, 172]
abbrev dktX0_week_6 : List UInt8 := dkwX0_week_6 ++ []
def dkwX0_week_5 : List UInt8 := [29, 16, 11, 160, 0, 10, 42, 180, 1, 84, 167, 0, 29, 42, 180, 0, 73, 29, 46, 28, 160, 0, 8]
abbrev dktX0_week_5 : List UInt8 := dkwX0_week_5 ++ dktX0_week_6
def dkwX0_week_4 : List UInt8 := [180, 1, 81, 16, 7, 164, 0, 6, 16, 254, 172, 29, 16, 10, 160, 0, 10, 42, 180, 1, 81, 167, 0, 42]
abbrev dktX0_week_4 : List UInt8 := dkwX0_week_4 ++ dktX0_week_5
def dkwX0_week_3 : List UInt8 := [180, 0, 76, 3, 50, 42, 180, 0, 30, 182, 0, 202, 87, 42, 27, 28, 3, 3, 182, 1, 91, 42]
abbrev dktX0_week_3 : List UInt8 := dkwX0_week_3 ++ dktX0_week_4
def dkwX0_week_2 : List UInt8 := [154, 0, 17, 29, 16, 10, 159, 0, 11, 29, 16, 11, 159, 0, 5, 2, 172, 42, 16, 8, 181, 1, 81, 42]
abbrev dktX0_week_2 : List UInt8 := dkwX0_week_2 ++ dktX0_week_3
def dkwX0_week_1 : List UInt8 := [4, 6, 184, 0, 120, 153, 0, 32, 42, 28, 182, 0, 229, 153, 0, 24, 29, 16, 7, 184, 0, 99]
abbrev dktX0_week_1 : List UInt8 := dkwX0_week_1 ++ dktX0_week_2
def dkwX0_week_0 : List UInt8 := [42, 27, 182, 0, 159, 153, 0, 56, 42, 180, 0, 30, 180, 0, 103, 27, 50, 182, 0, 163, 154, 0, 41, 28]
abbrev dktX0_week_0 : List UInt8 := dkwX0_week_0 ++ dktX0_week_1
theorem dksX0_week_0 : cX0_week.data.toList.drop 0 = dktX0_week_0 := by decide +kernel
theorem dksX0_week_1 : cX0_week.data.toList.drop 24 = dktX0_week_1 := dk_seg dksX0_week_0 24 rfl rfl
theorem dksX0_week_2 : cX0_week.data.toList.drop 46 = dktX0_week_2 := dk_seg dksX0_week_1 22 rfl rfl
theorem dksX0_week_3 : cX0_week.data.toList.drop 70 = dktX0_week_3 := dk_seg dksX0_week_2 24 rfl rfl
theorem dksX0_week_4 : cX0_week.data.toList.drop 92 = dktX0_week_4 := dk_seg dksX0_week_3 22 rfl rfl
theorem dksX0_week_5 : cX0_week.data.toList.drop 116 = dktX0_week_5 := dk_seg dksX0_week_4 24 rfl rfl
theorem dksX0_week_6 : cX0_week.data.toList.drop 139 = dktX0_week_6 := dk_seg dksX0_week_5 23 rfl rfl
theorem dX0_week_0 : decode cX0_week 0 = .ok (.aload_n 0, 1) := dk_42 (dk_at dksX0_week_0 0 rfl rfl)
theorem dX0_week_1 : decode cX0_week 1 = .ok (.iload_n 1, 1) := dk_27 (dk_at dksX0_week_0 1 rfl rfl)
theorem dX0_week_2 : decode cX0_week 2 = .ok (.invokevirtual 159, 3) := dk_182 0 159 (dk_at dksX0_week_0 2 rfl rfl)
theorem dX0_week_5 : decode cX0_week 5 = .ok (.ifCond .eq 56, 3) := dk_153 0 56 (dk_at dksX0_week_0 5 rfl rfl)
theorem dX0_week_8 : decode cX0_week 8 = .ok (.aload_n 0, 1) := dk_42 (dk_at dksX0_week_0 8 rfl rfl)
theorem dX0_week_9 : decode cX0_week 9 = .ok (.getfield 30, 3) := dk_180 0 30 (dk_at dksX0_week_0 9 rfl rfl)
theorem dX0_week_12 : decode cX0_week 12 = .ok (.getfield 103, 3) := dk_180 0 103 (dk_at dksX0_week_0 12 rfl rfl)
theorem dX0_week_15 : decode cX0_week 15 = .ok (.iload_n 1, 1) := dk_27 (dk_at dksX0_week_0 15 rfl rfl)
theorem dX0_week_16 : decode cX0_week 16 = .ok (.aaload, 1) := dk_50 (dk_at dksX0_week_0 16 rfl rfl)
theorem dX0_week_17 : decode cX0_week 17 = .ok (.invokevirtual 163, 3) := dk_182 0 163 (dk_at dksX0_week_0 17 rfl rfl)
theorem dX0_week_20 : decode cX0_week 20 = .ok (.ifCond .ne 41, 3) := dk_154 0 41 (dk_at dksX0_week_0 20 rfl rfl)
theorem dX0_week_23 : decode cX0_week 23 = .ok (.iload_n 2, 1) := dk_28 (dk_at dksX0_week_0 23 rfl rfl)
theorem dX0_week_24 : decode cX0_week 24 = .ok (.iconst 1, 1) := dk_4 (dk_at dksX0_week_1 0 rfl rfl)
theorem dX0_week_25 : decode cX0_week 25 = .ok (.iconst 3, 1) := dk_6 (dk_at dksX0_week_1 1 rfl rfl)
theorem dX0_week_26 : decode cX0_week 26 = .ok (.invokestatic 120, 3) := dk_184 0 120 (dk_at dksX0_week_1 2 rfl rfl)
theorem dX0_week_29 : decode cX0_week 29 = .ok (.ifCond .eq 32, 3) := dk_153 0 32 (dk_at dksX0_week_1 5 rfl rfl)
theorem dX0_week_32 : decode cX0_week 32 = .ok (.aload_n 0, 1) := dk_42 (dk_at dksX0_week_1 8 rfl rfl)
theorem dX0_week_33 : decode cX0_week 33 = .ok (.iload_n 2, 1) := dk_28 (dk_at dksX0_week_1 9 rfl rfl)
theorem dX0_week_34 : decode cX0_week 34 = .ok (.invokevirtual 229, 3) := dk_182 0 229 (dk_at dksX0_week_1 10 rfl rfl)
theorem dX0_week_37 : decode cX0_week 37 = .ok (.ifCond .eq 24, 3) := dk_153 0 24 (dk_at dksX0_week_1 13 rfl rfl)
theorem dX0_week_40 : decode cX0_week 40 = .ok (.iload_n 3, 1) := dk_29 (dk_at dksX0_week_1 16 rfl rfl)
theorem dX0_week_41 : decode cX0_week 41 = .ok (.bipush 7, 2) := dk_16 7 (dk_at dksX0_week_1 17 rfl rfl)
theorem dX0_week_43 : decode cX0_week 43 = .ok (.invokestatic 99, 3) := dk_184 0 99 (dk_at dksX0_week_1 19 rfl rfl)
theorem dX0_week_46 : decode cX0_week 46 = .ok (.ifCond .ne 17, 3) := dk_154 0 17 (dk_at dksX0_week_2 0 rfl rfl)
theorem dX0_week_49 : decode cX0_week 49 = .ok (.iload_n 3, 1) := dk_29 (dk_at dksX0_week_2 3 rfl rfl)
theorem dX0_week_50 : decode cX0_week 50 = .ok (.bipush 10, 2) := dk_16 10 (dk_at dksX0_week_2 4 rfl rfl)
theorem dX0_week_52 : decode cX0_week 52 = .ok (.if_icmp .eq 11, 3) := dk_159 0 11 (dk_at dksX0_week_2 6 rfl rfl)
theorem dX0_week_55 : decode cX0_week 55 = .ok (.iload_n 3, 1) := dk_29 (dk_at dksX0_week_2 9 rfl rfl)
theorem dX0_week_56 : decode cX0_week 56 = .ok (.bipush 11, 2) := dk_16 11 (dk_at dksX0_week_2 10 rfl rfl)
theorem dX0_week_58 : decode cX0_week 58 = .ok (.if_icmp .eq 5, 3) := dk_159 0 5 (dk_at dksX0_week_2 12 rfl rfl)
theorem dX0_week_61 : decode cX0_week 61 = .ok (.iconst (-1), 1) := dk_2 (dk_at dksX0_week_2 15 rfl rfl)
theorem dX0_week_62 : decode cX0_week 62 = .ok (.ireturn, 1) := dk_172 (dk_at dksX0_week_2 16 rfl rfl)
theorem dX0_week_63 : decode cX0_week 63 = .ok (.aload_n 0, 1) := dk_42 (dk_at dksX0_week_2 17 rfl rfl)
theorem dX0_week_64 : decode cX0_week 64 = .ok (.bipush 8, 2) := dk_16 8 (dk_at dksX0_week_2 18 rfl rfl)
theorem dX0_week_66 : decode cX0_week 66 = .ok (.putfield 337, 3) := dk_181 1 81 (dk_at dksX0_week_2 20 rfl rfl)
theorem dX0_week_69 : decode cX0_week 69 = .ok (.aload_n 0, 1) := dk_42 (dk_at dksX0_week_2 23 rfl rfl)
theorem dX0_week_70 : decode cX0_week 70 = .ok (.getfield 76, 3) := dk_180 0 76 (dk_at dksX0_week_3 0 rfl rfl)
theorem dX0_week_73 : decode cX0_week 73 = .ok (.iconst 0, 1) := dk_3 (dk_at dksX0_week_3 3 rfl rfl)
theorem dX0_week_74 : decode cX0_week 74 = .ok (.aaload, 1) := dk_50 (dk_at dksX0_week_3 4 rfl rfl)
theorem dX0_week_75 : decode cX0_week 75 = .ok (.aload_n 0, 1) := dk_42 (dk_at dksX0_week_3 5 rfl rfl)
theorem dX0_week_76 : decode cX0_week 76 = .ok (.getfield 30, 3) := dk_180 0 30 (dk_at dksX0_week_3 6 rfl rfl)
theorem dX0_week_79 : decode cX0_week 79 = .ok (.invokevirtual 202, 3) := dk_182 0 202 (dk_at dksX0_week_3 9 rfl rfl)
theorem dX0_week_82 : decode cX0_week 82 = .ok (.pop, 1) := dk_87 (dk_at dksX0_week_3 12 rfl rfl)
theorem dX0_week_83 : decode cX0_week 83 = .ok (.aload_n 0, 1) := dk_42 (dk_at dksX0_week_3 13 rfl rfl)
theorem dX0_week_84 : decode cX0_week 84 = .ok (.iload_n 1, 1) := dk_27 (dk_at dksX0_week_3 14 rfl rfl)
theorem dX0_week_85 : decode cX0_week 85 = .ok (.iload_n 2, 1) := dk_28 (dk_at dksX0_week_3 15 rfl rfl)
theorem dX0_week_86 : decode cX0_week 86 = .ok (.iconst 0, 1) := dk_3 (dk_at dksX0_week_3 16 rfl rfl)
theorem dX0_week_87 : decode cX0_week 87 = .ok (.iconst 0, 1) := dk_3 (dk_at dksX0_week_3 17 rfl rfl)
theorem dX0_week_88 : decode cX0_week 88 = .ok (.invokevirtual 347, 3) := dk_182 1 91 (dk_at dksX0_week_3 18 rfl rfl)
theorem dX0_week_91 : decode cX0_week 91 = .ok (.aload_n 0, 1) := dk_42 (dk_at dksX0_week_3 21 rfl rfl)
theorem dX0_week_92 : decode cX0_week 92 = .ok (.getfield 337, 3) := dk_180 1 81 (dk_at dksX0_week_4 0 rfl rfl)
theorem dX0_week_95 : decode cX0_week 95 = .ok (.bipush 7, 2) := dk_16 7 (dk_at dksX0_week_4 3 rfl rfl)
theorem dX0_week_97 : decode cX0_week 97 = .ok (.if_icmp .le 6, 3) := dk_164 0 6 (dk_at dksX0_week_4 5 rfl rfl)
theorem dX0_week_100 : decode cX0_week 100 = .ok (.bipush (-2), 2) := dk_16 254 (dk_at dksX0_week_4 8 rfl rfl)
theorem dX0_week_102 : decode cX0_week 102 = .ok (.ireturn, 1) := dk_172 (dk_at dksX0_week_4 10 rfl rfl)
theorem dX0_week_103 : decode cX0_week 103 = .ok (.iload_n 3, 1) := dk_29 (dk_at dksX0_week_4 11 rfl rfl)
theorem dX0_week_104 : decode cX0_week 104 = .ok (.bipush 10, 2) := dk_16 10 (dk_at dksX0_week_4 12 rfl rfl)
theorem dX0_week_106 : decode cX0_week 106 = .ok (.if_icmp .ne 10, 3) := dk_160 0 10 (dk_at dksX0_week_4 14 rfl rfl)
theorem dX0_week_109 : decode cX0_week 109 = .ok (.aload_n 0, 1) := dk_42 (dk_at dksX0_week_4 17 rfl rfl)
theorem dX0_week_110 : decode cX0_week 110 = .ok (.getfield 337, 3) := dk_180 1 81 (dk_at dksX0_week_4 18 rfl rfl)
theorem dX0_week_113 : decode cX0_week 113 = .ok (.goto 42, 3) := dk_167 0 42 (dk_at dksX0_week_4 21 rfl rfl)
theorem dX0_week_116 : decode cX0_week 116 = .ok (.iload_n 3, 1) := dk_29 (dk_at dksX0_week_5 0 rfl rfl)
theorem dX0_week_117 : decode cX0_week 117 = .ok (.bipush 11, 2) := dk_16 11 (dk_at dksX0_week_5 1 rfl rfl)
theorem dX0_week_119 : decode cX0_week 119 = .ok (.if_icmp .ne 10, 3) := dk_160 0 10 (dk_at dksX0_week_5 3 rfl rfl)
theorem dX0_week_122 : decode cX0_week 122 = .ok (.aload_n 0, 1) := dk_42 (dk_at dksX0_week_5 6 rfl rfl)
theorem dX0_week_123 : decode cX0_week 123 = .ok (.getfield 340, 3) := dk_180 1 84 (dk_at dksX0_week_5 7 rfl rfl)
theorem dX0_week_126 : decode cX0_week 126 = .ok (.goto 29, 3) := dk_167 0 29 (dk_at dksX0_week_5 10 rfl rfl)
theorem dX0_week_129 : decode cX0_week 129 = .ok (.aload_n 0, 1) := dk_42 (dk_at dksX0_week_5 13 rfl rfl)
theorem dX0_week_130 : decode cX0_week 130 = .ok (.getfield 73, 3) := dk_180 0 73 (dk_at dksX0_week_5 14 rfl rfl)
theorem dX0_week_133 : decode cX0_week 133 = .ok (.iload_n 3, 1) := dk_29 (dk_at dksX0_week_5 17 rfl rfl)
theorem dX0_week_134 : decode cX0_week 134 = .ok (.iaload, 1) := dk_46 (dk_at dksX0_week_5 18 rfl rfl)
theorem dX0_week_135 : decode cX0_week 135 = .ok (.iload_n 2, 1) := dk_28 (dk_at dksX0_week_5 19 rfl rfl)
theorem dX0_week_136 : decode cX0_week 136 = .ok (.if_icmp .ne 8, 3) := dk_160 0 8 (dk_at dksX0_week_5 20 rfl rfl)
theorem dX0_week_139 : decode cX0_week 139 = .ok (.bipush (-3), 2) := dk_16 253 (dk_at dksX0_week_6 0 rfl rfl)
theorem dX0_week_141 : decode cX0_week 141 = .ok (.goto 14, 3) := dk_167 0 14 (dk_at dksX0_week_6 2 rfl rfl)
theorem dX0_week_144 : decode cX0_week 144 = .ok (.aload_n 0, 1) := dk_42 (dk_at dksX0_week_6 5 rfl rfl)
theorem dX0_week_145 : decode cX0_week 145 = .ok (.getfield 63, 3) := dk_180 0 63 (dk_at dksX0_week_6 6 rfl rfl)
theorem dX0_week_148 : decode cX0_week 148 = .ok (.aload_n 0, 1) := dk_42 (dk_at dksX0_week_6 9 rfl rfl)
theorem dX0_week_149 : decode cX0_week 149 = .ok (.getfield 73, 3) := dk_180 0 73 (dk_at dksX0_week_6 10 rfl rfl)
theorem dX0_week_152 : decode cX0_week 152 = .ok (.iload_n 3, 1) := dk_29 (dk_at dksX0_week_6 13 rfl rfl)
theorem dX0_week_153 : decode cX0_week 153 = .ok (.iaload, 1) := dk_46 (dk_at dksX0_week_6 14 rfl rfl)
theorem dX0_week_154 : decode cX0_week 154 = .ok (.iaload, 1) := dk_46 (dk_at dksX0_week_6 15 rfl rfl)
theorem dX0_week_155 : decode cX0_week 155 = .ok (.ireturn, 1) := dk_172 (dk_at dksX0_week_6 16 rfl rfl)
abbrev cX0_laysWeek : ByteArray := prog_1_method_43_code
def yX0_laysWeek : MethodName := ⟨RX0, "laysWeek", "(IIII)V"⟩
def dkwX0_laysWeek_8 : List UInt8 := [21, 4, 21, 5, 28, 162, 0, 7, 4, 167, 0, 4, 3, 96, 182, 1, 91, 132, 5, 1, 167, 255, 144, 177]
abbrev dktX0_laysWeek_8 : List UInt8 := dkwX0_laysWeek_8 ++ []
def dkwX0_laysWeek_7 : List UInt8 := [182, 1, 35, 182, 1, 75, 25, 6, 89, 180, 1, 47, 4, 96, 181, 1, 47, 42, 27, 28, 29, 4, 96]
abbrev dktX0_laysWeek_7 : List UInt8 := dkwX0_laysWeek_7 ++ dktX0_laysWeek_8
def dkwX0_laysWeek_6 : List UInt8 := [46, 27, 182, 1, 87, 25, 6, 180, 0, 103, 27, 50, 25, 6, 27, 182, 1, 71, 16, 101, 16, 9]
abbrev dktX0_laysWeek_6 : List UInt8 := dkwX0_laysWeek_6 ++ dktX0_laysWeek_7
def dkwX0_laysWeek_5 : List UInt8 := [58, 6, 42, 180, 0, 70, 29, 21, 5, 79, 21, 5, 28, 162, 0, 16, 25, 6, 42, 180, 0, 63, 21, 5]
abbrev dktX0_laysWeek_5 : List UInt8 := dkwX0_laysWeek_5 ++ dktX0_laysWeek_6
def dkwX0_laysWeek_4 : List UInt8 := [21, 5, 28, 163, 0, 112, 42, 180, 0, 76, 29, 4, 96, 50, 42, 180, 0, 76, 29, 50, 182, 0, 202]
abbrev dktX0_laysWeek_4 : List UInt8 := dkwX0_laysWeek_4 ++ dktX0_laysWeek_5
def dkwX0_laysWeek_3 : List UInt8 := [180, 0, 73, 21, 5, 42, 180, 0, 70, 21, 5, 46, 79, 132, 5, 1, 167, 255, 232, 177, 3, 54, 5]
abbrev dktX0_laysWeek_3 : List UInt8 := dkwX0_laysWeek_3 ++ dktX0_laysWeek_4
def dkwX0_laysWeek_2 : List UInt8 := [180, 0, 103, 27, 50, 180, 0, 133, 181, 1, 84, 3, 54, 5, 21, 5, 16, 7, 162, 0, 23, 42]
abbrev dktX0_laysWeek_2 : List UInt8 := dkwX0_laysWeek_2 ++ dktX0_laysWeek_3
def dkwX0_laysWeek_1 : List UInt8 := [153, 0, 4, 177, 29, 16, 7, 160, 0, 58, 42, 21, 4, 181, 1, 81, 42, 42, 180, 0, 76, 29, 50]
abbrev dktX0_laysWeek_1 : List UInt8 := dkwX0_laysWeek_1 ++ dktX0_laysWeek_2
def dkwX0_laysWeek_0 : List UInt8 := [21, 4, 42, 180, 1, 81, 162, 0, 20, 42, 180, 0, 76, 29, 50, 180, 0, 103, 27, 50, 182, 0, 163]
abbrev dktX0_laysWeek_0 : List UInt8 := dkwX0_laysWeek_0 ++ dktX0_laysWeek_1
theorem dksX0_laysWeek_0 : cX0_laysWeek.data.toList.drop 0 = dktX0_laysWeek_0 := by decide +kernel
theorem dksX0_laysWeek_1 : cX0_laysWeek.data.toList.drop 23 = dktX0_laysWeek_1 := dk_seg dksX0_laysWeek_0 23 rfl rfl
theorem dksX0_laysWeek_2 : cX0_laysWeek.data.toList.drop 46 = dktX0_laysWeek_2 := dk_seg dksX0_laysWeek_1 23 rfl rfl
theorem dksX0_laysWeek_3 : cX0_laysWeek.data.toList.drop 68 = dktX0_laysWeek_3 := dk_seg dksX0_laysWeek_2 22 rfl rfl
theorem dksX0_laysWeek_4 : cX0_laysWeek.data.toList.drop 91 = dktX0_laysWeek_4 := dk_seg dksX0_laysWeek_3 23 rfl rfl
theorem dksX0_laysWeek_5 : cX0_laysWeek.data.toList.drop 114 = dktX0_laysWeek_5 := dk_seg dksX0_laysWeek_4 23 rfl rfl
theorem dksX0_laysWeek_6 : cX0_laysWeek.data.toList.drop 138 = dktX0_laysWeek_6 := dk_seg dksX0_laysWeek_5 24 rfl rfl
theorem dksX0_laysWeek_7 : cX0_laysWeek.data.toList.drop 160 = dktX0_laysWeek_7 := dk_seg dksX0_laysWeek_6 22 rfl rfl
theorem dksX0_laysWeek_8 : cX0_laysWeek.data.toList.drop 183 = dktX0_laysWeek_8 := dk_seg dksX0_laysWeek_7 23 rfl rfl
theorem dX0_laysWeek_0 : decode cX0_laysWeek 0 = .ok (.iload 4, 2) := dk_21 4 (dk_at dksX0_laysWeek_0 0 rfl rfl)
theorem dX0_laysWeek_2 : decode cX0_laysWeek 2 = .ok (.aload_n 0, 1) := dk_42 (dk_at dksX0_laysWeek_0 2 rfl rfl)
theorem dX0_laysWeek_3 : decode cX0_laysWeek 3 = .ok (.getfield 337, 3) := dk_180 1 81 (dk_at dksX0_laysWeek_0 3 rfl rfl)
theorem dX0_laysWeek_6 : decode cX0_laysWeek 6 = .ok (.if_icmp .ge 20, 3) := dk_162 0 20 (dk_at dksX0_laysWeek_0 6 rfl rfl)
theorem dX0_laysWeek_9 : decode cX0_laysWeek 9 = .ok (.aload_n 0, 1) := dk_42 (dk_at dksX0_laysWeek_0 9 rfl rfl)
theorem dX0_laysWeek_10 : decode cX0_laysWeek 10 = .ok (.getfield 76, 3) := dk_180 0 76 (dk_at dksX0_laysWeek_0 10 rfl rfl)
theorem dX0_laysWeek_13 : decode cX0_laysWeek 13 = .ok (.iload_n 3, 1) := dk_29 (dk_at dksX0_laysWeek_0 13 rfl rfl)
theorem dX0_laysWeek_14 : decode cX0_laysWeek 14 = .ok (.aaload, 1) := dk_50 (dk_at dksX0_laysWeek_0 14 rfl rfl)
theorem dX0_laysWeek_15 : decode cX0_laysWeek 15 = .ok (.getfield 103, 3) := dk_180 0 103 (dk_at dksX0_laysWeek_0 15 rfl rfl)
theorem dX0_laysWeek_18 : decode cX0_laysWeek 18 = .ok (.iload_n 1, 1) := dk_27 (dk_at dksX0_laysWeek_0 18 rfl rfl)
theorem dX0_laysWeek_19 : decode cX0_laysWeek 19 = .ok (.aaload, 1) := dk_50 (dk_at dksX0_laysWeek_0 19 rfl rfl)
theorem dX0_laysWeek_20 : decode cX0_laysWeek 20 = .ok (.invokevirtual 163, 3) := dk_182 0 163 (dk_at dksX0_laysWeek_0 20 rfl rfl)
theorem dX0_laysWeek_23 : decode cX0_laysWeek 23 = .ok (.ifCond .eq 4, 3) := dk_153 0 4 (dk_at dksX0_laysWeek_1 0 rfl rfl)
theorem dX0_laysWeek_26 : decode cX0_laysWeek 26 = .ok (.return_, 1) := dk_177 (dk_at dksX0_laysWeek_1 3 rfl rfl)
theorem dX0_laysWeek_27 : decode cX0_laysWeek 27 = .ok (.iload_n 3, 1) := dk_29 (dk_at dksX0_laysWeek_1 4 rfl rfl)
theorem dX0_laysWeek_28 : decode cX0_laysWeek 28 = .ok (.bipush 7, 2) := dk_16 7 (dk_at dksX0_laysWeek_1 5 rfl rfl)
theorem dX0_laysWeek_30 : decode cX0_laysWeek 30 = .ok (.if_icmp .ne 58, 3) := dk_160 0 58 (dk_at dksX0_laysWeek_1 7 rfl rfl)
theorem dX0_laysWeek_33 : decode cX0_laysWeek 33 = .ok (.aload_n 0, 1) := dk_42 (dk_at dksX0_laysWeek_1 10 rfl rfl)
theorem dX0_laysWeek_34 : decode cX0_laysWeek 34 = .ok (.iload 4, 2) := dk_21 4 (dk_at dksX0_laysWeek_1 11 rfl rfl)
theorem dX0_laysWeek_36 : decode cX0_laysWeek 36 = .ok (.putfield 337, 3) := dk_181 1 81 (dk_at dksX0_laysWeek_1 13 rfl rfl)
theorem dX0_laysWeek_39 : decode cX0_laysWeek 39 = .ok (.aload_n 0, 1) := dk_42 (dk_at dksX0_laysWeek_1 16 rfl rfl)
theorem dX0_laysWeek_40 : decode cX0_laysWeek 40 = .ok (.aload_n 0, 1) := dk_42 (dk_at dksX0_laysWeek_1 17 rfl rfl)
theorem dX0_laysWeek_41 : decode cX0_laysWeek 41 = .ok (.getfield 76, 3) := dk_180 0 76 (dk_at dksX0_laysWeek_1 18 rfl rfl)
theorem dX0_laysWeek_44 : decode cX0_laysWeek 44 = .ok (.iload_n 3, 1) := dk_29 (dk_at dksX0_laysWeek_1 21 rfl rfl)
theorem dX0_laysWeek_45 : decode cX0_laysWeek 45 = .ok (.aaload, 1) := dk_50 (dk_at dksX0_laysWeek_1 22 rfl rfl)
theorem dX0_laysWeek_46 : decode cX0_laysWeek 46 = .ok (.getfield 103, 3) := dk_180 0 103 (dk_at dksX0_laysWeek_2 0 rfl rfl)
theorem dX0_laysWeek_49 : decode cX0_laysWeek 49 = .ok (.iload_n 1, 1) := dk_27 (dk_at dksX0_laysWeek_2 3 rfl rfl)
theorem dX0_laysWeek_50 : decode cX0_laysWeek 50 = .ok (.aaload, 1) := dk_50 (dk_at dksX0_laysWeek_2 4 rfl rfl)
theorem dX0_laysWeek_51 : decode cX0_laysWeek 51 = .ok (.getfield 133, 3) := dk_180 0 133 (dk_at dksX0_laysWeek_2 5 rfl rfl)
theorem dX0_laysWeek_54 : decode cX0_laysWeek 54 = .ok (.putfield 340, 3) := dk_181 1 84 (dk_at dksX0_laysWeek_2 8 rfl rfl)
theorem dX0_laysWeek_57 : decode cX0_laysWeek 57 = .ok (.iconst 0, 1) := dk_3 (dk_at dksX0_laysWeek_2 11 rfl rfl)
theorem dX0_laysWeek_58 : decode cX0_laysWeek 58 = .ok (.istore 5, 2) := dk_54 5 (dk_at dksX0_laysWeek_2 12 rfl rfl)
theorem dX0_laysWeek_60 : decode cX0_laysWeek 60 = .ok (.iload 5, 2) := dk_21 5 (dk_at dksX0_laysWeek_2 14 rfl rfl)
theorem dX0_laysWeek_62 : decode cX0_laysWeek 62 = .ok (.bipush 7, 2) := dk_16 7 (dk_at dksX0_laysWeek_2 16 rfl rfl)
theorem dX0_laysWeek_64 : decode cX0_laysWeek 64 = .ok (.if_icmp .ge 23, 3) := dk_162 0 23 (dk_at dksX0_laysWeek_2 18 rfl rfl)
theorem dX0_laysWeek_67 : decode cX0_laysWeek 67 = .ok (.aload_n 0, 1) := dk_42 (dk_at dksX0_laysWeek_2 21 rfl rfl)
theorem dX0_laysWeek_68 : decode cX0_laysWeek 68 = .ok (.getfield 73, 3) := dk_180 0 73 (dk_at dksX0_laysWeek_3 0 rfl rfl)
theorem dX0_laysWeek_71 : decode cX0_laysWeek 71 = .ok (.iload 5, 2) := dk_21 5 (dk_at dksX0_laysWeek_3 3 rfl rfl)
theorem dX0_laysWeek_73 : decode cX0_laysWeek 73 = .ok (.aload_n 0, 1) := dk_42 (dk_at dksX0_laysWeek_3 5 rfl rfl)
theorem dX0_laysWeek_74 : decode cX0_laysWeek 74 = .ok (.getfield 70, 3) := dk_180 0 70 (dk_at dksX0_laysWeek_3 6 rfl rfl)
theorem dX0_laysWeek_77 : decode cX0_laysWeek 77 = .ok (.iload 5, 2) := dk_21 5 (dk_at dksX0_laysWeek_3 9 rfl rfl)
theorem dX0_laysWeek_79 : decode cX0_laysWeek 79 = .ok (.iaload, 1) := dk_46 (dk_at dksX0_laysWeek_3 11 rfl rfl)
theorem dX0_laysWeek_80 : decode cX0_laysWeek 80 = .ok (.iastore, 1) := dk_79 (dk_at dksX0_laysWeek_3 12 rfl rfl)
theorem dX0_laysWeek_81 : decode cX0_laysWeek 81 = .ok (.iinc 5 1, 3) := dk_132 5 1 (dk_at dksX0_laysWeek_3 13 rfl rfl)
theorem dX0_laysWeek_84 : decode cX0_laysWeek 84 = .ok (.goto (-24), 3) := dk_167 255 232 (dk_at dksX0_laysWeek_3 16 rfl rfl)
theorem dX0_laysWeek_87 : decode cX0_laysWeek 87 = .ok (.return_, 1) := dk_177 (dk_at dksX0_laysWeek_3 19 rfl rfl)
theorem dX0_laysWeek_88 : decode cX0_laysWeek 88 = .ok (.iconst 0, 1) := dk_3 (dk_at dksX0_laysWeek_3 20 rfl rfl)
theorem dX0_laysWeek_89 : decode cX0_laysWeek 89 = .ok (.istore 5, 2) := dk_54 5 (dk_at dksX0_laysWeek_3 21 rfl rfl)
theorem dX0_laysWeek_91 : decode cX0_laysWeek 91 = .ok (.iload 5, 2) := dk_21 5 (dk_at dksX0_laysWeek_4 0 rfl rfl)
theorem dX0_laysWeek_93 : decode cX0_laysWeek 93 = .ok (.iload_n 2, 1) := dk_28 (dk_at dksX0_laysWeek_4 2 rfl rfl)
theorem dX0_laysWeek_94 : decode cX0_laysWeek 94 = .ok (.if_icmp .gt 112, 3) := dk_163 0 112 (dk_at dksX0_laysWeek_4 3 rfl rfl)
theorem dX0_laysWeek_97 : decode cX0_laysWeek 97 = .ok (.aload_n 0, 1) := dk_42 (dk_at dksX0_laysWeek_4 6 rfl rfl)
theorem dX0_laysWeek_98 : decode cX0_laysWeek 98 = .ok (.getfield 76, 3) := dk_180 0 76 (dk_at dksX0_laysWeek_4 7 rfl rfl)
theorem dX0_laysWeek_101 : decode cX0_laysWeek 101 = .ok (.iload_n 3, 1) := dk_29 (dk_at dksX0_laysWeek_4 10 rfl rfl)
theorem dX0_laysWeek_102 : decode cX0_laysWeek 102 = .ok (.iconst 1, 1) := dk_4 (dk_at dksX0_laysWeek_4 11 rfl rfl)
theorem dX0_laysWeek_103 : decode cX0_laysWeek 103 = .ok (.iadd, 1) := dk_96 (dk_at dksX0_laysWeek_4 12 rfl rfl)
theorem dX0_laysWeek_104 : decode cX0_laysWeek 104 = .ok (.aaload, 1) := dk_50 (dk_at dksX0_laysWeek_4 13 rfl rfl)
theorem dX0_laysWeek_105 : decode cX0_laysWeek 105 = .ok (.aload_n 0, 1) := dk_42 (dk_at dksX0_laysWeek_4 14 rfl rfl)
theorem dX0_laysWeek_106 : decode cX0_laysWeek 106 = .ok (.getfield 76, 3) := dk_180 0 76 (dk_at dksX0_laysWeek_4 15 rfl rfl)
theorem dX0_laysWeek_109 : decode cX0_laysWeek 109 = .ok (.iload_n 3, 1) := dk_29 (dk_at dksX0_laysWeek_4 18 rfl rfl)
theorem dX0_laysWeek_110 : decode cX0_laysWeek 110 = .ok (.aaload, 1) := dk_50 (dk_at dksX0_laysWeek_4 19 rfl rfl)
theorem dX0_laysWeek_111 : decode cX0_laysWeek 111 = .ok (.invokevirtual 202, 3) := dk_182 0 202 (dk_at dksX0_laysWeek_4 20 rfl rfl)
theorem dX0_laysWeek_114 : decode cX0_laysWeek 114 = .ok (.astore 6, 2) := dk_58 6 (dk_at dksX0_laysWeek_5 0 rfl rfl)
theorem dX0_laysWeek_116 : decode cX0_laysWeek 116 = .ok (.aload_n 0, 1) := dk_42 (dk_at dksX0_laysWeek_5 2 rfl rfl)
theorem dX0_laysWeek_117 : decode cX0_laysWeek 117 = .ok (.getfield 70, 3) := dk_180 0 70 (dk_at dksX0_laysWeek_5 3 rfl rfl)
theorem dX0_laysWeek_120 : decode cX0_laysWeek 120 = .ok (.iload_n 3, 1) := dk_29 (dk_at dksX0_laysWeek_5 6 rfl rfl)
theorem dX0_laysWeek_121 : decode cX0_laysWeek 121 = .ok (.iload 5, 2) := dk_21 5 (dk_at dksX0_laysWeek_5 7 rfl rfl)
theorem dX0_laysWeek_123 : decode cX0_laysWeek 123 = .ok (.iastore, 1) := dk_79 (dk_at dksX0_laysWeek_5 9 rfl rfl)
theorem dX0_laysWeek_124 : decode cX0_laysWeek 124 = .ok (.iload 5, 2) := dk_21 5 (dk_at dksX0_laysWeek_5 10 rfl rfl)
theorem dX0_laysWeek_126 : decode cX0_laysWeek 126 = .ok (.iload_n 2, 1) := dk_28 (dk_at dksX0_laysWeek_5 12 rfl rfl)
theorem dX0_laysWeek_127 : decode cX0_laysWeek 127 = .ok (.if_icmp .ge 16, 3) := dk_162 0 16 (dk_at dksX0_laysWeek_5 13 rfl rfl)
theorem dX0_laysWeek_130 : decode cX0_laysWeek 130 = .ok (.aload 6, 2) := dk_25 6 (dk_at dksX0_laysWeek_5 16 rfl rfl)
theorem dX0_laysWeek_132 : decode cX0_laysWeek 132 = .ok (.aload_n 0, 1) := dk_42 (dk_at dksX0_laysWeek_5 18 rfl rfl)
theorem dX0_laysWeek_133 : decode cX0_laysWeek 133 = .ok (.getfield 63, 3) := dk_180 0 63 (dk_at dksX0_laysWeek_5 19 rfl rfl)
theorem dX0_laysWeek_136 : decode cX0_laysWeek 136 = .ok (.iload 5, 2) := dk_21 5 (dk_at dksX0_laysWeek_5 22 rfl rfl)
theorem dX0_laysWeek_138 : decode cX0_laysWeek 138 = .ok (.iaload, 1) := dk_46 (dk_at dksX0_laysWeek_6 0 rfl rfl)
theorem dX0_laysWeek_139 : decode cX0_laysWeek 139 = .ok (.iload_n 1, 1) := dk_27 (dk_at dksX0_laysWeek_6 1 rfl rfl)
theorem dX0_laysWeek_140 : decode cX0_laysWeek 140 = .ok (.invokevirtual 343, 3) := dk_182 1 87 (dk_at dksX0_laysWeek_6 2 rfl rfl)
theorem dX0_laysWeek_143 : decode cX0_laysWeek 143 = .ok (.aload 6, 2) := dk_25 6 (dk_at dksX0_laysWeek_6 5 rfl rfl)
theorem dX0_laysWeek_145 : decode cX0_laysWeek 145 = .ok (.getfield 103, 3) := dk_180 0 103 (dk_at dksX0_laysWeek_6 7 rfl rfl)
theorem dX0_laysWeek_148 : decode cX0_laysWeek 148 = .ok (.iload_n 1, 1) := dk_27 (dk_at dksX0_laysWeek_6 10 rfl rfl)
theorem dX0_laysWeek_149 : decode cX0_laysWeek 149 = .ok (.aaload, 1) := dk_50 (dk_at dksX0_laysWeek_6 11 rfl rfl)
theorem dX0_laysWeek_150 : decode cX0_laysWeek 150 = .ok (.aload 6, 2) := dk_25 6 (dk_at dksX0_laysWeek_6 12 rfl rfl)
theorem dX0_laysWeek_152 : decode cX0_laysWeek 152 = .ok (.iload_n 1, 1) := dk_27 (dk_at dksX0_laysWeek_6 14 rfl rfl)
theorem dX0_laysWeek_153 : decode cX0_laysWeek 153 = .ok (.invokevirtual 327, 3) := dk_182 1 71 (dk_at dksX0_laysWeek_6 15 rfl rfl)
theorem dX0_laysWeek_156 : decode cX0_laysWeek 156 = .ok (.bipush 101, 2) := dk_16 101 (dk_at dksX0_laysWeek_6 18 rfl rfl)
theorem dX0_laysWeek_158 : decode cX0_laysWeek 158 = .ok (.bipush 9, 2) := dk_16 9 (dk_at dksX0_laysWeek_6 20 rfl rfl)
theorem dX0_laysWeek_160 : decode cX0_laysWeek 160 = .ok (.invokevirtual 291, 3) := dk_182 1 35 (dk_at dksX0_laysWeek_7 0 rfl rfl)
theorem dX0_laysWeek_163 : decode cX0_laysWeek 163 = .ok (.invokevirtual 331, 3) := dk_182 1 75 (dk_at dksX0_laysWeek_7 3 rfl rfl)
theorem dX0_laysWeek_166 : decode cX0_laysWeek 166 = .ok (.aload 6, 2) := dk_25 6 (dk_at dksX0_laysWeek_7 6 rfl rfl)
theorem dX0_laysWeek_168 : decode cX0_laysWeek 168 = .ok (.dup, 1) := dk_89 (dk_at dksX0_laysWeek_7 8 rfl rfl)
theorem dX0_laysWeek_169 : decode cX0_laysWeek 169 = .ok (.getfield 303, 3) := dk_180 1 47 (dk_at dksX0_laysWeek_7 9 rfl rfl)
theorem dX0_laysWeek_172 : decode cX0_laysWeek 172 = .ok (.iconst 1, 1) := dk_4 (dk_at dksX0_laysWeek_7 12 rfl rfl)
theorem dX0_laysWeek_173 : decode cX0_laysWeek 173 = .ok (.iadd, 1) := dk_96 (dk_at dksX0_laysWeek_7 13 rfl rfl)
theorem dX0_laysWeek_174 : decode cX0_laysWeek 174 = .ok (.putfield 303, 3) := dk_181 1 47 (dk_at dksX0_laysWeek_7 14 rfl rfl)
theorem dX0_laysWeek_177 : decode cX0_laysWeek 177 = .ok (.aload_n 0, 1) := dk_42 (dk_at dksX0_laysWeek_7 17 rfl rfl)
theorem dX0_laysWeek_178 : decode cX0_laysWeek 178 = .ok (.iload_n 1, 1) := dk_27 (dk_at dksX0_laysWeek_7 18 rfl rfl)
theorem dX0_laysWeek_179 : decode cX0_laysWeek 179 = .ok (.iload_n 2, 1) := dk_28 (dk_at dksX0_laysWeek_7 19 rfl rfl)
theorem dX0_laysWeek_180 : decode cX0_laysWeek 180 = .ok (.iload_n 3, 1) := dk_29 (dk_at dksX0_laysWeek_7 20 rfl rfl)
theorem dX0_laysWeek_181 : decode cX0_laysWeek 181 = .ok (.iconst 1, 1) := dk_4 (dk_at dksX0_laysWeek_7 21 rfl rfl)
theorem dX0_laysWeek_182 : decode cX0_laysWeek 182 = .ok (.iadd, 1) := dk_96 (dk_at dksX0_laysWeek_7 22 rfl rfl)
theorem dX0_laysWeek_183 : decode cX0_laysWeek 183 = .ok (.iload 4, 2) := dk_21 4 (dk_at dksX0_laysWeek_8 0 rfl rfl)
theorem dX0_laysWeek_185 : decode cX0_laysWeek 185 = .ok (.iload 5, 2) := dk_21 5 (dk_at dksX0_laysWeek_8 2 rfl rfl)
theorem dX0_laysWeek_187 : decode cX0_laysWeek 187 = .ok (.iload_n 2, 1) := dk_28 (dk_at dksX0_laysWeek_8 4 rfl rfl)
theorem dX0_laysWeek_188 : decode cX0_laysWeek 188 = .ok (.if_icmp .ge 7, 3) := dk_162 0 7 (dk_at dksX0_laysWeek_8 5 rfl rfl)
theorem dX0_laysWeek_191 : decode cX0_laysWeek 191 = .ok (.iconst 1, 1) := dk_4 (dk_at dksX0_laysWeek_8 8 rfl rfl)
theorem dX0_laysWeek_192 : decode cX0_laysWeek 192 = .ok (.goto 4, 3) := dk_167 0 4 (dk_at dksX0_laysWeek_8 9 rfl rfl)
theorem dX0_laysWeek_195 : decode cX0_laysWeek 195 = .ok (.iconst 0, 1) := dk_3 (dk_at dksX0_laysWeek_8 12 rfl rfl)
theorem dX0_laysWeek_196 : decode cX0_laysWeek 196 = .ok (.iadd, 1) := dk_96 (dk_at dksX0_laysWeek_8 13 rfl rfl)
theorem dX0_laysWeek_197 : decode cX0_laysWeek 197 = .ok (.invokevirtual 347, 3) := dk_182 1 91 (dk_at dksX0_laysWeek_8 14 rfl rfl)
theorem dX0_laysWeek_200 : decode cX0_laysWeek 200 = .ok (.iinc 5 1, 3) := dk_132 5 1 (dk_at dksX0_laysWeek_8 17 rfl rfl)
theorem dX0_laysWeek_203 : decode cX0_laysWeek 203 = .ok (.goto (-112), 3) := dk_167 255 144 (dk_at dksX0_laysWeek_8 20 rfl rfl)
theorem dX0_laysWeek_206 : decode cX0_laysWeek 206 = .ok (.return_, 1) := dk_177 (dk_at dksX0_laysWeek_8 23 rfl rfl)
abbrev cX0_spread : ByteArray := prog_1_method_46_code
def yX0_spread : MethodName := ⟨RX0, "spread", "(II)I"⟩
def dkwX0_spread_6 : List UInt8 := [167, 0, 9, 42, 180, 0, 88, 28, 46, 172]
abbrev dktX0_spread_6 : List UInt8 := dkwX0_spread_6 ++ []
def dkwX0_spread_5 : List UInt8 := [181, 1, 95, 42, 3, 27, 16, 60, 29, 182, 1, 101, 28, 16, 10, 160, 0, 10, 42, 180, 1, 95]
abbrev dktX0_spread_5 : List UInt8 := dkwX0_spread_5 ++ dktX0_spread_6
def dkwX0_spread_4 : List UInt8 := [132, 5, 1, 167, 255, 229, 132, 4, 1, 167, 255, 184, 29, 2, 160, 0, 6, 16, 254, 172, 42, 2]
abbrev dktX0_spread_4 : List UInt8 := dkwX0_spread_4 ++ dktX0_spread_5
def dkwX0_spread_3 : List UInt8 := [21, 5, 27, 163, 0, 27, 42, 180, 0, 82, 21, 4, 50, 21, 5, 42, 21, 4, 21, 5, 182, 1, 78, 79]
abbrev dktX0_spread_3 : List UInt8 := dkwX0_spread_3 ++ dktX0_spread_4
def dkwX0_spread_2 : List UInt8 := [180, 0, 30, 180, 0, 103, 21, 4, 50, 182, 1, 98, 154, 0, 6, 167, 0, 39, 21, 4, 62, 3, 54, 5]
abbrev dktX0_spread_2 : List UInt8 := dkwX0_spread_2 ++ dktX0_spread_3
def dkwX0_spread_1 : List UInt8 := [2, 172, 2, 62, 3, 54, 4, 21, 4, 7, 162, 0, 72, 42, 180, 0, 85, 21, 4, 3, 79, 42]
abbrev dktX0_spread_1 : List UInt8 := dkwX0_spread_1 ++ dktX0_spread_2
def dkwX0_spread_0 : List UInt8 := [27, 3, 16, 24, 184, 0, 120, 153, 0, 17, 28, 16, 10, 159, 0, 13, 28, 7, 184, 0, 99, 154, 0, 5]
abbrev dktX0_spread_0 : List UInt8 := dkwX0_spread_0 ++ dktX0_spread_1
theorem dksX0_spread_0 : cX0_spread.data.toList.drop 0 = dktX0_spread_0 := by decide +kernel
theorem dksX0_spread_1 : cX0_spread.data.toList.drop 24 = dktX0_spread_1 := dk_seg dksX0_spread_0 24 rfl rfl
theorem dksX0_spread_2 : cX0_spread.data.toList.drop 46 = dktX0_spread_2 := dk_seg dksX0_spread_1 22 rfl rfl
theorem dksX0_spread_3 : cX0_spread.data.toList.drop 70 = dktX0_spread_3 := dk_seg dksX0_spread_2 24 rfl rfl
theorem dksX0_spread_4 : cX0_spread.data.toList.drop 94 = dktX0_spread_4 := dk_seg dksX0_spread_3 24 rfl rfl
theorem dksX0_spread_5 : cX0_spread.data.toList.drop 116 = dktX0_spread_5 := dk_seg dksX0_spread_4 22 rfl rfl
theorem dksX0_spread_6 : cX0_spread.data.toList.drop 138 = dktX0_spread_6 := dk_seg dksX0_spread_5 22 rfl rfl
theorem dX0_spread_0 : decode cX0_spread 0 = .ok (.iload_n 1, 1) := dk_27 (dk_at dksX0_spread_0 0 rfl rfl)
theorem dX0_spread_1 : decode cX0_spread 1 = .ok (.iconst 0, 1) := dk_3 (dk_at dksX0_spread_0 1 rfl rfl)
theorem dX0_spread_2 : decode cX0_spread 2 = .ok (.bipush 24, 2) := dk_16 24 (dk_at dksX0_spread_0 2 rfl rfl)
theorem dX0_spread_4 : decode cX0_spread 4 = .ok (.invokestatic 120, 3) := dk_184 0 120 (dk_at dksX0_spread_0 4 rfl rfl)
theorem dX0_spread_7 : decode cX0_spread 7 = .ok (.ifCond .eq 17, 3) := dk_153 0 17 (dk_at dksX0_spread_0 7 rfl rfl)
theorem dX0_spread_10 : decode cX0_spread 10 = .ok (.iload_n 2, 1) := dk_28 (dk_at dksX0_spread_0 10 rfl rfl)
theorem dX0_spread_11 : decode cX0_spread 11 = .ok (.bipush 10, 2) := dk_16 10 (dk_at dksX0_spread_0 11 rfl rfl)
theorem dX0_spread_13 : decode cX0_spread 13 = .ok (.if_icmp .eq 13, 3) := dk_159 0 13 (dk_at dksX0_spread_0 13 rfl rfl)
theorem dX0_spread_16 : decode cX0_spread 16 = .ok (.iload_n 2, 1) := dk_28 (dk_at dksX0_spread_0 16 rfl rfl)
theorem dX0_spread_17 : decode cX0_spread 17 = .ok (.iconst 4, 1) := dk_7 (dk_at dksX0_spread_0 17 rfl rfl)
theorem dX0_spread_18 : decode cX0_spread 18 = .ok (.invokestatic 99, 3) := dk_184 0 99 (dk_at dksX0_spread_0 18 rfl rfl)
theorem dX0_spread_21 : decode cX0_spread 21 = .ok (.ifCond .ne 5, 3) := dk_154 0 5 (dk_at dksX0_spread_0 21 rfl rfl)
theorem dX0_spread_24 : decode cX0_spread 24 = .ok (.iconst (-1), 1) := dk_2 (dk_at dksX0_spread_1 0 rfl rfl)
theorem dX0_spread_25 : decode cX0_spread 25 = .ok (.ireturn, 1) := dk_172 (dk_at dksX0_spread_1 1 rfl rfl)
theorem dX0_spread_26 : decode cX0_spread 26 = .ok (.iconst (-1), 1) := dk_2 (dk_at dksX0_spread_1 2 rfl rfl)
theorem dX0_spread_27 : decode cX0_spread 27 = .ok (.istore_n 3, 1) := dk_62 (dk_at dksX0_spread_1 3 rfl rfl)
theorem dX0_spread_28 : decode cX0_spread 28 = .ok (.iconst 0, 1) := dk_3 (dk_at dksX0_spread_1 4 rfl rfl)
theorem dX0_spread_29 : decode cX0_spread 29 = .ok (.istore 4, 2) := dk_54 4 (dk_at dksX0_spread_1 5 rfl rfl)
theorem dX0_spread_31 : decode cX0_spread 31 = .ok (.iload 4, 2) := dk_21 4 (dk_at dksX0_spread_1 7 rfl rfl)
theorem dX0_spread_33 : decode cX0_spread 33 = .ok (.iconst 4, 1) := dk_7 (dk_at dksX0_spread_1 9 rfl rfl)
theorem dX0_spread_34 : decode cX0_spread 34 = .ok (.if_icmp .ge 72, 3) := dk_162 0 72 (dk_at dksX0_spread_1 10 rfl rfl)
theorem dX0_spread_37 : decode cX0_spread 37 = .ok (.aload_n 0, 1) := dk_42 (dk_at dksX0_spread_1 13 rfl rfl)
theorem dX0_spread_38 : decode cX0_spread 38 = .ok (.getfield 85, 3) := dk_180 0 85 (dk_at dksX0_spread_1 14 rfl rfl)
theorem dX0_spread_41 : decode cX0_spread 41 = .ok (.iload 4, 2) := dk_21 4 (dk_at dksX0_spread_1 17 rfl rfl)
theorem dX0_spread_43 : decode cX0_spread 43 = .ok (.iconst 0, 1) := dk_3 (dk_at dksX0_spread_1 19 rfl rfl)
theorem dX0_spread_44 : decode cX0_spread 44 = .ok (.iastore, 1) := dk_79 (dk_at dksX0_spread_1 20 rfl rfl)
theorem dX0_spread_45 : decode cX0_spread 45 = .ok (.aload_n 0, 1) := dk_42 (dk_at dksX0_spread_1 21 rfl rfl)
theorem dX0_spread_46 : decode cX0_spread 46 = .ok (.getfield 30, 3) := dk_180 0 30 (dk_at dksX0_spread_2 0 rfl rfl)
theorem dX0_spread_49 : decode cX0_spread 49 = .ok (.getfield 103, 3) := dk_180 0 103 (dk_at dksX0_spread_2 3 rfl rfl)
theorem dX0_spread_52 : decode cX0_spread 52 = .ok (.iload 4, 2) := dk_21 4 (dk_at dksX0_spread_2 6 rfl rfl)
theorem dX0_spread_54 : decode cX0_spread 54 = .ok (.aaload, 1) := dk_50 (dk_at dksX0_spread_2 8 rfl rfl)
theorem dX0_spread_55 : decode cX0_spread 55 = .ok (.invokevirtual 354, 3) := dk_182 1 98 (dk_at dksX0_spread_2 9 rfl rfl)
theorem dX0_spread_58 : decode cX0_spread 58 = .ok (.ifCond .ne 6, 3) := dk_154 0 6 (dk_at dksX0_spread_2 12 rfl rfl)
theorem dX0_spread_61 : decode cX0_spread 61 = .ok (.goto 39, 3) := dk_167 0 39 (dk_at dksX0_spread_2 15 rfl rfl)
theorem dX0_spread_64 : decode cX0_spread 64 = .ok (.iload 4, 2) := dk_21 4 (dk_at dksX0_spread_2 18 rfl rfl)
theorem dX0_spread_66 : decode cX0_spread 66 = .ok (.istore_n 3, 1) := dk_62 (dk_at dksX0_spread_2 20 rfl rfl)
theorem dX0_spread_67 : decode cX0_spread 67 = .ok (.iconst 0, 1) := dk_3 (dk_at dksX0_spread_2 21 rfl rfl)
theorem dX0_spread_68 : decode cX0_spread 68 = .ok (.istore 5, 2) := dk_54 5 (dk_at dksX0_spread_2 22 rfl rfl)
theorem dX0_spread_70 : decode cX0_spread 70 = .ok (.iload 5, 2) := dk_21 5 (dk_at dksX0_spread_3 0 rfl rfl)
theorem dX0_spread_72 : decode cX0_spread 72 = .ok (.iload_n 1, 1) := dk_27 (dk_at dksX0_spread_3 2 rfl rfl)
theorem dX0_spread_73 : decode cX0_spread 73 = .ok (.if_icmp .gt 27, 3) := dk_163 0 27 (dk_at dksX0_spread_3 3 rfl rfl)
theorem dX0_spread_76 : decode cX0_spread 76 = .ok (.aload_n 0, 1) := dk_42 (dk_at dksX0_spread_3 6 rfl rfl)
theorem dX0_spread_77 : decode cX0_spread 77 = .ok (.getfield 82, 3) := dk_180 0 82 (dk_at dksX0_spread_3 7 rfl rfl)
theorem dX0_spread_80 : decode cX0_spread 80 = .ok (.iload 4, 2) := dk_21 4 (dk_at dksX0_spread_3 10 rfl rfl)
theorem dX0_spread_82 : decode cX0_spread 82 = .ok (.aaload, 1) := dk_50 (dk_at dksX0_spread_3 12 rfl rfl)
theorem dX0_spread_83 : decode cX0_spread 83 = .ok (.iload 5, 2) := dk_21 5 (dk_at dksX0_spread_3 13 rfl rfl)
theorem dX0_spread_85 : decode cX0_spread 85 = .ok (.aload_n 0, 1) := dk_42 (dk_at dksX0_spread_3 15 rfl rfl)
theorem dX0_spread_86 : decode cX0_spread 86 = .ok (.iload 4, 2) := dk_21 4 (dk_at dksX0_spread_3 16 rfl rfl)
theorem dX0_spread_88 : decode cX0_spread 88 = .ok (.iload 5, 2) := dk_21 5 (dk_at dksX0_spread_3 18 rfl rfl)
theorem dX0_spread_90 : decode cX0_spread 90 = .ok (.invokevirtual 334, 3) := dk_182 1 78 (dk_at dksX0_spread_3 20 rfl rfl)
theorem dX0_spread_93 : decode cX0_spread 93 = .ok (.iastore, 1) := dk_79 (dk_at dksX0_spread_3 23 rfl rfl)
theorem dX0_spread_94 : decode cX0_spread 94 = .ok (.iinc 5 1, 3) := dk_132 5 1 (dk_at dksX0_spread_4 0 rfl rfl)
theorem dX0_spread_97 : decode cX0_spread 97 = .ok (.goto (-27), 3) := dk_167 255 229 (dk_at dksX0_spread_4 3 rfl rfl)
theorem dX0_spread_100 : decode cX0_spread 100 = .ok (.iinc 4 1, 3) := dk_132 4 1 (dk_at dksX0_spread_4 6 rfl rfl)
theorem dX0_spread_103 : decode cX0_spread 103 = .ok (.goto (-72), 3) := dk_167 255 184 (dk_at dksX0_spread_4 9 rfl rfl)
theorem dX0_spread_106 : decode cX0_spread 106 = .ok (.iload_n 3, 1) := dk_29 (dk_at dksX0_spread_4 12 rfl rfl)
theorem dX0_spread_107 : decode cX0_spread 107 = .ok (.iconst (-1), 1) := dk_2 (dk_at dksX0_spread_4 13 rfl rfl)
theorem dX0_spread_108 : decode cX0_spread 108 = .ok (.if_icmp .ne 6, 3) := dk_160 0 6 (dk_at dksX0_spread_4 14 rfl rfl)
theorem dX0_spread_111 : decode cX0_spread 111 = .ok (.bipush (-2), 2) := dk_16 254 (dk_at dksX0_spread_4 17 rfl rfl)
theorem dX0_spread_113 : decode cX0_spread 113 = .ok (.ireturn, 1) := dk_172 (dk_at dksX0_spread_4 19 rfl rfl)
theorem dX0_spread_114 : decode cX0_spread 114 = .ok (.aload_n 0, 1) := dk_42 (dk_at dksX0_spread_4 20 rfl rfl)
theorem dX0_spread_115 : decode cX0_spread 115 = .ok (.iconst (-1), 1) := dk_2 (dk_at dksX0_spread_4 21 rfl rfl)
theorem dX0_spread_116 : decode cX0_spread 116 = .ok (.putfield 351, 3) := dk_181 1 95 (dk_at dksX0_spread_5 0 rfl rfl)
theorem dX0_spread_119 : decode cX0_spread 119 = .ok (.aload_n 0, 1) := dk_42 (dk_at dksX0_spread_5 3 rfl rfl)
theorem dX0_spread_120 : decode cX0_spread 120 = .ok (.iconst 0, 1) := dk_3 (dk_at dksX0_spread_5 4 rfl rfl)
theorem dX0_spread_121 : decode cX0_spread 121 = .ok (.iload_n 1, 1) := dk_27 (dk_at dksX0_spread_5 5 rfl rfl)
theorem dX0_spread_122 : decode cX0_spread 122 = .ok (.bipush 60, 2) := dk_16 60 (dk_at dksX0_spread_5 6 rfl rfl)
theorem dX0_spread_124 : decode cX0_spread 124 = .ok (.iload_n 3, 1) := dk_29 (dk_at dksX0_spread_5 8 rfl rfl)
theorem dX0_spread_125 : decode cX0_spread 125 = .ok (.invokevirtual 357, 3) := dk_182 1 101 (dk_at dksX0_spread_5 9 rfl rfl)
theorem dX0_spread_128 : decode cX0_spread 128 = .ok (.iload_n 2, 1) := dk_28 (dk_at dksX0_spread_5 12 rfl rfl)
theorem dX0_spread_129 : decode cX0_spread 129 = .ok (.bipush 10, 2) := dk_16 10 (dk_at dksX0_spread_5 13 rfl rfl)
theorem dX0_spread_131 : decode cX0_spread 131 = .ok (.if_icmp .ne 10, 3) := dk_160 0 10 (dk_at dksX0_spread_5 15 rfl rfl)
theorem dX0_spread_134 : decode cX0_spread 134 = .ok (.aload_n 0, 1) := dk_42 (dk_at dksX0_spread_5 18 rfl rfl)
theorem dX0_spread_135 : decode cX0_spread 135 = .ok (.getfield 351, 3) := dk_180 1 95 (dk_at dksX0_spread_5 19 rfl rfl)
theorem dX0_spread_138 : decode cX0_spread 138 = .ok (.goto 9, 3) := dk_167 0 9 (dk_at dksX0_spread_6 0 rfl rfl)
theorem dX0_spread_141 : decode cX0_spread 141 = .ok (.aload_n 0, 1) := dk_42 (dk_at dksX0_spread_6 3 rfl rfl)
theorem dX0_spread_142 : decode cX0_spread 142 = .ok (.getfield 88, 3) := dk_180 0 88 (dk_at dksX0_spread_6 4 rfl rfl)
theorem dX0_spread_145 : decode cX0_spread 145 = .ok (.iload_n 2, 1) := dk_28 (dk_at dksX0_spread_6 7 rfl rfl)
theorem dX0_spread_146 : decode cX0_spread 146 = .ok (.iaload, 1) := dk_46 (dk_at dksX0_spread_6 8 rfl rfl)
theorem dX0_spread_147 : decode cX0_spread 147 = .ok (.ireturn, 1) := dk_172 (dk_at dksX0_spread_6 9 rfl rfl)
abbrev cX0_spreads : ByteArray := prog_1_method_45_code
def yX0_spreads : MethodName := ⟨RX0, "spreads", "(IIII)V"⟩
def dkwX0_spreads_6 : List UInt8 := [132, 7, 1, 167, 255, 195, 177]
abbrev dktX0_spreads_6 : List UInt8 := dkwX0_spreads_6 ++ []
def dkwX0_spreads_5 : List UInt8 := [29, 42, 180, 0, 82, 27, 50, 21, 7, 46, 184, 0, 3, 167, 0, 4, 29, 21, 4, 182, 1, 101]
abbrev dktX0_spreads_5 : List UInt8 := dkwX0_spreads_5 ++ dktX0_spreads_6
def dkwX0_spreads_4 : List UInt8 := [163, 0, 52, 42, 180, 0, 85, 27, 21, 7, 79, 42, 27, 4, 96, 28, 21, 7, 100, 21, 5, 153, 0, 19]
abbrev dktX0_spreads_4 : List UInt8 := dkwX0_spreads_4 ++ dktX0_spreads_5
def dkwX0_spreads_3 : List UInt8 := [167, 0, 4, 3, 54, 6, 21, 6, 54, 7, 21, 7, 21, 5, 153, 0, 7, 28, 167, 0, 4, 3]
abbrev dktX0_spreads_3 : List UInt8 := dkwX0_spreads_3 ++ dktX0_spreads_4
def dkwX0_spreads_2 : List UInt8 := [177, 42, 180, 0, 30, 180, 0, 103, 27, 50, 182, 1, 98, 54, 5, 27, 21, 4, 160, 0, 7, 28]
abbrev dktX0_spreads_2 : List UInt8 := dkwX0_spreads_2 ++ dktX0_spreads_3
def dkwX0_spreads_1 : List UInt8 := [7, 162, 0, 23, 42, 180, 0, 88, 21, 5, 42, 180, 0, 85, 21, 5, 46, 79, 132, 5, 1, 167, 255, 233]
abbrev dktX0_spreads_1 : List UInt8 := dkwX0_spreads_1 ++ dktX0_spreads_2
def dkwX0_spreads_0 : List UInt8 := [27, 7, 160, 0, 47, 29, 42, 180, 1, 95, 163, 0, 4, 177, 42, 29, 181, 1, 95, 3, 54, 5, 21, 5]
abbrev dktX0_spreads_0 : List UInt8 := dkwX0_spreads_0 ++ dktX0_spreads_1
theorem dksX0_spreads_0 : cX0_spreads.data.toList.drop 0 = dktX0_spreads_0 := by decide +kernel
theorem dksX0_spreads_1 : cX0_spreads.data.toList.drop 24 = dktX0_spreads_1 := dk_seg dksX0_spreads_0 24 rfl rfl
theorem dksX0_spreads_2 : cX0_spreads.data.toList.drop 48 = dktX0_spreads_2 := dk_seg dksX0_spreads_1 24 rfl rfl
theorem dksX0_spreads_3 : cX0_spreads.data.toList.drop 70 = dktX0_spreads_3 := dk_seg dksX0_spreads_2 22 rfl rfl
theorem dksX0_spreads_4 : cX0_spreads.data.toList.drop 92 = dktX0_spreads_4 := dk_seg dksX0_spreads_3 22 rfl rfl
theorem dksX0_spreads_5 : cX0_spreads.data.toList.drop 116 = dktX0_spreads_5 := dk_seg dksX0_spreads_4 24 rfl rfl
theorem dksX0_spreads_6 : cX0_spreads.data.toList.drop 138 = dktX0_spreads_6 := dk_seg dksX0_spreads_5 22 rfl rfl
theorem dX0_spreads_0 : decode cX0_spreads 0 = .ok (.iload_n 1, 1) := dk_27 (dk_at dksX0_spreads_0 0 rfl rfl)
theorem dX0_spreads_1 : decode cX0_spreads 1 = .ok (.iconst 4, 1) := dk_7 (dk_at dksX0_spreads_0 1 rfl rfl)
theorem dX0_spreads_2 : decode cX0_spreads 2 = .ok (.if_icmp .ne 47, 3) := dk_160 0 47 (dk_at dksX0_spreads_0 2 rfl rfl)
theorem dX0_spreads_5 : decode cX0_spreads 5 = .ok (.iload_n 3, 1) := dk_29 (dk_at dksX0_spreads_0 5 rfl rfl)
theorem dX0_spreads_6 : decode cX0_spreads 6 = .ok (.aload_n 0, 1) := dk_42 (dk_at dksX0_spreads_0 6 rfl rfl)
theorem dX0_spreads_7 : decode cX0_spreads 7 = .ok (.getfield 351, 3) := dk_180 1 95 (dk_at dksX0_spreads_0 7 rfl rfl)
theorem dX0_spreads_10 : decode cX0_spreads 10 = .ok (.if_icmp .gt 4, 3) := dk_163 0 4 (dk_at dksX0_spreads_0 10 rfl rfl)
theorem dX0_spreads_13 : decode cX0_spreads 13 = .ok (.return_, 1) := dk_177 (dk_at dksX0_spreads_0 13 rfl rfl)
theorem dX0_spreads_14 : decode cX0_spreads 14 = .ok (.aload_n 0, 1) := dk_42 (dk_at dksX0_spreads_0 14 rfl rfl)
theorem dX0_spreads_15 : decode cX0_spreads 15 = .ok (.iload_n 3, 1) := dk_29 (dk_at dksX0_spreads_0 15 rfl rfl)
theorem dX0_spreads_16 : decode cX0_spreads 16 = .ok (.putfield 351, 3) := dk_181 1 95 (dk_at dksX0_spreads_0 16 rfl rfl)
theorem dX0_spreads_19 : decode cX0_spreads 19 = .ok (.iconst 0, 1) := dk_3 (dk_at dksX0_spreads_0 19 rfl rfl)
theorem dX0_spreads_20 : decode cX0_spreads 20 = .ok (.istore 5, 2) := dk_54 5 (dk_at dksX0_spreads_0 20 rfl rfl)
theorem dX0_spreads_22 : decode cX0_spreads 22 = .ok (.iload 5, 2) := dk_21 5 (dk_at dksX0_spreads_0 22 rfl rfl)
theorem dX0_spreads_24 : decode cX0_spreads 24 = .ok (.iconst 4, 1) := dk_7 (dk_at dksX0_spreads_1 0 rfl rfl)
theorem dX0_spreads_25 : decode cX0_spreads 25 = .ok (.if_icmp .ge 23, 3) := dk_162 0 23 (dk_at dksX0_spreads_1 1 rfl rfl)
theorem dX0_spreads_28 : decode cX0_spreads 28 = .ok (.aload_n 0, 1) := dk_42 (dk_at dksX0_spreads_1 4 rfl rfl)
theorem dX0_spreads_29 : decode cX0_spreads 29 = .ok (.getfield 88, 3) := dk_180 0 88 (dk_at dksX0_spreads_1 5 rfl rfl)
theorem dX0_spreads_32 : decode cX0_spreads 32 = .ok (.iload 5, 2) := dk_21 5 (dk_at dksX0_spreads_1 8 rfl rfl)
theorem dX0_spreads_34 : decode cX0_spreads 34 = .ok (.aload_n 0, 1) := dk_42 (dk_at dksX0_spreads_1 10 rfl rfl)
theorem dX0_spreads_35 : decode cX0_spreads 35 = .ok (.getfield 85, 3) := dk_180 0 85 (dk_at dksX0_spreads_1 11 rfl rfl)
theorem dX0_spreads_38 : decode cX0_spreads 38 = .ok (.iload 5, 2) := dk_21 5 (dk_at dksX0_spreads_1 14 rfl rfl)
theorem dX0_spreads_40 : decode cX0_spreads 40 = .ok (.iaload, 1) := dk_46 (dk_at dksX0_spreads_1 16 rfl rfl)
theorem dX0_spreads_41 : decode cX0_spreads 41 = .ok (.iastore, 1) := dk_79 (dk_at dksX0_spreads_1 17 rfl rfl)
theorem dX0_spreads_42 : decode cX0_spreads 42 = .ok (.iinc 5 1, 3) := dk_132 5 1 (dk_at dksX0_spreads_1 18 rfl rfl)
theorem dX0_spreads_45 : decode cX0_spreads 45 = .ok (.goto (-23), 3) := dk_167 255 233 (dk_at dksX0_spreads_1 21 rfl rfl)
theorem dX0_spreads_48 : decode cX0_spreads 48 = .ok (.return_, 1) := dk_177 (dk_at dksX0_spreads_2 0 rfl rfl)
theorem dX0_spreads_49 : decode cX0_spreads 49 = .ok (.aload_n 0, 1) := dk_42 (dk_at dksX0_spreads_2 1 rfl rfl)
theorem dX0_spreads_50 : decode cX0_spreads 50 = .ok (.getfield 30, 3) := dk_180 0 30 (dk_at dksX0_spreads_2 2 rfl rfl)
theorem dX0_spreads_53 : decode cX0_spreads 53 = .ok (.getfield 103, 3) := dk_180 0 103 (dk_at dksX0_spreads_2 5 rfl rfl)
theorem dX0_spreads_56 : decode cX0_spreads 56 = .ok (.iload_n 1, 1) := dk_27 (dk_at dksX0_spreads_2 8 rfl rfl)
theorem dX0_spreads_57 : decode cX0_spreads 57 = .ok (.aaload, 1) := dk_50 (dk_at dksX0_spreads_2 9 rfl rfl)
theorem dX0_spreads_58 : decode cX0_spreads 58 = .ok (.invokevirtual 354, 3) := dk_182 1 98 (dk_at dksX0_spreads_2 10 rfl rfl)
theorem dX0_spreads_61 : decode cX0_spreads 61 = .ok (.istore 5, 2) := dk_54 5 (dk_at dksX0_spreads_2 13 rfl rfl)
theorem dX0_spreads_63 : decode cX0_spreads 63 = .ok (.iload_n 1, 1) := dk_27 (dk_at dksX0_spreads_2 15 rfl rfl)
theorem dX0_spreads_64 : decode cX0_spreads 64 = .ok (.iload 4, 2) := dk_21 4 (dk_at dksX0_spreads_2 16 rfl rfl)
theorem dX0_spreads_66 : decode cX0_spreads 66 = .ok (.if_icmp .ne 7, 3) := dk_160 0 7 (dk_at dksX0_spreads_2 18 rfl rfl)
theorem dX0_spreads_69 : decode cX0_spreads 69 = .ok (.iload_n 2, 1) := dk_28 (dk_at dksX0_spreads_2 21 rfl rfl)
theorem dX0_spreads_70 : decode cX0_spreads 70 = .ok (.goto 4, 3) := dk_167 0 4 (dk_at dksX0_spreads_3 0 rfl rfl)
theorem dX0_spreads_73 : decode cX0_spreads 73 = .ok (.iconst 0, 1) := dk_3 (dk_at dksX0_spreads_3 3 rfl rfl)
theorem dX0_spreads_74 : decode cX0_spreads 74 = .ok (.istore 6, 2) := dk_54 6 (dk_at dksX0_spreads_3 4 rfl rfl)
theorem dX0_spreads_76 : decode cX0_spreads 76 = .ok (.iload 6, 2) := dk_21 6 (dk_at dksX0_spreads_3 6 rfl rfl)
theorem dX0_spreads_78 : decode cX0_spreads 78 = .ok (.istore 7, 2) := dk_54 7 (dk_at dksX0_spreads_3 8 rfl rfl)
theorem dX0_spreads_80 : decode cX0_spreads 80 = .ok (.iload 7, 2) := dk_21 7 (dk_at dksX0_spreads_3 10 rfl rfl)
theorem dX0_spreads_82 : decode cX0_spreads 82 = .ok (.iload 5, 2) := dk_21 5 (dk_at dksX0_spreads_3 12 rfl rfl)
theorem dX0_spreads_84 : decode cX0_spreads 84 = .ok (.ifCond .eq 7, 3) := dk_153 0 7 (dk_at dksX0_spreads_3 14 rfl rfl)
theorem dX0_spreads_87 : decode cX0_spreads 87 = .ok (.iload_n 2, 1) := dk_28 (dk_at dksX0_spreads_3 17 rfl rfl)
theorem dX0_spreads_88 : decode cX0_spreads 88 = .ok (.goto 4, 3) := dk_167 0 4 (dk_at dksX0_spreads_3 18 rfl rfl)
theorem dX0_spreads_91 : decode cX0_spreads 91 = .ok (.iconst 0, 1) := dk_3 (dk_at dksX0_spreads_3 21 rfl rfl)
theorem dX0_spreads_92 : decode cX0_spreads 92 = .ok (.if_icmp .gt 52, 3) := dk_163 0 52 (dk_at dksX0_spreads_4 0 rfl rfl)
theorem dX0_spreads_95 : decode cX0_spreads 95 = .ok (.aload_n 0, 1) := dk_42 (dk_at dksX0_spreads_4 3 rfl rfl)
theorem dX0_spreads_96 : decode cX0_spreads 96 = .ok (.getfield 85, 3) := dk_180 0 85 (dk_at dksX0_spreads_4 4 rfl rfl)
theorem dX0_spreads_99 : decode cX0_spreads 99 = .ok (.iload_n 1, 1) := dk_27 (dk_at dksX0_spreads_4 7 rfl rfl)
theorem dX0_spreads_100 : decode cX0_spreads 100 = .ok (.iload 7, 2) := dk_21 7 (dk_at dksX0_spreads_4 8 rfl rfl)
theorem dX0_spreads_102 : decode cX0_spreads 102 = .ok (.iastore, 1) := dk_79 (dk_at dksX0_spreads_4 10 rfl rfl)
theorem dX0_spreads_103 : decode cX0_spreads 103 = .ok (.aload_n 0, 1) := dk_42 (dk_at dksX0_spreads_4 11 rfl rfl)
theorem dX0_spreads_104 : decode cX0_spreads 104 = .ok (.iload_n 1, 1) := dk_27 (dk_at dksX0_spreads_4 12 rfl rfl)
theorem dX0_spreads_105 : decode cX0_spreads 105 = .ok (.iconst 1, 1) := dk_4 (dk_at dksX0_spreads_4 13 rfl rfl)
theorem dX0_spreads_106 : decode cX0_spreads 106 = .ok (.iadd, 1) := dk_96 (dk_at dksX0_spreads_4 14 rfl rfl)
theorem dX0_spreads_107 : decode cX0_spreads 107 = .ok (.iload_n 2, 1) := dk_28 (dk_at dksX0_spreads_4 15 rfl rfl)
theorem dX0_spreads_108 : decode cX0_spreads 108 = .ok (.iload 7, 2) := dk_21 7 (dk_at dksX0_spreads_4 16 rfl rfl)
theorem dX0_spreads_110 : decode cX0_spreads 110 = .ok (.isub, 1) := dk_100 (dk_at dksX0_spreads_4 18 rfl rfl)
theorem dX0_spreads_111 : decode cX0_spreads 111 = .ok (.iload 5, 2) := dk_21 5 (dk_at dksX0_spreads_4 19 rfl rfl)
theorem dX0_spreads_113 : decode cX0_spreads 113 = .ok (.ifCond .eq 19, 3) := dk_153 0 19 (dk_at dksX0_spreads_4 21 rfl rfl)
theorem dX0_spreads_116 : decode cX0_spreads 116 = .ok (.iload_n 3, 1) := dk_29 (dk_at dksX0_spreads_5 0 rfl rfl)
theorem dX0_spreads_117 : decode cX0_spreads 117 = .ok (.aload_n 0, 1) := dk_42 (dk_at dksX0_spreads_5 1 rfl rfl)
theorem dX0_spreads_118 : decode cX0_spreads 118 = .ok (.getfield 82, 3) := dk_180 0 82 (dk_at dksX0_spreads_5 2 rfl rfl)
theorem dX0_spreads_121 : decode cX0_spreads 121 = .ok (.iload_n 1, 1) := dk_27 (dk_at dksX0_spreads_5 5 rfl rfl)
theorem dX0_spreads_122 : decode cX0_spreads 122 = .ok (.aaload, 1) := dk_50 (dk_at dksX0_spreads_5 6 rfl rfl)
theorem dX0_spreads_123 : decode cX0_spreads 123 = .ok (.iload 7, 2) := dk_21 7 (dk_at dksX0_spreads_5 7 rfl rfl)
theorem dX0_spreads_125 : decode cX0_spreads 125 = .ok (.iaload, 1) := dk_46 (dk_at dksX0_spreads_5 9 rfl rfl)
theorem dX0_spreads_126 : decode cX0_spreads 126 = .ok (.invokestatic 3, 3) := dk_184 0 3 (dk_at dksX0_spreads_5 10 rfl rfl)
theorem dX0_spreads_129 : decode cX0_spreads 129 = .ok (.goto 4, 3) := dk_167 0 4 (dk_at dksX0_spreads_5 13 rfl rfl)
theorem dX0_spreads_132 : decode cX0_spreads 132 = .ok (.iload_n 3, 1) := dk_29 (dk_at dksX0_spreads_5 16 rfl rfl)
theorem dX0_spreads_133 : decode cX0_spreads 133 = .ok (.iload 4, 2) := dk_21 4 (dk_at dksX0_spreads_5 17 rfl rfl)
theorem dX0_spreads_135 : decode cX0_spreads 135 = .ok (.invokevirtual 357, 3) := dk_182 1 101 (dk_at dksX0_spreads_5 19 rfl rfl)
theorem dX0_spreads_138 : decode cX0_spreads 138 = .ok (.iinc 7 1, 3) := dk_132 7 1 (dk_at dksX0_spreads_6 0 rfl rfl)
theorem dX0_spreads_141 : decode cX0_spreads 141 = .ok (.goto (-61), 3) := dk_167 255 195 (dk_at dksX0_spreads_6 3 rfl rfl)
theorem dX0_spreads_144 : decode cX0_spreads 144 = .ok (.return_, 1) := dk_177 (dk_at dksX0_spreads_6 6 rfl rfl)
abbrev cX0_comes : ByteArray := prog_1_method_47_code
def yX0_comes : MethodName := ⟨RX0, "comes", "(III)J"⟩
def dkwX0_comes_10 : List UInt8 := [22, 4, 22, 6, 109, 173]
abbrev dktX0_comes_10 : List UInt8 := dkwX0_comes_10 ++ []
def dkwX0_comes_9 : List UInt8 := [22, 4, 184, 1, 106, 55, 6, 29, 154, 0, 15, 42, 180, 0, 91, 28, 47, 22, 6, 109, 167, 0, 8]
abbrev dktX0_comes_9 : List UInt8 := dkwX0_comes_9 ++ dktX0_comes_10
def dkwX0_comes_8 : List UInt8 := [167, 255, 194, 132, 4, 1, 167, 255, 178, 16, 10, 27, 184, 1, 50, 55, 4, 42, 180, 0, 91, 28, 47]
abbrev dktX0_comes_8 : List UInt8 := dkwX0_comes_8 ++ dktX0_comes_9
def dkwX0_comes_7 : List UInt8 := [42, 180, 0, 91, 21, 5, 4, 100, 47, 42, 180, 0, 40, 21, 4, 51, 133, 105, 97, 80, 132, 5, 255]
abbrev dktX0_comes_7 : List UInt8 := dkwX0_comes_7 ++ dktX0_comes_8
def dkwX0_comes_6 : List UInt8 := [21, 5, 47, 16, 10, 42, 180, 0, 40, 21, 4, 51, 100, 133, 105, 21, 5, 154, 0, 7, 9, 167, 0, 21]
abbrev dktX0_comes_6 : List UInt8 := dkwX0_comes_6 ++ dktX0_comes_7
def dkwX0_comes_5 : List UInt8 := [27, 162, 0, 78, 16, 12, 54, 5, 21, 5, 155, 0, 63, 42, 180, 0, 91, 21, 5, 42, 180, 0, 91]
abbrev dktX0_comes_5 : List UInt8 := dkwX0_comes_5 ++ dktX0_comes_6
def dkwX0_comes_4 : List UInt8 := [21, 4, 21, 4, 154, 0, 7, 10, 167, 0, 4, 9, 80, 132, 4, 1, 167, 255, 229, 3, 54, 4, 21, 4]
abbrev dktX0_comes_4 : List UInt8 := dkwX0_comes_4 ++ dktX0_comes_5
def dkwX0_comes_3 : List UInt8 := [20, 1, 104, 173, 132, 4, 1, 167, 255, 227, 3, 54, 4, 21, 4, 16, 12, 163, 0, 26, 42, 180, 0, 91]
abbrev dktX0_comes_3 : List UInt8 := dkwX0_comes_3 ++ dktX0_comes_4
def dkwX0_comes_2 : List UInt8 := [54, 4, 21, 4, 27, 162, 0, 29, 42, 180, 0, 40, 21, 4, 51, 3, 16, 10, 184, 0, 120, 154, 0, 7]
abbrev dktX0_comes_2 : List UInt8 := dkwX0_comes_2 ++ dktX0_comes_3
def dkwX0_comes_1 : List UInt8 := [184, 0, 99, 153, 0, 11, 27, 42, 180, 0, 171, 164, 0, 7, 20, 1, 63, 173, 42, 3, 181, 0, 171, 3]
abbrev dktX0_comes_1 : List UInt8 := dkwX0_comes_1 ++ dktX0_comes_2
def dkwX0_comes_0 : List UInt8 := [27, 4, 16, 12, 184, 0, 120, 153, 0, 29, 28, 3, 16, 12, 184, 0, 120, 153, 0, 19, 29, 5]
abbrev dktX0_comes_0 : List UInt8 := dkwX0_comes_0 ++ dktX0_comes_1
theorem dksX0_comes_0 : cX0_comes.data.toList.drop 0 = dktX0_comes_0 := by decide +kernel
theorem dksX0_comes_1 : cX0_comes.data.toList.drop 22 = dktX0_comes_1 := dk_seg dksX0_comes_0 22 rfl rfl
theorem dksX0_comes_2 : cX0_comes.data.toList.drop 46 = dktX0_comes_2 := dk_seg dksX0_comes_1 24 rfl rfl
theorem dksX0_comes_3 : cX0_comes.data.toList.drop 70 = dktX0_comes_3 := dk_seg dksX0_comes_2 24 rfl rfl
theorem dksX0_comes_4 : cX0_comes.data.toList.drop 94 = dktX0_comes_4 := dk_seg dksX0_comes_3 24 rfl rfl
theorem dksX0_comes_5 : cX0_comes.data.toList.drop 118 = dktX0_comes_5 := dk_seg dksX0_comes_4 24 rfl rfl
theorem dksX0_comes_6 : cX0_comes.data.toList.drop 141 = dktX0_comes_6 := dk_seg dksX0_comes_5 23 rfl rfl
theorem dksX0_comes_7 : cX0_comes.data.toList.drop 165 = dktX0_comes_7 := dk_seg dksX0_comes_6 24 rfl rfl
theorem dksX0_comes_8 : cX0_comes.data.toList.drop 188 = dktX0_comes_8 := dk_seg dksX0_comes_7 23 rfl rfl
theorem dksX0_comes_9 : cX0_comes.data.toList.drop 211 = dktX0_comes_9 := dk_seg dksX0_comes_8 23 rfl rfl
theorem dksX0_comes_10 : cX0_comes.data.toList.drop 234 = dktX0_comes_10 := dk_seg dksX0_comes_9 23 rfl rfl
theorem dX0_comes_0 : decode cX0_comes 0 = .ok (.iload_n 1, 1) := dk_27 (dk_at dksX0_comes_0 0 rfl rfl)
theorem dX0_comes_1 : decode cX0_comes 1 = .ok (.iconst 1, 1) := dk_4 (dk_at dksX0_comes_0 1 rfl rfl)
theorem dX0_comes_2 : decode cX0_comes 2 = .ok (.bipush 12, 2) := dk_16 12 (dk_at dksX0_comes_0 2 rfl rfl)
theorem dX0_comes_4 : decode cX0_comes 4 = .ok (.invokestatic 120, 3) := dk_184 0 120 (dk_at dksX0_comes_0 4 rfl rfl)
theorem dX0_comes_7 : decode cX0_comes 7 = .ok (.ifCond .eq 29, 3) := dk_153 0 29 (dk_at dksX0_comes_0 7 rfl rfl)
theorem dX0_comes_10 : decode cX0_comes 10 = .ok (.iload_n 2, 1) := dk_28 (dk_at dksX0_comes_0 10 rfl rfl)
theorem dX0_comes_11 : decode cX0_comes 11 = .ok (.iconst 0, 1) := dk_3 (dk_at dksX0_comes_0 11 rfl rfl)
theorem dX0_comes_12 : decode cX0_comes 12 = .ok (.bipush 12, 2) := dk_16 12 (dk_at dksX0_comes_0 12 rfl rfl)
theorem dX0_comes_14 : decode cX0_comes 14 = .ok (.invokestatic 120, 3) := dk_184 0 120 (dk_at dksX0_comes_0 14 rfl rfl)
theorem dX0_comes_17 : decode cX0_comes 17 = .ok (.ifCond .eq 19, 3) := dk_153 0 19 (dk_at dksX0_comes_0 17 rfl rfl)
theorem dX0_comes_20 : decode cX0_comes 20 = .ok (.iload_n 3, 1) := dk_29 (dk_at dksX0_comes_0 20 rfl rfl)
theorem dX0_comes_21 : decode cX0_comes 21 = .ok (.iconst 2, 1) := dk_5 (dk_at dksX0_comes_0 21 rfl rfl)
theorem dX0_comes_22 : decode cX0_comes 22 = .ok (.invokestatic 99, 3) := dk_184 0 99 (dk_at dksX0_comes_1 0 rfl rfl)
theorem dX0_comes_25 : decode cX0_comes 25 = .ok (.ifCond .eq 11, 3) := dk_153 0 11 (dk_at dksX0_comes_1 3 rfl rfl)
theorem dX0_comes_28 : decode cX0_comes 28 = .ok (.iload_n 1, 1) := dk_27 (dk_at dksX0_comes_1 6 rfl rfl)
theorem dX0_comes_29 : decode cX0_comes 29 = .ok (.aload_n 0, 1) := dk_42 (dk_at dksX0_comes_1 7 rfl rfl)
theorem dX0_comes_30 : decode cX0_comes 30 = .ok (.getfield 171, 3) := dk_180 0 171 (dk_at dksX0_comes_1 8 rfl rfl)
theorem dX0_comes_33 : decode cX0_comes 33 = .ok (.if_icmp .le 7, 3) := dk_164 0 7 (dk_at dksX0_comes_1 11 rfl rfl)
theorem dX0_comes_36 : decode cX0_comes 36 = .ok (.ldc2_w 319, 3) := dk_20 1 63 (dk_at dksX0_comes_1 14 rfl rfl)
theorem dX0_comes_39 : decode cX0_comes 39 = .ok (.lreturn, 1) := dk_173 (dk_at dksX0_comes_1 17 rfl rfl)
theorem dX0_comes_40 : decode cX0_comes 40 = .ok (.aload_n 0, 1) := dk_42 (dk_at dksX0_comes_1 18 rfl rfl)
theorem dX0_comes_41 : decode cX0_comes 41 = .ok (.iconst 0, 1) := dk_3 (dk_at dksX0_comes_1 19 rfl rfl)
theorem dX0_comes_42 : decode cX0_comes 42 = .ok (.putfield 171, 3) := dk_181 0 171 (dk_at dksX0_comes_1 20 rfl rfl)
theorem dX0_comes_45 : decode cX0_comes 45 = .ok (.iconst 0, 1) := dk_3 (dk_at dksX0_comes_1 23 rfl rfl)
theorem dX0_comes_46 : decode cX0_comes 46 = .ok (.istore 4, 2) := dk_54 4 (dk_at dksX0_comes_2 0 rfl rfl)
theorem dX0_comes_48 : decode cX0_comes 48 = .ok (.iload 4, 2) := dk_21 4 (dk_at dksX0_comes_2 2 rfl rfl)
theorem dX0_comes_50 : decode cX0_comes 50 = .ok (.iload_n 1, 1) := dk_27 (dk_at dksX0_comes_2 4 rfl rfl)
theorem dX0_comes_51 : decode cX0_comes 51 = .ok (.if_icmp .ge 29, 3) := dk_162 0 29 (dk_at dksX0_comes_2 5 rfl rfl)
theorem dX0_comes_54 : decode cX0_comes 54 = .ok (.aload_n 0, 1) := dk_42 (dk_at dksX0_comes_2 8 rfl rfl)
theorem dX0_comes_55 : decode cX0_comes 55 = .ok (.getfield 40, 3) := dk_180 0 40 (dk_at dksX0_comes_2 9 rfl rfl)
theorem dX0_comes_58 : decode cX0_comes 58 = .ok (.iload 4, 2) := dk_21 4 (dk_at dksX0_comes_2 12 rfl rfl)
theorem dX0_comes_60 : decode cX0_comes 60 = .ok (.baload, 1) := dk_51 (dk_at dksX0_comes_2 14 rfl rfl)
theorem dX0_comes_61 : decode cX0_comes 61 = .ok (.iconst 0, 1) := dk_3 (dk_at dksX0_comes_2 15 rfl rfl)
theorem dX0_comes_62 : decode cX0_comes 62 = .ok (.bipush 10, 2) := dk_16 10 (dk_at dksX0_comes_2 16 rfl rfl)
theorem dX0_comes_64 : decode cX0_comes 64 = .ok (.invokestatic 120, 3) := dk_184 0 120 (dk_at dksX0_comes_2 18 rfl rfl)
theorem dX0_comes_67 : decode cX0_comes 67 = .ok (.ifCond .ne 7, 3) := dk_154 0 7 (dk_at dksX0_comes_2 21 rfl rfl)
theorem dX0_comes_70 : decode cX0_comes 70 = .ok (.ldc2_w 360, 3) := dk_20 1 104 (dk_at dksX0_comes_3 0 rfl rfl)
theorem dX0_comes_73 : decode cX0_comes 73 = .ok (.lreturn, 1) := dk_173 (dk_at dksX0_comes_3 3 rfl rfl)
theorem dX0_comes_74 : decode cX0_comes 74 = .ok (.iinc 4 1, 3) := dk_132 4 1 (dk_at dksX0_comes_3 4 rfl rfl)
theorem dX0_comes_77 : decode cX0_comes 77 = .ok (.goto (-29), 3) := dk_167 255 227 (dk_at dksX0_comes_3 7 rfl rfl)
theorem dX0_comes_80 : decode cX0_comes 80 = .ok (.iconst 0, 1) := dk_3 (dk_at dksX0_comes_3 10 rfl rfl)
theorem dX0_comes_81 : decode cX0_comes 81 = .ok (.istore 4, 2) := dk_54 4 (dk_at dksX0_comes_3 11 rfl rfl)
theorem dX0_comes_83 : decode cX0_comes 83 = .ok (.iload 4, 2) := dk_21 4 (dk_at dksX0_comes_3 13 rfl rfl)
theorem dX0_comes_85 : decode cX0_comes 85 = .ok (.bipush 12, 2) := dk_16 12 (dk_at dksX0_comes_3 15 rfl rfl)
theorem dX0_comes_87 : decode cX0_comes 87 = .ok (.if_icmp .gt 26, 3) := dk_163 0 26 (dk_at dksX0_comes_3 17 rfl rfl)
theorem dX0_comes_90 : decode cX0_comes 90 = .ok (.aload_n 0, 1) := dk_42 (dk_at dksX0_comes_3 20 rfl rfl)
theorem dX0_comes_91 : decode cX0_comes 91 = .ok (.getfield 91, 3) := dk_180 0 91 (dk_at dksX0_comes_3 21 rfl rfl)
theorem dX0_comes_94 : decode cX0_comes 94 = .ok (.iload 4, 2) := dk_21 4 (dk_at dksX0_comes_4 0 rfl rfl)
theorem dX0_comes_96 : decode cX0_comes 96 = .ok (.iload 4, 2) := dk_21 4 (dk_at dksX0_comes_4 2 rfl rfl)
theorem dX0_comes_98 : decode cX0_comes 98 = .ok (.ifCond .ne 7, 3) := dk_154 0 7 (dk_at dksX0_comes_4 4 rfl rfl)
theorem dX0_comes_101 : decode cX0_comes 101 = .ok (.lconst 1, 1) := dk_10 (dk_at dksX0_comes_4 7 rfl rfl)
theorem dX0_comes_102 : decode cX0_comes 102 = .ok (.goto 4, 3) := dk_167 0 4 (dk_at dksX0_comes_4 8 rfl rfl)
theorem dX0_comes_105 : decode cX0_comes 105 = .ok (.lconst 0, 1) := dk_9 (dk_at dksX0_comes_4 11 rfl rfl)
theorem dX0_comes_106 : decode cX0_comes 106 = .ok (.lastore, 1) := dk_80 (dk_at dksX0_comes_4 12 rfl rfl)
theorem dX0_comes_107 : decode cX0_comes 107 = .ok (.iinc 4 1, 3) := dk_132 4 1 (dk_at dksX0_comes_4 13 rfl rfl)
theorem dX0_comes_110 : decode cX0_comes 110 = .ok (.goto (-27), 3) := dk_167 255 229 (dk_at dksX0_comes_4 16 rfl rfl)
theorem dX0_comes_113 : decode cX0_comes 113 = .ok (.iconst 0, 1) := dk_3 (dk_at dksX0_comes_4 19 rfl rfl)
theorem dX0_comes_114 : decode cX0_comes 114 = .ok (.istore 4, 2) := dk_54 4 (dk_at dksX0_comes_4 20 rfl rfl)
theorem dX0_comes_116 : decode cX0_comes 116 = .ok (.iload 4, 2) := dk_21 4 (dk_at dksX0_comes_4 22 rfl rfl)
theorem dX0_comes_118 : decode cX0_comes 118 = .ok (.iload_n 1, 1) := dk_27 (dk_at dksX0_comes_5 0 rfl rfl)
theorem dX0_comes_119 : decode cX0_comes 119 = .ok (.if_icmp .ge 78, 3) := dk_162 0 78 (dk_at dksX0_comes_5 1 rfl rfl)
theorem dX0_comes_122 : decode cX0_comes 122 = .ok (.bipush 12, 2) := dk_16 12 (dk_at dksX0_comes_5 4 rfl rfl)
theorem dX0_comes_124 : decode cX0_comes 124 = .ok (.istore 5, 2) := dk_54 5 (dk_at dksX0_comes_5 6 rfl rfl)
theorem dX0_comes_126 : decode cX0_comes 126 = .ok (.iload 5, 2) := dk_21 5 (dk_at dksX0_comes_5 8 rfl rfl)
theorem dX0_comes_128 : decode cX0_comes 128 = .ok (.ifCond .lt 63, 3) := dk_155 0 63 (dk_at dksX0_comes_5 10 rfl rfl)
theorem dX0_comes_131 : decode cX0_comes 131 = .ok (.aload_n 0, 1) := dk_42 (dk_at dksX0_comes_5 13 rfl rfl)
theorem dX0_comes_132 : decode cX0_comes 132 = .ok (.getfield 91, 3) := dk_180 0 91 (dk_at dksX0_comes_5 14 rfl rfl)
theorem dX0_comes_135 : decode cX0_comes 135 = .ok (.iload 5, 2) := dk_21 5 (dk_at dksX0_comes_5 17 rfl rfl)
theorem dX0_comes_137 : decode cX0_comes 137 = .ok (.aload_n 0, 1) := dk_42 (dk_at dksX0_comes_5 19 rfl rfl)
theorem dX0_comes_138 : decode cX0_comes 138 = .ok (.getfield 91, 3) := dk_180 0 91 (dk_at dksX0_comes_5 20 rfl rfl)
theorem dX0_comes_141 : decode cX0_comes 141 = .ok (.iload 5, 2) := dk_21 5 (dk_at dksX0_comes_6 0 rfl rfl)
theorem dX0_comes_143 : decode cX0_comes 143 = .ok (.laload, 1) := dk_47 (dk_at dksX0_comes_6 2 rfl rfl)
theorem dX0_comes_144 : decode cX0_comes 144 = .ok (.bipush 10, 2) := dk_16 10 (dk_at dksX0_comes_6 3 rfl rfl)
theorem dX0_comes_146 : decode cX0_comes 146 = .ok (.aload_n 0, 1) := dk_42 (dk_at dksX0_comes_6 5 rfl rfl)
theorem dX0_comes_147 : decode cX0_comes 147 = .ok (.getfield 40, 3) := dk_180 0 40 (dk_at dksX0_comes_6 6 rfl rfl)
theorem dX0_comes_150 : decode cX0_comes 150 = .ok (.iload 4, 2) := dk_21 4 (dk_at dksX0_comes_6 9 rfl rfl)
theorem dX0_comes_152 : decode cX0_comes 152 = .ok (.baload, 1) := dk_51 (dk_at dksX0_comes_6 11 rfl rfl)
theorem dX0_comes_153 : decode cX0_comes 153 = .ok (.isub, 1) := dk_100 (dk_at dksX0_comes_6 12 rfl rfl)
theorem dX0_comes_154 : decode cX0_comes 154 = .ok (.i2l, 1) := dk_133 (dk_at dksX0_comes_6 13 rfl rfl)
theorem dX0_comes_155 : decode cX0_comes 155 = .ok (.lmul, 1) := dk_105 (dk_at dksX0_comes_6 14 rfl rfl)
theorem dX0_comes_156 : decode cX0_comes 156 = .ok (.iload 5, 2) := dk_21 5 (dk_at dksX0_comes_6 15 rfl rfl)
theorem dX0_comes_158 : decode cX0_comes 158 = .ok (.ifCond .ne 7, 3) := dk_154 0 7 (dk_at dksX0_comes_6 17 rfl rfl)
theorem dX0_comes_161 : decode cX0_comes 161 = .ok (.lconst 0, 1) := dk_9 (dk_at dksX0_comes_6 20 rfl rfl)
theorem dX0_comes_162 : decode cX0_comes 162 = .ok (.goto 21, 3) := dk_167 0 21 (dk_at dksX0_comes_6 21 rfl rfl)
theorem dX0_comes_165 : decode cX0_comes 165 = .ok (.aload_n 0, 1) := dk_42 (dk_at dksX0_comes_7 0 rfl rfl)
theorem dX0_comes_166 : decode cX0_comes 166 = .ok (.getfield 91, 3) := dk_180 0 91 (dk_at dksX0_comes_7 1 rfl rfl)
theorem dX0_comes_169 : decode cX0_comes 169 = .ok (.iload 5, 2) := dk_21 5 (dk_at dksX0_comes_7 4 rfl rfl)
theorem dX0_comes_171 : decode cX0_comes 171 = .ok (.iconst 1, 1) := dk_4 (dk_at dksX0_comes_7 6 rfl rfl)
theorem dX0_comes_172 : decode cX0_comes 172 = .ok (.isub, 1) := dk_100 (dk_at dksX0_comes_7 7 rfl rfl)
theorem dX0_comes_173 : decode cX0_comes 173 = .ok (.laload, 1) := dk_47 (dk_at dksX0_comes_7 8 rfl rfl)
theorem dX0_comes_174 : decode cX0_comes 174 = .ok (.aload_n 0, 1) := dk_42 (dk_at dksX0_comes_7 9 rfl rfl)
theorem dX0_comes_175 : decode cX0_comes 175 = .ok (.getfield 40, 3) := dk_180 0 40 (dk_at dksX0_comes_7 10 rfl rfl)
theorem dX0_comes_178 : decode cX0_comes 178 = .ok (.iload 4, 2) := dk_21 4 (dk_at dksX0_comes_7 13 rfl rfl)
theorem dX0_comes_180 : decode cX0_comes 180 = .ok (.baload, 1) := dk_51 (dk_at dksX0_comes_7 15 rfl rfl)
theorem dX0_comes_181 : decode cX0_comes 181 = .ok (.i2l, 1) := dk_133 (dk_at dksX0_comes_7 16 rfl rfl)
theorem dX0_comes_182 : decode cX0_comes 182 = .ok (.lmul, 1) := dk_105 (dk_at dksX0_comes_7 17 rfl rfl)
theorem dX0_comes_183 : decode cX0_comes 183 = .ok (.ladd, 1) := dk_97 (dk_at dksX0_comes_7 18 rfl rfl)
theorem dX0_comes_184 : decode cX0_comes 184 = .ok (.lastore, 1) := dk_80 (dk_at dksX0_comes_7 19 rfl rfl)
theorem dX0_comes_185 : decode cX0_comes 185 = .ok (.iinc 5 (-1), 3) := dk_132 5 255 (dk_at dksX0_comes_7 20 rfl rfl)
theorem dX0_comes_188 : decode cX0_comes 188 = .ok (.goto (-62), 3) := dk_167 255 194 (dk_at dksX0_comes_8 0 rfl rfl)
theorem dX0_comes_191 : decode cX0_comes 191 = .ok (.iinc 4 1, 3) := dk_132 4 1 (dk_at dksX0_comes_8 3 rfl rfl)
theorem dX0_comes_194 : decode cX0_comes 194 = .ok (.goto (-78), 3) := dk_167 255 178 (dk_at dksX0_comes_8 6 rfl rfl)
theorem dX0_comes_197 : decode cX0_comes 197 = .ok (.bipush 10, 2) := dk_16 10 (dk_at dksX0_comes_8 9 rfl rfl)
theorem dX0_comes_199 : decode cX0_comes 199 = .ok (.iload_n 1, 1) := dk_27 (dk_at dksX0_comes_8 11 rfl rfl)
theorem dX0_comes_200 : decode cX0_comes 200 = .ok (.invokestatic 306, 3) := dk_184 1 50 (dk_at dksX0_comes_8 12 rfl rfl)
theorem dX0_comes_203 : decode cX0_comes 203 = .ok (.lstore 4, 2) := dk_55 4 (dk_at dksX0_comes_8 15 rfl rfl)
theorem dX0_comes_205 : decode cX0_comes 205 = .ok (.aload_n 0, 1) := dk_42 (dk_at dksX0_comes_8 17 rfl rfl)
theorem dX0_comes_206 : decode cX0_comes 206 = .ok (.getfield 91, 3) := dk_180 0 91 (dk_at dksX0_comes_8 18 rfl rfl)
theorem dX0_comes_209 : decode cX0_comes 209 = .ok (.iload_n 2, 1) := dk_28 (dk_at dksX0_comes_8 21 rfl rfl)
theorem dX0_comes_210 : decode cX0_comes 210 = .ok (.laload, 1) := dk_47 (dk_at dksX0_comes_8 22 rfl rfl)
theorem dX0_comes_211 : decode cX0_comes 211 = .ok (.lload 4, 2) := dk_22 4 (dk_at dksX0_comes_9 0 rfl rfl)
theorem dX0_comes_213 : decode cX0_comes 213 = .ok (.invokestatic 362, 3) := dk_184 1 106 (dk_at dksX0_comes_9 2 rfl rfl)
theorem dX0_comes_216 : decode cX0_comes 216 = .ok (.lstore 6, 2) := dk_55 6 (dk_at dksX0_comes_9 5 rfl rfl)
theorem dX0_comes_218 : decode cX0_comes 218 = .ok (.iload_n 3, 1) := dk_29 (dk_at dksX0_comes_9 7 rfl rfl)
theorem dX0_comes_219 : decode cX0_comes 219 = .ok (.ifCond .ne 15, 3) := dk_154 0 15 (dk_at dksX0_comes_9 8 rfl rfl)
theorem dX0_comes_222 : decode cX0_comes 222 = .ok (.aload_n 0, 1) := dk_42 (dk_at dksX0_comes_9 11 rfl rfl)
theorem dX0_comes_223 : decode cX0_comes 223 = .ok (.getfield 91, 3) := dk_180 0 91 (dk_at dksX0_comes_9 12 rfl rfl)
theorem dX0_comes_226 : decode cX0_comes 226 = .ok (.iload_n 2, 1) := dk_28 (dk_at dksX0_comes_9 15 rfl rfl)
theorem dX0_comes_227 : decode cX0_comes 227 = .ok (.laload, 1) := dk_47 (dk_at dksX0_comes_9 16 rfl rfl)
theorem dX0_comes_228 : decode cX0_comes 228 = .ok (.lload 6, 2) := dk_22 6 (dk_at dksX0_comes_9 17 rfl rfl)
theorem dX0_comes_230 : decode cX0_comes 230 = .ok (.ldiv, 1) := dk_109 (dk_at dksX0_comes_9 19 rfl rfl)
theorem dX0_comes_231 : decode cX0_comes 231 = .ok (.goto 8, 3) := dk_167 0 8 (dk_at dksX0_comes_9 20 rfl rfl)
theorem dX0_comes_234 : decode cX0_comes 234 = .ok (.lload 4, 2) := dk_22 4 (dk_at dksX0_comes_10 0 rfl rfl)
theorem dX0_comes_236 : decode cX0_comes 236 = .ok (.lload 6, 2) := dk_22 6 (dk_at dksX0_comes_10 2 rfl rfl)
theorem dX0_comes_238 : decode cX0_comes 238 = .ok (.ldiv, 1) := dk_109 (dk_at dksX0_comes_10 4 rfl rfl)
theorem dX0_comes_239 : decode cX0_comes 239 = .ok (.lreturn, 1) := dk_173 (dk_at dksX0_comes_10 5 rfl rfl)
abbrev cX0_divisor : ByteArray := prog_1_method_5_code
def yX0_divisor : MethodName := ⟨RX0, "divisor", "(JJ)J"⟩
def dkwX0_divisor_1 : List UInt8 := [22, 8, 55, 6, 167, 255, 234, 22, 4, 173]
abbrev dktX0_divisor_1 : List UInt8 := dkwX0_divisor_1 ++ []
def dkwX0_divisor_0 : List UInt8 := [30, 55, 4, 32, 55, 6, 22, 6, 9, 148, 153, 0, 21, 22, 4, 22, 6, 113, 55, 8, 22, 6, 55, 4]
abbrev dktX0_divisor_0 : List UInt8 := dkwX0_divisor_0 ++ dktX0_divisor_1
theorem dksX0_divisor_0 : cX0_divisor.data.toList.drop 0 = dktX0_divisor_0 := by decide +kernel
theorem dksX0_divisor_1 : cX0_divisor.data.toList.drop 24 = dktX0_divisor_1 := dk_seg dksX0_divisor_0 24 rfl rfl
theorem dX0_divisor_0 : decode cX0_divisor 0 = .ok (.lload_n 0, 1) := dk_30 (dk_at dksX0_divisor_0 0 rfl rfl)
theorem dX0_divisor_1 : decode cX0_divisor 1 = .ok (.lstore 4, 2) := dk_55 4 (dk_at dksX0_divisor_0 1 rfl rfl)
theorem dX0_divisor_3 : decode cX0_divisor 3 = .ok (.lload_n 2, 1) := dk_32 (dk_at dksX0_divisor_0 3 rfl rfl)
theorem dX0_divisor_4 : decode cX0_divisor 4 = .ok (.lstore 6, 2) := dk_55 6 (dk_at dksX0_divisor_0 4 rfl rfl)
theorem dX0_divisor_6 : decode cX0_divisor 6 = .ok (.lload 6, 2) := dk_22 6 (dk_at dksX0_divisor_0 6 rfl rfl)
theorem dX0_divisor_8 : decode cX0_divisor 8 = .ok (.lconst 0, 1) := dk_9 (dk_at dksX0_divisor_0 8 rfl rfl)
theorem dX0_divisor_9 : decode cX0_divisor 9 = .ok (.lcmp, 1) := dk_148 (dk_at dksX0_divisor_0 9 rfl rfl)
theorem dX0_divisor_10 : decode cX0_divisor 10 = .ok (.ifCond .eq 21, 3) := dk_153 0 21 (dk_at dksX0_divisor_0 10 rfl rfl)
theorem dX0_divisor_13 : decode cX0_divisor 13 = .ok (.lload 4, 2) := dk_22 4 (dk_at dksX0_divisor_0 13 rfl rfl)
theorem dX0_divisor_15 : decode cX0_divisor 15 = .ok (.lload 6, 2) := dk_22 6 (dk_at dksX0_divisor_0 15 rfl rfl)
theorem dX0_divisor_17 : decode cX0_divisor 17 = .ok (.lrem, 1) := dk_113 (dk_at dksX0_divisor_0 17 rfl rfl)
theorem dX0_divisor_18 : decode cX0_divisor 18 = .ok (.lstore 8, 2) := dk_55 8 (dk_at dksX0_divisor_0 18 rfl rfl)
theorem dX0_divisor_20 : decode cX0_divisor 20 = .ok (.lload 6, 2) := dk_22 6 (dk_at dksX0_divisor_0 20 rfl rfl)
theorem dX0_divisor_22 : decode cX0_divisor 22 = .ok (.lstore 4, 2) := dk_55 4 (dk_at dksX0_divisor_0 22 rfl rfl)
theorem dX0_divisor_24 : decode cX0_divisor 24 = .ok (.lload 8, 2) := dk_22 8 (dk_at dksX0_divisor_1 0 rfl rfl)
theorem dX0_divisor_26 : decode cX0_divisor 26 = .ok (.lstore 6, 2) := dk_55 6 (dk_at dksX0_divisor_1 2 rfl rfl)
theorem dX0_divisor_28 : decode cX0_divisor 28 = .ok (.goto (-22), 3) := dk_167 255 234 (dk_at dksX0_divisor_1 4 rfl rfl)
theorem dX0_divisor_31 : decode cX0_divisor 31 = .ok (.lload 4, 2) := dk_22 4 (dk_at dksX0_divisor_1 7 rfl rfl)
theorem dX0_divisor_33 : decode cX0_divisor 33 = .ok (.lreturn, 1) := dk_173 (dk_at dksX0_divisor_1 9 rfl rfl)
abbrev cX0_share : ByteArray := prog_1_method_49_code
def yX0_share : MethodName := ⟨RX0, "share", "(II)I"⟩
def dkwX0_share_6 : List UInt8 := [21, 5, 108, 172]
abbrev dktX0_share_6 : List UInt8 := dkwX0_share_6 ++ []
def dkwX0_share_5 : List UInt8 := [21, 4, 133, 29, 133, 184, 1, 106, 136, 54, 5, 28, 154, 0, 11, 21, 4, 21, 5, 108, 167, 0, 7, 29]
abbrev dktX0_share_5 : List UInt8 := dkwX0_share_5 ++ dktX0_share_6
def dkwX0_share_4 : List UInt8 := [167, 255, 219, 42, 180, 0, 30, 180, 0, 113, 27, 50, 180, 0, 156, 54, 4, 29, 154, 0, 5, 28, 172]
abbrev dktX0_share_4 : List UInt8 := dkwX0_share_4 ++ dktX0_share_5
def dkwX0_share_3 : List UInt8 := [25, 7, 180, 0, 117, 153, 0, 11, 25, 7, 180, 0, 156, 167, 0, 4, 3, 96, 62, 132, 6, 1]
abbrev dktX0_share_3 : List UInt8 := dkwX0_share_3 ++ dktX0_share_4
def dkwX0_share_2 : List UInt8 := [25, 4, 190, 54, 5, 3, 54, 6, 21, 6, 21, 5, 162, 0, 36, 25, 4, 21, 6, 50, 58, 7, 29]
abbrev dktX0_share_2 : List UInt8 := dkwX0_share_2 ++ dktX0_share_3
def dkwX0_share_1 : List UInt8 := [153, 0, 11, 28, 5, 184, 0, 99, 154, 0, 5, 2, 172, 3, 62, 42, 180, 0, 30, 180, 0, 113, 58, 4]
abbrev dktX0_share_1 : List UInt8 := dkwX0_share_1 ++ dktX0_share_2
def dkwX0_share_0 : List UInt8 := [27, 2, 160, 0, 16, 28, 154, 0, 10, 42, 182, 1, 110, 167, 0, 4, 2, 172, 42, 27, 182, 0, 199]
abbrev dktX0_share_0 : List UInt8 := dkwX0_share_0 ++ dktX0_share_1
theorem dksX0_share_0 : cX0_share.data.toList.drop 0 = dktX0_share_0 := by decide +kernel
theorem dksX0_share_1 : cX0_share.data.toList.drop 23 = dktX0_share_1 := dk_seg dksX0_share_0 23 rfl rfl
theorem dksX0_share_2 : cX0_share.data.toList.drop 47 = dktX0_share_2 := dk_seg dksX0_share_1 24 rfl rfl
theorem dksX0_share_3 : cX0_share.data.toList.drop 70 = dktX0_share_3 := dk_seg dksX0_share_2 23 rfl rfl
theorem dksX0_share_4 : cX0_share.data.toList.drop 92 = dktX0_share_4 := dk_seg dksX0_share_3 22 rfl rfl
theorem dksX0_share_5 : cX0_share.data.toList.drop 115 = dktX0_share_5 := dk_seg dksX0_share_4 23 rfl rfl
theorem dksX0_share_6 : cX0_share.data.toList.drop 139 = dktX0_share_6 := dk_seg dksX0_share_5 24 rfl rfl
theorem dX0_share_0 : decode cX0_share 0 = .ok (.iload_n 1, 1) := dk_27 (dk_at dksX0_share_0 0 rfl rfl)
theorem dX0_share_1 : decode cX0_share 1 = .ok (.iconst (-1), 1) := dk_2 (dk_at dksX0_share_0 1 rfl rfl)
theorem dX0_share_2 : decode cX0_share 2 = .ok (.if_icmp .ne 16, 3) := dk_160 0 16 (dk_at dksX0_share_0 2 rfl rfl)
theorem dX0_share_5 : decode cX0_share 5 = .ok (.iload_n 2, 1) := dk_28 (dk_at dksX0_share_0 5 rfl rfl)
theorem dX0_share_6 : decode cX0_share 6 = .ok (.ifCond .ne 10, 3) := dk_154 0 10 (dk_at dksX0_share_0 6 rfl rfl)
theorem dX0_share_9 : decode cX0_share 9 = .ok (.aload_n 0, 1) := dk_42 (dk_at dksX0_share_0 9 rfl rfl)
theorem dX0_share_10 : decode cX0_share 10 = .ok (.invokevirtual 366, 3) := dk_182 1 110 (dk_at dksX0_share_0 10 rfl rfl)
theorem dX0_share_13 : decode cX0_share 13 = .ok (.goto 4, 3) := dk_167 0 4 (dk_at dksX0_share_0 13 rfl rfl)
theorem dX0_share_16 : decode cX0_share 16 = .ok (.iconst (-1), 1) := dk_2 (dk_at dksX0_share_0 16 rfl rfl)
theorem dX0_share_17 : decode cX0_share 17 = .ok (.ireturn, 1) := dk_172 (dk_at dksX0_share_0 17 rfl rfl)
theorem dX0_share_18 : decode cX0_share 18 = .ok (.aload_n 0, 1) := dk_42 (dk_at dksX0_share_0 18 rfl rfl)
theorem dX0_share_19 : decode cX0_share 19 = .ok (.iload_n 1, 1) := dk_27 (dk_at dksX0_share_0 19 rfl rfl)
theorem dX0_share_20 : decode cX0_share 20 = .ok (.invokevirtual 199, 3) := dk_182 0 199 (dk_at dksX0_share_0 20 rfl rfl)
theorem dX0_share_23 : decode cX0_share 23 = .ok (.ifCond .eq 11, 3) := dk_153 0 11 (dk_at dksX0_share_1 0 rfl rfl)
theorem dX0_share_26 : decode cX0_share 26 = .ok (.iload_n 2, 1) := dk_28 (dk_at dksX0_share_1 3 rfl rfl)
theorem dX0_share_27 : decode cX0_share 27 = .ok (.iconst 2, 1) := dk_5 (dk_at dksX0_share_1 4 rfl rfl)
theorem dX0_share_28 : decode cX0_share 28 = .ok (.invokestatic 99, 3) := dk_184 0 99 (dk_at dksX0_share_1 5 rfl rfl)
theorem dX0_share_31 : decode cX0_share 31 = .ok (.ifCond .ne 5, 3) := dk_154 0 5 (dk_at dksX0_share_1 8 rfl rfl)
theorem dX0_share_34 : decode cX0_share 34 = .ok (.iconst (-1), 1) := dk_2 (dk_at dksX0_share_1 11 rfl rfl)
theorem dX0_share_35 : decode cX0_share 35 = .ok (.ireturn, 1) := dk_172 (dk_at dksX0_share_1 12 rfl rfl)
theorem dX0_share_36 : decode cX0_share 36 = .ok (.iconst 0, 1) := dk_3 (dk_at dksX0_share_1 13 rfl rfl)
theorem dX0_share_37 : decode cX0_share 37 = .ok (.istore_n 3, 1) := dk_62 (dk_at dksX0_share_1 14 rfl rfl)
theorem dX0_share_38 : decode cX0_share 38 = .ok (.aload_n 0, 1) := dk_42 (dk_at dksX0_share_1 15 rfl rfl)
theorem dX0_share_39 : decode cX0_share 39 = .ok (.getfield 30, 3) := dk_180 0 30 (dk_at dksX0_share_1 16 rfl rfl)
theorem dX0_share_42 : decode cX0_share 42 = .ok (.getfield 113, 3) := dk_180 0 113 (dk_at dksX0_share_1 19 rfl rfl)
theorem dX0_share_45 : decode cX0_share 45 = .ok (.astore 4, 2) := dk_58 4 (dk_at dksX0_share_1 22 rfl rfl)
theorem dX0_share_47 : decode cX0_share 47 = .ok (.aload 4, 2) := dk_25 4 (dk_at dksX0_share_2 0 rfl rfl)
theorem dX0_share_49 : decode cX0_share 49 = .ok (.arraylength, 1) := dk_190 (dk_at dksX0_share_2 2 rfl rfl)
theorem dX0_share_50 : decode cX0_share 50 = .ok (.istore 5, 2) := dk_54 5 (dk_at dksX0_share_2 3 rfl rfl)
theorem dX0_share_52 : decode cX0_share 52 = .ok (.iconst 0, 1) := dk_3 (dk_at dksX0_share_2 5 rfl rfl)
theorem dX0_share_53 : decode cX0_share 53 = .ok (.istore 6, 2) := dk_54 6 (dk_at dksX0_share_2 6 rfl rfl)
theorem dX0_share_55 : decode cX0_share 55 = .ok (.iload 6, 2) := dk_21 6 (dk_at dksX0_share_2 8 rfl rfl)
theorem dX0_share_57 : decode cX0_share 57 = .ok (.iload 5, 2) := dk_21 5 (dk_at dksX0_share_2 10 rfl rfl)
theorem dX0_share_59 : decode cX0_share 59 = .ok (.if_icmp .ge 36, 3) := dk_162 0 36 (dk_at dksX0_share_2 12 rfl rfl)
theorem dX0_share_62 : decode cX0_share 62 = .ok (.aload 4, 2) := dk_25 4 (dk_at dksX0_share_2 15 rfl rfl)
theorem dX0_share_64 : decode cX0_share 64 = .ok (.iload 6, 2) := dk_21 6 (dk_at dksX0_share_2 17 rfl rfl)
theorem dX0_share_66 : decode cX0_share 66 = .ok (.aaload, 1) := dk_50 (dk_at dksX0_share_2 19 rfl rfl)
theorem dX0_share_67 : decode cX0_share 67 = .ok (.astore 7, 2) := dk_58 7 (dk_at dksX0_share_2 20 rfl rfl)
theorem dX0_share_69 : decode cX0_share 69 = .ok (.iload_n 3, 1) := dk_29 (dk_at dksX0_share_2 22 rfl rfl)
theorem dX0_share_70 : decode cX0_share 70 = .ok (.aload 7, 2) := dk_25 7 (dk_at dksX0_share_3 0 rfl rfl)
theorem dX0_share_72 : decode cX0_share 72 = .ok (.getfield 117, 3) := dk_180 0 117 (dk_at dksX0_share_3 2 rfl rfl)
theorem dX0_share_75 : decode cX0_share 75 = .ok (.ifCond .eq 11, 3) := dk_153 0 11 (dk_at dksX0_share_3 5 rfl rfl)
theorem dX0_share_78 : decode cX0_share 78 = .ok (.aload 7, 2) := dk_25 7 (dk_at dksX0_share_3 8 rfl rfl)
theorem dX0_share_80 : decode cX0_share 80 = .ok (.getfield 156, 3) := dk_180 0 156 (dk_at dksX0_share_3 10 rfl rfl)
theorem dX0_share_83 : decode cX0_share 83 = .ok (.goto 4, 3) := dk_167 0 4 (dk_at dksX0_share_3 13 rfl rfl)
theorem dX0_share_86 : decode cX0_share 86 = .ok (.iconst 0, 1) := dk_3 (dk_at dksX0_share_3 16 rfl rfl)
theorem dX0_share_87 : decode cX0_share 87 = .ok (.iadd, 1) := dk_96 (dk_at dksX0_share_3 17 rfl rfl)
theorem dX0_share_88 : decode cX0_share 88 = .ok (.istore_n 3, 1) := dk_62 (dk_at dksX0_share_3 18 rfl rfl)
theorem dX0_share_89 : decode cX0_share 89 = .ok (.iinc 6 1, 3) := dk_132 6 1 (dk_at dksX0_share_3 19 rfl rfl)
theorem dX0_share_92 : decode cX0_share 92 = .ok (.goto (-37), 3) := dk_167 255 219 (dk_at dksX0_share_4 0 rfl rfl)
theorem dX0_share_95 : decode cX0_share 95 = .ok (.aload_n 0, 1) := dk_42 (dk_at dksX0_share_4 3 rfl rfl)
theorem dX0_share_96 : decode cX0_share 96 = .ok (.getfield 30, 3) := dk_180 0 30 (dk_at dksX0_share_4 4 rfl rfl)
theorem dX0_share_99 : decode cX0_share 99 = .ok (.getfield 113, 3) := dk_180 0 113 (dk_at dksX0_share_4 7 rfl rfl)
theorem dX0_share_102 : decode cX0_share 102 = .ok (.iload_n 1, 1) := dk_27 (dk_at dksX0_share_4 10 rfl rfl)
theorem dX0_share_103 : decode cX0_share 103 = .ok (.aaload, 1) := dk_50 (dk_at dksX0_share_4 11 rfl rfl)
theorem dX0_share_104 : decode cX0_share 104 = .ok (.getfield 156, 3) := dk_180 0 156 (dk_at dksX0_share_4 12 rfl rfl)
theorem dX0_share_107 : decode cX0_share 107 = .ok (.istore 4, 2) := dk_54 4 (dk_at dksX0_share_4 15 rfl rfl)
theorem dX0_share_109 : decode cX0_share 109 = .ok (.iload_n 3, 1) := dk_29 (dk_at dksX0_share_4 17 rfl rfl)
theorem dX0_share_110 : decode cX0_share 110 = .ok (.ifCond .ne 5, 3) := dk_154 0 5 (dk_at dksX0_share_4 18 rfl rfl)
theorem dX0_share_113 : decode cX0_share 113 = .ok (.iload_n 2, 1) := dk_28 (dk_at dksX0_share_4 21 rfl rfl)
theorem dX0_share_114 : decode cX0_share 114 = .ok (.ireturn, 1) := dk_172 (dk_at dksX0_share_4 22 rfl rfl)
theorem dX0_share_115 : decode cX0_share 115 = .ok (.iload 4, 2) := dk_21 4 (dk_at dksX0_share_5 0 rfl rfl)
theorem dX0_share_117 : decode cX0_share 117 = .ok (.i2l, 1) := dk_133 (dk_at dksX0_share_5 2 rfl rfl)
theorem dX0_share_118 : decode cX0_share 118 = .ok (.iload_n 3, 1) := dk_29 (dk_at dksX0_share_5 3 rfl rfl)
theorem dX0_share_119 : decode cX0_share 119 = .ok (.i2l, 1) := dk_133 (dk_at dksX0_share_5 4 rfl rfl)
theorem dX0_share_120 : decode cX0_share 120 = .ok (.invokestatic 362, 3) := dk_184 1 106 (dk_at dksX0_share_5 5 rfl rfl)
theorem dX0_share_123 : decode cX0_share 123 = .ok (.l2i, 1) := dk_136 (dk_at dksX0_share_5 8 rfl rfl)
theorem dX0_share_124 : decode cX0_share 124 = .ok (.istore 5, 2) := dk_54 5 (dk_at dksX0_share_5 9 rfl rfl)
theorem dX0_share_126 : decode cX0_share 126 = .ok (.iload_n 2, 1) := dk_28 (dk_at dksX0_share_5 11 rfl rfl)
theorem dX0_share_127 : decode cX0_share 127 = .ok (.ifCond .ne 11, 3) := dk_154 0 11 (dk_at dksX0_share_5 12 rfl rfl)
theorem dX0_share_130 : decode cX0_share 130 = .ok (.iload 4, 2) := dk_21 4 (dk_at dksX0_share_5 15 rfl rfl)
theorem dX0_share_132 : decode cX0_share 132 = .ok (.iload 5, 2) := dk_21 5 (dk_at dksX0_share_5 17 rfl rfl)
theorem dX0_share_134 : decode cX0_share 134 = .ok (.idiv, 1) := dk_108 (dk_at dksX0_share_5 19 rfl rfl)
theorem dX0_share_135 : decode cX0_share 135 = .ok (.goto 7, 3) := dk_167 0 7 (dk_at dksX0_share_5 20 rfl rfl)
theorem dX0_share_138 : decode cX0_share 138 = .ok (.iload_n 3, 1) := dk_29 (dk_at dksX0_share_5 23 rfl rfl)
theorem dX0_share_139 : decode cX0_share 139 = .ok (.iload 5, 2) := dk_21 5 (dk_at dksX0_share_6 0 rfl rfl)
theorem dX0_share_141 : decode cX0_share 141 = .ok (.idiv, 1) := dk_108 (dk_at dksX0_share_6 2 rfl rfl)
theorem dX0_share_142 : decode cX0_share 142 = .ok (.ireturn, 1) := dk_172 (dk_at dksX0_share_6 3 rfl rfl)
abbrev cX0_theOne : ByteArray := prog_1_method_48_code
def yX0_theOne : MethodName := ⟨RX0, "theOne", "()I"⟩
def dkwX0_theOne_2 : List UInt8 := [50, 180, 0, 156, 164, 0, 5, 28, 60, 132, 2, 1, 167, 255, 202, 27, 172]
abbrev dktX0_theOne_2 : List UInt8 := dkwX0_theOne_2 ++ []
def dkwX0_theOne_1 : List UInt8 := [180, 0, 113, 28, 50, 180, 0, 156, 27, 156, 0, 7, 3, 167, 0, 15, 42, 180, 0, 30, 180, 0, 113, 27]
abbrev dktX0_theOne_1 : List UInt8 := dkwX0_theOne_1 ++ dktX0_theOne_2
def dkwX0_theOne_0 : List UInt8 := [16, 254, 60, 3, 61, 28, 16, 8, 162, 0, 54, 42, 28, 182, 0, 199, 153, 0, 40, 42, 180, 0, 30]
abbrev dktX0_theOne_0 : List UInt8 := dkwX0_theOne_0 ++ dktX0_theOne_1
theorem dksX0_theOne_0 : cX0_theOne.data.toList.drop 0 = dktX0_theOne_0 := by decide +kernel
theorem dksX0_theOne_1 : cX0_theOne.data.toList.drop 23 = dktX0_theOne_1 := dk_seg dksX0_theOne_0 23 rfl rfl
theorem dksX0_theOne_2 : cX0_theOne.data.toList.drop 47 = dktX0_theOne_2 := dk_seg dksX0_theOne_1 24 rfl rfl
theorem dX0_theOne_0 : decode cX0_theOne 0 = .ok (.bipush (-2), 2) := dk_16 254 (dk_at dksX0_theOne_0 0 rfl rfl)
theorem dX0_theOne_2 : decode cX0_theOne 2 = .ok (.istore_n 1, 1) := dk_60 (dk_at dksX0_theOne_0 2 rfl rfl)
theorem dX0_theOne_3 : decode cX0_theOne 3 = .ok (.iconst 0, 1) := dk_3 (dk_at dksX0_theOne_0 3 rfl rfl)
theorem dX0_theOne_4 : decode cX0_theOne 4 = .ok (.istore_n 2, 1) := dk_61 (dk_at dksX0_theOne_0 4 rfl rfl)
theorem dX0_theOne_5 : decode cX0_theOne 5 = .ok (.iload_n 2, 1) := dk_28 (dk_at dksX0_theOne_0 5 rfl rfl)
theorem dX0_theOne_6 : decode cX0_theOne 6 = .ok (.bipush 8, 2) := dk_16 8 (dk_at dksX0_theOne_0 6 rfl rfl)
theorem dX0_theOne_8 : decode cX0_theOne 8 = .ok (.if_icmp .ge 54, 3) := dk_162 0 54 (dk_at dksX0_theOne_0 8 rfl rfl)
theorem dX0_theOne_11 : decode cX0_theOne 11 = .ok (.aload_n 0, 1) := dk_42 (dk_at dksX0_theOne_0 11 rfl rfl)
theorem dX0_theOne_12 : decode cX0_theOne 12 = .ok (.iload_n 2, 1) := dk_28 (dk_at dksX0_theOne_0 12 rfl rfl)
theorem dX0_theOne_13 : decode cX0_theOne 13 = .ok (.invokevirtual 199, 3) := dk_182 0 199 (dk_at dksX0_theOne_0 13 rfl rfl)
theorem dX0_theOne_16 : decode cX0_theOne 16 = .ok (.ifCond .eq 40, 3) := dk_153 0 40 (dk_at dksX0_theOne_0 16 rfl rfl)
theorem dX0_theOne_19 : decode cX0_theOne 19 = .ok (.aload_n 0, 1) := dk_42 (dk_at dksX0_theOne_0 19 rfl rfl)
theorem dX0_theOne_20 : decode cX0_theOne 20 = .ok (.getfield 30, 3) := dk_180 0 30 (dk_at dksX0_theOne_0 20 rfl rfl)
theorem dX0_theOne_23 : decode cX0_theOne 23 = .ok (.getfield 113, 3) := dk_180 0 113 (dk_at dksX0_theOne_1 0 rfl rfl)
theorem dX0_theOne_26 : decode cX0_theOne 26 = .ok (.iload_n 2, 1) := dk_28 (dk_at dksX0_theOne_1 3 rfl rfl)
theorem dX0_theOne_27 : decode cX0_theOne 27 = .ok (.aaload, 1) := dk_50 (dk_at dksX0_theOne_1 4 rfl rfl)
theorem dX0_theOne_28 : decode cX0_theOne 28 = .ok (.getfield 156, 3) := dk_180 0 156 (dk_at dksX0_theOne_1 5 rfl rfl)
theorem dX0_theOne_31 : decode cX0_theOne 31 = .ok (.iload_n 1, 1) := dk_27 (dk_at dksX0_theOne_1 8 rfl rfl)
theorem dX0_theOne_32 : decode cX0_theOne 32 = .ok (.ifCond .ge 7, 3) := dk_156 0 7 (dk_at dksX0_theOne_1 9 rfl rfl)
theorem dX0_theOne_35 : decode cX0_theOne 35 = .ok (.iconst 0, 1) := dk_3 (dk_at dksX0_theOne_1 12 rfl rfl)
theorem dX0_theOne_36 : decode cX0_theOne 36 = .ok (.goto 15, 3) := dk_167 0 15 (dk_at dksX0_theOne_1 13 rfl rfl)
theorem dX0_theOne_39 : decode cX0_theOne 39 = .ok (.aload_n 0, 1) := dk_42 (dk_at dksX0_theOne_1 16 rfl rfl)
theorem dX0_theOne_40 : decode cX0_theOne 40 = .ok (.getfield 30, 3) := dk_180 0 30 (dk_at dksX0_theOne_1 17 rfl rfl)
theorem dX0_theOne_43 : decode cX0_theOne 43 = .ok (.getfield 113, 3) := dk_180 0 113 (dk_at dksX0_theOne_1 20 rfl rfl)
theorem dX0_theOne_46 : decode cX0_theOne 46 = .ok (.iload_n 1, 1) := dk_27 (dk_at dksX0_theOne_1 23 rfl rfl)
theorem dX0_theOne_47 : decode cX0_theOne 47 = .ok (.aaload, 1) := dk_50 (dk_at dksX0_theOne_2 0 rfl rfl)
theorem dX0_theOne_48 : decode cX0_theOne 48 = .ok (.getfield 156, 3) := dk_180 0 156 (dk_at dksX0_theOne_2 1 rfl rfl)
theorem dX0_theOne_51 : decode cX0_theOne 51 = .ok (.if_icmp .le 5, 3) := dk_164 0 5 (dk_at dksX0_theOne_2 4 rfl rfl)
theorem dX0_theOne_54 : decode cX0_theOne 54 = .ok (.iload_n 2, 1) := dk_28 (dk_at dksX0_theOne_2 7 rfl rfl)
theorem dX0_theOne_55 : decode cX0_theOne 55 = .ok (.istore_n 1, 1) := dk_60 (dk_at dksX0_theOne_2 8 rfl rfl)
theorem dX0_theOne_56 : decode cX0_theOne 56 = .ok (.iinc 2 1, 3) := dk_132 2 1 (dk_at dksX0_theOne_2 9 rfl rfl)
theorem dX0_theOne_59 : decode cX0_theOne 59 = .ok (.goto (-54), 3) := dk_167 255 202 (dk_at dksX0_theOne_2 12 rfl rfl)
theorem dX0_theOne_62 : decode cX0_theOne 62 = .ok (.iload_n 1, 1) := dk_27 (dk_at dksX0_theOne_2 15 rfl rfl)
theorem dX0_theOne_63 : decode cX0_theOne 63 = .ok (.ireturn, 1) := dk_172 (dk_at dksX0_theOne_2 16 rfl rfl)
abbrev cX0_rota : ByteArray := prog_1_method_51_code
def yX0_rota : MethodName := ⟨RX0, "rota", "(III)I"⟩
def dkwX0_rota_10 : List UInt8 := [167, 255, 180, 29, 4, 160, 0, 8, 21, 7, 167, 0, 8, 25, 6, 180, 0, 133, 172]
abbrev dktX0_rota_10 : List UInt8 := dkwX0_rota_10 ++ []
def dkwX0_rota_9 : List UInt8 := [180, 1, 47, 4, 96, 181, 1, 47, 25, 6, 182, 0, 163, 153, 0, 7, 21, 8, 54, 7, 132, 8, 1]
abbrev dktX0_rota_9 : List UInt8 := dkwX0_rota_9 ++ dktX0_rota_10
def dkwX0_rota_8 : List UInt8 := [180, 1, 118, 21, 8, 46, 27, 182, 1, 87, 42, 180, 0, 34, 27, 182, 1, 127, 42, 180, 0, 34, 89]
abbrev dktX0_rota_8 : List UInt8 := dkwX0_rota_8 ++ dktX0_rota_9
def dkwX0_rota_7 : List UInt8 := [21, 7, 156, 0, 70, 25, 4, 180, 1, 118, 21, 8, 46, 2, 159, 0, 19, 42, 180, 0, 34, 25, 4]
abbrev dktX0_rota_7 : List UInt8 := dkwX0_rota_7 ++ dktX0_rota_8
def dkwX0_rota_6 : List UInt8 := [180, 0, 34, 180, 0, 103, 27, 50, 58, 6, 16, 254, 54, 7, 3, 54, 8, 21, 8, 21, 5, 162, 0, 75]
abbrev dktX0_rota_6 : List UInt8 := dkwX0_rota_6 ++ dktX0_rota_7
def dkwX0_rota_5 : List UInt8 := [25, 4, 29, 16, 10, 100, 182, 1, 123, 172, 42, 180, 0, 34, 42, 180, 0, 30, 182, 0, 202, 87, 42]
abbrev dktX0_rota_5 : List UInt8 := dkwX0_rota_5 ++ dktX0_rota_6
def dkwX0_rota_4 : List UInt8 := [182, 1, 122, 54, 5, 21, 5, 155, 0, 7, 29, 154, 0, 6, 21, 5, 172, 29, 16, 10, 161, 0, 14, 42]
abbrev dktX0_rota_4 : List UInt8 := dkwX0_rota_4 ++ dktX0_rota_5
def dkwX0_rota_3 : List UInt8 := [164, 0, 5, 2, 172, 42, 3, 181, 0, 171, 187, 1, 114, 89, 42, 28, 183, 1, 119, 58, 4, 25, 4]
abbrev dktX0_rota_3 : List UInt8 := dkwX0_rota_3 ++ dktX0_rota_4
def dkwX0_rota_2 : List UInt8 := [184, 0, 99, 153, 0, 24, 42, 180, 0, 30, 180, 1, 47, 17, 38, 187, 163, 0, 11, 28, 42, 180, 0, 171]
abbrev dktX0_rota_2 : List UInt8 := dkwX0_rota_2 ++ dktX0_rota_3
def dkwX0_rota_1 : List UInt8 := [4, 16, 90, 184, 0, 120, 153, 0, 44, 29, 6, 184, 0, 99, 154, 0, 15, 29, 16, 10, 100, 16, 8]
abbrev dktX0_rota_1 : List UInt8 := dkwX0_rota_1 ++ dktX0_rota_2
def dkwX0_rota_0 : List UInt8 := [42, 27, 182, 0, 159, 153, 0, 69, 42, 180, 0, 30, 180, 0, 103, 27, 50, 182, 0, 163, 154, 0, 54, 28]
abbrev dktX0_rota_0 : List UInt8 := dkwX0_rota_0 ++ dktX0_rota_1
theorem dksX0_rota_0 : cX0_rota.data.toList.drop 0 = dktX0_rota_0 := by decide +kernel
theorem dksX0_rota_1 : cX0_rota.data.toList.drop 24 = dktX0_rota_1 := dk_seg dksX0_rota_0 24 rfl rfl
theorem dksX0_rota_2 : cX0_rota.data.toList.drop 47 = dktX0_rota_2 := dk_seg dksX0_rota_1 23 rfl rfl
theorem dksX0_rota_3 : cX0_rota.data.toList.drop 71 = dktX0_rota_3 := dk_seg dksX0_rota_2 24 rfl rfl
theorem dksX0_rota_4 : cX0_rota.data.toList.drop 94 = dktX0_rota_4 := dk_seg dksX0_rota_3 23 rfl rfl
theorem dksX0_rota_5 : cX0_rota.data.toList.drop 118 = dktX0_rota_5 := dk_seg dksX0_rota_4 24 rfl rfl
theorem dksX0_rota_6 : cX0_rota.data.toList.drop 141 = dktX0_rota_6 := dk_seg dksX0_rota_5 23 rfl rfl
theorem dksX0_rota_7 : cX0_rota.data.toList.drop 165 = dktX0_rota_7 := dk_seg dksX0_rota_6 24 rfl rfl
theorem dksX0_rota_8 : cX0_rota.data.toList.drop 188 = dktX0_rota_8 := dk_seg dksX0_rota_7 23 rfl rfl
theorem dksX0_rota_9 : cX0_rota.data.toList.drop 211 = dktX0_rota_9 := dk_seg dksX0_rota_8 23 rfl rfl
theorem dksX0_rota_10 : cX0_rota.data.toList.drop 234 = dktX0_rota_10 := dk_seg dksX0_rota_9 23 rfl rfl
theorem dX0_rota_0 : decode cX0_rota 0 = .ok (.aload_n 0, 1) := dk_42 (dk_at dksX0_rota_0 0 rfl rfl)
theorem dX0_rota_1 : decode cX0_rota 1 = .ok (.iload_n 1, 1) := dk_27 (dk_at dksX0_rota_0 1 rfl rfl)
theorem dX0_rota_2 : decode cX0_rota 2 = .ok (.invokevirtual 159, 3) := dk_182 0 159 (dk_at dksX0_rota_0 2 rfl rfl)
theorem dX0_rota_5 : decode cX0_rota 5 = .ok (.ifCond .eq 69, 3) := dk_153 0 69 (dk_at dksX0_rota_0 5 rfl rfl)
theorem dX0_rota_8 : decode cX0_rota 8 = .ok (.aload_n 0, 1) := dk_42 (dk_at dksX0_rota_0 8 rfl rfl)
theorem dX0_rota_9 : decode cX0_rota 9 = .ok (.getfield 30, 3) := dk_180 0 30 (dk_at dksX0_rota_0 9 rfl rfl)
theorem dX0_rota_12 : decode cX0_rota 12 = .ok (.getfield 103, 3) := dk_180 0 103 (dk_at dksX0_rota_0 12 rfl rfl)
theorem dX0_rota_15 : decode cX0_rota 15 = .ok (.iload_n 1, 1) := dk_27 (dk_at dksX0_rota_0 15 rfl rfl)
theorem dX0_rota_16 : decode cX0_rota 16 = .ok (.aaload, 1) := dk_50 (dk_at dksX0_rota_0 16 rfl rfl)
theorem dX0_rota_17 : decode cX0_rota 17 = .ok (.invokevirtual 163, 3) := dk_182 0 163 (dk_at dksX0_rota_0 17 rfl rfl)
theorem dX0_rota_20 : decode cX0_rota 20 = .ok (.ifCond .ne 54, 3) := dk_154 0 54 (dk_at dksX0_rota_0 20 rfl rfl)
theorem dX0_rota_23 : decode cX0_rota 23 = .ok (.iload_n 2, 1) := dk_28 (dk_at dksX0_rota_0 23 rfl rfl)
theorem dX0_rota_24 : decode cX0_rota 24 = .ok (.iconst 1, 1) := dk_4 (dk_at dksX0_rota_1 0 rfl rfl)
theorem dX0_rota_25 : decode cX0_rota 25 = .ok (.bipush 90, 2) := dk_16 90 (dk_at dksX0_rota_1 1 rfl rfl)
theorem dX0_rota_27 : decode cX0_rota 27 = .ok (.invokestatic 120, 3) := dk_184 0 120 (dk_at dksX0_rota_1 3 rfl rfl)
theorem dX0_rota_30 : decode cX0_rota 30 = .ok (.ifCond .eq 44, 3) := dk_153 0 44 (dk_at dksX0_rota_1 6 rfl rfl)
theorem dX0_rota_33 : decode cX0_rota 33 = .ok (.iload_n 3, 1) := dk_29 (dk_at dksX0_rota_1 9 rfl rfl)
theorem dX0_rota_34 : decode cX0_rota 34 = .ok (.iconst 3, 1) := dk_6 (dk_at dksX0_rota_1 10 rfl rfl)
theorem dX0_rota_35 : decode cX0_rota 35 = .ok (.invokestatic 99, 3) := dk_184 0 99 (dk_at dksX0_rota_1 11 rfl rfl)
theorem dX0_rota_38 : decode cX0_rota 38 = .ok (.ifCond .ne 15, 3) := dk_154 0 15 (dk_at dksX0_rota_1 14 rfl rfl)
theorem dX0_rota_41 : decode cX0_rota 41 = .ok (.iload_n 3, 1) := dk_29 (dk_at dksX0_rota_1 17 rfl rfl)
theorem dX0_rota_42 : decode cX0_rota 42 = .ok (.bipush 10, 2) := dk_16 10 (dk_at dksX0_rota_1 18 rfl rfl)
theorem dX0_rota_44 : decode cX0_rota 44 = .ok (.isub, 1) := dk_100 (dk_at dksX0_rota_1 20 rfl rfl)
theorem dX0_rota_45 : decode cX0_rota 45 = .ok (.bipush 8, 2) := dk_16 8 (dk_at dksX0_rota_1 21 rfl rfl)
theorem dX0_rota_47 : decode cX0_rota 47 = .ok (.invokestatic 99, 3) := dk_184 0 99 (dk_at dksX0_rota_2 0 rfl rfl)
theorem dX0_rota_50 : decode cX0_rota 50 = .ok (.ifCond .eq 24, 3) := dk_153 0 24 (dk_at dksX0_rota_2 3 rfl rfl)
theorem dX0_rota_53 : decode cX0_rota 53 = .ok (.aload_n 0, 1) := dk_42 (dk_at dksX0_rota_2 6 rfl rfl)
theorem dX0_rota_54 : decode cX0_rota 54 = .ok (.getfield 30, 3) := dk_180 0 30 (dk_at dksX0_rota_2 7 rfl rfl)
theorem dX0_rota_57 : decode cX0_rota 57 = .ok (.getfield 303, 3) := dk_180 1 47 (dk_at dksX0_rota_2 10 rfl rfl)
theorem dX0_rota_60 : decode cX0_rota 60 = .ok (.sipush 9915, 3) := dk_17 38 187 (dk_at dksX0_rota_2 13 rfl rfl)
theorem dX0_rota_63 : decode cX0_rota 63 = .ok (.if_icmp .gt 11, 3) := dk_163 0 11 (dk_at dksX0_rota_2 16 rfl rfl)
theorem dX0_rota_66 : decode cX0_rota 66 = .ok (.iload_n 2, 1) := dk_28 (dk_at dksX0_rota_2 19 rfl rfl)
theorem dX0_rota_67 : decode cX0_rota 67 = .ok (.aload_n 0, 1) := dk_42 (dk_at dksX0_rota_2 20 rfl rfl)
theorem dX0_rota_68 : decode cX0_rota 68 = .ok (.getfield 171, 3) := dk_180 0 171 (dk_at dksX0_rota_2 21 rfl rfl)
theorem dX0_rota_71 : decode cX0_rota 71 = .ok (.if_icmp .le 5, 3) := dk_164 0 5 (dk_at dksX0_rota_3 0 rfl rfl)
theorem dX0_rota_74 : decode cX0_rota 74 = .ok (.iconst (-1), 1) := dk_2 (dk_at dksX0_rota_3 3 rfl rfl)
theorem dX0_rota_75 : decode cX0_rota 75 = .ok (.ireturn, 1) := dk_172 (dk_at dksX0_rota_3 4 rfl rfl)
theorem dX0_rota_76 : decode cX0_rota 76 = .ok (.aload_n 0, 1) := dk_42 (dk_at dksX0_rota_3 5 rfl rfl)
theorem dX0_rota_77 : decode cX0_rota 77 = .ok (.iconst 0, 1) := dk_3 (dk_at dksX0_rota_3 6 rfl rfl)
theorem dX0_rota_78 : decode cX0_rota 78 = .ok (.putfield 171, 3) := dk_181 0 171 (dk_at dksX0_rota_3 7 rfl rfl)
theorem dX0_rota_81 : decode cX0_rota 81 = .ok (.new 370, 3) := dk_187 1 114 (dk_at dksX0_rota_3 10 rfl rfl)
theorem dX0_rota_84 : decode cX0_rota 84 = .ok (.dup, 1) := dk_89 (dk_at dksX0_rota_3 13 rfl rfl)
theorem dX0_rota_85 : decode cX0_rota 85 = .ok (.aload_n 0, 1) := dk_42 (dk_at dksX0_rota_3 14 rfl rfl)
theorem dX0_rota_86 : decode cX0_rota 86 = .ok (.iload_n 2, 1) := dk_28 (dk_at dksX0_rota_3 15 rfl rfl)
theorem dX0_rota_87 : decode cX0_rota 87 = .ok (.invokespecial 375, 3) := dk_183 1 119 (dk_at dksX0_rota_3 16 rfl rfl)
theorem dX0_rota_90 : decode cX0_rota 90 = .ok (.astore 4, 2) := dk_58 4 (dk_at dksX0_rota_3 19 rfl rfl)
theorem dX0_rota_92 : decode cX0_rota 92 = .ok (.aload 4, 2) := dk_25 4 (dk_at dksX0_rota_3 21 rfl rfl)
theorem dX0_rota_94 : decode cX0_rota 94 = .ok (.invokevirtual 378, 3) := dk_182 1 122 (dk_at dksX0_rota_4 0 rfl rfl)
theorem dX0_rota_97 : decode cX0_rota 97 = .ok (.istore 5, 2) := dk_54 5 (dk_at dksX0_rota_4 3 rfl rfl)
theorem dX0_rota_99 : decode cX0_rota 99 = .ok (.iload 5, 2) := dk_21 5 (dk_at dksX0_rota_4 5 rfl rfl)
theorem dX0_rota_101 : decode cX0_rota 101 = .ok (.ifCond .lt 7, 3) := dk_155 0 7 (dk_at dksX0_rota_4 7 rfl rfl)
theorem dX0_rota_104 : decode cX0_rota 104 = .ok (.iload_n 3, 1) := dk_29 (dk_at dksX0_rota_4 10 rfl rfl)
theorem dX0_rota_105 : decode cX0_rota 105 = .ok (.ifCond .ne 6, 3) := dk_154 0 6 (dk_at dksX0_rota_4 11 rfl rfl)
theorem dX0_rota_108 : decode cX0_rota 108 = .ok (.iload 5, 2) := dk_21 5 (dk_at dksX0_rota_4 14 rfl rfl)
theorem dX0_rota_110 : decode cX0_rota 110 = .ok (.ireturn, 1) := dk_172 (dk_at dksX0_rota_4 16 rfl rfl)
theorem dX0_rota_111 : decode cX0_rota 111 = .ok (.iload_n 3, 1) := dk_29 (dk_at dksX0_rota_4 17 rfl rfl)
theorem dX0_rota_112 : decode cX0_rota 112 = .ok (.bipush 10, 2) := dk_16 10 (dk_at dksX0_rota_4 18 rfl rfl)
theorem dX0_rota_114 : decode cX0_rota 114 = .ok (.if_icmp .lt 14, 3) := dk_161 0 14 (dk_at dksX0_rota_4 20 rfl rfl)
theorem dX0_rota_117 : decode cX0_rota 117 = .ok (.aload_n 0, 1) := dk_42 (dk_at dksX0_rota_4 23 rfl rfl)
theorem dX0_rota_118 : decode cX0_rota 118 = .ok (.aload 4, 2) := dk_25 4 (dk_at dksX0_rota_5 0 rfl rfl)
theorem dX0_rota_120 : decode cX0_rota 120 = .ok (.iload_n 3, 1) := dk_29 (dk_at dksX0_rota_5 2 rfl rfl)
theorem dX0_rota_121 : decode cX0_rota 121 = .ok (.bipush 10, 2) := dk_16 10 (dk_at dksX0_rota_5 3 rfl rfl)
theorem dX0_rota_123 : decode cX0_rota 123 = .ok (.isub, 1) := dk_100 (dk_at dksX0_rota_5 5 rfl rfl)
theorem dX0_rota_124 : decode cX0_rota 124 = .ok (.invokevirtual 379, 3) := dk_182 1 123 (dk_at dksX0_rota_5 6 rfl rfl)
theorem dX0_rota_127 : decode cX0_rota 127 = .ok (.ireturn, 1) := dk_172 (dk_at dksX0_rota_5 9 rfl rfl)
theorem dX0_rota_128 : decode cX0_rota 128 = .ok (.aload_n 0, 1) := dk_42 (dk_at dksX0_rota_5 10 rfl rfl)
theorem dX0_rota_129 : decode cX0_rota 129 = .ok (.getfield 34, 3) := dk_180 0 34 (dk_at dksX0_rota_5 11 rfl rfl)
theorem dX0_rota_132 : decode cX0_rota 132 = .ok (.aload_n 0, 1) := dk_42 (dk_at dksX0_rota_5 14 rfl rfl)
theorem dX0_rota_133 : decode cX0_rota 133 = .ok (.getfield 30, 3) := dk_180 0 30 (dk_at dksX0_rota_5 15 rfl rfl)
theorem dX0_rota_136 : decode cX0_rota 136 = .ok (.invokevirtual 202, 3) := dk_182 0 202 (dk_at dksX0_rota_5 18 rfl rfl)
theorem dX0_rota_139 : decode cX0_rota 139 = .ok (.pop, 1) := dk_87 (dk_at dksX0_rota_5 21 rfl rfl)
theorem dX0_rota_140 : decode cX0_rota 140 = .ok (.aload_n 0, 1) := dk_42 (dk_at dksX0_rota_5 22 rfl rfl)
theorem dX0_rota_141 : decode cX0_rota 141 = .ok (.getfield 34, 3) := dk_180 0 34 (dk_at dksX0_rota_6 0 rfl rfl)
theorem dX0_rota_144 : decode cX0_rota 144 = .ok (.getfield 103, 3) := dk_180 0 103 (dk_at dksX0_rota_6 3 rfl rfl)
theorem dX0_rota_147 : decode cX0_rota 147 = .ok (.iload_n 1, 1) := dk_27 (dk_at dksX0_rota_6 6 rfl rfl)
theorem dX0_rota_148 : decode cX0_rota 148 = .ok (.aaload, 1) := dk_50 (dk_at dksX0_rota_6 7 rfl rfl)
theorem dX0_rota_149 : decode cX0_rota 149 = .ok (.astore 6, 2) := dk_58 6 (dk_at dksX0_rota_6 8 rfl rfl)
theorem dX0_rota_151 : decode cX0_rota 151 = .ok (.bipush (-2), 2) := dk_16 254 (dk_at dksX0_rota_6 10 rfl rfl)
theorem dX0_rota_153 : decode cX0_rota 153 = .ok (.istore 7, 2) := dk_54 7 (dk_at dksX0_rota_6 12 rfl rfl)
theorem dX0_rota_155 : decode cX0_rota 155 = .ok (.iconst 0, 1) := dk_3 (dk_at dksX0_rota_6 14 rfl rfl)
theorem dX0_rota_156 : decode cX0_rota 156 = .ok (.istore 8, 2) := dk_54 8 (dk_at dksX0_rota_6 15 rfl rfl)
theorem dX0_rota_158 : decode cX0_rota 158 = .ok (.iload 8, 2) := dk_21 8 (dk_at dksX0_rota_6 17 rfl rfl)
theorem dX0_rota_160 : decode cX0_rota 160 = .ok (.iload 5, 2) := dk_21 5 (dk_at dksX0_rota_6 19 rfl rfl)
theorem dX0_rota_162 : decode cX0_rota 162 = .ok (.if_icmp .ge 75, 3) := dk_162 0 75 (dk_at dksX0_rota_6 21 rfl rfl)
theorem dX0_rota_165 : decode cX0_rota 165 = .ok (.iload 7, 2) := dk_21 7 (dk_at dksX0_rota_7 0 rfl rfl)
theorem dX0_rota_167 : decode cX0_rota 167 = .ok (.ifCond .ge 70, 3) := dk_156 0 70 (dk_at dksX0_rota_7 2 rfl rfl)
theorem dX0_rota_170 : decode cX0_rota 170 = .ok (.aload 4, 2) := dk_25 4 (dk_at dksX0_rota_7 5 rfl rfl)
theorem dX0_rota_172 : decode cX0_rota 172 = .ok (.getfield 374, 3) := dk_180 1 118 (dk_at dksX0_rota_7 7 rfl rfl)
theorem dX0_rota_175 : decode cX0_rota 175 = .ok (.iload 8, 2) := dk_21 8 (dk_at dksX0_rota_7 10 rfl rfl)
theorem dX0_rota_177 : decode cX0_rota 177 = .ok (.iaload, 1) := dk_46 (dk_at dksX0_rota_7 12 rfl rfl)
theorem dX0_rota_178 : decode cX0_rota 178 = .ok (.iconst (-1), 1) := dk_2 (dk_at dksX0_rota_7 13 rfl rfl)
theorem dX0_rota_179 : decode cX0_rota 179 = .ok (.if_icmp .eq 19, 3) := dk_159 0 19 (dk_at dksX0_rota_7 14 rfl rfl)
theorem dX0_rota_182 : decode cX0_rota 182 = .ok (.aload_n 0, 1) := dk_42 (dk_at dksX0_rota_7 17 rfl rfl)
theorem dX0_rota_183 : decode cX0_rota 183 = .ok (.getfield 34, 3) := dk_180 0 34 (dk_at dksX0_rota_7 18 rfl rfl)
theorem dX0_rota_186 : decode cX0_rota 186 = .ok (.aload 4, 2) := dk_25 4 (dk_at dksX0_rota_7 21 rfl rfl)
theorem dX0_rota_188 : decode cX0_rota 188 = .ok (.getfield 374, 3) := dk_180 1 118 (dk_at dksX0_rota_8 0 rfl rfl)
theorem dX0_rota_191 : decode cX0_rota 191 = .ok (.iload 8, 2) := dk_21 8 (dk_at dksX0_rota_8 3 rfl rfl)
theorem dX0_rota_193 : decode cX0_rota 193 = .ok (.iaload, 1) := dk_46 (dk_at dksX0_rota_8 5 rfl rfl)
theorem dX0_rota_194 : decode cX0_rota 194 = .ok (.iload_n 1, 1) := dk_27 (dk_at dksX0_rota_8 6 rfl rfl)
theorem dX0_rota_195 : decode cX0_rota 195 = .ok (.invokevirtual 343, 3) := dk_182 1 87 (dk_at dksX0_rota_8 7 rfl rfl)
theorem dX0_rota_198 : decode cX0_rota 198 = .ok (.aload_n 0, 1) := dk_42 (dk_at dksX0_rota_8 10 rfl rfl)
theorem dX0_rota_199 : decode cX0_rota 199 = .ok (.getfield 34, 3) := dk_180 0 34 (dk_at dksX0_rota_8 11 rfl rfl)
theorem dX0_rota_202 : decode cX0_rota 202 = .ok (.iload_n 1, 1) := dk_27 (dk_at dksX0_rota_8 14 rfl rfl)
theorem dX0_rota_203 : decode cX0_rota 203 = .ok (.invokevirtual 383, 3) := dk_182 1 127 (dk_at dksX0_rota_8 15 rfl rfl)
theorem dX0_rota_206 : decode cX0_rota 206 = .ok (.aload_n 0, 1) := dk_42 (dk_at dksX0_rota_8 18 rfl rfl)
theorem dX0_rota_207 : decode cX0_rota 207 = .ok (.getfield 34, 3) := dk_180 0 34 (dk_at dksX0_rota_8 19 rfl rfl)
theorem dX0_rota_210 : decode cX0_rota 210 = .ok (.dup, 1) := dk_89 (dk_at dksX0_rota_8 22 rfl rfl)
theorem dX0_rota_211 : decode cX0_rota 211 = .ok (.getfield 303, 3) := dk_180 1 47 (dk_at dksX0_rota_9 0 rfl rfl)
theorem dX0_rota_214 : decode cX0_rota 214 = .ok (.iconst 1, 1) := dk_4 (dk_at dksX0_rota_9 3 rfl rfl)
theorem dX0_rota_215 : decode cX0_rota 215 = .ok (.iadd, 1) := dk_96 (dk_at dksX0_rota_9 4 rfl rfl)
theorem dX0_rota_216 : decode cX0_rota 216 = .ok (.putfield 303, 3) := dk_181 1 47 (dk_at dksX0_rota_9 5 rfl rfl)
theorem dX0_rota_219 : decode cX0_rota 219 = .ok (.aload 6, 2) := dk_25 6 (dk_at dksX0_rota_9 8 rfl rfl)
theorem dX0_rota_221 : decode cX0_rota 221 = .ok (.invokevirtual 163, 3) := dk_182 0 163 (dk_at dksX0_rota_9 10 rfl rfl)
theorem dX0_rota_224 : decode cX0_rota 224 = .ok (.ifCond .eq 7, 3) := dk_153 0 7 (dk_at dksX0_rota_9 13 rfl rfl)
theorem dX0_rota_227 : decode cX0_rota 227 = .ok (.iload 8, 2) := dk_21 8 (dk_at dksX0_rota_9 16 rfl rfl)
theorem dX0_rota_229 : decode cX0_rota 229 = .ok (.istore 7, 2) := dk_54 7 (dk_at dksX0_rota_9 18 rfl rfl)
theorem dX0_rota_231 : decode cX0_rota 231 = .ok (.iinc 8 1, 3) := dk_132 8 1 (dk_at dksX0_rota_9 20 rfl rfl)
theorem dX0_rota_234 : decode cX0_rota 234 = .ok (.goto (-76), 3) := dk_167 255 180 (dk_at dksX0_rota_10 0 rfl rfl)
theorem dX0_rota_237 : decode cX0_rota 237 = .ok (.iload_n 3, 1) := dk_29 (dk_at dksX0_rota_10 3 rfl rfl)
theorem dX0_rota_238 : decode cX0_rota 238 = .ok (.iconst 1, 1) := dk_4 (dk_at dksX0_rota_10 4 rfl rfl)
theorem dX0_rota_239 : decode cX0_rota 239 = .ok (.if_icmp .ne 8, 3) := dk_160 0 8 (dk_at dksX0_rota_10 5 rfl rfl)
theorem dX0_rota_242 : decode cX0_rota 242 = .ok (.iload 7, 2) := dk_21 7 (dk_at dksX0_rota_10 8 rfl rfl)
theorem dX0_rota_244 : decode cX0_rota 244 = .ok (.goto 8, 3) := dk_167 0 8 (dk_at dksX0_rota_10 10 rfl rfl)
theorem dX0_rota_247 : decode cX0_rota 247 = .ok (.aload 6, 2) := dk_25 6 (dk_at dksX0_rota_10 13 rfl rfl)
theorem dX0_rota_249 : decode cX0_rota 249 = .ok (.getfield 133, 3) := dk_180 0 133 (dk_at dksX0_rota_10 15 rfl rfl)
theorem dX0_rota_252 : decode cX0_rota 252 = .ok (.ireturn, 1) := dk_172 (dk_at dksX0_rota_10 18 rfl rfl)
abbrev cX0_daysOf : ByteArray := prog_1_method_50_code
def yX0_daysOf : MethodName := ⟨RX0, "daysOf", "(LLandingTree$Clerk;I)I"⟩
def dkwX0_daysOf_1 : List UInt8 := [160, 0, 7, 4, 167, 0, 4, 3, 96, 62, 132, 4, 1, 167, 255, 225, 29, 172]
abbrev dktX0_daysOf_1 : List UInt8 := dkwX0_daysOf_1 ++ []
def dkwX0_daysOf_0 : List UInt8 := [3, 62, 3, 54, 4, 21, 4, 43, 180, 1, 113, 162, 0, 28, 29, 43, 180, 1, 118, 21, 4, 46, 28]
abbrev dktX0_daysOf_0 : List UInt8 := dkwX0_daysOf_0 ++ dktX0_daysOf_1
theorem dksX0_daysOf_0 : cX0_daysOf.data.toList.drop 0 = dktX0_daysOf_0 := by decide +kernel
theorem dksX0_daysOf_1 : cX0_daysOf.data.toList.drop 23 = dktX0_daysOf_1 := dk_seg dksX0_daysOf_0 23 rfl rfl
theorem dX0_daysOf_0 : decode cX0_daysOf 0 = .ok (.iconst 0, 1) := dk_3 (dk_at dksX0_daysOf_0 0 rfl rfl)
theorem dX0_daysOf_1 : decode cX0_daysOf 1 = .ok (.istore_n 3, 1) := dk_62 (dk_at dksX0_daysOf_0 1 rfl rfl)
theorem dX0_daysOf_2 : decode cX0_daysOf 2 = .ok (.iconst 0, 1) := dk_3 (dk_at dksX0_daysOf_0 2 rfl rfl)
theorem dX0_daysOf_3 : decode cX0_daysOf 3 = .ok (.istore 4, 2) := dk_54 4 (dk_at dksX0_daysOf_0 3 rfl rfl)
theorem dX0_daysOf_5 : decode cX0_daysOf 5 = .ok (.iload 4, 2) := dk_21 4 (dk_at dksX0_daysOf_0 5 rfl rfl)
theorem dX0_daysOf_7 : decode cX0_daysOf 7 = .ok (.aload_n 1, 1) := dk_43 (dk_at dksX0_daysOf_0 7 rfl rfl)
theorem dX0_daysOf_8 : decode cX0_daysOf 8 = .ok (.getfield 369, 3) := dk_180 1 113 (dk_at dksX0_daysOf_0 8 rfl rfl)
theorem dX0_daysOf_11 : decode cX0_daysOf 11 = .ok (.if_icmp .ge 28, 3) := dk_162 0 28 (dk_at dksX0_daysOf_0 11 rfl rfl)
theorem dX0_daysOf_14 : decode cX0_daysOf 14 = .ok (.iload_n 3, 1) := dk_29 (dk_at dksX0_daysOf_0 14 rfl rfl)
theorem dX0_daysOf_15 : decode cX0_daysOf 15 = .ok (.aload_n 1, 1) := dk_43 (dk_at dksX0_daysOf_0 15 rfl rfl)
theorem dX0_daysOf_16 : decode cX0_daysOf 16 = .ok (.getfield 374, 3) := dk_180 1 118 (dk_at dksX0_daysOf_0 16 rfl rfl)
theorem dX0_daysOf_19 : decode cX0_daysOf 19 = .ok (.iload 4, 2) := dk_21 4 (dk_at dksX0_daysOf_0 19 rfl rfl)
theorem dX0_daysOf_21 : decode cX0_daysOf 21 = .ok (.iaload, 1) := dk_46 (dk_at dksX0_daysOf_0 21 rfl rfl)
theorem dX0_daysOf_22 : decode cX0_daysOf 22 = .ok (.iload_n 2, 1) := dk_28 (dk_at dksX0_daysOf_0 22 rfl rfl)
theorem dX0_daysOf_23 : decode cX0_daysOf 23 = .ok (.if_icmp .ne 7, 3) := dk_160 0 7 (dk_at dksX0_daysOf_1 0 rfl rfl)
theorem dX0_daysOf_26 : decode cX0_daysOf 26 = .ok (.iconst 1, 1) := dk_4 (dk_at dksX0_daysOf_1 3 rfl rfl)
theorem dX0_daysOf_27 : decode cX0_daysOf 27 = .ok (.goto 4, 3) := dk_167 0 4 (dk_at dksX0_daysOf_1 4 rfl rfl)
theorem dX0_daysOf_30 : decode cX0_daysOf 30 = .ok (.iconst 0, 1) := dk_3 (dk_at dksX0_daysOf_1 7 rfl rfl)
theorem dX0_daysOf_31 : decode cX0_daysOf 31 = .ok (.iadd, 1) := dk_96 (dk_at dksX0_daysOf_1 8 rfl rfl)
theorem dX0_daysOf_32 : decode cX0_daysOf 32 = .ok (.istore_n 3, 1) := dk_62 (dk_at dksX0_daysOf_1 9 rfl rfl)
theorem dX0_daysOf_33 : decode cX0_daysOf 33 = .ok (.iinc 4 1, 3) := dk_132 4 1 (dk_at dksX0_daysOf_1 10 rfl rfl)
theorem dX0_daysOf_36 : decode cX0_daysOf 36 = .ok (.goto (-31), 3) := dk_167 255 225 (dk_at dksX0_daysOf_1 13 rfl rfl)
theorem dX0_daysOf_39 : decode cX0_daysOf 39 = .ok (.iload_n 3, 1) := dk_29 (dk_at dksX0_daysOf_1 16 rfl rfl)
theorem dX0_daysOf_40 : decode cX0_daysOf 40 = .ok (.ireturn, 1) := dk_172 (dk_at dksX0_daysOf_1 17 rfl rfl)
abbrev cX0_alone : ByteArray := prog_1_method_56_code
def yX0_alone : MethodName := ⟨RX0, "alone", "(II)I"⟩
def dkwX0_alone_8 : List UInt8 := [167, 0, 5, 21, 4, 172]
abbrev dktX0_alone_8 : List UInt8 := dkwX0_alone_8 ++ []
def dkwX0_alone_7 : List UInt8 := [21, 5, 167, 0, 5, 21, 4, 54, 4, 132, 3, 1, 132, 5, 1, 167, 255, 167, 28, 154, 0, 7, 29]
abbrev dktX0_alone_7 : List UInt8 := dkwX0_alone_7 ++ dktX0_alone_8
def dkwX0_alone_6 : List UInt8 := [167, 0, 4, 3, 54, 6, 132, 7, 1, 167, 255, 211, 21, 6, 154, 0, 6, 167, 0, 19, 29, 154, 0, 8]
abbrev dktX0_alone_6 : List UInt8 := dkwX0_alone_6 ++ dktX0_alone_7
def dkwX0_alone_5 : List UInt8 := [4, 21, 7, 120, 130, 21, 7, 182, 1, 140, 42, 21, 5, 21, 7, 182, 1, 140, 163, 0, 7, 4]
abbrev dktX0_alone_5 : List UInt8 := dkwX0_alone_5 ++ dktX0_alone_6
def dkwX0_alone_4 : List UInt8 := [120, 162, 0, 87, 4, 54, 6, 3, 54, 7, 21, 7, 27, 162, 0, 45, 21, 6, 153, 0, 40, 42, 21, 5]
abbrev dktX0_alone_4 : List UInt8 := dkwX0_alone_4 ++ dktX0_alone_5
def dkwX0_alone_3 : List UInt8 := [29, 172, 132, 3, 255, 167, 255, 209, 16, 254, 172, 3, 62, 16, 254, 54, 4, 3, 54, 5, 21, 5, 4, 27]
abbrev dktX0_alone_3 : List UInt8 := dkwX0_alone_3 ++ dktX0_alone_4
def dkwX0_alone_2 : List UInt8 := [153, 0, 19, 42, 21, 5, 27, 29, 182, 1, 137, 54, 4, 132, 5, 1, 167, 255, 232, 21, 4, 153, 0, 5]
abbrev dktX0_alone_2 : List UInt8 := dkwX0_alone_2 ++ dktX0_alone_3
def dkwX0_alone_1 : List UInt8 := [160, 0, 59, 16, 10, 62, 29, 155, 0, 49, 4, 54, 4, 3, 54, 5, 21, 5, 27, 162, 0, 24, 21, 4]
abbrev dktX0_alone_1 : List UInt8 := dkwX0_alone_1 ++ dktX0_alone_2
def dkwX0_alone_0 : List UInt8 := [27, 5, 16, 6, 184, 0, 120, 153, 0, 11, 28, 6, 184, 0, 99, 154, 0, 5, 2, 172, 28, 5]
abbrev dktX0_alone_0 : List UInt8 := dkwX0_alone_0 ++ dktX0_alone_1
theorem dksX0_alone_0 : cX0_alone.data.toList.drop 0 = dktX0_alone_0 := by decide +kernel
theorem dksX0_alone_1 : cX0_alone.data.toList.drop 22 = dktX0_alone_1 := dk_seg dksX0_alone_0 22 rfl rfl
theorem dksX0_alone_2 : cX0_alone.data.toList.drop 46 = dktX0_alone_2 := dk_seg dksX0_alone_1 24 rfl rfl
theorem dksX0_alone_3 : cX0_alone.data.toList.drop 70 = dktX0_alone_3 := dk_seg dksX0_alone_2 24 rfl rfl
theorem dksX0_alone_4 : cX0_alone.data.toList.drop 94 = dktX0_alone_4 := dk_seg dksX0_alone_3 24 rfl rfl
theorem dksX0_alone_5 : cX0_alone.data.toList.drop 118 = dktX0_alone_5 := dk_seg dksX0_alone_4 24 rfl rfl
theorem dksX0_alone_6 : cX0_alone.data.toList.drop 140 = dktX0_alone_6 := dk_seg dksX0_alone_5 22 rfl rfl
theorem dksX0_alone_7 : cX0_alone.data.toList.drop 164 = dktX0_alone_7 := dk_seg dksX0_alone_6 24 rfl rfl
theorem dksX0_alone_8 : cX0_alone.data.toList.drop 187 = dktX0_alone_8 := dk_seg dksX0_alone_7 23 rfl rfl
theorem dX0_alone_0 : decode cX0_alone 0 = .ok (.iload_n 1, 1) := dk_27 (dk_at dksX0_alone_0 0 rfl rfl)
theorem dX0_alone_1 : decode cX0_alone 1 = .ok (.iconst 2, 1) := dk_5 (dk_at dksX0_alone_0 1 rfl rfl)
theorem dX0_alone_2 : decode cX0_alone 2 = .ok (.bipush 6, 2) := dk_16 6 (dk_at dksX0_alone_0 2 rfl rfl)
theorem dX0_alone_4 : decode cX0_alone 4 = .ok (.invokestatic 120, 3) := dk_184 0 120 (dk_at dksX0_alone_0 4 rfl rfl)
theorem dX0_alone_7 : decode cX0_alone 7 = .ok (.ifCond .eq 11, 3) := dk_153 0 11 (dk_at dksX0_alone_0 7 rfl rfl)
theorem dX0_alone_10 : decode cX0_alone 10 = .ok (.iload_n 2, 1) := dk_28 (dk_at dksX0_alone_0 10 rfl rfl)
theorem dX0_alone_11 : decode cX0_alone 11 = .ok (.iconst 3, 1) := dk_6 (dk_at dksX0_alone_0 11 rfl rfl)
theorem dX0_alone_12 : decode cX0_alone 12 = .ok (.invokestatic 99, 3) := dk_184 0 99 (dk_at dksX0_alone_0 12 rfl rfl)
theorem dX0_alone_15 : decode cX0_alone 15 = .ok (.ifCond .ne 5, 3) := dk_154 0 5 (dk_at dksX0_alone_0 15 rfl rfl)
theorem dX0_alone_18 : decode cX0_alone 18 = .ok (.iconst (-1), 1) := dk_2 (dk_at dksX0_alone_0 18 rfl rfl)
theorem dX0_alone_19 : decode cX0_alone 19 = .ok (.ireturn, 1) := dk_172 (dk_at dksX0_alone_0 19 rfl rfl)
theorem dX0_alone_20 : decode cX0_alone 20 = .ok (.iload_n 2, 1) := dk_28 (dk_at dksX0_alone_0 20 rfl rfl)
theorem dX0_alone_21 : decode cX0_alone 21 = .ok (.iconst 2, 1) := dk_5 (dk_at dksX0_alone_0 21 rfl rfl)
theorem dX0_alone_22 : decode cX0_alone 22 = .ok (.if_icmp .ne 59, 3) := dk_160 0 59 (dk_at dksX0_alone_1 0 rfl rfl)
theorem dX0_alone_25 : decode cX0_alone 25 = .ok (.bipush 10, 2) := dk_16 10 (dk_at dksX0_alone_1 3 rfl rfl)
theorem dX0_alone_27 : decode cX0_alone 27 = .ok (.istore_n 3, 1) := dk_62 (dk_at dksX0_alone_1 5 rfl rfl)
theorem dX0_alone_28 : decode cX0_alone 28 = .ok (.iload_n 3, 1) := dk_29 (dk_at dksX0_alone_1 6 rfl rfl)
theorem dX0_alone_29 : decode cX0_alone 29 = .ok (.ifCond .lt 49, 3) := dk_155 0 49 (dk_at dksX0_alone_1 7 rfl rfl)
theorem dX0_alone_32 : decode cX0_alone 32 = .ok (.iconst 1, 1) := dk_4 (dk_at dksX0_alone_1 10 rfl rfl)
theorem dX0_alone_33 : decode cX0_alone 33 = .ok (.istore 4, 2) := dk_54 4 (dk_at dksX0_alone_1 11 rfl rfl)
theorem dX0_alone_35 : decode cX0_alone 35 = .ok (.iconst 0, 1) := dk_3 (dk_at dksX0_alone_1 13 rfl rfl)
theorem dX0_alone_36 : decode cX0_alone 36 = .ok (.istore 5, 2) := dk_54 5 (dk_at dksX0_alone_1 14 rfl rfl)
theorem dX0_alone_38 : decode cX0_alone 38 = .ok (.iload 5, 2) := dk_21 5 (dk_at dksX0_alone_1 16 rfl rfl)
theorem dX0_alone_40 : decode cX0_alone 40 = .ok (.iload_n 1, 1) := dk_27 (dk_at dksX0_alone_1 18 rfl rfl)
theorem dX0_alone_41 : decode cX0_alone 41 = .ok (.if_icmp .ge 24, 3) := dk_162 0 24 (dk_at dksX0_alone_1 19 rfl rfl)
theorem dX0_alone_44 : decode cX0_alone 44 = .ok (.iload 4, 2) := dk_21 4 (dk_at dksX0_alone_1 22 rfl rfl)
theorem dX0_alone_46 : decode cX0_alone 46 = .ok (.ifCond .eq 19, 3) := dk_153 0 19 (dk_at dksX0_alone_2 0 rfl rfl)
theorem dX0_alone_49 : decode cX0_alone 49 = .ok (.aload_n 0, 1) := dk_42 (dk_at dksX0_alone_2 3 rfl rfl)
theorem dX0_alone_50 : decode cX0_alone 50 = .ok (.iload 5, 2) := dk_21 5 (dk_at dksX0_alone_2 4 rfl rfl)
theorem dX0_alone_52 : decode cX0_alone 52 = .ok (.iload_n 1, 1) := dk_27 (dk_at dksX0_alone_2 6 rfl rfl)
theorem dX0_alone_53 : decode cX0_alone 53 = .ok (.iload_n 3, 1) := dk_29 (dk_at dksX0_alone_2 7 rfl rfl)
theorem dX0_alone_54 : decode cX0_alone 54 = .ok (.invokevirtual 393, 3) := dk_182 1 137 (dk_at dksX0_alone_2 8 rfl rfl)
theorem dX0_alone_57 : decode cX0_alone 57 = .ok (.istore 4, 2) := dk_54 4 (dk_at dksX0_alone_2 11 rfl rfl)
theorem dX0_alone_59 : decode cX0_alone 59 = .ok (.iinc 5 1, 3) := dk_132 5 1 (dk_at dksX0_alone_2 13 rfl rfl)
theorem dX0_alone_62 : decode cX0_alone 62 = .ok (.goto (-24), 3) := dk_167 255 232 (dk_at dksX0_alone_2 16 rfl rfl)
theorem dX0_alone_65 : decode cX0_alone 65 = .ok (.iload 4, 2) := dk_21 4 (dk_at dksX0_alone_2 19 rfl rfl)
theorem dX0_alone_67 : decode cX0_alone 67 = .ok (.ifCond .eq 5, 3) := dk_153 0 5 (dk_at dksX0_alone_2 21 rfl rfl)
theorem dX0_alone_70 : decode cX0_alone 70 = .ok (.iload_n 3, 1) := dk_29 (dk_at dksX0_alone_3 0 rfl rfl)
theorem dX0_alone_71 : decode cX0_alone 71 = .ok (.ireturn, 1) := dk_172 (dk_at dksX0_alone_3 1 rfl rfl)
theorem dX0_alone_72 : decode cX0_alone 72 = .ok (.iinc 3 (-1), 3) := dk_132 3 255 (dk_at dksX0_alone_3 2 rfl rfl)
theorem dX0_alone_75 : decode cX0_alone 75 = .ok (.goto (-47), 3) := dk_167 255 209 (dk_at dksX0_alone_3 5 rfl rfl)
theorem dX0_alone_78 : decode cX0_alone 78 = .ok (.bipush (-2), 2) := dk_16 254 (dk_at dksX0_alone_3 8 rfl rfl)
theorem dX0_alone_80 : decode cX0_alone 80 = .ok (.ireturn, 1) := dk_172 (dk_at dksX0_alone_3 10 rfl rfl)
theorem dX0_alone_81 : decode cX0_alone 81 = .ok (.iconst 0, 1) := dk_3 (dk_at dksX0_alone_3 11 rfl rfl)
theorem dX0_alone_82 : decode cX0_alone 82 = .ok (.istore_n 3, 1) := dk_62 (dk_at dksX0_alone_3 12 rfl rfl)
theorem dX0_alone_83 : decode cX0_alone 83 = .ok (.bipush (-2), 2) := dk_16 254 (dk_at dksX0_alone_3 13 rfl rfl)
theorem dX0_alone_85 : decode cX0_alone 85 = .ok (.istore 4, 2) := dk_54 4 (dk_at dksX0_alone_3 15 rfl rfl)
theorem dX0_alone_87 : decode cX0_alone 87 = .ok (.iconst 0, 1) := dk_3 (dk_at dksX0_alone_3 17 rfl rfl)
theorem dX0_alone_88 : decode cX0_alone 88 = .ok (.istore 5, 2) := dk_54 5 (dk_at dksX0_alone_3 18 rfl rfl)
theorem dX0_alone_90 : decode cX0_alone 90 = .ok (.iload 5, 2) := dk_21 5 (dk_at dksX0_alone_3 20 rfl rfl)
theorem dX0_alone_92 : decode cX0_alone 92 = .ok (.iconst 1, 1) := dk_4 (dk_at dksX0_alone_3 22 rfl rfl)
theorem dX0_alone_93 : decode cX0_alone 93 = .ok (.iload_n 1, 1) := dk_27 (dk_at dksX0_alone_3 23 rfl rfl)
theorem dX0_alone_94 : decode cX0_alone 94 = .ok (.ishl, 1) := dk_120 (dk_at dksX0_alone_4 0 rfl rfl)
theorem dX0_alone_95 : decode cX0_alone 95 = .ok (.if_icmp .ge 87, 3) := dk_162 0 87 (dk_at dksX0_alone_4 1 rfl rfl)
theorem dX0_alone_98 : decode cX0_alone 98 = .ok (.iconst 1, 1) := dk_4 (dk_at dksX0_alone_4 4 rfl rfl)
theorem dX0_alone_99 : decode cX0_alone 99 = .ok (.istore 6, 2) := dk_54 6 (dk_at dksX0_alone_4 5 rfl rfl)
theorem dX0_alone_101 : decode cX0_alone 101 = .ok (.iconst 0, 1) := dk_3 (dk_at dksX0_alone_4 7 rfl rfl)
theorem dX0_alone_102 : decode cX0_alone 102 = .ok (.istore 7, 2) := dk_54 7 (dk_at dksX0_alone_4 8 rfl rfl)
theorem dX0_alone_104 : decode cX0_alone 104 = .ok (.iload 7, 2) := dk_21 7 (dk_at dksX0_alone_4 10 rfl rfl)
theorem dX0_alone_106 : decode cX0_alone 106 = .ok (.iload_n 1, 1) := dk_27 (dk_at dksX0_alone_4 12 rfl rfl)
theorem dX0_alone_107 : decode cX0_alone 107 = .ok (.if_icmp .ge 45, 3) := dk_162 0 45 (dk_at dksX0_alone_4 13 rfl rfl)
theorem dX0_alone_110 : decode cX0_alone 110 = .ok (.iload 6, 2) := dk_21 6 (dk_at dksX0_alone_4 16 rfl rfl)
theorem dX0_alone_112 : decode cX0_alone 112 = .ok (.ifCond .eq 40, 3) := dk_153 0 40 (dk_at dksX0_alone_4 18 rfl rfl)
theorem dX0_alone_115 : decode cX0_alone 115 = .ok (.aload_n 0, 1) := dk_42 (dk_at dksX0_alone_4 21 rfl rfl)
theorem dX0_alone_116 : decode cX0_alone 116 = .ok (.iload 5, 2) := dk_21 5 (dk_at dksX0_alone_4 22 rfl rfl)
theorem dX0_alone_118 : decode cX0_alone 118 = .ok (.iconst 1, 1) := dk_4 (dk_at dksX0_alone_5 0 rfl rfl)
theorem dX0_alone_119 : decode cX0_alone 119 = .ok (.iload 7, 2) := dk_21 7 (dk_at dksX0_alone_5 1 rfl rfl)
theorem dX0_alone_121 : decode cX0_alone 121 = .ok (.ishl, 1) := dk_120 (dk_at dksX0_alone_5 3 rfl rfl)
theorem dX0_alone_122 : decode cX0_alone 122 = .ok (.ixor, 1) := dk_130 (dk_at dksX0_alone_5 4 rfl rfl)
theorem dX0_alone_123 : decode cX0_alone 123 = .ok (.iload 7, 2) := dk_21 7 (dk_at dksX0_alone_5 5 rfl rfl)
theorem dX0_alone_125 : decode cX0_alone 125 = .ok (.invokevirtual 396, 3) := dk_182 1 140 (dk_at dksX0_alone_5 7 rfl rfl)
theorem dX0_alone_128 : decode cX0_alone 128 = .ok (.aload_n 0, 1) := dk_42 (dk_at dksX0_alone_5 10 rfl rfl)
theorem dX0_alone_129 : decode cX0_alone 129 = .ok (.iload 5, 2) := dk_21 5 (dk_at dksX0_alone_5 11 rfl rfl)
theorem dX0_alone_131 : decode cX0_alone 131 = .ok (.iload 7, 2) := dk_21 7 (dk_at dksX0_alone_5 13 rfl rfl)
theorem dX0_alone_133 : decode cX0_alone 133 = .ok (.invokevirtual 396, 3) := dk_182 1 140 (dk_at dksX0_alone_5 15 rfl rfl)
theorem dX0_alone_136 : decode cX0_alone 136 = .ok (.if_icmp .gt 7, 3) := dk_163 0 7 (dk_at dksX0_alone_5 18 rfl rfl)
theorem dX0_alone_139 : decode cX0_alone 139 = .ok (.iconst 1, 1) := dk_4 (dk_at dksX0_alone_5 21 rfl rfl)
theorem dX0_alone_140 : decode cX0_alone 140 = .ok (.goto 4, 3) := dk_167 0 4 (dk_at dksX0_alone_6 0 rfl rfl)
theorem dX0_alone_143 : decode cX0_alone 143 = .ok (.iconst 0, 1) := dk_3 (dk_at dksX0_alone_6 3 rfl rfl)
theorem dX0_alone_144 : decode cX0_alone 144 = .ok (.istore 6, 2) := dk_54 6 (dk_at dksX0_alone_6 4 rfl rfl)
theorem dX0_alone_146 : decode cX0_alone 146 = .ok (.iinc 7 1, 3) := dk_132 7 1 (dk_at dksX0_alone_6 6 rfl rfl)
theorem dX0_alone_149 : decode cX0_alone 149 = .ok (.goto (-45), 3) := dk_167 255 211 (dk_at dksX0_alone_6 9 rfl rfl)
theorem dX0_alone_152 : decode cX0_alone 152 = .ok (.iload 6, 2) := dk_21 6 (dk_at dksX0_alone_6 12 rfl rfl)
theorem dX0_alone_154 : decode cX0_alone 154 = .ok (.ifCond .ne 6, 3) := dk_154 0 6 (dk_at dksX0_alone_6 14 rfl rfl)
theorem dX0_alone_157 : decode cX0_alone 157 = .ok (.goto 19, 3) := dk_167 0 19 (dk_at dksX0_alone_6 17 rfl rfl)
theorem dX0_alone_160 : decode cX0_alone 160 = .ok (.iload_n 3, 1) := dk_29 (dk_at dksX0_alone_6 20 rfl rfl)
theorem dX0_alone_161 : decode cX0_alone 161 = .ok (.ifCond .ne 8, 3) := dk_154 0 8 (dk_at dksX0_alone_6 21 rfl rfl)
theorem dX0_alone_164 : decode cX0_alone 164 = .ok (.iload 5, 2) := dk_21 5 (dk_at dksX0_alone_7 0 rfl rfl)
theorem dX0_alone_166 : decode cX0_alone 166 = .ok (.goto 5, 3) := dk_167 0 5 (dk_at dksX0_alone_7 2 rfl rfl)
theorem dX0_alone_169 : decode cX0_alone 169 = .ok (.iload 4, 2) := dk_21 4 (dk_at dksX0_alone_7 5 rfl rfl)
theorem dX0_alone_171 : decode cX0_alone 171 = .ok (.istore 4, 2) := dk_54 4 (dk_at dksX0_alone_7 7 rfl rfl)
theorem dX0_alone_173 : decode cX0_alone 173 = .ok (.iinc 3 1, 3) := dk_132 3 1 (dk_at dksX0_alone_7 9 rfl rfl)
theorem dX0_alone_176 : decode cX0_alone 176 = .ok (.iinc 5 1, 3) := dk_132 5 1 (dk_at dksX0_alone_7 12 rfl rfl)
theorem dX0_alone_179 : decode cX0_alone 179 = .ok (.goto (-89), 3) := dk_167 255 167 (dk_at dksX0_alone_7 15 rfl rfl)
theorem dX0_alone_182 : decode cX0_alone 182 = .ok (.iload_n 2, 1) := dk_28 (dk_at dksX0_alone_7 18 rfl rfl)
theorem dX0_alone_183 : decode cX0_alone 183 = .ok (.ifCond .ne 7, 3) := dk_154 0 7 (dk_at dksX0_alone_7 19 rfl rfl)
theorem dX0_alone_186 : decode cX0_alone 186 = .ok (.iload_n 3, 1) := dk_29 (dk_at dksX0_alone_7 22 rfl rfl)
theorem dX0_alone_187 : decode cX0_alone 187 = .ok (.goto 5, 3) := dk_167 0 5 (dk_at dksX0_alone_8 0 rfl rfl)
theorem dX0_alone_190 : decode cX0_alone 190 = .ok (.iload 4, 2) := dk_21 4 (dk_at dksX0_alone_8 3 rfl rfl)
theorem dX0_alone_192 : decode cX0_alone 192 = .ok (.ireturn, 1) := dk_172 (dk_at dksX0_alone_8 5 rfl rfl)
abbrev cX0_isWorth : ByteArray := prog_1_method_55_code
def yX0_isWorth : MethodName := ⟨RX0, "isWorth", "(III)Z"⟩
def dkwX0_isWorth_2 : List UInt8 := [155, 0, 7, 4, 167, 0, 4, 3, 172]
abbrev dktX0_isWorth_2 : List UInt8 := dkwX0_isWorth_2 ++ []
def dkwX0_isWorth_1 : List UInt8 := [105, 42, 27, 182, 1, 128, 133, 22, 4, 16, 10, 29, 100, 28, 4, 100, 184, 1, 50, 101, 105, 148]
abbrev dktX0_isWorth_1 : List UInt8 := dkwX0_isWorth_1 ++ dktX0_isWorth_2
def dkwX0_isWorth_0 : List UInt8 := [16, 10, 28, 4, 100, 184, 1, 50, 55, 4, 42, 27, 182, 1, 128, 42, 27, 182, 1, 134, 100, 133, 22, 4]
abbrev dktX0_isWorth_0 : List UInt8 := dkwX0_isWorth_0 ++ dktX0_isWorth_1
theorem dksX0_isWorth_0 : cX0_isWorth.data.toList.drop 0 = dktX0_isWorth_0 := by decide +kernel
theorem dksX0_isWorth_1 : cX0_isWorth.data.toList.drop 24 = dktX0_isWorth_1 := dk_seg dksX0_isWorth_0 24 rfl rfl
theorem dksX0_isWorth_2 : cX0_isWorth.data.toList.drop 46 = dktX0_isWorth_2 := dk_seg dksX0_isWorth_1 22 rfl rfl
theorem dX0_isWorth_0 : decode cX0_isWorth 0 = .ok (.bipush 10, 2) := dk_16 10 (dk_at dksX0_isWorth_0 0 rfl rfl)
theorem dX0_isWorth_2 : decode cX0_isWorth 2 = .ok (.iload_n 2, 1) := dk_28 (dk_at dksX0_isWorth_0 2 rfl rfl)
theorem dX0_isWorth_3 : decode cX0_isWorth 3 = .ok (.iconst 1, 1) := dk_4 (dk_at dksX0_isWorth_0 3 rfl rfl)
theorem dX0_isWorth_4 : decode cX0_isWorth 4 = .ok (.isub, 1) := dk_100 (dk_at dksX0_isWorth_0 4 rfl rfl)
theorem dX0_isWorth_5 : decode cX0_isWorth 5 = .ok (.invokestatic 306, 3) := dk_184 1 50 (dk_at dksX0_isWorth_0 5 rfl rfl)
theorem dX0_isWorth_8 : decode cX0_isWorth 8 = .ok (.lstore 4, 2) := dk_55 4 (dk_at dksX0_isWorth_0 8 rfl rfl)
theorem dX0_isWorth_10 : decode cX0_isWorth 10 = .ok (.aload_n 0, 1) := dk_42 (dk_at dksX0_isWorth_0 10 rfl rfl)
theorem dX0_isWorth_11 : decode cX0_isWorth 11 = .ok (.iload_n 1, 1) := dk_27 (dk_at dksX0_isWorth_0 11 rfl rfl)
theorem dX0_isWorth_12 : decode cX0_isWorth 12 = .ok (.invokevirtual 384, 3) := dk_182 1 128 (dk_at dksX0_isWorth_0 12 rfl rfl)
theorem dX0_isWorth_15 : decode cX0_isWorth 15 = .ok (.aload_n 0, 1) := dk_42 (dk_at dksX0_isWorth_0 15 rfl rfl)
theorem dX0_isWorth_16 : decode cX0_isWorth 16 = .ok (.iload_n 1, 1) := dk_27 (dk_at dksX0_isWorth_0 16 rfl rfl)
theorem dX0_isWorth_17 : decode cX0_isWorth 17 = .ok (.invokevirtual 390, 3) := dk_182 1 134 (dk_at dksX0_isWorth_0 17 rfl rfl)
theorem dX0_isWorth_20 : decode cX0_isWorth 20 = .ok (.isub, 1) := dk_100 (dk_at dksX0_isWorth_0 20 rfl rfl)
theorem dX0_isWorth_21 : decode cX0_isWorth 21 = .ok (.i2l, 1) := dk_133 (dk_at dksX0_isWorth_0 21 rfl rfl)
theorem dX0_isWorth_22 : decode cX0_isWorth 22 = .ok (.lload 4, 2) := dk_22 4 (dk_at dksX0_isWorth_0 22 rfl rfl)
theorem dX0_isWorth_24 : decode cX0_isWorth 24 = .ok (.lmul, 1) := dk_105 (dk_at dksX0_isWorth_1 0 rfl rfl)
theorem dX0_isWorth_25 : decode cX0_isWorth 25 = .ok (.aload_n 0, 1) := dk_42 (dk_at dksX0_isWorth_1 1 rfl rfl)
theorem dX0_isWorth_26 : decode cX0_isWorth 26 = .ok (.iload_n 1, 1) := dk_27 (dk_at dksX0_isWorth_1 2 rfl rfl)
theorem dX0_isWorth_27 : decode cX0_isWorth 27 = .ok (.invokevirtual 384, 3) := dk_182 1 128 (dk_at dksX0_isWorth_1 3 rfl rfl)
theorem dX0_isWorth_30 : decode cX0_isWorth 30 = .ok (.i2l, 1) := dk_133 (dk_at dksX0_isWorth_1 6 rfl rfl)
theorem dX0_isWorth_31 : decode cX0_isWorth 31 = .ok (.lload 4, 2) := dk_22 4 (dk_at dksX0_isWorth_1 7 rfl rfl)
theorem dX0_isWorth_33 : decode cX0_isWorth 33 = .ok (.bipush 10, 2) := dk_16 10 (dk_at dksX0_isWorth_1 9 rfl rfl)
theorem dX0_isWorth_35 : decode cX0_isWorth 35 = .ok (.iload_n 3, 1) := dk_29 (dk_at dksX0_isWorth_1 11 rfl rfl)
theorem dX0_isWorth_36 : decode cX0_isWorth 36 = .ok (.isub, 1) := dk_100 (dk_at dksX0_isWorth_1 12 rfl rfl)
theorem dX0_isWorth_37 : decode cX0_isWorth 37 = .ok (.iload_n 2, 1) := dk_28 (dk_at dksX0_isWorth_1 13 rfl rfl)
theorem dX0_isWorth_38 : decode cX0_isWorth 38 = .ok (.iconst 1, 1) := dk_4 (dk_at dksX0_isWorth_1 14 rfl rfl)
theorem dX0_isWorth_39 : decode cX0_isWorth 39 = .ok (.isub, 1) := dk_100 (dk_at dksX0_isWorth_1 15 rfl rfl)
theorem dX0_isWorth_40 : decode cX0_isWorth 40 = .ok (.invokestatic 306, 3) := dk_184 1 50 (dk_at dksX0_isWorth_1 16 rfl rfl)
theorem dX0_isWorth_43 : decode cX0_isWorth 43 = .ok (.lsub, 1) := dk_101 (dk_at dksX0_isWorth_1 19 rfl rfl)
theorem dX0_isWorth_44 : decode cX0_isWorth 44 = .ok (.lmul, 1) := dk_105 (dk_at dksX0_isWorth_1 20 rfl rfl)
theorem dX0_isWorth_45 : decode cX0_isWorth 45 = .ok (.lcmp, 1) := dk_148 (dk_at dksX0_isWorth_1 21 rfl rfl)
theorem dX0_isWorth_46 : decode cX0_isWorth 46 = .ok (.ifCond .lt 7, 3) := dk_155 0 7 (dk_at dksX0_isWorth_2 0 rfl rfl)
theorem dX0_isWorth_49 : decode cX0_isWorth 49 = .ok (.iconst 1, 1) := dk_4 (dk_at dksX0_isWorth_2 3 rfl rfl)
theorem dX0_isWorth_50 : decode cX0_isWorth 50 = .ok (.goto 4, 3) := dk_167 0 4 (dk_at dksX0_isWorth_2 4 rfl rfl)
theorem dX0_isWorth_53 : decode cX0_isWorth 53 = .ok (.iconst 0, 1) := dk_3 (dk_at dksX0_isWorth_2 7 rfl rfl)
theorem dX0_isWorth_54 : decode cX0_isWorth 54 = .ok (.ireturn, 1) := dk_172 (dk_at dksX0_isWorth_2 8 rfl rfl)
abbrev cX0_worthOf : ByteArray := prog_1_method_53_code
def yX0_worthOf : MethodName := ⟨RX0, "worthOf", "(I)I"⟩
def dkwX0_worthOf_1 : List UInt8 := [182, 1, 18, 16, 98, 17, 3, 231, 182, 1, 35, 172]
abbrev dktX0_worthOf_1 : List UInt8 := dkwX0_worthOf_1 ++ []
def dkwX0_worthOf_0 : List UInt8 := [42, 180, 0, 23, 42, 180, 0, 30, 180, 1, 47, 42, 180, 0, 30, 182, 1, 44, 182, 0, 238, 27, 3, 3]
abbrev dktX0_worthOf_0 : List UInt8 := dkwX0_worthOf_0 ++ dktX0_worthOf_1
theorem dksX0_worthOf_0 : cX0_worthOf.data.toList.drop 0 = dktX0_worthOf_0 := by decide +kernel
theorem dksX0_worthOf_1 : cX0_worthOf.data.toList.drop 24 = dktX0_worthOf_1 := dk_seg dksX0_worthOf_0 24 rfl rfl
theorem dX0_worthOf_0 : decode cX0_worthOf 0 = .ok (.aload_n 0, 1) := dk_42 (dk_at dksX0_worthOf_0 0 rfl rfl)
theorem dX0_worthOf_1 : decode cX0_worthOf 1 = .ok (.getfield 23, 3) := dk_180 0 23 (dk_at dksX0_worthOf_0 1 rfl rfl)
theorem dX0_worthOf_4 : decode cX0_worthOf 4 = .ok (.aload_n 0, 1) := dk_42 (dk_at dksX0_worthOf_0 4 rfl rfl)
theorem dX0_worthOf_5 : decode cX0_worthOf 5 = .ok (.getfield 30, 3) := dk_180 0 30 (dk_at dksX0_worthOf_0 5 rfl rfl)
theorem dX0_worthOf_8 : decode cX0_worthOf 8 = .ok (.getfield 303, 3) := dk_180 1 47 (dk_at dksX0_worthOf_0 8 rfl rfl)
theorem dX0_worthOf_11 : decode cX0_worthOf 11 = .ok (.aload_n 0, 1) := dk_42 (dk_at dksX0_worthOf_0 11 rfl rfl)
theorem dX0_worthOf_12 : decode cX0_worthOf 12 = .ok (.getfield 30, 3) := dk_180 0 30 (dk_at dksX0_worthOf_0 12 rfl rfl)
theorem dX0_worthOf_15 : decode cX0_worthOf 15 = .ok (.invokevirtual 300, 3) := dk_182 1 44 (dk_at dksX0_worthOf_0 15 rfl rfl)
theorem dX0_worthOf_18 : decode cX0_worthOf 18 = .ok (.invokevirtual 238, 3) := dk_182 0 238 (dk_at dksX0_worthOf_0 18 rfl rfl)
theorem dX0_worthOf_21 : decode cX0_worthOf 21 = .ok (.iload_n 1, 1) := dk_27 (dk_at dksX0_worthOf_0 21 rfl rfl)
theorem dX0_worthOf_22 : decode cX0_worthOf 22 = .ok (.iconst 0, 1) := dk_3 (dk_at dksX0_worthOf_0 22 rfl rfl)
theorem dX0_worthOf_23 : decode cX0_worthOf 23 = .ok (.iconst 0, 1) := dk_3 (dk_at dksX0_worthOf_0 23 rfl rfl)
theorem dX0_worthOf_24 : decode cX0_worthOf 24 = .ok (.invokevirtual 274, 3) := dk_182 1 18 (dk_at dksX0_worthOf_1 0 rfl rfl)
theorem dX0_worthOf_27 : decode cX0_worthOf 27 = .ok (.bipush 98, 2) := dk_16 98 (dk_at dksX0_worthOf_1 3 rfl rfl)
theorem dX0_worthOf_29 : decode cX0_worthOf 29 = .ok (.sipush 999, 3) := dk_17 3 231 (dk_at dksX0_worthOf_1 5 rfl rfl)
theorem dX0_worthOf_32 : decode cX0_worthOf 32 = .ok (.invokevirtual 291, 3) := dk_182 1 35 (dk_at dksX0_worthOf_1 8 rfl rfl)
theorem dX0_worthOf_35 : decode cX0_worthOf 35 = .ok (.ireturn, 1) := dk_172 (dk_at dksX0_worthOf_1 11 rfl rfl)
abbrev cX0_costOf : ByteArray := prog_1_method_52_code
def yX0_costOf : MethodName := ⟨RX0, "costOf", "(I)I"⟩
def dkwX0_costOf_1 : List UInt8 := [182, 1, 18, 16, 99, 16, 99, 182, 1, 35, 172]
abbrev dktX0_costOf_1 : List UInt8 := dkwX0_costOf_1 ++ []
def dkwX0_costOf_0 : List UInt8 := [42, 180, 0, 23, 42, 180, 0, 30, 180, 1, 47, 42, 180, 0, 30, 182, 1, 44, 182, 0, 238, 27, 3, 3]
abbrev dktX0_costOf_0 : List UInt8 := dkwX0_costOf_0 ++ dktX0_costOf_1
theorem dksX0_costOf_0 : cX0_costOf.data.toList.drop 0 = dktX0_costOf_0 := by decide +kernel
theorem dksX0_costOf_1 : cX0_costOf.data.toList.drop 24 = dktX0_costOf_1 := dk_seg dksX0_costOf_0 24 rfl rfl
theorem dX0_costOf_0 : decode cX0_costOf 0 = .ok (.aload_n 0, 1) := dk_42 (dk_at dksX0_costOf_0 0 rfl rfl)
theorem dX0_costOf_1 : decode cX0_costOf 1 = .ok (.getfield 23, 3) := dk_180 0 23 (dk_at dksX0_costOf_0 1 rfl rfl)
theorem dX0_costOf_4 : decode cX0_costOf 4 = .ok (.aload_n 0, 1) := dk_42 (dk_at dksX0_costOf_0 4 rfl rfl)
theorem dX0_costOf_5 : decode cX0_costOf 5 = .ok (.getfield 30, 3) := dk_180 0 30 (dk_at dksX0_costOf_0 5 rfl rfl)
theorem dX0_costOf_8 : decode cX0_costOf 8 = .ok (.getfield 303, 3) := dk_180 1 47 (dk_at dksX0_costOf_0 8 rfl rfl)
theorem dX0_costOf_11 : decode cX0_costOf 11 = .ok (.aload_n 0, 1) := dk_42 (dk_at dksX0_costOf_0 11 rfl rfl)
theorem dX0_costOf_12 : decode cX0_costOf 12 = .ok (.getfield 30, 3) := dk_180 0 30 (dk_at dksX0_costOf_0 12 rfl rfl)
theorem dX0_costOf_15 : decode cX0_costOf 15 = .ok (.invokevirtual 300, 3) := dk_182 1 44 (dk_at dksX0_costOf_0 15 rfl rfl)
theorem dX0_costOf_18 : decode cX0_costOf 18 = .ok (.invokevirtual 238, 3) := dk_182 0 238 (dk_at dksX0_costOf_0 18 rfl rfl)
theorem dX0_costOf_21 : decode cX0_costOf 21 = .ok (.iload_n 1, 1) := dk_27 (dk_at dksX0_costOf_0 21 rfl rfl)
theorem dX0_costOf_22 : decode cX0_costOf 22 = .ok (.iconst 0, 1) := dk_3 (dk_at dksX0_costOf_0 22 rfl rfl)
theorem dX0_costOf_23 : decode cX0_costOf 23 = .ok (.iconst 0, 1) := dk_3 (dk_at dksX0_costOf_0 23 rfl rfl)
theorem dX0_costOf_24 : decode cX0_costOf 24 = .ok (.invokevirtual 274, 3) := dk_182 1 18 (dk_at dksX0_costOf_1 0 rfl rfl)
theorem dX0_costOf_27 : decode cX0_costOf 27 = .ok (.bipush 99, 2) := dk_16 99 (dk_at dksX0_costOf_1 3 rfl rfl)
theorem dX0_costOf_29 : decode cX0_costOf 29 = .ok (.bipush 99, 2) := dk_16 99 (dk_at dksX0_costOf_1 5 rfl rfl)
theorem dX0_costOf_31 : decode cX0_costOf 31 = .ok (.invokevirtual 291, 3) := dk_182 1 35 (dk_at dksX0_costOf_1 7 rfl rfl)
theorem dX0_costOf_34 : decode cX0_costOf 34 = .ok (.ireturn, 1) := dk_172 (dk_at dksX0_costOf_1 10 rfl rfl)
abbrev cX0_gainOf : ByteArray := prog_1_method_54_code
def yX0_gainOf : MethodName := ⟨RX0, "gainOf", "(II)I"⟩
def dkwX0_gainOf_1 : List UInt8 := [182, 1, 134, 167, 0, 4, 3, 100, 172]
abbrev dktX0_gainOf_1 : List UInt8 := dkwX0_gainOf_1 ++ []
def dkwX0_gainOf_0 : List UInt8 := [27, 153, 0, 11, 42, 28, 182, 1, 128, 167, 0, 4, 3, 27, 28, 184, 1, 131, 153, 0, 11, 42, 28]
abbrev dktX0_gainOf_0 : List UInt8 := dkwX0_gainOf_0 ++ dktX0_gainOf_1
theorem dksX0_gainOf_0 : cX0_gainOf.data.toList.drop 0 = dktX0_gainOf_0 := by decide +kernel
theorem dksX0_gainOf_1 : cX0_gainOf.data.toList.drop 23 = dktX0_gainOf_1 := dk_seg dksX0_gainOf_0 23 rfl rfl
theorem dX0_gainOf_0 : decode cX0_gainOf 0 = .ok (.iload_n 1, 1) := dk_27 (dk_at dksX0_gainOf_0 0 rfl rfl)
theorem dX0_gainOf_1 : decode cX0_gainOf 1 = .ok (.ifCond .eq 11, 3) := dk_153 0 11 (dk_at dksX0_gainOf_0 1 rfl rfl)
theorem dX0_gainOf_4 : decode cX0_gainOf 4 = .ok (.aload_n 0, 1) := dk_42 (dk_at dksX0_gainOf_0 4 rfl rfl)
theorem dX0_gainOf_5 : decode cX0_gainOf 5 = .ok (.iload_n 2, 1) := dk_28 (dk_at dksX0_gainOf_0 5 rfl rfl)
theorem dX0_gainOf_6 : decode cX0_gainOf 6 = .ok (.invokevirtual 384, 3) := dk_182 1 128 (dk_at dksX0_gainOf_0 6 rfl rfl)
theorem dX0_gainOf_9 : decode cX0_gainOf 9 = .ok (.goto 4, 3) := dk_167 0 4 (dk_at dksX0_gainOf_0 9 rfl rfl)
theorem dX0_gainOf_12 : decode cX0_gainOf 12 = .ok (.iconst 0, 1) := dk_3 (dk_at dksX0_gainOf_0 12 rfl rfl)
theorem dX0_gainOf_13 : decode cX0_gainOf 13 = .ok (.iload_n 1, 1) := dk_27 (dk_at dksX0_gainOf_0 13 rfl rfl)
theorem dX0_gainOf_14 : decode cX0_gainOf 14 = .ok (.iload_n 2, 1) := dk_28 (dk_at dksX0_gainOf_0 14 rfl rfl)
theorem dX0_gainOf_15 : decode cX0_gainOf 15 = .ok (.invokestatic 387, 3) := dk_184 1 131 (dk_at dksX0_gainOf_0 15 rfl rfl)
theorem dX0_gainOf_18 : decode cX0_gainOf 18 = .ok (.ifCond .eq 11, 3) := dk_153 0 11 (dk_at dksX0_gainOf_0 18 rfl rfl)
theorem dX0_gainOf_21 : decode cX0_gainOf 21 = .ok (.aload_n 0, 1) := dk_42 (dk_at dksX0_gainOf_0 21 rfl rfl)
theorem dX0_gainOf_22 : decode cX0_gainOf 22 = .ok (.iload_n 2, 1) := dk_28 (dk_at dksX0_gainOf_0 22 rfl rfl)
theorem dX0_gainOf_23 : decode cX0_gainOf 23 = .ok (.invokevirtual 390, 3) := dk_182 1 134 (dk_at dksX0_gainOf_1 0 rfl rfl)
theorem dX0_gainOf_26 : decode cX0_gainOf 26 = .ok (.goto 4, 3) := dk_167 0 4 (dk_at dksX0_gainOf_1 3 rfl rfl)
theorem dX0_gainOf_29 : decode cX0_gainOf 29 = .ok (.iconst 0, 1) := dk_3 (dk_at dksX0_gainOf_1 6 rfl rfl)
theorem dX0_gainOf_30 : decode cX0_gainOf 30 = .ok (.isub, 1) := dk_100 (dk_at dksX0_gainOf_1 7 rfl rfl)
theorem dX0_gainOf_31 : decode cX0_gainOf 31 = .ok (.ireturn, 1) := dk_172 (dk_at dksX0_gainOf_1 8 rfl rfl)
abbrev cX0_has : ByteArray := prog_1_method_3_code
def yX0_has : MethodName := ⟨RX0, "has", "(II)Z"⟩
def dkwX0_has_0 : List UInt8 := [26, 27, 122, 4, 126, 4, 160, 0, 7, 4, 167, 0, 4, 3, 172]
abbrev dktX0_has_0 : List UInt8 := dkwX0_has_0 ++ []
theorem dksX0_has_0 : cX0_has.data.toList.drop 0 = dktX0_has_0 := by decide +kernel
theorem dX0_has_0 : decode cX0_has 0 = .ok (.iload_n 0, 1) := dk_26 (dk_at dksX0_has_0 0 rfl rfl)
theorem dX0_has_1 : decode cX0_has 1 = .ok (.iload_n 1, 1) := dk_27 (dk_at dksX0_has_0 1 rfl rfl)
theorem dX0_has_2 : decode cX0_has 2 = .ok (.ishr, 1) := dk_122 (dk_at dksX0_has_0 2 rfl rfl)
theorem dX0_has_3 : decode cX0_has 3 = .ok (.iconst 1, 1) := dk_4 (dk_at dksX0_has_0 3 rfl rfl)
theorem dX0_has_4 : decode cX0_has 4 = .ok (.iand, 1) := dk_126 (dk_at dksX0_has_0 4 rfl rfl)
theorem dX0_has_5 : decode cX0_has 5 = .ok (.iconst 1, 1) := dk_4 (dk_at dksX0_has_0 5 rfl rfl)
theorem dX0_has_6 : decode cX0_has 6 = .ok (.if_icmp .ne 7, 3) := dk_160 0 7 (dk_at dksX0_has_0 6 rfl rfl)
theorem dX0_has_9 : decode cX0_has 9 = .ok (.iconst 1, 1) := dk_4 (dk_at dksX0_has_0 9 rfl rfl)
theorem dX0_has_10 : decode cX0_has 10 = .ok (.goto 4, 3) := dk_167 0 4 (dk_at dksX0_has_0 10 rfl rfl)
theorem dX0_has_13 : decode cX0_has 13 = .ok (.iconst 0, 1) := dk_3 (dk_at dksX0_has_0 13 rfl rfl)
theorem dX0_has_14 : decode cX0_has 14 = .ok (.ireturn, 1) := dk_172 (dk_at dksX0_has_0 14 rfl rfl)
abbrev cX0_whoDid : ByteArray := prog_1_method_59_code
def yX0_whoDid : MethodName := ⟨RX0, "whoDid", "(IIIII)J"⟩
def dkwX0_whoDid_11 : List UInt8 := [133, 173]
abbrev dktX0_whoDid_11 : List UInt8 := dkwX0_whoDid_11 ++ []
def dkwX0_whoDid_10 : List UInt8 := [21, 11, 153, 0, 10, 4, 21, 10, 120, 167, 0, 4, 3, 128, 54, 9, 132, 10, 1, 167, 255, 167, 21, 9]
abbrev dktX0_whoDid_10 : List UInt8 := dkwX0_whoDid_10 ++ dktX0_whoDid_11
def dkwX0_whoDid_9 : List UInt8 := [21, 4, 182, 1, 147, 154, 0, 7, 4, 167, 0, 4, 3, 54, 11, 132, 12, 1, 167, 255, 211, 21, 9]
abbrev dktX0_whoDid_9 : List UInt8 := dkwX0_whoDid_9 ++ dktX0_whoDid_10
def dkwX0_whoDid_8 : List UInt8 := [162, 0, 45, 21, 11, 154, 0, 27, 28, 21, 10, 184, 1, 131, 153, 0, 22, 42, 21, 12, 28, 21, 10, 29]
abbrev dktX0_whoDid_8 : List UInt8 := dkwX0_whoDid_8 ++ dktX0_whoDid_9
def dkwX0_whoDid_7 : List UInt8 := [21, 10, 16, 8, 162, 0, 88, 22, 6, 9, 148, 158, 0, 81, 3, 54, 11, 3, 54, 12, 21, 12, 27]
abbrev dktX0_whoDid_7 : List UInt8 := dkwX0_whoDid_7 ++ dktX0_whoDid_8
def dkwX0_whoDid_6 : List UInt8 := [5, 162, 0, 17, 21, 5, 154, 0, 8, 22, 6, 167, 0, 6, 21, 8, 133, 173, 3, 54, 9, 3, 54, 10]
abbrev dktX0_whoDid_6 : List UInt8 := dkwX0_whoDid_6 ++ dktX0_whoDid_7
def dkwX0_whoDid_5 : List UInt8 := [55, 6, 21, 10, 154, 0, 12, 21, 8, 156, 0, 7, 21, 9, 54, 8, 132, 9, 1, 167, 255, 212, 21, 5]
abbrev dktX0_whoDid_5 : List UInt8 := dkwX0_whoDid_5 ++ dktX0_whoDid_6
def dkwX0_whoDid_4 : List UInt8 := [27, 162, 0, 44, 42, 21, 9, 28, 2, 29, 21, 4, 182, 1, 147, 54, 10, 22, 6, 21, 10, 133, 105]
abbrev dktX0_whoDid_4 : List UInt8 := dkwX0_whoDid_4 ++ dktX0_whoDid_5
def dkwX0_whoDid_3 : List UInt8 := [164, 0, 7, 20, 1, 63, 173, 42, 3, 181, 0, 171, 10, 55, 6, 16, 254, 54, 8, 3, 54, 9, 21, 9]
abbrev dktX0_whoDid_3 : List UInt8 := dkwX0_whoDid_3 ++ dktX0_whoDid_4
def dkwX0_whoDid_2 : List UInt8 := [184, 0, 120, 153, 0, 22, 21, 5, 6, 184, 0, 99, 153, 0, 13, 27, 4, 96, 42, 180, 0, 171]
abbrev dktX0_whoDid_2 : List UInt8 := dkwX0_whoDid_2 ++ dktX0_whoDid_3
def dkwX0_whoDid_1 : List UInt8 := [4, 8, 184, 0, 120, 153, 0, 43, 29, 4, 16, 9, 184, 0, 120, 153, 0, 33, 21, 4, 3, 16, 9]
abbrev dktX0_whoDid_1 : List UInt8 := dkwX0_whoDid_1 ++ dktX0_whoDid_2
def dkwX0_whoDid_0 : List UInt8 := [27, 4, 16, 6, 184, 0, 120, 153, 0, 65, 28, 17, 1, 0, 184, 0, 99, 153, 0, 55, 28, 184, 0, 212]
abbrev dktX0_whoDid_0 : List UInt8 := dkwX0_whoDid_0 ++ dktX0_whoDid_1
theorem dksX0_whoDid_0 : cX0_whoDid.data.toList.drop 0 = dktX0_whoDid_0 := by decide +kernel
theorem dksX0_whoDid_1 : cX0_whoDid.data.toList.drop 24 = dktX0_whoDid_1 := dk_seg dksX0_whoDid_0 24 rfl rfl
theorem dksX0_whoDid_2 : cX0_whoDid.data.toList.drop 47 = dktX0_whoDid_2 := dk_seg dksX0_whoDid_1 23 rfl rfl
theorem dksX0_whoDid_3 : cX0_whoDid.data.toList.drop 69 = dktX0_whoDid_3 := dk_seg dksX0_whoDid_2 22 rfl rfl
theorem dksX0_whoDid_4 : cX0_whoDid.data.toList.drop 93 = dktX0_whoDid_4 := dk_seg dksX0_whoDid_3 24 rfl rfl
theorem dksX0_whoDid_5 : cX0_whoDid.data.toList.drop 116 = dktX0_whoDid_5 := dk_seg dksX0_whoDid_4 23 rfl rfl
theorem dksX0_whoDid_6 : cX0_whoDid.data.toList.drop 140 = dktX0_whoDid_6 := dk_seg dksX0_whoDid_5 24 rfl rfl
theorem dksX0_whoDid_7 : cX0_whoDid.data.toList.drop 164 = dktX0_whoDid_7 := dk_seg dksX0_whoDid_6 24 rfl rfl
theorem dksX0_whoDid_8 : cX0_whoDid.data.toList.drop 187 = dktX0_whoDid_8 := dk_seg dksX0_whoDid_7 23 rfl rfl
theorem dksX0_whoDid_9 : cX0_whoDid.data.toList.drop 211 = dktX0_whoDid_9 := dk_seg dksX0_whoDid_8 24 rfl rfl
theorem dksX0_whoDid_10 : cX0_whoDid.data.toList.drop 234 = dktX0_whoDid_10 := dk_seg dksX0_whoDid_9 23 rfl rfl
theorem dksX0_whoDid_11 : cX0_whoDid.data.toList.drop 258 = dktX0_whoDid_11 := dk_seg dksX0_whoDid_10 24 rfl rfl
theorem dX0_whoDid_0 : decode cX0_whoDid 0 = .ok (.iload_n 1, 1) := dk_27 (dk_at dksX0_whoDid_0 0 rfl rfl)
theorem dX0_whoDid_1 : decode cX0_whoDid 1 = .ok (.iconst 1, 1) := dk_4 (dk_at dksX0_whoDid_0 1 rfl rfl)
theorem dX0_whoDid_2 : decode cX0_whoDid 2 = .ok (.bipush 6, 2) := dk_16 6 (dk_at dksX0_whoDid_0 2 rfl rfl)
theorem dX0_whoDid_4 : decode cX0_whoDid 4 = .ok (.invokestatic 120, 3) := dk_184 0 120 (dk_at dksX0_whoDid_0 4 rfl rfl)
theorem dX0_whoDid_7 : decode cX0_whoDid 7 = .ok (.ifCond .eq 65, 3) := dk_153 0 65 (dk_at dksX0_whoDid_0 7 rfl rfl)
theorem dX0_whoDid_10 : decode cX0_whoDid 10 = .ok (.iload_n 2, 1) := dk_28 (dk_at dksX0_whoDid_0 10 rfl rfl)
theorem dX0_whoDid_11 : decode cX0_whoDid 11 = .ok (.sipush 256, 3) := dk_17 1 0 (dk_at dksX0_whoDid_0 11 rfl rfl)
theorem dX0_whoDid_14 : decode cX0_whoDid 14 = .ok (.invokestatic 99, 3) := dk_184 0 99 (dk_at dksX0_whoDid_0 14 rfl rfl)
theorem dX0_whoDid_17 : decode cX0_whoDid 17 = .ok (.ifCond .eq 55, 3) := dk_153 0 55 (dk_at dksX0_whoDid_0 17 rfl rfl)
theorem dX0_whoDid_20 : decode cX0_whoDid 20 = .ok (.iload_n 2, 1) := dk_28 (dk_at dksX0_whoDid_0 20 rfl rfl)
theorem dX0_whoDid_21 : decode cX0_whoDid 21 = .ok (.invokestatic 212, 3) := dk_184 0 212 (dk_at dksX0_whoDid_0 21 rfl rfl)
theorem dX0_whoDid_24 : decode cX0_whoDid 24 = .ok (.iconst 1, 1) := dk_4 (dk_at dksX0_whoDid_1 0 rfl rfl)
theorem dX0_whoDid_25 : decode cX0_whoDid 25 = .ok (.iconst 5, 1) := dk_8 (dk_at dksX0_whoDid_1 1 rfl rfl)
theorem dX0_whoDid_26 : decode cX0_whoDid 26 = .ok (.invokestatic 120, 3) := dk_184 0 120 (dk_at dksX0_whoDid_1 2 rfl rfl)
theorem dX0_whoDid_29 : decode cX0_whoDid 29 = .ok (.ifCond .eq 43, 3) := dk_153 0 43 (dk_at dksX0_whoDid_1 5 rfl rfl)
theorem dX0_whoDid_32 : decode cX0_whoDid 32 = .ok (.iload_n 3, 1) := dk_29 (dk_at dksX0_whoDid_1 8 rfl rfl)
theorem dX0_whoDid_33 : decode cX0_whoDid 33 = .ok (.iconst 1, 1) := dk_4 (dk_at dksX0_whoDid_1 9 rfl rfl)
theorem dX0_whoDid_34 : decode cX0_whoDid 34 = .ok (.bipush 9, 2) := dk_16 9 (dk_at dksX0_whoDid_1 10 rfl rfl)
theorem dX0_whoDid_36 : decode cX0_whoDid 36 = .ok (.invokestatic 120, 3) := dk_184 0 120 (dk_at dksX0_whoDid_1 12 rfl rfl)
theorem dX0_whoDid_39 : decode cX0_whoDid 39 = .ok (.ifCond .eq 33, 3) := dk_153 0 33 (dk_at dksX0_whoDid_1 15 rfl rfl)
theorem dX0_whoDid_42 : decode cX0_whoDid 42 = .ok (.iload 4, 2) := dk_21 4 (dk_at dksX0_whoDid_1 18 rfl rfl)
theorem dX0_whoDid_44 : decode cX0_whoDid 44 = .ok (.iconst 0, 1) := dk_3 (dk_at dksX0_whoDid_1 20 rfl rfl)
theorem dX0_whoDid_45 : decode cX0_whoDid 45 = .ok (.bipush 9, 2) := dk_16 9 (dk_at dksX0_whoDid_1 21 rfl rfl)
theorem dX0_whoDid_47 : decode cX0_whoDid 47 = .ok (.invokestatic 120, 3) := dk_184 0 120 (dk_at dksX0_whoDid_2 0 rfl rfl)
theorem dX0_whoDid_50 : decode cX0_whoDid 50 = .ok (.ifCond .eq 22, 3) := dk_153 0 22 (dk_at dksX0_whoDid_2 3 rfl rfl)
theorem dX0_whoDid_53 : decode cX0_whoDid 53 = .ok (.iload 5, 2) := dk_21 5 (dk_at dksX0_whoDid_2 6 rfl rfl)
theorem dX0_whoDid_55 : decode cX0_whoDid 55 = .ok (.iconst 3, 1) := dk_6 (dk_at dksX0_whoDid_2 8 rfl rfl)
theorem dX0_whoDid_56 : decode cX0_whoDid 56 = .ok (.invokestatic 99, 3) := dk_184 0 99 (dk_at dksX0_whoDid_2 9 rfl rfl)
theorem dX0_whoDid_59 : decode cX0_whoDid 59 = .ok (.ifCond .eq 13, 3) := dk_153 0 13 (dk_at dksX0_whoDid_2 12 rfl rfl)
theorem dX0_whoDid_62 : decode cX0_whoDid 62 = .ok (.iload_n 1, 1) := dk_27 (dk_at dksX0_whoDid_2 15 rfl rfl)
theorem dX0_whoDid_63 : decode cX0_whoDid 63 = .ok (.iconst 1, 1) := dk_4 (dk_at dksX0_whoDid_2 16 rfl rfl)
theorem dX0_whoDid_64 : decode cX0_whoDid 64 = .ok (.iadd, 1) := dk_96 (dk_at dksX0_whoDid_2 17 rfl rfl)
theorem dX0_whoDid_65 : decode cX0_whoDid 65 = .ok (.aload_n 0, 1) := dk_42 (dk_at dksX0_whoDid_2 18 rfl rfl)
theorem dX0_whoDid_66 : decode cX0_whoDid 66 = .ok (.getfield 171, 3) := dk_180 0 171 (dk_at dksX0_whoDid_2 19 rfl rfl)
theorem dX0_whoDid_69 : decode cX0_whoDid 69 = .ok (.if_icmp .le 7, 3) := dk_164 0 7 (dk_at dksX0_whoDid_3 0 rfl rfl)
theorem dX0_whoDid_72 : decode cX0_whoDid 72 = .ok (.ldc2_w 319, 3) := dk_20 1 63 (dk_at dksX0_whoDid_3 3 rfl rfl)
theorem dX0_whoDid_75 : decode cX0_whoDid 75 = .ok (.lreturn, 1) := dk_173 (dk_at dksX0_whoDid_3 6 rfl rfl)
theorem dX0_whoDid_76 : decode cX0_whoDid 76 = .ok (.aload_n 0, 1) := dk_42 (dk_at dksX0_whoDid_3 7 rfl rfl)
theorem dX0_whoDid_77 : decode cX0_whoDid 77 = .ok (.iconst 0, 1) := dk_3 (dk_at dksX0_whoDid_3 8 rfl rfl)
theorem dX0_whoDid_78 : decode cX0_whoDid 78 = .ok (.putfield 171, 3) := dk_181 0 171 (dk_at dksX0_whoDid_3 9 rfl rfl)
theorem dX0_whoDid_81 : decode cX0_whoDid 81 = .ok (.lconst 1, 1) := dk_10 (dk_at dksX0_whoDid_3 12 rfl rfl)
theorem dX0_whoDid_82 : decode cX0_whoDid 82 = .ok (.lstore 6, 2) := dk_55 6 (dk_at dksX0_whoDid_3 13 rfl rfl)
theorem dX0_whoDid_84 : decode cX0_whoDid 84 = .ok (.bipush (-2), 2) := dk_16 254 (dk_at dksX0_whoDid_3 15 rfl rfl)
theorem dX0_whoDid_86 : decode cX0_whoDid 86 = .ok (.istore 8, 2) := dk_54 8 (dk_at dksX0_whoDid_3 17 rfl rfl)
theorem dX0_whoDid_88 : decode cX0_whoDid 88 = .ok (.iconst 0, 1) := dk_3 (dk_at dksX0_whoDid_3 19 rfl rfl)
theorem dX0_whoDid_89 : decode cX0_whoDid 89 = .ok (.istore 9, 2) := dk_54 9 (dk_at dksX0_whoDid_3 20 rfl rfl)
theorem dX0_whoDid_91 : decode cX0_whoDid 91 = .ok (.iload 9, 2) := dk_21 9 (dk_at dksX0_whoDid_3 22 rfl rfl)
theorem dX0_whoDid_93 : decode cX0_whoDid 93 = .ok (.iload_n 1, 1) := dk_27 (dk_at dksX0_whoDid_4 0 rfl rfl)
theorem dX0_whoDid_94 : decode cX0_whoDid 94 = .ok (.if_icmp .ge 44, 3) := dk_162 0 44 (dk_at dksX0_whoDid_4 1 rfl rfl)
theorem dX0_whoDid_97 : decode cX0_whoDid 97 = .ok (.aload_n 0, 1) := dk_42 (dk_at dksX0_whoDid_4 4 rfl rfl)
theorem dX0_whoDid_98 : decode cX0_whoDid 98 = .ok (.iload 9, 2) := dk_21 9 (dk_at dksX0_whoDid_4 5 rfl rfl)
theorem dX0_whoDid_100 : decode cX0_whoDid 100 = .ok (.iload_n 2, 1) := dk_28 (dk_at dksX0_whoDid_4 7 rfl rfl)
theorem dX0_whoDid_101 : decode cX0_whoDid 101 = .ok (.iconst (-1), 1) := dk_2 (dk_at dksX0_whoDid_4 8 rfl rfl)
theorem dX0_whoDid_102 : decode cX0_whoDid 102 = .ok (.iload_n 3, 1) := dk_29 (dk_at dksX0_whoDid_4 9 rfl rfl)
theorem dX0_whoDid_103 : decode cX0_whoDid 103 = .ok (.iload 4, 2) := dk_21 4 (dk_at dksX0_whoDid_4 10 rfl rfl)
theorem dX0_whoDid_105 : decode cX0_whoDid 105 = .ok (.invokevirtual 403, 3) := dk_182 1 147 (dk_at dksX0_whoDid_4 12 rfl rfl)
theorem dX0_whoDid_108 : decode cX0_whoDid 108 = .ok (.istore 10, 2) := dk_54 10 (dk_at dksX0_whoDid_4 15 rfl rfl)
theorem dX0_whoDid_110 : decode cX0_whoDid 110 = .ok (.lload 6, 2) := dk_22 6 (dk_at dksX0_whoDid_4 17 rfl rfl)
theorem dX0_whoDid_112 : decode cX0_whoDid 112 = .ok (.iload 10, 2) := dk_21 10 (dk_at dksX0_whoDid_4 19 rfl rfl)
theorem dX0_whoDid_114 : decode cX0_whoDid 114 = .ok (.i2l, 1) := dk_133 (dk_at dksX0_whoDid_4 21 rfl rfl)
theorem dX0_whoDid_115 : decode cX0_whoDid 115 = .ok (.lmul, 1) := dk_105 (dk_at dksX0_whoDid_4 22 rfl rfl)
theorem dX0_whoDid_116 : decode cX0_whoDid 116 = .ok (.lstore 6, 2) := dk_55 6 (dk_at dksX0_whoDid_5 0 rfl rfl)
theorem dX0_whoDid_118 : decode cX0_whoDid 118 = .ok (.iload 10, 2) := dk_21 10 (dk_at dksX0_whoDid_5 2 rfl rfl)
theorem dX0_whoDid_120 : decode cX0_whoDid 120 = .ok (.ifCond .ne 12, 3) := dk_154 0 12 (dk_at dksX0_whoDid_5 4 rfl rfl)
theorem dX0_whoDid_123 : decode cX0_whoDid 123 = .ok (.iload 8, 2) := dk_21 8 (dk_at dksX0_whoDid_5 7 rfl rfl)
theorem dX0_whoDid_125 : decode cX0_whoDid 125 = .ok (.ifCond .ge 7, 3) := dk_156 0 7 (dk_at dksX0_whoDid_5 9 rfl rfl)
theorem dX0_whoDid_128 : decode cX0_whoDid 128 = .ok (.iload 9, 2) := dk_21 9 (dk_at dksX0_whoDid_5 12 rfl rfl)
theorem dX0_whoDid_130 : decode cX0_whoDid 130 = .ok (.istore 8, 2) := dk_54 8 (dk_at dksX0_whoDid_5 14 rfl rfl)
theorem dX0_whoDid_132 : decode cX0_whoDid 132 = .ok (.iinc 9 1, 3) := dk_132 9 1 (dk_at dksX0_whoDid_5 16 rfl rfl)
theorem dX0_whoDid_135 : decode cX0_whoDid 135 = .ok (.goto (-44), 3) := dk_167 255 212 (dk_at dksX0_whoDid_5 19 rfl rfl)
theorem dX0_whoDid_138 : decode cX0_whoDid 138 = .ok (.iload 5, 2) := dk_21 5 (dk_at dksX0_whoDid_5 22 rfl rfl)
theorem dX0_whoDid_140 : decode cX0_whoDid 140 = .ok (.iconst 2, 1) := dk_5 (dk_at dksX0_whoDid_6 0 rfl rfl)
theorem dX0_whoDid_141 : decode cX0_whoDid 141 = .ok (.if_icmp .ge 17, 3) := dk_162 0 17 (dk_at dksX0_whoDid_6 1 rfl rfl)
theorem dX0_whoDid_144 : decode cX0_whoDid 144 = .ok (.iload 5, 2) := dk_21 5 (dk_at dksX0_whoDid_6 4 rfl rfl)
theorem dX0_whoDid_146 : decode cX0_whoDid 146 = .ok (.ifCond .ne 8, 3) := dk_154 0 8 (dk_at dksX0_whoDid_6 6 rfl rfl)
theorem dX0_whoDid_149 : decode cX0_whoDid 149 = .ok (.lload 6, 2) := dk_22 6 (dk_at dksX0_whoDid_6 9 rfl rfl)
theorem dX0_whoDid_151 : decode cX0_whoDid 151 = .ok (.goto 6, 3) := dk_167 0 6 (dk_at dksX0_whoDid_6 11 rfl rfl)
theorem dX0_whoDid_154 : decode cX0_whoDid 154 = .ok (.iload 8, 2) := dk_21 8 (dk_at dksX0_whoDid_6 14 rfl rfl)
theorem dX0_whoDid_156 : decode cX0_whoDid 156 = .ok (.i2l, 1) := dk_133 (dk_at dksX0_whoDid_6 16 rfl rfl)
theorem dX0_whoDid_157 : decode cX0_whoDid 157 = .ok (.lreturn, 1) := dk_173 (dk_at dksX0_whoDid_6 17 rfl rfl)
theorem dX0_whoDid_158 : decode cX0_whoDid 158 = .ok (.iconst 0, 1) := dk_3 (dk_at dksX0_whoDid_6 18 rfl rfl)
theorem dX0_whoDid_159 : decode cX0_whoDid 159 = .ok (.istore 9, 2) := dk_54 9 (dk_at dksX0_whoDid_6 19 rfl rfl)
theorem dX0_whoDid_161 : decode cX0_whoDid 161 = .ok (.iconst 0, 1) := dk_3 (dk_at dksX0_whoDid_6 21 rfl rfl)
theorem dX0_whoDid_162 : decode cX0_whoDid 162 = .ok (.istore 10, 2) := dk_54 10 (dk_at dksX0_whoDid_6 22 rfl rfl)
theorem dX0_whoDid_164 : decode cX0_whoDid 164 = .ok (.iload 10, 2) := dk_21 10 (dk_at dksX0_whoDid_7 0 rfl rfl)
theorem dX0_whoDid_166 : decode cX0_whoDid 166 = .ok (.bipush 8, 2) := dk_16 8 (dk_at dksX0_whoDid_7 2 rfl rfl)
theorem dX0_whoDid_168 : decode cX0_whoDid 168 = .ok (.if_icmp .ge 88, 3) := dk_162 0 88 (dk_at dksX0_whoDid_7 4 rfl rfl)
theorem dX0_whoDid_171 : decode cX0_whoDid 171 = .ok (.lload 6, 2) := dk_22 6 (dk_at dksX0_whoDid_7 7 rfl rfl)
theorem dX0_whoDid_173 : decode cX0_whoDid 173 = .ok (.lconst 0, 1) := dk_9 (dk_at dksX0_whoDid_7 9 rfl rfl)
theorem dX0_whoDid_174 : decode cX0_whoDid 174 = .ok (.lcmp, 1) := dk_148 (dk_at dksX0_whoDid_7 10 rfl rfl)
theorem dX0_whoDid_175 : decode cX0_whoDid 175 = .ok (.ifCond .le 81, 3) := dk_158 0 81 (dk_at dksX0_whoDid_7 11 rfl rfl)
theorem dX0_whoDid_178 : decode cX0_whoDid 178 = .ok (.iconst 0, 1) := dk_3 (dk_at dksX0_whoDid_7 14 rfl rfl)
theorem dX0_whoDid_179 : decode cX0_whoDid 179 = .ok (.istore 11, 2) := dk_54 11 (dk_at dksX0_whoDid_7 15 rfl rfl)
theorem dX0_whoDid_181 : decode cX0_whoDid 181 = .ok (.iconst 0, 1) := dk_3 (dk_at dksX0_whoDid_7 17 rfl rfl)
theorem dX0_whoDid_182 : decode cX0_whoDid 182 = .ok (.istore 12, 2) := dk_54 12 (dk_at dksX0_whoDid_7 18 rfl rfl)
theorem dX0_whoDid_184 : decode cX0_whoDid 184 = .ok (.iload 12, 2) := dk_21 12 (dk_at dksX0_whoDid_7 20 rfl rfl)
theorem dX0_whoDid_186 : decode cX0_whoDid 186 = .ok (.iload_n 1, 1) := dk_27 (dk_at dksX0_whoDid_7 22 rfl rfl)
theorem dX0_whoDid_187 : decode cX0_whoDid 187 = .ok (.if_icmp .ge 45, 3) := dk_162 0 45 (dk_at dksX0_whoDid_8 0 rfl rfl)
theorem dX0_whoDid_190 : decode cX0_whoDid 190 = .ok (.iload 11, 2) := dk_21 11 (dk_at dksX0_whoDid_8 3 rfl rfl)
theorem dX0_whoDid_192 : decode cX0_whoDid 192 = .ok (.ifCond .ne 27, 3) := dk_154 0 27 (dk_at dksX0_whoDid_8 5 rfl rfl)
theorem dX0_whoDid_195 : decode cX0_whoDid 195 = .ok (.iload_n 2, 1) := dk_28 (dk_at dksX0_whoDid_8 8 rfl rfl)
theorem dX0_whoDid_196 : decode cX0_whoDid 196 = .ok (.iload 10, 2) := dk_21 10 (dk_at dksX0_whoDid_8 9 rfl rfl)
theorem dX0_whoDid_198 : decode cX0_whoDid 198 = .ok (.invokestatic 387, 3) := dk_184 1 131 (dk_at dksX0_whoDid_8 11 rfl rfl)
theorem dX0_whoDid_201 : decode cX0_whoDid 201 = .ok (.ifCond .eq 22, 3) := dk_153 0 22 (dk_at dksX0_whoDid_8 14 rfl rfl)
theorem dX0_whoDid_204 : decode cX0_whoDid 204 = .ok (.aload_n 0, 1) := dk_42 (dk_at dksX0_whoDid_8 17 rfl rfl)
theorem dX0_whoDid_205 : decode cX0_whoDid 205 = .ok (.iload 12, 2) := dk_21 12 (dk_at dksX0_whoDid_8 18 rfl rfl)
theorem dX0_whoDid_207 : decode cX0_whoDid 207 = .ok (.iload_n 2, 1) := dk_28 (dk_at dksX0_whoDid_8 20 rfl rfl)
theorem dX0_whoDid_208 : decode cX0_whoDid 208 = .ok (.iload 10, 2) := dk_21 10 (dk_at dksX0_whoDid_8 21 rfl rfl)
theorem dX0_whoDid_210 : decode cX0_whoDid 210 = .ok (.iload_n 3, 1) := dk_29 (dk_at dksX0_whoDid_8 23 rfl rfl)
theorem dX0_whoDid_211 : decode cX0_whoDid 211 = .ok (.iload 4, 2) := dk_21 4 (dk_at dksX0_whoDid_9 0 rfl rfl)
theorem dX0_whoDid_213 : decode cX0_whoDid 213 = .ok (.invokevirtual 403, 3) := dk_182 1 147 (dk_at dksX0_whoDid_9 2 rfl rfl)
theorem dX0_whoDid_216 : decode cX0_whoDid 216 = .ok (.ifCond .ne 7, 3) := dk_154 0 7 (dk_at dksX0_whoDid_9 5 rfl rfl)
theorem dX0_whoDid_219 : decode cX0_whoDid 219 = .ok (.iconst 1, 1) := dk_4 (dk_at dksX0_whoDid_9 8 rfl rfl)
theorem dX0_whoDid_220 : decode cX0_whoDid 220 = .ok (.goto 4, 3) := dk_167 0 4 (dk_at dksX0_whoDid_9 9 rfl rfl)
theorem dX0_whoDid_223 : decode cX0_whoDid 223 = .ok (.iconst 0, 1) := dk_3 (dk_at dksX0_whoDid_9 12 rfl rfl)
theorem dX0_whoDid_224 : decode cX0_whoDid 224 = .ok (.istore 11, 2) := dk_54 11 (dk_at dksX0_whoDid_9 13 rfl rfl)
theorem dX0_whoDid_226 : decode cX0_whoDid 226 = .ok (.iinc 12 1, 3) := dk_132 12 1 (dk_at dksX0_whoDid_9 15 rfl rfl)
theorem dX0_whoDid_229 : decode cX0_whoDid 229 = .ok (.goto (-45), 3) := dk_167 255 211 (dk_at dksX0_whoDid_9 18 rfl rfl)
theorem dX0_whoDid_232 : decode cX0_whoDid 232 = .ok (.iload 9, 2) := dk_21 9 (dk_at dksX0_whoDid_9 21 rfl rfl)
theorem dX0_whoDid_234 : decode cX0_whoDid 234 = .ok (.iload 11, 2) := dk_21 11 (dk_at dksX0_whoDid_10 0 rfl rfl)
theorem dX0_whoDid_236 : decode cX0_whoDid 236 = .ok (.ifCond .eq 10, 3) := dk_153 0 10 (dk_at dksX0_whoDid_10 2 rfl rfl)
theorem dX0_whoDid_239 : decode cX0_whoDid 239 = .ok (.iconst 1, 1) := dk_4 (dk_at dksX0_whoDid_10 5 rfl rfl)
theorem dX0_whoDid_240 : decode cX0_whoDid 240 = .ok (.iload 10, 2) := dk_21 10 (dk_at dksX0_whoDid_10 6 rfl rfl)
theorem dX0_whoDid_242 : decode cX0_whoDid 242 = .ok (.ishl, 1) := dk_120 (dk_at dksX0_whoDid_10 8 rfl rfl)
theorem dX0_whoDid_243 : decode cX0_whoDid 243 = .ok (.goto 4, 3) := dk_167 0 4 (dk_at dksX0_whoDid_10 9 rfl rfl)
theorem dX0_whoDid_246 : decode cX0_whoDid 246 = .ok (.iconst 0, 1) := dk_3 (dk_at dksX0_whoDid_10 12 rfl rfl)
theorem dX0_whoDid_247 : decode cX0_whoDid 247 = .ok (.ior, 1) := dk_128 (dk_at dksX0_whoDid_10 13 rfl rfl)
theorem dX0_whoDid_248 : decode cX0_whoDid 248 = .ok (.istore 9, 2) := dk_54 9 (dk_at dksX0_whoDid_10 14 rfl rfl)
theorem dX0_whoDid_250 : decode cX0_whoDid 250 = .ok (.iinc 10 1, 3) := dk_132 10 1 (dk_at dksX0_whoDid_10 16 rfl rfl)
theorem dX0_whoDid_253 : decode cX0_whoDid 253 = .ok (.goto (-89), 3) := dk_167 255 167 (dk_at dksX0_whoDid_10 19 rfl rfl)
theorem dX0_whoDid_256 : decode cX0_whoDid 256 = .ok (.iload 9, 2) := dk_21 9 (dk_at dksX0_whoDid_10 22 rfl rfl)
theorem dX0_whoDid_258 : decode cX0_whoDid 258 = .ok (.i2l, 1) := dk_133 (dk_at dksX0_whoDid_11 0 rfl rfl)
theorem dX0_whoDid_259 : decode cX0_whoDid 259 = .ok (.lreturn, 1) := dk_173 (dk_at dksX0_whoDid_11 1 rfl rfl)
abbrev cX0_setsFor : ByteArray := prog_1_method_58_code
def yX0_setsFor : MethodName := ⟨RX0, "setsFor", "(IIIII)I"⟩
def dkwX0_setsFor_2 : List UInt8 := [153, 0, 6, 132, 6, 1, 132, 7, 1, 167, 255, 207, 21, 6, 172]
abbrev dktX0_setsFor_2 : List UInt8 := dkwX0_setsFor_2 ++ []
def dkwX0_setsFor_1 : List UInt8 := [159, 0, 12, 21, 7, 29, 184, 1, 131, 154, 0, 20, 42, 27, 21, 7, 21, 4, 21, 5, 182, 1, 143]
abbrev dktX0_setsFor_1 : List UInt8 := dkwX0_setsFor_1 ++ dktX0_setsFor_2
def dkwX0_setsFor_0 : List UInt8 := [3, 54, 6, 3, 54, 7, 21, 7, 28, 163, 0, 49, 21, 7, 28, 2, 130, 126, 154, 0, 34, 29, 2]
abbrev dktX0_setsFor_0 : List UInt8 := dkwX0_setsFor_0 ++ dktX0_setsFor_1
theorem dksX0_setsFor_0 : cX0_setsFor.data.toList.drop 0 = dktX0_setsFor_0 := by decide +kernel
theorem dksX0_setsFor_1 : cX0_setsFor.data.toList.drop 23 = dktX0_setsFor_1 := dk_seg dksX0_setsFor_0 23 rfl rfl
theorem dksX0_setsFor_2 : cX0_setsFor.data.toList.drop 46 = dktX0_setsFor_2 := dk_seg dksX0_setsFor_1 23 rfl rfl
theorem dX0_setsFor_0 : decode cX0_setsFor 0 = .ok (.iconst 0, 1) := dk_3 (dk_at dksX0_setsFor_0 0 rfl rfl)
theorem dX0_setsFor_1 : decode cX0_setsFor 1 = .ok (.istore 6, 2) := dk_54 6 (dk_at dksX0_setsFor_0 1 rfl rfl)
theorem dX0_setsFor_3 : decode cX0_setsFor 3 = .ok (.iconst 0, 1) := dk_3 (dk_at dksX0_setsFor_0 3 rfl rfl)
theorem dX0_setsFor_4 : decode cX0_setsFor 4 = .ok (.istore 7, 2) := dk_54 7 (dk_at dksX0_setsFor_0 4 rfl rfl)
theorem dX0_setsFor_6 : decode cX0_setsFor 6 = .ok (.iload 7, 2) := dk_21 7 (dk_at dksX0_setsFor_0 6 rfl rfl)
theorem dX0_setsFor_8 : decode cX0_setsFor 8 = .ok (.iload_n 2, 1) := dk_28 (dk_at dksX0_setsFor_0 8 rfl rfl)
theorem dX0_setsFor_9 : decode cX0_setsFor 9 = .ok (.if_icmp .gt 49, 3) := dk_163 0 49 (dk_at dksX0_setsFor_0 9 rfl rfl)
theorem dX0_setsFor_12 : decode cX0_setsFor 12 = .ok (.iload 7, 2) := dk_21 7 (dk_at dksX0_setsFor_0 12 rfl rfl)
theorem dX0_setsFor_14 : decode cX0_setsFor 14 = .ok (.iload_n 2, 1) := dk_28 (dk_at dksX0_setsFor_0 14 rfl rfl)
theorem dX0_setsFor_15 : decode cX0_setsFor 15 = .ok (.iconst (-1), 1) := dk_2 (dk_at dksX0_setsFor_0 15 rfl rfl)
theorem dX0_setsFor_16 : decode cX0_setsFor 16 = .ok (.ixor, 1) := dk_130 (dk_at dksX0_setsFor_0 16 rfl rfl)
theorem dX0_setsFor_17 : decode cX0_setsFor 17 = .ok (.iand, 1) := dk_126 (dk_at dksX0_setsFor_0 17 rfl rfl)
theorem dX0_setsFor_18 : decode cX0_setsFor 18 = .ok (.ifCond .ne 34, 3) := dk_154 0 34 (dk_at dksX0_setsFor_0 18 rfl rfl)
theorem dX0_setsFor_21 : decode cX0_setsFor 21 = .ok (.iload_n 3, 1) := dk_29 (dk_at dksX0_setsFor_0 21 rfl rfl)
theorem dX0_setsFor_22 : decode cX0_setsFor 22 = .ok (.iconst (-1), 1) := dk_2 (dk_at dksX0_setsFor_0 22 rfl rfl)
theorem dX0_setsFor_23 : decode cX0_setsFor 23 = .ok (.if_icmp .eq 12, 3) := dk_159 0 12 (dk_at dksX0_setsFor_1 0 rfl rfl)
theorem dX0_setsFor_26 : decode cX0_setsFor 26 = .ok (.iload 7, 2) := dk_21 7 (dk_at dksX0_setsFor_1 3 rfl rfl)
theorem dX0_setsFor_28 : decode cX0_setsFor 28 = .ok (.iload_n 3, 1) := dk_29 (dk_at dksX0_setsFor_1 5 rfl rfl)
theorem dX0_setsFor_29 : decode cX0_setsFor 29 = .ok (.invokestatic 387, 3) := dk_184 1 131 (dk_at dksX0_setsFor_1 6 rfl rfl)
theorem dX0_setsFor_32 : decode cX0_setsFor 32 = .ok (.ifCond .ne 20, 3) := dk_154 0 20 (dk_at dksX0_setsFor_1 9 rfl rfl)
theorem dX0_setsFor_35 : decode cX0_setsFor 35 = .ok (.aload_n 0, 1) := dk_42 (dk_at dksX0_setsFor_1 12 rfl rfl)
theorem dX0_setsFor_36 : decode cX0_setsFor 36 = .ok (.iload_n 1, 1) := dk_27 (dk_at dksX0_setsFor_1 13 rfl rfl)
theorem dX0_setsFor_37 : decode cX0_setsFor 37 = .ok (.iload 7, 2) := dk_21 7 (dk_at dksX0_setsFor_1 14 rfl rfl)
theorem dX0_setsFor_39 : decode cX0_setsFor 39 = .ok (.iload 4, 2) := dk_21 4 (dk_at dksX0_setsFor_1 16 rfl rfl)
theorem dX0_setsFor_41 : decode cX0_setsFor 41 = .ok (.iload 5, 2) := dk_21 5 (dk_at dksX0_setsFor_1 18 rfl rfl)
theorem dX0_setsFor_43 : decode cX0_setsFor 43 = .ok (.invokevirtual 399, 3) := dk_182 1 143 (dk_at dksX0_setsFor_1 20 rfl rfl)
theorem dX0_setsFor_46 : decode cX0_setsFor 46 = .ok (.ifCond .eq 6, 3) := dk_153 0 6 (dk_at dksX0_setsFor_2 0 rfl rfl)
theorem dX0_setsFor_49 : decode cX0_setsFor 49 = .ok (.iinc 6 1, 3) := dk_132 6 1 (dk_at dksX0_setsFor_2 3 rfl rfl)
theorem dX0_setsFor_52 : decode cX0_setsFor 52 = .ok (.iinc 7 1, 3) := dk_132 7 1 (dk_at dksX0_setsFor_2 6 rfl rfl)
theorem dX0_setsFor_55 : decode cX0_setsFor 55 = .ok (.goto (-49), 3) := dk_167 255 207 (dk_at dksX0_setsFor_2 9 rfl rfl)
theorem dX0_setsFor_58 : decode cX0_setsFor 58 = .ok (.iload 6, 2) := dk_21 6 (dk_at dksX0_setsFor_2 12 rfl rfl)
theorem dX0_setsFor_60 : decode cX0_setsFor 60 = .ok (.ireturn, 1) := dk_172 (dk_at dksX0_setsFor_2 14 rfl rfl)
abbrev cX0_fits : ByteArray := prog_1_method_57_code
def yX0_fits : MethodName := ⟨RX0, "fits", "(IIII)Z"⟩
def dkwX0_fits_1 : List UInt8 := [42, 180, 0, 40, 27, 4, 96, 51, 17, 0, 255, 126, 160, 0, 7, 4, 167, 0, 4, 3, 172]
abbrev dktX0_fits_1 : List UInt8 := dkwX0_fits_1 ++ []
def dkwX0_fits_0 : List UInt8 := [3, 42, 180, 0, 40, 27, 51, 17, 0, 255, 126, 29, 28, 184, 0, 212, 104, 96, 21, 4, 100, 184, 0, 9]
abbrev dktX0_fits_0 : List UInt8 := dkwX0_fits_0 ++ dktX0_fits_1
theorem dksX0_fits_0 : cX0_fits.data.toList.drop 0 = dktX0_fits_0 := by decide +kernel
theorem dksX0_fits_1 : cX0_fits.data.toList.drop 24 = dktX0_fits_1 := dk_seg dksX0_fits_0 24 rfl rfl
theorem dX0_fits_0 : decode cX0_fits 0 = .ok (.iconst 0, 1) := dk_3 (dk_at dksX0_fits_0 0 rfl rfl)
theorem dX0_fits_1 : decode cX0_fits 1 = .ok (.aload_n 0, 1) := dk_42 (dk_at dksX0_fits_0 1 rfl rfl)
theorem dX0_fits_2 : decode cX0_fits 2 = .ok (.getfield 40, 3) := dk_180 0 40 (dk_at dksX0_fits_0 2 rfl rfl)
theorem dX0_fits_5 : decode cX0_fits 5 = .ok (.iload_n 1, 1) := dk_27 (dk_at dksX0_fits_0 5 rfl rfl)
theorem dX0_fits_6 : decode cX0_fits 6 = .ok (.baload, 1) := dk_51 (dk_at dksX0_fits_0 6 rfl rfl)
theorem dX0_fits_7 : decode cX0_fits 7 = .ok (.sipush 255, 3) := dk_17 0 255 (dk_at dksX0_fits_0 7 rfl rfl)
theorem dX0_fits_10 : decode cX0_fits 10 = .ok (.iand, 1) := dk_126 (dk_at dksX0_fits_0 10 rfl rfl)
theorem dX0_fits_11 : decode cX0_fits 11 = .ok (.iload_n 3, 1) := dk_29 (dk_at dksX0_fits_0 11 rfl rfl)
theorem dX0_fits_12 : decode cX0_fits 12 = .ok (.iload_n 2, 1) := dk_28 (dk_at dksX0_fits_0 12 rfl rfl)
theorem dX0_fits_13 : decode cX0_fits 13 = .ok (.invokestatic 212, 3) := dk_184 0 212 (dk_at dksX0_fits_0 13 rfl rfl)
theorem dX0_fits_16 : decode cX0_fits 16 = .ok (.imul, 1) := dk_104 (dk_at dksX0_fits_0 16 rfl rfl)
theorem dX0_fits_17 : decode cX0_fits 17 = .ok (.iadd, 1) := dk_96 (dk_at dksX0_fits_0 17 rfl rfl)
theorem dX0_fits_18 : decode cX0_fits 18 = .ok (.iload 4, 2) := dk_21 4 (dk_at dksX0_fits_0 18 rfl rfl)
theorem dX0_fits_20 : decode cX0_fits 20 = .ok (.isub, 1) := dk_100 (dk_at dksX0_fits_0 20 rfl rfl)
theorem dX0_fits_21 : decode cX0_fits 21 = .ok (.invokestatic 9, 3) := dk_184 0 9 (dk_at dksX0_fits_0 21 rfl rfl)
theorem dX0_fits_24 : decode cX0_fits 24 = .ok (.aload_n 0, 1) := dk_42 (dk_at dksX0_fits_1 0 rfl rfl)
theorem dX0_fits_25 : decode cX0_fits 25 = .ok (.getfield 40, 3) := dk_180 0 40 (dk_at dksX0_fits_1 1 rfl rfl)
theorem dX0_fits_28 : decode cX0_fits 28 = .ok (.iload_n 1, 1) := dk_27 (dk_at dksX0_fits_1 4 rfl rfl)
theorem dX0_fits_29 : decode cX0_fits 29 = .ok (.iconst 1, 1) := dk_4 (dk_at dksX0_fits_1 5 rfl rfl)
theorem dX0_fits_30 : decode cX0_fits 30 = .ok (.iadd, 1) := dk_96 (dk_at dksX0_fits_1 6 rfl rfl)
theorem dX0_fits_31 : decode cX0_fits 31 = .ok (.baload, 1) := dk_51 (dk_at dksX0_fits_1 7 rfl rfl)
theorem dX0_fits_32 : decode cX0_fits 32 = .ok (.sipush 255, 3) := dk_17 0 255 (dk_at dksX0_fits_1 8 rfl rfl)
theorem dX0_fits_35 : decode cX0_fits 35 = .ok (.iand, 1) := dk_126 (dk_at dksX0_fits_1 11 rfl rfl)
theorem dX0_fits_36 : decode cX0_fits 36 = .ok (.if_icmp .ne 7, 3) := dk_160 0 7 (dk_at dksX0_fits_1 12 rfl rfl)
theorem dX0_fits_39 : decode cX0_fits 39 = .ok (.iconst 1, 1) := dk_4 (dk_at dksX0_fits_1 15 rfl rfl)
theorem dX0_fits_40 : decode cX0_fits 40 = .ok (.goto 4, 3) := dk_167 0 4 (dk_at dksX0_fits_1 16 rfl rfl)
theorem dX0_fits_43 : decode cX0_fits 43 = .ok (.iconst 0, 1) := dk_3 (dk_at dksX0_fits_1 19 rfl rfl)
theorem dX0_fits_44 : decode cX0_fits 44 = .ok (.ireturn, 1) := dk_172 (dk_at dksX0_fits_1 20 rfl rfl)
abbrev cX0_can : ByteArray := prog_1_method_60_code
def yX0_can : MethodName := ⟨RX0, "can", "(IIII)J"⟩
def dkwX0_can_10 : List UInt8 := [109, 167, 0, 8, 22, 7, 22, 9, 109, 173]
abbrev dktX0_can_10 : List UInt8 := dkwX0_can_10 ++ []
def dkwX0_can_9 : List UInt8 := [27, 184, 1, 50, 55, 7, 22, 5, 22, 7, 184, 1, 106, 55, 9, 21, 4, 154, 0, 11, 22, 5, 22, 9]
abbrev dktX0_can_9 : List UInt8 := dkwX0_can_9 ++ dktX0_can_10
def dkwX0_can_8 : List UInt8 := [54, 11, 22, 5, 22, 8, 21, 10, 21, 11, 100, 133, 105, 97, 55, 5, 132, 7, 1, 167, 255, 143, 16, 10]
abbrev dktX0_can_8 : List UInt8 := dkwX0_can_8 ++ dktX0_can_9
def dkwX0_can_7 : List UInt8 := [104, 29, 100, 184, 0, 9, 54, 10, 21, 7, 154, 0, 7, 3, 167, 0, 10, 3, 28, 29, 100, 184, 0, 9]
abbrev dktX0_can_7 : List UInt8 := dkwX0_can_7 ++ dktX0_can_8
def dkwX0_can_6 : List UInt8 := [180, 0, 40, 21, 10, 51, 100, 133, 105, 55, 8, 132, 10, 1, 167, 255, 210, 3, 28, 21, 7, 184, 0, 212]
abbrev dktX0_can_6 : List UInt8 := dkwX0_can_6 ++ dktX0_can_7
def dkwX0_can_5 : List UInt8 := [21, 7, 21, 10, 184, 1, 131, 153, 0, 14, 42, 180, 0, 40, 21, 10, 51, 133, 167, 0, 14, 16, 10, 42]
abbrev dktX0_can_5 : List UInt8 := dkwX0_can_5 ++ dktX0_can_6
def dkwX0_can_4 : List UInt8 := [54, 7, 21, 7, 4, 27, 120, 162, 0, 111, 10, 55, 8, 3, 54, 10, 21, 10, 27, 162, 0, 46, 22, 8]
abbrev dktX0_can_4 : List UInt8 := dkwX0_can_4 ++ dktX0_can_5
def dkwX0_can_3 : List UInt8 := [51, 3, 16, 10, 184, 0, 120, 154, 0, 7, 20, 1, 104, 173, 132, 5, 1, 167, 255, 227, 9, 55, 5, 3]
abbrev dktX0_can_3 : List UInt8 := dkwX0_can_3 ++ dktX0_can_4
def dkwX0_can_2 : List UInt8 := [20, 1, 63, 173, 42, 3, 181, 0, 171, 3, 54, 5, 21, 5, 27, 162, 0, 29, 42, 180, 0, 40, 21, 5]
abbrev dktX0_can_2 : List UInt8 := dkwX0_can_2 ++ dktX0_can_3
def dkwX0_can_1 : List UInt8 := [184, 0, 120, 153, 0, 20, 21, 4, 5, 184, 0, 99, 153, 0, 11, 27, 42, 180, 0, 171, 164, 0, 7]
abbrev dktX0_can_1 : List UInt8 := dkwX0_can_1 ++ dktX0_can_2
def dkwX0_can_0 : List UInt8 := [27, 4, 16, 6, 184, 0, 120, 153, 0, 40, 28, 4, 16, 9, 184, 0, 120, 153, 0, 30, 29, 3, 16, 60]
abbrev dktX0_can_0 : List UInt8 := dkwX0_can_0 ++ dktX0_can_1
theorem dksX0_can_0 : cX0_can.data.toList.drop 0 = dktX0_can_0 := by decide +kernel
theorem dksX0_can_1 : cX0_can.data.toList.drop 24 = dktX0_can_1 := dk_seg dksX0_can_0 24 rfl rfl
theorem dksX0_can_2 : cX0_can.data.toList.drop 47 = dktX0_can_2 := dk_seg dksX0_can_1 23 rfl rfl
theorem dksX0_can_3 : cX0_can.data.toList.drop 71 = dktX0_can_3 := dk_seg dksX0_can_2 24 rfl rfl
theorem dksX0_can_4 : cX0_can.data.toList.drop 95 = dktX0_can_4 := dk_seg dksX0_can_3 24 rfl rfl
theorem dksX0_can_5 : cX0_can.data.toList.drop 119 = dktX0_can_5 := dk_seg dksX0_can_4 24 rfl rfl
theorem dksX0_can_6 : cX0_can.data.toList.drop 143 = dktX0_can_6 := dk_seg dksX0_can_5 24 rfl rfl
theorem dksX0_can_7 : cX0_can.data.toList.drop 167 = dktX0_can_7 := dk_seg dksX0_can_6 24 rfl rfl
theorem dksX0_can_8 : cX0_can.data.toList.drop 191 = dktX0_can_8 := dk_seg dksX0_can_7 24 rfl rfl
theorem dksX0_can_9 : cX0_can.data.toList.drop 215 = dktX0_can_9 := dk_seg dksX0_can_8 24 rfl rfl
theorem dksX0_can_10 : cX0_can.data.toList.drop 239 = dktX0_can_10 := dk_seg dksX0_can_9 24 rfl rfl
theorem dX0_can_0 : decode cX0_can 0 = .ok (.iload_n 1, 1) := dk_27 (dk_at dksX0_can_0 0 rfl rfl)
theorem dX0_can_1 : decode cX0_can 1 = .ok (.iconst 1, 1) := dk_4 (dk_at dksX0_can_0 1 rfl rfl)
theorem dX0_can_2 : decode cX0_can 2 = .ok (.bipush 6, 2) := dk_16 6 (dk_at dksX0_can_0 2 rfl rfl)
theorem dX0_can_4 : decode cX0_can 4 = .ok (.invokestatic 120, 3) := dk_184 0 120 (dk_at dksX0_can_0 4 rfl rfl)
theorem dX0_can_7 : decode cX0_can 7 = .ok (.ifCond .eq 40, 3) := dk_153 0 40 (dk_at dksX0_can_0 7 rfl rfl)
theorem dX0_can_10 : decode cX0_can 10 = .ok (.iload_n 2, 1) := dk_28 (dk_at dksX0_can_0 10 rfl rfl)
theorem dX0_can_11 : decode cX0_can 11 = .ok (.iconst 1, 1) := dk_4 (dk_at dksX0_can_0 11 rfl rfl)
theorem dX0_can_12 : decode cX0_can 12 = .ok (.bipush 9, 2) := dk_16 9 (dk_at dksX0_can_0 12 rfl rfl)
theorem dX0_can_14 : decode cX0_can 14 = .ok (.invokestatic 120, 3) := dk_184 0 120 (dk_at dksX0_can_0 14 rfl rfl)
theorem dX0_can_17 : decode cX0_can 17 = .ok (.ifCond .eq 30, 3) := dk_153 0 30 (dk_at dksX0_can_0 17 rfl rfl)
theorem dX0_can_20 : decode cX0_can 20 = .ok (.iload_n 3, 1) := dk_29 (dk_at dksX0_can_0 20 rfl rfl)
theorem dX0_can_21 : decode cX0_can 21 = .ok (.iconst 0, 1) := dk_3 (dk_at dksX0_can_0 21 rfl rfl)
theorem dX0_can_22 : decode cX0_can 22 = .ok (.bipush 60, 2) := dk_16 60 (dk_at dksX0_can_0 22 rfl rfl)
theorem dX0_can_24 : decode cX0_can 24 = .ok (.invokestatic 120, 3) := dk_184 0 120 (dk_at dksX0_can_1 0 rfl rfl)
theorem dX0_can_27 : decode cX0_can 27 = .ok (.ifCond .eq 20, 3) := dk_153 0 20 (dk_at dksX0_can_1 3 rfl rfl)
theorem dX0_can_30 : decode cX0_can 30 = .ok (.iload 4, 2) := dk_21 4 (dk_at dksX0_can_1 6 rfl rfl)
theorem dX0_can_32 : decode cX0_can 32 = .ok (.iconst 2, 1) := dk_5 (dk_at dksX0_can_1 8 rfl rfl)
theorem dX0_can_33 : decode cX0_can 33 = .ok (.invokestatic 99, 3) := dk_184 0 99 (dk_at dksX0_can_1 9 rfl rfl)
theorem dX0_can_36 : decode cX0_can 36 = .ok (.ifCond .eq 11, 3) := dk_153 0 11 (dk_at dksX0_can_1 12 rfl rfl)
theorem dX0_can_39 : decode cX0_can 39 = .ok (.iload_n 1, 1) := dk_27 (dk_at dksX0_can_1 15 rfl rfl)
theorem dX0_can_40 : decode cX0_can 40 = .ok (.aload_n 0, 1) := dk_42 (dk_at dksX0_can_1 16 rfl rfl)
theorem dX0_can_41 : decode cX0_can 41 = .ok (.getfield 171, 3) := dk_180 0 171 (dk_at dksX0_can_1 17 rfl rfl)
theorem dX0_can_44 : decode cX0_can 44 = .ok (.if_icmp .le 7, 3) := dk_164 0 7 (dk_at dksX0_can_1 20 rfl rfl)
theorem dX0_can_47 : decode cX0_can 47 = .ok (.ldc2_w 319, 3) := dk_20 1 63 (dk_at dksX0_can_2 0 rfl rfl)
theorem dX0_can_50 : decode cX0_can 50 = .ok (.lreturn, 1) := dk_173 (dk_at dksX0_can_2 3 rfl rfl)
theorem dX0_can_51 : decode cX0_can 51 = .ok (.aload_n 0, 1) := dk_42 (dk_at dksX0_can_2 4 rfl rfl)
theorem dX0_can_52 : decode cX0_can 52 = .ok (.iconst 0, 1) := dk_3 (dk_at dksX0_can_2 5 rfl rfl)
theorem dX0_can_53 : decode cX0_can 53 = .ok (.putfield 171, 3) := dk_181 0 171 (dk_at dksX0_can_2 6 rfl rfl)
theorem dX0_can_56 : decode cX0_can 56 = .ok (.iconst 0, 1) := dk_3 (dk_at dksX0_can_2 9 rfl rfl)
theorem dX0_can_57 : decode cX0_can 57 = .ok (.istore 5, 2) := dk_54 5 (dk_at dksX0_can_2 10 rfl rfl)
theorem dX0_can_59 : decode cX0_can 59 = .ok (.iload 5, 2) := dk_21 5 (dk_at dksX0_can_2 12 rfl rfl)
theorem dX0_can_61 : decode cX0_can 61 = .ok (.iload_n 1, 1) := dk_27 (dk_at dksX0_can_2 14 rfl rfl)
theorem dX0_can_62 : decode cX0_can 62 = .ok (.if_icmp .ge 29, 3) := dk_162 0 29 (dk_at dksX0_can_2 15 rfl rfl)
theorem dX0_can_65 : decode cX0_can 65 = .ok (.aload_n 0, 1) := dk_42 (dk_at dksX0_can_2 18 rfl rfl)
theorem dX0_can_66 : decode cX0_can 66 = .ok (.getfield 40, 3) := dk_180 0 40 (dk_at dksX0_can_2 19 rfl rfl)
theorem dX0_can_69 : decode cX0_can 69 = .ok (.iload 5, 2) := dk_21 5 (dk_at dksX0_can_2 22 rfl rfl)
theorem dX0_can_71 : decode cX0_can 71 = .ok (.baload, 1) := dk_51 (dk_at dksX0_can_3 0 rfl rfl)
theorem dX0_can_72 : decode cX0_can 72 = .ok (.iconst 0, 1) := dk_3 (dk_at dksX0_can_3 1 rfl rfl)
theorem dX0_can_73 : decode cX0_can 73 = .ok (.bipush 10, 2) := dk_16 10 (dk_at dksX0_can_3 2 rfl rfl)
theorem dX0_can_75 : decode cX0_can 75 = .ok (.invokestatic 120, 3) := dk_184 0 120 (dk_at dksX0_can_3 4 rfl rfl)
theorem dX0_can_78 : decode cX0_can 78 = .ok (.ifCond .ne 7, 3) := dk_154 0 7 (dk_at dksX0_can_3 7 rfl rfl)
theorem dX0_can_81 : decode cX0_can 81 = .ok (.ldc2_w 360, 3) := dk_20 1 104 (dk_at dksX0_can_3 10 rfl rfl)
theorem dX0_can_84 : decode cX0_can 84 = .ok (.lreturn, 1) := dk_173 (dk_at dksX0_can_3 13 rfl rfl)
theorem dX0_can_85 : decode cX0_can 85 = .ok (.iinc 5 1, 3) := dk_132 5 1 (dk_at dksX0_can_3 14 rfl rfl)
theorem dX0_can_88 : decode cX0_can 88 = .ok (.goto (-29), 3) := dk_167 255 227 (dk_at dksX0_can_3 17 rfl rfl)
theorem dX0_can_91 : decode cX0_can 91 = .ok (.lconst 0, 1) := dk_9 (dk_at dksX0_can_3 20 rfl rfl)
theorem dX0_can_92 : decode cX0_can 92 = .ok (.lstore 5, 2) := dk_55 5 (dk_at dksX0_can_3 21 rfl rfl)
theorem dX0_can_94 : decode cX0_can 94 = .ok (.iconst 0, 1) := dk_3 (dk_at dksX0_can_3 23 rfl rfl)
theorem dX0_can_95 : decode cX0_can 95 = .ok (.istore 7, 2) := dk_54 7 (dk_at dksX0_can_4 0 rfl rfl)
theorem dX0_can_97 : decode cX0_can 97 = .ok (.iload 7, 2) := dk_21 7 (dk_at dksX0_can_4 2 rfl rfl)
theorem dX0_can_99 : decode cX0_can 99 = .ok (.iconst 1, 1) := dk_4 (dk_at dksX0_can_4 4 rfl rfl)
theorem dX0_can_100 : decode cX0_can 100 = .ok (.iload_n 1, 1) := dk_27 (dk_at dksX0_can_4 5 rfl rfl)
theorem dX0_can_101 : decode cX0_can 101 = .ok (.ishl, 1) := dk_120 (dk_at dksX0_can_4 6 rfl rfl)
theorem dX0_can_102 : decode cX0_can 102 = .ok (.if_icmp .ge 111, 3) := dk_162 0 111 (dk_at dksX0_can_4 7 rfl rfl)
theorem dX0_can_105 : decode cX0_can 105 = .ok (.lconst 1, 1) := dk_10 (dk_at dksX0_can_4 10 rfl rfl)
theorem dX0_can_106 : decode cX0_can 106 = .ok (.lstore 8, 2) := dk_55 8 (dk_at dksX0_can_4 11 rfl rfl)
theorem dX0_can_108 : decode cX0_can 108 = .ok (.iconst 0, 1) := dk_3 (dk_at dksX0_can_4 13 rfl rfl)
theorem dX0_can_109 : decode cX0_can 109 = .ok (.istore 10, 2) := dk_54 10 (dk_at dksX0_can_4 14 rfl rfl)
theorem dX0_can_111 : decode cX0_can 111 = .ok (.iload 10, 2) := dk_21 10 (dk_at dksX0_can_4 16 rfl rfl)
theorem dX0_can_113 : decode cX0_can 113 = .ok (.iload_n 1, 1) := dk_27 (dk_at dksX0_can_4 18 rfl rfl)
theorem dX0_can_114 : decode cX0_can 114 = .ok (.if_icmp .ge 46, 3) := dk_162 0 46 (dk_at dksX0_can_4 19 rfl rfl)
theorem dX0_can_117 : decode cX0_can 117 = .ok (.lload 8, 2) := dk_22 8 (dk_at dksX0_can_4 22 rfl rfl)
theorem dX0_can_119 : decode cX0_can 119 = .ok (.iload 7, 2) := dk_21 7 (dk_at dksX0_can_5 0 rfl rfl)
theorem dX0_can_121 : decode cX0_can 121 = .ok (.iload 10, 2) := dk_21 10 (dk_at dksX0_can_5 2 rfl rfl)
theorem dX0_can_123 : decode cX0_can 123 = .ok (.invokestatic 387, 3) := dk_184 1 131 (dk_at dksX0_can_5 4 rfl rfl)
theorem dX0_can_126 : decode cX0_can 126 = .ok (.ifCond .eq 14, 3) := dk_153 0 14 (dk_at dksX0_can_5 7 rfl rfl)
theorem dX0_can_129 : decode cX0_can 129 = .ok (.aload_n 0, 1) := dk_42 (dk_at dksX0_can_5 10 rfl rfl)
theorem dX0_can_130 : decode cX0_can 130 = .ok (.getfield 40, 3) := dk_180 0 40 (dk_at dksX0_can_5 11 rfl rfl)
theorem dX0_can_133 : decode cX0_can 133 = .ok (.iload 10, 2) := dk_21 10 (dk_at dksX0_can_5 14 rfl rfl)
theorem dX0_can_135 : decode cX0_can 135 = .ok (.baload, 1) := dk_51 (dk_at dksX0_can_5 16 rfl rfl)
theorem dX0_can_136 : decode cX0_can 136 = .ok (.i2l, 1) := dk_133 (dk_at dksX0_can_5 17 rfl rfl)
theorem dX0_can_137 : decode cX0_can 137 = .ok (.goto 14, 3) := dk_167 0 14 (dk_at dksX0_can_5 18 rfl rfl)
theorem dX0_can_140 : decode cX0_can 140 = .ok (.bipush 10, 2) := dk_16 10 (dk_at dksX0_can_5 21 rfl rfl)
theorem dX0_can_142 : decode cX0_can 142 = .ok (.aload_n 0, 1) := dk_42 (dk_at dksX0_can_5 23 rfl rfl)
theorem dX0_can_143 : decode cX0_can 143 = .ok (.getfield 40, 3) := dk_180 0 40 (dk_at dksX0_can_6 0 rfl rfl)
theorem dX0_can_146 : decode cX0_can 146 = .ok (.iload 10, 2) := dk_21 10 (dk_at dksX0_can_6 3 rfl rfl)
theorem dX0_can_148 : decode cX0_can 148 = .ok (.baload, 1) := dk_51 (dk_at dksX0_can_6 5 rfl rfl)
theorem dX0_can_149 : decode cX0_can 149 = .ok (.isub, 1) := dk_100 (dk_at dksX0_can_6 6 rfl rfl)
theorem dX0_can_150 : decode cX0_can 150 = .ok (.i2l, 1) := dk_133 (dk_at dksX0_can_6 7 rfl rfl)
theorem dX0_can_151 : decode cX0_can 151 = .ok (.lmul, 1) := dk_105 (dk_at dksX0_can_6 8 rfl rfl)
theorem dX0_can_152 : decode cX0_can 152 = .ok (.lstore 8, 2) := dk_55 8 (dk_at dksX0_can_6 9 rfl rfl)
theorem dX0_can_154 : decode cX0_can 154 = .ok (.iinc 10 1, 3) := dk_132 10 1 (dk_at dksX0_can_6 11 rfl rfl)
theorem dX0_can_157 : decode cX0_can 157 = .ok (.goto (-46), 3) := dk_167 255 210 (dk_at dksX0_can_6 14 rfl rfl)
theorem dX0_can_160 : decode cX0_can 160 = .ok (.iconst 0, 1) := dk_3 (dk_at dksX0_can_6 17 rfl rfl)
theorem dX0_can_161 : decode cX0_can 161 = .ok (.iload_n 2, 1) := dk_28 (dk_at dksX0_can_6 18 rfl rfl)
theorem dX0_can_162 : decode cX0_can 162 = .ok (.iload 7, 2) := dk_21 7 (dk_at dksX0_can_6 19 rfl rfl)
theorem dX0_can_164 : decode cX0_can 164 = .ok (.invokestatic 212, 3) := dk_184 0 212 (dk_at dksX0_can_6 21 rfl rfl)
theorem dX0_can_167 : decode cX0_can 167 = .ok (.imul, 1) := dk_104 (dk_at dksX0_can_7 0 rfl rfl)
theorem dX0_can_168 : decode cX0_can 168 = .ok (.iload_n 3, 1) := dk_29 (dk_at dksX0_can_7 1 rfl rfl)
theorem dX0_can_169 : decode cX0_can 169 = .ok (.isub, 1) := dk_100 (dk_at dksX0_can_7 2 rfl rfl)
theorem dX0_can_170 : decode cX0_can 170 = .ok (.invokestatic 9, 3) := dk_184 0 9 (dk_at dksX0_can_7 3 rfl rfl)
theorem dX0_can_173 : decode cX0_can 173 = .ok (.istore 10, 2) := dk_54 10 (dk_at dksX0_can_7 6 rfl rfl)
theorem dX0_can_175 : decode cX0_can 175 = .ok (.iload 7, 2) := dk_21 7 (dk_at dksX0_can_7 8 rfl rfl)
theorem dX0_can_177 : decode cX0_can 177 = .ok (.ifCond .ne 7, 3) := dk_154 0 7 (dk_at dksX0_can_7 10 rfl rfl)
theorem dX0_can_180 : decode cX0_can 180 = .ok (.iconst 0, 1) := dk_3 (dk_at dksX0_can_7 13 rfl rfl)
theorem dX0_can_181 : decode cX0_can 181 = .ok (.goto 10, 3) := dk_167 0 10 (dk_at dksX0_can_7 14 rfl rfl)
theorem dX0_can_184 : decode cX0_can 184 = .ok (.iconst 0, 1) := dk_3 (dk_at dksX0_can_7 17 rfl rfl)
theorem dX0_can_185 : decode cX0_can 185 = .ok (.iload_n 2, 1) := dk_28 (dk_at dksX0_can_7 18 rfl rfl)
theorem dX0_can_186 : decode cX0_can 186 = .ok (.iload_n 3, 1) := dk_29 (dk_at dksX0_can_7 19 rfl rfl)
theorem dX0_can_187 : decode cX0_can 187 = .ok (.isub, 1) := dk_100 (dk_at dksX0_can_7 20 rfl rfl)
theorem dX0_can_188 : decode cX0_can 188 = .ok (.invokestatic 9, 3) := dk_184 0 9 (dk_at dksX0_can_7 21 rfl rfl)
theorem dX0_can_191 : decode cX0_can 191 = .ok (.istore 11, 2) := dk_54 11 (dk_at dksX0_can_8 0 rfl rfl)
theorem dX0_can_193 : decode cX0_can 193 = .ok (.lload 5, 2) := dk_22 5 (dk_at dksX0_can_8 2 rfl rfl)
theorem dX0_can_195 : decode cX0_can 195 = .ok (.lload 8, 2) := dk_22 8 (dk_at dksX0_can_8 4 rfl rfl)
theorem dX0_can_197 : decode cX0_can 197 = .ok (.iload 10, 2) := dk_21 10 (dk_at dksX0_can_8 6 rfl rfl)
theorem dX0_can_199 : decode cX0_can 199 = .ok (.iload 11, 2) := dk_21 11 (dk_at dksX0_can_8 8 rfl rfl)
theorem dX0_can_201 : decode cX0_can 201 = .ok (.isub, 1) := dk_100 (dk_at dksX0_can_8 10 rfl rfl)
theorem dX0_can_202 : decode cX0_can 202 = .ok (.i2l, 1) := dk_133 (dk_at dksX0_can_8 11 rfl rfl)
theorem dX0_can_203 : decode cX0_can 203 = .ok (.lmul, 1) := dk_105 (dk_at dksX0_can_8 12 rfl rfl)
theorem dX0_can_204 : decode cX0_can 204 = .ok (.ladd, 1) := dk_97 (dk_at dksX0_can_8 13 rfl rfl)
theorem dX0_can_205 : decode cX0_can 205 = .ok (.lstore 5, 2) := dk_55 5 (dk_at dksX0_can_8 14 rfl rfl)
theorem dX0_can_207 : decode cX0_can 207 = .ok (.iinc 7 1, 3) := dk_132 7 1 (dk_at dksX0_can_8 16 rfl rfl)
theorem dX0_can_210 : decode cX0_can 210 = .ok (.goto (-113), 3) := dk_167 255 143 (dk_at dksX0_can_8 19 rfl rfl)
theorem dX0_can_213 : decode cX0_can 213 = .ok (.bipush 10, 2) := dk_16 10 (dk_at dksX0_can_8 22 rfl rfl)
theorem dX0_can_215 : decode cX0_can 215 = .ok (.iload_n 1, 1) := dk_27 (dk_at dksX0_can_9 0 rfl rfl)
theorem dX0_can_216 : decode cX0_can 216 = .ok (.invokestatic 306, 3) := dk_184 1 50 (dk_at dksX0_can_9 1 rfl rfl)
theorem dX0_can_219 : decode cX0_can 219 = .ok (.lstore 7, 2) := dk_55 7 (dk_at dksX0_can_9 4 rfl rfl)
theorem dX0_can_221 : decode cX0_can 221 = .ok (.lload 5, 2) := dk_22 5 (dk_at dksX0_can_9 6 rfl rfl)
theorem dX0_can_223 : decode cX0_can 223 = .ok (.lload 7, 2) := dk_22 7 (dk_at dksX0_can_9 8 rfl rfl)
theorem dX0_can_225 : decode cX0_can 225 = .ok (.invokestatic 362, 3) := dk_184 1 106 (dk_at dksX0_can_9 10 rfl rfl)
theorem dX0_can_228 : decode cX0_can 228 = .ok (.lstore 9, 2) := dk_55 9 (dk_at dksX0_can_9 13 rfl rfl)
theorem dX0_can_230 : decode cX0_can 230 = .ok (.iload 4, 2) := dk_21 4 (dk_at dksX0_can_9 15 rfl rfl)
theorem dX0_can_232 : decode cX0_can 232 = .ok (.ifCond .ne 11, 3) := dk_154 0 11 (dk_at dksX0_can_9 17 rfl rfl)
theorem dX0_can_235 : decode cX0_can 235 = .ok (.lload 5, 2) := dk_22 5 (dk_at dksX0_can_9 20 rfl rfl)
theorem dX0_can_237 : decode cX0_can 237 = .ok (.lload 9, 2) := dk_22 9 (dk_at dksX0_can_9 22 rfl rfl)
theorem dX0_can_239 : decode cX0_can 239 = .ok (.ldiv, 1) := dk_109 (dk_at dksX0_can_10 0 rfl rfl)
theorem dX0_can_240 : decode cX0_can 240 = .ok (.goto 8, 3) := dk_167 0 8 (dk_at dksX0_can_10 1 rfl rfl)
theorem dX0_can_243 : decode cX0_can 243 = .ok (.lload 7, 2) := dk_22 7 (dk_at dksX0_can_10 4 rfl rfl)
theorem dX0_can_245 : decode cX0_can 245 = .ok (.lload 9, 2) := dk_22 9 (dk_at dksX0_can_10 6 rfl rfl)
theorem dX0_can_247 : decode cX0_can 247 = .ok (.ldiv, 1) := dk_109 (dk_at dksX0_can_10 8 rfl rfl)
theorem dX0_can_248 : decode cX0_can 248 = .ok (.lreturn, 1) := dk_173 (dk_at dksX0_can_10 9 rfl rfl)
abbrev cX0_seed : ByteArray := prog_1_method_61_code
def yX0_seed : MethodName := ⟨RX0, "seed", "(I)Z"⟩
def dkwX0_seed_0 : List UInt8 := [27, 19, 1, 151, 184, 0, 99, 154, 0, 5, 3, 172, 42, 180, 0, 30, 27, 181, 0, 95, 4, 172]
abbrev dktX0_seed_0 : List UInt8 := dkwX0_seed_0 ++ []
theorem dksX0_seed_0 : cX0_seed.data.toList.drop 0 = dktX0_seed_0 := by decide +kernel
theorem dX0_seed_0 : decode cX0_seed 0 = .ok (.iload_n 1, 1) := dk_27 (dk_at dksX0_seed_0 0 rfl rfl)
theorem dX0_seed_1 : decode cX0_seed 1 = .ok (.ldc_w 407, 3) := dk_19 1 151 (dk_at dksX0_seed_0 1 rfl rfl)
theorem dX0_seed_4 : decode cX0_seed 4 = .ok (.invokestatic 99, 3) := dk_184 0 99 (dk_at dksX0_seed_0 4 rfl rfl)
theorem dX0_seed_7 : decode cX0_seed 7 = .ok (.ifCond .ne 5, 3) := dk_154 0 5 (dk_at dksX0_seed_0 7 rfl rfl)
theorem dX0_seed_10 : decode cX0_seed 10 = .ok (.iconst 0, 1) := dk_3 (dk_at dksX0_seed_0 10 rfl rfl)
theorem dX0_seed_11 : decode cX0_seed 11 = .ok (.ireturn, 1) := dk_172 (dk_at dksX0_seed_0 11 rfl rfl)
theorem dX0_seed_12 : decode cX0_seed 12 = .ok (.aload_n 0, 1) := dk_42 (dk_at dksX0_seed_0 12 rfl rfl)
theorem dX0_seed_13 : decode cX0_seed 13 = .ok (.getfield 30, 3) := dk_180 0 30 (dk_at dksX0_seed_0 13 rfl rfl)
theorem dX0_seed_16 : decode cX0_seed 16 = .ok (.iload_n 1, 1) := dk_27 (dk_at dksX0_seed_0 16 rfl rfl)
theorem dX0_seed_17 : decode cX0_seed 17 = .ok (.putfield 95, 3) := dk_181 0 95 (dk_at dksX0_seed_0 17 rfl rfl)
theorem dX0_seed_20 : decode cX0_seed 20 = .ok (.iconst 1, 1) := dk_4 (dk_at dksX0_seed_0 20 rfl rfl)
theorem dX0_seed_21 : decode cX0_seed 21 = .ok (.ireturn, 1) := dk_172 (dk_at dksX0_seed_0 21 rfl rfl)
abbrev cX0_keep : ByteArray := prog_1_method_62_code
def yX0_keep : MethodName := ⟨RX0, "keep", "()I"⟩
def dkwX0_keep_3 : List UInt8 := [167, 255, 221, 27, 172]
abbrev dktX0_keep_3 : List UInt8 := dkwX0_keep_3 ++ []
def dkwX0_keep_2 : List UInt8 := [25, 5, 180, 0, 107, 153, 0, 11, 25, 5, 180, 0, 133, 167, 0, 4, 3, 96, 60, 132, 4, 1]
abbrev dktX0_keep_2 : List UInt8 := dkwX0_keep_2 ++ dktX0_keep_3
def dkwX0_keep_1 : List UInt8 := [180, 0, 103, 77, 44, 190, 62, 3, 54, 4, 21, 4, 29, 162, 0, 35, 44, 21, 4, 50, 58, 5, 27]
abbrev dktX0_keep_1 : List UInt8 := dkwX0_keep_1 ++ dktX0_keep_2
def dkwX0_keep_0 : List UInt8 := [42, 4, 181, 1, 152, 42, 180, 0, 37, 42, 180, 0, 30, 182, 0, 202, 87, 3, 60, 42, 180, 0, 30]
abbrev dktX0_keep_0 : List UInt8 := dkwX0_keep_0 ++ dktX0_keep_1
theorem dksX0_keep_0 : cX0_keep.data.toList.drop 0 = dktX0_keep_0 := by decide +kernel
theorem dksX0_keep_1 : cX0_keep.data.toList.drop 23 = dktX0_keep_1 := dk_seg dksX0_keep_0 23 rfl rfl
theorem dksX0_keep_2 : cX0_keep.data.toList.drop 46 = dktX0_keep_2 := dk_seg dksX0_keep_1 23 rfl rfl
theorem dksX0_keep_3 : cX0_keep.data.toList.drop 68 = dktX0_keep_3 := dk_seg dksX0_keep_2 22 rfl rfl
theorem dX0_keep_0 : decode cX0_keep 0 = .ok (.aload_n 0, 1) := dk_42 (dk_at dksX0_keep_0 0 rfl rfl)
theorem dX0_keep_1 : decode cX0_keep 1 = .ok (.iconst 1, 1) := dk_4 (dk_at dksX0_keep_0 1 rfl rfl)
theorem dX0_keep_2 : decode cX0_keep 2 = .ok (.putfield 408, 3) := dk_181 1 152 (dk_at dksX0_keep_0 2 rfl rfl)
theorem dX0_keep_5 : decode cX0_keep 5 = .ok (.aload_n 0, 1) := dk_42 (dk_at dksX0_keep_0 5 rfl rfl)
theorem dX0_keep_6 : decode cX0_keep 6 = .ok (.getfield 37, 3) := dk_180 0 37 (dk_at dksX0_keep_0 6 rfl rfl)
theorem dX0_keep_9 : decode cX0_keep 9 = .ok (.aload_n 0, 1) := dk_42 (dk_at dksX0_keep_0 9 rfl rfl)
theorem dX0_keep_10 : decode cX0_keep 10 = .ok (.getfield 30, 3) := dk_180 0 30 (dk_at dksX0_keep_0 10 rfl rfl)
theorem dX0_keep_13 : decode cX0_keep 13 = .ok (.invokevirtual 202, 3) := dk_182 0 202 (dk_at dksX0_keep_0 13 rfl rfl)
theorem dX0_keep_16 : decode cX0_keep 16 = .ok (.pop, 1) := dk_87 (dk_at dksX0_keep_0 16 rfl rfl)
theorem dX0_keep_17 : decode cX0_keep 17 = .ok (.iconst 0, 1) := dk_3 (dk_at dksX0_keep_0 17 rfl rfl)
theorem dX0_keep_18 : decode cX0_keep 18 = .ok (.istore_n 1, 1) := dk_60 (dk_at dksX0_keep_0 18 rfl rfl)
theorem dX0_keep_19 : decode cX0_keep 19 = .ok (.aload_n 0, 1) := dk_42 (dk_at dksX0_keep_0 19 rfl rfl)
theorem dX0_keep_20 : decode cX0_keep 20 = .ok (.getfield 30, 3) := dk_180 0 30 (dk_at dksX0_keep_0 20 rfl rfl)
theorem dX0_keep_23 : decode cX0_keep 23 = .ok (.getfield 103, 3) := dk_180 0 103 (dk_at dksX0_keep_1 0 rfl rfl)
theorem dX0_keep_26 : decode cX0_keep 26 = .ok (.astore_n 2, 1) := dk_77 (dk_at dksX0_keep_1 3 rfl rfl)
theorem dX0_keep_27 : decode cX0_keep 27 = .ok (.aload_n 2, 1) := dk_44 (dk_at dksX0_keep_1 4 rfl rfl)
theorem dX0_keep_28 : decode cX0_keep 28 = .ok (.arraylength, 1) := dk_190 (dk_at dksX0_keep_1 5 rfl rfl)
theorem dX0_keep_29 : decode cX0_keep 29 = .ok (.istore_n 3, 1) := dk_62 (dk_at dksX0_keep_1 6 rfl rfl)
theorem dX0_keep_30 : decode cX0_keep 30 = .ok (.iconst 0, 1) := dk_3 (dk_at dksX0_keep_1 7 rfl rfl)
theorem dX0_keep_31 : decode cX0_keep 31 = .ok (.istore 4, 2) := dk_54 4 (dk_at dksX0_keep_1 8 rfl rfl)
theorem dX0_keep_33 : decode cX0_keep 33 = .ok (.iload 4, 2) := dk_21 4 (dk_at dksX0_keep_1 10 rfl rfl)
theorem dX0_keep_35 : decode cX0_keep 35 = .ok (.iload_n 3, 1) := dk_29 (dk_at dksX0_keep_1 12 rfl rfl)
theorem dX0_keep_36 : decode cX0_keep 36 = .ok (.if_icmp .ge 35, 3) := dk_162 0 35 (dk_at dksX0_keep_1 13 rfl rfl)
theorem dX0_keep_39 : decode cX0_keep 39 = .ok (.aload_n 2, 1) := dk_44 (dk_at dksX0_keep_1 16 rfl rfl)
theorem dX0_keep_40 : decode cX0_keep 40 = .ok (.iload 4, 2) := dk_21 4 (dk_at dksX0_keep_1 17 rfl rfl)
theorem dX0_keep_42 : decode cX0_keep 42 = .ok (.aaload, 1) := dk_50 (dk_at dksX0_keep_1 19 rfl rfl)
theorem dX0_keep_43 : decode cX0_keep 43 = .ok (.astore 5, 2) := dk_58 5 (dk_at dksX0_keep_1 20 rfl rfl)
theorem dX0_keep_45 : decode cX0_keep 45 = .ok (.iload_n 1, 1) := dk_27 (dk_at dksX0_keep_1 22 rfl rfl)
theorem dX0_keep_46 : decode cX0_keep 46 = .ok (.aload 5, 2) := dk_25 5 (dk_at dksX0_keep_2 0 rfl rfl)
theorem dX0_keep_48 : decode cX0_keep 48 = .ok (.getfield 107, 3) := dk_180 0 107 (dk_at dksX0_keep_2 2 rfl rfl)
theorem dX0_keep_51 : decode cX0_keep 51 = .ok (.ifCond .eq 11, 3) := dk_153 0 11 (dk_at dksX0_keep_2 5 rfl rfl)
theorem dX0_keep_54 : decode cX0_keep 54 = .ok (.aload 5, 2) := dk_25 5 (dk_at dksX0_keep_2 8 rfl rfl)
theorem dX0_keep_56 : decode cX0_keep 56 = .ok (.getfield 133, 3) := dk_180 0 133 (dk_at dksX0_keep_2 10 rfl rfl)
theorem dX0_keep_59 : decode cX0_keep 59 = .ok (.goto 4, 3) := dk_167 0 4 (dk_at dksX0_keep_2 13 rfl rfl)
theorem dX0_keep_62 : decode cX0_keep 62 = .ok (.iconst 0, 1) := dk_3 (dk_at dksX0_keep_2 16 rfl rfl)
theorem dX0_keep_63 : decode cX0_keep 63 = .ok (.iadd, 1) := dk_96 (dk_at dksX0_keep_2 17 rfl rfl)
theorem dX0_keep_64 : decode cX0_keep 64 = .ok (.istore_n 1, 1) := dk_60 (dk_at dksX0_keep_2 18 rfl rfl)
theorem dX0_keep_65 : decode cX0_keep 65 = .ok (.iinc 4 1, 3) := dk_132 4 1 (dk_at dksX0_keep_2 19 rfl rfl)
theorem dX0_keep_68 : decode cX0_keep 68 = .ok (.goto (-35), 3) := dk_167 255 221 (dk_at dksX0_keep_3 0 rfl rfl)
theorem dX0_keep_71 : decode cX0_keep 71 = .ok (.iload_n 1, 1) := dk_27 (dk_at dksX0_keep_3 3 rfl rfl)
theorem dX0_keep_72 : decode cX0_keep 72 = .ok (.ireturn, 1) := dk_172 (dk_at dksX0_keep_3 4 rfl rfl)
abbrev cX0_undo : ByteArray := prog_1_method_63_code
def yX0_undo : MethodName := ⟨RX0, "undo", "()Z"⟩
def dkwX0_undo_0 : List UInt8 := [42, 180, 1, 152, 154, 0, 5, 3, 172, 42, 180, 0, 30, 42, 180, 0, 37, 182, 0, 202, 87, 4, 172]
abbrev dktX0_undo_0 : List UInt8 := dkwX0_undo_0 ++ []
theorem dksX0_undo_0 : cX0_undo.data.toList.drop 0 = dktX0_undo_0 := by decide +kernel
theorem dX0_undo_0 : decode cX0_undo 0 = .ok (.aload_n 0, 1) := dk_42 (dk_at dksX0_undo_0 0 rfl rfl)
theorem dX0_undo_1 : decode cX0_undo 1 = .ok (.getfield 408, 3) := dk_180 1 152 (dk_at dksX0_undo_0 1 rfl rfl)
theorem dX0_undo_4 : decode cX0_undo 4 = .ok (.ifCond .ne 5, 3) := dk_154 0 5 (dk_at dksX0_undo_0 4 rfl rfl)
theorem dX0_undo_7 : decode cX0_undo 7 = .ok (.iconst 0, 1) := dk_3 (dk_at dksX0_undo_0 7 rfl rfl)
theorem dX0_undo_8 : decode cX0_undo 8 = .ok (.ireturn, 1) := dk_172 (dk_at dksX0_undo_0 8 rfl rfl)
theorem dX0_undo_9 : decode cX0_undo 9 = .ok (.aload_n 0, 1) := dk_42 (dk_at dksX0_undo_0 9 rfl rfl)
theorem dX0_undo_10 : decode cX0_undo 10 = .ok (.getfield 30, 3) := dk_180 0 30 (dk_at dksX0_undo_0 10 rfl rfl)
theorem dX0_undo_13 : decode cX0_undo 13 = .ok (.aload_n 0, 1) := dk_42 (dk_at dksX0_undo_0 13 rfl rfl)
theorem dX0_undo_14 : decode cX0_undo 14 = .ok (.getfield 37, 3) := dk_180 0 37 (dk_at dksX0_undo_0 14 rfl rfl)
theorem dX0_undo_17 : decode cX0_undo 17 = .ok (.invokevirtual 202, 3) := dk_182 0 202 (dk_at dksX0_undo_0 17 rfl rfl)
theorem dX0_undo_20 : decode cX0_undo 20 = .ok (.pop, 1) := dk_87 (dk_at dksX0_undo_0 20 rfl rfl)
theorem dX0_undo_21 : decode cX0_undo 21 = .ok (.iconst 1, 1) := dk_4 (dk_at dksX0_undo_0 21 rfl rfl)
theorem dX0_undo_22 : decode cX0_undo 22 = .ok (.ireturn, 1) := dk_172 (dk_at dksX0_undo_0 22 rfl rfl)
abbrev cX0_check : ByteArray := prog_1_method_65_code
def yX0_check : MethodName := ⟨RX0, "check", "(II)I"⟩
def dkwX0_check_3 : List UInt8 := [167, 255, 222, 2, 172]
abbrev dktX0_check_3 : List UInt8 := dkwX0_check_3 ++ []
def dkwX0_check_2 : List UInt8 := [42, 180, 0, 30, 180, 0, 103, 27, 50, 16, 6, 29, 100, 182, 0, 220, 159, 0, 5, 29, 172, 132, 3, 1]
abbrev dktX0_check_2 : List UInt8 := dkwX0_check_2 ++ dktX0_check_3
def dkwX0_check_1 : List UInt8 := [108, 164, 0, 6, 16, 254, 172, 42, 3, 181, 0, 171, 3, 62, 29, 28, 162, 0, 35, 42, 29, 182, 1, 155]
abbrev dktX0_check_1 : List UInt8 := dkwX0_check_1 ++ dktX0_check_2
def dkwX0_check_0 : List UInt8 := [42, 27, 182, 0, 159, 153, 0, 23, 28, 3, 16, 7, 184, 0, 120, 153, 0, 13, 28, 42, 180, 0, 171, 7]
abbrev dktX0_check_0 : List UInt8 := dkwX0_check_0 ++ dktX0_check_1
theorem dksX0_check_0 : cX0_check.data.toList.drop 0 = dktX0_check_0 := by decide +kernel
theorem dksX0_check_1 : cX0_check.data.toList.drop 24 = dktX0_check_1 := dk_seg dksX0_check_0 24 rfl rfl
theorem dksX0_check_2 : cX0_check.data.toList.drop 48 = dktX0_check_2 := dk_seg dksX0_check_1 24 rfl rfl
theorem dksX0_check_3 : cX0_check.data.toList.drop 72 = dktX0_check_3 := dk_seg dksX0_check_2 24 rfl rfl
theorem dX0_check_0 : decode cX0_check 0 = .ok (.aload_n 0, 1) := dk_42 (dk_at dksX0_check_0 0 rfl rfl)
theorem dX0_check_1 : decode cX0_check 1 = .ok (.iload_n 1, 1) := dk_27 (dk_at dksX0_check_0 1 rfl rfl)
theorem dX0_check_2 : decode cX0_check 2 = .ok (.invokevirtual 159, 3) := dk_182 0 159 (dk_at dksX0_check_0 2 rfl rfl)
theorem dX0_check_5 : decode cX0_check 5 = .ok (.ifCond .eq 23, 3) := dk_153 0 23 (dk_at dksX0_check_0 5 rfl rfl)
theorem dX0_check_8 : decode cX0_check 8 = .ok (.iload_n 2, 1) := dk_28 (dk_at dksX0_check_0 8 rfl rfl)
theorem dX0_check_9 : decode cX0_check 9 = .ok (.iconst 0, 1) := dk_3 (dk_at dksX0_check_0 9 rfl rfl)
theorem dX0_check_10 : decode cX0_check 10 = .ok (.bipush 7, 2) := dk_16 7 (dk_at dksX0_check_0 10 rfl rfl)
theorem dX0_check_12 : decode cX0_check 12 = .ok (.invokestatic 120, 3) := dk_184 0 120 (dk_at dksX0_check_0 12 rfl rfl)
theorem dX0_check_15 : decode cX0_check 15 = .ok (.ifCond .eq 13, 3) := dk_153 0 13 (dk_at dksX0_check_0 15 rfl rfl)
theorem dX0_check_18 : decode cX0_check 18 = .ok (.iload_n 2, 1) := dk_28 (dk_at dksX0_check_0 18 rfl rfl)
theorem dX0_check_19 : decode cX0_check 19 = .ok (.aload_n 0, 1) := dk_42 (dk_at dksX0_check_0 19 rfl rfl)
theorem dX0_check_20 : decode cX0_check 20 = .ok (.getfield 171, 3) := dk_180 0 171 (dk_at dksX0_check_0 20 rfl rfl)
theorem dX0_check_23 : decode cX0_check 23 = .ok (.iconst 4, 1) := dk_7 (dk_at dksX0_check_0 23 rfl rfl)
theorem dX0_check_24 : decode cX0_check 24 = .ok (.idiv, 1) := dk_108 (dk_at dksX0_check_1 0 rfl rfl)
theorem dX0_check_25 : decode cX0_check 25 = .ok (.if_icmp .le 6, 3) := dk_164 0 6 (dk_at dksX0_check_1 1 rfl rfl)
theorem dX0_check_28 : decode cX0_check 28 = .ok (.bipush (-2), 2) := dk_16 254 (dk_at dksX0_check_1 4 rfl rfl)
theorem dX0_check_30 : decode cX0_check 30 = .ok (.ireturn, 1) := dk_172 (dk_at dksX0_check_1 6 rfl rfl)
theorem dX0_check_31 : decode cX0_check 31 = .ok (.aload_n 0, 1) := dk_42 (dk_at dksX0_check_1 7 rfl rfl)
theorem dX0_check_32 : decode cX0_check 32 = .ok (.iconst 0, 1) := dk_3 (dk_at dksX0_check_1 8 rfl rfl)
theorem dX0_check_33 : decode cX0_check 33 = .ok (.putfield 171, 3) := dk_181 0 171 (dk_at dksX0_check_1 9 rfl rfl)
theorem dX0_check_36 : decode cX0_check 36 = .ok (.iconst 0, 1) := dk_3 (dk_at dksX0_check_1 12 rfl rfl)
theorem dX0_check_37 : decode cX0_check 37 = .ok (.istore_n 3, 1) := dk_62 (dk_at dksX0_check_1 13 rfl rfl)
theorem dX0_check_38 : decode cX0_check 38 = .ok (.iload_n 3, 1) := dk_29 (dk_at dksX0_check_1 14 rfl rfl)
theorem dX0_check_39 : decode cX0_check 39 = .ok (.iload_n 2, 1) := dk_28 (dk_at dksX0_check_1 15 rfl rfl)
theorem dX0_check_40 : decode cX0_check 40 = .ok (.if_icmp .ge 35, 3) := dk_162 0 35 (dk_at dksX0_check_1 16 rfl rfl)
theorem dX0_check_43 : decode cX0_check 43 = .ok (.aload_n 0, 1) := dk_42 (dk_at dksX0_check_1 19 rfl rfl)
theorem dX0_check_44 : decode cX0_check 44 = .ok (.iload_n 3, 1) := dk_29 (dk_at dksX0_check_1 20 rfl rfl)
theorem dX0_check_45 : decode cX0_check 45 = .ok (.invokevirtual 411, 3) := dk_182 1 155 (dk_at dksX0_check_1 21 rfl rfl)
theorem dX0_check_48 : decode cX0_check 48 = .ok (.aload_n 0, 1) := dk_42 (dk_at dksX0_check_2 0 rfl rfl)
theorem dX0_check_49 : decode cX0_check 49 = .ok (.getfield 30, 3) := dk_180 0 30 (dk_at dksX0_check_2 1 rfl rfl)
theorem dX0_check_52 : decode cX0_check 52 = .ok (.getfield 103, 3) := dk_180 0 103 (dk_at dksX0_check_2 4 rfl rfl)
theorem dX0_check_55 : decode cX0_check 55 = .ok (.iload_n 1, 1) := dk_27 (dk_at dksX0_check_2 7 rfl rfl)
theorem dX0_check_56 : decode cX0_check 56 = .ok (.aaload, 1) := dk_50 (dk_at dksX0_check_2 8 rfl rfl)
theorem dX0_check_57 : decode cX0_check 57 = .ok (.bipush 6, 2) := dk_16 6 (dk_at dksX0_check_2 9 rfl rfl)
theorem dX0_check_59 : decode cX0_check 59 = .ok (.iload_n 3, 1) := dk_29 (dk_at dksX0_check_2 11 rfl rfl)
theorem dX0_check_60 : decode cX0_check 60 = .ok (.isub, 1) := dk_100 (dk_at dksX0_check_2 12 rfl rfl)
theorem dX0_check_61 : decode cX0_check 61 = .ok (.invokevirtual 220, 3) := dk_182 0 220 (dk_at dksX0_check_2 13 rfl rfl)
theorem dX0_check_64 : decode cX0_check 64 = .ok (.if_icmp .eq 5, 3) := dk_159 0 5 (dk_at dksX0_check_2 16 rfl rfl)
theorem dX0_check_67 : decode cX0_check 67 = .ok (.iload_n 3, 1) := dk_29 (dk_at dksX0_check_2 19 rfl rfl)
theorem dX0_check_68 : decode cX0_check 68 = .ok (.ireturn, 1) := dk_172 (dk_at dksX0_check_2 20 rfl rfl)
theorem dX0_check_69 : decode cX0_check 69 = .ok (.iinc 3 1, 3) := dk_132 3 1 (dk_at dksX0_check_2 21 rfl rfl)
theorem dX0_check_72 : decode cX0_check 72 = .ok (.goto (-34), 3) := dk_167 255 222 (dk_at dksX0_check_3 0 rfl rfl)
theorem dX0_check_75 : decode cX0_check 75 = .ok (.iconst (-1), 1) := dk_2 (dk_at dksX0_check_3 3 rfl rfl)
theorem dX0_check_76 : decode cX0_check 76 = .ok (.ireturn, 1) := dk_172 (dk_at dksX0_check_3 4 rfl rfl)
abbrev cX0_numberAt : ByteArray := prog_1_method_64_code
def yX0_numberAt : MethodName := ⟨RX0, "numberAt", "(I)I"⟩
def dkwX0_numberAt_1 : List UInt8 := [17, 0, 255, 126, 128, 61, 132, 3, 1, 167, 255, 228, 28, 172]
abbrev dktX0_numberAt_1 : List UInt8 := dkwX0_numberAt_1 ++ []
def dkwX0_numberAt_0 : List UInt8 := [3, 61, 3, 62, 29, 7, 162, 0, 29, 28, 16, 8, 120, 42, 180, 0, 40, 7, 27, 104, 29, 96, 51]
abbrev dktX0_numberAt_0 : List UInt8 := dkwX0_numberAt_0 ++ dktX0_numberAt_1
theorem dksX0_numberAt_0 : cX0_numberAt.data.toList.drop 0 = dktX0_numberAt_0 := by decide +kernel
theorem dksX0_numberAt_1 : cX0_numberAt.data.toList.drop 23 = dktX0_numberAt_1 := dk_seg dksX0_numberAt_0 23 rfl rfl
theorem dX0_numberAt_0 : decode cX0_numberAt 0 = .ok (.iconst 0, 1) := dk_3 (dk_at dksX0_numberAt_0 0 rfl rfl)
theorem dX0_numberAt_1 : decode cX0_numberAt 1 = .ok (.istore_n 2, 1) := dk_61 (dk_at dksX0_numberAt_0 1 rfl rfl)
theorem dX0_numberAt_2 : decode cX0_numberAt 2 = .ok (.iconst 0, 1) := dk_3 (dk_at dksX0_numberAt_0 2 rfl rfl)
theorem dX0_numberAt_3 : decode cX0_numberAt 3 = .ok (.istore_n 3, 1) := dk_62 (dk_at dksX0_numberAt_0 3 rfl rfl)
theorem dX0_numberAt_4 : decode cX0_numberAt 4 = .ok (.iload_n 3, 1) := dk_29 (dk_at dksX0_numberAt_0 4 rfl rfl)
theorem dX0_numberAt_5 : decode cX0_numberAt 5 = .ok (.iconst 4, 1) := dk_7 (dk_at dksX0_numberAt_0 5 rfl rfl)
theorem dX0_numberAt_6 : decode cX0_numberAt 6 = .ok (.if_icmp .ge 29, 3) := dk_162 0 29 (dk_at dksX0_numberAt_0 6 rfl rfl)
theorem dX0_numberAt_9 : decode cX0_numberAt 9 = .ok (.iload_n 2, 1) := dk_28 (dk_at dksX0_numberAt_0 9 rfl rfl)
theorem dX0_numberAt_10 : decode cX0_numberAt 10 = .ok (.bipush 8, 2) := dk_16 8 (dk_at dksX0_numberAt_0 10 rfl rfl)
theorem dX0_numberAt_12 : decode cX0_numberAt 12 = .ok (.ishl, 1) := dk_120 (dk_at dksX0_numberAt_0 12 rfl rfl)
theorem dX0_numberAt_13 : decode cX0_numberAt 13 = .ok (.aload_n 0, 1) := dk_42 (dk_at dksX0_numberAt_0 13 rfl rfl)
theorem dX0_numberAt_14 : decode cX0_numberAt 14 = .ok (.getfield 40, 3) := dk_180 0 40 (dk_at dksX0_numberAt_0 14 rfl rfl)
theorem dX0_numberAt_17 : decode cX0_numberAt 17 = .ok (.iconst 4, 1) := dk_7 (dk_at dksX0_numberAt_0 17 rfl rfl)
theorem dX0_numberAt_18 : decode cX0_numberAt 18 = .ok (.iload_n 1, 1) := dk_27 (dk_at dksX0_numberAt_0 18 rfl rfl)
theorem dX0_numberAt_19 : decode cX0_numberAt 19 = .ok (.imul, 1) := dk_104 (dk_at dksX0_numberAt_0 19 rfl rfl)
theorem dX0_numberAt_20 : decode cX0_numberAt 20 = .ok (.iload_n 3, 1) := dk_29 (dk_at dksX0_numberAt_0 20 rfl rfl)
theorem dX0_numberAt_21 : decode cX0_numberAt 21 = .ok (.iadd, 1) := dk_96 (dk_at dksX0_numberAt_0 21 rfl rfl)
theorem dX0_numberAt_22 : decode cX0_numberAt 22 = .ok (.baload, 1) := dk_51 (dk_at dksX0_numberAt_0 22 rfl rfl)
theorem dX0_numberAt_23 : decode cX0_numberAt 23 = .ok (.sipush 255, 3) := dk_17 0 255 (dk_at dksX0_numberAt_1 0 rfl rfl)
theorem dX0_numberAt_26 : decode cX0_numberAt 26 = .ok (.iand, 1) := dk_126 (dk_at dksX0_numberAt_1 3 rfl rfl)
theorem dX0_numberAt_27 : decode cX0_numberAt 27 = .ok (.ior, 1) := dk_128 (dk_at dksX0_numberAt_1 4 rfl rfl)
theorem dX0_numberAt_28 : decode cX0_numberAt 28 = .ok (.istore_n 2, 1) := dk_61 (dk_at dksX0_numberAt_1 5 rfl rfl)
theorem dX0_numberAt_29 : decode cX0_numberAt 29 = .ok (.iinc 3 1, 3) := dk_132 3 1 (dk_at dksX0_numberAt_1 6 rfl rfl)
theorem dX0_numberAt_32 : decode cX0_numberAt 32 = .ok (.goto (-28), 3) := dk_167 255 228 (dk_at dksX0_numberAt_1 9 rfl rfl)
theorem dX0_numberAt_35 : decode cX0_numberAt 35 = .ok (.iload_n 2, 1) := dk_28 (dk_at dksX0_numberAt_1 12 rfl rfl)
theorem dX0_numberAt_36 : decode cX0_numberAt 36 = .ok (.ireturn, 1) := dk_172 (dk_at dksX0_numberAt_1 13 rfl rfl)
abbrev cX0_count : ByteArray := prog_1_method_68_code
def yX0_count : MethodName := ⟨RX0, "count", "(I)I"⟩
def dkwX0_count_9 : List UInt8 := [172, 2, 172]
abbrev dktX0_count_9 : List UInt8 := dkwX0_count_9 ++ []
def dkwX0_count_8 : List UInt8 := [182, 1, 162, 172, 42, 180, 0, 51, 180, 1, 158, 172, 42, 180, 0, 171, 172, 42, 180, 0, 30, 180, 0, 95]
abbrev dktX0_count_8 : List UInt8 := dkwX0_count_8 ++ dktX0_count_9
def dkwX0_count_7 : List UInt8 := [42, 180, 0, 30, 180, 1, 47, 172, 42, 182, 1, 159, 172, 42, 180, 0, 30, 182, 0, 209, 172, 42]
abbrev dktX0_count_7 : List UInt8 := dkwX0_count_7 ++ dktX0_count_8
def dkwX0_count_6 : List UInt8 := [170, 0, 0, 0, 0, 89, 0, 0, 0, 0, 0, 0, 0, 6, 0, 0, 0, 42, 0, 0, 0, 50, 0, 0, 0, 55, 0, 0, 0, 63, 0, 0, 0, 68, 0, 0, 0, 76, 0, 0, 0, 81]
abbrev dktX0_count_6 : List UInt8 := dkwX0_count_6 ++ dktX0_count_7
def dkwX0_count_5 : List UInt8 := [172, 27]
abbrev dktX0_count_5 : List UInt8 := dkwX0_count_5 ++ dktX0_count_6
def dkwX0_count_4 : List UInt8 := [16, 40, 100, 182, 0, 199, 153, 0, 19, 42, 180, 0, 30, 180, 0, 113, 27, 16, 40, 100, 50, 180, 0, 156]
abbrev dktX0_count_4 : List UInt8 := dkwX0_count_4 ++ dktX0_count_5
def dkwX0_count_3 : List UInt8 := [182, 0, 199, 153, 0, 19, 42, 180, 0, 30, 180, 0, 113, 27, 16, 30, 100, 50, 180, 0, 153, 172, 42, 27]
abbrev dktX0_count_3 : List UInt8 := dkwX0_count_3 ++ dktX0_count_4
def dkwX0_count_2 : List UInt8 := [153, 0, 19, 42, 180, 0, 30, 180, 0, 113, 27, 16, 20, 100, 50, 180, 0, 151, 172, 42, 27, 16, 30, 100]
abbrev dktX0_count_2 : List UInt8 := dkwX0_count_2 ++ dktX0_count_3
def dkwX0_count_1 : List UInt8 := [167, 0, 15, 42, 180, 0, 46, 27, 16, 10, 100, 50, 180, 1, 158, 172, 42, 27, 16, 20, 100, 182, 0, 199]
abbrev dktX0_count_1 : List UInt8 := dkwX0_count_1 ++ dktX0_count_2
def dkwX0_count_0 : List UInt8 := [27, 16, 10, 100, 7, 184, 0, 99, 153, 0, 32, 42, 180, 0, 46, 27, 16, 10, 100, 50, 199, 0, 7, 3]
abbrev dktX0_count_0 : List UInt8 := dkwX0_count_0 ++ dktX0_count_1
theorem dksX0_count_0 : cX0_count.data.toList.drop 0 = dktX0_count_0 := by decide +kernel
theorem dksX0_count_1 : cX0_count.data.toList.drop 24 = dktX0_count_1 := dk_seg dksX0_count_0 24 rfl rfl
theorem dksX0_count_2 : cX0_count.data.toList.drop 48 = dktX0_count_2 := dk_seg dksX0_count_1 24 rfl rfl
theorem dksX0_count_3 : cX0_count.data.toList.drop 72 = dktX0_count_3 := dk_seg dksX0_count_2 24 rfl rfl
theorem dksX0_count_4 : cX0_count.data.toList.drop 96 = dktX0_count_4 := dk_seg dksX0_count_3 24 rfl rfl
theorem dksX0_count_5 : cX0_count.data.toList.drop 120 = dktX0_count_5 := dk_seg dksX0_count_4 24 rfl rfl
theorem dksX0_count_6 : cX0_count.data.toList.drop 122 = dktX0_count_6 := dk_seg dksX0_count_5 2 rfl rfl
theorem dksX0_count_7 : cX0_count.data.toList.drop 164 = dktX0_count_7 := dk_seg dksX0_count_6 42 rfl rfl
theorem dksX0_count_8 : cX0_count.data.toList.drop 186 = dktX0_count_8 := dk_seg dksX0_count_7 22 rfl rfl
theorem dksX0_count_9 : cX0_count.data.toList.drop 210 = dktX0_count_9 := dk_seg dksX0_count_8 24 rfl rfl
theorem dX0_count_0 : decode cX0_count 0 = .ok (.iload_n 1, 1) := dk_27 (dk_at dksX0_count_0 0 rfl rfl)
theorem dX0_count_1 : decode cX0_count 1 = .ok (.bipush 10, 2) := dk_16 10 (dk_at dksX0_count_0 1 rfl rfl)
theorem dX0_count_3 : decode cX0_count 3 = .ok (.isub, 1) := dk_100 (dk_at dksX0_count_0 3 rfl rfl)
theorem dX0_count_4 : decode cX0_count 4 = .ok (.iconst 4, 1) := dk_7 (dk_at dksX0_count_0 4 rfl rfl)
theorem dX0_count_5 : decode cX0_count 5 = .ok (.invokestatic 99, 3) := dk_184 0 99 (dk_at dksX0_count_0 5 rfl rfl)
theorem dX0_count_8 : decode cX0_count 8 = .ok (.ifCond .eq 32, 3) := dk_153 0 32 (dk_at dksX0_count_0 8 rfl rfl)
theorem dX0_count_11 : decode cX0_count 11 = .ok (.aload_n 0, 1) := dk_42 (dk_at dksX0_count_0 11 rfl rfl)
theorem dX0_count_12 : decode cX0_count 12 = .ok (.getfield 46, 3) := dk_180 0 46 (dk_at dksX0_count_0 12 rfl rfl)
theorem dX0_count_15 : decode cX0_count 15 = .ok (.iload_n 1, 1) := dk_27 (dk_at dksX0_count_0 15 rfl rfl)
theorem dX0_count_16 : decode cX0_count 16 = .ok (.bipush 10, 2) := dk_16 10 (dk_at dksX0_count_0 16 rfl rfl)
theorem dX0_count_18 : decode cX0_count 18 = .ok (.isub, 1) := dk_100 (dk_at dksX0_count_0 18 rfl rfl)
theorem dX0_count_19 : decode cX0_count 19 = .ok (.aaload, 1) := dk_50 (dk_at dksX0_count_0 19 rfl rfl)
theorem dX0_count_20 : decode cX0_count 20 = .ok (.ifnonnull 7, 3) := dk_199 0 7 (dk_at dksX0_count_0 20 rfl rfl)
theorem dX0_count_23 : decode cX0_count 23 = .ok (.iconst 0, 1) := dk_3 (dk_at dksX0_count_0 23 rfl rfl)
theorem dX0_count_24 : decode cX0_count 24 = .ok (.goto 15, 3) := dk_167 0 15 (dk_at dksX0_count_1 0 rfl rfl)
theorem dX0_count_27 : decode cX0_count 27 = .ok (.aload_n 0, 1) := dk_42 (dk_at dksX0_count_1 3 rfl rfl)
theorem dX0_count_28 : decode cX0_count 28 = .ok (.getfield 46, 3) := dk_180 0 46 (dk_at dksX0_count_1 4 rfl rfl)
theorem dX0_count_31 : decode cX0_count 31 = .ok (.iload_n 1, 1) := dk_27 (dk_at dksX0_count_1 7 rfl rfl)
theorem dX0_count_32 : decode cX0_count 32 = .ok (.bipush 10, 2) := dk_16 10 (dk_at dksX0_count_1 8 rfl rfl)
theorem dX0_count_34 : decode cX0_count 34 = .ok (.isub, 1) := dk_100 (dk_at dksX0_count_1 10 rfl rfl)
theorem dX0_count_35 : decode cX0_count 35 = .ok (.aaload, 1) := dk_50 (dk_at dksX0_count_1 11 rfl rfl)
theorem dX0_count_36 : decode cX0_count 36 = .ok (.getfield 414, 3) := dk_180 1 158 (dk_at dksX0_count_1 12 rfl rfl)
theorem dX0_count_39 : decode cX0_count 39 = .ok (.ireturn, 1) := dk_172 (dk_at dksX0_count_1 15 rfl rfl)
theorem dX0_count_40 : decode cX0_count 40 = .ok (.aload_n 0, 1) := dk_42 (dk_at dksX0_count_1 16 rfl rfl)
theorem dX0_count_41 : decode cX0_count 41 = .ok (.iload_n 1, 1) := dk_27 (dk_at dksX0_count_1 17 rfl rfl)
theorem dX0_count_42 : decode cX0_count 42 = .ok (.bipush 20, 2) := dk_16 20 (dk_at dksX0_count_1 18 rfl rfl)
theorem dX0_count_44 : decode cX0_count 44 = .ok (.isub, 1) := dk_100 (dk_at dksX0_count_1 20 rfl rfl)
theorem dX0_count_45 : decode cX0_count 45 = .ok (.invokevirtual 199, 3) := dk_182 0 199 (dk_at dksX0_count_1 21 rfl rfl)
theorem dX0_count_48 : decode cX0_count 48 = .ok (.ifCond .eq 19, 3) := dk_153 0 19 (dk_at dksX0_count_2 0 rfl rfl)
theorem dX0_count_51 : decode cX0_count 51 = .ok (.aload_n 0, 1) := dk_42 (dk_at dksX0_count_2 3 rfl rfl)
theorem dX0_count_52 : decode cX0_count 52 = .ok (.getfield 30, 3) := dk_180 0 30 (dk_at dksX0_count_2 4 rfl rfl)
theorem dX0_count_55 : decode cX0_count 55 = .ok (.getfield 113, 3) := dk_180 0 113 (dk_at dksX0_count_2 7 rfl rfl)
theorem dX0_count_58 : decode cX0_count 58 = .ok (.iload_n 1, 1) := dk_27 (dk_at dksX0_count_2 10 rfl rfl)
theorem dX0_count_59 : decode cX0_count 59 = .ok (.bipush 20, 2) := dk_16 20 (dk_at dksX0_count_2 11 rfl rfl)
theorem dX0_count_61 : decode cX0_count 61 = .ok (.isub, 1) := dk_100 (dk_at dksX0_count_2 13 rfl rfl)
theorem dX0_count_62 : decode cX0_count 62 = .ok (.aaload, 1) := dk_50 (dk_at dksX0_count_2 14 rfl rfl)
theorem dX0_count_63 : decode cX0_count 63 = .ok (.getfield 151, 3) := dk_180 0 151 (dk_at dksX0_count_2 15 rfl rfl)
theorem dX0_count_66 : decode cX0_count 66 = .ok (.ireturn, 1) := dk_172 (dk_at dksX0_count_2 18 rfl rfl)
theorem dX0_count_67 : decode cX0_count 67 = .ok (.aload_n 0, 1) := dk_42 (dk_at dksX0_count_2 19 rfl rfl)
theorem dX0_count_68 : decode cX0_count 68 = .ok (.iload_n 1, 1) := dk_27 (dk_at dksX0_count_2 20 rfl rfl)
theorem dX0_count_69 : decode cX0_count 69 = .ok (.bipush 30, 2) := dk_16 30 (dk_at dksX0_count_2 21 rfl rfl)
theorem dX0_count_71 : decode cX0_count 71 = .ok (.isub, 1) := dk_100 (dk_at dksX0_count_2 23 rfl rfl)
theorem dX0_count_72 : decode cX0_count 72 = .ok (.invokevirtual 199, 3) := dk_182 0 199 (dk_at dksX0_count_3 0 rfl rfl)
theorem dX0_count_75 : decode cX0_count 75 = .ok (.ifCond .eq 19, 3) := dk_153 0 19 (dk_at dksX0_count_3 3 rfl rfl)
theorem dX0_count_78 : decode cX0_count 78 = .ok (.aload_n 0, 1) := dk_42 (dk_at dksX0_count_3 6 rfl rfl)
theorem dX0_count_79 : decode cX0_count 79 = .ok (.getfield 30, 3) := dk_180 0 30 (dk_at dksX0_count_3 7 rfl rfl)
theorem dX0_count_82 : decode cX0_count 82 = .ok (.getfield 113, 3) := dk_180 0 113 (dk_at dksX0_count_3 10 rfl rfl)
theorem dX0_count_85 : decode cX0_count 85 = .ok (.iload_n 1, 1) := dk_27 (dk_at dksX0_count_3 13 rfl rfl)
theorem dX0_count_86 : decode cX0_count 86 = .ok (.bipush 30, 2) := dk_16 30 (dk_at dksX0_count_3 14 rfl rfl)
theorem dX0_count_88 : decode cX0_count 88 = .ok (.isub, 1) := dk_100 (dk_at dksX0_count_3 16 rfl rfl)
theorem dX0_count_89 : decode cX0_count 89 = .ok (.aaload, 1) := dk_50 (dk_at dksX0_count_3 17 rfl rfl)
theorem dX0_count_90 : decode cX0_count 90 = .ok (.getfield 153, 3) := dk_180 0 153 (dk_at dksX0_count_3 18 rfl rfl)
theorem dX0_count_93 : decode cX0_count 93 = .ok (.ireturn, 1) := dk_172 (dk_at dksX0_count_3 21 rfl rfl)
theorem dX0_count_94 : decode cX0_count 94 = .ok (.aload_n 0, 1) := dk_42 (dk_at dksX0_count_3 22 rfl rfl)
theorem dX0_count_95 : decode cX0_count 95 = .ok (.iload_n 1, 1) := dk_27 (dk_at dksX0_count_3 23 rfl rfl)
theorem dX0_count_96 : decode cX0_count 96 = .ok (.bipush 40, 2) := dk_16 40 (dk_at dksX0_count_4 0 rfl rfl)
theorem dX0_count_98 : decode cX0_count 98 = .ok (.isub, 1) := dk_100 (dk_at dksX0_count_4 2 rfl rfl)
theorem dX0_count_99 : decode cX0_count 99 = .ok (.invokevirtual 199, 3) := dk_182 0 199 (dk_at dksX0_count_4 3 rfl rfl)
theorem dX0_count_102 : decode cX0_count 102 = .ok (.ifCond .eq 19, 3) := dk_153 0 19 (dk_at dksX0_count_4 6 rfl rfl)
theorem dX0_count_105 : decode cX0_count 105 = .ok (.aload_n 0, 1) := dk_42 (dk_at dksX0_count_4 9 rfl rfl)
theorem dX0_count_106 : decode cX0_count 106 = .ok (.getfield 30, 3) := dk_180 0 30 (dk_at dksX0_count_4 10 rfl rfl)
theorem dX0_count_109 : decode cX0_count 109 = .ok (.getfield 113, 3) := dk_180 0 113 (dk_at dksX0_count_4 13 rfl rfl)
theorem dX0_count_112 : decode cX0_count 112 = .ok (.iload_n 1, 1) := dk_27 (dk_at dksX0_count_4 16 rfl rfl)
theorem dX0_count_113 : decode cX0_count 113 = .ok (.bipush 40, 2) := dk_16 40 (dk_at dksX0_count_4 17 rfl rfl)
theorem dX0_count_115 : decode cX0_count 115 = .ok (.isub, 1) := dk_100 (dk_at dksX0_count_4 19 rfl rfl)
theorem dX0_count_116 : decode cX0_count 116 = .ok (.aaload, 1) := dk_50 (dk_at dksX0_count_4 20 rfl rfl)
theorem dX0_count_117 : decode cX0_count 117 = .ok (.getfield 156, 3) := dk_180 0 156 (dk_at dksX0_count_4 21 rfl rfl)
theorem dX0_count_120 : decode cX0_count 120 = .ok (.ireturn, 1) := dk_172 (dk_at dksX0_count_5 0 rfl rfl)
theorem dX0_count_121 : decode cX0_count 121 = .ok (.iload_n 1, 1) := dk_27 (dk_at dksX0_count_5 1 rfl rfl)
theorem dX0_count_122 : decode cX0_count 122 = .ok (.tableswitch 89 0 6 #[42, 50, 55, 63, 68, 76, 81], 42) := by decide +kernel
theorem dX0_count_164 : decode cX0_count 164 = .ok (.aload_n 0, 1) := dk_42 (dk_at dksX0_count_7 0 rfl rfl)
theorem dX0_count_165 : decode cX0_count 165 = .ok (.getfield 30, 3) := dk_180 0 30 (dk_at dksX0_count_7 1 rfl rfl)
theorem dX0_count_168 : decode cX0_count 168 = .ok (.getfield 303, 3) := dk_180 1 47 (dk_at dksX0_count_7 4 rfl rfl)
theorem dX0_count_171 : decode cX0_count 171 = .ok (.ireturn, 1) := dk_172 (dk_at dksX0_count_7 7 rfl rfl)
theorem dX0_count_172 : decode cX0_count 172 = .ok (.aload_n 0, 1) := dk_42 (dk_at dksX0_count_7 8 rfl rfl)
theorem dX0_count_173 : decode cX0_count 173 = .ok (.invokevirtual 415, 3) := dk_182 1 159 (dk_at dksX0_count_7 9 rfl rfl)
theorem dX0_count_176 : decode cX0_count 176 = .ok (.ireturn, 1) := dk_172 (dk_at dksX0_count_7 12 rfl rfl)
theorem dX0_count_177 : decode cX0_count 177 = .ok (.aload_n 0, 1) := dk_42 (dk_at dksX0_count_7 13 rfl rfl)
theorem dX0_count_178 : decode cX0_count 178 = .ok (.getfield 30, 3) := dk_180 0 30 (dk_at dksX0_count_7 14 rfl rfl)
theorem dX0_count_181 : decode cX0_count 181 = .ok (.invokevirtual 209, 3) := dk_182 0 209 (dk_at dksX0_count_7 17 rfl rfl)
theorem dX0_count_184 : decode cX0_count 184 = .ok (.ireturn, 1) := dk_172 (dk_at dksX0_count_7 20 rfl rfl)
theorem dX0_count_185 : decode cX0_count 185 = .ok (.aload_n 0, 1) := dk_42 (dk_at dksX0_count_7 21 rfl rfl)
theorem dX0_count_186 : decode cX0_count 186 = .ok (.invokevirtual 418, 3) := dk_182 1 162 (dk_at dksX0_count_8 0 rfl rfl)
theorem dX0_count_189 : decode cX0_count 189 = .ok (.ireturn, 1) := dk_172 (dk_at dksX0_count_8 3 rfl rfl)
theorem dX0_count_190 : decode cX0_count 190 = .ok (.aload_n 0, 1) := dk_42 (dk_at dksX0_count_8 4 rfl rfl)
theorem dX0_count_191 : decode cX0_count 191 = .ok (.getfield 51, 3) := dk_180 0 51 (dk_at dksX0_count_8 5 rfl rfl)
theorem dX0_count_194 : decode cX0_count 194 = .ok (.getfield 414, 3) := dk_180 1 158 (dk_at dksX0_count_8 8 rfl rfl)
theorem dX0_count_197 : decode cX0_count 197 = .ok (.ireturn, 1) := dk_172 (dk_at dksX0_count_8 11 rfl rfl)
theorem dX0_count_198 : decode cX0_count 198 = .ok (.aload_n 0, 1) := dk_42 (dk_at dksX0_count_8 12 rfl rfl)
theorem dX0_count_199 : decode cX0_count 199 = .ok (.getfield 171, 3) := dk_180 0 171 (dk_at dksX0_count_8 13 rfl rfl)
theorem dX0_count_202 : decode cX0_count 202 = .ok (.ireturn, 1) := dk_172 (dk_at dksX0_count_8 16 rfl rfl)
theorem dX0_count_203 : decode cX0_count 203 = .ok (.aload_n 0, 1) := dk_42 (dk_at dksX0_count_8 17 rfl rfl)
theorem dX0_count_204 : decode cX0_count 204 = .ok (.getfield 30, 3) := dk_180 0 30 (dk_at dksX0_count_8 18 rfl rfl)
theorem dX0_count_207 : decode cX0_count 207 = .ok (.getfield 95, 3) := dk_180 0 95 (dk_at dksX0_count_8 21 rfl rfl)
theorem dX0_count_210 : decode cX0_count 210 = .ok (.ireturn, 1) := dk_172 (dk_at dksX0_count_9 0 rfl rfl)
theorem dX0_count_211 : decode cX0_count 211 = .ok (.iconst (-1), 1) := dk_2 (dk_at dksX0_count_9 1 rfl rfl)
theorem dX0_count_212 : decode cX0_count 212 = .ok (.ireturn, 1) := dk_172 (dk_at dksX0_count_9 2 rfl rfl)
abbrev cX0_toldPlants : ByteArray := prog_1_method_66_code
def yX0_toldPlants : MethodName := ⟨RX0, "toldPlants", "()I"⟩
def dkwX0_toldPlants_1 : List UInt8 := [3, 128, 60, 132, 2, 1, 167, 255, 230, 27, 172]
abbrev dktX0_toldPlants_1 : List UInt8 := dkwX0_toldPlants_1 ++ []
def dkwX0_toldPlants_0 : List UInt8 := [3, 60, 3, 61, 28, 7, 162, 0, 27, 27, 42, 28, 182, 0, 159, 153, 0, 9, 4, 28, 120, 167, 0, 4]
abbrev dktX0_toldPlants_0 : List UInt8 := dkwX0_toldPlants_0 ++ dktX0_toldPlants_1
theorem dksX0_toldPlants_0 : cX0_toldPlants.data.toList.drop 0 = dktX0_toldPlants_0 := by decide +kernel
theorem dksX0_toldPlants_1 : cX0_toldPlants.data.toList.drop 24 = dktX0_toldPlants_1 := dk_seg dksX0_toldPlants_0 24 rfl rfl
theorem dX0_toldPlants_0 : decode cX0_toldPlants 0 = .ok (.iconst 0, 1) := dk_3 (dk_at dksX0_toldPlants_0 0 rfl rfl)
theorem dX0_toldPlants_1 : decode cX0_toldPlants 1 = .ok (.istore_n 1, 1) := dk_60 (dk_at dksX0_toldPlants_0 1 rfl rfl)
theorem dX0_toldPlants_2 : decode cX0_toldPlants 2 = .ok (.iconst 0, 1) := dk_3 (dk_at dksX0_toldPlants_0 2 rfl rfl)
theorem dX0_toldPlants_3 : decode cX0_toldPlants 3 = .ok (.istore_n 2, 1) := dk_61 (dk_at dksX0_toldPlants_0 3 rfl rfl)
theorem dX0_toldPlants_4 : decode cX0_toldPlants 4 = .ok (.iload_n 2, 1) := dk_28 (dk_at dksX0_toldPlants_0 4 rfl rfl)
theorem dX0_toldPlants_5 : decode cX0_toldPlants 5 = .ok (.iconst 4, 1) := dk_7 (dk_at dksX0_toldPlants_0 5 rfl rfl)
theorem dX0_toldPlants_6 : decode cX0_toldPlants 6 = .ok (.if_icmp .ge 27, 3) := dk_162 0 27 (dk_at dksX0_toldPlants_0 6 rfl rfl)
theorem dX0_toldPlants_9 : decode cX0_toldPlants 9 = .ok (.iload_n 1, 1) := dk_27 (dk_at dksX0_toldPlants_0 9 rfl rfl)
theorem dX0_toldPlants_10 : decode cX0_toldPlants 10 = .ok (.aload_n 0, 1) := dk_42 (dk_at dksX0_toldPlants_0 10 rfl rfl)
theorem dX0_toldPlants_11 : decode cX0_toldPlants 11 = .ok (.iload_n 2, 1) := dk_28 (dk_at dksX0_toldPlants_0 11 rfl rfl)
theorem dX0_toldPlants_12 : decode cX0_toldPlants 12 = .ok (.invokevirtual 159, 3) := dk_182 0 159 (dk_at dksX0_toldPlants_0 12 rfl rfl)
theorem dX0_toldPlants_15 : decode cX0_toldPlants 15 = .ok (.ifCond .eq 9, 3) := dk_153 0 9 (dk_at dksX0_toldPlants_0 15 rfl rfl)
theorem dX0_toldPlants_18 : decode cX0_toldPlants 18 = .ok (.iconst 1, 1) := dk_4 (dk_at dksX0_toldPlants_0 18 rfl rfl)
theorem dX0_toldPlants_19 : decode cX0_toldPlants 19 = .ok (.iload_n 2, 1) := dk_28 (dk_at dksX0_toldPlants_0 19 rfl rfl)
theorem dX0_toldPlants_20 : decode cX0_toldPlants 20 = .ok (.ishl, 1) := dk_120 (dk_at dksX0_toldPlants_0 20 rfl rfl)
theorem dX0_toldPlants_21 : decode cX0_toldPlants 21 = .ok (.goto 4, 3) := dk_167 0 4 (dk_at dksX0_toldPlants_0 21 rfl rfl)
theorem dX0_toldPlants_24 : decode cX0_toldPlants 24 = .ok (.iconst 0, 1) := dk_3 (dk_at dksX0_toldPlants_1 0 rfl rfl)
theorem dX0_toldPlants_25 : decode cX0_toldPlants 25 = .ok (.ior, 1) := dk_128 (dk_at dksX0_toldPlants_1 1 rfl rfl)
theorem dX0_toldPlants_26 : decode cX0_toldPlants 26 = .ok (.istore_n 1, 1) := dk_60 (dk_at dksX0_toldPlants_1 2 rfl rfl)
theorem dX0_toldPlants_27 : decode cX0_toldPlants 27 = .ok (.iinc 2 1, 3) := dk_132 2 1 (dk_at dksX0_toldPlants_1 3 rfl rfl)
theorem dX0_toldPlants_30 : decode cX0_toldPlants 30 = .ok (.goto (-26), 3) := dk_167 255 230 (dk_at dksX0_toldPlants_1 6 rfl rfl)
theorem dX0_toldPlants_33 : decode cX0_toldPlants 33 = .ok (.iload_n 1, 1) := dk_27 (dk_at dksX0_toldPlants_1 9 rfl rfl)
theorem dX0_toldPlants_34 : decode cX0_toldPlants 34 = .ok (.ireturn, 1) := dk_172 (dk_at dksX0_toldPlants_1 10 rfl rfl)
abbrev cX0_toldPeople : ByteArray := prog_1_method_67_code
def yX0_toldPeople : MethodName := ⟨RX0, "toldPeople", "()I"⟩
def dkwX0_toldPeople_1 : List UInt8 := [167, 0, 4, 3, 128, 60, 132, 2, 1, 167, 255, 229, 27, 172]
abbrev dktX0_toldPeople_1 : List UInt8 := dkwX0_toldPeople_1 ++ []
def dkwX0_toldPeople_0 : List UInt8 := [3, 60, 3, 61, 28, 16, 8, 162, 0, 27, 27, 42, 28, 182, 0, 199, 153, 0, 9, 4, 28, 120]
abbrev dktX0_toldPeople_0 : List UInt8 := dkwX0_toldPeople_0 ++ dktX0_toldPeople_1
theorem dksX0_toldPeople_0 : cX0_toldPeople.data.toList.drop 0 = dktX0_toldPeople_0 := by decide +kernel
theorem dksX0_toldPeople_1 : cX0_toldPeople.data.toList.drop 22 = dktX0_toldPeople_1 := dk_seg dksX0_toldPeople_0 22 rfl rfl
theorem dX0_toldPeople_0 : decode cX0_toldPeople 0 = .ok (.iconst 0, 1) := dk_3 (dk_at dksX0_toldPeople_0 0 rfl rfl)
theorem dX0_toldPeople_1 : decode cX0_toldPeople 1 = .ok (.istore_n 1, 1) := dk_60 (dk_at dksX0_toldPeople_0 1 rfl rfl)
theorem dX0_toldPeople_2 : decode cX0_toldPeople 2 = .ok (.iconst 0, 1) := dk_3 (dk_at dksX0_toldPeople_0 2 rfl rfl)
theorem dX0_toldPeople_3 : decode cX0_toldPeople 3 = .ok (.istore_n 2, 1) := dk_61 (dk_at dksX0_toldPeople_0 3 rfl rfl)
theorem dX0_toldPeople_4 : decode cX0_toldPeople 4 = .ok (.iload_n 2, 1) := dk_28 (dk_at dksX0_toldPeople_0 4 rfl rfl)
theorem dX0_toldPeople_5 : decode cX0_toldPeople 5 = .ok (.bipush 8, 2) := dk_16 8 (dk_at dksX0_toldPeople_0 5 rfl rfl)
theorem dX0_toldPeople_7 : decode cX0_toldPeople 7 = .ok (.if_icmp .ge 27, 3) := dk_162 0 27 (dk_at dksX0_toldPeople_0 7 rfl rfl)
theorem dX0_toldPeople_10 : decode cX0_toldPeople 10 = .ok (.iload_n 1, 1) := dk_27 (dk_at dksX0_toldPeople_0 10 rfl rfl)
theorem dX0_toldPeople_11 : decode cX0_toldPeople 11 = .ok (.aload_n 0, 1) := dk_42 (dk_at dksX0_toldPeople_0 11 rfl rfl)
theorem dX0_toldPeople_12 : decode cX0_toldPeople 12 = .ok (.iload_n 2, 1) := dk_28 (dk_at dksX0_toldPeople_0 12 rfl rfl)
theorem dX0_toldPeople_13 : decode cX0_toldPeople 13 = .ok (.invokevirtual 199, 3) := dk_182 0 199 (dk_at dksX0_toldPeople_0 13 rfl rfl)
theorem dX0_toldPeople_16 : decode cX0_toldPeople 16 = .ok (.ifCond .eq 9, 3) := dk_153 0 9 (dk_at dksX0_toldPeople_0 16 rfl rfl)
theorem dX0_toldPeople_19 : decode cX0_toldPeople 19 = .ok (.iconst 1, 1) := dk_4 (dk_at dksX0_toldPeople_0 19 rfl rfl)
theorem dX0_toldPeople_20 : decode cX0_toldPeople 20 = .ok (.iload_n 2, 1) := dk_28 (dk_at dksX0_toldPeople_0 20 rfl rfl)
theorem dX0_toldPeople_21 : decode cX0_toldPeople 21 = .ok (.ishl, 1) := dk_120 (dk_at dksX0_toldPeople_0 21 rfl rfl)
theorem dX0_toldPeople_22 : decode cX0_toldPeople 22 = .ok (.goto 4, 3) := dk_167 0 4 (dk_at dksX0_toldPeople_1 0 rfl rfl)
theorem dX0_toldPeople_25 : decode cX0_toldPeople 25 = .ok (.iconst 0, 1) := dk_3 (dk_at dksX0_toldPeople_1 3 rfl rfl)
theorem dX0_toldPeople_26 : decode cX0_toldPeople 26 = .ok (.ior, 1) := dk_128 (dk_at dksX0_toldPeople_1 4 rfl rfl)
theorem dX0_toldPeople_27 : decode cX0_toldPeople 27 = .ok (.istore_n 1, 1) := dk_60 (dk_at dksX0_toldPeople_1 5 rfl rfl)
theorem dX0_toldPeople_28 : decode cX0_toldPeople 28 = .ok (.iinc 2 1, 3) := dk_132 2 1 (dk_at dksX0_toldPeople_1 6 rfl rfl)
theorem dX0_toldPeople_31 : decode cX0_toldPeople 31 = .ok (.goto (-27), 3) := dk_167 255 229 (dk_at dksX0_toldPeople_1 9 rfl rfl)
theorem dX0_toldPeople_34 : decode cX0_toldPeople 34 = .ok (.iload_n 1, 1) := dk_27 (dk_at dksX0_toldPeople_1 12 rfl rfl)
theorem dX0_toldPeople_35 : decode cX0_toldPeople 35 = .ok (.ireturn, 1) := dk_172 (dk_at dksX0_toldPeople_1 13 rfl rfl)
theorem q105 : (Jvm.Cond.initialized "LandingTree") ∈ lw_all := lw_g (lw_at lw_m1 1 rfl) rfl
theorem q131 : (Jvm.Cond.instantiable "LandingTree" (33 : Nat)) ∈ lw_all := lw_g (lw_at lw_m1 27 rfl) rfl
theorem q133 : (Jvm.Cond.instanceMethod ({ cls := "LandingTree", name := "<init>", desc := "()V" } : Jvm.MethodName)) ∈ lw_all := lw_g (lw_at lw_m1 29 rfl) rfl
theorem q134 : (Jvm.Cond.code ({ cls := "LandingTree", name := "<init>", desc := "()V" } : Jvm.MethodName) prog_1_method_7_code (1 : Nat) (Option.none : Option Jvm.ClassFile.FieldType)) ∈ lw_all := lw_g (lw_at lw_m1 30 rfl) rfl
theorem q135 : (Jvm.Cond.methodLink "LandingTree" (12 : Nat) ({ cls := "java/lang/Object", name := "<init>", desc := "()V" } : Jvm.MethodName)) ∈ lw_all := lw_g (lw_at lw_m1 31 rfl) rfl
theorem q138 : (Jvm.Cond.classLink "LandingTree" (18 : Nat) "LandingTree$Moment") ∈ lw_all := lw_g (lw_at lw_m1 34 rfl) rfl
theorem q140 : (Jvm.Cond.methodLinkNest "LandingTree" (20 : Nat) ({ cls := "LandingTree$Moment", name := "<init>", desc := "(LLandingTree;)V" } : Jvm.MethodName) "LandingTree") ∈ lw_tbl := lw_at lw_m1 36 rfl
theorem q192 : (Jvm.Cond.classLink "LandingTree" (27 : Nat) "LandingTree$Landing") ∈ lw_all := lw_g (lw_at lw_m1 88 rfl) rfl
theorem q194 : (Jvm.Cond.methodLink "LandingTree" (29 : Nat) ({ cls := "LandingTree$Landing", name := "<init>", desc := "(LLandingTree;)V" } : Jvm.MethodName)) ∈ lw_all := lw_g (lw_at lw_m1 90 rfl) rfl
theorem q208 : (Jvm.Cond.fieldLinkNest "LandingTree" (148 : Nat) "LandingTree$Plant" "looks" "[I" "LandingTree") ∈ lw_tbl := lw_at lw_m1 104 rfl
theorem q211 : (Jvm.Cond.fieldLinkNest "LandingTree" (130 : Nat) "LandingTree$Plant" "pot" "I" "LandingTree") ∈ lw_tbl := lw_at lw_m1 107 rfl
theorem q214 : (Jvm.Cond.fieldLinkNest "LandingTree" (133 : Nat) "LandingTree$Plant" "wet" "I" "LandingTree") ∈ lw_tbl := lw_at lw_m1 110 rfl
theorem q216 : (Jvm.Cond.fieldLinkNest "LandingTree" (136 : Nat) "LandingTree$Plant" "bears" "I" "LandingTree") ∈ lw_tbl := lw_at lw_m1 112 rfl
theorem q219 : (Jvm.Cond.fieldLinkNest "LandingTree" (139 : Nat) "LandingTree$Plant" "dry" "I" "LandingTree") ∈ lw_tbl := lw_at lw_m1 115 rfl
theorem q222 : (Jvm.Cond.fieldLinkNest "LandingTree" (142 : Nat) "LandingTree$Plant" "drowned" "I" "LandingTree") ∈ lw_tbl := lw_at lw_m1 118 rfl
theorem q224 : (Jvm.Cond.fieldLinkNest "LandingTree" (145 : Nat) "LandingTree$Plant" "oldest" "I" "LandingTree") ∈ lw_tbl := lw_at lw_m1 120 rfl
theorem q227 : (Jvm.Cond.fieldLinkNest "LandingTree" (127 : Nat) "LandingTree$Plant" "written" "I" "LandingTree") ∈ lw_tbl := lw_at lw_m1 123 rfl
theorem q229 : (Jvm.Cond.fieldLinkNest "LandingTree" (107 : Nat) "LandingTree$Plant" "isTold" "Z" "LandingTree") ∈ lw_tbl := lw_at lw_m1 125 rfl
theorem q233 : (Jvm.Cond.fieldLinkNest "LandingTree" (124 : Nat) "LandingTree$Plant" "hasCard" "Z" "LandingTree") ∈ lw_tbl := lw_at lw_m1 129 rfl
theorem q263 : (Jvm.Cond.fieldLinkNest "LandingTree" (151 : Nat) "LandingTree$Person" "tenths" "I" "LandingTree") ∈ lw_tbl := lw_at lw_m1 159 rfl
theorem q266 : (Jvm.Cond.fieldLinkNest "LandingTree" (153 : Nat) "LandingTree$Person" "rule" "I" "LandingTree") ∈ lw_tbl := lw_at lw_m1 162 rfl
theorem q269 : (Jvm.Cond.fieldLinkNest "LandingTree" (156 : Nat) "LandingTree$Person" "given" "I" "LandingTree") ∈ lw_tbl := lw_at lw_m1 165 rfl
theorem q272 : (Jvm.Cond.fieldLinkNest "LandingTree" (117 : Nat) "LandingTree$Person" "isTold" "Z" "LandingTree") ∈ lw_tbl := lw_at lw_m1 168 rfl
theorem q283 : (Jvm.Cond.fieldLinkNest "LandingTree" (103 : Nat) "LandingTree$Landing" "plants" "[LLandingTree$Plant;" "LandingTree") ∈ lw_tbl := lw_at lw_m1 179 rfl
theorem q285 : (Jvm.Cond.fieldLinkNest "LandingTree" (113 : Nat) "LandingTree$Landing" "people" "[LLandingTree$Person;" "LandingTree") ∈ lw_tbl := lw_at lw_m1 181 rfl
theorem q287 : (Jvm.Cond.fieldLinkNest "LandingTree" (303 : Nat) "LandingTree$Landing" "day" "I" "LandingTree") ∈ lw_tbl := lw_at lw_m1 183 rfl
theorem q289 : (Jvm.Cond.fieldLinkNest "LandingTree" (95 : Nat) "LandingTree$Landing" "x" "I" "LandingTree") ∈ lw_tbl := lw_at lw_m1 185 rfl
theorem q291 : (Jvm.Cond.fieldLinkNest "LandingTree" (198 : Nat) "LandingTree$Landing" "given" "I" "LandingTree") ∈ lw_tbl := lw_at lw_m1 187 rfl
theorem q293 : (Jvm.Cond.fieldLinkNest "LandingTree" (206 : Nat) "LandingTree$Landing" "over" "I" "LandingTree") ∈ lw_tbl := lw_at lw_m1 189 rfl
theorem q295 : (Jvm.Cond.fieldLinkNest "LandingTree" (217 : Nat) "LandingTree$Landing" "sunny" "I" "LandingTree") ∈ lw_tbl := lw_at lw_m1 191 rfl
theorem q314 : (Jvm.Cond.classLink "LandingTree" (44 : Nat) "LandingTree$Text") ∈ lw_all := lw_g (lw_at lw_m1 210 rfl) rfl
theorem q317 : (Jvm.Cond.methodLinkNest "LandingTree" (50 : Nat) ({ cls := "LandingTree$Text", name := "<init>", desc := "()V" } : Jvm.MethodName) "LandingTree") ∈ lw_tbl := lw_at lw_m1 213 rfl
theorem q333 : (Jvm.Cond.fieldLinkNest "LandingTree" (414 : Nat) "LandingTree$Text" "many" "I" "LandingTree") ∈ lw_tbl := lw_at lw_m1 229 rfl
theorem q344 : (Jvm.Cond.classLink "LandingTree" (55 : Nat) "[[J") ∈ lw_all := lw_g (lw_at lw_m2 0 rfl) rfl
theorem q347 : (Jvm.Cond.classLink "LandingTree" (80 : Nat) "[[I") ∈ lw_all := lw_g (lw_at lw_m2 3 rfl) rfl
theorem q350 : (Jvm.Cond.fieldLink "LandingTree" (23 : Nat) "LandingTree" "moment" "LLandingTree$Moment;") ∈ lw_all := lw_g (lw_at lw_m2 6 rfl) rfl
theorem q351 : (Jvm.Cond.fieldLink "LandingTree" (30 : Nat) "LandingTree" "landing" "LLandingTree$Landing;") ∈ lw_all := lw_g (lw_at lw_m2 7 rfl) rfl
theorem q352 : (Jvm.Cond.fieldLink "LandingTree" (34 : Nat) "LandingTree" "then" "LLandingTree$Landing;") ∈ lw_all := lw_g (lw_at lw_m2 8 rfl) rfl
theorem q353 : (Jvm.Cond.fieldLink "LandingTree" (37 : Nat) "LandingTree" "kept" "LLandingTree$Landing;") ∈ lw_all := lw_g (lw_at lw_m2 9 rfl) rfl
theorem q356 : (Jvm.Cond.fieldLink "LandingTree" (40 : Nat) "LandingTree" "tape" "[B") ∈ lw_all := lw_g (lw_at lw_m2 12 rfl) rfl
theorem q358 : (Jvm.Cond.fieldLink "LandingTree" (46 : Nat) "LandingTree" "rules" "[LLandingTree$Text;") ∈ lw_all := lw_g (lw_at lw_m2 14 rfl) rfl
theorem q360 : (Jvm.Cond.fieldLink "LandingTree" (51 : Nat) "LandingTree" "law" "LLandingTree$Text;") ∈ lw_all := lw_g (lw_at lw_m2 16 rfl) rfl
theorem q361 : (Jvm.Cond.fieldLink "LandingTree" (171 : Nat) "LandingTree" "taped" "I") ∈ lw_all := lw_g (lw_at lw_m2 17 rfl) rfl
theorem q362 : (Jvm.Cond.fieldLink "LandingTree" (408 : Nat) "LandingTree" "isKept" "Z") ∈ lw_all := lw_g (lw_at lw_m2 18 rfl) rfl
theorem q363 : (Jvm.Cond.fieldLink "LandingTree" (57 : Nat) "LandingTree" "weights" "[[J") ∈ lw_all := lw_g (lw_at lw_m2 19 rfl) rfl
theorem q364 : (Jvm.Cond.fieldLink "LandingTree" (60 : Nat) "LandingTree" "comes" "[[J") ∈ lw_all := lw_g (lw_at lw_m2 20 rfl) rfl
theorem q365 : (Jvm.Cond.fieldLink "LandingTree" (63 : Nat) "LandingTree" "some" "[I") ∈ lw_all := lw_g (lw_at lw_m2 21 rfl) rfl
theorem q366 : (Jvm.Cond.fieldLink "LandingTree" (67 : Nat) "LandingTree" "tenths" "[I") ∈ lw_all := lw_g (lw_at lw_m2 22 rfl) rfl
theorem q367 : (Jvm.Cond.fieldLink "LandingTree" (226 : Nat) "LandingTree" "someMany" "I") ∈ lw_all := lw_g (lw_at lw_m2 23 rfl) rfl
theorem q368 : (Jvm.Cond.fieldLink "LandingTree" (242 : Nat) "LandingTree" "plantThen" "I") ∈ lw_all := lw_g (lw_at lw_m2 24 rfl) rfl
theorem q369 : (Jvm.Cond.fieldLink "LandingTree" (245 : Nat) "LandingTree" "potThen" "I") ∈ lw_all := lw_g (lw_at lw_m2 25 rfl) rfl
theorem q370 : (Jvm.Cond.fieldLink "LandingTree" (284 : Nat) "LandingTree" "bearsThen" "I") ∈ lw_all := lw_g (lw_at lw_m2 26 rfl) rfl
theorem q371 : (Jvm.Cond.fieldLink "LandingTree" (248 : Nat) "LandingTree" "wetThen" "I") ∈ lw_all := lw_g (lw_at lw_m2 27 rfl) rfl
theorem q372 : (Jvm.Cond.fieldLink "LandingTree" (232 : Nat) "LandingTree" "dayThen" "I") ∈ lw_all := lw_g (lw_at lw_m2 28 rfl) rfl
theorem q373 : (Jvm.Cond.fieldLink "LandingTree" (235 : Nat) "LandingTree" "toldMany" "I") ∈ lw_all := lw_g (lw_at lw_m2 29 rfl) rfl
theorem q374 : (Jvm.Cond.fieldLink "LandingTree" (287 : Nat) "LandingTree" "deadWeight" "J") ∈ lw_all := lw_g (lw_at lw_m2 30 rfl) rfl
theorem q375 : (Jvm.Cond.fieldLink "LandingTree" (265 : Nat) "LandingTree" "cupsThen" "I") ∈ lw_all := lw_g (lw_at lw_m2 31 rfl) rfl
theorem q376 : (Jvm.Cond.fieldLink "LandingTree" (268 : Nat) "LandingTree" "limitThen" "I") ∈ lw_all := lw_g (lw_at lw_m2 32 rfl) rfl
theorem q377 : (Jvm.Cond.fieldLink "LandingTree" (70 : Nat) "LandingTree" "comers" "[I") ∈ lw_all := lw_g (lw_at lw_m2 33 rfl) rfl
theorem q378 : (Jvm.Cond.fieldLink "LandingTree" (73 : Nat) "LandingTree" "bestComers" "[I") ∈ lw_all := lw_g (lw_at lw_m2 34 rfl) rfl
theorem q379 : (Jvm.Cond.fieldLink "LandingTree" (337 : Nat) "LandingTree" "fewest" "I") ∈ lw_all := lw_g (lw_at lw_m2 35 rfl) rfl
theorem q380 : (Jvm.Cond.fieldLink "LandingTree" (340 : Nat) "LandingTree" "endsWet" "I") ∈ lw_all := lw_g (lw_at lw_m2 36 rfl) rfl
theorem q381 : (Jvm.Cond.fieldLink "LandingTree" (76 : Nat) "LandingTree" "daily" "[LLandingTree$Landing;") ∈ lw_all := lw_g (lw_at lw_m2 37 rfl) rfl
theorem q382 : (Jvm.Cond.fieldLink "LandingTree" (82 : Nat) "LandingTree" "lasting" "[[I") ∈ lw_all := lw_g (lw_at lw_m2 38 rfl) rfl
theorem q383 : (Jvm.Cond.fieldLink "LandingTree" (85 : Nat) "LandingTree" "row" "[I") ∈ lw_all := lw_g (lw_at lw_m2 39 rfl) rfl
theorem q384 : (Jvm.Cond.fieldLink "LandingTree" (88 : Nat) "LandingTree" "bestRow" "[I") ∈ lw_all := lw_g (lw_at lw_m2 40 rfl) rfl
theorem q385 : (Jvm.Cond.fieldLink "LandingTree" (351 : Nat) "LandingTree" "longest" "I") ∈ lw_all := lw_g (lw_at lw_m2 41 rfl) rfl
theorem q386 : (Jvm.Cond.fieldLink "LandingTree" (91 : Nat) "LandingTree" "chances" "[J") ∈ lw_all := lw_g (lw_at lw_m2 42 rfl) rfl
theorem q387 : (Jvm.Cond.laysFinal "LandingTree" "LandingTree" "moment" "LLandingTree$Moment;") ∈ lw_all := lw_g (lw_at lw_m2 43 rfl) rfl
theorem q388 : (Jvm.Cond.soleField "LandingTree" "moment") ∈ lw_all := lw_g (lw_at lw_m2 44 rfl) rfl
theorem q389 : (Jvm.Cond.laysFinal "LandingTree" "LandingTree" "landing" "LLandingTree$Landing;") ∈ lw_all := lw_g (lw_at lw_m2 45 rfl) rfl
theorem q390 : (Jvm.Cond.soleField "LandingTree" "landing") ∈ lw_all := lw_g (lw_at lw_m2 46 rfl) rfl
theorem q391 : (Jvm.Cond.laysFinal "LandingTree" "LandingTree" "then" "LLandingTree$Landing;") ∈ lw_all := lw_g (lw_at lw_m2 47 rfl) rfl
theorem q392 : (Jvm.Cond.soleField "LandingTree" "then") ∈ lw_all := lw_g (lw_at lw_m2 48 rfl) rfl
theorem q393 : (Jvm.Cond.laysFinal "LandingTree" "LandingTree" "kept" "LLandingTree$Landing;") ∈ lw_all := lw_g (lw_at lw_m2 49 rfl) rfl
theorem q394 : (Jvm.Cond.soleField "LandingTree" "kept") ∈ lw_all := lw_g (lw_at lw_m2 50 rfl) rfl
theorem q395 : (Jvm.Cond.laysFinal "LandingTree" "LandingTree" "tape" "[B") ∈ lw_all := lw_g (lw_at lw_m2 51 rfl) rfl
theorem q396 : (Jvm.Cond.soleField "LandingTree" "tape") ∈ lw_all := lw_g (lw_at lw_m2 52 rfl) rfl
theorem q397 : (Jvm.Cond.laysFinal "LandingTree" "LandingTree" "rules" "[LLandingTree$Text;") ∈ lw_all := lw_g (lw_at lw_m2 53 rfl) rfl
theorem q398 : (Jvm.Cond.soleField "LandingTree" "rules") ∈ lw_all := lw_g (lw_at lw_m2 54 rfl) rfl
theorem q399 : (Jvm.Cond.lays "LandingTree" "LandingTree" "law" "LLandingTree$Text;") ∈ lw_all := lw_g (lw_at lw_m2 55 rfl) rfl
theorem q400 : (Jvm.Cond.soleField "LandingTree" "law") ∈ lw_all := lw_g (lw_at lw_m2 56 rfl) rfl
theorem q401 : (Jvm.Cond.lays "LandingTree" "LandingTree" "taped" "I") ∈ lw_all := lw_g (lw_at lw_m2 57 rfl) rfl
theorem q402 : (Jvm.Cond.soleField "LandingTree" "taped") ∈ lw_all := lw_g (lw_at lw_m2 58 rfl) rfl
theorem q403 : (Jvm.Cond.lays "LandingTree" "LandingTree" "isKept" "Z") ∈ lw_all := lw_g (lw_at lw_m2 59 rfl) rfl
theorem q404 : (Jvm.Cond.soleField "LandingTree" "isKept") ∈ lw_all := lw_g (lw_at lw_m2 60 rfl) rfl
theorem q405 : (Jvm.Cond.laysFinal "LandingTree" "LandingTree" "weights" "[[J") ∈ lw_all := lw_g (lw_at lw_m2 61 rfl) rfl
theorem q406 : (Jvm.Cond.soleField "LandingTree" "weights") ∈ lw_all := lw_g (lw_at lw_m2 62 rfl) rfl
theorem q407 : (Jvm.Cond.laysFinal "LandingTree" "LandingTree" "comes" "[[J") ∈ lw_all := lw_g (lw_at lw_m2 63 rfl) rfl
theorem q408 : (Jvm.Cond.soleField "LandingTree" "comes") ∈ lw_all := lw_g (lw_at lw_m2 64 rfl) rfl
theorem q409 : (Jvm.Cond.laysFinal "LandingTree" "LandingTree" "some" "[I") ∈ lw_all := lw_g (lw_at lw_m2 65 rfl) rfl
theorem q410 : (Jvm.Cond.soleField "LandingTree" "some") ∈ lw_all := lw_g (lw_at lw_m2 66 rfl) rfl
theorem q411 : (Jvm.Cond.laysFinal "LandingTree" "LandingTree" "tenths" "[I") ∈ lw_all := lw_g (lw_at lw_m2 67 rfl) rfl
theorem q412 : (Jvm.Cond.soleField "LandingTree" "tenths") ∈ lw_all := lw_g (lw_at lw_m2 68 rfl) rfl
theorem q413 : (Jvm.Cond.lays "LandingTree" "LandingTree" "someMany" "I") ∈ lw_all := lw_g (lw_at lw_m2 69 rfl) rfl
theorem q414 : (Jvm.Cond.soleField "LandingTree" "someMany") ∈ lw_all := lw_g (lw_at lw_m2 70 rfl) rfl
theorem q415 : (Jvm.Cond.lays "LandingTree" "LandingTree" "plantThen" "I") ∈ lw_all := lw_g (lw_at lw_m2 71 rfl) rfl
theorem q416 : (Jvm.Cond.soleField "LandingTree" "plantThen") ∈ lw_all := lw_g (lw_at lw_m2 72 rfl) rfl
theorem q417 : (Jvm.Cond.lays "LandingTree" "LandingTree" "potThen" "I") ∈ lw_all := lw_g (lw_at lw_m2 73 rfl) rfl
theorem q418 : (Jvm.Cond.soleField "LandingTree" "potThen") ∈ lw_all := lw_g (lw_at lw_m2 74 rfl) rfl
theorem q419 : (Jvm.Cond.lays "LandingTree" "LandingTree" "bearsThen" "I") ∈ lw_all := lw_g (lw_at lw_m2 75 rfl) rfl
theorem q420 : (Jvm.Cond.soleField "LandingTree" "bearsThen") ∈ lw_all := lw_g (lw_at lw_m2 76 rfl) rfl
theorem q421 : (Jvm.Cond.lays "LandingTree" "LandingTree" "wetThen" "I") ∈ lw_all := lw_g (lw_at lw_m2 77 rfl) rfl
theorem q422 : (Jvm.Cond.soleField "LandingTree" "wetThen") ∈ lw_all := lw_g (lw_at lw_m2 78 rfl) rfl
theorem q423 : (Jvm.Cond.lays "LandingTree" "LandingTree" "dayThen" "I") ∈ lw_all := lw_g (lw_at lw_m2 79 rfl) rfl
theorem q424 : (Jvm.Cond.soleField "LandingTree" "dayThen") ∈ lw_all := lw_g (lw_at lw_m2 80 rfl) rfl
theorem q425 : (Jvm.Cond.lays "LandingTree" "LandingTree" "toldMany" "I") ∈ lw_all := lw_g (lw_at lw_m2 81 rfl) rfl
theorem q426 : (Jvm.Cond.soleField "LandingTree" "toldMany") ∈ lw_all := lw_g (lw_at lw_m2 82 rfl) rfl
theorem q427 : (Jvm.Cond.lays "LandingTree" "LandingTree" "deadWeight" "J") ∈ lw_all := lw_g (lw_at lw_m2 83 rfl) rfl
theorem q428 : (Jvm.Cond.soleField "LandingTree" "deadWeight") ∈ lw_all := lw_g (lw_at lw_m2 84 rfl) rfl
theorem q429 : (Jvm.Cond.lays "LandingTree" "LandingTree" "cupsThen" "I") ∈ lw_all := lw_g (lw_at lw_m2 85 rfl) rfl
theorem q430 : (Jvm.Cond.soleField "LandingTree" "cupsThen") ∈ lw_all := lw_g (lw_at lw_m2 86 rfl) rfl
theorem q431 : (Jvm.Cond.lays "LandingTree" "LandingTree" "limitThen" "I") ∈ lw_all := lw_g (lw_at lw_m2 87 rfl) rfl
theorem q432 : (Jvm.Cond.soleField "LandingTree" "limitThen") ∈ lw_all := lw_g (lw_at lw_m2 88 rfl) rfl
theorem q433 : (Jvm.Cond.laysFinal "LandingTree" "LandingTree" "comers" "[I") ∈ lw_all := lw_g (lw_at lw_m2 89 rfl) rfl
theorem q434 : (Jvm.Cond.soleField "LandingTree" "comers") ∈ lw_all := lw_g (lw_at lw_m2 90 rfl) rfl
theorem q435 : (Jvm.Cond.laysFinal "LandingTree" "LandingTree" "bestComers" "[I") ∈ lw_all := lw_g (lw_at lw_m2 91 rfl) rfl
theorem q436 : (Jvm.Cond.soleField "LandingTree" "bestComers") ∈ lw_all := lw_g (lw_at lw_m2 92 rfl) rfl
theorem q437 : (Jvm.Cond.lays "LandingTree" "LandingTree" "fewest" "I") ∈ lw_all := lw_g (lw_at lw_m2 93 rfl) rfl
theorem q438 : (Jvm.Cond.soleField "LandingTree" "fewest") ∈ lw_all := lw_g (lw_at lw_m2 94 rfl) rfl
theorem q439 : (Jvm.Cond.lays "LandingTree" "LandingTree" "endsWet" "I") ∈ lw_all := lw_g (lw_at lw_m2 95 rfl) rfl
theorem q440 : (Jvm.Cond.soleField "LandingTree" "endsWet") ∈ lw_all := lw_g (lw_at lw_m2 96 rfl) rfl
theorem q441 : (Jvm.Cond.laysFinal "LandingTree" "LandingTree" "daily" "[LLandingTree$Landing;") ∈ lw_all := lw_g (lw_at lw_m2 97 rfl) rfl
theorem q442 : (Jvm.Cond.soleField "LandingTree" "daily") ∈ lw_all := lw_g (lw_at lw_m2 98 rfl) rfl
theorem q443 : (Jvm.Cond.laysFinal "LandingTree" "LandingTree" "lasting" "[[I") ∈ lw_all := lw_g (lw_at lw_m2 99 rfl) rfl
theorem q444 : (Jvm.Cond.soleField "LandingTree" "lasting") ∈ lw_all := lw_g (lw_at lw_m2 100 rfl) rfl
theorem q445 : (Jvm.Cond.laysFinal "LandingTree" "LandingTree" "row" "[I") ∈ lw_all := lw_g (lw_at lw_m2 101 rfl) rfl
theorem q446 : (Jvm.Cond.soleField "LandingTree" "row") ∈ lw_all := lw_g (lw_at lw_m2 102 rfl) rfl
theorem q447 : (Jvm.Cond.laysFinal "LandingTree" "LandingTree" "bestRow" "[I") ∈ lw_all := lw_g (lw_at lw_m2 103 rfl) rfl
theorem q448 : (Jvm.Cond.soleField "LandingTree" "bestRow") ∈ lw_all := lw_g (lw_at lw_m2 104 rfl) rfl
theorem q449 : (Jvm.Cond.lays "LandingTree" "LandingTree" "longest" "I") ∈ lw_all := lw_g (lw_at lw_m2 105 rfl) rfl
theorem q450 : (Jvm.Cond.soleField "LandingTree" "longest") ∈ lw_all := lw_g (lw_at lw_m2 106 rfl) rfl
theorem q451 : (Jvm.Cond.laysFinal "LandingTree" "LandingTree" "chances" "[J") ∈ lw_all := lw_g (lw_at lw_m2 107 rfl) rfl
theorem q452 : (Jvm.Cond.soleField "LandingTree" "chances") ∈ lw_all := lw_g (lw_at lw_m2 108 rfl) rfl
theorem q453 : (Jvm.Cond.superclass "LandingTree" "java/lang/Object") ∈ lw_all := lw_g (lw_at lw_m2 109 rfl) rfl
theorem q456 : (Jvm.Cond.instanceMethod ({ cls := "LandingTree", name := "plant", desc := "(IIII)Z" } : Jvm.MethodName)) ∈ lw_all := lw_g (lw_at lw_m2 112 rfl) rfl
theorem q457 : (Jvm.Cond.selects "LandingTree" ({ cls := "LandingTree", name := "plant", desc := "(IIII)Z" } : Jvm.MethodName) ({ cls := "LandingTree", name := "plant", desc := "(IIII)Z" } : Jvm.MethodName)) ∈ lw_all := lw_g (lw_at lw_m2 113 rfl) rfl
theorem q458 : (Jvm.Cond.code ({ cls := "LandingTree", name := "plant", desc := "(IIII)Z" } : Jvm.MethodName) prog_1_method_10_code (7 : Nat) (Option.some Jvm.ClassFile.FieldType.boolean)) ∈ lw_all := lw_g (lw_at lw_m2 114 rfl) rfl
theorem q459 : (Jvm.Cond.methodLink "LandingTree" (99 : Nat) ({ cls := "LandingTree", name := "in", desc := "(II)Z" } : Jvm.MethodName)) ∈ lw_all := lw_g (lw_at lw_m2 115 rfl) rfl
theorem q460 : (Jvm.Cond.static ({ cls := "LandingTree", name := "in", desc := "(II)Z" } : Jvm.MethodName)) ∈ lw_all := lw_g (lw_at lw_m2 116 rfl) rfl
theorem q461 : (Jvm.Cond.code ({ cls := "LandingTree", name := "in", desc := "(II)Z" } : Jvm.MethodName) prog_1_method_1_code (2 : Nat) (Option.some Jvm.ClassFile.FieldType.boolean)) ∈ lw_all := lw_g (lw_at lw_m2 117 rfl) rfl
theorem q462 : (Jvm.Cond.methodLink "LandingTree" (120 : Nat) ({ cls := "LandingTree", name := "within", desc := "(III)Z" } : Jvm.MethodName)) ∈ lw_all := lw_g (lw_at lw_m2 118 rfl) rfl
theorem q463 : (Jvm.Cond.static ({ cls := "LandingTree", name := "within", desc := "(III)Z" } : Jvm.MethodName)) ∈ lw_all := lw_g (lw_at lw_m2 119 rfl) rfl
theorem q464 : (Jvm.Cond.code ({ cls := "LandingTree", name := "within", desc := "(III)Z" } : Jvm.MethodName) prog_1_method_2_code (3 : Nat) (Option.some Jvm.ClassFile.FieldType.boolean)) ∈ lw_all := lw_g (lw_at lw_m2 120 rfl) rfl
theorem q466 : (Jvm.Cond.instanceMethod ({ cls := "LandingTree", name := "person", desc := "(III)Z" } : Jvm.MethodName)) ∈ lw_all := lw_g (lw_at lw_m2 122 rfl) rfl
theorem q467 : (Jvm.Cond.selects "LandingTree" ({ cls := "LandingTree", name := "person", desc := "(III)Z" } : Jvm.MethodName) ({ cls := "LandingTree", name := "person", desc := "(III)Z" } : Jvm.MethodName)) ∈ lw_all := lw_g (lw_at lw_m2 123 rfl) rfl
theorem q468 : (Jvm.Cond.code ({ cls := "LandingTree", name := "person", desc := "(III)Z" } : Jvm.MethodName) prog_1_method_11_code (5 : Nat) (Option.some Jvm.ClassFile.FieldType.boolean)) ∈ lw_all := lw_g (lw_at lw_m2 124 rfl) rfl
theorem q470 : (Jvm.Cond.instanceMethod ({ cls := "LandingTree", name := "card", desc := "(IZ)Z" } : Jvm.MethodName)) ∈ lw_all := lw_g (lw_at lw_m2 126 rfl) rfl
theorem q471 : (Jvm.Cond.selects "LandingTree" ({ cls := "LandingTree", name := "card", desc := "(IZ)Z" } : Jvm.MethodName) ({ cls := "LandingTree", name := "card", desc := "(IZ)Z" } : Jvm.MethodName)) ∈ lw_all := lw_g (lw_at lw_m2 127 rfl) rfl
theorem q472 : (Jvm.Cond.code ({ cls := "LandingTree", name := "card", desc := "(IZ)Z" } : Jvm.MethodName) prog_1_method_12_code (3 : Nat) (Option.some Jvm.ClassFile.FieldType.boolean)) ∈ lw_all := lw_g (lw_at lw_m2 128 rfl) rfl
theorem q473 : (Jvm.Cond.methodLink "LandingTree" (159 : Nat) ({ cls := "LandingTree", name := "isPlant", desc := "(I)Z" } : Jvm.MethodName)) ∈ lw_all := lw_g (lw_at lw_m2 129 rfl) rfl
theorem q474 : (Jvm.Cond.privateMethod ({ cls := "LandingTree", name := "isPlant", desc := "(I)Z" } : Jvm.MethodName)) ∈ lw_tbl := lw_at lw_m2 130 rfl
theorem q475 : (Jvm.Cond.instanceMethod ({ cls := "LandingTree", name := "isPlant", desc := "(I)Z" } : Jvm.MethodName)) ∈ lw_all := lw_g (lw_at lw_m2 131 rfl) rfl
theorem q476 : (Jvm.Cond.code ({ cls := "LandingTree", name := "isPlant", desc := "(I)Z" } : Jvm.MethodName) prog_1_method_8_code (2 : Nat) (Option.some Jvm.ClassFile.FieldType.boolean)) ∈ lw_all := lw_g (lw_at lw_m2 132 rfl) rfl
theorem q478 : (Jvm.Cond.instanceMethod ({ cls := "LandingTree", name := "pour", desc := "(II)I" } : Jvm.MethodName)) ∈ lw_all := lw_g (lw_at lw_m2 134 rfl) rfl
theorem q479 : (Jvm.Cond.selects "LandingTree" ({ cls := "LandingTree", name := "pour", desc := "(II)I" } : Jvm.MethodName) ({ cls := "LandingTree", name := "pour", desc := "(II)I" } : Jvm.MethodName)) ∈ lw_all := lw_g (lw_at lw_m2 135 rfl) rfl
theorem q480 : (Jvm.Cond.code ({ cls := "LandingTree", name := "pour", desc := "(II)I" } : Jvm.MethodName) prog_1_method_13_code (3 : Nat) (Option.some Jvm.ClassFile.FieldType.int)) ∈ lw_all := lw_g (lw_at lw_m2 136 rfl) rfl
theorem q481 : (Jvm.Cond.methodLink "LandingTree" (163 : Nat) ({ cls := "LandingTree$Plant", name := "isDead", desc := "()Z" } : Jvm.MethodName)) ∈ lw_all := lw_g (lw_at lw_m2 137 rfl) rfl
theorem q485 : (Jvm.Cond.methodLink "LandingTree" (167 : Nat) ({ cls := "LandingTree$Plant", name := "gets", desc := "(I)I" } : Jvm.MethodName)) ∈ lw_all := lw_g (lw_at lw_m2 141 rfl) rfl
theorem q493 : (Jvm.Cond.instanceMethod ({ cls := "LandingTree", name := "feed", desc := "(IIIII)I" } : Jvm.MethodName)) ∈ lw_all := lw_g (lw_at lw_m2 149 rfl) rfl
theorem q494 : (Jvm.Cond.selects "LandingTree" ({ cls := "LandingTree", name := "feed", desc := "(IIIII)I" } : Jvm.MethodName) ({ cls := "LandingTree", name := "feed", desc := "(IIIII)I" } : Jvm.MethodName)) ∈ lw_all := lw_g (lw_at lw_m2 150 rfl) rfl
theorem q495 : (Jvm.Cond.code ({ cls := "LandingTree", name := "feed", desc := "(IIIII)I" } : Jvm.MethodName) prog_1_method_15_code (6 : Nat) (Option.some Jvm.ClassFile.FieldType.int)) ∈ lw_all := lw_g (lw_at lw_m2 151 rfl) rfl
theorem q496 : (Jvm.Cond.methodLink "LandingTree" (174 : Nat) ({ cls := "LandingTree", name := "push", desc := "(I)V" } : Jvm.MethodName)) ∈ lw_all := lw_g (lw_at lw_m2 152 rfl) rfl
theorem q497 : (Jvm.Cond.privateMethod ({ cls := "LandingTree", name := "push", desc := "(I)V" } : Jvm.MethodName)) ∈ lw_tbl := lw_at lw_m2 153 rfl
theorem q498 : (Jvm.Cond.instanceMethod ({ cls := "LandingTree", name := "push", desc := "(I)V" } : Jvm.MethodName)) ∈ lw_all := lw_g (lw_at lw_m2 154 rfl) rfl
theorem q499 : (Jvm.Cond.code ({ cls := "LandingTree", name := "push", desc := "(I)V" } : Jvm.MethodName) prog_1_method_14_code (3 : Nat) (Option.none : Option Jvm.ClassFile.FieldType)) ∈ lw_all := lw_g (lw_at lw_m2 155 rfl) rfl
theorem q501 : (Jvm.Cond.instanceMethod ({ cls := "LandingTree", name := "law", desc := "(I)I" } : Jvm.MethodName)) ∈ lw_all := lw_g (lw_at lw_m2 157 rfl) rfl
theorem q502 : (Jvm.Cond.selects "LandingTree" ({ cls := "LandingTree", name := "law", desc := "(I)I" } : Jvm.MethodName) ({ cls := "LandingTree", name := "law", desc := "(I)I" } : Jvm.MethodName)) ∈ lw_all := lw_g (lw_at lw_m2 158 rfl) rfl
theorem q503 : (Jvm.Cond.code ({ cls := "LandingTree", name := "law", desc := "(I)I" } : Jvm.MethodName) prog_1_method_16_code (4 : Nat) (Option.some Jvm.ClassFile.FieldType.int)) ∈ lw_all := lw_g (lw_at lw_m2 159 rfl) rfl
theorem q504 : (Jvm.Cond.classLink "LandingTree" (178 : Nat) "LandingTree$Reader") ∈ lw_all := lw_g (lw_at lw_m2 160 rfl) rfl
theorem q506 : (Jvm.Cond.stringRef "LandingTree" (180 : Nat) "ehcb") ∈ lw_tbl := lw_at lw_m2 162 rfl
theorem q507 : (Jvm.Cond.methodLink "LandingTree" (182 : Nat) ({ cls := "LandingTree$Reader", name := "<init>", desc := "(LLandingTree;ILjava/lang/String;)V" } : Jvm.MethodName)) ∈ lw_all := lw_g (lw_at lw_m2 163 rfl) rfl
theorem q516 : (Jvm.Cond.fieldLinkNest "LandingTree" (189 : Nat) "LandingTree$Reader" "text" "LLandingTree$Text;" "LandingTree") ∈ lw_tbl := lw_at lw_m2 172 rfl
theorem q539 : (Jvm.Cond.methodLink "LandingTree" (185 : Nat) ({ cls := "LandingTree$Reader", name := "read", desc := "()I" } : Jvm.MethodName)) ∈ lw_all := lw_g (lw_at lw_m2 195 rfl) rfl
theorem q771 : (Jvm.Cond.instanceMethod ({ cls := "LandingTree", name := "rule", desc := "(II)I" } : Jvm.MethodName)) ∈ lw_all := lw_g (lw_at lw_m3 187 rfl) rfl
theorem q772 : (Jvm.Cond.selects "LandingTree" ({ cls := "LandingTree", name := "rule", desc := "(II)I" } : Jvm.MethodName) ({ cls := "LandingTree", name := "rule", desc := "(II)I" } : Jvm.MethodName)) ∈ lw_all := lw_g (lw_at lw_m3 188 rfl) rfl
theorem q773 : (Jvm.Cond.code ({ cls := "LandingTree", name := "rule", desc := "(II)I" } : Jvm.MethodName) prog_1_method_17_code (5 : Nat) (Option.some Jvm.ClassFile.FieldType.int)) ∈ lw_all := lw_g (lw_at lw_m3 189 rfl) rfl
theorem q774 : (Jvm.Cond.stringRef "LandingTree" (192 : Nat) "g") ∈ lw_tbl := lw_at lw_m3 190 rfl
theorem q776 : (Jvm.Cond.instanceMethod ({ cls := "LandingTree", name := "days", desc := "(I)I" } : Jvm.MethodName)) ∈ lw_all := lw_g (lw_at lw_m3 192 rfl) rfl
theorem q777 : (Jvm.Cond.selects "LandingTree" ({ cls := "LandingTree", name := "days", desc := "(I)I" } : Jvm.MethodName) ({ cls := "LandingTree", name := "days", desc := "(I)I" } : Jvm.MethodName)) ∈ lw_all := lw_g (lw_at lw_m3 193 rfl) rfl
theorem q778 : (Jvm.Cond.code ({ cls := "LandingTree", name := "days", desc := "(I)I" } : Jvm.MethodName) prog_1_method_18_code (2 : Nat) (Option.some Jvm.ClassFile.FieldType.int)) ∈ lw_all := lw_g (lw_at lw_m3 194 rfl) rfl
theorem q779 : (Jvm.Cond.methodLink "LandingTree" (194 : Nat) ({ cls := "LandingTree$Landing", name := "goes", desc := "(I)LLandingTree$Landing;" } : Jvm.MethodName)) ∈ lw_all := lw_g (lw_at lw_m3 195 rfl) rfl
theorem q883 : (Jvm.Cond.static ({ cls := "LandingTree", name := "held", desc := "(II)I" } : Jvm.MethodName)) ∈ lw_all := lw_g (lw_at lw_m4 59 rfl) rfl
theorem q884 : (Jvm.Cond.code ({ cls := "LandingTree", name := "held", desc := "(II)I" } : Jvm.MethodName) prog_1_method_4_code (2 : Nat) (Option.some Jvm.ClassFile.FieldType.int)) ∈ lw_all := lw_g (lw_at lw_m4 60 rfl) rfl
theorem q885 : (Jvm.Cond.methodLink "LandingTree" (3 : Nat) ({ cls := "java/lang/Math", name := "min", desc := "(II)I" } : Jvm.MethodName)) ∈ lw_all := lw_g (lw_at lw_m4 61 rfl) rfl
theorem q886 : (Jvm.Cond.methodLink "LandingTree" (9 : Nat) ({ cls := "java/lang/Math", name := "max", desc := "(II)I" } : Jvm.MethodName)) ∈ lw_all := lw_g (lw_at lw_m4 62 rfl) rfl
theorem q901 : (Jvm.Cond.instanceMethod ({ cls := "LandingTree", name := "tried", desc := "(II)I" } : Jvm.MethodName)) ∈ lw_all := lw_g (lw_at lw_m4 77 rfl) rfl
theorem q902 : (Jvm.Cond.selects "LandingTree" ({ cls := "LandingTree", name := "tried", desc := "(II)I" } : Jvm.MethodName) ({ cls := "LandingTree", name := "tried", desc := "(II)I" } : Jvm.MethodName)) ∈ lw_all := lw_g (lw_at lw_m4 78 rfl) rfl
theorem q903 : (Jvm.Cond.code ({ cls := "LandingTree", name := "tried", desc := "(II)I" } : Jvm.MethodName) prog_1_method_19_code (3 : Nat) (Option.some Jvm.ClassFile.FieldType.int)) ∈ lw_all := lw_g (lw_at lw_m4 79 rfl) rfl
theorem q904 : (Jvm.Cond.methodLink "LandingTree" (199 : Nat) ({ cls := "LandingTree", name := "isPerson", desc := "(I)Z" } : Jvm.MethodName)) ∈ lw_all := lw_g (lw_at lw_m4 80 rfl) rfl
theorem q905 : (Jvm.Cond.privateMethod ({ cls := "LandingTree", name := "isPerson", desc := "(I)Z" } : Jvm.MethodName)) ∈ lw_tbl := lw_at lw_m4 81 rfl
theorem q906 : (Jvm.Cond.instanceMethod ({ cls := "LandingTree", name := "isPerson", desc := "(I)Z" } : Jvm.MethodName)) ∈ lw_all := lw_g (lw_at lw_m4 82 rfl) rfl
theorem q907 : (Jvm.Cond.code ({ cls := "LandingTree", name := "isPerson", desc := "(I)Z" } : Jvm.MethodName) prog_1_method_9_code (2 : Nat) (Option.some Jvm.ClassFile.FieldType.boolean)) ∈ lw_all := lw_g (lw_at lw_m4 83 rfl) rfl
theorem q908 : (Jvm.Cond.methodLink "LandingTree" (202 : Nat) ({ cls := "LandingTree$Landing", name := "takes", desc := "(LLandingTree$Landing;)LLandingTree$Landing;" } : Jvm.MethodName)) ∈ lw_all := lw_g (lw_at lw_m4 84 rfl) rfl
theorem q920 : (Jvm.Cond.methodLink "LandingTree" (209 : Nat) ({ cls := "LandingTree$Landing", name := "dead", desc := "()I" } : Jvm.MethodName)) ∈ lw_all := lw_g (lw_at lw_m4 96 rfl) rfl
theorem q924 : (Jvm.Cond.methodLink "LandingTree" (212 : Nat) ({ cls := "java/lang/Integer", name := "bitCount", desc := "(I)I" } : Jvm.MethodName)) ∈ lw_all := lw_g (lw_at lw_m4 100 rfl) rfl
theorem q931 : (Jvm.Cond.instanceMethod ({ cls := "LandingTree", name := "plantIs", desc := "(II)I" } : Jvm.MethodName)) ∈ lw_all := lw_g (lw_at lw_m4 107 rfl) rfl
theorem q932 : (Jvm.Cond.selects "LandingTree" ({ cls := "LandingTree", name := "plantIs", desc := "(II)I" } : Jvm.MethodName) ({ cls := "LandingTree", name := "plantIs", desc := "(II)I" } : Jvm.MethodName)) ∈ lw_all := lw_g (lw_at lw_m4 108 rfl) rfl
theorem q933 : (Jvm.Cond.code ({ cls := "LandingTree", name := "plantIs", desc := "(II)I" } : Jvm.MethodName) prog_1_method_20_code (4 : Nat) (Option.some Jvm.ClassFile.FieldType.int)) ∈ lw_all := lw_g (lw_at lw_m4 109 rfl) rfl
theorem q934 : (Jvm.Cond.methodLink "LandingTree" (220 : Nat) ({ cls := "LandingTree$Plant", name := "looked", desc := "(I)I" } : Jvm.MethodName)) ∈ lw_all := lw_g (lw_at lw_m4 110 rfl) rfl
theorem q936 : (Jvm.Cond.instanceMethod ({ cls := "LandingTree", name := "gives", desc := "(II)I" } : Jvm.MethodName)) ∈ lw_all := lw_g (lw_at lw_m4 112 rfl) rfl
theorem q937 : (Jvm.Cond.selects "LandingTree" ({ cls := "LandingTree", name := "gives", desc := "(II)I" } : Jvm.MethodName) ({ cls := "LandingTree", name := "gives", desc := "(II)I" } : Jvm.MethodName)) ∈ lw_all := lw_g (lw_at lw_m4 113 rfl) rfl
theorem q938 : (Jvm.Cond.code ({ cls := "LandingTree", name := "gives", desc := "(II)I" } : Jvm.MethodName) prog_1_method_21_code (3 : Nat) (Option.some Jvm.ClassFile.FieldType.int)) ∈ lw_all := lw_g (lw_at lw_m4 114 rfl) rfl
theorem q939 : (Jvm.Cond.methodLink "LandingTree" (223 : Nat) ({ cls := "LandingTree$Landing", name := "givesTo", desc := "(II)I" } : Jvm.MethodName)) ∈ lw_all := lw_g (lw_at lw_m4 115 rfl) rfl
theorem q941 : (Jvm.Cond.instanceMethod ({ cls := "LandingTree", name := "exactly", desc := "(IIII)J" } : Jvm.MethodName)) ∈ lw_all := lw_g (lw_at lw_m4 117 rfl) rfl
theorem q942 : (Jvm.Cond.selects "LandingTree" ({ cls := "LandingTree", name := "exactly", desc := "(IIII)J" } : Jvm.MethodName) ({ cls := "LandingTree", name := "exactly", desc := "(IIII)J" } : Jvm.MethodName)) ∈ lw_all := lw_g (lw_at lw_m4 118 rfl) rfl
theorem q943 : (Jvm.Cond.code ({ cls := "LandingTree", name := "exactly", desc := "(IIII)J" } : Jvm.MethodName) prog_1_method_33_code (8 : Nat) (Option.some Jvm.ClassFile.FieldType.long)) ∈ lw_all := lw_g (lw_at lw_m4 119 rfl) rfl
theorem q944 : (Jvm.Cond.methodLink "LandingTree" (316 : Nat) ({ cls := "LandingTree", name := "canLay", desc := "(III)Z" } : Jvm.MethodName)) ∈ lw_all := lw_g (lw_at lw_m4 120 rfl) rfl
theorem q945 : (Jvm.Cond.privateMethod ({ cls := "LandingTree", name := "canLay", desc := "(III)Z" } : Jvm.MethodName)) ∈ lw_tbl := lw_at lw_m4 121 rfl
theorem q946 : (Jvm.Cond.instanceMethod ({ cls := "LandingTree", name := "canLay", desc := "(III)Z" } : Jvm.MethodName)) ∈ lw_all := lw_g (lw_at lw_m4 122 rfl) rfl
theorem q947 : (Jvm.Cond.code ({ cls := "LandingTree", name := "canLay", desc := "(III)Z" } : Jvm.MethodName) prog_1_method_23_code (4 : Nat) (Option.some Jvm.ClassFile.FieldType.boolean)) ∈ lw_all := lw_g (lw_at lw_m4 123 rfl) rfl
theorem q948 : (Jvm.Cond.methodLink "LandingTree" (229 : Nat) ({ cls := "LandingTree", name := "takesPeople", desc := "(I)Z" } : Jvm.MethodName)) ∈ lw_all := lw_g (lw_at lw_m4 124 rfl) rfl
theorem q949 : (Jvm.Cond.privateMethod ({ cls := "LandingTree", name := "takesPeople", desc := "(I)Z" } : Jvm.MethodName)) ∈ lw_tbl := lw_at lw_m4 125 rfl
theorem q950 : (Jvm.Cond.instanceMethod ({ cls := "LandingTree", name := "takesPeople", desc := "(I)Z" } : Jvm.MethodName)) ∈ lw_all := lw_g (lw_at lw_m4 126 rfl) rfl
theorem q951 : (Jvm.Cond.code ({ cls := "LandingTree", name := "takesPeople", desc := "(I)Z" } : Jvm.MethodName) prog_1_method_22_code (3 : Nat) (Option.some Jvm.ClassFile.FieldType.boolean)) ∈ lw_all := lw_g (lw_at lw_m4 127 rfl) rfl
theorem q952 : (Jvm.Cond.constantLong "LandingTree" (319 : Nat) (-1 : Int64)) ∈ lw_all := lw_g (lw_at lw_m4 128 rfl) rfl
theorem q953 : (Jvm.Cond.methodLink "LandingTree" (321 : Nat) ({ cls := "LandingTree", name := "laysDays", desc := "(IIII)J" } : Jvm.MethodName)) ∈ lw_all := lw_g (lw_at lw_m4 129 rfl) rfl
theorem q954 : (Jvm.Cond.privateMethod ({ cls := "LandingTree", name := "laysDays", desc := "(IIII)J" } : Jvm.MethodName)) ∈ lw_tbl := lw_at lw_m4 130 rfl
theorem q955 : (Jvm.Cond.instanceMethod ({ cls := "LandingTree", name := "laysDays", desc := "(IIII)J" } : Jvm.MethodName)) ∈ lw_all := lw_g (lw_at lw_m4 131 rfl) rfl
theorem q956 : (Jvm.Cond.code ({ cls := "LandingTree", name := "laysDays", desc := "(IIII)J" } : Jvm.MethodName) prog_1_method_32_code (8 : Nat) (Option.some Jvm.ClassFile.FieldType.long)) ∈ lw_all := lw_g (lw_at lw_m4 132 rfl) rfl
theorem q957 : (Jvm.Cond.methodLink "LandingTree" (300 : Nat) ({ cls := "LandingTree$Landing", name := "toldPeople", desc := "()I" } : Jvm.MethodName)) ∈ lw_all := lw_g (lw_at lw_m4 133 rfl) rfl
theorem q958 : (Jvm.Cond.methodLink "LandingTree" (261 : Nat) ({ cls := "LandingTree", name := "clears", desc := "([[J)V" } : Jvm.MethodName)) ∈ lw_all := lw_g (lw_at lw_m4 134 rfl) rfl
theorem q959 : (Jvm.Cond.privateMethod ({ cls := "LandingTree", name := "clears", desc := "([[J)V" } : Jvm.MethodName)) ∈ lw_tbl := lw_at lw_m4 135 rfl
theorem q960 : (Jvm.Cond.instanceMethod ({ cls := "LandingTree", name := "clears", desc := "([[J)V" } : Jvm.MethodName)) ∈ lw_all := lw_g (lw_at lw_m4 136 rfl) rfl
theorem q961 : (Jvm.Cond.code ({ cls := "LandingTree", name := "clears", desc := "([[J)V" } : Jvm.MethodName) prog_1_method_27_code (4 : Nat) (Option.none : Option Jvm.ClassFile.FieldType)) ∈ lw_all := lw_g (lw_at lw_m4 137 rfl) rfl
theorem q962 : (Jvm.Cond.methodLink "LandingTree" (306 : Nat) ({ cls := "LandingTree", name := "powerOf", desc := "(II)J" } : Jvm.MethodName)) ∈ lw_all := lw_g (lw_at lw_m4 138 rfl) rfl
theorem q963 : (Jvm.Cond.static ({ cls := "LandingTree", name := "powerOf", desc := "(II)J" } : Jvm.MethodName)) ∈ lw_all := lw_g (lw_at lw_m4 139 rfl) rfl
theorem q964 : (Jvm.Cond.code ({ cls := "LandingTree", name := "powerOf", desc := "(II)J" } : Jvm.MethodName) prog_1_method_6_code (5 : Nat) (Option.some Jvm.ClassFile.FieldType.long)) ∈ lw_all := lw_g (lw_at lw_m4 140 rfl) rfl
theorem q965 : (Jvm.Cond.methodLink "LandingTree" (310 : Nat) ({ cls := "LandingTree", name := "personComes", desc := "(I)V" } : Jvm.MethodName)) ∈ lw_all := lw_g (lw_at lw_m4 141 rfl) rfl
theorem q966 : (Jvm.Cond.privateMethod ({ cls := "LandingTree", name := "personComes", desc := "(I)V" } : Jvm.MethodName)) ∈ lw_tbl := lw_at lw_m4 142 rfl
theorem q967 : (Jvm.Cond.instanceMethod ({ cls := "LandingTree", name := "personComes", desc := "(I)V" } : Jvm.MethodName)) ∈ lw_all := lw_g (lw_at lw_m4 143 rfl) rfl
theorem q968 : (Jvm.Cond.code ({ cls := "LandingTree", name := "personComes", desc := "(I)V" } : Jvm.MethodName) prog_1_method_29_code (6 : Nat) (Option.none : Option Jvm.ClassFile.FieldType)) ∈ lw_all := lw_g (lw_at lw_m4 144 rfl) rfl
theorem q969 : (Jvm.Cond.methodLink "LandingTree" (271 : Nat) ({ cls := "LandingTree", name := "thenAt", desc := "(II)LLandingTree$Moment;" } : Jvm.MethodName)) ∈ lw_all := lw_g (lw_at lw_m4 145 rfl) rfl
theorem q970 : (Jvm.Cond.privateMethod ({ cls := "LandingTree", name := "thenAt", desc := "(II)LLandingTree$Moment;" } : Jvm.MethodName)) ∈ lw_tbl := lw_at lw_m4 146 rfl
theorem q971 : (Jvm.Cond.instanceMethod ({ cls := "LandingTree", name := "thenAt", desc := "(II)LLandingTree$Moment;" } : Jvm.MethodName)) ∈ lw_all := lw_g (lw_at lw_m4 147 rfl) rfl
theorem q972 : (Jvm.Cond.code ({ cls := "LandingTree", name := "thenAt", desc := "(II)LLandingTree$Moment;" } : Jvm.MethodName) prog_1_method_26_code (3 : Nat) (Option.some (Jvm.ClassFile.FieldType.object "LandingTree$Moment"))) ∈ lw_all := lw_g (lw_at lw_m4 148 rfl) rfl
theorem q973 : (Jvm.Cond.methodLink "LandingTree" (238 : Nat) ({ cls := "LandingTree$Moment", name := "of", desc := "(II)LLandingTree$Moment;" } : Jvm.MethodName)) ∈ lw_all := lw_g (lw_at lw_m4 149 rfl) rfl
theorem q974 : (Jvm.Cond.methodLink "LandingTree" (251 : Nat) ({ cls := "LandingTree", name := "dryOf", desc := "(I)I" } : Jvm.MethodName)) ∈ lw_all := lw_g (lw_at lw_m4 150 rfl) rfl
theorem q975 : (Jvm.Cond.static ({ cls := "LandingTree", name := "dryOf", desc := "(I)I" } : Jvm.MethodName)) ∈ lw_all := lw_g (lw_at lw_m4 151 rfl) rfl
theorem q976 : (Jvm.Cond.code ({ cls := "LandingTree", name := "dryOf", desc := "(I)I" } : Jvm.MethodName) prog_1_method_24_code (1 : Nat) (Option.some Jvm.ClassFile.FieldType.int)) ∈ lw_all := lw_g (lw_at lw_m4 152 rfl) rfl
theorem q977 : (Jvm.Cond.methodLink "LandingTree" (254 : Nat) ({ cls := "LandingTree", name := "drownedOf", desc := "(I)I" } : Jvm.MethodName)) ∈ lw_all := lw_g (lw_at lw_m4 153 rfl) rfl
theorem q978 : (Jvm.Cond.static ({ cls := "LandingTree", name := "drownedOf", desc := "(I)I" } : Jvm.MethodName)) ∈ lw_all := lw_g (lw_at lw_m4 154 rfl) rfl
theorem q979 : (Jvm.Cond.code ({ cls := "LandingTree", name := "drownedOf", desc := "(I)I" } : Jvm.MethodName) prog_1_method_25_code (1 : Nat) (Option.some Jvm.ClassFile.FieldType.int)) ∈ lw_all := lw_g (lw_at lw_m4 155 rfl) rfl
theorem q980 : (Jvm.Cond.methodLink "LandingTree" (257 : Nat) ({ cls := "LandingTree$Moment", name := "ofPlant", desc := "(IIIIIII)LLandingTree$Moment;" } : Jvm.MethodName)) ∈ lw_all := lw_g (lw_at lw_m4 156 rfl) rfl
theorem q981 : (Jvm.Cond.methodLink "LandingTree" (274 : Nat) ({ cls := "LandingTree$Moment", name := "by", desc := "(III)LLandingTree$Moment;" } : Jvm.MethodName)) ∈ lw_all := lw_g (lw_at lw_m4 157 rfl) rfl
theorem q982 : (Jvm.Cond.methodLink "LandingTree" (278 : Nat) ({ cls := "LandingTree$Moment", name := "givesBy", desc := "(I)I" } : Jvm.MethodName)) ∈ lw_all := lw_g (lw_at lw_m4 158 rfl) rfl
theorem q983 : (Jvm.Cond.methodLink "LandingTree" (281 : Nat) ({ cls := "LandingTree", name := "takesComes", desc := "()V" } : Jvm.MethodName)) ∈ lw_all := lw_g (lw_at lw_m4 159 rfl) rfl
theorem q984 : (Jvm.Cond.privateMethod ({ cls := "LandingTree", name := "takesComes", desc := "()V" } : Jvm.MethodName)) ∈ lw_tbl := lw_at lw_m4 160 rfl
theorem q985 : (Jvm.Cond.instanceMethod ({ cls := "LandingTree", name := "takesComes", desc := "()V" } : Jvm.MethodName)) ∈ lw_all := lw_g (lw_at lw_m4 161 rfl) rfl
theorem q986 : (Jvm.Cond.code ({ cls := "LandingTree", name := "takesComes", desc := "()V" } : Jvm.MethodName) prog_1_method_28_code (3 : Nat) (Option.none : Option Jvm.ClassFile.FieldType)) ∈ lw_all := lw_g (lw_at lw_m4 162 rfl) rfl
theorem q987 : (Jvm.Cond.methodLink "LandingTree" (313 : Nat) ({ cls := "LandingTree", name := "sunComes", desc := "()V" } : Jvm.MethodName)) ∈ lw_all := lw_g (lw_at lw_m4 163 rfl) rfl
theorem q988 : (Jvm.Cond.privateMethod ({ cls := "LandingTree", name := "sunComes", desc := "()V" } : Jvm.MethodName)) ∈ lw_tbl := lw_at lw_m4 164 rfl
theorem q989 : (Jvm.Cond.instanceMethod ({ cls := "LandingTree", name := "sunComes", desc := "()V" } : Jvm.MethodName)) ∈ lw_all := lw_g (lw_at lw_m4 165 rfl) rfl
theorem q990 : (Jvm.Cond.code ({ cls := "LandingTree", name := "sunComes", desc := "()V" } : Jvm.MethodName) prog_1_method_31_code (5 : Nat) (Option.none : Option Jvm.ClassFile.FieldType)) ∈ lw_all := lw_g (lw_at lw_m4 166 rfl) rfl
theorem q991 : (Jvm.Cond.methodLink "LandingTree" (291 : Nat) ({ cls := "LandingTree$Moment", name := "tells", desc := "(II)I" } : Jvm.MethodName)) ∈ lw_all := lw_g (lw_at lw_m4 167 rfl) rfl
theorem q992 : (Jvm.Cond.constantLong "LandingTree" (294 : Nat) (5 : Int64)) ∈ lw_all := lw_g (lw_at lw_m4 168 rfl) rfl
theorem q993 : (Jvm.Cond.methodLink "LandingTree" (296 : Nat) ({ cls := "LandingTree", name := "endsBy", desc := "(IIIJ)V" } : Jvm.MethodName)) ∈ lw_all := lw_g (lw_at lw_m4 169 rfl) rfl
theorem q994 : (Jvm.Cond.privateMethod ({ cls := "LandingTree", name := "endsBy", desc := "(IIIJ)V" } : Jvm.MethodName)) ∈ lw_tbl := lw_at lw_m4 170 rfl
theorem q995 : (Jvm.Cond.instanceMethod ({ cls := "LandingTree", name := "endsBy", desc := "(IIIJ)V" } : Jvm.MethodName)) ∈ lw_all := lw_g (lw_at lw_m4 171 rfl) rfl
theorem q996 : (Jvm.Cond.code ({ cls := "LandingTree", name := "endsBy", desc := "(IIIJ)V" } : Jvm.MethodName) prog_1_method_30_code (9 : Nat) (Option.none : Option Jvm.ClassFile.FieldType)) ∈ lw_all := lw_g (lw_at lw_m4 172 rfl) rfl
theorem q998 : (Jvm.Cond.instanceMethod ({ cls := "LandingTree", name := "chance", desc := "(IIII)J" } : Jvm.MethodName)) ∈ lw_all := lw_g (lw_at lw_m4 174 rfl) rfl
theorem q999 : (Jvm.Cond.selects "LandingTree" ({ cls := "LandingTree", name := "chance", desc := "(IIII)J" } : Jvm.MethodName) ({ cls := "LandingTree", name := "chance", desc := "(IIII)J" } : Jvm.MethodName)) ∈ lw_all := lw_g (lw_at lw_m4 175 rfl) rfl
theorem q1000 : (Jvm.Cond.code ({ cls := "LandingTree", name := "chance", desc := "(IIII)J" } : Jvm.MethodName) prog_1_method_34_code (11 : Nat) (Option.some Jvm.ClassFile.FieldType.long)) ∈ lw_all := lw_g (lw_at lw_m4 176 rfl) rfl
theorem q1002 : (Jvm.Cond.instanceMethod ({ cls := "LandingTree", name := "toAsk", desc := "(IIII)J" } : Jvm.MethodName)) ∈ lw_all := lw_g (lw_at lw_m4 178 rfl) rfl
theorem q1003 : (Jvm.Cond.selects "LandingTree" ({ cls := "LandingTree", name := "toAsk", desc := "(IIII)J" } : Jvm.MethodName) ({ cls := "LandingTree", name := "toAsk", desc := "(IIII)J" } : Jvm.MethodName)) ∈ lw_all := lw_g (lw_at lw_m4 179 rfl) rfl
theorem q1004 : (Jvm.Cond.code ({ cls := "LandingTree", name := "toAsk", desc := "(IIII)J" } : Jvm.MethodName) prog_1_method_35_code (11 : Nat) (Option.some Jvm.ClassFile.FieldType.long)) ∈ lw_all := lw_g (lw_at lw_m4 180 rfl) rfl
theorem q1006 : (Jvm.Cond.instanceMethod ({ cls := "LandingTree", name := "movesOut", desc := "(IIII)J" } : Jvm.MethodName)) ∈ lw_all := lw_g (lw_at lw_m4 182 rfl) rfl
theorem q1007 : (Jvm.Cond.selects "LandingTree" ({ cls := "LandingTree", name := "movesOut", desc := "(IIII)J" } : Jvm.MethodName) ({ cls := "LandingTree", name := "movesOut", desc := "(IIII)J" } : Jvm.MethodName)) ∈ lw_all := lw_g (lw_at lw_m4 183 rfl) rfl
theorem q1008 : (Jvm.Cond.code ({ cls := "LandingTree", name := "movesOut", desc := "(IIII)J" } : Jvm.MethodName) prog_1_method_36_code (12 : Nat) (Option.some Jvm.ClassFile.FieldType.long)) ∈ lw_all := lw_g (lw_at lw_m4 184 rfl) rfl
theorem q1010 : (Jvm.Cond.instanceMethod ({ cls := "LandingTree", name := "few", desc := "(IIII)I" } : Jvm.MethodName)) ∈ lw_all := lw_g (lw_at lw_m4 186 rfl) rfl
theorem q1011 : (Jvm.Cond.selects "LandingTree" ({ cls := "LandingTree", name := "few", desc := "(IIII)I" } : Jvm.MethodName) ({ cls := "LandingTree", name := "few", desc := "(IIII)I" } : Jvm.MethodName)) ∈ lw_all := lw_g (lw_at lw_m4 187 rfl) rfl
theorem q1012 : (Jvm.Cond.code ({ cls := "LandingTree", name := "few", desc := "(IIII)I" } : Jvm.MethodName) prog_1_method_37_code (6 : Nat) (Option.some Jvm.ClassFile.FieldType.int)) ∈ lw_all := lw_g (lw_at lw_m4 188 rfl) rfl
theorem q1014 : (Jvm.Cond.instanceMethod ({ cls := "LandingTree", name := "pot", desc := "(IIII)J" } : Jvm.MethodName)) ∈ lw_all := lw_g (lw_at lw_m4 190 rfl) rfl
theorem q1015 : (Jvm.Cond.selects "LandingTree" ({ cls := "LandingTree", name := "pot", desc := "(IIII)J" } : Jvm.MethodName) ({ cls := "LandingTree", name := "pot", desc := "(IIII)J" } : Jvm.MethodName)) ∈ lw_all := lw_g (lw_at lw_m4 191 rfl) rfl
theorem q1016 : (Jvm.Cond.code ({ cls := "LandingTree", name := "pot", desc := "(IIII)J" } : Jvm.MethodName) prog_1_method_38_code (5 : Nat) (Option.some Jvm.ClassFile.FieldType.long)) ∈ lw_all := lw_g (lw_at lw_m4 192 rfl) rfl
theorem q1017 : (Jvm.Cond.constantLong "LandingTree" (325 : Nat) (-1000000000000 : Int64)) ∈ lw_all := lw_g (lw_at lw_m4 193 rfl) rfl
theorem q1019 : (Jvm.Cond.instanceMethod ({ cls := "LandingTree", name := "ruleFor", desc := "(IIIII)J" } : Jvm.MethodName)) ∈ lw_all := lw_g (lw_at lw_m4 195 rfl) rfl
theorem q1020 : (Jvm.Cond.selects "LandingTree" ({ cls := "LandingTree", name := "ruleFor", desc := "(IIIII)J" } : Jvm.MethodName) ({ cls := "LandingTree", name := "ruleFor", desc := "(IIIII)J" } : Jvm.MethodName)) ∈ lw_all := lw_g (lw_at lw_m4 196 rfl) rfl
theorem q1021 : (Jvm.Cond.code ({ cls := "LandingTree", name := "ruleFor", desc := "(IIIII)J" } : Jvm.MethodName) prog_1_method_39_code (12 : Nat) (Option.some Jvm.ClassFile.FieldType.long)) ∈ lw_all := lw_g (lw_at lw_m4 197 rfl) rfl
theorem q1023 : (Jvm.Cond.instanceMethod ({ cls := "LandingTree", name := "lasts", desc := "(II)I" } : Jvm.MethodName)) ∈ lw_all := lw_g (lw_at lw_m4 199 rfl) rfl
theorem q1024 : (Jvm.Cond.selects "LandingTree" ({ cls := "LandingTree", name := "lasts", desc := "(II)I" } : Jvm.MethodName) ({ cls := "LandingTree", name := "lasts", desc := "(II)I" } : Jvm.MethodName)) ∈ lw_all := lw_g (lw_at lw_m4 200 rfl) rfl
theorem q1025 : (Jvm.Cond.code ({ cls := "LandingTree", name := "lasts", desc := "(II)I" } : Jvm.MethodName) prog_1_method_41_code (3 : Nat) (Option.some Jvm.ClassFile.FieldType.int)) ∈ lw_all := lw_g (lw_at lw_m4 201 rfl) rfl
theorem q1026 : (Jvm.Cond.methodLink "LandingTree" (334 : Nat) ({ cls := "LandingTree", name := "lastsWith", desc := "(II)I" } : Jvm.MethodName)) ∈ lw_all := lw_g (lw_at lw_m4 202 rfl) rfl
theorem q1027 : (Jvm.Cond.privateMethod ({ cls := "LandingTree", name := "lastsWith", desc := "(II)I" } : Jvm.MethodName)) ∈ lw_tbl := lw_at lw_m4 203 rfl
theorem q1028 : (Jvm.Cond.instanceMethod ({ cls := "LandingTree", name := "lastsWith", desc := "(II)I" } : Jvm.MethodName)) ∈ lw_all := lw_g (lw_at lw_m4 204 rfl) rfl
theorem q1029 : (Jvm.Cond.code ({ cls := "LandingTree", name := "lastsWith", desc := "(II)I" } : Jvm.MethodName) prog_1_method_40_code (5 : Nat) (Option.some Jvm.ClassFile.FieldType.int)) ∈ lw_all := lw_g (lw_at lw_m4 205 rfl) rfl
theorem q1030 : (Jvm.Cond.methodLinkNest "LandingTree" (327 : Nat) ({ cls := "LandingTree$Landing", name := "at", desc := "(I)LLandingTree$Moment;" } : Jvm.MethodName) "LandingTree") ∈ lw_tbl := lw_at lw_m4 206 rfl
theorem q1031 : (Jvm.Cond.methodLink "LandingTree" (331 : Nat) ({ cls := "LandingTree$Plant", name := "dayEnds", desc := "(I)V" } : Jvm.MethodName)) ∈ lw_all := lw_g (lw_at lw_m4 207 rfl) rfl
theorem q1033 : (Jvm.Cond.instanceMethod ({ cls := "LandingTree", name := "needs", desc := "(II)I" } : Jvm.MethodName)) ∈ lw_all := lw_g (lw_at lw_m4 209 rfl) rfl
theorem q1034 : (Jvm.Cond.selects "LandingTree" ({ cls := "LandingTree", name := "needs", desc := "(II)I" } : Jvm.MethodName) ({ cls := "LandingTree", name := "needs", desc := "(II)I" } : Jvm.MethodName)) ∈ lw_all := lw_g (lw_at lw_m4 210 rfl) rfl
theorem q1035 : (Jvm.Cond.code ({ cls := "LandingTree", name := "needs", desc := "(II)I" } : Jvm.MethodName) prog_1_method_42_code (4 : Nat) (Option.some Jvm.ClassFile.FieldType.int)) ∈ lw_all := lw_g (lw_at lw_m4 211 rfl) rfl
theorem q1037 : (Jvm.Cond.instanceMethod ({ cls := "LandingTree", name := "week", desc := "(III)I" } : Jvm.MethodName)) ∈ lw_all := lw_g (lw_at lw_m4 213 rfl) rfl
theorem q1038 : (Jvm.Cond.selects "LandingTree" ({ cls := "LandingTree", name := "week", desc := "(III)I" } : Jvm.MethodName) ({ cls := "LandingTree", name := "week", desc := "(III)I" } : Jvm.MethodName)) ∈ lw_all := lw_g (lw_at lw_m4 214 rfl) rfl
theorem q1039 : (Jvm.Cond.code ({ cls := "LandingTree", name := "week", desc := "(III)I" } : Jvm.MethodName) prog_1_method_44_code (4 : Nat) (Option.some Jvm.ClassFile.FieldType.int)) ∈ lw_all := lw_g (lw_at lw_m4 215 rfl) rfl
theorem q1040 : (Jvm.Cond.methodLink "LandingTree" (347 : Nat) ({ cls := "LandingTree", name := "laysWeek", desc := "(IIII)V" } : Jvm.MethodName)) ∈ lw_all := lw_g (lw_at lw_m4 216 rfl) rfl
theorem q1041 : (Jvm.Cond.privateMethod ({ cls := "LandingTree", name := "laysWeek", desc := "(IIII)V" } : Jvm.MethodName)) ∈ lw_tbl := lw_at lw_m4 217 rfl
theorem q1042 : (Jvm.Cond.instanceMethod ({ cls := "LandingTree", name := "laysWeek", desc := "(IIII)V" } : Jvm.MethodName)) ∈ lw_all := lw_g (lw_at lw_m4 218 rfl) rfl
theorem q1043 : (Jvm.Cond.code ({ cls := "LandingTree", name := "laysWeek", desc := "(IIII)V" } : Jvm.MethodName) prog_1_method_43_code (7 : Nat) (Option.none : Option Jvm.ClassFile.FieldType)) ∈ lw_all := lw_g (lw_at lw_m4 219 rfl) rfl
theorem q1044 : (Jvm.Cond.methodLink "LandingTree" (343 : Nat) ({ cls := "LandingTree$Landing", name := "waters", desc := "(II)V" } : Jvm.MethodName)) ∈ lw_all := lw_g (lw_at lw_m4 220 rfl) rfl
theorem q1046 : (Jvm.Cond.instanceMethod ({ cls := "LandingTree", name := "spread", desc := "(II)I" } : Jvm.MethodName)) ∈ lw_all := lw_g (lw_at lw_m4 222 rfl) rfl
theorem q1047 : (Jvm.Cond.selects "LandingTree" ({ cls := "LandingTree", name := "spread", desc := "(II)I" } : Jvm.MethodName) ({ cls := "LandingTree", name := "spread", desc := "(II)I" } : Jvm.MethodName)) ∈ lw_all := lw_g (lw_at lw_m4 223 rfl) rfl
theorem q1048 : (Jvm.Cond.code ({ cls := "LandingTree", name := "spread", desc := "(II)I" } : Jvm.MethodName) prog_1_method_46_code (6 : Nat) (Option.some Jvm.ClassFile.FieldType.int)) ∈ lw_all := lw_g (lw_at lw_m4 224 rfl) rfl
theorem q1049 : (Jvm.Cond.methodLink "LandingTree" (354 : Nat) ({ cls := "LandingTree$Plant", name := "lives", desc := "()Z" } : Jvm.MethodName)) ∈ lw_all := lw_g (lw_at lw_m4 225 rfl) rfl
theorem q1050 : (Jvm.Cond.methodLink "LandingTree" (357 : Nat) ({ cls := "LandingTree", name := "spreads", desc := "(IIII)V" } : Jvm.MethodName)) ∈ lw_all := lw_g (lw_at lw_m4 226 rfl) rfl
theorem q1051 : (Jvm.Cond.privateMethod ({ cls := "LandingTree", name := "spreads", desc := "(IIII)V" } : Jvm.MethodName)) ∈ lw_tbl := lw_at lw_m4 227 rfl
theorem q1052 : (Jvm.Cond.instanceMethod ({ cls := "LandingTree", name := "spreads", desc := "(IIII)V" } : Jvm.MethodName)) ∈ lw_all := lw_g (lw_at lw_m4 228 rfl) rfl
theorem q1053 : (Jvm.Cond.code ({ cls := "LandingTree", name := "spreads", desc := "(IIII)V" } : Jvm.MethodName) prog_1_method_45_code (8 : Nat) (Option.none : Option Jvm.ClassFile.FieldType)) ∈ lw_all := lw_g (lw_at lw_m4 229 rfl) rfl
theorem q1055 : (Jvm.Cond.instanceMethod ({ cls := "LandingTree", name := "comes", desc := "(III)J" } : Jvm.MethodName)) ∈ lw_all := lw_g (lw_at lw_m4 231 rfl) rfl
theorem q1056 : (Jvm.Cond.selects "LandingTree" ({ cls := "LandingTree", name := "comes", desc := "(III)J" } : Jvm.MethodName) ({ cls := "LandingTree", name := "comes", desc := "(III)J" } : Jvm.MethodName)) ∈ lw_all := lw_g (lw_at lw_m4 232 rfl) rfl
theorem q1057 : (Jvm.Cond.code ({ cls := "LandingTree", name := "comes", desc := "(III)J" } : Jvm.MethodName) prog_1_method_47_code (8 : Nat) (Option.some Jvm.ClassFile.FieldType.long)) ∈ lw_all := lw_g (lw_at lw_m4 233 rfl) rfl
theorem q1058 : (Jvm.Cond.constantLong "LandingTree" (360 : Nat) (-2 : Int64)) ∈ lw_all := lw_g (lw_at lw_m4 234 rfl) rfl
theorem q1059 : (Jvm.Cond.methodLink "LandingTree" (362 : Nat) ({ cls := "LandingTree", name := "divisor", desc := "(JJ)J" } : Jvm.MethodName)) ∈ lw_all := lw_g (lw_at lw_m4 235 rfl) rfl
theorem q1060 : (Jvm.Cond.static ({ cls := "LandingTree", name := "divisor", desc := "(JJ)J" } : Jvm.MethodName)) ∈ lw_all := lw_g (lw_at lw_m4 236 rfl) rfl
theorem q1061 : (Jvm.Cond.code ({ cls := "LandingTree", name := "divisor", desc := "(JJ)J" } : Jvm.MethodName) prog_1_method_5_code (10 : Nat) (Option.some Jvm.ClassFile.FieldType.long)) ∈ lw_all := lw_g (lw_at lw_m4 237 rfl) rfl
theorem q1063 : (Jvm.Cond.instanceMethod ({ cls := "LandingTree", name := "share", desc := "(II)I" } : Jvm.MethodName)) ∈ lw_all := lw_g (lw_at lw_m4 239 rfl) rfl
theorem q1064 : (Jvm.Cond.selects "LandingTree" ({ cls := "LandingTree", name := "share", desc := "(II)I" } : Jvm.MethodName) ({ cls := "LandingTree", name := "share", desc := "(II)I" } : Jvm.MethodName)) ∈ lw_all := lw_g (lw_at lw_m5 0 rfl) rfl
theorem q1065 : (Jvm.Cond.code ({ cls := "LandingTree", name := "share", desc := "(II)I" } : Jvm.MethodName) prog_1_method_49_code (8 : Nat) (Option.some Jvm.ClassFile.FieldType.int)) ∈ lw_all := lw_g (lw_at lw_m5 1 rfl) rfl
theorem q1066 : (Jvm.Cond.methodLink "LandingTree" (366 : Nat) ({ cls := "LandingTree", name := "theOne", desc := "()I" } : Jvm.MethodName)) ∈ lw_all := lw_g (lw_at lw_m5 2 rfl) rfl
theorem q1067 : (Jvm.Cond.privateMethod ({ cls := "LandingTree", name := "theOne", desc := "()I" } : Jvm.MethodName)) ∈ lw_tbl := lw_at lw_m5 3 rfl
theorem q1068 : (Jvm.Cond.instanceMethod ({ cls := "LandingTree", name := "theOne", desc := "()I" } : Jvm.MethodName)) ∈ lw_all := lw_g (lw_at lw_m5 4 rfl) rfl
theorem q1069 : (Jvm.Cond.code ({ cls := "LandingTree", name := "theOne", desc := "()I" } : Jvm.MethodName) prog_1_method_48_code (3 : Nat) (Option.some Jvm.ClassFile.FieldType.int)) ∈ lw_all := lw_g (lw_at lw_m5 5 rfl) rfl
theorem q1071 : (Jvm.Cond.instanceMethod ({ cls := "LandingTree", name := "rota", desc := "(III)I" } : Jvm.MethodName)) ∈ lw_all := lw_g (lw_at lw_m5 7 rfl) rfl
theorem q1072 : (Jvm.Cond.selects "LandingTree" ({ cls := "LandingTree", name := "rota", desc := "(III)I" } : Jvm.MethodName) ({ cls := "LandingTree", name := "rota", desc := "(III)I" } : Jvm.MethodName)) ∈ lw_all := lw_g (lw_at lw_m5 8 rfl) rfl
theorem q1073 : (Jvm.Cond.code ({ cls := "LandingTree", name := "rota", desc := "(III)I" } : Jvm.MethodName) prog_1_method_51_code (9 : Nat) (Option.some Jvm.ClassFile.FieldType.int)) ∈ lw_all := lw_g (lw_at lw_m5 9 rfl) rfl
theorem q1074 : (Jvm.Cond.classLink "LandingTree" (370 : Nat) "LandingTree$Clerk") ∈ lw_all := lw_g (lw_at lw_m5 10 rfl) rfl
theorem q1076 : (Jvm.Cond.methodLink "LandingTree" (375 : Nat) ({ cls := "LandingTree$Clerk", name := "<init>", desc := "(LLandingTree;I)V" } : Jvm.MethodName)) ∈ lw_all := lw_g (lw_at lw_m5 12 rfl) rfl
theorem q1081 : (Jvm.Cond.fieldLinkNest "LandingTree" (374 : Nat) "LandingTree$Clerk" "row" "[I" "LandingTree") ∈ lw_tbl := lw_at lw_m5 17 rfl
theorem q1085 : (Jvm.Cond.fieldLinkNest "LandingTree" (369 : Nat) "LandingTree$Clerk" "many" "I" "LandingTree") ∈ lw_tbl := lw_at lw_m5 21 rfl
theorem q1104 : (Jvm.Cond.methodLink "LandingTree" (378 : Nat) ({ cls := "LandingTree$Clerk", name := "read", desc := "()I" } : Jvm.MethodName)) ∈ lw_all := lw_g (lw_at lw_m5 40 rfl) rfl
theorem q1141 : (Jvm.Cond.methodLink "LandingTree" (379 : Nat) ({ cls := "LandingTree", name := "daysOf", desc := "(LLandingTree$Clerk;I)I" } : Jvm.MethodName)) ∈ lw_all := lw_g (lw_at lw_m5 77 rfl) rfl
theorem q1142 : (Jvm.Cond.privateMethod ({ cls := "LandingTree", name := "daysOf", desc := "(LLandingTree$Clerk;I)I" } : Jvm.MethodName)) ∈ lw_tbl := lw_at lw_m5 78 rfl
theorem q1143 : (Jvm.Cond.instanceMethod ({ cls := "LandingTree", name := "daysOf", desc := "(LLandingTree$Clerk;I)I" } : Jvm.MethodName)) ∈ lw_all := lw_g (lw_at lw_m5 79 rfl) rfl
theorem q1144 : (Jvm.Cond.code ({ cls := "LandingTree", name := "daysOf", desc := "(LLandingTree$Clerk;I)I" } : Jvm.MethodName) prog_1_method_50_code (5 : Nat) (Option.some Jvm.ClassFile.FieldType.int)) ∈ lw_all := lw_g (lw_at lw_m5 80 rfl) rfl
theorem q1145 : (Jvm.Cond.methodLink "LandingTree" (383 : Nat) ({ cls := "LandingTree$Landing", name := "dayEnds", desc := "(I)V" } : Jvm.MethodName)) ∈ lw_all := lw_g (lw_at lw_m5 81 rfl) rfl
theorem q1147 : (Jvm.Cond.instanceMethod ({ cls := "LandingTree", name := "alone", desc := "(II)I" } : Jvm.MethodName)) ∈ lw_all := lw_g (lw_at lw_m5 83 rfl) rfl
theorem q1148 : (Jvm.Cond.selects "LandingTree" ({ cls := "LandingTree", name := "alone", desc := "(II)I" } : Jvm.MethodName) ({ cls := "LandingTree", name := "alone", desc := "(II)I" } : Jvm.MethodName)) ∈ lw_all := lw_g (lw_at lw_m5 84 rfl) rfl
theorem q1149 : (Jvm.Cond.code ({ cls := "LandingTree", name := "alone", desc := "(II)I" } : Jvm.MethodName) prog_1_method_56_code (8 : Nat) (Option.some Jvm.ClassFile.FieldType.int)) ∈ lw_all := lw_g (lw_at lw_m5 85 rfl) rfl
theorem q1150 : (Jvm.Cond.methodLink "LandingTree" (393 : Nat) ({ cls := "LandingTree", name := "isWorth", desc := "(III)Z" } : Jvm.MethodName)) ∈ lw_all := lw_g (lw_at lw_m5 86 rfl) rfl
theorem q1151 : (Jvm.Cond.privateMethod ({ cls := "LandingTree", name := "isWorth", desc := "(III)Z" } : Jvm.MethodName)) ∈ lw_tbl := lw_at lw_m5 87 rfl
theorem q1152 : (Jvm.Cond.instanceMethod ({ cls := "LandingTree", name := "isWorth", desc := "(III)Z" } : Jvm.MethodName)) ∈ lw_all := lw_g (lw_at lw_m5 88 rfl) rfl
theorem q1153 : (Jvm.Cond.code ({ cls := "LandingTree", name := "isWorth", desc := "(III)Z" } : Jvm.MethodName) prog_1_method_55_code (6 : Nat) (Option.some Jvm.ClassFile.FieldType.boolean)) ∈ lw_all := lw_g (lw_at lw_m5 89 rfl) rfl
theorem q1154 : (Jvm.Cond.methodLink "LandingTree" (384 : Nat) ({ cls := "LandingTree", name := "worthOf", desc := "(I)I" } : Jvm.MethodName)) ∈ lw_all := lw_g (lw_at lw_m5 90 rfl) rfl
theorem q1155 : (Jvm.Cond.privateMethod ({ cls := "LandingTree", name := "worthOf", desc := "(I)I" } : Jvm.MethodName)) ∈ lw_tbl := lw_at lw_m5 91 rfl
theorem q1156 : (Jvm.Cond.instanceMethod ({ cls := "LandingTree", name := "worthOf", desc := "(I)I" } : Jvm.MethodName)) ∈ lw_all := lw_g (lw_at lw_m5 92 rfl) rfl
theorem q1157 : (Jvm.Cond.code ({ cls := "LandingTree", name := "worthOf", desc := "(I)I" } : Jvm.MethodName) prog_1_method_53_code (2 : Nat) (Option.some Jvm.ClassFile.FieldType.int)) ∈ lw_all := lw_g (lw_at lw_m5 93 rfl) rfl
theorem q1158 : (Jvm.Cond.methodLink "LandingTree" (390 : Nat) ({ cls := "LandingTree", name := "costOf", desc := "(I)I" } : Jvm.MethodName)) ∈ lw_all := lw_g (lw_at lw_m5 94 rfl) rfl
theorem q1159 : (Jvm.Cond.privateMethod ({ cls := "LandingTree", name := "costOf", desc := "(I)I" } : Jvm.MethodName)) ∈ lw_tbl := lw_at lw_m5 95 rfl
theorem q1160 : (Jvm.Cond.instanceMethod ({ cls := "LandingTree", name := "costOf", desc := "(I)I" } : Jvm.MethodName)) ∈ lw_all := lw_g (lw_at lw_m5 96 rfl) rfl
theorem q1161 : (Jvm.Cond.code ({ cls := "LandingTree", name := "costOf", desc := "(I)I" } : Jvm.MethodName) prog_1_method_52_code (2 : Nat) (Option.some Jvm.ClassFile.FieldType.int)) ∈ lw_all := lw_g (lw_at lw_m5 97 rfl) rfl
theorem q1162 : (Jvm.Cond.methodLink "LandingTree" (396 : Nat) ({ cls := "LandingTree", name := "gainOf", desc := "(II)I" } : Jvm.MethodName)) ∈ lw_all := lw_g (lw_at lw_m5 98 rfl) rfl
theorem q1163 : (Jvm.Cond.privateMethod ({ cls := "LandingTree", name := "gainOf", desc := "(II)I" } : Jvm.MethodName)) ∈ lw_tbl := lw_at lw_m5 99 rfl
theorem q1164 : (Jvm.Cond.instanceMethod ({ cls := "LandingTree", name := "gainOf", desc := "(II)I" } : Jvm.MethodName)) ∈ lw_all := lw_g (lw_at lw_m5 100 rfl) rfl
theorem q1165 : (Jvm.Cond.code ({ cls := "LandingTree", name := "gainOf", desc := "(II)I" } : Jvm.MethodName) prog_1_method_54_code (3 : Nat) (Option.some Jvm.ClassFile.FieldType.int)) ∈ lw_all := lw_g (lw_at lw_m5 101 rfl) rfl
theorem q1166 : (Jvm.Cond.methodLink "LandingTree" (387 : Nat) ({ cls := "LandingTree", name := "has", desc := "(II)Z" } : Jvm.MethodName)) ∈ lw_all := lw_g (lw_at lw_m5 102 rfl) rfl
theorem q1167 : (Jvm.Cond.static ({ cls := "LandingTree", name := "has", desc := "(II)Z" } : Jvm.MethodName)) ∈ lw_all := lw_g (lw_at lw_m5 103 rfl) rfl
theorem q1168 : (Jvm.Cond.code ({ cls := "LandingTree", name := "has", desc := "(II)Z" } : Jvm.MethodName) prog_1_method_3_code (2 : Nat) (Option.some Jvm.ClassFile.FieldType.boolean)) ∈ lw_all := lw_g (lw_at lw_m5 104 rfl) rfl
theorem q1170 : (Jvm.Cond.instanceMethod ({ cls := "LandingTree", name := "whoDid", desc := "(IIIII)J" } : Jvm.MethodName)) ∈ lw_all := lw_g (lw_at lw_m5 106 rfl) rfl
theorem q1171 : (Jvm.Cond.selects "LandingTree" ({ cls := "LandingTree", name := "whoDid", desc := "(IIIII)J" } : Jvm.MethodName) ({ cls := "LandingTree", name := "whoDid", desc := "(IIIII)J" } : Jvm.MethodName)) ∈ lw_all := lw_g (lw_at lw_m5 107 rfl) rfl
theorem q1172 : (Jvm.Cond.code ({ cls := "LandingTree", name := "whoDid", desc := "(IIIII)J" } : Jvm.MethodName) prog_1_method_59_code (13 : Nat) (Option.some Jvm.ClassFile.FieldType.long)) ∈ lw_all := lw_g (lw_at lw_m5 108 rfl) rfl
theorem q1173 : (Jvm.Cond.methodLink "LandingTree" (403 : Nat) ({ cls := "LandingTree", name := "setsFor", desc := "(IIIII)I" } : Jvm.MethodName)) ∈ lw_all := lw_g (lw_at lw_m5 109 rfl) rfl
theorem q1174 : (Jvm.Cond.privateMethod ({ cls := "LandingTree", name := "setsFor", desc := "(IIIII)I" } : Jvm.MethodName)) ∈ lw_tbl := lw_at lw_m5 110 rfl
theorem q1175 : (Jvm.Cond.instanceMethod ({ cls := "LandingTree", name := "setsFor", desc := "(IIIII)I" } : Jvm.MethodName)) ∈ lw_all := lw_g (lw_at lw_m5 111 rfl) rfl
theorem q1176 : (Jvm.Cond.code ({ cls := "LandingTree", name := "setsFor", desc := "(IIIII)I" } : Jvm.MethodName) prog_1_method_58_code (8 : Nat) (Option.some Jvm.ClassFile.FieldType.int)) ∈ lw_all := lw_g (lw_at lw_m5 112 rfl) rfl
theorem q1177 : (Jvm.Cond.methodLink "LandingTree" (399 : Nat) ({ cls := "LandingTree", name := "fits", desc := "(IIII)Z" } : Jvm.MethodName)) ∈ lw_all := lw_g (lw_at lw_m5 113 rfl) rfl
theorem q1178 : (Jvm.Cond.privateMethod ({ cls := "LandingTree", name := "fits", desc := "(IIII)Z" } : Jvm.MethodName)) ∈ lw_tbl := lw_at lw_m5 114 rfl
theorem q1179 : (Jvm.Cond.instanceMethod ({ cls := "LandingTree", name := "fits", desc := "(IIII)Z" } : Jvm.MethodName)) ∈ lw_all := lw_g (lw_at lw_m5 115 rfl) rfl
theorem q1180 : (Jvm.Cond.code ({ cls := "LandingTree", name := "fits", desc := "(IIII)Z" } : Jvm.MethodName) prog_1_method_57_code (5 : Nat) (Option.some Jvm.ClassFile.FieldType.boolean)) ∈ lw_all := lw_g (lw_at lw_m5 116 rfl) rfl
theorem q1182 : (Jvm.Cond.instanceMethod ({ cls := "LandingTree", name := "can", desc := "(IIII)J" } : Jvm.MethodName)) ∈ lw_all := lw_g (lw_at lw_m5 118 rfl) rfl
theorem q1183 : (Jvm.Cond.selects "LandingTree" ({ cls := "LandingTree", name := "can", desc := "(IIII)J" } : Jvm.MethodName) ({ cls := "LandingTree", name := "can", desc := "(IIII)J" } : Jvm.MethodName)) ∈ lw_all := lw_g (lw_at lw_m5 119 rfl) rfl
theorem q1184 : (Jvm.Cond.code ({ cls := "LandingTree", name := "can", desc := "(IIII)J" } : Jvm.MethodName) prog_1_method_60_code (12 : Nat) (Option.some Jvm.ClassFile.FieldType.long)) ∈ lw_all := lw_g (lw_at lw_m5 120 rfl) rfl
theorem q1186 : (Jvm.Cond.instanceMethod ({ cls := "LandingTree", name := "seed", desc := "(I)Z" } : Jvm.MethodName)) ∈ lw_all := lw_g (lw_at lw_m5 122 rfl) rfl
theorem q1187 : (Jvm.Cond.selects "LandingTree" ({ cls := "LandingTree", name := "seed", desc := "(I)Z" } : Jvm.MethodName) ({ cls := "LandingTree", name := "seed", desc := "(I)Z" } : Jvm.MethodName)) ∈ lw_all := lw_g (lw_at lw_m5 123 rfl) rfl
theorem q1188 : (Jvm.Cond.code ({ cls := "LandingTree", name := "seed", desc := "(I)Z" } : Jvm.MethodName) prog_1_method_61_code (2 : Nat) (Option.some Jvm.ClassFile.FieldType.boolean)) ∈ lw_all := lw_g (lw_at lw_m5 124 rfl) rfl
theorem q1189 : (Jvm.Cond.constant "LandingTree" (407 : Nat) (65536 : Int32)) ∈ lw_all := lw_g (lw_at lw_m5 125 rfl) rfl
theorem q1191 : (Jvm.Cond.instanceMethod ({ cls := "LandingTree", name := "keep", desc := "()I" } : Jvm.MethodName)) ∈ lw_all := lw_g (lw_at lw_m5 127 rfl) rfl
theorem q1192 : (Jvm.Cond.selects "LandingTree" ({ cls := "LandingTree", name := "keep", desc := "()I" } : Jvm.MethodName) ({ cls := "LandingTree", name := "keep", desc := "()I" } : Jvm.MethodName)) ∈ lw_all := lw_g (lw_at lw_m5 128 rfl) rfl
theorem q1193 : (Jvm.Cond.code ({ cls := "LandingTree", name := "keep", desc := "()I" } : Jvm.MethodName) prog_1_method_62_code (6 : Nat) (Option.some Jvm.ClassFile.FieldType.int)) ∈ lw_all := lw_g (lw_at lw_m5 129 rfl) rfl
theorem q1195 : (Jvm.Cond.instanceMethod ({ cls := "LandingTree", name := "undo", desc := "()Z" } : Jvm.MethodName)) ∈ lw_all := lw_g (lw_at lw_m5 131 rfl) rfl
theorem q1196 : (Jvm.Cond.selects "LandingTree" ({ cls := "LandingTree", name := "undo", desc := "()Z" } : Jvm.MethodName) ({ cls := "LandingTree", name := "undo", desc := "()Z" } : Jvm.MethodName)) ∈ lw_all := lw_g (lw_at lw_m5 132 rfl) rfl
theorem q1197 : (Jvm.Cond.code ({ cls := "LandingTree", name := "undo", desc := "()Z" } : Jvm.MethodName) prog_1_method_63_code (1 : Nat) (Option.some Jvm.ClassFile.FieldType.boolean)) ∈ lw_all := lw_g (lw_at lw_m5 133 rfl) rfl
theorem q1199 : (Jvm.Cond.instanceMethod ({ cls := "LandingTree", name := "check", desc := "(II)I" } : Jvm.MethodName)) ∈ lw_all := lw_g (lw_at lw_m5 135 rfl) rfl
theorem q1200 : (Jvm.Cond.selects "LandingTree" ({ cls := "LandingTree", name := "check", desc := "(II)I" } : Jvm.MethodName) ({ cls := "LandingTree", name := "check", desc := "(II)I" } : Jvm.MethodName)) ∈ lw_all := lw_g (lw_at lw_m5 136 rfl) rfl
theorem q1201 : (Jvm.Cond.code ({ cls := "LandingTree", name := "check", desc := "(II)I" } : Jvm.MethodName) prog_1_method_65_code (4 : Nat) (Option.some Jvm.ClassFile.FieldType.int)) ∈ lw_all := lw_g (lw_at lw_m5 137 rfl) rfl
theorem q1202 : (Jvm.Cond.methodLink "LandingTree" (411 : Nat) ({ cls := "LandingTree", name := "numberAt", desc := "(I)I" } : Jvm.MethodName)) ∈ lw_all := lw_g (lw_at lw_m5 138 rfl) rfl
theorem q1203 : (Jvm.Cond.privateMethod ({ cls := "LandingTree", name := "numberAt", desc := "(I)I" } : Jvm.MethodName)) ∈ lw_tbl := lw_at lw_m5 139 rfl
theorem q1204 : (Jvm.Cond.instanceMethod ({ cls := "LandingTree", name := "numberAt", desc := "(I)I" } : Jvm.MethodName)) ∈ lw_all := lw_g (lw_at lw_m5 140 rfl) rfl
theorem q1205 : (Jvm.Cond.code ({ cls := "LandingTree", name := "numberAt", desc := "(I)I" } : Jvm.MethodName) prog_1_method_64_code (4 : Nat) (Option.some Jvm.ClassFile.FieldType.int)) ∈ lw_all := lw_g (lw_at lw_m5 141 rfl) rfl
theorem q1207 : (Jvm.Cond.instanceMethod ({ cls := "LandingTree", name := "count", desc := "(I)I" } : Jvm.MethodName)) ∈ lw_all := lw_g (lw_at lw_m5 143 rfl) rfl
theorem q1208 : (Jvm.Cond.selects "LandingTree" ({ cls := "LandingTree", name := "count", desc := "(I)I" } : Jvm.MethodName) ({ cls := "LandingTree", name := "count", desc := "(I)I" } : Jvm.MethodName)) ∈ lw_all := lw_g (lw_at lw_m5 144 rfl) rfl
theorem q1209 : (Jvm.Cond.code ({ cls := "LandingTree", name := "count", desc := "(I)I" } : Jvm.MethodName) prog_1_method_68_code (2 : Nat) (Option.some Jvm.ClassFile.FieldType.int)) ∈ lw_all := lw_g (lw_at lw_m5 145 rfl) rfl
theorem q1210 : (Jvm.Cond.methodLink "LandingTree" (415 : Nat) ({ cls := "LandingTree", name := "toldPlants", desc := "()I" } : Jvm.MethodName)) ∈ lw_all := lw_g (lw_at lw_m5 146 rfl) rfl
theorem q1211 : (Jvm.Cond.privateMethod ({ cls := "LandingTree", name := "toldPlants", desc := "()I" } : Jvm.MethodName)) ∈ lw_tbl := lw_at lw_m5 147 rfl
theorem q1212 : (Jvm.Cond.instanceMethod ({ cls := "LandingTree", name := "toldPlants", desc := "()I" } : Jvm.MethodName)) ∈ lw_all := lw_g (lw_at lw_m5 148 rfl) rfl
theorem q1213 : (Jvm.Cond.code ({ cls := "LandingTree", name := "toldPlants", desc := "()I" } : Jvm.MethodName) prog_1_method_66_code (3 : Nat) (Option.some Jvm.ClassFile.FieldType.int)) ∈ lw_all := lw_g (lw_at lw_m5 149 rfl) rfl
theorem q1214 : (Jvm.Cond.methodLink "LandingTree" (418 : Nat) ({ cls := "LandingTree", name := "toldPeople", desc := "()I" } : Jvm.MethodName)) ∈ lw_all := lw_g (lw_at lw_m5 150 rfl) rfl
theorem q1215 : (Jvm.Cond.privateMethod ({ cls := "LandingTree", name := "toldPeople", desc := "()I" } : Jvm.MethodName)) ∈ lw_tbl := lw_at lw_m5 151 rfl
theorem q1216 : (Jvm.Cond.instanceMethod ({ cls := "LandingTree", name := "toldPeople", desc := "()I" } : Jvm.MethodName)) ∈ lw_all := lw_g (lw_at lw_m5 152 rfl) rfl
theorem q1217 : (Jvm.Cond.code ({ cls := "LandingTree", name := "toldPeople", desc := "()I" } : Jvm.MethodName) prog_1_method_67_code (3 : Nat) (Option.some Jvm.ClassFile.FieldType.int)) ∈ lw_all := lw_g (lw_at lw_m5 153 rfl) rfl
theorem in_X0 : ∀ w ∈ wsX00, w ∈ lw_all := lw_in wsX00 [387, 389, 391, 393, 395, 397, 399, 401, 403, 405, 407, 409, 411, 413, 415, 417, 419, 421, 423, 425, 427, 429, 431, 433, 435, 437, 439, 441, 443, 445, 447, 449, 451] (by decide +kernel) (by decide +kernel)
