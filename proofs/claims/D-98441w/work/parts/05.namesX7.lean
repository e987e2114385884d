/-! LandingTreeModel -/
set_option maxRecDepth 100000
def RX7 : String := "LandingTreeModel"
def TX7 : u_T := fun k => match k with
  | 0 => ("LandingTreeModel", "now", "[I", true)
  | 1 => ("LandingTreeModel", "aside", "[I", true)
  | 2 => ("LandingTreeModel", "kept", "[I", true)
  | 3 => ("LandingTreeModel", "tape", "[B", true)
  | 4 => ("LandingTreeModel", "taped", "I", false)
  | 5 => ("LandingTreeModel", "place0", "I", false)
  | 6 => ("LandingTreeModel", "length0", "I", false)
  | 7 => ("LandingTreeModel", "fault", "I", false)
  | 8 => ("LandingTreeModel", "number0", "I", false)
  | 9 => ("LandingTreeModel", "open", "I", false)
  | 10 => ("LandingTreeModel", "codeMany", "I", false)
  | 11 => ("LandingTreeModel", "waiting", "I", false)
  | 12 => ("LandingTreeModel", "saidMany", "I", false)
  | 13 => ("LandingTreeModel", "said", "[I", true)
  | 14 => ("LandingTreeModel", "waitsAt", "[I", true)
  | 15 => ("LandingTreeModel", "saidLetter", "[I", true)
  | 16 => ("LandingTreeModel", "saidFrom", "[I", true)
  | 17 => ("LandingTreeModel", "saidHalf", "[I", true)
  | 18 => ("LandingTreeModel", "saidTo", "[I", true)
  | 19 => ("LandingTreeModel", "codes", "[I", true)
  | 20 => ("LandingTreeModel", "clauseMany", "[I", true)
  | 21 => ("LandingTreeModel", "clauseOf", "[I", true)
  | 22 => ("LandingTreeModel", "codeFrom", "[I", true)
  | 23 => ("LandingTreeModel", "codeHalf", "[I", true)
  | 24 => ("LandingTreeModel", "codeTo", "[I", true)
  | 25 => ("LandingTreeModel", "stack", "[I", true)
  | 26 => ("LandingTreeModel", "facts", "[I", true)
  | 27 => ("LandingTreeModel", "cupsNow", "I", false)
  | 28 => ("LandingTreeModel", "overNow", "I", false)
  | 29 => ("LandingTreeModel", "sunnyNow", "I", false)
  | 30 => ("LandingTreeModel", "givenNow", "[I", true)
  | 31 => ("LandingTreeModel", "ruleCups", "I", false)
  | 32 => ("LandingTreeModel", "ruleBelow", "I", false)
  | 33 => ("LandingTreeModel", "thePlant", "I", false)
  | 34 => ("LandingTreeModel", "theSeen", "I", false)
  | 35 => ("LandingTreeModel", "someOf", "[I", true)
  | 36 => ("LandingTreeModel", "someTenths", "[I", true)
  | 37 => ("LandingTreeModel", "weightOf", "[J", true)
  | 38 => ("LandingTreeModel", "weightThen", "[J", true)
  | 39 => ("LandingTreeModel", "deadWeight", "J", false)
  | 40 => ("LandingTreeModel", "wetNow", "[J", true)
  | 41 => ("LandingTreeModel", "wetThen", "[J", true)
  | 42 => ("LandingTreeModel", "lastsBy", "[I", true)
  | 43 => ("LandingTreeModel", "spreadNow", "[I", true)
  | 44 => ("LandingTreeModel", "spreadBest", "[I", true)
  | 45 => ("LandingTreeModel", "comeMany", "[J", true)
  | 46 => ("LandingTreeModel", "rotaMany", "I", false)
  | 47 => ("LandingTreeModel", "weeks", "I", false)
  | 48 => ("LandingTreeModel", "rotaWho", "[I", true)
  | 49 => ("LandingTreeModel", "rotaDead", "I", false)
  | 50 => ("LandingTreeModel", "rotaWet", "I", false)
  | 51 => ("LandingTreeModel", "costOf", "[I", true)
  | 52 => ("LandingTreeModel", "worthOf", "[I", true)
  | _ => ("LandingTreeModel", "isKept", "Z", false)
def tyX7 : Nat → FieldType := fun k => match k with
  | 0 => .array .int
  | 1 => .array .int
  | 2 => .array .int
  | 3 => .array .byte
  | 4 => .int
  | 5 => .int
  | 6 => .int
  | 7 => .int
  | 8 => .int
  | 9 => .int
  | 10 => .int
  | 11 => .int
  | 12 => .int
  | 13 => .array .int
  | 14 => .array .int
  | 15 => .array .int
  | 16 => .array .int
  | 17 => .array .int
  | 18 => .array .int
  | 19 => .array .int
  | 20 => .array .int
  | 21 => .array .int
  | 22 => .array .int
  | 23 => .array .int
  | 24 => .array .int
  | 25 => .array .int
  | 26 => .array .int
  | 27 => .int
  | 28 => .int
  | 29 => .int
  | 30 => .array .int
  | 31 => .int
  | 32 => .int
  | 33 => .int
  | 34 => .int
  | 35 => .array .int
  | 36 => .array .int
  | 37 => .array .long
  | 38 => .array .long
  | 39 => .long
  | 40 => .array .long
  | 41 => .array .long
  | 42 => .array .int
  | 43 => .array .int
  | 44 => .array .int
  | 45 => .array .long
  | 46 => .int
  | 47 => .int
  | 48 => .array .int
  | 49 => .int
  | 50 => .int
  | 51 => .array .int
  | 52 => .array .int
  | _ => .boolean
abbrev wsX70 : List Cond := u_ws RX7 TX7 54
set_option maxRecDepth 100000 in
theorem nmX7 : ∀ a, a < 54 → ∀ b, b < 54 → a ≠ b → (TX7 a).2.1 ≠ (TX7 b).2.1 := by decide +kernel
set_option maxRecDepth 100000 in
theorem tyX7_ok : ∀ k, k < 54 → parseFieldDescriptor (TX7 k).2.2.1 = some (tyX7 k) := by decide +kernel
abbrev cX7_init : ByteArray := prog_19_method_1_code
def yX7_init : MethodName := ⟨RX7, "<init>", "()V"⟩
def dkwX7_init_11 : List UInt8 := [16, 6, 188, 10, 181, 0, 105, 42, 180, 0, 7, 16, 80, 4, 79, 42, 2, 181, 0, 108, 177]
abbrev dktX7_init_11 : List UInt8 := dkwX7_init_11 ++ []
def dkwX7_init_10 : List UInt8 := [16, 13, 188, 11, 181, 0, 96, 42, 16, 84, 188, 10, 181, 0, 99, 42, 16, 6, 188, 10, 181, 0, 102, 42]
abbrev dktX7_init_10 : List UInt8 := dkwX7_init_10 ++ dktX7_init_11
def dkwX7_init_9 : List UInt8 := [42, 16, 100, 188, 10, 181, 0, 87, 42, 7, 188, 10, 181, 0, 90, 42, 7, 188, 10, 181, 0, 93, 42]
abbrev dktX7_init_9 : List UInt8 := dkwX7_init_9 ++ dktX7_init_10
def dkwX7_init_8 : List UInt8 := [17, 1, 244, 188, 11, 181, 0, 78, 42, 16, 25, 188, 11, 181, 0, 81, 42, 16, 25, 188, 11, 181, 0, 84]
abbrev dktX7_init_8 : List UInt8 := dkwX7_init_8 ++ dktX7_init_9
def dkwX7_init_7 : List UInt8 := [188, 10, 181, 0, 68, 42, 16, 8, 188, 10, 181, 0, 71, 42, 17, 1, 244, 188, 11, 181, 0, 74, 42]
abbrev dktX7_init_7 : List UInt8 := dkwX7_init_7 ++ dktX7_init_8
def dkwX7_init_6 : List UInt8 := [188, 10, 181, 0, 59, 42, 16, 13, 188, 10, 181, 0, 62, 42, 16, 8, 188, 10, 181, 0, 65, 42, 16, 8]
abbrev dktX7_init_6 : List UInt8 := dkwX7_init_6 ++ dktX7_init_7
def dkwX7_init_5 : List UInt8 := [181, 0, 50, 42, 16, 70, 188, 10, 181, 0, 53, 42, 16, 70, 188, 10, 181, 0, 56, 42, 17, 0, 220]
abbrev dktX7_init_5 : List UInt8 := dkwX7_init_5 ++ dktX7_init_6
def dkwX7_init_4 : List UInt8 := [181, 0, 41, 42, 8, 188, 10, 181, 0, 44, 42, 16, 70, 188, 10, 181, 0, 47, 42, 16, 70, 188, 10]
abbrev dktX7_init_4 : List UInt8 := dkwX7_init_4 ++ dktX7_init_5
def dkwX7_init_3 : List UInt8 := [42, 16, 14, 188, 10, 181, 0, 35, 42, 16, 14, 188, 10, 181, 0, 38, 42, 17, 4, 76, 188, 10]
abbrev dktX7_init_3 : List UInt8 := dkwX7_init_3 ++ dktX7_init_4
def dkwX7_init_2 : List UInt8 := [17, 0, 220, 188, 10, 181, 0, 26, 42, 16, 14, 188, 10, 181, 0, 29, 42, 16, 14, 188, 10, 181, 0, 32]
abbrev dktX7_init_2 : List UInt8 := dkwX7_init_2 ++ dktX7_init_3
def dkwX7_init_1 : List UInt8 := [188, 10, 181, 0, 16, 42, 17, 0, 220, 188, 8, 181, 0, 19, 42, 17, 0, 220, 188, 10, 181, 0, 23, 42]
abbrev dktX7_init_1 : List UInt8 := dkwX7_init_1 ++ dktX7_init_2
def dkwX7_init_0 : List UInt8 := [42, 183, 0, 1, 42, 16, 81, 188, 10, 181, 0, 7, 42, 16, 81, 188, 10, 181, 0, 13, 42, 16, 81]
abbrev dktX7_init_0 : List UInt8 := dkwX7_init_0 ++ dktX7_init_1
theorem dksX7_init_0 : cX7_init.data.toList.drop 0 = dktX7_init_0 := by decide +kernel
theorem dksX7_init_1 : cX7_init.data.toList.drop 23 = dktX7_init_1 := dk_seg dksX7_init_0 23 rfl rfl
theorem dksX7_init_2 : cX7_init.data.toList.drop 47 = dktX7_init_2 := dk_seg dksX7_init_1 24 rfl rfl
theorem dksX7_init_3 : cX7_init.data.toList.drop 71 = dktX7_init_3 := dk_seg dksX7_init_2 24 rfl rfl
theorem dksX7_init_4 : cX7_init.data.toList.drop 93 = dktX7_init_4 := dk_seg dksX7_init_3 22 rfl rfl
theorem dksX7_init_5 : cX7_init.data.toList.drop 116 = dktX7_init_5 := dk_seg dksX7_init_4 23 rfl rfl
theorem dksX7_init_6 : cX7_init.data.toList.drop 139 = dktX7_init_6 := dk_seg dksX7_init_5 23 rfl rfl
theorem dksX7_init_7 : cX7_init.data.toList.drop 163 = dktX7_init_7 := dk_seg dksX7_init_6 24 rfl rfl
theorem dksX7_init_8 : cX7_init.data.toList.drop 186 = dktX7_init_8 := dk_seg dksX7_init_7 23 rfl rfl
theorem dksX7_init_9 : cX7_init.data.toList.drop 210 = dktX7_init_9 := dk_seg dksX7_init_8 24 rfl rfl
theorem dksX7_init_10 : cX7_init.data.toList.drop 233 = dktX7_init_10 := dk_seg dksX7_init_9 23 rfl rfl
theorem dksX7_init_11 : cX7_init.data.toList.drop 257 = dktX7_init_11 := dk_seg dksX7_init_10 24 rfl rfl
theorem dX7_init_0 : decode cX7_init 0 = .ok (.aload_n 0, 1) := dk_42 (dk_at dksX7_init_0 0 rfl rfl)
theorem dX7_init_1 : decode cX7_init 1 = .ok (.invokespecial 1, 3) := dk_183 0 1 (dk_at dksX7_init_0 1 rfl rfl)
theorem dX7_init_4 : decode cX7_init 4 = .ok (.aload_n 0, 1) := dk_42 (dk_at dksX7_init_0 4 rfl rfl)
theorem dX7_init_5 : decode cX7_init 5 = .ok (.bipush 81, 2) := dk_16 81 (dk_at dksX7_init_0 5 rfl rfl)
theorem dX7_init_7 : decode cX7_init 7 = .ok (.newarray .int, 2) := dk_188_10 (dk_at dksX7_init_0 7 rfl rfl)
theorem dX7_init_9 : decode cX7_init 9 = .ok (.putfield 7, 3) := dk_181 0 7 (dk_at dksX7_init_0 9 rfl rfl)
theorem dX7_init_12 : decode cX7_init 12 = .ok (.aload_n 0, 1) := dk_42 (dk_at dksX7_init_0 12 rfl rfl)
theorem dX7_init_13 : decode cX7_init 13 = .ok (.bipush 81, 2) := dk_16 81 (dk_at dksX7_init_0 13 rfl rfl)
theorem dX7_init_15 : decode cX7_init 15 = .ok (.newarray .int, 2) := dk_188_10 (dk_at dksX7_init_0 15 rfl rfl)
theorem dX7_init_17 : decode cX7_init 17 = .ok (.putfield 13, 3) := dk_181 0 13 (dk_at dksX7_init_0 17 rfl rfl)
theorem dX7_init_20 : decode cX7_init 20 = .ok (.aload_n 0, 1) := dk_42 (dk_at dksX7_init_0 20 rfl rfl)
theorem dX7_init_21 : decode cX7_init 21 = .ok (.bipush 81, 2) := dk_16 81 (dk_at dksX7_init_0 21 rfl rfl)
theorem dX7_init_23 : decode cX7_init 23 = .ok (.newarray .int, 2) := dk_188_10 (dk_at dksX7_init_1 0 rfl rfl)
theorem dX7_init_25 : decode cX7_init 25 = .ok (.putfield 16, 3) := dk_181 0 16 (dk_at dksX7_init_1 2 rfl rfl)
theorem dX7_init_28 : decode cX7_init 28 = .ok (.aload_n 0, 1) := dk_42 (dk_at dksX7_init_1 5 rfl rfl)
theorem dX7_init_29 : decode cX7_init 29 = .ok (.sipush 220, 3) := dk_17 0 220 (dk_at dksX7_init_1 6 rfl rfl)
theorem dX7_init_32 : decode cX7_init 32 = .ok (.newarray .byte, 2) := dk_188_8 (dk_at dksX7_init_1 9 rfl rfl)
theorem dX7_init_34 : decode cX7_init 34 = .ok (.putfield 19, 3) := dk_181 0 19 (dk_at dksX7_init_1 11 rfl rfl)
theorem dX7_init_37 : decode cX7_init 37 = .ok (.aload_n 0, 1) := dk_42 (dk_at dksX7_init_1 14 rfl rfl)
theorem dX7_init_38 : decode cX7_init 38 = .ok (.sipush 220, 3) := dk_17 0 220 (dk_at dksX7_init_1 15 rfl rfl)
theorem dX7_init_41 : decode cX7_init 41 = .ok (.newarray .int, 2) := dk_188_10 (dk_at dksX7_init_1 18 rfl rfl)
theorem dX7_init_43 : decode cX7_init 43 = .ok (.putfield 23, 3) := dk_181 0 23 (dk_at dksX7_init_1 20 rfl rfl)
theorem dX7_init_46 : decode cX7_init 46 = .ok (.aload_n 0, 1) := dk_42 (dk_at dksX7_init_1 23 rfl rfl)
theorem dX7_init_47 : decode cX7_init 47 = .ok (.sipush 220, 3) := dk_17 0 220 (dk_at dksX7_init_2 0 rfl rfl)
theorem dX7_init_50 : decode cX7_init 50 = .ok (.newarray .int, 2) := dk_188_10 (dk_at dksX7_init_2 3 rfl rfl)
theorem dX7_init_52 : decode cX7_init 52 = .ok (.putfield 26, 3) := dk_181 0 26 (dk_at dksX7_init_2 5 rfl rfl)
theorem dX7_init_55 : decode cX7_init 55 = .ok (.aload_n 0, 1) := dk_42 (dk_at dksX7_init_2 8 rfl rfl)
theorem dX7_init_56 : decode cX7_init 56 = .ok (.bipush 14, 2) := dk_16 14 (dk_at dksX7_init_2 9 rfl rfl)
theorem dX7_init_58 : decode cX7_init 58 = .ok (.newarray .int, 2) := dk_188_10 (dk_at dksX7_init_2 11 rfl rfl)
theorem dX7_init_60 : decode cX7_init 60 = .ok (.putfield 29, 3) := dk_181 0 29 (dk_at dksX7_init_2 13 rfl rfl)
theorem dX7_init_63 : decode cX7_init 63 = .ok (.aload_n 0, 1) := dk_42 (dk_at dksX7_init_2 16 rfl rfl)
theorem dX7_init_64 : decode cX7_init 64 = .ok (.bipush 14, 2) := dk_16 14 (dk_at dksX7_init_2 17 rfl rfl)
theorem dX7_init_66 : decode cX7_init 66 = .ok (.newarray .int, 2) := dk_188_10 (dk_at dksX7_init_2 19 rfl rfl)
theorem dX7_init_68 : decode cX7_init 68 = .ok (.putfield 32, 3) := dk_181 0 32 (dk_at dksX7_init_2 21 rfl rfl)
theorem dX7_init_71 : decode cX7_init 71 = .ok (.aload_n 0, 1) := dk_42 (dk_at dksX7_init_3 0 rfl rfl)
theorem dX7_init_72 : decode cX7_init 72 = .ok (.bipush 14, 2) := dk_16 14 (dk_at dksX7_init_3 1 rfl rfl)
theorem dX7_init_74 : decode cX7_init 74 = .ok (.newarray .int, 2) := dk_188_10 (dk_at dksX7_init_3 3 rfl rfl)
theorem dX7_init_76 : decode cX7_init 76 = .ok (.putfield 35, 3) := dk_181 0 35 (dk_at dksX7_init_3 5 rfl rfl)
theorem dX7_init_79 : decode cX7_init 79 = .ok (.aload_n 0, 1) := dk_42 (dk_at dksX7_init_3 8 rfl rfl)
theorem dX7_init_80 : decode cX7_init 80 = .ok (.bipush 14, 2) := dk_16 14 (dk_at dksX7_init_3 9 rfl rfl)
theorem dX7_init_82 : decode cX7_init 82 = .ok (.newarray .int, 2) := dk_188_10 (dk_at dksX7_init_3 11 rfl rfl)
theorem dX7_init_84 : decode cX7_init 84 = .ok (.putfield 38, 3) := dk_181 0 38 (dk_at dksX7_init_3 13 rfl rfl)
theorem dX7_init_87 : decode cX7_init 87 = .ok (.aload_n 0, 1) := dk_42 (dk_at dksX7_init_3 16 rfl rfl)
theorem dX7_init_88 : decode cX7_init 88 = .ok (.sipush 1100, 3) := dk_17 4 76 (dk_at dksX7_init_3 17 rfl rfl)
theorem dX7_init_91 : decode cX7_init 91 = .ok (.newarray .int, 2) := dk_188_10 (dk_at dksX7_init_3 20 rfl rfl)
theorem dX7_init_93 : decode cX7_init 93 = .ok (.putfield 41, 3) := dk_181 0 41 (dk_at dksX7_init_4 0 rfl rfl)
theorem dX7_init_96 : decode cX7_init 96 = .ok (.aload_n 0, 1) := dk_42 (dk_at dksX7_init_4 3 rfl rfl)
theorem dX7_init_97 : decode cX7_init 97 = .ok (.iconst 5, 1) := dk_8 (dk_at dksX7_init_4 4 rfl rfl)
theorem dX7_init_98 : decode cX7_init 98 = .ok (.newarray .int, 2) := dk_188_10 (dk_at dksX7_init_4 5 rfl rfl)
theorem dX7_init_100 : decode cX7_init 100 = .ok (.putfield 44, 3) := dk_181 0 44 (dk_at dksX7_init_4 7 rfl rfl)
theorem dX7_init_103 : decode cX7_init 103 = .ok (.aload_n 0, 1) := dk_42 (dk_at dksX7_init_4 10 rfl rfl)
theorem dX7_init_104 : decode cX7_init 104 = .ok (.bipush 70, 2) := dk_16 70 (dk_at dksX7_init_4 11 rfl rfl)
theorem dX7_init_106 : decode cX7_init 106 = .ok (.newarray .int, 2) := dk_188_10 (dk_at dksX7_init_4 13 rfl rfl)
theorem dX7_init_108 : decode cX7_init 108 = .ok (.putfield 47, 3) := dk_181 0 47 (dk_at dksX7_init_4 15 rfl rfl)
theorem dX7_init_111 : decode cX7_init 111 = .ok (.aload_n 0, 1) := dk_42 (dk_at dksX7_init_4 18 rfl rfl)
theorem dX7_init_112 : decode cX7_init 112 = .ok (.bipush 70, 2) := dk_16 70 (dk_at dksX7_init_4 19 rfl rfl)
theorem dX7_init_114 : decode cX7_init 114 = .ok (.newarray .int, 2) := dk_188_10 (dk_at dksX7_init_4 21 rfl rfl)
theorem dX7_init_116 : decode cX7_init 116 = .ok (.putfield 50, 3) := dk_181 0 50 (dk_at dksX7_init_5 0 rfl rfl)
theorem dX7_init_119 : decode cX7_init 119 = .ok (.aload_n 0, 1) := dk_42 (dk_at dksX7_init_5 3 rfl rfl)
theorem dX7_init_120 : decode cX7_init 120 = .ok (.bipush 70, 2) := dk_16 70 (dk_at dksX7_init_5 4 rfl rfl)
theorem dX7_init_122 : decode cX7_init 122 = .ok (.newarray .int, 2) := dk_188_10 (dk_at dksX7_init_5 6 rfl rfl)
theorem dX7_init_124 : decode cX7_init 124 = .ok (.putfield 53, 3) := dk_181 0 53 (dk_at dksX7_init_5 8 rfl rfl)
theorem dX7_init_127 : decode cX7_init 127 = .ok (.aload_n 0, 1) := dk_42 (dk_at dksX7_init_5 11 rfl rfl)
theorem dX7_init_128 : decode cX7_init 128 = .ok (.bipush 70, 2) := dk_16 70 (dk_at dksX7_init_5 12 rfl rfl)
theorem dX7_init_130 : decode cX7_init 130 = .ok (.newarray .int, 2) := dk_188_10 (dk_at dksX7_init_5 14 rfl rfl)
theorem dX7_init_132 : decode cX7_init 132 = .ok (.putfield 56, 3) := dk_181 0 56 (dk_at dksX7_init_5 16 rfl rfl)
theorem dX7_init_135 : decode cX7_init 135 = .ok (.aload_n 0, 1) := dk_42 (dk_at dksX7_init_5 19 rfl rfl)
theorem dX7_init_136 : decode cX7_init 136 = .ok (.sipush 220, 3) := dk_17 0 220 (dk_at dksX7_init_5 20 rfl rfl)
theorem dX7_init_139 : decode cX7_init 139 = .ok (.newarray .int, 2) := dk_188_10 (dk_at dksX7_init_6 0 rfl rfl)
theorem dX7_init_141 : decode cX7_init 141 = .ok (.putfield 59, 3) := dk_181 0 59 (dk_at dksX7_init_6 2 rfl rfl)
theorem dX7_init_144 : decode cX7_init 144 = .ok (.aload_n 0, 1) := dk_42 (dk_at dksX7_init_6 5 rfl rfl)
theorem dX7_init_145 : decode cX7_init 145 = .ok (.bipush 13, 2) := dk_16 13 (dk_at dksX7_init_6 6 rfl rfl)
theorem dX7_init_147 : decode cX7_init 147 = .ok (.newarray .int, 2) := dk_188_10 (dk_at dksX7_init_6 8 rfl rfl)
theorem dX7_init_149 : decode cX7_init 149 = .ok (.putfield 62, 3) := dk_181 0 62 (dk_at dksX7_init_6 10 rfl rfl)
theorem dX7_init_152 : decode cX7_init 152 = .ok (.aload_n 0, 1) := dk_42 (dk_at dksX7_init_6 13 rfl rfl)
theorem dX7_init_153 : decode cX7_init 153 = .ok (.bipush 8, 2) := dk_16 8 (dk_at dksX7_init_6 14 rfl rfl)
theorem dX7_init_155 : decode cX7_init 155 = .ok (.newarray .int, 2) := dk_188_10 (dk_at dksX7_init_6 16 rfl rfl)
theorem dX7_init_157 : decode cX7_init 157 = .ok (.putfield 65, 3) := dk_181 0 65 (dk_at dksX7_init_6 18 rfl rfl)
theorem dX7_init_160 : decode cX7_init 160 = .ok (.aload_n 0, 1) := dk_42 (dk_at dksX7_init_6 21 rfl rfl)
theorem dX7_init_161 : decode cX7_init 161 = .ok (.bipush 8, 2) := dk_16 8 (dk_at dksX7_init_6 22 rfl rfl)
theorem dX7_init_163 : decode cX7_init 163 = .ok (.newarray .int, 2) := dk_188_10 (dk_at dksX7_init_7 0 rfl rfl)
theorem dX7_init_165 : decode cX7_init 165 = .ok (.putfield 68, 3) := dk_181 0 68 (dk_at dksX7_init_7 2 rfl rfl)
theorem dX7_init_168 : decode cX7_init 168 = .ok (.aload_n 0, 1) := dk_42 (dk_at dksX7_init_7 5 rfl rfl)
theorem dX7_init_169 : decode cX7_init 169 = .ok (.bipush 8, 2) := dk_16 8 (dk_at dksX7_init_7 6 rfl rfl)
theorem dX7_init_171 : decode cX7_init 171 = .ok (.newarray .int, 2) := dk_188_10 (dk_at dksX7_init_7 8 rfl rfl)
theorem dX7_init_173 : decode cX7_init 173 = .ok (.putfield 71, 3) := dk_181 0 71 (dk_at dksX7_init_7 10 rfl rfl)
theorem dX7_init_176 : decode cX7_init 176 = .ok (.aload_n 0, 1) := dk_42 (dk_at dksX7_init_7 13 rfl rfl)
theorem dX7_init_177 : decode cX7_init 177 = .ok (.sipush 500, 3) := dk_17 1 244 (dk_at dksX7_init_7 14 rfl rfl)
theorem dX7_init_180 : decode cX7_init 180 = .ok (.newarray .long, 2) := dk_188_11 (dk_at dksX7_init_7 17 rfl rfl)
theorem dX7_init_182 : decode cX7_init 182 = .ok (.putfield 74, 3) := dk_181 0 74 (dk_at dksX7_init_7 19 rfl rfl)
theorem dX7_init_185 : decode cX7_init 185 = .ok (.aload_n 0, 1) := dk_42 (dk_at dksX7_init_7 22 rfl rfl)
theorem dX7_init_186 : decode cX7_init 186 = .ok (.sipush 500, 3) := dk_17 1 244 (dk_at dksX7_init_8 0 rfl rfl)
theorem dX7_init_189 : decode cX7_init 189 = .ok (.newarray .long, 2) := dk_188_11 (dk_at dksX7_init_8 3 rfl rfl)
theorem dX7_init_191 : decode cX7_init 191 = .ok (.putfield 78, 3) := dk_181 0 78 (dk_at dksX7_init_8 5 rfl rfl)
theorem dX7_init_194 : decode cX7_init 194 = .ok (.aload_n 0, 1) := dk_42 (dk_at dksX7_init_8 8 rfl rfl)
theorem dX7_init_195 : decode cX7_init 195 = .ok (.bipush 25, 2) := dk_16 25 (dk_at dksX7_init_8 9 rfl rfl)
theorem dX7_init_197 : decode cX7_init 197 = .ok (.newarray .long, 2) := dk_188_11 (dk_at dksX7_init_8 11 rfl rfl)
theorem dX7_init_199 : decode cX7_init 199 = .ok (.putfield 81, 3) := dk_181 0 81 (dk_at dksX7_init_8 13 rfl rfl)
theorem dX7_init_202 : decode cX7_init 202 = .ok (.aload_n 0, 1) := dk_42 (dk_at dksX7_init_8 16 rfl rfl)
theorem dX7_init_203 : decode cX7_init 203 = .ok (.bipush 25, 2) := dk_16 25 (dk_at dksX7_init_8 17 rfl rfl)
theorem dX7_init_205 : decode cX7_init 205 = .ok (.newarray .long, 2) := dk_188_11 (dk_at dksX7_init_8 19 rfl rfl)
theorem dX7_init_207 : decode cX7_init 207 = .ok (.putfield 84, 3) := dk_181 0 84 (dk_at dksX7_init_8 21 rfl rfl)
theorem dX7_init_210 : decode cX7_init 210 = .ok (.aload_n 0, 1) := dk_42 (dk_at dksX7_init_9 0 rfl rfl)
theorem dX7_init_211 : decode cX7_init 211 = .ok (.bipush 100, 2) := dk_16 100 (dk_at dksX7_init_9 1 rfl rfl)
theorem dX7_init_213 : decode cX7_init 213 = .ok (.newarray .int, 2) := dk_188_10 (dk_at dksX7_init_9 3 rfl rfl)
theorem dX7_init_215 : decode cX7_init 215 = .ok (.putfield 87, 3) := dk_181 0 87 (dk_at dksX7_init_9 5 rfl rfl)
theorem dX7_init_218 : decode cX7_init 218 = .ok (.aload_n 0, 1) := dk_42 (dk_at dksX7_init_9 8 rfl rfl)
theorem dX7_init_219 : decode cX7_init 219 = .ok (.iconst 4, 1) := dk_7 (dk_at dksX7_init_9 9 rfl rfl)
theorem dX7_init_220 : decode cX7_init 220 = .ok (.newarray .int, 2) := dk_188_10 (dk_at dksX7_init_9 10 rfl rfl)
theorem dX7_init_222 : decode cX7_init 222 = .ok (.putfield 90, 3) := dk_181 0 90 (dk_at dksX7_init_9 12 rfl rfl)
theorem dX7_init_225 : decode cX7_init 225 = .ok (.aload_n 0, 1) := dk_42 (dk_at dksX7_init_9 15 rfl rfl)
theorem dX7_init_226 : decode cX7_init 226 = .ok (.iconst 4, 1) := dk_7 (dk_at dksX7_init_9 16 rfl rfl)
theorem dX7_init_227 : decode cX7_init 227 = .ok (.newarray .int, 2) := dk_188_10 (dk_at dksX7_init_9 17 rfl rfl)
theorem dX7_init_229 : decode cX7_init 229 = .ok (.putfield 93, 3) := dk_181 0 93 (dk_at dksX7_init_9 19 rfl rfl)
theorem dX7_init_232 : decode cX7_init 232 = .ok (.aload_n 0, 1) := dk_42 (dk_at dksX7_init_9 22 rfl rfl)
theorem dX7_init_233 : decode cX7_init 233 = .ok (.bipush 13, 2) := dk_16 13 (dk_at dksX7_init_10 0 rfl rfl)
theorem dX7_init_235 : decode cX7_init 235 = .ok (.newarray .long, 2) := dk_188_11 (dk_at dksX7_init_10 2 rfl rfl)
theorem dX7_init_237 : decode cX7_init 237 = .ok (.putfield 96, 3) := dk_181 0 96 (dk_at dksX7_init_10 4 rfl rfl)
theorem dX7_init_240 : decode cX7_init 240 = .ok (.aload_n 0, 1) := dk_42 (dk_at dksX7_init_10 7 rfl rfl)
theorem dX7_init_241 : decode cX7_init 241 = .ok (.bipush 84, 2) := dk_16 84 (dk_at dksX7_init_10 8 rfl rfl)
theorem dX7_init_243 : decode cX7_init 243 = .ok (.newarray .int, 2) := dk_188_10 (dk_at dksX7_init_10 10 rfl rfl)
theorem dX7_init_245 : decode cX7_init 245 = .ok (.putfield 99, 3) := dk_181 0 99 (dk_at dksX7_init_10 12 rfl rfl)
theorem dX7_init_248 : decode cX7_init 248 = .ok (.aload_n 0, 1) := dk_42 (dk_at dksX7_init_10 15 rfl rfl)
theorem dX7_init_249 : decode cX7_init 249 = .ok (.bipush 6, 2) := dk_16 6 (dk_at dksX7_init_10 16 rfl rfl)
theorem dX7_init_251 : decode cX7_init 251 = .ok (.newarray .int, 2) := dk_188_10 (dk_at dksX7_init_10 18 rfl rfl)
theorem dX7_init_253 : decode cX7_init 253 = .ok (.putfield 102, 3) := dk_181 0 102 (dk_at dksX7_init_10 20 rfl rfl)
theorem dX7_init_256 : decode cX7_init 256 = .ok (.aload_n 0, 1) := dk_42 (dk_at dksX7_init_10 23 rfl rfl)
theorem dX7_init_257 : decode cX7_init 257 = .ok (.bipush 6, 2) := dk_16 6 (dk_at dksX7_init_11 0 rfl rfl)
theorem dX7_init_259 : decode cX7_init 259 = .ok (.newarray .int, 2) := dk_188_10 (dk_at dksX7_init_11 2 rfl rfl)
theorem dX7_init_261 : decode cX7_init 261 = .ok (.putfield 105, 3) := dk_181 0 105 (dk_at dksX7_init_11 4 rfl rfl)
theorem dX7_init_264 : decode cX7_init 264 = .ok (.aload_n 0, 1) := dk_42 (dk_at dksX7_init_11 7 rfl rfl)
theorem dX7_init_265 : decode cX7_init 265 = .ok (.getfield 7, 3) := dk_180 0 7 (dk_at dksX7_init_11 8 rfl rfl)
theorem dX7_init_268 : decode cX7_init 268 = .ok (.bipush 80, 2) := dk_16 80 (dk_at dksX7_init_11 11 rfl rfl)
theorem dX7_init_270 : decode cX7_init 270 = .ok (.iconst 1, 1) := dk_4 (dk_at dksX7_init_11 13 rfl rfl)
theorem dX7_init_271 : decode cX7_init 271 = .ok (.iastore, 1) := dk_79 (dk_at dksX7_init_11 14 rfl rfl)
theorem dX7_init_272 : decode cX7_init 272 = .ok (.aload_n 0, 1) := dk_42 (dk_at dksX7_init_11 15 rfl rfl)
theorem dX7_init_273 : decode cX7_init 273 = .ok (.iconst (-1), 1) := dk_2 (dk_at dksX7_init_11 16 rfl rfl)
theorem dX7_init_274 : decode cX7_init 274 = .ok (.putfield 108, 3) := dk_181 0 108 (dk_at dksX7_init_11 17 rfl rfl)
theorem dX7_init_277 : decode cX7_init 277 = .ok (.return_, 1) := dk_177 (dk_at dksX7_init_11 20 rfl rfl)
abbrev cX7_plant : ByteArray := prog_19_method_14_code
def yX7_plant : MethodName := ⟨RX7, "plant", "(IIII)Z"⟩
def dkwX7_plant_7 : List UInt8 := [79, 132, 5, 1, 167, 255, 230, 4, 172]
abbrev dktX7_plant_7 : List UInt8 := dkwX7_plant_7 ++ []
def dkwX7_plant_6 : List UInt8 := [54, 5, 21, 5, 16, 7, 162, 0, 25, 42, 180, 0, 7, 16, 24, 16, 7, 27, 104, 96, 21, 5, 96, 29]
abbrev dktX7_plant_6 : List UInt8 := dkwX7_plant_6 ++ dktX7_plant_7
def dkwX7_plant_5 : List UInt8 := [79, 42, 180, 0, 7, 16, 16, 27, 96, 3, 79, 42, 180, 0, 7, 16, 20, 27, 96, 16, 254, 79, 3]
abbrev dktX7_plant_5 : List UInt8 := dkwX7_plant_5 ++ dktX7_plant_6
def dkwX7_plant_4 : List UInt8 := [27, 96, 29, 79, 42, 180, 0, 7, 16, 8, 27, 96, 21, 4, 79, 42, 180, 0, 7, 16, 12, 27, 96, 3]
abbrev dktX7_plant_4 : List UInt8 := dkwX7_plant_4 ++ dktX7_plant_5
def dkwX7_plant_3 : List UInt8 := [16, 77, 46, 4, 27, 120, 2, 130, 126, 79, 42, 180, 0, 7, 3, 27, 96, 28, 79, 42, 180, 0, 7, 7]
abbrev dktX7_plant_3 : List UInt8 := dkwX7_plant_3 ++ dktX7_plant_4
def dkwX7_plant_2 : List UInt8 := [16, 76, 42, 180, 0, 7, 16, 76, 46, 4, 27, 120, 128, 79, 42, 180, 0, 7, 16, 77, 42, 180, 0, 7]
abbrev dktX7_plant_2 : List UInt8 := dkwX7_plant_2 ++ dktX7_plant_3
def dkwX7_plant_1 : List UInt8 := [184, 0, 126, 153, 0, 14, 21, 4, 4, 16, 9, 184, 0, 126, 154, 0, 5, 3, 172, 42, 180, 0, 7]
abbrev dktX7_plant_1 : List UInt8 := dkwX7_plant_1 ++ dktX7_plant_2
def dkwX7_plant_0 : List UInt8 := [27, 3, 6, 184, 0, 126, 153, 0, 33, 28, 7, 16, 24, 184, 0, 126, 153, 0, 23, 29, 3, 28]
abbrev dktX7_plant_0 : List UInt8 := dkwX7_plant_0 ++ dktX7_plant_1
theorem dksX7_plant_0 : cX7_plant.data.toList.drop 0 = dktX7_plant_0 := by decide +kernel
theorem dksX7_plant_1 : cX7_plant.data.toList.drop 22 = dktX7_plant_1 := dk_seg dksX7_plant_0 22 rfl rfl
theorem dksX7_plant_2 : cX7_plant.data.toList.drop 45 = dktX7_plant_2 := dk_seg dksX7_plant_1 23 rfl rfl
theorem dksX7_plant_3 : cX7_plant.data.toList.drop 69 = dktX7_plant_3 := dk_seg dksX7_plant_2 24 rfl rfl
theorem dksX7_plant_4 : cX7_plant.data.toList.drop 93 = dktX7_plant_4 := dk_seg dksX7_plant_3 24 rfl rfl
theorem dksX7_plant_5 : cX7_plant.data.toList.drop 117 = dktX7_plant_5 := dk_seg dksX7_plant_4 24 rfl rfl
theorem dksX7_plant_6 : cX7_plant.data.toList.drop 140 = dktX7_plant_6 := dk_seg dksX7_plant_5 23 rfl rfl
theorem dksX7_plant_7 : cX7_plant.data.toList.drop 164 = dktX7_plant_7 := dk_seg dksX7_plant_6 24 rfl rfl
theorem dX7_plant_0 : decode cX7_plant 0 = .ok (.iload_n 1, 1) := dk_27 (dk_at dksX7_plant_0 0 rfl rfl)
theorem dX7_plant_1 : decode cX7_plant 1 = .ok (.iconst 0, 1) := dk_3 (dk_at dksX7_plant_0 1 rfl rfl)
theorem dX7_plant_2 : decode cX7_plant 2 = .ok (.iconst 3, 1) := dk_6 (dk_at dksX7_plant_0 2 rfl rfl)
theorem dX7_plant_3 : decode cX7_plant 3 = .ok (.invokestatic 126, 3) := dk_184 0 126 (dk_at dksX7_plant_0 3 rfl rfl)
theorem dX7_plant_6 : decode cX7_plant 6 = .ok (.ifCond .eq 33, 3) := dk_153 0 33 (dk_at dksX7_plant_0 6 rfl rfl)
theorem dX7_plant_9 : decode cX7_plant 9 = .ok (.iload_n 2, 1) := dk_28 (dk_at dksX7_plant_0 9 rfl rfl)
theorem dX7_plant_10 : decode cX7_plant 10 = .ok (.iconst 4, 1) := dk_7 (dk_at dksX7_plant_0 10 rfl rfl)
theorem dX7_plant_11 : decode cX7_plant 11 = .ok (.bipush 24, 2) := dk_16 24 (dk_at dksX7_plant_0 11 rfl rfl)
theorem dX7_plant_13 : decode cX7_plant 13 = .ok (.invokestatic 126, 3) := dk_184 0 126 (dk_at dksX7_plant_0 13 rfl rfl)
theorem dX7_plant_16 : decode cX7_plant 16 = .ok (.ifCond .eq 23, 3) := dk_153 0 23 (dk_at dksX7_plant_0 16 rfl rfl)
theorem dX7_plant_19 : decode cX7_plant 19 = .ok (.iload_n 3, 1) := dk_29 (dk_at dksX7_plant_0 19 rfl rfl)
theorem dX7_plant_20 : decode cX7_plant 20 = .ok (.iconst 0, 1) := dk_3 (dk_at dksX7_plant_0 20 rfl rfl)
theorem dX7_plant_21 : decode cX7_plant 21 = .ok (.iload_n 2, 1) := dk_28 (dk_at dksX7_plant_0 21 rfl rfl)
theorem dX7_plant_22 : decode cX7_plant 22 = .ok (.invokestatic 126, 3) := dk_184 0 126 (dk_at dksX7_plant_1 0 rfl rfl)
theorem dX7_plant_25 : decode cX7_plant 25 = .ok (.ifCond .eq 14, 3) := dk_153 0 14 (dk_at dksX7_plant_1 3 rfl rfl)
theorem dX7_plant_28 : decode cX7_plant 28 = .ok (.iload 4, 2) := dk_21 4 (dk_at dksX7_plant_1 6 rfl rfl)
theorem dX7_plant_30 : decode cX7_plant 30 = .ok (.iconst 1, 1) := dk_4 (dk_at dksX7_plant_1 8 rfl rfl)
theorem dX7_plant_31 : decode cX7_plant 31 = .ok (.bipush 9, 2) := dk_16 9 (dk_at dksX7_plant_1 9 rfl rfl)
theorem dX7_plant_33 : decode cX7_plant 33 = .ok (.invokestatic 126, 3) := dk_184 0 126 (dk_at dksX7_plant_1 11 rfl rfl)
theorem dX7_plant_36 : decode cX7_plant 36 = .ok (.ifCond .ne 5, 3) := dk_154 0 5 (dk_at dksX7_plant_1 14 rfl rfl)
theorem dX7_plant_39 : decode cX7_plant 39 = .ok (.iconst 0, 1) := dk_3 (dk_at dksX7_plant_1 17 rfl rfl)
theorem dX7_plant_40 : decode cX7_plant 40 = .ok (.ireturn, 1) := dk_172 (dk_at dksX7_plant_1 18 rfl rfl)
theorem dX7_plant_41 : decode cX7_plant 41 = .ok (.aload_n 0, 1) := dk_42 (dk_at dksX7_plant_1 19 rfl rfl)
theorem dX7_plant_42 : decode cX7_plant 42 = .ok (.getfield 7, 3) := dk_180 0 7 (dk_at dksX7_plant_1 20 rfl rfl)
theorem dX7_plant_45 : decode cX7_plant 45 = .ok (.bipush 76, 2) := dk_16 76 (dk_at dksX7_plant_2 0 rfl rfl)
theorem dX7_plant_47 : decode cX7_plant 47 = .ok (.aload_n 0, 1) := dk_42 (dk_at dksX7_plant_2 2 rfl rfl)
theorem dX7_plant_48 : decode cX7_plant 48 = .ok (.getfield 7, 3) := dk_180 0 7 (dk_at dksX7_plant_2 3 rfl rfl)
theorem dX7_plant_51 : decode cX7_plant 51 = .ok (.bipush 76, 2) := dk_16 76 (dk_at dksX7_plant_2 6 rfl rfl)
theorem dX7_plant_53 : decode cX7_plant 53 = .ok (.iaload, 1) := dk_46 (dk_at dksX7_plant_2 8 rfl rfl)
theorem dX7_plant_54 : decode cX7_plant 54 = .ok (.iconst 1, 1) := dk_4 (dk_at dksX7_plant_2 9 rfl rfl)
theorem dX7_plant_55 : decode cX7_plant 55 = .ok (.iload_n 1, 1) := dk_27 (dk_at dksX7_plant_2 10 rfl rfl)
theorem dX7_plant_56 : decode cX7_plant 56 = .ok (.ishl, 1) := dk_120 (dk_at dksX7_plant_2 11 rfl rfl)
theorem dX7_plant_57 : decode cX7_plant 57 = .ok (.ior, 1) := dk_128 (dk_at dksX7_plant_2 12 rfl rfl)
theorem dX7_plant_58 : decode cX7_plant 58 = .ok (.iastore, 1) := dk_79 (dk_at dksX7_plant_2 13 rfl rfl)
theorem dX7_plant_59 : decode cX7_plant 59 = .ok (.aload_n 0, 1) := dk_42 (dk_at dksX7_plant_2 14 rfl rfl)
theorem dX7_plant_60 : decode cX7_plant 60 = .ok (.getfield 7, 3) := dk_180 0 7 (dk_at dksX7_plant_2 15 rfl rfl)
theorem dX7_plant_63 : decode cX7_plant 63 = .ok (.bipush 77, 2) := dk_16 77 (dk_at dksX7_plant_2 18 rfl rfl)
theorem dX7_plant_65 : decode cX7_plant 65 = .ok (.aload_n 0, 1) := dk_42 (dk_at dksX7_plant_2 20 rfl rfl)
theorem dX7_plant_66 : decode cX7_plant 66 = .ok (.getfield 7, 3) := dk_180 0 7 (dk_at dksX7_plant_2 21 rfl rfl)
theorem dX7_plant_69 : decode cX7_plant 69 = .ok (.bipush 77, 2) := dk_16 77 (dk_at dksX7_plant_3 0 rfl rfl)
theorem dX7_plant_71 : decode cX7_plant 71 = .ok (.iaload, 1) := dk_46 (dk_at dksX7_plant_3 2 rfl rfl)
theorem dX7_plant_72 : decode cX7_plant 72 = .ok (.iconst 1, 1) := dk_4 (dk_at dksX7_plant_3 3 rfl rfl)
theorem dX7_plant_73 : decode cX7_plant 73 = .ok (.iload_n 1, 1) := dk_27 (dk_at dksX7_plant_3 4 rfl rfl)
theorem dX7_plant_74 : decode cX7_plant 74 = .ok (.ishl, 1) := dk_120 (dk_at dksX7_plant_3 5 rfl rfl)
theorem dX7_plant_75 : decode cX7_plant 75 = .ok (.iconst (-1), 1) := dk_2 (dk_at dksX7_plant_3 6 rfl rfl)
theorem dX7_plant_76 : decode cX7_plant 76 = .ok (.ixor, 1) := dk_130 (dk_at dksX7_plant_3 7 rfl rfl)
theorem dX7_plant_77 : decode cX7_plant 77 = .ok (.iand, 1) := dk_126 (dk_at dksX7_plant_3 8 rfl rfl)
theorem dX7_plant_78 : decode cX7_plant 78 = .ok (.iastore, 1) := dk_79 (dk_at dksX7_plant_3 9 rfl rfl)
theorem dX7_plant_79 : decode cX7_plant 79 = .ok (.aload_n 0, 1) := dk_42 (dk_at dksX7_plant_3 10 rfl rfl)
theorem dX7_plant_80 : decode cX7_plant 80 = .ok (.getfield 7, 3) := dk_180 0 7 (dk_at dksX7_plant_3 11 rfl rfl)
theorem dX7_plant_83 : decode cX7_plant 83 = .ok (.iconst 0, 1) := dk_3 (dk_at dksX7_plant_3 14 rfl rfl)
theorem dX7_plant_84 : decode cX7_plant 84 = .ok (.iload_n 1, 1) := dk_27 (dk_at dksX7_plant_3 15 rfl rfl)
theorem dX7_plant_85 : decode cX7_plant 85 = .ok (.iadd, 1) := dk_96 (dk_at dksX7_plant_3 16 rfl rfl)
theorem dX7_plant_86 : decode cX7_plant 86 = .ok (.iload_n 2, 1) := dk_28 (dk_at dksX7_plant_3 17 rfl rfl)
theorem dX7_plant_87 : decode cX7_plant 87 = .ok (.iastore, 1) := dk_79 (dk_at dksX7_plant_3 18 rfl rfl)
theorem dX7_plant_88 : decode cX7_plant 88 = .ok (.aload_n 0, 1) := dk_42 (dk_at dksX7_plant_3 19 rfl rfl)
theorem dX7_plant_89 : decode cX7_plant 89 = .ok (.getfield 7, 3) := dk_180 0 7 (dk_at dksX7_plant_3 20 rfl rfl)
theorem dX7_plant_92 : decode cX7_plant 92 = .ok (.iconst 4, 1) := dk_7 (dk_at dksX7_plant_3 23 rfl rfl)
theorem dX7_plant_93 : decode cX7_plant 93 = .ok (.iload_n 1, 1) := dk_27 (dk_at dksX7_plant_4 0 rfl rfl)
theorem dX7_plant_94 : decode cX7_plant 94 = .ok (.iadd, 1) := dk_96 (dk_at dksX7_plant_4 1 rfl rfl)
theorem dX7_plant_95 : decode cX7_plant 95 = .ok (.iload_n 3, 1) := dk_29 (dk_at dksX7_plant_4 2 rfl rfl)
theorem dX7_plant_96 : decode cX7_plant 96 = .ok (.iastore, 1) := dk_79 (dk_at dksX7_plant_4 3 rfl rfl)
theorem dX7_plant_97 : decode cX7_plant 97 = .ok (.aload_n 0, 1) := dk_42 (dk_at dksX7_plant_4 4 rfl rfl)
theorem dX7_plant_98 : decode cX7_plant 98 = .ok (.getfield 7, 3) := dk_180 0 7 (dk_at dksX7_plant_4 5 rfl rfl)
theorem dX7_plant_101 : decode cX7_plant 101 = .ok (.bipush 8, 2) := dk_16 8 (dk_at dksX7_plant_4 8 rfl rfl)
theorem dX7_plant_103 : decode cX7_plant 103 = .ok (.iload_n 1, 1) := dk_27 (dk_at dksX7_plant_4 10 rfl rfl)
theorem dX7_plant_104 : decode cX7_plant 104 = .ok (.iadd, 1) := dk_96 (dk_at dksX7_plant_4 11 rfl rfl)
theorem dX7_plant_105 : decode cX7_plant 105 = .ok (.iload 4, 2) := dk_21 4 (dk_at dksX7_plant_4 12 rfl rfl)
theorem dX7_plant_107 : decode cX7_plant 107 = .ok (.iastore, 1) := dk_79 (dk_at dksX7_plant_4 14 rfl rfl)
theorem dX7_plant_108 : decode cX7_plant 108 = .ok (.aload_n 0, 1) := dk_42 (dk_at dksX7_plant_4 15 rfl rfl)
theorem dX7_plant_109 : decode cX7_plant 109 = .ok (.getfield 7, 3) := dk_180 0 7 (dk_at dksX7_plant_4 16 rfl rfl)
theorem dX7_plant_112 : decode cX7_plant 112 = .ok (.bipush 12, 2) := dk_16 12 (dk_at dksX7_plant_4 19 rfl rfl)
theorem dX7_plant_114 : decode cX7_plant 114 = .ok (.iload_n 1, 1) := dk_27 (dk_at dksX7_plant_4 21 rfl rfl)
theorem dX7_plant_115 : decode cX7_plant 115 = .ok (.iadd, 1) := dk_96 (dk_at dksX7_plant_4 22 rfl rfl)
theorem dX7_plant_116 : decode cX7_plant 116 = .ok (.iconst 0, 1) := dk_3 (dk_at dksX7_plant_4 23 rfl rfl)
theorem dX7_plant_117 : decode cX7_plant 117 = .ok (.iastore, 1) := dk_79 (dk_at dksX7_plant_5 0 rfl rfl)
theorem dX7_plant_118 : decode cX7_plant 118 = .ok (.aload_n 0, 1) := dk_42 (dk_at dksX7_plant_5 1 rfl rfl)
theorem dX7_plant_119 : decode cX7_plant 119 = .ok (.getfield 7, 3) := dk_180 0 7 (dk_at dksX7_plant_5 2 rfl rfl)
theorem dX7_plant_122 : decode cX7_plant 122 = .ok (.bipush 16, 2) := dk_16 16 (dk_at dksX7_plant_5 5 rfl rfl)
theorem dX7_plant_124 : decode cX7_plant 124 = .ok (.iload_n 1, 1) := dk_27 (dk_at dksX7_plant_5 7 rfl rfl)
theorem dX7_plant_125 : decode cX7_plant 125 = .ok (.iadd, 1) := dk_96 (dk_at dksX7_plant_5 8 rfl rfl)
theorem dX7_plant_126 : decode cX7_plant 126 = .ok (.iconst 0, 1) := dk_3 (dk_at dksX7_plant_5 9 rfl rfl)
theorem dX7_plant_127 : decode cX7_plant 127 = .ok (.iastore, 1) := dk_79 (dk_at dksX7_plant_5 10 rfl rfl)
theorem dX7_plant_128 : decode cX7_plant 128 = .ok (.aload_n 0, 1) := dk_42 (dk_at dksX7_plant_5 11 rfl rfl)
theorem dX7_plant_129 : decode cX7_plant 129 = .ok (.getfield 7, 3) := dk_180 0 7 (dk_at dksX7_plant_5 12 rfl rfl)
theorem dX7_plant_132 : decode cX7_plant 132 = .ok (.bipush 20, 2) := dk_16 20 (dk_at dksX7_plant_5 15 rfl rfl)
theorem dX7_plant_134 : decode cX7_plant 134 = .ok (.iload_n 1, 1) := dk_27 (dk_at dksX7_plant_5 17 rfl rfl)
theorem dX7_plant_135 : decode cX7_plant 135 = .ok (.iadd, 1) := dk_96 (dk_at dksX7_plant_5 18 rfl rfl)
theorem dX7_plant_136 : decode cX7_plant 136 = .ok (.bipush (-2), 2) := dk_16 254 (dk_at dksX7_plant_5 19 rfl rfl)
theorem dX7_plant_138 : decode cX7_plant 138 = .ok (.iastore, 1) := dk_79 (dk_at dksX7_plant_5 21 rfl rfl)
theorem dX7_plant_139 : decode cX7_plant 139 = .ok (.iconst 0, 1) := dk_3 (dk_at dksX7_plant_5 22 rfl rfl)
theorem dX7_plant_140 : decode cX7_plant 140 = .ok (.istore 5, 2) := dk_54 5 (dk_at dksX7_plant_6 0 rfl rfl)
theorem dX7_plant_142 : decode cX7_plant 142 = .ok (.iload 5, 2) := dk_21 5 (dk_at dksX7_plant_6 2 rfl rfl)
theorem dX7_plant_144 : decode cX7_plant 144 = .ok (.bipush 7, 2) := dk_16 7 (dk_at dksX7_plant_6 4 rfl rfl)
theorem dX7_plant_146 : decode cX7_plant 146 = .ok (.if_icmp .ge 25, 3) := dk_162 0 25 (dk_at dksX7_plant_6 6 rfl rfl)
theorem dX7_plant_149 : decode cX7_plant 149 = .ok (.aload_n 0, 1) := dk_42 (dk_at dksX7_plant_6 9 rfl rfl)
theorem dX7_plant_150 : decode cX7_plant 150 = .ok (.getfield 7, 3) := dk_180 0 7 (dk_at dksX7_plant_6 10 rfl rfl)
theorem dX7_plant_153 : decode cX7_plant 153 = .ok (.bipush 24, 2) := dk_16 24 (dk_at dksX7_plant_6 13 rfl rfl)
theorem dX7_plant_155 : decode cX7_plant 155 = .ok (.bipush 7, 2) := dk_16 7 (dk_at dksX7_plant_6 15 rfl rfl)
theorem dX7_plant_157 : decode cX7_plant 157 = .ok (.iload_n 1, 1) := dk_27 (dk_at dksX7_plant_6 17 rfl rfl)
theorem dX7_plant_158 : decode cX7_plant 158 = .ok (.imul, 1) := dk_104 (dk_at dksX7_plant_6 18 rfl rfl)
theorem dX7_plant_159 : decode cX7_plant 159 = .ok (.iadd, 1) := dk_96 (dk_at dksX7_plant_6 19 rfl rfl)
theorem dX7_plant_160 : decode cX7_plant 160 = .ok (.iload 5, 2) := dk_21 5 (dk_at dksX7_plant_6 20 rfl rfl)
theorem dX7_plant_162 : decode cX7_plant 162 = .ok (.iadd, 1) := dk_96 (dk_at dksX7_plant_6 22 rfl rfl)
theorem dX7_plant_163 : decode cX7_plant 163 = .ok (.iload_n 3, 1) := dk_29 (dk_at dksX7_plant_6 23 rfl rfl)
theorem dX7_plant_164 : decode cX7_plant 164 = .ok (.iastore, 1) := dk_79 (dk_at dksX7_plant_7 0 rfl rfl)
theorem dX7_plant_165 : decode cX7_plant 165 = .ok (.iinc 5 1, 3) := dk_132 5 1 (dk_at dksX7_plant_7 1 rfl rfl)
theorem dX7_plant_168 : decode cX7_plant 168 = .ok (.goto (-26), 3) := dk_167 255 230 (dk_at dksX7_plant_7 4 rfl rfl)
theorem dX7_plant_171 : decode cX7_plant 171 = .ok (.iconst 1, 1) := dk_4 (dk_at dksX7_plant_7 7 rfl rfl)
theorem dX7_plant_172 : decode cX7_plant 172 = .ok (.ireturn, 1) := dk_172 (dk_at dksX7_plant_7 8 rfl rfl)
abbrev cX7_in : ByteArray := prog_19_method_2_code
def yX7_in : MethodName := ⟨RX7, "in", "(III)Z"⟩
def dkwX7_in_0 : List UInt8 := [26, 27, 161, 0, 12, 26, 28, 163, 0, 7, 4, 167, 0, 4, 3, 172]
abbrev dktX7_in_0 : List UInt8 := dkwX7_in_0 ++ []
theorem dksX7_in_0 : cX7_in.data.toList.drop 0 = dktX7_in_0 := by decide +kernel
theorem dX7_in_0 : decode cX7_in 0 = .ok (.iload_n 0, 1) := dk_26 (dk_at dksX7_in_0 0 rfl rfl)
theorem dX7_in_1 : decode cX7_in 1 = .ok (.iload_n 1, 1) := dk_27 (dk_at dksX7_in_0 1 rfl rfl)
theorem dX7_in_2 : decode cX7_in 2 = .ok (.if_icmp .lt 12, 3) := dk_161 0 12 (dk_at dksX7_in_0 2 rfl rfl)
theorem dX7_in_5 : decode cX7_in 5 = .ok (.iload_n 0, 1) := dk_26 (dk_at dksX7_in_0 5 rfl rfl)
theorem dX7_in_6 : decode cX7_in 6 = .ok (.iload_n 2, 1) := dk_28 (dk_at dksX7_in_0 6 rfl rfl)
theorem dX7_in_7 : decode cX7_in 7 = .ok (.if_icmp .gt 7, 3) := dk_163 0 7 (dk_at dksX7_in_0 7 rfl rfl)
theorem dX7_in_10 : decode cX7_in 10 = .ok (.iconst 1, 1) := dk_4 (dk_at dksX7_in_0 10 rfl rfl)
theorem dX7_in_11 : decode cX7_in 11 = .ok (.goto 4, 3) := dk_167 0 4 (dk_at dksX7_in_0 11 rfl rfl)
theorem dX7_in_14 : decode cX7_in 14 = .ok (.iconst 0, 1) := dk_3 (dk_at dksX7_in_0 14 rfl rfl)
theorem dX7_in_15 : decode cX7_in 15 = .ok (.ireturn, 1) := dk_172 (dk_at dksX7_in_0 15 rfl rfl)
abbrev cX7_person : ByteArray := prog_19_method_15_code
def yX7_person : MethodName := ⟨RX7, "person", "(III)Z"⟩
def dkwX7_person_3 : List UInt8 := [180, 0, 7, 16, 68, 27, 96, 3, 79, 4, 172]
abbrev dktX7_person_3 : List UInt8 := dkwX7_person_3 ++ []
def dkwX7_person_2 : List UInt8 := [128, 79, 42, 180, 0, 7, 16, 52, 27, 96, 28, 79, 42, 180, 0, 7, 16, 60, 27, 96, 29, 79, 42]
abbrev dktX7_person_2 : List UInt8 := dkwX7_person_2 ++ dktX7_person_3
def dkwX7_person_1 : List UInt8 := [184, 0, 126, 154, 0, 5, 3, 172, 42, 180, 0, 7, 16, 78, 42, 180, 0, 7, 16, 78, 46, 4, 27, 120]
abbrev dktX7_person_1 : List UInt8 := dkwX7_person_1 ++ dktX7_person_2
def dkwX7_person_0 : List UInt8 := [27, 3, 16, 7, 184, 0, 126, 153, 0, 22, 28, 3, 16, 10, 184, 0, 126, 153, 0, 12, 29, 3, 6]
abbrev dktX7_person_0 : List UInt8 := dkwX7_person_0 ++ dktX7_person_1
theorem dksX7_person_0 : cX7_person.data.toList.drop 0 = dktX7_person_0 := by decide +kernel
theorem dksX7_person_1 : cX7_person.data.toList.drop 23 = dktX7_person_1 := dk_seg dksX7_person_0 23 rfl rfl
theorem dksX7_person_2 : cX7_person.data.toList.drop 47 = dktX7_person_2 := dk_seg dksX7_person_1 24 rfl rfl
theorem dksX7_person_3 : cX7_person.data.toList.drop 70 = dktX7_person_3 := dk_seg dksX7_person_2 23 rfl rfl
theorem dX7_person_0 : decode cX7_person 0 = .ok (.iload_n 1, 1) := dk_27 (dk_at dksX7_person_0 0 rfl rfl)
theorem dX7_person_1 : decode cX7_person 1 = .ok (.iconst 0, 1) := dk_3 (dk_at dksX7_person_0 1 rfl rfl)
theorem dX7_person_2 : decode cX7_person 2 = .ok (.bipush 7, 2) := dk_16 7 (dk_at dksX7_person_0 2 rfl rfl)
theorem dX7_person_4 : decode cX7_person 4 = .ok (.invokestatic 126, 3) := dk_184 0 126 (dk_at dksX7_person_0 4 rfl rfl)
theorem dX7_person_7 : decode cX7_person 7 = .ok (.ifCond .eq 22, 3) := dk_153 0 22 (dk_at dksX7_person_0 7 rfl rfl)
theorem dX7_person_10 : decode cX7_person 10 = .ok (.iload_n 2, 1) := dk_28 (dk_at dksX7_person_0 10 rfl rfl)
theorem dX7_person_11 : decode cX7_person 11 = .ok (.iconst 0, 1) := dk_3 (dk_at dksX7_person_0 11 rfl rfl)
theorem dX7_person_12 : decode cX7_person 12 = .ok (.bipush 10, 2) := dk_16 10 (dk_at dksX7_person_0 12 rfl rfl)
theorem dX7_person_14 : decode cX7_person 14 = .ok (.invokestatic 126, 3) := dk_184 0 126 (dk_at dksX7_person_0 14 rfl rfl)
theorem dX7_person_17 : decode cX7_person 17 = .ok (.ifCond .eq 12, 3) := dk_153 0 12 (dk_at dksX7_person_0 17 rfl rfl)
theorem dX7_person_20 : decode cX7_person 20 = .ok (.iload_n 3, 1) := dk_29 (dk_at dksX7_person_0 20 rfl rfl)
theorem dX7_person_21 : decode cX7_person 21 = .ok (.iconst 0, 1) := dk_3 (dk_at dksX7_person_0 21 rfl rfl)
theorem dX7_person_22 : decode cX7_person 22 = .ok (.iconst 3, 1) := dk_6 (dk_at dksX7_person_0 22 rfl rfl)
theorem dX7_person_23 : decode cX7_person 23 = .ok (.invokestatic 126, 3) := dk_184 0 126 (dk_at dksX7_person_1 0 rfl rfl)
theorem dX7_person_26 : decode cX7_person 26 = .ok (.ifCond .ne 5, 3) := dk_154 0 5 (dk_at dksX7_person_1 3 rfl rfl)
theorem dX7_person_29 : decode cX7_person 29 = .ok (.iconst 0, 1) := dk_3 (dk_at dksX7_person_1 6 rfl rfl)
theorem dX7_person_30 : decode cX7_person 30 = .ok (.ireturn, 1) := dk_172 (dk_at dksX7_person_1 7 rfl rfl)
theorem dX7_person_31 : decode cX7_person 31 = .ok (.aload_n 0, 1) := dk_42 (dk_at dksX7_person_1 8 rfl rfl)
theorem dX7_person_32 : decode cX7_person 32 = .ok (.getfield 7, 3) := dk_180 0 7 (dk_at dksX7_person_1 9 rfl rfl)
theorem dX7_person_35 : decode cX7_person 35 = .ok (.bipush 78, 2) := dk_16 78 (dk_at dksX7_person_1 12 rfl rfl)
theorem dX7_person_37 : decode cX7_person 37 = .ok (.aload_n 0, 1) := dk_42 (dk_at dksX7_person_1 14 rfl rfl)
theorem dX7_person_38 : decode cX7_person 38 = .ok (.getfield 7, 3) := dk_180 0 7 (dk_at dksX7_person_1 15 rfl rfl)
theorem dX7_person_41 : decode cX7_person 41 = .ok (.bipush 78, 2) := dk_16 78 (dk_at dksX7_person_1 18 rfl rfl)
theorem dX7_person_43 : decode cX7_person 43 = .ok (.iaload, 1) := dk_46 (dk_at dksX7_person_1 20 rfl rfl)
theorem dX7_person_44 : decode cX7_person 44 = .ok (.iconst 1, 1) := dk_4 (dk_at dksX7_person_1 21 rfl rfl)
theorem dX7_person_45 : decode cX7_person 45 = .ok (.iload_n 1, 1) := dk_27 (dk_at dksX7_person_1 22 rfl rfl)
theorem dX7_person_46 : decode cX7_person 46 = .ok (.ishl, 1) := dk_120 (dk_at dksX7_person_1 23 rfl rfl)
theorem dX7_person_47 : decode cX7_person 47 = .ok (.ior, 1) := dk_128 (dk_at dksX7_person_2 0 rfl rfl)
theorem dX7_person_48 : decode cX7_person 48 = .ok (.iastore, 1) := dk_79 (dk_at dksX7_person_2 1 rfl rfl)
theorem dX7_person_49 : decode cX7_person 49 = .ok (.aload_n 0, 1) := dk_42 (dk_at dksX7_person_2 2 rfl rfl)
theorem dX7_person_50 : decode cX7_person 50 = .ok (.getfield 7, 3) := dk_180 0 7 (dk_at dksX7_person_2 3 rfl rfl)
theorem dX7_person_53 : decode cX7_person 53 = .ok (.bipush 52, 2) := dk_16 52 (dk_at dksX7_person_2 6 rfl rfl)
theorem dX7_person_55 : decode cX7_person 55 = .ok (.iload_n 1, 1) := dk_27 (dk_at dksX7_person_2 8 rfl rfl)
theorem dX7_person_56 : decode cX7_person 56 = .ok (.iadd, 1) := dk_96 (dk_at dksX7_person_2 9 rfl rfl)
theorem dX7_person_57 : decode cX7_person 57 = .ok (.iload_n 2, 1) := dk_28 (dk_at dksX7_person_2 10 rfl rfl)
theorem dX7_person_58 : decode cX7_person 58 = .ok (.iastore, 1) := dk_79 (dk_at dksX7_person_2 11 rfl rfl)
theorem dX7_person_59 : decode cX7_person 59 = .ok (.aload_n 0, 1) := dk_42 (dk_at dksX7_person_2 12 rfl rfl)
theorem dX7_person_60 : decode cX7_person 60 = .ok (.getfield 7, 3) := dk_180 0 7 (dk_at dksX7_person_2 13 rfl rfl)
theorem dX7_person_63 : decode cX7_person 63 = .ok (.bipush 60, 2) := dk_16 60 (dk_at dksX7_person_2 16 rfl rfl)
theorem dX7_person_65 : decode cX7_person 65 = .ok (.iload_n 1, 1) := dk_27 (dk_at dksX7_person_2 18 rfl rfl)
theorem dX7_person_66 : decode cX7_person 66 = .ok (.iadd, 1) := dk_96 (dk_at dksX7_person_2 19 rfl rfl)
theorem dX7_person_67 : decode cX7_person 67 = .ok (.iload_n 3, 1) := dk_29 (dk_at dksX7_person_2 20 rfl rfl)
theorem dX7_person_68 : decode cX7_person 68 = .ok (.iastore, 1) := dk_79 (dk_at dksX7_person_2 21 rfl rfl)
theorem dX7_person_69 : decode cX7_person 69 = .ok (.aload_n 0, 1) := dk_42 (dk_at dksX7_person_2 22 rfl rfl)
theorem dX7_person_70 : decode cX7_person 70 = .ok (.getfield 7, 3) := dk_180 0 7 (dk_at dksX7_person_3 0 rfl rfl)
theorem dX7_person_73 : decode cX7_person 73 = .ok (.bipush 68, 2) := dk_16 68 (dk_at dksX7_person_3 3 rfl rfl)
theorem dX7_person_75 : decode cX7_person 75 = .ok (.iload_n 1, 1) := dk_27 (dk_at dksX7_person_3 5 rfl rfl)
theorem dX7_person_76 : decode cX7_person 76 = .ok (.iadd, 1) := dk_96 (dk_at dksX7_person_3 6 rfl rfl)
theorem dX7_person_77 : decode cX7_person 77 = .ok (.iconst 0, 1) := dk_3 (dk_at dksX7_person_3 7 rfl rfl)
theorem dX7_person_78 : decode cX7_person 78 = .ok (.iastore, 1) := dk_79 (dk_at dksX7_person_3 8 rfl rfl)
theorem dX7_person_79 : decode cX7_person 79 = .ok (.iconst 1, 1) := dk_4 (dk_at dksX7_person_3 9 rfl rfl)
theorem dX7_person_80 : decode cX7_person 80 = .ok (.ireturn, 1) := dk_172 (dk_at dksX7_person_3 10 rfl rfl)
abbrev cX7_card : ByteArray := prog_19_method_16_code
def yX7_card : MethodName := ⟨RX7, "card", "(IZ)Z"⟩
def dkwX7_card_2 : List UInt8 := [167, 0, 5, 16, 254, 79, 4, 172]
abbrev dktX7_card_2 : List UInt8 := dkwX7_card_2 ++ []
def dkwX7_card_1 : List UInt8 := [167, 0, 4, 3, 28, 159, 0, 5, 3, 172, 42, 180, 0, 7, 16, 20, 27, 96, 28, 153, 0, 8, 16, 253]
abbrev dktX7_card_1 : List UInt8 := dkwX7_card_1 ++ dktX7_card_2
def dkwX7_card_0 : List UInt8 := [42, 27, 182, 0, 122, 153, 0, 26, 42, 180, 0, 7, 16, 20, 27, 96, 46, 16, 254, 160, 0, 7, 4]
abbrev dktX7_card_0 : List UInt8 := dkwX7_card_0 ++ dktX7_card_1
theorem dksX7_card_0 : cX7_card.data.toList.drop 0 = dktX7_card_0 := by decide +kernel
theorem dksX7_card_1 : cX7_card.data.toList.drop 23 = dktX7_card_1 := dk_seg dksX7_card_0 23 rfl rfl
theorem dksX7_card_2 : cX7_card.data.toList.drop 47 = dktX7_card_2 := dk_seg dksX7_card_1 24 rfl rfl
theorem dX7_card_0 : decode cX7_card 0 = .ok (.aload_n 0, 1) := dk_42 (dk_at dksX7_card_0 0 rfl rfl)
theorem dX7_card_1 : decode cX7_card 1 = .ok (.iload_n 1, 1) := dk_27 (dk_at dksX7_card_0 1 rfl rfl)
theorem dX7_card_2 : decode cX7_card 2 = .ok (.invokevirtual 122, 3) := dk_182 0 122 (dk_at dksX7_card_0 2 rfl rfl)
theorem dX7_card_5 : decode cX7_card 5 = .ok (.ifCond .eq 26, 3) := dk_153 0 26 (dk_at dksX7_card_0 5 rfl rfl)
theorem dX7_card_8 : decode cX7_card 8 = .ok (.aload_n 0, 1) := dk_42 (dk_at dksX7_card_0 8 rfl rfl)
theorem dX7_card_9 : decode cX7_card 9 = .ok (.getfield 7, 3) := dk_180 0 7 (dk_at dksX7_card_0 9 rfl rfl)
theorem dX7_card_12 : decode cX7_card 12 = .ok (.bipush 20, 2) := dk_16 20 (dk_at dksX7_card_0 12 rfl rfl)
theorem dX7_card_14 : decode cX7_card 14 = .ok (.iload_n 1, 1) := dk_27 (dk_at dksX7_card_0 14 rfl rfl)
theorem dX7_card_15 : decode cX7_card 15 = .ok (.iadd, 1) := dk_96 (dk_at dksX7_card_0 15 rfl rfl)
theorem dX7_card_16 : decode cX7_card 16 = .ok (.iaload, 1) := dk_46 (dk_at dksX7_card_0 16 rfl rfl)
theorem dX7_card_17 : decode cX7_card 17 = .ok (.bipush (-2), 2) := dk_16 254 (dk_at dksX7_card_0 17 rfl rfl)
theorem dX7_card_19 : decode cX7_card 19 = .ok (.if_icmp .ne 7, 3) := dk_160 0 7 (dk_at dksX7_card_0 19 rfl rfl)
theorem dX7_card_22 : decode cX7_card 22 = .ok (.iconst 1, 1) := dk_4 (dk_at dksX7_card_0 22 rfl rfl)
theorem dX7_card_23 : decode cX7_card 23 = .ok (.goto 4, 3) := dk_167 0 4 (dk_at dksX7_card_1 0 rfl rfl)
theorem dX7_card_26 : decode cX7_card 26 = .ok (.iconst 0, 1) := dk_3 (dk_at dksX7_card_1 3 rfl rfl)
theorem dX7_card_27 : decode cX7_card 27 = .ok (.iload_n 2, 1) := dk_28 (dk_at dksX7_card_1 4 rfl rfl)
theorem dX7_card_28 : decode cX7_card 28 = .ok (.if_icmp .eq 5, 3) := dk_159 0 5 (dk_at dksX7_card_1 5 rfl rfl)
theorem dX7_card_31 : decode cX7_card 31 = .ok (.iconst 0, 1) := dk_3 (dk_at dksX7_card_1 8 rfl rfl)
theorem dX7_card_32 : decode cX7_card 32 = .ok (.ireturn, 1) := dk_172 (dk_at dksX7_card_1 9 rfl rfl)
theorem dX7_card_33 : decode cX7_card 33 = .ok (.aload_n 0, 1) := dk_42 (dk_at dksX7_card_1 10 rfl rfl)
theorem dX7_card_34 : decode cX7_card 34 = .ok (.getfield 7, 3) := dk_180 0 7 (dk_at dksX7_card_1 11 rfl rfl)
theorem dX7_card_37 : decode cX7_card 37 = .ok (.bipush 20, 2) := dk_16 20 (dk_at dksX7_card_1 14 rfl rfl)
theorem dX7_card_39 : decode cX7_card 39 = .ok (.iload_n 1, 1) := dk_27 (dk_at dksX7_card_1 16 rfl rfl)
theorem dX7_card_40 : decode cX7_card 40 = .ok (.iadd, 1) := dk_96 (dk_at dksX7_card_1 17 rfl rfl)
theorem dX7_card_41 : decode cX7_card 41 = .ok (.iload_n 2, 1) := dk_28 (dk_at dksX7_card_1 18 rfl rfl)
theorem dX7_card_42 : decode cX7_card 42 = .ok (.ifCond .eq 8, 3) := dk_153 0 8 (dk_at dksX7_card_1 19 rfl rfl)
theorem dX7_card_45 : decode cX7_card 45 = .ok (.bipush (-3), 2) := dk_16 253 (dk_at dksX7_card_1 22 rfl rfl)
theorem dX7_card_47 : decode cX7_card 47 = .ok (.goto 5, 3) := dk_167 0 5 (dk_at dksX7_card_2 0 rfl rfl)
theorem dX7_card_50 : decode cX7_card 50 = .ok (.bipush (-2), 2) := dk_16 254 (dk_at dksX7_card_2 3 rfl rfl)
theorem dX7_card_52 : decode cX7_card 52 = .ok (.iastore, 1) := dk_79 (dk_at dksX7_card_2 5 rfl rfl)
theorem dX7_card_53 : decode cX7_card 53 = .ok (.iconst 1, 1) := dk_4 (dk_at dksX7_card_2 6 rfl rfl)
theorem dX7_card_54 : decode cX7_card 54 = .ok (.ireturn, 1) := dk_172 (dk_at dksX7_card_2 7 rfl rfl)
abbrev cX7_isPlant : ByteArray := prog_19_method_11_code
def yX7_isPlant : MethodName := ⟨RX7, "isPlant", "(I)Z"⟩
def dkwX7_isPlant_1 : List UInt8 := [167, 0, 4, 3, 172]
abbrev dktX7_isPlant_1 : List UInt8 := dkwX7_isPlant_1 ++ []
def dkwX7_isPlant_0 : List UInt8 := [27, 155, 0, 26, 27, 7, 162, 0, 21, 42, 180, 0, 7, 16, 76, 46, 27, 184, 0, 118, 153, 0, 7, 4]
abbrev dktX7_isPlant_0 : List UInt8 := dkwX7_isPlant_0 ++ dktX7_isPlant_1
theorem dksX7_isPlant_0 : cX7_isPlant.data.toList.drop 0 = dktX7_isPlant_0 := by decide +kernel
theorem dksX7_isPlant_1 : cX7_isPlant.data.toList.drop 24 = dktX7_isPlant_1 := dk_seg dksX7_isPlant_0 24 rfl rfl
theorem dX7_isPlant_0 : decode cX7_isPlant 0 = .ok (.iload_n 1, 1) := dk_27 (dk_at dksX7_isPlant_0 0 rfl rfl)
theorem dX7_isPlant_1 : decode cX7_isPlant 1 = .ok (.ifCond .lt 26, 3) := dk_155 0 26 (dk_at dksX7_isPlant_0 1 rfl rfl)
theorem dX7_isPlant_4 : decode cX7_isPlant 4 = .ok (.iload_n 1, 1) := dk_27 (dk_at dksX7_isPlant_0 4 rfl rfl)
theorem dX7_isPlant_5 : decode cX7_isPlant 5 = .ok (.iconst 4, 1) := dk_7 (dk_at dksX7_isPlant_0 5 rfl rfl)
theorem dX7_isPlant_6 : decode cX7_isPlant 6 = .ok (.if_icmp .ge 21, 3) := dk_162 0 21 (dk_at dksX7_isPlant_0 6 rfl rfl)
theorem dX7_isPlant_9 : decode cX7_isPlant 9 = .ok (.aload_n 0, 1) := dk_42 (dk_at dksX7_isPlant_0 9 rfl rfl)
theorem dX7_isPlant_10 : decode cX7_isPlant 10 = .ok (.getfield 7, 3) := dk_180 0 7 (dk_at dksX7_isPlant_0 10 rfl rfl)
theorem dX7_isPlant_13 : decode cX7_isPlant 13 = .ok (.bipush 76, 2) := dk_16 76 (dk_at dksX7_isPlant_0 13 rfl rfl)
theorem dX7_isPlant_15 : decode cX7_isPlant 15 = .ok (.iaload, 1) := dk_46 (dk_at dksX7_isPlant_0 15 rfl rfl)
theorem dX7_isPlant_16 : decode cX7_isPlant 16 = .ok (.iload_n 1, 1) := dk_27 (dk_at dksX7_isPlant_0 16 rfl rfl)
theorem dX7_isPlant_17 : decode cX7_isPlant 17 = .ok (.invokestatic 118, 3) := dk_184 0 118 (dk_at dksX7_isPlant_0 17 rfl rfl)
theorem dX7_isPlant_20 : decode cX7_isPlant 20 = .ok (.ifCond .eq 7, 3) := dk_153 0 7 (dk_at dksX7_isPlant_0 20 rfl rfl)
theorem dX7_isPlant_23 : decode cX7_isPlant 23 = .ok (.iconst 1, 1) := dk_4 (dk_at dksX7_isPlant_0 23 rfl rfl)
theorem dX7_isPlant_24 : decode cX7_isPlant 24 = .ok (.goto 4, 3) := dk_167 0 4 (dk_at dksX7_isPlant_1 0 rfl rfl)
theorem dX7_isPlant_27 : decode cX7_isPlant 27 = .ok (.iconst 0, 1) := dk_3 (dk_at dksX7_isPlant_1 3 rfl rfl)
theorem dX7_isPlant_28 : decode cX7_isPlant 28 = .ok (.ireturn, 1) := dk_172 (dk_at dksX7_isPlant_1 4 rfl rfl)
abbrev cX7_has : ByteArray := prog_19_method_5_code
def yX7_has : MethodName := ⟨RX7, "has", "(II)Z"⟩
def dkwX7_has_0 : List UInt8 := [26, 27, 122, 4, 126, 4, 160, 0, 7, 4, 167, 0, 4, 3, 172]
abbrev dktX7_has_0 : List UInt8 := dkwX7_has_0 ++ []
theorem dksX7_has_0 : cX7_has.data.toList.drop 0 = dktX7_has_0 := by decide +kernel
theorem dX7_has_0 : decode cX7_has 0 = .ok (.iload_n 0, 1) := dk_26 (dk_at dksX7_has_0 0 rfl rfl)
theorem dX7_has_1 : decode cX7_has 1 = .ok (.iload_n 1, 1) := dk_27 (dk_at dksX7_has_0 1 rfl rfl)
theorem dX7_has_2 : decode cX7_has 2 = .ok (.ishr, 1) := dk_122 (dk_at dksX7_has_0 2 rfl rfl)
theorem dX7_has_3 : decode cX7_has 3 = .ok (.iconst 1, 1) := dk_4 (dk_at dksX7_has_0 3 rfl rfl)
theorem dX7_has_4 : decode cX7_has 4 = .ok (.iand, 1) := dk_126 (dk_at dksX7_has_0 4 rfl rfl)
theorem dX7_has_5 : decode cX7_has 5 = .ok (.iconst 1, 1) := dk_4 (dk_at dksX7_has_0 5 rfl rfl)
theorem dX7_has_6 : decode cX7_has 6 = .ok (.if_icmp .ne 7, 3) := dk_160 0 7 (dk_at dksX7_has_0 6 rfl rfl)
theorem dX7_has_9 : decode cX7_has 9 = .ok (.iconst 1, 1) := dk_4 (dk_at dksX7_has_0 9 rfl rfl)
theorem dX7_has_10 : decode cX7_has 10 = .ok (.goto 4, 3) := dk_167 0 4 (dk_at dksX7_has_0 10 rfl rfl)
theorem dX7_has_13 : decode cX7_has 13 = .ok (.iconst 0, 1) := dk_3 (dk_at dksX7_has_0 13 rfl rfl)
theorem dX7_has_14 : decode cX7_has 14 = .ok (.ireturn, 1) := dk_172 (dk_at dksX7_has_0 14 rfl rfl)
abbrev cX7_pour : ByteArray := prog_19_method_17_code
def yX7_pour : MethodName := ⟨RX7, "pour", "(II)I"⟩
def dkwX7_pour_2 : List UInt8 := [79, 42, 180, 0, 7, 7, 27, 96, 46, 172]
abbrev dktX7_pour_2 : List UInt8 := dkwX7_pour_2 ++ []
def dkwX7_pour_1 : List UInt8 := [7, 27, 96, 42, 180, 0, 7, 3, 27, 96, 46, 42, 180, 0, 7, 7, 27, 96, 46, 28, 96, 184, 0, 133]
abbrev dktX7_pour_1 : List UInt8 := dkwX7_pour_1 ++ dktX7_pour_2
def dkwX7_pour_0 : List UInt8 := [42, 27, 182, 0, 130, 153, 0, 13, 28, 3, 16, 24, 184, 0, 126, 154, 0, 5, 2, 172, 42, 180, 0, 7]
abbrev dktX7_pour_0 : List UInt8 := dkwX7_pour_0 ++ dktX7_pour_1
theorem dksX7_pour_0 : cX7_pour.data.toList.drop 0 = dktX7_pour_0 := by decide +kernel
theorem dksX7_pour_1 : cX7_pour.data.toList.drop 24 = dktX7_pour_1 := dk_seg dksX7_pour_0 24 rfl rfl
theorem dksX7_pour_2 : cX7_pour.data.toList.drop 48 = dktX7_pour_2 := dk_seg dksX7_pour_1 24 rfl rfl
theorem dX7_pour_0 : decode cX7_pour 0 = .ok (.aload_n 0, 1) := dk_42 (dk_at dksX7_pour_0 0 rfl rfl)
theorem dX7_pour_1 : decode cX7_pour 1 = .ok (.iload_n 1, 1) := dk_27 (dk_at dksX7_pour_0 1 rfl rfl)
theorem dX7_pour_2 : decode cX7_pour 2 = .ok (.invokevirtual 130, 3) := dk_182 0 130 (dk_at dksX7_pour_0 2 rfl rfl)
theorem dX7_pour_5 : decode cX7_pour 5 = .ok (.ifCond .eq 13, 3) := dk_153 0 13 (dk_at dksX7_pour_0 5 rfl rfl)
theorem dX7_pour_8 : decode cX7_pour 8 = .ok (.iload_n 2, 1) := dk_28 (dk_at dksX7_pour_0 8 rfl rfl)
theorem dX7_pour_9 : decode cX7_pour 9 = .ok (.iconst 0, 1) := dk_3 (dk_at dksX7_pour_0 9 rfl rfl)
theorem dX7_pour_10 : decode cX7_pour 10 = .ok (.bipush 24, 2) := dk_16 24 (dk_at dksX7_pour_0 10 rfl rfl)
theorem dX7_pour_12 : decode cX7_pour 12 = .ok (.invokestatic 126, 3) := dk_184 0 126 (dk_at dksX7_pour_0 12 rfl rfl)
theorem dX7_pour_15 : decode cX7_pour 15 = .ok (.ifCond .ne 5, 3) := dk_154 0 5 (dk_at dksX7_pour_0 15 rfl rfl)
theorem dX7_pour_18 : decode cX7_pour 18 = .ok (.iconst (-1), 1) := dk_2 (dk_at dksX7_pour_0 18 rfl rfl)
theorem dX7_pour_19 : decode cX7_pour 19 = .ok (.ireturn, 1) := dk_172 (dk_at dksX7_pour_0 19 rfl rfl)
theorem dX7_pour_20 : decode cX7_pour 20 = .ok (.aload_n 0, 1) := dk_42 (dk_at dksX7_pour_0 20 rfl rfl)
theorem dX7_pour_21 : decode cX7_pour 21 = .ok (.getfield 7, 3) := dk_180 0 7 (dk_at dksX7_pour_0 21 rfl rfl)
theorem dX7_pour_24 : decode cX7_pour 24 = .ok (.iconst 4, 1) := dk_7 (dk_at dksX7_pour_1 0 rfl rfl)
theorem dX7_pour_25 : decode cX7_pour 25 = .ok (.iload_n 1, 1) := dk_27 (dk_at dksX7_pour_1 1 rfl rfl)
theorem dX7_pour_26 : decode cX7_pour 26 = .ok (.iadd, 1) := dk_96 (dk_at dksX7_pour_1 2 rfl rfl)
theorem dX7_pour_27 : decode cX7_pour 27 = .ok (.aload_n 0, 1) := dk_42 (dk_at dksX7_pour_1 3 rfl rfl)
theorem dX7_pour_28 : decode cX7_pour 28 = .ok (.getfield 7, 3) := dk_180 0 7 (dk_at dksX7_pour_1 4 rfl rfl)
theorem dX7_pour_31 : decode cX7_pour 31 = .ok (.iconst 0, 1) := dk_3 (dk_at dksX7_pour_1 7 rfl rfl)
theorem dX7_pour_32 : decode cX7_pour 32 = .ok (.iload_n 1, 1) := dk_27 (dk_at dksX7_pour_1 8 rfl rfl)
theorem dX7_pour_33 : decode cX7_pour 33 = .ok (.iadd, 1) := dk_96 (dk_at dksX7_pour_1 9 rfl rfl)
theorem dX7_pour_34 : decode cX7_pour 34 = .ok (.iaload, 1) := dk_46 (dk_at dksX7_pour_1 10 rfl rfl)
theorem dX7_pour_35 : decode cX7_pour 35 = .ok (.aload_n 0, 1) := dk_42 (dk_at dksX7_pour_1 11 rfl rfl)
theorem dX7_pour_36 : decode cX7_pour 36 = .ok (.getfield 7, 3) := dk_180 0 7 (dk_at dksX7_pour_1 12 rfl rfl)
theorem dX7_pour_39 : decode cX7_pour 39 = .ok (.iconst 4, 1) := dk_7 (dk_at dksX7_pour_1 15 rfl rfl)
theorem dX7_pour_40 : decode cX7_pour 40 = .ok (.iload_n 1, 1) := dk_27 (dk_at dksX7_pour_1 16 rfl rfl)
theorem dX7_pour_41 : decode cX7_pour 41 = .ok (.iadd, 1) := dk_96 (dk_at dksX7_pour_1 17 rfl rfl)
theorem dX7_pour_42 : decode cX7_pour 42 = .ok (.iaload, 1) := dk_46 (dk_at dksX7_pour_1 18 rfl rfl)
theorem dX7_pour_43 : decode cX7_pour 43 = .ok (.iload_n 2, 1) := dk_28 (dk_at dksX7_pour_1 19 rfl rfl)
theorem dX7_pour_44 : decode cX7_pour 44 = .ok (.iadd, 1) := dk_96 (dk_at dksX7_pour_1 20 rfl rfl)
theorem dX7_pour_45 : decode cX7_pour 45 = .ok (.invokestatic 133, 3) := dk_184 0 133 (dk_at dksX7_pour_1 21 rfl rfl)
theorem dX7_pour_48 : decode cX7_pour 48 = .ok (.iastore, 1) := dk_79 (dk_at dksX7_pour_2 0 rfl rfl)
theorem dX7_pour_49 : decode cX7_pour 49 = .ok (.aload_n 0, 1) := dk_42 (dk_at dksX7_pour_2 1 rfl rfl)
theorem dX7_pour_50 : decode cX7_pour 50 = .ok (.getfield 7, 3) := dk_180 0 7 (dk_at dksX7_pour_2 2 rfl rfl)
theorem dX7_pour_53 : decode cX7_pour 53 = .ok (.iconst 4, 1) := dk_7 (dk_at dksX7_pour_2 5 rfl rfl)
theorem dX7_pour_54 : decode cX7_pour 54 = .ok (.iload_n 1, 1) := dk_27 (dk_at dksX7_pour_2 6 rfl rfl)
theorem dX7_pour_55 : decode cX7_pour 55 = .ok (.iadd, 1) := dk_96 (dk_at dksX7_pour_2 7 rfl rfl)
theorem dX7_pour_56 : decode cX7_pour 56 = .ok (.iaload, 1) := dk_46 (dk_at dksX7_pour_2 8 rfl rfl)
theorem dX7_pour_57 : decode cX7_pour 57 = .ok (.ireturn, 1) := dk_172 (dk_at dksX7_pour_2 9 rfl rfl)
abbrev cX7_lives : ByteArray := prog_19_method_12_code
def yX7_lives : MethodName := ⟨RX7, "lives", "(I)Z"⟩
def dkwX7_lives_1 : List UInt8 := [167, 0, 4, 3, 172]
abbrev dktX7_lives_1 : List UInt8 := dkwX7_lives_1 ++ []
def dkwX7_lives_0 : List UInt8 := [42, 27, 182, 0, 122, 153, 0, 21, 42, 180, 0, 7, 16, 77, 46, 27, 184, 0, 118, 154, 0, 7, 4]
abbrev dktX7_lives_0 : List UInt8 := dkwX7_lives_0 ++ dktX7_lives_1
theorem dksX7_lives_0 : cX7_lives.data.toList.drop 0 = dktX7_lives_0 := by decide +kernel
theorem dksX7_lives_1 : cX7_lives.data.toList.drop 23 = dktX7_lives_1 := dk_seg dksX7_lives_0 23 rfl rfl
theorem dX7_lives_0 : decode cX7_lives 0 = .ok (.aload_n 0, 1) := dk_42 (dk_at dksX7_lives_0 0 rfl rfl)
theorem dX7_lives_1 : decode cX7_lives 1 = .ok (.iload_n 1, 1) := dk_27 (dk_at dksX7_lives_0 1 rfl rfl)
theorem dX7_lives_2 : decode cX7_lives 2 = .ok (.invokevirtual 122, 3) := dk_182 0 122 (dk_at dksX7_lives_0 2 rfl rfl)
theorem dX7_lives_5 : decode cX7_lives 5 = .ok (.ifCond .eq 21, 3) := dk_153 0 21 (dk_at dksX7_lives_0 5 rfl rfl)
theorem dX7_lives_8 : decode cX7_lives 8 = .ok (.aload_n 0, 1) := dk_42 (dk_at dksX7_lives_0 8 rfl rfl)
theorem dX7_lives_9 : decode cX7_lives 9 = .ok (.getfield 7, 3) := dk_180 0 7 (dk_at dksX7_lives_0 9 rfl rfl)
theorem dX7_lives_12 : decode cX7_lives 12 = .ok (.bipush 77, 2) := dk_16 77 (dk_at dksX7_lives_0 12 rfl rfl)
theorem dX7_lives_14 : decode cX7_lives 14 = .ok (.iaload, 1) := dk_46 (dk_at dksX7_lives_0 14 rfl rfl)
theorem dX7_lives_15 : decode cX7_lives 15 = .ok (.iload_n 1, 1) := dk_27 (dk_at dksX7_lives_0 15 rfl rfl)
theorem dX7_lives_16 : decode cX7_lives 16 = .ok (.invokestatic 118, 3) := dk_184 0 118 (dk_at dksX7_lives_0 16 rfl rfl)
theorem dX7_lives_19 : decode cX7_lives 19 = .ok (.ifCond .ne 7, 3) := dk_154 0 7 (dk_at dksX7_lives_0 19 rfl rfl)
theorem dX7_lives_22 : decode cX7_lives 22 = .ok (.iconst 1, 1) := dk_4 (dk_at dksX7_lives_0 22 rfl rfl)
theorem dX7_lives_23 : decode cX7_lives 23 = .ok (.goto 4, 3) := dk_167 0 4 (dk_at dksX7_lives_1 0 rfl rfl)
theorem dX7_lives_26 : decode cX7_lives 26 = .ok (.iconst 0, 1) := dk_3 (dk_at dksX7_lives_1 3 rfl rfl)
theorem dX7_lives_27 : decode cX7_lives 27 = .ok (.ireturn, 1) := dk_172 (dk_at dksX7_lives_1 4 rfl rfl)
abbrev cX7_min : ByteArray := prog_19_method_3_code
def yX7_min : MethodName := ⟨RX7, "min", "(II)I"⟩
def dkwX7_min_0 : List UInt8 := [26, 27, 162, 0, 7, 26, 167, 0, 4, 27, 172]
abbrev dktX7_min_0 : List UInt8 := dkwX7_min_0 ++ []
theorem dksX7_min_0 : cX7_min.data.toList.drop 0 = dktX7_min_0 := by decide +kernel
theorem dX7_min_0 : decode cX7_min 0 = .ok (.iload_n 0, 1) := dk_26 (dk_at dksX7_min_0 0 rfl rfl)
theorem dX7_min_1 : decode cX7_min 1 = .ok (.iload_n 1, 1) := dk_27 (dk_at dksX7_min_0 1 rfl rfl)
theorem dX7_min_2 : decode cX7_min 2 = .ok (.if_icmp .ge 7, 3) := dk_162 0 7 (dk_at dksX7_min_0 2 rfl rfl)
theorem dX7_min_5 : decode cX7_min 5 = .ok (.iload_n 0, 1) := dk_26 (dk_at dksX7_min_0 5 rfl rfl)
theorem dX7_min_6 : decode cX7_min 6 = .ok (.goto 4, 3) := dk_167 0 4 (dk_at dksX7_min_0 6 rfl rfl)
theorem dX7_min_9 : decode cX7_min 9 = .ok (.iload_n 1, 1) := dk_27 (dk_at dksX7_min_0 9 rfl rfl)
theorem dX7_min_10 : decode cX7_min 10 = .ok (.ireturn, 1) := dk_172 (dk_at dksX7_min_0 10 rfl rfl)
abbrev cX7_feed : ByteArray := prog_19_method_19_code
def yX7_feed : MethodName := ⟨RX7, "feed", "(IIIII)I"⟩
def dkwX7_feed_2 : List UInt8 := [172]
abbrev dktX7_feed_2 : List UInt8 := dkwX7_feed_2 ++ []
def dkwX7_feed_1 : List UInt8 := [182, 0, 140, 42, 29, 182, 0, 140, 42, 21, 4, 182, 0, 140, 42, 21, 5, 182, 0, 140, 42, 180, 0, 137]
abbrev dktX7_feed_1 : List UInt8 := dkwX7_feed_1 ++ dktX7_feed_2
def dkwX7_feed_0 : List UInt8 := [42, 180, 0, 137, 16, 20, 96, 17, 0, 220, 164, 0, 5, 2, 172, 42, 27, 182, 0, 140, 42, 28]
abbrev dktX7_feed_0 : List UInt8 := dkwX7_feed_0 ++ dktX7_feed_1
theorem dksX7_feed_0 : cX7_feed.data.toList.drop 0 = dktX7_feed_0 := by decide +kernel
theorem dksX7_feed_1 : cX7_feed.data.toList.drop 22 = dktX7_feed_1 := dk_seg dksX7_feed_0 22 rfl rfl
theorem dksX7_feed_2 : cX7_feed.data.toList.drop 46 = dktX7_feed_2 := dk_seg dksX7_feed_1 24 rfl rfl
theorem dX7_feed_0 : decode cX7_feed 0 = .ok (.aload_n 0, 1) := dk_42 (dk_at dksX7_feed_0 0 rfl rfl)
theorem dX7_feed_1 : decode cX7_feed 1 = .ok (.getfield 137, 3) := dk_180 0 137 (dk_at dksX7_feed_0 1 rfl rfl)
theorem dX7_feed_4 : decode cX7_feed 4 = .ok (.bipush 20, 2) := dk_16 20 (dk_at dksX7_feed_0 4 rfl rfl)
theorem dX7_feed_6 : decode cX7_feed 6 = .ok (.iadd, 1) := dk_96 (dk_at dksX7_feed_0 6 rfl rfl)
theorem dX7_feed_7 : decode cX7_feed 7 = .ok (.sipush 220, 3) := dk_17 0 220 (dk_at dksX7_feed_0 7 rfl rfl)
theorem dX7_feed_10 : decode cX7_feed 10 = .ok (.if_icmp .le 5, 3) := dk_164 0 5 (dk_at dksX7_feed_0 10 rfl rfl)
theorem dX7_feed_13 : decode cX7_feed 13 = .ok (.iconst (-1), 1) := dk_2 (dk_at dksX7_feed_0 13 rfl rfl)
theorem dX7_feed_14 : decode cX7_feed 14 = .ok (.ireturn, 1) := dk_172 (dk_at dksX7_feed_0 14 rfl rfl)
theorem dX7_feed_15 : decode cX7_feed 15 = .ok (.aload_n 0, 1) := dk_42 (dk_at dksX7_feed_0 15 rfl rfl)
theorem dX7_feed_16 : decode cX7_feed 16 = .ok (.iload_n 1, 1) := dk_27 (dk_at dksX7_feed_0 16 rfl rfl)
theorem dX7_feed_17 : decode cX7_feed 17 = .ok (.invokevirtual 140, 3) := dk_182 0 140 (dk_at dksX7_feed_0 17 rfl rfl)
theorem dX7_feed_20 : decode cX7_feed 20 = .ok (.aload_n 0, 1) := dk_42 (dk_at dksX7_feed_0 20 rfl rfl)
theorem dX7_feed_21 : decode cX7_feed 21 = .ok (.iload_n 2, 1) := dk_28 (dk_at dksX7_feed_0 21 rfl rfl)
theorem dX7_feed_22 : decode cX7_feed 22 = .ok (.invokevirtual 140, 3) := dk_182 0 140 (dk_at dksX7_feed_1 0 rfl rfl)
theorem dX7_feed_25 : decode cX7_feed 25 = .ok (.aload_n 0, 1) := dk_42 (dk_at dksX7_feed_1 3 rfl rfl)
theorem dX7_feed_26 : decode cX7_feed 26 = .ok (.iload_n 3, 1) := dk_29 (dk_at dksX7_feed_1 4 rfl rfl)
theorem dX7_feed_27 : decode cX7_feed 27 = .ok (.invokevirtual 140, 3) := dk_182 0 140 (dk_at dksX7_feed_1 5 rfl rfl)
theorem dX7_feed_30 : decode cX7_feed 30 = .ok (.aload_n 0, 1) := dk_42 (dk_at dksX7_feed_1 8 rfl rfl)
theorem dX7_feed_31 : decode cX7_feed 31 = .ok (.iload 4, 2) := dk_21 4 (dk_at dksX7_feed_1 9 rfl rfl)
theorem dX7_feed_33 : decode cX7_feed 33 = .ok (.invokevirtual 140, 3) := dk_182 0 140 (dk_at dksX7_feed_1 11 rfl rfl)
theorem dX7_feed_36 : decode cX7_feed 36 = .ok (.aload_n 0, 1) := dk_42 (dk_at dksX7_feed_1 14 rfl rfl)
theorem dX7_feed_37 : decode cX7_feed 37 = .ok (.iload 5, 2) := dk_21 5 (dk_at dksX7_feed_1 15 rfl rfl)
theorem dX7_feed_39 : decode cX7_feed 39 = .ok (.invokevirtual 140, 3) := dk_182 0 140 (dk_at dksX7_feed_1 17 rfl rfl)
theorem dX7_feed_42 : decode cX7_feed 42 = .ok (.aload_n 0, 1) := dk_42 (dk_at dksX7_feed_1 20 rfl rfl)
theorem dX7_feed_43 : decode cX7_feed 43 = .ok (.getfield 137, 3) := dk_180 0 137 (dk_at dksX7_feed_1 21 rfl rfl)
theorem dX7_feed_46 : decode cX7_feed 46 = .ok (.ireturn, 1) := dk_172 (dk_at dksX7_feed_2 0 rfl rfl)
abbrev cX7_types : ByteArray := prog_19_method_18_code
def yX7_types : MethodName := ⟨RX7, "types", "(I)V"⟩
def dkwX7_types_1 : List UInt8 := [180, 0, 137, 4, 96, 181, 0, 137, 132, 2, 255, 167, 255, 223, 177]
abbrev dktX7_types_1 : List UInt8 := dkwX7_types_1 ++ []
def dkwX7_types_0 : List UInt8 := [6, 61, 28, 155, 0, 35, 42, 180, 0, 19, 42, 180, 0, 137, 27, 16, 8, 28, 104, 122, 145, 84, 42, 42]
abbrev dktX7_types_0 : List UInt8 := dkwX7_types_0 ++ dktX7_types_1
theorem dksX7_types_0 : cX7_types.data.toList.drop 0 = dktX7_types_0 := by decide +kernel
theorem dksX7_types_1 : cX7_types.data.toList.drop 24 = dktX7_types_1 := dk_seg dksX7_types_0 24 rfl rfl
theorem dX7_types_0 : decode cX7_types 0 = .ok (.iconst 3, 1) := dk_6 (dk_at dksX7_types_0 0 rfl rfl)
theorem dX7_types_1 : decode cX7_types 1 = .ok (.istore_n 2, 1) := dk_61 (dk_at dksX7_types_0 1 rfl rfl)
theorem dX7_types_2 : decode cX7_types 2 = .ok (.iload_n 2, 1) := dk_28 (dk_at dksX7_types_0 2 rfl rfl)
theorem dX7_types_3 : decode cX7_types 3 = .ok (.ifCond .lt 35, 3) := dk_155 0 35 (dk_at dksX7_types_0 3 rfl rfl)
theorem dX7_types_6 : decode cX7_types 6 = .ok (.aload_n 0, 1) := dk_42 (dk_at dksX7_types_0 6 rfl rfl)
theorem dX7_types_7 : decode cX7_types 7 = .ok (.getfield 19, 3) := dk_180 0 19 (dk_at dksX7_types_0 7 rfl rfl)
theorem dX7_types_10 : decode cX7_types 10 = .ok (.aload_n 0, 1) := dk_42 (dk_at dksX7_types_0 10 rfl rfl)
theorem dX7_types_11 : decode cX7_types 11 = .ok (.getfield 137, 3) := dk_180 0 137 (dk_at dksX7_types_0 11 rfl rfl)
theorem dX7_types_14 : decode cX7_types 14 = .ok (.iload_n 1, 1) := dk_27 (dk_at dksX7_types_0 14 rfl rfl)
theorem dX7_types_15 : decode cX7_types 15 = .ok (.bipush 8, 2) := dk_16 8 (dk_at dksX7_types_0 15 rfl rfl)
theorem dX7_types_17 : decode cX7_types 17 = .ok (.iload_n 2, 1) := dk_28 (dk_at dksX7_types_0 17 rfl rfl)
theorem dX7_types_18 : decode cX7_types 18 = .ok (.imul, 1) := dk_104 (dk_at dksX7_types_0 18 rfl rfl)
theorem dX7_types_19 : decode cX7_types 19 = .ok (.ishr, 1) := dk_122 (dk_at dksX7_types_0 19 rfl rfl)
theorem dX7_types_20 : decode cX7_types 20 = .ok (.i2b, 1) := dk_145 (dk_at dksX7_types_0 20 rfl rfl)
theorem dX7_types_21 : decode cX7_types 21 = .ok (.bastore, 1) := dk_84 (dk_at dksX7_types_0 21 rfl rfl)
theorem dX7_types_22 : decode cX7_types 22 = .ok (.aload_n 0, 1) := dk_42 (dk_at dksX7_types_0 22 rfl rfl)
theorem dX7_types_23 : decode cX7_types 23 = .ok (.aload_n 0, 1) := dk_42 (dk_at dksX7_types_0 23 rfl rfl)
theorem dX7_types_24 : decode cX7_types 24 = .ok (.getfield 137, 3) := dk_180 0 137 (dk_at dksX7_types_1 0 rfl rfl)
theorem dX7_types_27 : decode cX7_types 27 = .ok (.iconst 1, 1) := dk_4 (dk_at dksX7_types_1 3 rfl rfl)
theorem dX7_types_28 : decode cX7_types 28 = .ok (.iadd, 1) := dk_96 (dk_at dksX7_types_1 4 rfl rfl)
theorem dX7_types_29 : decode cX7_types 29 = .ok (.putfield 137, 3) := dk_181 0 137 (dk_at dksX7_types_1 5 rfl rfl)
theorem dX7_types_32 : decode cX7_types 32 = .ok (.iinc 2 (-1), 3) := dk_132 2 255 (dk_at dksX7_types_1 8 rfl rfl)
theorem dX7_types_35 : decode cX7_types 35 = .ok (.goto (-33), 3) := dk_167 255 223 (dk_at dksX7_types_1 11 rfl rfl)
theorem dX7_types_38 : decode cX7_types 38 = .ok (.return_, 1) := dk_177 (dk_at dksX7_types_1 14 rfl rfl)
abbrev cX7_law : ByteArray := prog_19_method_42_code
def yX7_law : MethodName := ⟨RX7, "law", "(I)I"⟩
def dkwX7_law_0 : List UInt8 := [42, 3, 27, 182, 0, 237, 172]
abbrev dktX7_law_0 : List UInt8 := dkwX7_law_0 ++ []
theorem dksX7_law_0 : cX7_law.data.toList.drop 0 = dktX7_law_0 := by decide +kernel
theorem dX7_law_0 : decode cX7_law 0 = .ok (.aload_n 0, 1) := dk_42 (dk_at dksX7_law_0 0 rfl rfl)
theorem dX7_law_1 : decode cX7_law 1 = .ok (.iconst 0, 1) := dk_3 (dk_at dksX7_law_0 1 rfl rfl)
theorem dX7_law_2 : decode cX7_law 2 = .ok (.iload_n 1, 1) := dk_27 (dk_at dksX7_law_0 2 rfl rfl)
theorem dX7_law_3 : decode cX7_law 3 = .ok (.invokevirtual 237, 3) := dk_182 0 237 (dk_at dksX7_law_0 3 rfl rfl)
theorem dX7_law_6 : decode cX7_law 6 = .ok (.ireturn, 1) := dk_172 (dk_at dksX7_law_0 6 rfl rfl)
abbrev cX7_reads : ByteArray := prog_19_method_41_code
def yX7_reads : MethodName := ⟨RX7, "reads", "(II)I"⟩
def dkwX7_reads_11 : List UInt8 := [167, 255, 159, 42, 180, 0, 225, 172]
abbrev dktX7_reads_11 : List UInt8 := dkwX7_reads_11 ++ []
def dkwX7_reads_10 : List UInt8 := [180, 0, 56, 16, 14, 27, 104, 21, 5, 96, 21, 4, 42, 180, 0, 38, 21, 5, 46, 96, 79, 132, 5, 1]
abbrev dktX7_reads_10 : List UInt8 := dkwX7_reads_10 ++ dktX7_reads_11
def dkwX7_reads_9 : List UInt8 := [180, 0, 53, 16, 14, 27, 104, 21, 5, 96, 21, 4, 42, 180, 0, 35, 21, 5, 46, 96, 79, 42]
abbrev dktX7_reads_9 : List UInt8 := dkwX7_reads_9 ++ dktX7_reads_10
def dkwX7_reads_8 : List UInt8 := [180, 0, 50, 16, 14, 27, 104, 21, 5, 96, 21, 4, 42, 180, 0, 32, 21, 5, 46, 96, 79, 42]
abbrev dktX7_reads_8 : List UInt8 := dkwX7_reads_8 ++ dktX7_reads_9
def dkwX7_reads_7 : List UInt8 := [162, 0, 94, 42, 180, 0, 47, 16, 14, 27, 104, 21, 5, 96, 42, 180, 0, 29, 21, 5, 46, 79, 42]
abbrev dktX7_reads_7 : List UInt8 := dkwX7_reads_7 ++ dktX7_reads_8
def dkwX7_reads_6 : List UInt8 := [180, 0, 23, 21, 5, 46, 79, 132, 5, 1, 167, 255, 227, 3, 54, 5, 21, 5, 42, 180, 0, 225]
abbrev dktX7_reads_6 : List UInt8 := dkwX7_reads_6 ++ dktX7_reads_7
def dkwX7_reads_5 : List UInt8 := [54, 4, 3, 54, 5, 21, 5, 42, 180, 0, 167, 162, 0, 26, 42, 180, 0, 41, 21, 4, 21, 5, 96, 42]
abbrev dktX7_reads_5 : List UInt8 := dkwX7_reads_5 ++ dktX7_reads_6
def dkwX7_reads_4 : List UInt8 := [154, 0, 8, 42, 180, 0, 154, 172, 42, 180, 0, 44, 27, 42, 180, 0, 225, 79, 17, 0, 220, 27, 104]
abbrev dktX7_reads_4 : List UInt8 := dkwX7_reads_4 ++ dktX7_reads_5
def dkwX7_reads_3 : List UInt8 := [42, 27, 182, 0, 231, 153, 0, 7, 4, 167, 0, 4, 3, 62, 167, 255, 218, 42, 3, 181, 0, 137, 29]
abbrev dktX7_reads_3 : List UInt8 := dkwX7_reads_3 ++ dktX7_reads_4
def dkwX7_reads_2 : List UInt8 := [29, 153, 0, 40, 42, 180, 0, 144, 42, 180, 0, 147, 162, 0, 29, 42, 16, 59, 182, 0, 234, 153, 0, 15]
abbrev dktX7_reads_2 : List UInt8 := dkwX7_reads_2 ++ dktX7_reads_3
def dkwX7_reads_1 : List UInt8 := [181, 0, 144, 42, 28, 181, 0, 147, 42, 3, 181, 0, 167, 42, 3, 181, 0, 225, 42, 27, 182, 0, 231, 62]
abbrev dktX7_reads_1 : List UInt8 := dkwX7_reads_1 ++ dktX7_reads_2
def dkwX7_reads_0 : List UInt8 := [28, 4, 17, 0, 200, 184, 0, 126, 153, 0, 11, 28, 42, 180, 0, 137, 164, 0, 5, 2, 172, 42, 3]
abbrev dktX7_reads_0 : List UInt8 := dkwX7_reads_0 ++ dktX7_reads_1
theorem dksX7_reads_0 : cX7_reads.data.toList.drop 0 = dktX7_reads_0 := by decide +kernel
theorem dksX7_reads_1 : cX7_reads.data.toList.drop 23 = dktX7_reads_1 := dk_seg dksX7_reads_0 23 rfl rfl
theorem dksX7_reads_2 : cX7_reads.data.toList.drop 47 = dktX7_reads_2 := dk_seg dksX7_reads_1 24 rfl rfl
theorem dksX7_reads_3 : cX7_reads.data.toList.drop 71 = dktX7_reads_3 := dk_seg dksX7_reads_2 24 rfl rfl
theorem dksX7_reads_4 : cX7_reads.data.toList.drop 94 = dktX7_reads_4 := dk_seg dksX7_reads_3 23 rfl rfl
theorem dksX7_reads_5 : cX7_reads.data.toList.drop 117 = dktX7_reads_5 := dk_seg dksX7_reads_4 23 rfl rfl
theorem dksX7_reads_6 : cX7_reads.data.toList.drop 141 = dktX7_reads_6 := dk_seg dksX7_reads_5 24 rfl rfl
theorem dksX7_reads_7 : cX7_reads.data.toList.drop 163 = dktX7_reads_7 := dk_seg dksX7_reads_6 22 rfl rfl
theorem dksX7_reads_8 : cX7_reads.data.toList.drop 186 = dktX7_reads_8 := dk_seg dksX7_reads_7 23 rfl rfl
theorem dksX7_reads_9 : cX7_reads.data.toList.drop 208 = dktX7_reads_9 := dk_seg dksX7_reads_8 22 rfl rfl
theorem dksX7_reads_10 : cX7_reads.data.toList.drop 230 = dktX7_reads_10 := dk_seg dksX7_reads_9 22 rfl rfl
theorem dksX7_reads_11 : cX7_reads.data.toList.drop 254 = dktX7_reads_11 := dk_seg dksX7_reads_10 24 rfl rfl
theorem dX7_reads_0 : decode cX7_reads 0 = .ok (.iload_n 2, 1) := dk_28 (dk_at dksX7_reads_0 0 rfl rfl)
theorem dX7_reads_1 : decode cX7_reads 1 = .ok (.iconst 1, 1) := dk_4 (dk_at dksX7_reads_0 1 rfl rfl)
theorem dX7_reads_2 : decode cX7_reads 2 = .ok (.sipush 200, 3) := dk_17 0 200 (dk_at dksX7_reads_0 2 rfl rfl)
theorem dX7_reads_5 : decode cX7_reads 5 = .ok (.invokestatic 126, 3) := dk_184 0 126 (dk_at dksX7_reads_0 5 rfl rfl)
theorem dX7_reads_8 : decode cX7_reads 8 = .ok (.ifCond .eq 11, 3) := dk_153 0 11 (dk_at dksX7_reads_0 8 rfl rfl)
theorem dX7_reads_11 : decode cX7_reads 11 = .ok (.iload_n 2, 1) := dk_28 (dk_at dksX7_reads_0 11 rfl rfl)
theorem dX7_reads_12 : decode cX7_reads 12 = .ok (.aload_n 0, 1) := dk_42 (dk_at dksX7_reads_0 12 rfl rfl)
theorem dX7_reads_13 : decode cX7_reads 13 = .ok (.getfield 137, 3) := dk_180 0 137 (dk_at dksX7_reads_0 13 rfl rfl)
theorem dX7_reads_16 : decode cX7_reads 16 = .ok (.if_icmp .le 5, 3) := dk_164 0 5 (dk_at dksX7_reads_0 16 rfl rfl)
theorem dX7_reads_19 : decode cX7_reads 19 = .ok (.iconst (-1), 1) := dk_2 (dk_at dksX7_reads_0 19 rfl rfl)
theorem dX7_reads_20 : decode cX7_reads 20 = .ok (.ireturn, 1) := dk_172 (dk_at dksX7_reads_0 20 rfl rfl)
theorem dX7_reads_21 : decode cX7_reads 21 = .ok (.aload_n 0, 1) := dk_42 (dk_at dksX7_reads_0 21 rfl rfl)
theorem dX7_reads_22 : decode cX7_reads 22 = .ok (.iconst 0, 1) := dk_3 (dk_at dksX7_reads_0 22 rfl rfl)
theorem dX7_reads_23 : decode cX7_reads 23 = .ok (.putfield 144, 3) := dk_181 0 144 (dk_at dksX7_reads_1 0 rfl rfl)
theorem dX7_reads_26 : decode cX7_reads 26 = .ok (.aload_n 0, 1) := dk_42 (dk_at dksX7_reads_1 3 rfl rfl)
theorem dX7_reads_27 : decode cX7_reads 27 = .ok (.iload_n 2, 1) := dk_28 (dk_at dksX7_reads_1 4 rfl rfl)
theorem dX7_reads_28 : decode cX7_reads 28 = .ok (.putfield 147, 3) := dk_181 0 147 (dk_at dksX7_reads_1 5 rfl rfl)
theorem dX7_reads_31 : decode cX7_reads 31 = .ok (.aload_n 0, 1) := dk_42 (dk_at dksX7_reads_1 8 rfl rfl)
theorem dX7_reads_32 : decode cX7_reads 32 = .ok (.iconst 0, 1) := dk_3 (dk_at dksX7_reads_1 9 rfl rfl)
theorem dX7_reads_33 : decode cX7_reads 33 = .ok (.putfield 167, 3) := dk_181 0 167 (dk_at dksX7_reads_1 10 rfl rfl)
theorem dX7_reads_36 : decode cX7_reads 36 = .ok (.aload_n 0, 1) := dk_42 (dk_at dksX7_reads_1 13 rfl rfl)
theorem dX7_reads_37 : decode cX7_reads 37 = .ok (.iconst 0, 1) := dk_3 (dk_at dksX7_reads_1 14 rfl rfl)
theorem dX7_reads_38 : decode cX7_reads 38 = .ok (.putfield 225, 3) := dk_181 0 225 (dk_at dksX7_reads_1 15 rfl rfl)
theorem dX7_reads_41 : decode cX7_reads 41 = .ok (.aload_n 0, 1) := dk_42 (dk_at dksX7_reads_1 18 rfl rfl)
theorem dX7_reads_42 : decode cX7_reads 42 = .ok (.iload_n 1, 1) := dk_27 (dk_at dksX7_reads_1 19 rfl rfl)
theorem dX7_reads_43 : decode cX7_reads 43 = .ok (.invokevirtual 231, 3) := dk_182 0 231 (dk_at dksX7_reads_1 20 rfl rfl)
theorem dX7_reads_46 : decode cX7_reads 46 = .ok (.istore_n 3, 1) := dk_62 (dk_at dksX7_reads_1 23 rfl rfl)
theorem dX7_reads_47 : decode cX7_reads 47 = .ok (.iload_n 3, 1) := dk_29 (dk_at dksX7_reads_2 0 rfl rfl)
theorem dX7_reads_48 : decode cX7_reads 48 = .ok (.ifCond .eq 40, 3) := dk_153 0 40 (dk_at dksX7_reads_2 1 rfl rfl)
theorem dX7_reads_51 : decode cX7_reads 51 = .ok (.aload_n 0, 1) := dk_42 (dk_at dksX7_reads_2 4 rfl rfl)
theorem dX7_reads_52 : decode cX7_reads 52 = .ok (.getfield 144, 3) := dk_180 0 144 (dk_at dksX7_reads_2 5 rfl rfl)
theorem dX7_reads_55 : decode cX7_reads 55 = .ok (.aload_n 0, 1) := dk_42 (dk_at dksX7_reads_2 8 rfl rfl)
theorem dX7_reads_56 : decode cX7_reads 56 = .ok (.getfield 147, 3) := dk_180 0 147 (dk_at dksX7_reads_2 9 rfl rfl)
theorem dX7_reads_59 : decode cX7_reads 59 = .ok (.if_icmp .ge 29, 3) := dk_162 0 29 (dk_at dksX7_reads_2 12 rfl rfl)
theorem dX7_reads_62 : decode cX7_reads 62 = .ok (.aload_n 0, 1) := dk_42 (dk_at dksX7_reads_2 15 rfl rfl)
theorem dX7_reads_63 : decode cX7_reads 63 = .ok (.bipush 59, 2) := dk_16 59 (dk_at dksX7_reads_2 16 rfl rfl)
theorem dX7_reads_65 : decode cX7_reads 65 = .ok (.invokevirtual 234, 3) := dk_182 0 234 (dk_at dksX7_reads_2 18 rfl rfl)
theorem dX7_reads_68 : decode cX7_reads 68 = .ok (.ifCond .eq 15, 3) := dk_153 0 15 (dk_at dksX7_reads_2 21 rfl rfl)
theorem dX7_reads_71 : decode cX7_reads 71 = .ok (.aload_n 0, 1) := dk_42 (dk_at dksX7_reads_3 0 rfl rfl)
theorem dX7_reads_72 : decode cX7_reads 72 = .ok (.iload_n 1, 1) := dk_27 (dk_at dksX7_reads_3 1 rfl rfl)
theorem dX7_reads_73 : decode cX7_reads 73 = .ok (.invokevirtual 231, 3) := dk_182 0 231 (dk_at dksX7_reads_3 2 rfl rfl)
theorem dX7_reads_76 : decode cX7_reads 76 = .ok (.ifCond .eq 7, 3) := dk_153 0 7 (dk_at dksX7_reads_3 5 rfl rfl)
theorem dX7_reads_79 : decode cX7_reads 79 = .ok (.iconst 1, 1) := dk_4 (dk_at dksX7_reads_3 8 rfl rfl)
theorem dX7_reads_80 : decode cX7_reads 80 = .ok (.goto 4, 3) := dk_167 0 4 (dk_at dksX7_reads_3 9 rfl rfl)
theorem dX7_reads_83 : decode cX7_reads 83 = .ok (.iconst 0, 1) := dk_3 (dk_at dksX7_reads_3 12 rfl rfl)
theorem dX7_reads_84 : decode cX7_reads 84 = .ok (.istore_n 3, 1) := dk_62 (dk_at dksX7_reads_3 13 rfl rfl)
theorem dX7_reads_85 : decode cX7_reads 85 = .ok (.goto (-38), 3) := dk_167 255 218 (dk_at dksX7_reads_3 14 rfl rfl)
theorem dX7_reads_88 : decode cX7_reads 88 = .ok (.aload_n 0, 1) := dk_42 (dk_at dksX7_reads_3 17 rfl rfl)
theorem dX7_reads_89 : decode cX7_reads 89 = .ok (.iconst 0, 1) := dk_3 (dk_at dksX7_reads_3 18 rfl rfl)
theorem dX7_reads_90 : decode cX7_reads 90 = .ok (.putfield 137, 3) := dk_181 0 137 (dk_at dksX7_reads_3 19 rfl rfl)
theorem dX7_reads_93 : decode cX7_reads 93 = .ok (.iload_n 3, 1) := dk_29 (dk_at dksX7_reads_3 22 rfl rfl)
theorem dX7_reads_94 : decode cX7_reads 94 = .ok (.ifCond .ne 8, 3) := dk_154 0 8 (dk_at dksX7_reads_4 0 rfl rfl)
theorem dX7_reads_97 : decode cX7_reads 97 = .ok (.aload_n 0, 1) := dk_42 (dk_at dksX7_reads_4 3 rfl rfl)
theorem dX7_reads_98 : decode cX7_reads 98 = .ok (.getfield 154, 3) := dk_180 0 154 (dk_at dksX7_reads_4 4 rfl rfl)
theorem dX7_reads_101 : decode cX7_reads 101 = .ok (.ireturn, 1) := dk_172 (dk_at dksX7_reads_4 7 rfl rfl)
theorem dX7_reads_102 : decode cX7_reads 102 = .ok (.aload_n 0, 1) := dk_42 (dk_at dksX7_reads_4 8 rfl rfl)
theorem dX7_reads_103 : decode cX7_reads 103 = .ok (.getfield 44, 3) := dk_180 0 44 (dk_at dksX7_reads_4 9 rfl rfl)
theorem dX7_reads_106 : decode cX7_reads 106 = .ok (.iload_n 1, 1) := dk_27 (dk_at dksX7_reads_4 12 rfl rfl)
theorem dX7_reads_107 : decode cX7_reads 107 = .ok (.aload_n 0, 1) := dk_42 (dk_at dksX7_reads_4 13 rfl rfl)
theorem dX7_reads_108 : decode cX7_reads 108 = .ok (.getfield 225, 3) := dk_180 0 225 (dk_at dksX7_reads_4 14 rfl rfl)
theorem dX7_reads_111 : decode cX7_reads 111 = .ok (.iastore, 1) := dk_79 (dk_at dksX7_reads_4 17 rfl rfl)
theorem dX7_reads_112 : decode cX7_reads 112 = .ok (.sipush 220, 3) := dk_17 0 220 (dk_at dksX7_reads_4 18 rfl rfl)
theorem dX7_reads_115 : decode cX7_reads 115 = .ok (.iload_n 1, 1) := dk_27 (dk_at dksX7_reads_4 21 rfl rfl)
theorem dX7_reads_116 : decode cX7_reads 116 = .ok (.imul, 1) := dk_104 (dk_at dksX7_reads_4 22 rfl rfl)
theorem dX7_reads_117 : decode cX7_reads 117 = .ok (.istore 4, 2) := dk_54 4 (dk_at dksX7_reads_5 0 rfl rfl)
theorem dX7_reads_119 : decode cX7_reads 119 = .ok (.iconst 0, 1) := dk_3 (dk_at dksX7_reads_5 2 rfl rfl)
theorem dX7_reads_120 : decode cX7_reads 120 = .ok (.istore 5, 2) := dk_54 5 (dk_at dksX7_reads_5 3 rfl rfl)
theorem dX7_reads_122 : decode cX7_reads 122 = .ok (.iload 5, 2) := dk_21 5 (dk_at dksX7_reads_5 5 rfl rfl)
theorem dX7_reads_124 : decode cX7_reads 124 = .ok (.aload_n 0, 1) := dk_42 (dk_at dksX7_reads_5 7 rfl rfl)
theorem dX7_reads_125 : decode cX7_reads 125 = .ok (.getfield 167, 3) := dk_180 0 167 (dk_at dksX7_reads_5 8 rfl rfl)
theorem dX7_reads_128 : decode cX7_reads 128 = .ok (.if_icmp .ge 26, 3) := dk_162 0 26 (dk_at dksX7_reads_5 11 rfl rfl)
theorem dX7_reads_131 : decode cX7_reads 131 = .ok (.aload_n 0, 1) := dk_42 (dk_at dksX7_reads_5 14 rfl rfl)
theorem dX7_reads_132 : decode cX7_reads 132 = .ok (.getfield 41, 3) := dk_180 0 41 (dk_at dksX7_reads_5 15 rfl rfl)
theorem dX7_reads_135 : decode cX7_reads 135 = .ok (.iload 4, 2) := dk_21 4 (dk_at dksX7_reads_5 18 rfl rfl)
theorem dX7_reads_137 : decode cX7_reads 137 = .ok (.iload 5, 2) := dk_21 5 (dk_at dksX7_reads_5 20 rfl rfl)
theorem dX7_reads_139 : decode cX7_reads 139 = .ok (.iadd, 1) := dk_96 (dk_at dksX7_reads_5 22 rfl rfl)
theorem dX7_reads_140 : decode cX7_reads 140 = .ok (.aload_n 0, 1) := dk_42 (dk_at dksX7_reads_5 23 rfl rfl)
theorem dX7_reads_141 : decode cX7_reads 141 = .ok (.getfield 23, 3) := dk_180 0 23 (dk_at dksX7_reads_6 0 rfl rfl)
theorem dX7_reads_144 : decode cX7_reads 144 = .ok (.iload 5, 2) := dk_21 5 (dk_at dksX7_reads_6 3 rfl rfl)
theorem dX7_reads_146 : decode cX7_reads 146 = .ok (.iaload, 1) := dk_46 (dk_at dksX7_reads_6 5 rfl rfl)
theorem dX7_reads_147 : decode cX7_reads 147 = .ok (.iastore, 1) := dk_79 (dk_at dksX7_reads_6 6 rfl rfl)
theorem dX7_reads_148 : decode cX7_reads 148 = .ok (.iinc 5 1, 3) := dk_132 5 1 (dk_at dksX7_reads_6 7 rfl rfl)
theorem dX7_reads_151 : decode cX7_reads 151 = .ok (.goto (-29), 3) := dk_167 255 227 (dk_at dksX7_reads_6 10 rfl rfl)
theorem dX7_reads_154 : decode cX7_reads 154 = .ok (.iconst 0, 1) := dk_3 (dk_at dksX7_reads_6 13 rfl rfl)
theorem dX7_reads_155 : decode cX7_reads 155 = .ok (.istore 5, 2) := dk_54 5 (dk_at dksX7_reads_6 14 rfl rfl)
theorem dX7_reads_157 : decode cX7_reads 157 = .ok (.iload 5, 2) := dk_21 5 (dk_at dksX7_reads_6 16 rfl rfl)
theorem dX7_reads_159 : decode cX7_reads 159 = .ok (.aload_n 0, 1) := dk_42 (dk_at dksX7_reads_6 18 rfl rfl)
theorem dX7_reads_160 : decode cX7_reads 160 = .ok (.getfield 225, 3) := dk_180 0 225 (dk_at dksX7_reads_6 19 rfl rfl)
theorem dX7_reads_163 : decode cX7_reads 163 = .ok (.if_icmp .ge 94, 3) := dk_162 0 94 (dk_at dksX7_reads_7 0 rfl rfl)
theorem dX7_reads_166 : decode cX7_reads 166 = .ok (.aload_n 0, 1) := dk_42 (dk_at dksX7_reads_7 3 rfl rfl)
theorem dX7_reads_167 : decode cX7_reads 167 = .ok (.getfield 47, 3) := dk_180 0 47 (dk_at dksX7_reads_7 4 rfl rfl)
theorem dX7_reads_170 : decode cX7_reads 170 = .ok (.bipush 14, 2) := dk_16 14 (dk_at dksX7_reads_7 7 rfl rfl)
theorem dX7_reads_172 : decode cX7_reads 172 = .ok (.iload_n 1, 1) := dk_27 (dk_at dksX7_reads_7 9 rfl rfl)
theorem dX7_reads_173 : decode cX7_reads 173 = .ok (.imul, 1) := dk_104 (dk_at dksX7_reads_7 10 rfl rfl)
theorem dX7_reads_174 : decode cX7_reads 174 = .ok (.iload 5, 2) := dk_21 5 (dk_at dksX7_reads_7 11 rfl rfl)
theorem dX7_reads_176 : decode cX7_reads 176 = .ok (.iadd, 1) := dk_96 (dk_at dksX7_reads_7 13 rfl rfl)
theorem dX7_reads_177 : decode cX7_reads 177 = .ok (.aload_n 0, 1) := dk_42 (dk_at dksX7_reads_7 14 rfl rfl)
theorem dX7_reads_178 : decode cX7_reads 178 = .ok (.getfield 29, 3) := dk_180 0 29 (dk_at dksX7_reads_7 15 rfl rfl)
theorem dX7_reads_181 : decode cX7_reads 181 = .ok (.iload 5, 2) := dk_21 5 (dk_at dksX7_reads_7 18 rfl rfl)
theorem dX7_reads_183 : decode cX7_reads 183 = .ok (.iaload, 1) := dk_46 (dk_at dksX7_reads_7 20 rfl rfl)
theorem dX7_reads_184 : decode cX7_reads 184 = .ok (.iastore, 1) := dk_79 (dk_at dksX7_reads_7 21 rfl rfl)
theorem dX7_reads_185 : decode cX7_reads 185 = .ok (.aload_n 0, 1) := dk_42 (dk_at dksX7_reads_7 22 rfl rfl)
theorem dX7_reads_186 : decode cX7_reads 186 = .ok (.getfield 50, 3) := dk_180 0 50 (dk_at dksX7_reads_8 0 rfl rfl)
theorem dX7_reads_189 : decode cX7_reads 189 = .ok (.bipush 14, 2) := dk_16 14 (dk_at dksX7_reads_8 3 rfl rfl)
theorem dX7_reads_191 : decode cX7_reads 191 = .ok (.iload_n 1, 1) := dk_27 (dk_at dksX7_reads_8 5 rfl rfl)
theorem dX7_reads_192 : decode cX7_reads 192 = .ok (.imul, 1) := dk_104 (dk_at dksX7_reads_8 6 rfl rfl)
theorem dX7_reads_193 : decode cX7_reads 193 = .ok (.iload 5, 2) := dk_21 5 (dk_at dksX7_reads_8 7 rfl rfl)
theorem dX7_reads_195 : decode cX7_reads 195 = .ok (.iadd, 1) := dk_96 (dk_at dksX7_reads_8 9 rfl rfl)
theorem dX7_reads_196 : decode cX7_reads 196 = .ok (.iload 4, 2) := dk_21 4 (dk_at dksX7_reads_8 10 rfl rfl)
theorem dX7_reads_198 : decode cX7_reads 198 = .ok (.aload_n 0, 1) := dk_42 (dk_at dksX7_reads_8 12 rfl rfl)
theorem dX7_reads_199 : decode cX7_reads 199 = .ok (.getfield 32, 3) := dk_180 0 32 (dk_at dksX7_reads_8 13 rfl rfl)
theorem dX7_reads_202 : decode cX7_reads 202 = .ok (.iload 5, 2) := dk_21 5 (dk_at dksX7_reads_8 16 rfl rfl)
theorem dX7_reads_204 : decode cX7_reads 204 = .ok (.iaload, 1) := dk_46 (dk_at dksX7_reads_8 18 rfl rfl)
theorem dX7_reads_205 : decode cX7_reads 205 = .ok (.iadd, 1) := dk_96 (dk_at dksX7_reads_8 19 rfl rfl)
theorem dX7_reads_206 : decode cX7_reads 206 = .ok (.iastore, 1) := dk_79 (dk_at dksX7_reads_8 20 rfl rfl)
theorem dX7_reads_207 : decode cX7_reads 207 = .ok (.aload_n 0, 1) := dk_42 (dk_at dksX7_reads_8 21 rfl rfl)
theorem dX7_reads_208 : decode cX7_reads 208 = .ok (.getfield 53, 3) := dk_180 0 53 (dk_at dksX7_reads_9 0 rfl rfl)
theorem dX7_reads_211 : decode cX7_reads 211 = .ok (.bipush 14, 2) := dk_16 14 (dk_at dksX7_reads_9 3 rfl rfl)
theorem dX7_reads_213 : decode cX7_reads 213 = .ok (.iload_n 1, 1) := dk_27 (dk_at dksX7_reads_9 5 rfl rfl)
theorem dX7_reads_214 : decode cX7_reads 214 = .ok (.imul, 1) := dk_104 (dk_at dksX7_reads_9 6 rfl rfl)
theorem dX7_reads_215 : decode cX7_reads 215 = .ok (.iload 5, 2) := dk_21 5 (dk_at dksX7_reads_9 7 rfl rfl)
theorem dX7_reads_217 : decode cX7_reads 217 = .ok (.iadd, 1) := dk_96 (dk_at dksX7_reads_9 9 rfl rfl)
theorem dX7_reads_218 : decode cX7_reads 218 = .ok (.iload 4, 2) := dk_21 4 (dk_at dksX7_reads_9 10 rfl rfl)
theorem dX7_reads_220 : decode cX7_reads 220 = .ok (.aload_n 0, 1) := dk_42 (dk_at dksX7_reads_9 12 rfl rfl)
theorem dX7_reads_221 : decode cX7_reads 221 = .ok (.getfield 35, 3) := dk_180 0 35 (dk_at dksX7_reads_9 13 rfl rfl)
theorem dX7_reads_224 : decode cX7_reads 224 = .ok (.iload 5, 2) := dk_21 5 (dk_at dksX7_reads_9 16 rfl rfl)
theorem dX7_reads_226 : decode cX7_reads 226 = .ok (.iaload, 1) := dk_46 (dk_at dksX7_reads_9 18 rfl rfl)
theorem dX7_reads_227 : decode cX7_reads 227 = .ok (.iadd, 1) := dk_96 (dk_at dksX7_reads_9 19 rfl rfl)
theorem dX7_reads_228 : decode cX7_reads 228 = .ok (.iastore, 1) := dk_79 (dk_at dksX7_reads_9 20 rfl rfl)
theorem dX7_reads_229 : decode cX7_reads 229 = .ok (.aload_n 0, 1) := dk_42 (dk_at dksX7_reads_9 21 rfl rfl)
theorem dX7_reads_230 : decode cX7_reads 230 = .ok (.getfield 56, 3) := dk_180 0 56 (dk_at dksX7_reads_10 0 rfl rfl)
theorem dX7_reads_233 : decode cX7_reads 233 = .ok (.bipush 14, 2) := dk_16 14 (dk_at dksX7_reads_10 3 rfl rfl)
theorem dX7_reads_235 : decode cX7_reads 235 = .ok (.iload_n 1, 1) := dk_27 (dk_at dksX7_reads_10 5 rfl rfl)
theorem dX7_reads_236 : decode cX7_reads 236 = .ok (.imul, 1) := dk_104 (dk_at dksX7_reads_10 6 rfl rfl)
theorem dX7_reads_237 : decode cX7_reads 237 = .ok (.iload 5, 2) := dk_21 5 (dk_at dksX7_reads_10 7 rfl rfl)
theorem dX7_reads_239 : decode cX7_reads 239 = .ok (.iadd, 1) := dk_96 (dk_at dksX7_reads_10 9 rfl rfl)
theorem dX7_reads_240 : decode cX7_reads 240 = .ok (.iload 4, 2) := dk_21 4 (dk_at dksX7_reads_10 10 rfl rfl)
theorem dX7_reads_242 : decode cX7_reads 242 = .ok (.aload_n 0, 1) := dk_42 (dk_at dksX7_reads_10 12 rfl rfl)
theorem dX7_reads_243 : decode cX7_reads 243 = .ok (.getfield 38, 3) := dk_180 0 38 (dk_at dksX7_reads_10 13 rfl rfl)
theorem dX7_reads_246 : decode cX7_reads 246 = .ok (.iload 5, 2) := dk_21 5 (dk_at dksX7_reads_10 16 rfl rfl)
theorem dX7_reads_248 : decode cX7_reads 248 = .ok (.iaload, 1) := dk_46 (dk_at dksX7_reads_10 18 rfl rfl)
theorem dX7_reads_249 : decode cX7_reads 249 = .ok (.iadd, 1) := dk_96 (dk_at dksX7_reads_10 19 rfl rfl)
theorem dX7_reads_250 : decode cX7_reads 250 = .ok (.iastore, 1) := dk_79 (dk_at dksX7_reads_10 20 rfl rfl)
theorem dX7_reads_251 : decode cX7_reads 251 = .ok (.iinc 5 1, 3) := dk_132 5 1 (dk_at dksX7_reads_10 21 rfl rfl)
theorem dX7_reads_254 : decode cX7_reads 254 = .ok (.goto (-97), 3) := dk_167 255 159 (dk_at dksX7_reads_11 0 rfl rfl)
theorem dX7_reads_257 : decode cX7_reads 257 = .ok (.aload_n 0, 1) := dk_42 (dk_at dksX7_reads_11 3 rfl rfl)
theorem dX7_reads_258 : decode cX7_reads 258 = .ok (.getfield 225, 3) := dk_180 0 225 (dk_at dksX7_reads_11 4 rfl rfl)
theorem dX7_reads_261 : decode cX7_reads 261 = .ok (.ireturn, 1) := dk_172 (dk_at dksX7_reads_11 7 rfl rfl)
abbrev cX7_readsClause : ByteArray := prog_19_method_40_code
def yX7_readsClause : MethodName := ⟨RX7, "readsClause", "(I)Z"⟩
def dkwX7_readsClause_5 : List UInt8 := [180, 0, 38, 42, 180, 0, 225, 42, 180, 0, 167, 79, 42, 42, 180, 0, 225, 4, 96, 181, 0, 225, 4, 172]
abbrev dktX7_readsClause_5 : List UInt8 := dkwX7_readsClause_5 ++ []
def dkwX7_readsClause_4 : List UInt8 := [180, 0, 35, 42, 180, 0, 225, 42, 180, 0, 167, 79, 42, 182, 0, 228, 154, 0, 5, 3, 172, 42]
abbrev dktX7_readsClause_4 : List UInt8 := dkwX7_readsClause_4 ++ dktX7_readsClause_5
def dkwX7_readsClause_3 : List UInt8 := [180, 0, 167, 79, 42, 3, 181, 0, 171, 42, 3, 181, 0, 174, 42, 182, 0, 207, 154, 0, 5, 3, 172, 42]
abbrev dktX7_readsClause_3 : List UInt8 := dkwX7_readsClause_3 ++ dktX7_readsClause_4
def dkwX7_readsClause_2 : List UInt8 := [180, 0, 225, 28, 79, 42, 42, 180, 0, 144, 4, 96, 181, 0, 144, 42, 180, 0, 32, 42, 180, 0, 225, 42]
abbrev dktX7_readsClause_2 : List UInt8 := dkwX7_readsClause_2 ++ dktX7_readsClause_3
def dkwX7_readsClause_1 : List UInt8 := [180, 0, 225, 16, 14, 160, 0, 13, 42, 7, 42, 180, 0, 144, 182, 0, 157, 172, 42, 180, 0, 29, 42]
abbrev dktX7_readsClause_1 : List UInt8 := dkwX7_readsClause_1 ++ dktX7_readsClause_2
def dkwX7_readsClause_0 : List UInt8 := [42, 182, 0, 150, 61, 28, 27, 184, 0, 222, 154, 0, 13, 42, 4, 42, 180, 0, 144, 182, 0, 157, 172, 42]
abbrev dktX7_readsClause_0 : List UInt8 := dkwX7_readsClause_0 ++ dktX7_readsClause_1
theorem dksX7_readsClause_0 : cX7_readsClause.data.toList.drop 0 = dktX7_readsClause_0 := by decide +kernel
theorem dksX7_readsClause_1 : cX7_readsClause.data.toList.drop 24 = dktX7_readsClause_1 := dk_seg dksX7_readsClause_0 24 rfl rfl
theorem dksX7_readsClause_2 : cX7_readsClause.data.toList.drop 47 = dktX7_readsClause_2 := dk_seg dksX7_readsClause_1 23 rfl rfl
theorem dksX7_readsClause_3 : cX7_readsClause.data.toList.drop 71 = dktX7_readsClause_3 := dk_seg dksX7_readsClause_2 24 rfl rfl
theorem dksX7_readsClause_4 : cX7_readsClause.data.toList.drop 95 = dktX7_readsClause_4 := dk_seg dksX7_readsClause_3 24 rfl rfl
theorem dksX7_readsClause_5 : cX7_readsClause.data.toList.drop 117 = dktX7_readsClause_5 := dk_seg dksX7_readsClause_4 22 rfl rfl
theorem dX7_readsClause_0 : decode cX7_readsClause 0 = .ok (.aload_n 0, 1) := dk_42 (dk_at dksX7_readsClause_0 0 rfl rfl)
theorem dX7_readsClause_1 : decode cX7_readsClause 1 = .ok (.invokevirtual 150, 3) := dk_182 0 150 (dk_at dksX7_readsClause_0 1 rfl rfl)
theorem dX7_readsClause_4 : decode cX7_readsClause 4 = .ok (.istore_n 2, 1) := dk_61 (dk_at dksX7_readsClause_0 4 rfl rfl)
theorem dX7_readsClause_5 : decode cX7_readsClause 5 = .ok (.iload_n 2, 1) := dk_28 (dk_at dksX7_readsClause_0 5 rfl rfl)
theorem dX7_readsClause_6 : decode cX7_readsClause 6 = .ok (.iload_n 1, 1) := dk_27 (dk_at dksX7_readsClause_0 6 rfl rfl)
theorem dX7_readsClause_7 : decode cX7_readsClause 7 = .ok (.invokestatic 222, 3) := dk_184 0 222 (dk_at dksX7_readsClause_0 7 rfl rfl)
theorem dX7_readsClause_10 : decode cX7_readsClause 10 = .ok (.ifCond .ne 13, 3) := dk_154 0 13 (dk_at dksX7_readsClause_0 10 rfl rfl)
theorem dX7_readsClause_13 : decode cX7_readsClause 13 = .ok (.aload_n 0, 1) := dk_42 (dk_at dksX7_readsClause_0 13 rfl rfl)
theorem dX7_readsClause_14 : decode cX7_readsClause 14 = .ok (.iconst 1, 1) := dk_4 (dk_at dksX7_readsClause_0 14 rfl rfl)
theorem dX7_readsClause_15 : decode cX7_readsClause 15 = .ok (.aload_n 0, 1) := dk_42 (dk_at dksX7_readsClause_0 15 rfl rfl)
theorem dX7_readsClause_16 : decode cX7_readsClause 16 = .ok (.getfield 144, 3) := dk_180 0 144 (dk_at dksX7_readsClause_0 16 rfl rfl)
theorem dX7_readsClause_19 : decode cX7_readsClause 19 = .ok (.invokevirtual 157, 3) := dk_182 0 157 (dk_at dksX7_readsClause_0 19 rfl rfl)
theorem dX7_readsClause_22 : decode cX7_readsClause 22 = .ok (.ireturn, 1) := dk_172 (dk_at dksX7_readsClause_0 22 rfl rfl)
theorem dX7_readsClause_23 : decode cX7_readsClause 23 = .ok (.aload_n 0, 1) := dk_42 (dk_at dksX7_readsClause_0 23 rfl rfl)
theorem dX7_readsClause_24 : decode cX7_readsClause 24 = .ok (.getfield 225, 3) := dk_180 0 225 (dk_at dksX7_readsClause_1 0 rfl rfl)
theorem dX7_readsClause_27 : decode cX7_readsClause 27 = .ok (.bipush 14, 2) := dk_16 14 (dk_at dksX7_readsClause_1 3 rfl rfl)
theorem dX7_readsClause_29 : decode cX7_readsClause 29 = .ok (.if_icmp .ne 13, 3) := dk_160 0 13 (dk_at dksX7_readsClause_1 5 rfl rfl)
theorem dX7_readsClause_32 : decode cX7_readsClause 32 = .ok (.aload_n 0, 1) := dk_42 (dk_at dksX7_readsClause_1 8 rfl rfl)
theorem dX7_readsClause_33 : decode cX7_readsClause 33 = .ok (.iconst 4, 1) := dk_7 (dk_at dksX7_readsClause_1 9 rfl rfl)
theorem dX7_readsClause_34 : decode cX7_readsClause 34 = .ok (.aload_n 0, 1) := dk_42 (dk_at dksX7_readsClause_1 10 rfl rfl)
theorem dX7_readsClause_35 : decode cX7_readsClause 35 = .ok (.getfield 144, 3) := dk_180 0 144 (dk_at dksX7_readsClause_1 11 rfl rfl)
theorem dX7_readsClause_38 : decode cX7_readsClause 38 = .ok (.invokevirtual 157, 3) := dk_182 0 157 (dk_at dksX7_readsClause_1 14 rfl rfl)
theorem dX7_readsClause_41 : decode cX7_readsClause 41 = .ok (.ireturn, 1) := dk_172 (dk_at dksX7_readsClause_1 17 rfl rfl)
theorem dX7_readsClause_42 : decode cX7_readsClause 42 = .ok (.aload_n 0, 1) := dk_42 (dk_at dksX7_readsClause_1 18 rfl rfl)
theorem dX7_readsClause_43 : decode cX7_readsClause 43 = .ok (.getfield 29, 3) := dk_180 0 29 (dk_at dksX7_readsClause_1 19 rfl rfl)
theorem dX7_readsClause_46 : decode cX7_readsClause 46 = .ok (.aload_n 0, 1) := dk_42 (dk_at dksX7_readsClause_1 22 rfl rfl)
theorem dX7_readsClause_47 : decode cX7_readsClause 47 = .ok (.getfield 225, 3) := dk_180 0 225 (dk_at dksX7_readsClause_2 0 rfl rfl)
theorem dX7_readsClause_50 : decode cX7_readsClause 50 = .ok (.iload_n 2, 1) := dk_28 (dk_at dksX7_readsClause_2 3 rfl rfl)
theorem dX7_readsClause_51 : decode cX7_readsClause 51 = .ok (.iastore, 1) := dk_79 (dk_at dksX7_readsClause_2 4 rfl rfl)
theorem dX7_readsClause_52 : decode cX7_readsClause 52 = .ok (.aload_n 0, 1) := dk_42 (dk_at dksX7_readsClause_2 5 rfl rfl)
theorem dX7_readsClause_53 : decode cX7_readsClause 53 = .ok (.aload_n 0, 1) := dk_42 (dk_at dksX7_readsClause_2 6 rfl rfl)
theorem dX7_readsClause_54 : decode cX7_readsClause 54 = .ok (.getfield 144, 3) := dk_180 0 144 (dk_at dksX7_readsClause_2 7 rfl rfl)
theorem dX7_readsClause_57 : decode cX7_readsClause 57 = .ok (.iconst 1, 1) := dk_4 (dk_at dksX7_readsClause_2 10 rfl rfl)
theorem dX7_readsClause_58 : decode cX7_readsClause 58 = .ok (.iadd, 1) := dk_96 (dk_at dksX7_readsClause_2 11 rfl rfl)
theorem dX7_readsClause_59 : decode cX7_readsClause 59 = .ok (.putfield 144, 3) := dk_181 0 144 (dk_at dksX7_readsClause_2 12 rfl rfl)
theorem dX7_readsClause_62 : decode cX7_readsClause 62 = .ok (.aload_n 0, 1) := dk_42 (dk_at dksX7_readsClause_2 15 rfl rfl)
theorem dX7_readsClause_63 : decode cX7_readsClause 63 = .ok (.getfield 32, 3) := dk_180 0 32 (dk_at dksX7_readsClause_2 16 rfl rfl)
theorem dX7_readsClause_66 : decode cX7_readsClause 66 = .ok (.aload_n 0, 1) := dk_42 (dk_at dksX7_readsClause_2 19 rfl rfl)
theorem dX7_readsClause_67 : decode cX7_readsClause 67 = .ok (.getfield 225, 3) := dk_180 0 225 (dk_at dksX7_readsClause_2 20 rfl rfl)
theorem dX7_readsClause_70 : decode cX7_readsClause 70 = .ok (.aload_n 0, 1) := dk_42 (dk_at dksX7_readsClause_2 23 rfl rfl)
theorem dX7_readsClause_71 : decode cX7_readsClause 71 = .ok (.getfield 167, 3) := dk_180 0 167 (dk_at dksX7_readsClause_3 0 rfl rfl)
theorem dX7_readsClause_74 : decode cX7_readsClause 74 = .ok (.iastore, 1) := dk_79 (dk_at dksX7_readsClause_3 3 rfl rfl)
theorem dX7_readsClause_75 : decode cX7_readsClause 75 = .ok (.aload_n 0, 1) := dk_42 (dk_at dksX7_readsClause_3 4 rfl rfl)
theorem dX7_readsClause_76 : decode cX7_readsClause 76 = .ok (.iconst 0, 1) := dk_3 (dk_at dksX7_readsClause_3 5 rfl rfl)
theorem dX7_readsClause_77 : decode cX7_readsClause 77 = .ok (.putfield 171, 3) := dk_181 0 171 (dk_at dksX7_readsClause_3 6 rfl rfl)
theorem dX7_readsClause_80 : decode cX7_readsClause 80 = .ok (.aload_n 0, 1) := dk_42 (dk_at dksX7_readsClause_3 9 rfl rfl)
theorem dX7_readsClause_81 : decode cX7_readsClause 81 = .ok (.iconst 0, 1) := dk_3 (dk_at dksX7_readsClause_3 10 rfl rfl)
theorem dX7_readsClause_82 : decode cX7_readsClause 82 = .ok (.putfield 174, 3) := dk_181 0 174 (dk_at dksX7_readsClause_3 11 rfl rfl)
theorem dX7_readsClause_85 : decode cX7_readsClause 85 = .ok (.aload_n 0, 1) := dk_42 (dk_at dksX7_readsClause_3 14 rfl rfl)
theorem dX7_readsClause_86 : decode cX7_readsClause 86 = .ok (.invokevirtual 207, 3) := dk_182 0 207 (dk_at dksX7_readsClause_3 15 rfl rfl)
theorem dX7_readsClause_89 : decode cX7_readsClause 89 = .ok (.ifCond .ne 5, 3) := dk_154 0 5 (dk_at dksX7_readsClause_3 18 rfl rfl)
theorem dX7_readsClause_92 : decode cX7_readsClause 92 = .ok (.iconst 0, 1) := dk_3 (dk_at dksX7_readsClause_3 21 rfl rfl)
theorem dX7_readsClause_93 : decode cX7_readsClause 93 = .ok (.ireturn, 1) := dk_172 (dk_at dksX7_readsClause_3 22 rfl rfl)
theorem dX7_readsClause_94 : decode cX7_readsClause 94 = .ok (.aload_n 0, 1) := dk_42 (dk_at dksX7_readsClause_3 23 rfl rfl)
theorem dX7_readsClause_95 : decode cX7_readsClause 95 = .ok (.getfield 35, 3) := dk_180 0 35 (dk_at dksX7_readsClause_4 0 rfl rfl)
theorem dX7_readsClause_98 : decode cX7_readsClause 98 = .ok (.aload_n 0, 1) := dk_42 (dk_at dksX7_readsClause_4 3 rfl rfl)
theorem dX7_readsClause_99 : decode cX7_readsClause 99 = .ok (.getfield 225, 3) := dk_180 0 225 (dk_at dksX7_readsClause_4 4 rfl rfl)
theorem dX7_readsClause_102 : decode cX7_readsClause 102 = .ok (.aload_n 0, 1) := dk_42 (dk_at dksX7_readsClause_4 7 rfl rfl)
theorem dX7_readsClause_103 : decode cX7_readsClause 103 = .ok (.getfield 167, 3) := dk_180 0 167 (dk_at dksX7_readsClause_4 8 rfl rfl)
theorem dX7_readsClause_106 : decode cX7_readsClause 106 = .ok (.iastore, 1) := dk_79 (dk_at dksX7_readsClause_4 11 rfl rfl)
theorem dX7_readsClause_107 : decode cX7_readsClause 107 = .ok (.aload_n 0, 1) := dk_42 (dk_at dksX7_readsClause_4 12 rfl rfl)
theorem dX7_readsClause_108 : decode cX7_readsClause 108 = .ok (.invokevirtual 228, 3) := dk_182 0 228 (dk_at dksX7_readsClause_4 13 rfl rfl)
theorem dX7_readsClause_111 : decode cX7_readsClause 111 = .ok (.ifCond .ne 5, 3) := dk_154 0 5 (dk_at dksX7_readsClause_4 16 rfl rfl)
theorem dX7_readsClause_114 : decode cX7_readsClause 114 = .ok (.iconst 0, 1) := dk_3 (dk_at dksX7_readsClause_4 19 rfl rfl)
theorem dX7_readsClause_115 : decode cX7_readsClause 115 = .ok (.ireturn, 1) := dk_172 (dk_at dksX7_readsClause_4 20 rfl rfl)
theorem dX7_readsClause_116 : decode cX7_readsClause 116 = .ok (.aload_n 0, 1) := dk_42 (dk_at dksX7_readsClause_4 21 rfl rfl)
theorem dX7_readsClause_117 : decode cX7_readsClause 117 = .ok (.getfield 38, 3) := dk_180 0 38 (dk_at dksX7_readsClause_5 0 rfl rfl)
theorem dX7_readsClause_120 : decode cX7_readsClause 120 = .ok (.aload_n 0, 1) := dk_42 (dk_at dksX7_readsClause_5 3 rfl rfl)
theorem dX7_readsClause_121 : decode cX7_readsClause 121 = .ok (.getfield 225, 3) := dk_180 0 225 (dk_at dksX7_readsClause_5 4 rfl rfl)
theorem dX7_readsClause_124 : decode cX7_readsClause 124 = .ok (.aload_n 0, 1) := dk_42 (dk_at dksX7_readsClause_5 7 rfl rfl)
theorem dX7_readsClause_125 : decode cX7_readsClause 125 = .ok (.getfield 167, 3) := dk_180 0 167 (dk_at dksX7_readsClause_5 8 rfl rfl)
theorem dX7_readsClause_128 : decode cX7_readsClause 128 = .ok (.iastore, 1) := dk_79 (dk_at dksX7_readsClause_5 11 rfl rfl)
theorem dX7_readsClause_129 : decode cX7_readsClause 129 = .ok (.aload_n 0, 1) := dk_42 (dk_at dksX7_readsClause_5 12 rfl rfl)
theorem dX7_readsClause_130 : decode cX7_readsClause 130 = .ok (.aload_n 0, 1) := dk_42 (dk_at dksX7_readsClause_5 13 rfl rfl)
theorem dX7_readsClause_131 : decode cX7_readsClause 131 = .ok (.getfield 225, 3) := dk_180 0 225 (dk_at dksX7_readsClause_5 14 rfl rfl)
theorem dX7_readsClause_134 : decode cX7_readsClause 134 = .ok (.iconst 1, 1) := dk_4 (dk_at dksX7_readsClause_5 17 rfl rfl)
theorem dX7_readsClause_135 : decode cX7_readsClause 135 = .ok (.iadd, 1) := dk_96 (dk_at dksX7_readsClause_5 18 rfl rfl)
theorem dX7_readsClause_136 : decode cX7_readsClause 136 = .ok (.putfield 225, 3) := dk_181 0 225 (dk_at dksX7_readsClause_5 19 rfl rfl)
theorem dX7_readsClause_139 : decode cX7_readsClause 139 = .ok (.iconst 1, 1) := dk_4 (dk_at dksX7_readsClause_5 22 rfl rfl)
theorem dX7_readsClause_140 : decode cX7_readsClause 140 = .ok (.ireturn, 1) := dk_172 (dk_at dksX7_readsClause_5 23 rfl rfl)
abbrev cX7_here : ByteArray := prog_19_method_20_code
def yX7_here : MethodName := ⟨RX7, "here", "()I"⟩
def dkwX7_here_1 : List UInt8 := [167, 0, 4, 2, 172]
abbrev dktX7_here_1 : List UInt8 := dkwX7_here_1 ++ []
def dkwX7_here_0 : List UInt8 := [42, 180, 0, 144, 42, 180, 0, 147, 162, 0, 19, 42, 180, 0, 19, 42, 180, 0, 144, 51, 17, 0, 255, 126]
abbrev dktX7_here_0 : List UInt8 := dkwX7_here_0 ++ dktX7_here_1
theorem dksX7_here_0 : cX7_here.data.toList.drop 0 = dktX7_here_0 := by decide +kernel
theorem dksX7_here_1 : cX7_here.data.toList.drop 24 = dktX7_here_1 := dk_seg dksX7_here_0 24 rfl rfl
theorem dX7_here_0 : decode cX7_here 0 = .ok (.aload_n 0, 1) := dk_42 (dk_at dksX7_here_0 0 rfl rfl)
theorem dX7_here_1 : decode cX7_here 1 = .ok (.getfield 144, 3) := dk_180 0 144 (dk_at dksX7_here_0 1 rfl rfl)
theorem dX7_here_4 : decode cX7_here 4 = .ok (.aload_n 0, 1) := dk_42 (dk_at dksX7_here_0 4 rfl rfl)
theorem dX7_here_5 : decode cX7_here 5 = .ok (.getfield 147, 3) := dk_180 0 147 (dk_at dksX7_here_0 5 rfl rfl)
theorem dX7_here_8 : decode cX7_here 8 = .ok (.if_icmp .ge 19, 3) := dk_162 0 19 (dk_at dksX7_here_0 8 rfl rfl)
theorem dX7_here_11 : decode cX7_here 11 = .ok (.aload_n 0, 1) := dk_42 (dk_at dksX7_here_0 11 rfl rfl)
theorem dX7_here_12 : decode cX7_here 12 = .ok (.getfield 19, 3) := dk_180 0 19 (dk_at dksX7_here_0 12 rfl rfl)
theorem dX7_here_15 : decode cX7_here 15 = .ok (.aload_n 0, 1) := dk_42 (dk_at dksX7_here_0 15 rfl rfl)
theorem dX7_here_16 : decode cX7_here 16 = .ok (.getfield 144, 3) := dk_180 0 144 (dk_at dksX7_here_0 16 rfl rfl)
theorem dX7_here_19 : decode cX7_here 19 = .ok (.baload, 1) := dk_51 (dk_at dksX7_here_0 19 rfl rfl)
theorem dX7_here_20 : decode cX7_here 20 = .ok (.sipush 255, 3) := dk_17 0 255 (dk_at dksX7_here_0 20 rfl rfl)
theorem dX7_here_23 : decode cX7_here 23 = .ok (.iand, 1) := dk_126 (dk_at dksX7_here_0 23 rfl rfl)
theorem dX7_here_24 : decode cX7_here 24 = .ok (.goto 4, 3) := dk_167 0 4 (dk_at dksX7_here_1 0 rfl rfl)
theorem dX7_here_27 : decode cX7_here 27 = .ok (.iconst (-1), 1) := dk_2 (dk_at dksX7_here_1 3 rfl rfl)
theorem dX7_here_28 : decode cX7_here 28 = .ok (.ireturn, 1) := dk_172 (dk_at dksX7_here_1 4 rfl rfl)
abbrev cX7_isClause : ByteArray := prog_19_method_39_code
def yX7_isClause : MethodName := ⟨RX7, "isClause", "(II)Z"⟩
def dkwX7_isClause_1 : List UInt8 := [26, 16, 104, 159, 0, 15, 26, 16, 99, 159, 0, 9, 26, 16, 98, 160, 0, 7, 4, 167, 0, 4, 3, 172]
abbrev dktX7_isClause_1 : List UInt8 := dkwX7_isClause_1 ++ []
def dkwX7_isClause_0 : List UInt8 := [27, 158, 0, 17, 26, 16, 103, 160, 0, 7, 4, 167, 0, 36, 3, 167, 0, 32, 26, 16, 101, 159, 0, 21]
abbrev dktX7_isClause_0 : List UInt8 := dkwX7_isClause_0 ++ dktX7_isClause_1
theorem dksX7_isClause_0 : cX7_isClause.data.toList.drop 0 = dktX7_isClause_0 := by decide +kernel
theorem dksX7_isClause_1 : cX7_isClause.data.toList.drop 24 = dktX7_isClause_1 := dk_seg dksX7_isClause_0 24 rfl rfl
theorem dX7_isClause_0 : decode cX7_isClause 0 = .ok (.iload_n 1, 1) := dk_27 (dk_at dksX7_isClause_0 0 rfl rfl)
theorem dX7_isClause_1 : decode cX7_isClause 1 = .ok (.ifCond .le 17, 3) := dk_158 0 17 (dk_at dksX7_isClause_0 1 rfl rfl)
theorem dX7_isClause_4 : decode cX7_isClause 4 = .ok (.iload_n 0, 1) := dk_26 (dk_at dksX7_isClause_0 4 rfl rfl)
theorem dX7_isClause_5 : decode cX7_isClause 5 = .ok (.bipush 103, 2) := dk_16 103 (dk_at dksX7_isClause_0 5 rfl rfl)
theorem dX7_isClause_7 : decode cX7_isClause 7 = .ok (.if_icmp .ne 7, 3) := dk_160 0 7 (dk_at dksX7_isClause_0 7 rfl rfl)
theorem dX7_isClause_10 : decode cX7_isClause 10 = .ok (.iconst 1, 1) := dk_4 (dk_at dksX7_isClause_0 10 rfl rfl)
theorem dX7_isClause_11 : decode cX7_isClause 11 = .ok (.goto 36, 3) := dk_167 0 36 (dk_at dksX7_isClause_0 11 rfl rfl)
theorem dX7_isClause_14 : decode cX7_isClause 14 = .ok (.iconst 0, 1) := dk_3 (dk_at dksX7_isClause_0 14 rfl rfl)
theorem dX7_isClause_15 : decode cX7_isClause 15 = .ok (.goto 32, 3) := dk_167 0 32 (dk_at dksX7_isClause_0 15 rfl rfl)
theorem dX7_isClause_18 : decode cX7_isClause 18 = .ok (.iload_n 0, 1) := dk_26 (dk_at dksX7_isClause_0 18 rfl rfl)
theorem dX7_isClause_19 : decode cX7_isClause 19 = .ok (.bipush 101, 2) := dk_16 101 (dk_at dksX7_isClause_0 19 rfl rfl)
theorem dX7_isClause_21 : decode cX7_isClause 21 = .ok (.if_icmp .eq 21, 3) := dk_159 0 21 (dk_at dksX7_isClause_0 21 rfl rfl)
theorem dX7_isClause_24 : decode cX7_isClause 24 = .ok (.iload_n 0, 1) := dk_26 (dk_at dksX7_isClause_1 0 rfl rfl)
theorem dX7_isClause_25 : decode cX7_isClause 25 = .ok (.bipush 104, 2) := dk_16 104 (dk_at dksX7_isClause_1 1 rfl rfl)
theorem dX7_isClause_27 : decode cX7_isClause 27 = .ok (.if_icmp .eq 15, 3) := dk_159 0 15 (dk_at dksX7_isClause_1 3 rfl rfl)
theorem dX7_isClause_30 : decode cX7_isClause 30 = .ok (.iload_n 0, 1) := dk_26 (dk_at dksX7_isClause_1 6 rfl rfl)
theorem dX7_isClause_31 : decode cX7_isClause 31 = .ok (.bipush 99, 2) := dk_16 99 (dk_at dksX7_isClause_1 7 rfl rfl)
theorem dX7_isClause_33 : decode cX7_isClause 33 = .ok (.if_icmp .eq 9, 3) := dk_159 0 9 (dk_at dksX7_isClause_1 9 rfl rfl)
theorem dX7_isClause_36 : decode cX7_isClause 36 = .ok (.iload_n 0, 1) := dk_26 (dk_at dksX7_isClause_1 12 rfl rfl)
theorem dX7_isClause_37 : decode cX7_isClause 37 = .ok (.bipush 98, 2) := dk_16 98 (dk_at dksX7_isClause_1 13 rfl rfl)
theorem dX7_isClause_39 : decode cX7_isClause 39 = .ok (.if_icmp .ne 7, 3) := dk_160 0 7 (dk_at dksX7_isClause_1 15 rfl rfl)
theorem dX7_isClause_42 : decode cX7_isClause 42 = .ok (.iconst 1, 1) := dk_4 (dk_at dksX7_isClause_1 18 rfl rfl)
theorem dX7_isClause_43 : decode cX7_isClause 43 = .ok (.goto 4, 3) := dk_167 0 4 (dk_at dksX7_isClause_1 19 rfl rfl)
theorem dX7_isClause_46 : decode cX7_isClause 46 = .ok (.iconst 0, 1) := dk_3 (dk_at dksX7_isClause_1 22 rfl rfl)
theorem dX7_isClause_47 : decode cX7_isClause 47 = .ok (.ireturn, 1) := dk_172 (dk_at dksX7_isClause_1 23 rfl rfl)
abbrev cX7_wrongAt : ByteArray := prog_19_method_22_code
def yX7_wrongAt : MethodName := ⟨RX7, "wrongAt", "(II)Z"⟩
def dkwX7_wrongAt_0 : List UInt8 := [42, 17, 252, 24, 27, 104, 28, 100, 181, 0, 154, 3, 172]
abbrev dktX7_wrongAt_0 : List UInt8 := dkwX7_wrongAt_0 ++ []
theorem dksX7_wrongAt_0 : cX7_wrongAt.data.toList.drop 0 = dktX7_wrongAt_0 := by decide +kernel
theorem dX7_wrongAt_0 : decode cX7_wrongAt 0 = .ok (.aload_n 0, 1) := dk_42 (dk_at dksX7_wrongAt_0 0 rfl rfl)
theorem dX7_wrongAt_1 : decode cX7_wrongAt 1 = .ok (.sipush (-1000), 3) := dk_17 252 24 (dk_at dksX7_wrongAt_0 1 rfl rfl)
theorem dX7_wrongAt_4 : decode cX7_wrongAt 4 = .ok (.iload_n 1, 1) := dk_27 (dk_at dksX7_wrongAt_0 4 rfl rfl)
theorem dX7_wrongAt_5 : decode cX7_wrongAt 5 = .ok (.imul, 1) := dk_104 (dk_at dksX7_wrongAt_0 5 rfl rfl)
theorem dX7_wrongAt_6 : decode cX7_wrongAt 6 = .ok (.iload_n 2, 1) := dk_28 (dk_at dksX7_wrongAt_0 6 rfl rfl)
theorem dX7_wrongAt_7 : decode cX7_wrongAt 7 = .ok (.isub, 1) := dk_100 (dk_at dksX7_wrongAt_0 7 rfl rfl)
theorem dX7_wrongAt_8 : decode cX7_wrongAt 8 = .ok (.putfield 154, 3) := dk_181 0 154 (dk_at dksX7_wrongAt_0 8 rfl rfl)
theorem dX7_wrongAt_11 : decode cX7_wrongAt 11 = .ok (.iconst 0, 1) := dk_3 (dk_at dksX7_wrongAt_0 11 rfl rfl)
theorem dX7_wrongAt_12 : decode cX7_wrongAt 12 = .ok (.ireturn, 1) := dk_172 (dk_at dksX7_wrongAt_0 12 rfl rfl)
abbrev cX7_readsSum : ByteArray := prog_19_method_33_code
def yX7_readsSum : MethodName := ⟨RX7, "readsSum", "()Z"⟩
def dkwX7_readsSum_7 : List UInt8 := [167, 255, 107]
abbrev dktX7_readsSum_7 : List UInt8 := dkwX7_readsSum_7 ++ []
def dkwX7_readsSum_6 : List UInt8 := [182, 0, 204, 153, 0, 13, 42, 4, 42, 180, 0, 144, 182, 0, 157, 172, 42, 4, 182, 0, 200, 4, 172]
abbrev dktX7_readsSum_6 : List UInt8 := dkwX7_readsSum_6 ++ dktX7_readsSum_7
def dkwX7_readsSum_5 : List UInt8 := [180, 0, 171, 4, 100, 181, 0, 171, 42, 42, 180, 0, 144, 4, 96, 181, 0, 144, 167, 0, 28, 42, 27]
abbrev dktX7_readsSum_5 : List UInt8 := dkwX7_readsSum_5 ++ dktX7_readsSum_6
def dkwX7_readsSum_4 : List UInt8 := [182, 0, 204, 153, 0, 41, 42, 4, 182, 0, 200, 42, 42, 180, 0, 174, 4, 100, 181, 0, 174, 42, 42]
abbrev dktX7_readsSum_4 : List UInt8 := dkwX7_readsSum_4 ++ dktX7_readsSum_5
def dkwX7_readsSum_3 : List UInt8 := [96, 181, 0, 144, 42, 182, 0, 194, 154, 0, 85, 3, 172, 42, 182, 0, 150, 16, 93, 160, 0, 49, 42, 27]
abbrev dktX7_readsSum_3 : List UInt8 := dkwX7_readsSum_3 ++ dktX7_readsSum_4
def dkwX7_readsSum_2 : List UInt8 := [180, 0, 174, 18, 170, 28, 104, 79, 42, 42, 180, 0, 174, 4, 96, 181, 0, 174, 42, 42, 180, 0, 144, 4]
abbrev dktX7_readsSum_2 : List UInt8 := dkwX7_readsSum_2 ++ dktX7_readsSum_3
def dkwX7_readsSum_1 : List UInt8 := [159, 0, 59, 42, 28, 7, 162, 0, 7, 4, 167, 0, 4, 3, 182, 0, 200, 42, 180, 0, 26, 42]
abbrev dktX7_readsSum_1 : List UInt8 := dkwX7_readsSum_1 ++ dktX7_readsSum_2
def dkwX7_readsSum_0 : List UInt8 := [42, 180, 0, 174, 60, 42, 182, 0, 194, 154, 0, 5, 3, 172, 42, 182, 0, 150, 184, 0, 197, 61, 28, 2]
abbrev dktX7_readsSum_0 : List UInt8 := dkwX7_readsSum_0 ++ dktX7_readsSum_1
theorem dksX7_readsSum_0 : cX7_readsSum.data.toList.drop 0 = dktX7_readsSum_0 := by decide +kernel
theorem dksX7_readsSum_1 : cX7_readsSum.data.toList.drop 24 = dktX7_readsSum_1 := dk_seg dksX7_readsSum_0 24 rfl rfl
theorem dksX7_readsSum_2 : cX7_readsSum.data.toList.drop 46 = dktX7_readsSum_2 := dk_seg dksX7_readsSum_1 22 rfl rfl
theorem dksX7_readsSum_3 : cX7_readsSum.data.toList.drop 70 = dktX7_readsSum_3 := dk_seg dksX7_readsSum_2 24 rfl rfl
theorem dksX7_readsSum_4 : cX7_readsSum.data.toList.drop 94 = dktX7_readsSum_4 := dk_seg dksX7_readsSum_3 24 rfl rfl
theorem dksX7_readsSum_5 : cX7_readsSum.data.toList.drop 117 = dktX7_readsSum_5 := dk_seg dksX7_readsSum_4 23 rfl rfl
theorem dksX7_readsSum_6 : cX7_readsSum.data.toList.drop 140 = dktX7_readsSum_6 := dk_seg dksX7_readsSum_5 23 rfl rfl
theorem dksX7_readsSum_7 : cX7_readsSum.data.toList.drop 163 = dktX7_readsSum_7 := dk_seg dksX7_readsSum_6 23 rfl rfl
theorem dX7_readsSum_0 : decode cX7_readsSum 0 = .ok (.aload_n 0, 1) := dk_42 (dk_at dksX7_readsSum_0 0 rfl rfl)
theorem dX7_readsSum_1 : decode cX7_readsSum 1 = .ok (.getfield 174, 3) := dk_180 0 174 (dk_at dksX7_readsSum_0 1 rfl rfl)
theorem dX7_readsSum_4 : decode cX7_readsSum 4 = .ok (.istore_n 1, 1) := dk_60 (dk_at dksX7_readsSum_0 4 rfl rfl)
theorem dX7_readsSum_5 : decode cX7_readsSum 5 = .ok (.aload_n 0, 1) := dk_42 (dk_at dksX7_readsSum_0 5 rfl rfl)
theorem dX7_readsSum_6 : decode cX7_readsSum 6 = .ok (.invokevirtual 194, 3) := dk_182 0 194 (dk_at dksX7_readsSum_0 6 rfl rfl)
theorem dX7_readsSum_9 : decode cX7_readsSum 9 = .ok (.ifCond .ne 5, 3) := dk_154 0 5 (dk_at dksX7_readsSum_0 9 rfl rfl)
theorem dX7_readsSum_12 : decode cX7_readsSum 12 = .ok (.iconst 0, 1) := dk_3 (dk_at dksX7_readsSum_0 12 rfl rfl)
theorem dX7_readsSum_13 : decode cX7_readsSum 13 = .ok (.ireturn, 1) := dk_172 (dk_at dksX7_readsSum_0 13 rfl rfl)
theorem dX7_readsSum_14 : decode cX7_readsSum 14 = .ok (.aload_n 0, 1) := dk_42 (dk_at dksX7_readsSum_0 14 rfl rfl)
theorem dX7_readsSum_15 : decode cX7_readsSum 15 = .ok (.invokevirtual 150, 3) := dk_182 0 150 (dk_at dksX7_readsSum_0 15 rfl rfl)
theorem dX7_readsSum_18 : decode cX7_readsSum 18 = .ok (.invokestatic 197, 3) := dk_184 0 197 (dk_at dksX7_readsSum_0 18 rfl rfl)
theorem dX7_readsSum_21 : decode cX7_readsSum 21 = .ok (.istore_n 2, 1) := dk_61 (dk_at dksX7_readsSum_0 21 rfl rfl)
theorem dX7_readsSum_22 : decode cX7_readsSum 22 = .ok (.iload_n 2, 1) := dk_28 (dk_at dksX7_readsSum_0 22 rfl rfl)
theorem dX7_readsSum_23 : decode cX7_readsSum 23 = .ok (.iconst (-1), 1) := dk_2 (dk_at dksX7_readsSum_0 23 rfl rfl)
theorem dX7_readsSum_24 : decode cX7_readsSum 24 = .ok (.if_icmp .eq 59, 3) := dk_159 0 59 (dk_at dksX7_readsSum_1 0 rfl rfl)
theorem dX7_readsSum_27 : decode cX7_readsSum 27 = .ok (.aload_n 0, 1) := dk_42 (dk_at dksX7_readsSum_1 3 rfl rfl)
theorem dX7_readsSum_28 : decode cX7_readsSum 28 = .ok (.iload_n 2, 1) := dk_28 (dk_at dksX7_readsSum_1 4 rfl rfl)
theorem dX7_readsSum_29 : decode cX7_readsSum 29 = .ok (.iconst 4, 1) := dk_7 (dk_at dksX7_readsSum_1 5 rfl rfl)
theorem dX7_readsSum_30 : decode cX7_readsSum 30 = .ok (.if_icmp .ge 7, 3) := dk_162 0 7 (dk_at dksX7_readsSum_1 6 rfl rfl)
theorem dX7_readsSum_33 : decode cX7_readsSum 33 = .ok (.iconst 1, 1) := dk_4 (dk_at dksX7_readsSum_1 9 rfl rfl)
theorem dX7_readsSum_34 : decode cX7_readsSum 34 = .ok (.goto 4, 3) := dk_167 0 4 (dk_at dksX7_readsSum_1 10 rfl rfl)
theorem dX7_readsSum_37 : decode cX7_readsSum 37 = .ok (.iconst 0, 1) := dk_3 (dk_at dksX7_readsSum_1 13 rfl rfl)
theorem dX7_readsSum_38 : decode cX7_readsSum 38 = .ok (.invokevirtual 200, 3) := dk_182 0 200 (dk_at dksX7_readsSum_1 14 rfl rfl)
theorem dX7_readsSum_41 : decode cX7_readsSum 41 = .ok (.aload_n 0, 1) := dk_42 (dk_at dksX7_readsSum_1 17 rfl rfl)
theorem dX7_readsSum_42 : decode cX7_readsSum 42 = .ok (.getfield 26, 3) := dk_180 0 26 (dk_at dksX7_readsSum_1 18 rfl rfl)
theorem dX7_readsSum_45 : decode cX7_readsSum 45 = .ok (.aload_n 0, 1) := dk_42 (dk_at dksX7_readsSum_1 21 rfl rfl)
theorem dX7_readsSum_46 : decode cX7_readsSum 46 = .ok (.getfield 174, 3) := dk_180 0 174 (dk_at dksX7_readsSum_2 0 rfl rfl)
theorem dX7_readsSum_49 : decode cX7_readsSum 49 = .ok (.ldc 170, 2) := dk_18 170 (dk_at dksX7_readsSum_2 3 rfl rfl)
theorem dX7_readsSum_51 : decode cX7_readsSum 51 = .ok (.iload_n 2, 1) := dk_28 (dk_at dksX7_readsSum_2 5 rfl rfl)
theorem dX7_readsSum_52 : decode cX7_readsSum 52 = .ok (.imul, 1) := dk_104 (dk_at dksX7_readsSum_2 6 rfl rfl)
theorem dX7_readsSum_53 : decode cX7_readsSum 53 = .ok (.iastore, 1) := dk_79 (dk_at dksX7_readsSum_2 7 rfl rfl)
theorem dX7_readsSum_54 : decode cX7_readsSum 54 = .ok (.aload_n 0, 1) := dk_42 (dk_at dksX7_readsSum_2 8 rfl rfl)
theorem dX7_readsSum_55 : decode cX7_readsSum 55 = .ok (.aload_n 0, 1) := dk_42 (dk_at dksX7_readsSum_2 9 rfl rfl)
theorem dX7_readsSum_56 : decode cX7_readsSum 56 = .ok (.getfield 174, 3) := dk_180 0 174 (dk_at dksX7_readsSum_2 10 rfl rfl)
theorem dX7_readsSum_59 : decode cX7_readsSum 59 = .ok (.iconst 1, 1) := dk_4 (dk_at dksX7_readsSum_2 13 rfl rfl)
theorem dX7_readsSum_60 : decode cX7_readsSum 60 = .ok (.iadd, 1) := dk_96 (dk_at dksX7_readsSum_2 14 rfl rfl)
theorem dX7_readsSum_61 : decode cX7_readsSum 61 = .ok (.putfield 174, 3) := dk_181 0 174 (dk_at dksX7_readsSum_2 15 rfl rfl)
theorem dX7_readsSum_64 : decode cX7_readsSum 64 = .ok (.aload_n 0, 1) := dk_42 (dk_at dksX7_readsSum_2 18 rfl rfl)
theorem dX7_readsSum_65 : decode cX7_readsSum 65 = .ok (.aload_n 0, 1) := dk_42 (dk_at dksX7_readsSum_2 19 rfl rfl)
theorem dX7_readsSum_66 : decode cX7_readsSum 66 = .ok (.getfield 144, 3) := dk_180 0 144 (dk_at dksX7_readsSum_2 20 rfl rfl)
theorem dX7_readsSum_69 : decode cX7_readsSum 69 = .ok (.iconst 1, 1) := dk_4 (dk_at dksX7_readsSum_2 23 rfl rfl)
theorem dX7_readsSum_70 : decode cX7_readsSum 70 = .ok (.iadd, 1) := dk_96 (dk_at dksX7_readsSum_3 0 rfl rfl)
theorem dX7_readsSum_71 : decode cX7_readsSum 71 = .ok (.putfield 144, 3) := dk_181 0 144 (dk_at dksX7_readsSum_3 1 rfl rfl)
theorem dX7_readsSum_74 : decode cX7_readsSum 74 = .ok (.aload_n 0, 1) := dk_42 (dk_at dksX7_readsSum_3 4 rfl rfl)
theorem dX7_readsSum_75 : decode cX7_readsSum 75 = .ok (.invokevirtual 194, 3) := dk_182 0 194 (dk_at dksX7_readsSum_3 5 rfl rfl)
theorem dX7_readsSum_78 : decode cX7_readsSum 78 = .ok (.ifCond .ne 85, 3) := dk_154 0 85 (dk_at dksX7_readsSum_3 8 rfl rfl)
theorem dX7_readsSum_81 : decode cX7_readsSum 81 = .ok (.iconst 0, 1) := dk_3 (dk_at dksX7_readsSum_3 11 rfl rfl)
theorem dX7_readsSum_82 : decode cX7_readsSum 82 = .ok (.ireturn, 1) := dk_172 (dk_at dksX7_readsSum_3 12 rfl rfl)
theorem dX7_readsSum_83 : decode cX7_readsSum 83 = .ok (.aload_n 0, 1) := dk_42 (dk_at dksX7_readsSum_3 13 rfl rfl)
theorem dX7_readsSum_84 : decode cX7_readsSum 84 = .ok (.invokevirtual 150, 3) := dk_182 0 150 (dk_at dksX7_readsSum_3 14 rfl rfl)
theorem dX7_readsSum_87 : decode cX7_readsSum 87 = .ok (.bipush 93, 2) := dk_16 93 (dk_at dksX7_readsSum_3 17 rfl rfl)
theorem dX7_readsSum_89 : decode cX7_readsSum 89 = .ok (.if_icmp .ne 49, 3) := dk_160 0 49 (dk_at dksX7_readsSum_3 19 rfl rfl)
theorem dX7_readsSum_92 : decode cX7_readsSum 92 = .ok (.aload_n 0, 1) := dk_42 (dk_at dksX7_readsSum_3 22 rfl rfl)
theorem dX7_readsSum_93 : decode cX7_readsSum 93 = .ok (.iload_n 1, 1) := dk_27 (dk_at dksX7_readsSum_3 23 rfl rfl)
theorem dX7_readsSum_94 : decode cX7_readsSum 94 = .ok (.invokevirtual 204, 3) := dk_182 0 204 (dk_at dksX7_readsSum_4 0 rfl rfl)
theorem dX7_readsSum_97 : decode cX7_readsSum 97 = .ok (.ifCond .eq 41, 3) := dk_153 0 41 (dk_at dksX7_readsSum_4 3 rfl rfl)
theorem dX7_readsSum_100 : decode cX7_readsSum 100 = .ok (.aload_n 0, 1) := dk_42 (dk_at dksX7_readsSum_4 6 rfl rfl)
theorem dX7_readsSum_101 : decode cX7_readsSum 101 = .ok (.iconst 1, 1) := dk_4 (dk_at dksX7_readsSum_4 7 rfl rfl)
theorem dX7_readsSum_102 : decode cX7_readsSum 102 = .ok (.invokevirtual 200, 3) := dk_182 0 200 (dk_at dksX7_readsSum_4 8 rfl rfl)
theorem dX7_readsSum_105 : decode cX7_readsSum 105 = .ok (.aload_n 0, 1) := dk_42 (dk_at dksX7_readsSum_4 11 rfl rfl)
theorem dX7_readsSum_106 : decode cX7_readsSum 106 = .ok (.aload_n 0, 1) := dk_42 (dk_at dksX7_readsSum_4 12 rfl rfl)
theorem dX7_readsSum_107 : decode cX7_readsSum 107 = .ok (.getfield 174, 3) := dk_180 0 174 (dk_at dksX7_readsSum_4 13 rfl rfl)
theorem dX7_readsSum_110 : decode cX7_readsSum 110 = .ok (.iconst 1, 1) := dk_4 (dk_at dksX7_readsSum_4 16 rfl rfl)
theorem dX7_readsSum_111 : decode cX7_readsSum 111 = .ok (.isub, 1) := dk_100 (dk_at dksX7_readsSum_4 17 rfl rfl)
theorem dX7_readsSum_112 : decode cX7_readsSum 112 = .ok (.putfield 174, 3) := dk_181 0 174 (dk_at dksX7_readsSum_4 18 rfl rfl)
theorem dX7_readsSum_115 : decode cX7_readsSum 115 = .ok (.aload_n 0, 1) := dk_42 (dk_at dksX7_readsSum_4 21 rfl rfl)
theorem dX7_readsSum_116 : decode cX7_readsSum 116 = .ok (.aload_n 0, 1) := dk_42 (dk_at dksX7_readsSum_4 22 rfl rfl)
theorem dX7_readsSum_117 : decode cX7_readsSum 117 = .ok (.getfield 171, 3) := dk_180 0 171 (dk_at dksX7_readsSum_5 0 rfl rfl)
theorem dX7_readsSum_120 : decode cX7_readsSum 120 = .ok (.iconst 1, 1) := dk_4 (dk_at dksX7_readsSum_5 3 rfl rfl)
theorem dX7_readsSum_121 : decode cX7_readsSum 121 = .ok (.isub, 1) := dk_100 (dk_at dksX7_readsSum_5 4 rfl rfl)
theorem dX7_readsSum_122 : decode cX7_readsSum 122 = .ok (.putfield 171, 3) := dk_181 0 171 (dk_at dksX7_readsSum_5 5 rfl rfl)
theorem dX7_readsSum_125 : decode cX7_readsSum 125 = .ok (.aload_n 0, 1) := dk_42 (dk_at dksX7_readsSum_5 8 rfl rfl)
theorem dX7_readsSum_126 : decode cX7_readsSum 126 = .ok (.aload_n 0, 1) := dk_42 (dk_at dksX7_readsSum_5 9 rfl rfl)
theorem dX7_readsSum_127 : decode cX7_readsSum 127 = .ok (.getfield 144, 3) := dk_180 0 144 (dk_at dksX7_readsSum_5 10 rfl rfl)
theorem dX7_readsSum_130 : decode cX7_readsSum 130 = .ok (.iconst 1, 1) := dk_4 (dk_at dksX7_readsSum_5 13 rfl rfl)
theorem dX7_readsSum_131 : decode cX7_readsSum 131 = .ok (.iadd, 1) := dk_96 (dk_at dksX7_readsSum_5 14 rfl rfl)
theorem dX7_readsSum_132 : decode cX7_readsSum 132 = .ok (.putfield 144, 3) := dk_181 0 144 (dk_at dksX7_readsSum_5 15 rfl rfl)
theorem dX7_readsSum_135 : decode cX7_readsSum 135 = .ok (.goto 28, 3) := dk_167 0 28 (dk_at dksX7_readsSum_5 18 rfl rfl)
theorem dX7_readsSum_138 : decode cX7_readsSum 138 = .ok (.aload_n 0, 1) := dk_42 (dk_at dksX7_readsSum_5 21 rfl rfl)
theorem dX7_readsSum_139 : decode cX7_readsSum 139 = .ok (.iload_n 1, 1) := dk_27 (dk_at dksX7_readsSum_5 22 rfl rfl)
theorem dX7_readsSum_140 : decode cX7_readsSum 140 = .ok (.invokevirtual 204, 3) := dk_182 0 204 (dk_at dksX7_readsSum_6 0 rfl rfl)
theorem dX7_readsSum_143 : decode cX7_readsSum 143 = .ok (.ifCond .eq 13, 3) := dk_153 0 13 (dk_at dksX7_readsSum_6 3 rfl rfl)
theorem dX7_readsSum_146 : decode cX7_readsSum 146 = .ok (.aload_n 0, 1) := dk_42 (dk_at dksX7_readsSum_6 6 rfl rfl)
theorem dX7_readsSum_147 : decode cX7_readsSum 147 = .ok (.iconst 1, 1) := dk_4 (dk_at dksX7_readsSum_6 7 rfl rfl)
theorem dX7_readsSum_148 : decode cX7_readsSum 148 = .ok (.aload_n 0, 1) := dk_42 (dk_at dksX7_readsSum_6 8 rfl rfl)
theorem dX7_readsSum_149 : decode cX7_readsSum 149 = .ok (.getfield 144, 3) := dk_180 0 144 (dk_at dksX7_readsSum_6 9 rfl rfl)
theorem dX7_readsSum_152 : decode cX7_readsSum 152 = .ok (.invokevirtual 157, 3) := dk_182 0 157 (dk_at dksX7_readsSum_6 12 rfl rfl)
theorem dX7_readsSum_155 : decode cX7_readsSum 155 = .ok (.ireturn, 1) := dk_172 (dk_at dksX7_readsSum_6 15 rfl rfl)
theorem dX7_readsSum_156 : decode cX7_readsSum 156 = .ok (.aload_n 0, 1) := dk_42 (dk_at dksX7_readsSum_6 16 rfl rfl)
theorem dX7_readsSum_157 : decode cX7_readsSum 157 = .ok (.iconst 1, 1) := dk_4 (dk_at dksX7_readsSum_6 17 rfl rfl)
theorem dX7_readsSum_158 : decode cX7_readsSum 158 = .ok (.invokevirtual 200, 3) := dk_182 0 200 (dk_at dksX7_readsSum_6 18 rfl rfl)
theorem dX7_readsSum_161 : decode cX7_readsSum 161 = .ok (.iconst 1, 1) := dk_4 (dk_at dksX7_readsSum_6 21 rfl rfl)
theorem dX7_readsSum_162 : decode cX7_readsSum 162 = .ok (.ireturn, 1) := dk_172 (dk_at dksX7_readsSum_6 22 rfl rfl)
theorem dX7_readsSum_163 : decode cX7_readsSum 163 = .ok (.goto (-149), 3) := dk_167 255 107 (dk_at dksX7_readsSum_7 0 rfl rfl)
abbrev cX7_readsFactor : ByteArray := prog_19_method_31_code
def yX7_readsFactor : MethodName := ⟨RX7, "readsFactor", "()Z"⟩
def dkwX7_readsFactor_3 : List UInt8 := [27, 182, 0, 180, 42, 42, 180, 0, 144, 4, 96, 181, 0, 144, 4, 172]
abbrev dktX7_readsFactor_3 : List UInt8 := dkwX7_readsFactor_3 ++ []
def dkwX7_readsFactor_2 : List UInt8 := [182, 0, 150, 184, 0, 190, 60, 27, 2, 160, 0, 13, 42, 4, 42, 180, 0, 144, 182, 0, 157, 172, 42, 4]
abbrev dktX7_readsFactor_2 : List UInt8 := dkwX7_readsFactor_2 ++ dktX7_readsFactor_3
def dkwX7_readsFactor_1 : List UInt8 := [153, 0, 23, 42, 182, 0, 187, 154, 0, 5, 3, 172, 42, 3, 42, 180, 0, 160, 182, 0, 180, 4, 172, 42]
abbrev dktX7_readsFactor_1 : List UInt8 := dkwX7_readsFactor_1 ++ dktX7_readsFactor_2
def dkwX7_readsFactor_0 : List UInt8 := [42, 182, 0, 150, 16, 91, 160, 0, 14, 42, 16, 14, 182, 0, 184, 154, 255, 241, 3, 172, 42, 182, 0, 163]
abbrev dktX7_readsFactor_0 : List UInt8 := dkwX7_readsFactor_0 ++ dktX7_readsFactor_1
theorem dksX7_readsFactor_0 : cX7_readsFactor.data.toList.drop 0 = dktX7_readsFactor_0 := by decide +kernel
theorem dksX7_readsFactor_1 : cX7_readsFactor.data.toList.drop 24 = dktX7_readsFactor_1 := dk_seg dksX7_readsFactor_0 24 rfl rfl
theorem dksX7_readsFactor_2 : cX7_readsFactor.data.toList.drop 48 = dktX7_readsFactor_2 := dk_seg dksX7_readsFactor_1 24 rfl rfl
theorem dksX7_readsFactor_3 : cX7_readsFactor.data.toList.drop 72 = dktX7_readsFactor_3 := dk_seg dksX7_readsFactor_2 24 rfl rfl
theorem dX7_readsFactor_0 : decode cX7_readsFactor 0 = .ok (.aload_n 0, 1) := dk_42 (dk_at dksX7_readsFactor_0 0 rfl rfl)
theorem dX7_readsFactor_1 : decode cX7_readsFactor 1 = .ok (.invokevirtual 150, 3) := dk_182 0 150 (dk_at dksX7_readsFactor_0 1 rfl rfl)
theorem dX7_readsFactor_4 : decode cX7_readsFactor 4 = .ok (.bipush 91, 2) := dk_16 91 (dk_at dksX7_readsFactor_0 4 rfl rfl)
theorem dX7_readsFactor_6 : decode cX7_readsFactor 6 = .ok (.if_icmp .ne 14, 3) := dk_160 0 14 (dk_at dksX7_readsFactor_0 6 rfl rfl)
theorem dX7_readsFactor_9 : decode cX7_readsFactor 9 = .ok (.aload_n 0, 1) := dk_42 (dk_at dksX7_readsFactor_0 9 rfl rfl)
theorem dX7_readsFactor_10 : decode cX7_readsFactor 10 = .ok (.bipush 14, 2) := dk_16 14 (dk_at dksX7_readsFactor_0 10 rfl rfl)
theorem dX7_readsFactor_12 : decode cX7_readsFactor 12 = .ok (.invokevirtual 184, 3) := dk_182 0 184 (dk_at dksX7_readsFactor_0 12 rfl rfl)
theorem dX7_readsFactor_15 : decode cX7_readsFactor 15 = .ok (.ifCond .ne (-15), 3) := dk_154 255 241 (dk_at dksX7_readsFactor_0 15 rfl rfl)
theorem dX7_readsFactor_18 : decode cX7_readsFactor 18 = .ok (.iconst 0, 1) := dk_3 (dk_at dksX7_readsFactor_0 18 rfl rfl)
theorem dX7_readsFactor_19 : decode cX7_readsFactor 19 = .ok (.ireturn, 1) := dk_172 (dk_at dksX7_readsFactor_0 19 rfl rfl)
theorem dX7_readsFactor_20 : decode cX7_readsFactor 20 = .ok (.aload_n 0, 1) := dk_42 (dk_at dksX7_readsFactor_0 20 rfl rfl)
theorem dX7_readsFactor_21 : decode cX7_readsFactor 21 = .ok (.invokevirtual 163, 3) := dk_182 0 163 (dk_at dksX7_readsFactor_0 21 rfl rfl)
theorem dX7_readsFactor_24 : decode cX7_readsFactor 24 = .ok (.ifCond .eq 23, 3) := dk_153 0 23 (dk_at dksX7_readsFactor_1 0 rfl rfl)
theorem dX7_readsFactor_27 : decode cX7_readsFactor 27 = .ok (.aload_n 0, 1) := dk_42 (dk_at dksX7_readsFactor_1 3 rfl rfl)
theorem dX7_readsFactor_28 : decode cX7_readsFactor 28 = .ok (.invokevirtual 187, 3) := dk_182 0 187 (dk_at dksX7_readsFactor_1 4 rfl rfl)
theorem dX7_readsFactor_31 : decode cX7_readsFactor 31 = .ok (.ifCond .ne 5, 3) := dk_154 0 5 (dk_at dksX7_readsFactor_1 7 rfl rfl)
theorem dX7_readsFactor_34 : decode cX7_readsFactor 34 = .ok (.iconst 0, 1) := dk_3 (dk_at dksX7_readsFactor_1 10 rfl rfl)
theorem dX7_readsFactor_35 : decode cX7_readsFactor 35 = .ok (.ireturn, 1) := dk_172 (dk_at dksX7_readsFactor_1 11 rfl rfl)
theorem dX7_readsFactor_36 : decode cX7_readsFactor 36 = .ok (.aload_n 0, 1) := dk_42 (dk_at dksX7_readsFactor_1 12 rfl rfl)
theorem dX7_readsFactor_37 : decode cX7_readsFactor 37 = .ok (.iconst 0, 1) := dk_3 (dk_at dksX7_readsFactor_1 13 rfl rfl)
theorem dX7_readsFactor_38 : decode cX7_readsFactor 38 = .ok (.aload_n 0, 1) := dk_42 (dk_at dksX7_readsFactor_1 14 rfl rfl)
theorem dX7_readsFactor_39 : decode cX7_readsFactor 39 = .ok (.getfield 160, 3) := dk_180 0 160 (dk_at dksX7_readsFactor_1 15 rfl rfl)
theorem dX7_readsFactor_42 : decode cX7_readsFactor 42 = .ok (.invokevirtual 180, 3) := dk_182 0 180 (dk_at dksX7_readsFactor_1 18 rfl rfl)
theorem dX7_readsFactor_45 : decode cX7_readsFactor 45 = .ok (.iconst 1, 1) := dk_4 (dk_at dksX7_readsFactor_1 21 rfl rfl)
theorem dX7_readsFactor_46 : decode cX7_readsFactor 46 = .ok (.ireturn, 1) := dk_172 (dk_at dksX7_readsFactor_1 22 rfl rfl)
theorem dX7_readsFactor_47 : decode cX7_readsFactor 47 = .ok (.aload_n 0, 1) := dk_42 (dk_at dksX7_readsFactor_1 23 rfl rfl)
theorem dX7_readsFactor_48 : decode cX7_readsFactor 48 = .ok (.invokevirtual 150, 3) := dk_182 0 150 (dk_at dksX7_readsFactor_2 0 rfl rfl)
theorem dX7_readsFactor_51 : decode cX7_readsFactor 51 = .ok (.invokestatic 190, 3) := dk_184 0 190 (dk_at dksX7_readsFactor_2 3 rfl rfl)
theorem dX7_readsFactor_54 : decode cX7_readsFactor 54 = .ok (.istore_n 1, 1) := dk_60 (dk_at dksX7_readsFactor_2 6 rfl rfl)
theorem dX7_readsFactor_55 : decode cX7_readsFactor 55 = .ok (.iload_n 1, 1) := dk_27 (dk_at dksX7_readsFactor_2 7 rfl rfl)
theorem dX7_readsFactor_56 : decode cX7_readsFactor 56 = .ok (.iconst (-1), 1) := dk_2 (dk_at dksX7_readsFactor_2 8 rfl rfl)
theorem dX7_readsFactor_57 : decode cX7_readsFactor 57 = .ok (.if_icmp .ne 13, 3) := dk_160 0 13 (dk_at dksX7_readsFactor_2 9 rfl rfl)
theorem dX7_readsFactor_60 : decode cX7_readsFactor 60 = .ok (.aload_n 0, 1) := dk_42 (dk_at dksX7_readsFactor_2 12 rfl rfl)
theorem dX7_readsFactor_61 : decode cX7_readsFactor 61 = .ok (.iconst 1, 1) := dk_4 (dk_at dksX7_readsFactor_2 13 rfl rfl)
theorem dX7_readsFactor_62 : decode cX7_readsFactor 62 = .ok (.aload_n 0, 1) := dk_42 (dk_at dksX7_readsFactor_2 14 rfl rfl)
theorem dX7_readsFactor_63 : decode cX7_readsFactor 63 = .ok (.getfield 144, 3) := dk_180 0 144 (dk_at dksX7_readsFactor_2 15 rfl rfl)
theorem dX7_readsFactor_66 : decode cX7_readsFactor 66 = .ok (.invokevirtual 157, 3) := dk_182 0 157 (dk_at dksX7_readsFactor_2 18 rfl rfl)
theorem dX7_readsFactor_69 : decode cX7_readsFactor 69 = .ok (.ireturn, 1) := dk_172 (dk_at dksX7_readsFactor_2 21 rfl rfl)
theorem dX7_readsFactor_70 : decode cX7_readsFactor 70 = .ok (.aload_n 0, 1) := dk_42 (dk_at dksX7_readsFactor_2 22 rfl rfl)
theorem dX7_readsFactor_71 : decode cX7_readsFactor 71 = .ok (.iconst 1, 1) := dk_4 (dk_at dksX7_readsFactor_2 23 rfl rfl)
theorem dX7_readsFactor_72 : decode cX7_readsFactor 72 = .ok (.iload_n 1, 1) := dk_27 (dk_at dksX7_readsFactor_3 0 rfl rfl)
theorem dX7_readsFactor_73 : decode cX7_readsFactor 73 = .ok (.invokevirtual 180, 3) := dk_182 0 180 (dk_at dksX7_readsFactor_3 1 rfl rfl)
theorem dX7_readsFactor_76 : decode cX7_readsFactor 76 = .ok (.aload_n 0, 1) := dk_42 (dk_at dksX7_readsFactor_3 4 rfl rfl)
theorem dX7_readsFactor_77 : decode cX7_readsFactor 77 = .ok (.aload_n 0, 1) := dk_42 (dk_at dksX7_readsFactor_3 5 rfl rfl)
theorem dX7_readsFactor_78 : decode cX7_readsFactor 78 = .ok (.getfield 144, 3) := dk_180 0 144 (dk_at dksX7_readsFactor_3 6 rfl rfl)
theorem dX7_readsFactor_81 : decode cX7_readsFactor 81 = .ok (.iconst 1, 1) := dk_4 (dk_at dksX7_readsFactor_3 9 rfl rfl)
theorem dX7_readsFactor_82 : decode cX7_readsFactor 82 = .ok (.iadd, 1) := dk_96 (dk_at dksX7_readsFactor_3 10 rfl rfl)
theorem dX7_readsFactor_83 : decode cX7_readsFactor 83 = .ok (.putfield 144, 3) := dk_181 0 144 (dk_at dksX7_readsFactor_3 11 rfl rfl)
theorem dX7_readsFactor_86 : decode cX7_readsFactor 86 = .ok (.iconst 1, 1) := dk_4 (dk_at dksX7_readsFactor_3 14 rfl rfl)
theorem dX7_readsFactor_87 : decode cX7_readsFactor 87 = .ok (.ireturn, 1) := dk_172 (dk_at dksX7_readsFactor_3 15 rfl rfl)
abbrev cX7_opens : ByteArray := prog_19_method_26_code
def yX7_opens : MethodName := ⟨RX7, "opens", "(I)Z"⟩
def dkwX7_opens_2 : List UInt8 := [96, 181, 0, 174, 42, 42, 180, 0, 144, 4, 96, 181, 0, 144, 4, 172]
abbrev dktX7_opens_2 : List UInt8 := dkwX7_opens_2 ++ []
def dkwX7_opens_1 : List UInt8 := [4, 96, 181, 0, 171, 42, 180, 0, 26, 42, 180, 0, 174, 18, 170, 27, 104, 79, 42, 42, 180, 0, 174, 4]
abbrev dktX7_opens_1 : List UInt8 := dkwX7_opens_1 ++ dktX7_opens_2
def dkwX7_opens_0 : List UInt8 := [42, 180, 0, 171, 16, 6, 160, 0, 13, 42, 8, 42, 180, 0, 144, 182, 0, 157, 172, 42, 42, 180, 0, 171]
abbrev dktX7_opens_0 : List UInt8 := dkwX7_opens_0 ++ dktX7_opens_1
theorem dksX7_opens_0 : cX7_opens.data.toList.drop 0 = dktX7_opens_0 := by decide +kernel
theorem dksX7_opens_1 : cX7_opens.data.toList.drop 24 = dktX7_opens_1 := dk_seg dksX7_opens_0 24 rfl rfl
theorem dksX7_opens_2 : cX7_opens.data.toList.drop 48 = dktX7_opens_2 := dk_seg dksX7_opens_1 24 rfl rfl
theorem dX7_opens_0 : decode cX7_opens 0 = .ok (.aload_n 0, 1) := dk_42 (dk_at dksX7_opens_0 0 rfl rfl)
theorem dX7_opens_1 : decode cX7_opens 1 = .ok (.getfield 171, 3) := dk_180 0 171 (dk_at dksX7_opens_0 1 rfl rfl)
theorem dX7_opens_4 : decode cX7_opens 4 = .ok (.bipush 6, 2) := dk_16 6 (dk_at dksX7_opens_0 4 rfl rfl)
theorem dX7_opens_6 : decode cX7_opens 6 = .ok (.if_icmp .ne 13, 3) := dk_160 0 13 (dk_at dksX7_opens_0 6 rfl rfl)
theorem dX7_opens_9 : decode cX7_opens 9 = .ok (.aload_n 0, 1) := dk_42 (dk_at dksX7_opens_0 9 rfl rfl)
theorem dX7_opens_10 : decode cX7_opens 10 = .ok (.iconst 5, 1) := dk_8 (dk_at dksX7_opens_0 10 rfl rfl)
theorem dX7_opens_11 : decode cX7_opens 11 = .ok (.aload_n 0, 1) := dk_42 (dk_at dksX7_opens_0 11 rfl rfl)
theorem dX7_opens_12 : decode cX7_opens 12 = .ok (.getfield 144, 3) := dk_180 0 144 (dk_at dksX7_opens_0 12 rfl rfl)
theorem dX7_opens_15 : decode cX7_opens 15 = .ok (.invokevirtual 157, 3) := dk_182 0 157 (dk_at dksX7_opens_0 15 rfl rfl)
theorem dX7_opens_18 : decode cX7_opens 18 = .ok (.ireturn, 1) := dk_172 (dk_at dksX7_opens_0 18 rfl rfl)
theorem dX7_opens_19 : decode cX7_opens 19 = .ok (.aload_n 0, 1) := dk_42 (dk_at dksX7_opens_0 19 rfl rfl)
theorem dX7_opens_20 : decode cX7_opens 20 = .ok (.aload_n 0, 1) := dk_42 (dk_at dksX7_opens_0 20 rfl rfl)
theorem dX7_opens_21 : decode cX7_opens 21 = .ok (.getfield 171, 3) := dk_180 0 171 (dk_at dksX7_opens_0 21 rfl rfl)
theorem dX7_opens_24 : decode cX7_opens 24 = .ok (.iconst 1, 1) := dk_4 (dk_at dksX7_opens_1 0 rfl rfl)
theorem dX7_opens_25 : decode cX7_opens 25 = .ok (.iadd, 1) := dk_96 (dk_at dksX7_opens_1 1 rfl rfl)
theorem dX7_opens_26 : decode cX7_opens 26 = .ok (.putfield 171, 3) := dk_181 0 171 (dk_at dksX7_opens_1 2 rfl rfl)
theorem dX7_opens_29 : decode cX7_opens 29 = .ok (.aload_n 0, 1) := dk_42 (dk_at dksX7_opens_1 5 rfl rfl)
theorem dX7_opens_30 : decode cX7_opens 30 = .ok (.getfield 26, 3) := dk_180 0 26 (dk_at dksX7_opens_1 6 rfl rfl)
theorem dX7_opens_33 : decode cX7_opens 33 = .ok (.aload_n 0, 1) := dk_42 (dk_at dksX7_opens_1 9 rfl rfl)
theorem dX7_opens_34 : decode cX7_opens 34 = .ok (.getfield 174, 3) := dk_180 0 174 (dk_at dksX7_opens_1 10 rfl rfl)
theorem dX7_opens_37 : decode cX7_opens 37 = .ok (.ldc 170, 2) := dk_18 170 (dk_at dksX7_opens_1 13 rfl rfl)
theorem dX7_opens_39 : decode cX7_opens 39 = .ok (.iload_n 1, 1) := dk_27 (dk_at dksX7_opens_1 15 rfl rfl)
theorem dX7_opens_40 : decode cX7_opens 40 = .ok (.imul, 1) := dk_104 (dk_at dksX7_opens_1 16 rfl rfl)
theorem dX7_opens_41 : decode cX7_opens 41 = .ok (.iastore, 1) := dk_79 (dk_at dksX7_opens_1 17 rfl rfl)
theorem dX7_opens_42 : decode cX7_opens 42 = .ok (.aload_n 0, 1) := dk_42 (dk_at dksX7_opens_1 18 rfl rfl)
theorem dX7_opens_43 : decode cX7_opens 43 = .ok (.aload_n 0, 1) := dk_42 (dk_at dksX7_opens_1 19 rfl rfl)
theorem dX7_opens_44 : decode cX7_opens 44 = .ok (.getfield 174, 3) := dk_180 0 174 (dk_at dksX7_opens_1 20 rfl rfl)
theorem dX7_opens_47 : decode cX7_opens 47 = .ok (.iconst 1, 1) := dk_4 (dk_at dksX7_opens_1 23 rfl rfl)
theorem dX7_opens_48 : decode cX7_opens 48 = .ok (.iadd, 1) := dk_96 (dk_at dksX7_opens_2 0 rfl rfl)
theorem dX7_opens_49 : decode cX7_opens 49 = .ok (.putfield 174, 3) := dk_181 0 174 (dk_at dksX7_opens_2 1 rfl rfl)
theorem dX7_opens_52 : decode cX7_opens 52 = .ok (.aload_n 0, 1) := dk_42 (dk_at dksX7_opens_2 4 rfl rfl)
theorem dX7_opens_53 : decode cX7_opens 53 = .ok (.aload_n 0, 1) := dk_42 (dk_at dksX7_opens_2 5 rfl rfl)
theorem dX7_opens_54 : decode cX7_opens 54 = .ok (.getfield 144, 3) := dk_180 0 144 (dk_at dksX7_opens_2 6 rfl rfl)
theorem dX7_opens_57 : decode cX7_opens 57 = .ok (.iconst 1, 1) := dk_4 (dk_at dksX7_opens_2 9 rfl rfl)
theorem dX7_opens_58 : decode cX7_opens 58 = .ok (.iadd, 1) := dk_96 (dk_at dksX7_opens_2 10 rfl rfl)
theorem dX7_opens_59 : decode cX7_opens 59 = .ok (.putfield 144, 3) := dk_181 0 144 (dk_at dksX7_opens_2 11 rfl rfl)
theorem dX7_opens_62 : decode cX7_opens 62 = .ok (.iconst 1, 1) := dk_4 (dk_at dksX7_opens_2 14 rfl rfl)
theorem dX7_opens_63 : decode cX7_opens 63 = .ok (.ireturn, 1) := dk_172 (dk_at dksX7_opens_2 15 rfl rfl)
abbrev cX7_isDigit : ByteArray := prog_19_method_21_code
def yX7_isDigit : MethodName := ⟨RX7, "isDigit", "()Z"⟩
def dkwX7_isDigit_0 : List UInt8 := [42, 182, 0, 150, 16, 48, 161, 0, 16, 42, 182, 0, 150, 16, 57, 163, 0, 7, 4, 167, 0, 4, 3, 172]
abbrev dktX7_isDigit_0 : List UInt8 := dkwX7_isDigit_0 ++ []
theorem dksX7_isDigit_0 : cX7_isDigit.data.toList.drop 0 = dktX7_isDigit_0 := by decide +kernel
theorem dX7_isDigit_0 : decode cX7_isDigit 0 = .ok (.aload_n 0, 1) := dk_42 (dk_at dksX7_isDigit_0 0 rfl rfl)
theorem dX7_isDigit_1 : decode cX7_isDigit 1 = .ok (.invokevirtual 150, 3) := dk_182 0 150 (dk_at dksX7_isDigit_0 1 rfl rfl)
theorem dX7_isDigit_4 : decode cX7_isDigit 4 = .ok (.bipush 48, 2) := dk_16 48 (dk_at dksX7_isDigit_0 4 rfl rfl)
theorem dX7_isDigit_6 : decode cX7_isDigit 6 = .ok (.if_icmp .lt 16, 3) := dk_161 0 16 (dk_at dksX7_isDigit_0 6 rfl rfl)
theorem dX7_isDigit_9 : decode cX7_isDigit 9 = .ok (.aload_n 0, 1) := dk_42 (dk_at dksX7_isDigit_0 9 rfl rfl)
theorem dX7_isDigit_10 : decode cX7_isDigit 10 = .ok (.invokevirtual 150, 3) := dk_182 0 150 (dk_at dksX7_isDigit_0 10 rfl rfl)
theorem dX7_isDigit_13 : decode cX7_isDigit 13 = .ok (.bipush 57, 2) := dk_16 57 (dk_at dksX7_isDigit_0 13 rfl rfl)
theorem dX7_isDigit_15 : decode cX7_isDigit 15 = .ok (.if_icmp .gt 7, 3) := dk_163 0 7 (dk_at dksX7_isDigit_0 15 rfl rfl)
theorem dX7_isDigit_18 : decode cX7_isDigit 18 = .ok (.iconst 1, 1) := dk_4 (dk_at dksX7_isDigit_0 18 rfl rfl)
theorem dX7_isDigit_19 : decode cX7_isDigit 19 = .ok (.goto 4, 3) := dk_167 0 4 (dk_at dksX7_isDigit_0 19 rfl rfl)
theorem dX7_isDigit_22 : decode cX7_isDigit 22 = .ok (.iconst 0, 1) := dk_3 (dk_at dksX7_isDigit_0 22 rfl rfl)
theorem dX7_isDigit_23 : decode cX7_isDigit 23 = .ok (.ireturn, 1) := dk_172 (dk_at dksX7_isDigit_0 23 rfl rfl)
abbrev cX7_readsNumber : ByteArray := prog_19_method_24_code
def yX7_readsNumber : MethodName := ⟨RX7, "readsNumber", "()Z"⟩
def dkwX7_readsNumber_3 : List UInt8 := [172]
abbrev dktX7_readsNumber_3 : List UInt8 := dkwX7_readsNumber_3 ++ []
def dkwX7_readsNumber_2 : List UInt8 := [182, 0, 150, 96, 16, 48, 100, 181, 0, 160, 42, 42, 180, 0, 144, 4, 96, 181, 0, 144, 167, 255, 200, 4]
abbrev dktX7_readsNumber_2 : List UInt8 := dkwX7_readsNumber_2 ++ dktX7_readsNumber_3
def dkwX7_readsNumber_1 : List UInt8 := [160, 0, 13, 42, 5, 42, 180, 0, 144, 182, 0, 157, 172, 42, 16, 10, 42, 180, 0, 160, 104, 42]
abbrev dktX7_readsNumber_1 : List UInt8 := dkwX7_readsNumber_1 ++ dktX7_readsNumber_2
def dkwX7_readsNumber_0 : List UInt8 := [42, 180, 0, 144, 60, 42, 3, 181, 0, 160, 42, 182, 0, 163, 153, 0, 55, 42, 180, 0, 144, 27, 8, 96]
abbrev dktX7_readsNumber_0 : List UInt8 := dkwX7_readsNumber_0 ++ dktX7_readsNumber_1
theorem dksX7_readsNumber_0 : cX7_readsNumber.data.toList.drop 0 = dktX7_readsNumber_0 := by decide +kernel
theorem dksX7_readsNumber_1 : cX7_readsNumber.data.toList.drop 24 = dktX7_readsNumber_1 := dk_seg dksX7_readsNumber_0 24 rfl rfl
theorem dksX7_readsNumber_2 : cX7_readsNumber.data.toList.drop 46 = dktX7_readsNumber_2 := dk_seg dksX7_readsNumber_1 22 rfl rfl
theorem dksX7_readsNumber_3 : cX7_readsNumber.data.toList.drop 70 = dktX7_readsNumber_3 := dk_seg dksX7_readsNumber_2 24 rfl rfl
theorem dX7_readsNumber_0 : decode cX7_readsNumber 0 = .ok (.aload_n 0, 1) := dk_42 (dk_at dksX7_readsNumber_0 0 rfl rfl)
theorem dX7_readsNumber_1 : decode cX7_readsNumber 1 = .ok (.getfield 144, 3) := dk_180 0 144 (dk_at dksX7_readsNumber_0 1 rfl rfl)
theorem dX7_readsNumber_4 : decode cX7_readsNumber 4 = .ok (.istore_n 1, 1) := dk_60 (dk_at dksX7_readsNumber_0 4 rfl rfl)
theorem dX7_readsNumber_5 : decode cX7_readsNumber 5 = .ok (.aload_n 0, 1) := dk_42 (dk_at dksX7_readsNumber_0 5 rfl rfl)
theorem dX7_readsNumber_6 : decode cX7_readsNumber 6 = .ok (.iconst 0, 1) := dk_3 (dk_at dksX7_readsNumber_0 6 rfl rfl)
theorem dX7_readsNumber_7 : decode cX7_readsNumber 7 = .ok (.putfield 160, 3) := dk_181 0 160 (dk_at dksX7_readsNumber_0 7 rfl rfl)
theorem dX7_readsNumber_10 : decode cX7_readsNumber 10 = .ok (.aload_n 0, 1) := dk_42 (dk_at dksX7_readsNumber_0 10 rfl rfl)
theorem dX7_readsNumber_11 : decode cX7_readsNumber 11 = .ok (.invokevirtual 163, 3) := dk_182 0 163 (dk_at dksX7_readsNumber_0 11 rfl rfl)
theorem dX7_readsNumber_14 : decode cX7_readsNumber 14 = .ok (.ifCond .eq 55, 3) := dk_153 0 55 (dk_at dksX7_readsNumber_0 14 rfl rfl)
theorem dX7_readsNumber_17 : decode cX7_readsNumber 17 = .ok (.aload_n 0, 1) := dk_42 (dk_at dksX7_readsNumber_0 17 rfl rfl)
theorem dX7_readsNumber_18 : decode cX7_readsNumber 18 = .ok (.getfield 144, 3) := dk_180 0 144 (dk_at dksX7_readsNumber_0 18 rfl rfl)
theorem dX7_readsNumber_21 : decode cX7_readsNumber 21 = .ok (.iload_n 1, 1) := dk_27 (dk_at dksX7_readsNumber_0 21 rfl rfl)
theorem dX7_readsNumber_22 : decode cX7_readsNumber 22 = .ok (.iconst 5, 1) := dk_8 (dk_at dksX7_readsNumber_0 22 rfl rfl)
theorem dX7_readsNumber_23 : decode cX7_readsNumber 23 = .ok (.iadd, 1) := dk_96 (dk_at dksX7_readsNumber_0 23 rfl rfl)
theorem dX7_readsNumber_24 : decode cX7_readsNumber 24 = .ok (.if_icmp .ne 13, 3) := dk_160 0 13 (dk_at dksX7_readsNumber_1 0 rfl rfl)
theorem dX7_readsNumber_27 : decode cX7_readsNumber 27 = .ok (.aload_n 0, 1) := dk_42 (dk_at dksX7_readsNumber_1 3 rfl rfl)
theorem dX7_readsNumber_28 : decode cX7_readsNumber 28 = .ok (.iconst 2, 1) := dk_5 (dk_at dksX7_readsNumber_1 4 rfl rfl)
theorem dX7_readsNumber_29 : decode cX7_readsNumber 29 = .ok (.aload_n 0, 1) := dk_42 (dk_at dksX7_readsNumber_1 5 rfl rfl)
theorem dX7_readsNumber_30 : decode cX7_readsNumber 30 = .ok (.getfield 144, 3) := dk_180 0 144 (dk_at dksX7_readsNumber_1 6 rfl rfl)
theorem dX7_readsNumber_33 : decode cX7_readsNumber 33 = .ok (.invokevirtual 157, 3) := dk_182 0 157 (dk_at dksX7_readsNumber_1 9 rfl rfl)
theorem dX7_readsNumber_36 : decode cX7_readsNumber 36 = .ok (.ireturn, 1) := dk_172 (dk_at dksX7_readsNumber_1 12 rfl rfl)
theorem dX7_readsNumber_37 : decode cX7_readsNumber 37 = .ok (.aload_n 0, 1) := dk_42 (dk_at dksX7_readsNumber_1 13 rfl rfl)
theorem dX7_readsNumber_38 : decode cX7_readsNumber 38 = .ok (.bipush 10, 2) := dk_16 10 (dk_at dksX7_readsNumber_1 14 rfl rfl)
theorem dX7_readsNumber_40 : decode cX7_readsNumber 40 = .ok (.aload_n 0, 1) := dk_42 (dk_at dksX7_readsNumber_1 16 rfl rfl)
theorem dX7_readsNumber_41 : decode cX7_readsNumber 41 = .ok (.getfield 160, 3) := dk_180 0 160 (dk_at dksX7_readsNumber_1 17 rfl rfl)
theorem dX7_readsNumber_44 : decode cX7_readsNumber 44 = .ok (.imul, 1) := dk_104 (dk_at dksX7_readsNumber_1 20 rfl rfl)
theorem dX7_readsNumber_45 : decode cX7_readsNumber 45 = .ok (.aload_n 0, 1) := dk_42 (dk_at dksX7_readsNumber_1 21 rfl rfl)
theorem dX7_readsNumber_46 : decode cX7_readsNumber 46 = .ok (.invokevirtual 150, 3) := dk_182 0 150 (dk_at dksX7_readsNumber_2 0 rfl rfl)
theorem dX7_readsNumber_49 : decode cX7_readsNumber 49 = .ok (.iadd, 1) := dk_96 (dk_at dksX7_readsNumber_2 3 rfl rfl)
theorem dX7_readsNumber_50 : decode cX7_readsNumber 50 = .ok (.bipush 48, 2) := dk_16 48 (dk_at dksX7_readsNumber_2 4 rfl rfl)
theorem dX7_readsNumber_52 : decode cX7_readsNumber 52 = .ok (.isub, 1) := dk_100 (dk_at dksX7_readsNumber_2 6 rfl rfl)
theorem dX7_readsNumber_53 : decode cX7_readsNumber 53 = .ok (.putfield 160, 3) := dk_181 0 160 (dk_at dksX7_readsNumber_2 7 rfl rfl)
theorem dX7_readsNumber_56 : decode cX7_readsNumber 56 = .ok (.aload_n 0, 1) := dk_42 (dk_at dksX7_readsNumber_2 10 rfl rfl)
theorem dX7_readsNumber_57 : decode cX7_readsNumber 57 = .ok (.aload_n 0, 1) := dk_42 (dk_at dksX7_readsNumber_2 11 rfl rfl)
theorem dX7_readsNumber_58 : decode cX7_readsNumber 58 = .ok (.getfield 144, 3) := dk_180 0 144 (dk_at dksX7_readsNumber_2 12 rfl rfl)
theorem dX7_readsNumber_61 : decode cX7_readsNumber 61 = .ok (.iconst 1, 1) := dk_4 (dk_at dksX7_readsNumber_2 15 rfl rfl)
theorem dX7_readsNumber_62 : decode cX7_readsNumber 62 = .ok (.iadd, 1) := dk_96 (dk_at dksX7_readsNumber_2 16 rfl rfl)
theorem dX7_readsNumber_63 : decode cX7_readsNumber 63 = .ok (.putfield 144, 3) := dk_181 0 144 (dk_at dksX7_readsNumber_2 17 rfl rfl)
theorem dX7_readsNumber_66 : decode cX7_readsNumber 66 = .ok (.goto (-56), 3) := dk_167 255 200 (dk_at dksX7_readsNumber_2 20 rfl rfl)
theorem dX7_readsNumber_69 : decode cX7_readsNumber 69 = .ok (.iconst 1, 1) := dk_4 (dk_at dksX7_readsNumber_2 23 rfl rfl)
theorem dX7_readsNumber_70 : decode cX7_readsNumber 70 = .ok (.ireturn, 1) := dk_172 (dk_at dksX7_readsNumber_3 0 rfl rfl)
abbrev cX7_notes : ByteArray := prog_19_method_25_code
def yX7_notes : MethodName := ⟨RX7, "notes", "(II)V"⟩
def dkwX7_notes_1 : List UInt8 := [181, 0, 167, 177]
abbrev dktX7_notes_1 : List UInt8 := dkwX7_notes_1 ++ []
def dkwX7_notes_0 : List UInt8 := [42, 180, 0, 23, 42, 180, 0, 167, 18, 170, 27, 104, 28, 96, 79, 42, 42, 180, 0, 167, 4, 96]
abbrev dktX7_notes_0 : List UInt8 := dkwX7_notes_0 ++ dktX7_notes_1
theorem dksX7_notes_0 : cX7_notes.data.toList.drop 0 = dktX7_notes_0 := by decide +kernel
theorem dksX7_notes_1 : cX7_notes.data.toList.drop 22 = dktX7_notes_1 := dk_seg dksX7_notes_0 22 rfl rfl
theorem dX7_notes_0 : decode cX7_notes 0 = .ok (.aload_n 0, 1) := dk_42 (dk_at dksX7_notes_0 0 rfl rfl)
theorem dX7_notes_1 : decode cX7_notes 1 = .ok (.getfield 23, 3) := dk_180 0 23 (dk_at dksX7_notes_0 1 rfl rfl)
theorem dX7_notes_4 : decode cX7_notes 4 = .ok (.aload_n 0, 1) := dk_42 (dk_at dksX7_notes_0 4 rfl rfl)
theorem dX7_notes_5 : decode cX7_notes 5 = .ok (.getfield 167, 3) := dk_180 0 167 (dk_at dksX7_notes_0 5 rfl rfl)
theorem dX7_notes_8 : decode cX7_notes 8 = .ok (.ldc 170, 2) := dk_18 170 (dk_at dksX7_notes_0 8 rfl rfl)
theorem dX7_notes_10 : decode cX7_notes 10 = .ok (.iload_n 1, 1) := dk_27 (dk_at dksX7_notes_0 10 rfl rfl)
theorem dX7_notes_11 : decode cX7_notes 11 = .ok (.imul, 1) := dk_104 (dk_at dksX7_notes_0 11 rfl rfl)
theorem dX7_notes_12 : decode cX7_notes 12 = .ok (.iload_n 2, 1) := dk_28 (dk_at dksX7_notes_0 12 rfl rfl)
theorem dX7_notes_13 : decode cX7_notes 13 = .ok (.iadd, 1) := dk_96 (dk_at dksX7_notes_0 13 rfl rfl)
theorem dX7_notes_14 : decode cX7_notes 14 = .ok (.iastore, 1) := dk_79 (dk_at dksX7_notes_0 14 rfl rfl)
theorem dX7_notes_15 : decode cX7_notes 15 = .ok (.aload_n 0, 1) := dk_42 (dk_at dksX7_notes_0 15 rfl rfl)
theorem dX7_notes_16 : decode cX7_notes 16 = .ok (.aload_n 0, 1) := dk_42 (dk_at dksX7_notes_0 16 rfl rfl)
theorem dX7_notes_17 : decode cX7_notes 17 = .ok (.getfield 167, 3) := dk_180 0 167 (dk_at dksX7_notes_0 17 rfl rfl)
theorem dX7_notes_20 : decode cX7_notes 20 = .ok (.iconst 1, 1) := dk_4 (dk_at dksX7_notes_0 20 rfl rfl)
theorem dX7_notes_21 : decode cX7_notes 21 = .ok (.iadd, 1) := dk_96 (dk_at dksX7_notes_0 21 rfl rfl)
theorem dX7_notes_22 : decode cX7_notes 22 = .ok (.putfield 167, 3) := dk_181 0 167 (dk_at dksX7_notes_1 0 rfl rfl)
theorem dX7_notes_25 : decode cX7_notes 25 = .ok (.return_, 1) := dk_177 (dk_at dksX7_notes_1 3 rfl rfl)
abbrev cX7_factOf : ByteArray := prog_19_method_28_code
def yX7_factOf : MethodName := ⟨RX7, "factOf", "(I)I"⟩
def dkwX7_factOf_3 : List UInt8 := [16, 10, 172, 16, 11, 172, 16, 12, 172, 2, 172]
abbrev dktX7_factOf_3 : List UInt8 := dkwX7_factOf_3 ++ []
def dkwX7_factOf_2 : List UInt8 := [3, 172, 4, 172, 5, 172, 6, 172, 7, 172, 8, 172, 16, 6, 172, 16, 7, 172, 16, 8, 172, 16, 9, 172]
abbrev dktX7_factOf_2 : List UInt8 := dkwX7_factOf_2 ++ dktX7_factOf_3
def dkwX7_factOf_1 : List UInt8 := [170, 0, 0, 0, 0, 0, 152, 0, 0, 0, 97, 0, 0, 0, 122, 0, 0, 0, 146, 0, 0, 0, 152, 0, 0, 0, 152, 0, 0, 0, 119, 0, 0, 0, 152, 0, 0, 0, 127, 0, 0, 0, 152, 0, 0, 0, 152, 0, 0, 0, 152, 0, 0, 0, 152, 0, 0, 0, 152, 0, 0, 0, 123, 0, 0, 0, 152, 0, 0, 0, 143, 0, 0, 0, 125, 0, 0, 0, 137, 0, 0, 0, 149, 0, 0, 0, 152, 0, 0, 0, 129, 0, 0, 0, 140, 0, 0, 0, 152, 0, 0, 0, 152, 0, 0, 0, 121, 0, 0, 0, 152, 0, 0, 0, 131, 0, 0, 0, 134]
abbrev dktX7_factOf_1 : List UInt8 := dkwX7_factOf_1 ++ dktX7_factOf_2
def dkwX7_factOf_0 : List UInt8 := [26]
abbrev dktX7_factOf_0 : List UInt8 := dkwX7_factOf_0 ++ dktX7_factOf_1
theorem dksX7_factOf_0 : cX7_factOf.data.toList.drop 0 = dktX7_factOf_0 := by decide +kernel
theorem dksX7_factOf_1 : cX7_factOf.data.toList.drop 1 = dktX7_factOf_1 := dk_seg dksX7_factOf_0 1 rfl rfl
theorem dksX7_factOf_2 : cX7_factOf.data.toList.drop 120 = dktX7_factOf_2 := dk_seg dksX7_factOf_1 119 rfl rfl
theorem dksX7_factOf_3 : cX7_factOf.data.toList.drop 144 = dktX7_factOf_3 := dk_seg dksX7_factOf_2 24 rfl rfl
theorem dX7_factOf_0 : decode cX7_factOf 0 = .ok (.iload_n 0, 1) := dk_26 (dk_at dksX7_factOf_0 0 rfl rfl)
theorem dX7_factOf_1 : decode cX7_factOf 1 = .ok (.tableswitch 152 97 122 #[146, 152, 152, 119, 152, 127, 152, 152, 152, 152, 152, 123, 152, 143, 125, 137, 149, 152, 129, 140, 152, 152, 121, 152, 131, 134], 119) := by decide +kernel
theorem dX7_factOf_120 : decode cX7_factOf 120 = .ok (.iconst 0, 1) := dk_3 (dk_at dksX7_factOf_2 0 rfl rfl)
theorem dX7_factOf_121 : decode cX7_factOf 121 = .ok (.ireturn, 1) := dk_172 (dk_at dksX7_factOf_2 1 rfl rfl)
theorem dX7_factOf_122 : decode cX7_factOf 122 = .ok (.iconst 1, 1) := dk_4 (dk_at dksX7_factOf_2 2 rfl rfl)
theorem dX7_factOf_123 : decode cX7_factOf 123 = .ok (.ireturn, 1) := dk_172 (dk_at dksX7_factOf_2 3 rfl rfl)
theorem dX7_factOf_124 : decode cX7_factOf 124 = .ok (.iconst 2, 1) := dk_5 (dk_at dksX7_factOf_2 4 rfl rfl)
theorem dX7_factOf_125 : decode cX7_factOf 125 = .ok (.ireturn, 1) := dk_172 (dk_at dksX7_factOf_2 5 rfl rfl)
theorem dX7_factOf_126 : decode cX7_factOf 126 = .ok (.iconst 3, 1) := dk_6 (dk_at dksX7_factOf_2 6 rfl rfl)
theorem dX7_factOf_127 : decode cX7_factOf 127 = .ok (.ireturn, 1) := dk_172 (dk_at dksX7_factOf_2 7 rfl rfl)
theorem dX7_factOf_128 : decode cX7_factOf 128 = .ok (.iconst 4, 1) := dk_7 (dk_at dksX7_factOf_2 8 rfl rfl)
theorem dX7_factOf_129 : decode cX7_factOf 129 = .ok (.ireturn, 1) := dk_172 (dk_at dksX7_factOf_2 9 rfl rfl)
theorem dX7_factOf_130 : decode cX7_factOf 130 = .ok (.iconst 5, 1) := dk_8 (dk_at dksX7_factOf_2 10 rfl rfl)
theorem dX7_factOf_131 : decode cX7_factOf 131 = .ok (.ireturn, 1) := dk_172 (dk_at dksX7_factOf_2 11 rfl rfl)
theorem dX7_factOf_132 : decode cX7_factOf 132 = .ok (.bipush 6, 2) := dk_16 6 (dk_at dksX7_factOf_2 12 rfl rfl)
theorem dX7_factOf_134 : decode cX7_factOf 134 = .ok (.ireturn, 1) := dk_172 (dk_at dksX7_factOf_2 14 rfl rfl)
theorem dX7_factOf_135 : decode cX7_factOf 135 = .ok (.bipush 7, 2) := dk_16 7 (dk_at dksX7_factOf_2 15 rfl rfl)
theorem dX7_factOf_137 : decode cX7_factOf 137 = .ok (.ireturn, 1) := dk_172 (dk_at dksX7_factOf_2 17 rfl rfl)
theorem dX7_factOf_138 : decode cX7_factOf 138 = .ok (.bipush 8, 2) := dk_16 8 (dk_at dksX7_factOf_2 18 rfl rfl)
theorem dX7_factOf_140 : decode cX7_factOf 140 = .ok (.ireturn, 1) := dk_172 (dk_at dksX7_factOf_2 20 rfl rfl)
theorem dX7_factOf_141 : decode cX7_factOf 141 = .ok (.bipush 9, 2) := dk_16 9 (dk_at dksX7_factOf_2 21 rfl rfl)
theorem dX7_factOf_143 : decode cX7_factOf 143 = .ok (.ireturn, 1) := dk_172 (dk_at dksX7_factOf_2 23 rfl rfl)
theorem dX7_factOf_144 : decode cX7_factOf 144 = .ok (.bipush 10, 2) := dk_16 10 (dk_at dksX7_factOf_3 0 rfl rfl)
theorem dX7_factOf_146 : decode cX7_factOf 146 = .ok (.ireturn, 1) := dk_172 (dk_at dksX7_factOf_3 2 rfl rfl)
theorem dX7_factOf_147 : decode cX7_factOf 147 = .ok (.bipush 11, 2) := dk_16 11 (dk_at dksX7_factOf_3 3 rfl rfl)
theorem dX7_factOf_149 : decode cX7_factOf 149 = .ok (.ireturn, 1) := dk_172 (dk_at dksX7_factOf_3 5 rfl rfl)
theorem dX7_factOf_150 : decode cX7_factOf 150 = .ok (.bipush 12, 2) := dk_16 12 (dk_at dksX7_factOf_3 6 rfl rfl)
theorem dX7_factOf_152 : decode cX7_factOf 152 = .ok (.ireturn, 1) := dk_172 (dk_at dksX7_factOf_3 8 rfl rfl)
theorem dX7_factOf_153 : decode cX7_factOf 153 = .ok (.iconst (-1), 1) := dk_2 (dk_at dksX7_factOf_3 9 rfl rfl)
theorem dX7_factOf_154 : decode cX7_factOf 154 = .ok (.ireturn, 1) := dk_172 (dk_at dksX7_factOf_3 10 rfl rfl)
abbrev cX7_sumSign : ByteArray := prog_19_method_29_code
def yX7_sumSign : MethodName := ⟨RX7, "sumSign", "(I)I"⟩
def dkwX7_sumSign_2 : List UInt8 := [16, 6, 167, 0, 4, 2, 172]
abbrev dktX7_sumSign_2 : List UInt8 := dkwX7_sumSign_2 ++ []
def dkwX7_sumSign_1 : List UInt8 := [160, 0, 7, 7, 167, 0, 25, 26, 16, 47, 160, 0, 7, 8, 167, 0, 15, 26, 16, 37, 160, 0, 8]
abbrev dktX7_sumSign_1 : List UInt8 := dkwX7_sumSign_1 ++ dktX7_sumSign_2
def dkwX7_sumSign_0 : List UInt8 := [26, 16, 43, 160, 0, 7, 5, 167, 0, 45, 26, 16, 45, 160, 0, 7, 6, 167, 0, 35, 26, 16, 42]
abbrev dktX7_sumSign_0 : List UInt8 := dkwX7_sumSign_0 ++ dktX7_sumSign_1
theorem dksX7_sumSign_0 : cX7_sumSign.data.toList.drop 0 = dktX7_sumSign_0 := by decide +kernel
theorem dksX7_sumSign_1 : cX7_sumSign.data.toList.drop 23 = dktX7_sumSign_1 := dk_seg dksX7_sumSign_0 23 rfl rfl
theorem dksX7_sumSign_2 : cX7_sumSign.data.toList.drop 46 = dktX7_sumSign_2 := dk_seg dksX7_sumSign_1 23 rfl rfl
theorem dX7_sumSign_0 : decode cX7_sumSign 0 = .ok (.iload_n 0, 1) := dk_26 (dk_at dksX7_sumSign_0 0 rfl rfl)
theorem dX7_sumSign_1 : decode cX7_sumSign 1 = .ok (.bipush 43, 2) := dk_16 43 (dk_at dksX7_sumSign_0 1 rfl rfl)
theorem dX7_sumSign_3 : decode cX7_sumSign 3 = .ok (.if_icmp .ne 7, 3) := dk_160 0 7 (dk_at dksX7_sumSign_0 3 rfl rfl)
theorem dX7_sumSign_6 : decode cX7_sumSign 6 = .ok (.iconst 2, 1) := dk_5 (dk_at dksX7_sumSign_0 6 rfl rfl)
theorem dX7_sumSign_7 : decode cX7_sumSign 7 = .ok (.goto 45, 3) := dk_167 0 45 (dk_at dksX7_sumSign_0 7 rfl rfl)
theorem dX7_sumSign_10 : decode cX7_sumSign 10 = .ok (.iload_n 0, 1) := dk_26 (dk_at dksX7_sumSign_0 10 rfl rfl)
theorem dX7_sumSign_11 : decode cX7_sumSign 11 = .ok (.bipush 45, 2) := dk_16 45 (dk_at dksX7_sumSign_0 11 rfl rfl)
theorem dX7_sumSign_13 : decode cX7_sumSign 13 = .ok (.if_icmp .ne 7, 3) := dk_160 0 7 (dk_at dksX7_sumSign_0 13 rfl rfl)
theorem dX7_sumSign_16 : decode cX7_sumSign 16 = .ok (.iconst 3, 1) := dk_6 (dk_at dksX7_sumSign_0 16 rfl rfl)
theorem dX7_sumSign_17 : decode cX7_sumSign 17 = .ok (.goto 35, 3) := dk_167 0 35 (dk_at dksX7_sumSign_0 17 rfl rfl)
theorem dX7_sumSign_20 : decode cX7_sumSign 20 = .ok (.iload_n 0, 1) := dk_26 (dk_at dksX7_sumSign_0 20 rfl rfl)
theorem dX7_sumSign_21 : decode cX7_sumSign 21 = .ok (.bipush 42, 2) := dk_16 42 (dk_at dksX7_sumSign_0 21 rfl rfl)
theorem dX7_sumSign_23 : decode cX7_sumSign 23 = .ok (.if_icmp .ne 7, 3) := dk_160 0 7 (dk_at dksX7_sumSign_1 0 rfl rfl)
theorem dX7_sumSign_26 : decode cX7_sumSign 26 = .ok (.iconst 4, 1) := dk_7 (dk_at dksX7_sumSign_1 3 rfl rfl)
theorem dX7_sumSign_27 : decode cX7_sumSign 27 = .ok (.goto 25, 3) := dk_167 0 25 (dk_at dksX7_sumSign_1 4 rfl rfl)
theorem dX7_sumSign_30 : decode cX7_sumSign 30 = .ok (.iload_n 0, 1) := dk_26 (dk_at dksX7_sumSign_1 7 rfl rfl)
theorem dX7_sumSign_31 : decode cX7_sumSign 31 = .ok (.bipush 47, 2) := dk_16 47 (dk_at dksX7_sumSign_1 8 rfl rfl)
theorem dX7_sumSign_33 : decode cX7_sumSign 33 = .ok (.if_icmp .ne 7, 3) := dk_160 0 7 (dk_at dksX7_sumSign_1 10 rfl rfl)
theorem dX7_sumSign_36 : decode cX7_sumSign 36 = .ok (.iconst 5, 1) := dk_8 (dk_at dksX7_sumSign_1 13 rfl rfl)
theorem dX7_sumSign_37 : decode cX7_sumSign 37 = .ok (.goto 15, 3) := dk_167 0 15 (dk_at dksX7_sumSign_1 14 rfl rfl)
theorem dX7_sumSign_40 : decode cX7_sumSign 40 = .ok (.iload_n 0, 1) := dk_26 (dk_at dksX7_sumSign_1 17 rfl rfl)
theorem dX7_sumSign_41 : decode cX7_sumSign 41 = .ok (.bipush 37, 2) := dk_16 37 (dk_at dksX7_sumSign_1 18 rfl rfl)
theorem dX7_sumSign_43 : decode cX7_sumSign 43 = .ok (.if_icmp .ne 8, 3) := dk_160 0 8 (dk_at dksX7_sumSign_1 20 rfl rfl)
theorem dX7_sumSign_46 : decode cX7_sumSign 46 = .ok (.bipush 6, 2) := dk_16 6 (dk_at dksX7_sumSign_2 0 rfl rfl)
theorem dX7_sumSign_48 : decode cX7_sumSign 48 = .ok (.goto 4, 3) := dk_167 0 4 (dk_at dksX7_sumSign_2 2 rfl rfl)
theorem dX7_sumSign_51 : decode cX7_sumSign 51 = .ok (.iconst (-1), 1) := dk_2 (dk_at dksX7_sumSign_2 5 rfl rfl)
theorem dX7_sumSign_52 : decode cX7_sumSign 52 = .ok (.ireturn, 1) := dk_172 (dk_at dksX7_sumSign_2 6 rfl rfl)
abbrev cX7_closesSums : ByteArray := prog_19_method_30_code
def yX7_closesSums : MethodName := ⟨RX7, "closesSums", "(Z)V"⟩
def dkwX7_closesSums_2 : List UInt8 := [42, 42, 180, 0, 174, 4, 100, 181, 0, 174, 167, 255, 200, 177]
abbrev dktX7_closesSums_2 : List UInt8 := dkwX7_closesSums_2 ++ []
def dkwX7_closesSums_1 : List UInt8 := [182, 0, 177, 5, 159, 0, 11, 42, 182, 0, 177, 6, 160, 0, 25, 42, 42, 182, 0, 177, 3, 182, 0, 180]
abbrev dktX7_closesSums_1 : List UInt8 := dkwX7_closesSums_1 ++ dktX7_closesSums_2
def dkwX7_closesSums_0 : List UInt8 := [42, 182, 0, 177, 7, 161, 0, 12, 42, 182, 0, 177, 16, 6, 164, 0, 23, 27, 153, 0, 41, 42]
abbrev dktX7_closesSums_0 : List UInt8 := dkwX7_closesSums_0 ++ dktX7_closesSums_1
theorem dksX7_closesSums_0 : cX7_closesSums.data.toList.drop 0 = dktX7_closesSums_0 := by decide +kernel
theorem dksX7_closesSums_1 : cX7_closesSums.data.toList.drop 22 = dktX7_closesSums_1 := dk_seg dksX7_closesSums_0 22 rfl rfl
theorem dksX7_closesSums_2 : cX7_closesSums.data.toList.drop 46 = dktX7_closesSums_2 := dk_seg dksX7_closesSums_1 24 rfl rfl
theorem dX7_closesSums_0 : decode cX7_closesSums 0 = .ok (.aload_n 0, 1) := dk_42 (dk_at dksX7_closesSums_0 0 rfl rfl)
theorem dX7_closesSums_1 : decode cX7_closesSums 1 = .ok (.invokevirtual 177, 3) := dk_182 0 177 (dk_at dksX7_closesSums_0 1 rfl rfl)
theorem dX7_closesSums_4 : decode cX7_closesSums 4 = .ok (.iconst 4, 1) := dk_7 (dk_at dksX7_closesSums_0 4 rfl rfl)
theorem dX7_closesSums_5 : decode cX7_closesSums 5 = .ok (.if_icmp .lt 12, 3) := dk_161 0 12 (dk_at dksX7_closesSums_0 5 rfl rfl)
theorem dX7_closesSums_8 : decode cX7_closesSums 8 = .ok (.aload_n 0, 1) := dk_42 (dk_at dksX7_closesSums_0 8 rfl rfl)
theorem dX7_closesSums_9 : decode cX7_closesSums 9 = .ok (.invokevirtual 177, 3) := dk_182 0 177 (dk_at dksX7_closesSums_0 9 rfl rfl)
theorem dX7_closesSums_12 : decode cX7_closesSums 12 = .ok (.bipush 6, 2) := dk_16 6 (dk_at dksX7_closesSums_0 12 rfl rfl)
theorem dX7_closesSums_14 : decode cX7_closesSums 14 = .ok (.if_icmp .le 23, 3) := dk_164 0 23 (dk_at dksX7_closesSums_0 14 rfl rfl)
theorem dX7_closesSums_17 : decode cX7_closesSums 17 = .ok (.iload_n 1, 1) := dk_27 (dk_at dksX7_closesSums_0 17 rfl rfl)
theorem dX7_closesSums_18 : decode cX7_closesSums 18 = .ok (.ifCond .eq 41, 3) := dk_153 0 41 (dk_at dksX7_closesSums_0 18 rfl rfl)
theorem dX7_closesSums_21 : decode cX7_closesSums 21 = .ok (.aload_n 0, 1) := dk_42 (dk_at dksX7_closesSums_0 21 rfl rfl)
theorem dX7_closesSums_22 : decode cX7_closesSums 22 = .ok (.invokevirtual 177, 3) := dk_182 0 177 (dk_at dksX7_closesSums_1 0 rfl rfl)
theorem dX7_closesSums_25 : decode cX7_closesSums 25 = .ok (.iconst 2, 1) := dk_5 (dk_at dksX7_closesSums_1 3 rfl rfl)
theorem dX7_closesSums_26 : decode cX7_closesSums 26 = .ok (.if_icmp .eq 11, 3) := dk_159 0 11 (dk_at dksX7_closesSums_1 4 rfl rfl)
theorem dX7_closesSums_29 : decode cX7_closesSums 29 = .ok (.aload_n 0, 1) := dk_42 (dk_at dksX7_closesSums_1 7 rfl rfl)
theorem dX7_closesSums_30 : decode cX7_closesSums 30 = .ok (.invokevirtual 177, 3) := dk_182 0 177 (dk_at dksX7_closesSums_1 8 rfl rfl)
theorem dX7_closesSums_33 : decode cX7_closesSums 33 = .ok (.iconst 3, 1) := dk_6 (dk_at dksX7_closesSums_1 11 rfl rfl)
theorem dX7_closesSums_34 : decode cX7_closesSums 34 = .ok (.if_icmp .ne 25, 3) := dk_160 0 25 (dk_at dksX7_closesSums_1 12 rfl rfl)
theorem dX7_closesSums_37 : decode cX7_closesSums 37 = .ok (.aload_n 0, 1) := dk_42 (dk_at dksX7_closesSums_1 15 rfl rfl)
theorem dX7_closesSums_38 : decode cX7_closesSums 38 = .ok (.aload_n 0, 1) := dk_42 (dk_at dksX7_closesSums_1 16 rfl rfl)
theorem dX7_closesSums_39 : decode cX7_closesSums 39 = .ok (.invokevirtual 177, 3) := dk_182 0 177 (dk_at dksX7_closesSums_1 17 rfl rfl)
theorem dX7_closesSums_42 : decode cX7_closesSums 42 = .ok (.iconst 0, 1) := dk_3 (dk_at dksX7_closesSums_1 20 rfl rfl)
theorem dX7_closesSums_43 : decode cX7_closesSums 43 = .ok (.invokevirtual 180, 3) := dk_182 0 180 (dk_at dksX7_closesSums_1 21 rfl rfl)
theorem dX7_closesSums_46 : decode cX7_closesSums 46 = .ok (.aload_n 0, 1) := dk_42 (dk_at dksX7_closesSums_2 0 rfl rfl)
theorem dX7_closesSums_47 : decode cX7_closesSums 47 = .ok (.aload_n 0, 1) := dk_42 (dk_at dksX7_closesSums_2 1 rfl rfl)
theorem dX7_closesSums_48 : decode cX7_closesSums 48 = .ok (.getfield 174, 3) := dk_180 0 174 (dk_at dksX7_closesSums_2 2 rfl rfl)
theorem dX7_closesSums_51 : decode cX7_closesSums 51 = .ok (.iconst 1, 1) := dk_4 (dk_at dksX7_closesSums_2 5 rfl rfl)
theorem dX7_closesSums_52 : decode cX7_closesSums 52 = .ok (.isub, 1) := dk_100 (dk_at dksX7_closesSums_2 6 rfl rfl)
theorem dX7_closesSums_53 : decode cX7_closesSums 53 = .ok (.putfield 174, 3) := dk_181 0 174 (dk_at dksX7_closesSums_2 7 rfl rfl)
theorem dX7_closesSums_56 : decode cX7_closesSums 56 = .ok (.goto (-56), 3) := dk_167 255 200 (dk_at dksX7_closesSums_2 10 rfl rfl)
theorem dX7_closesSums_59 : decode cX7_closesSums 59 = .ok (.return_, 1) := dk_177 (dk_at dksX7_closesSums_2 13 rfl rfl)
abbrev cX7_waitTop : ByteArray := prog_19_method_27_code
def yX7_waitTop : MethodName := ⟨RX7, "waitTop", "()I"⟩
def dkwX7_waitTop_1 : List UInt8 := [108, 172]
abbrev dktX7_waitTop_1 : List UInt8 := dkwX7_waitTop_1 ++ []
def dkwX7_waitTop_0 : List UInt8 := [42, 180, 0, 174, 154, 0, 7, 2, 167, 0, 17, 42, 180, 0, 26, 42, 180, 0, 174, 4, 100, 46, 18, 170]
abbrev dktX7_waitTop_0 : List UInt8 := dkwX7_waitTop_0 ++ dktX7_waitTop_1
theorem dksX7_waitTop_0 : cX7_waitTop.data.toList.drop 0 = dktX7_waitTop_0 := by decide +kernel
theorem dksX7_waitTop_1 : cX7_waitTop.data.toList.drop 24 = dktX7_waitTop_1 := dk_seg dksX7_waitTop_0 24 rfl rfl
theorem dX7_waitTop_0 : decode cX7_waitTop 0 = .ok (.aload_n 0, 1) := dk_42 (dk_at dksX7_waitTop_0 0 rfl rfl)
theorem dX7_waitTop_1 : decode cX7_waitTop 1 = .ok (.getfield 174, 3) := dk_180 0 174 (dk_at dksX7_waitTop_0 1 rfl rfl)
theorem dX7_waitTop_4 : decode cX7_waitTop 4 = .ok (.ifCond .ne 7, 3) := dk_154 0 7 (dk_at dksX7_waitTop_0 4 rfl rfl)
theorem dX7_waitTop_7 : decode cX7_waitTop 7 = .ok (.iconst (-1), 1) := dk_2 (dk_at dksX7_waitTop_0 7 rfl rfl)
theorem dX7_waitTop_8 : decode cX7_waitTop 8 = .ok (.goto 17, 3) := dk_167 0 17 (dk_at dksX7_waitTop_0 8 rfl rfl)
theorem dX7_waitTop_11 : decode cX7_waitTop 11 = .ok (.aload_n 0, 1) := dk_42 (dk_at dksX7_waitTop_0 11 rfl rfl)
theorem dX7_waitTop_12 : decode cX7_waitTop 12 = .ok (.getfield 26, 3) := dk_180 0 26 (dk_at dksX7_waitTop_0 12 rfl rfl)
theorem dX7_waitTop_15 : decode cX7_waitTop 15 = .ok (.aload_n 0, 1) := dk_42 (dk_at dksX7_waitTop_0 15 rfl rfl)
theorem dX7_waitTop_16 : decode cX7_waitTop 16 = .ok (.getfield 174, 3) := dk_180 0 174 (dk_at dksX7_waitTop_0 16 rfl rfl)
theorem dX7_waitTop_19 : decode cX7_waitTop 19 = .ok (.iconst 1, 1) := dk_4 (dk_at dksX7_waitTop_0 19 rfl rfl)
theorem dX7_waitTop_20 : decode cX7_waitTop 20 = .ok (.isub, 1) := dk_100 (dk_at dksX7_waitTop_0 20 rfl rfl)
theorem dX7_waitTop_21 : decode cX7_waitTop 21 = .ok (.iaload, 1) := dk_46 (dk_at dksX7_waitTop_0 21 rfl rfl)
theorem dX7_waitTop_22 : decode cX7_waitTop 22 = .ok (.ldc 170, 2) := dk_18 170 (dk_at dksX7_waitTop_0 22 rfl rfl)
theorem dX7_waitTop_24 : decode cX7_waitTop 24 = .ok (.idiv, 1) := dk_108 (dk_at dksX7_waitTop_1 0 rfl rfl)
theorem dX7_waitTop_25 : decode cX7_waitTop 25 = .ok (.ireturn, 1) := dk_172 (dk_at dksX7_waitTop_1 1 rfl rfl)
abbrev cX7_hasOpenSum : ByteArray := prog_19_method_32_code
def yX7_hasOpenSum : MethodName := ⟨RX7, "hasOpenSum", "(I)Z"⟩
def dkwX7_hasOpenSum_1 : List UInt8 := [4, 172, 132, 2, 1, 167, 255, 229, 3, 172]
abbrev dktX7_hasOpenSum_1 : List UInt8 := dkwX7_hasOpenSum_1 ++ []
def dkwX7_hasOpenSum_0 : List UInt8 := [27, 61, 28, 42, 180, 0, 174, 162, 0, 25, 42, 180, 0, 26, 28, 46, 18, 170, 108, 16, 14, 160, 0, 5]
abbrev dktX7_hasOpenSum_0 : List UInt8 := dkwX7_hasOpenSum_0 ++ dktX7_hasOpenSum_1
theorem dksX7_hasOpenSum_0 : cX7_hasOpenSum.data.toList.drop 0 = dktX7_hasOpenSum_0 := by decide +kernel
theorem dksX7_hasOpenSum_1 : cX7_hasOpenSum.data.toList.drop 24 = dktX7_hasOpenSum_1 := dk_seg dksX7_hasOpenSum_0 24 rfl rfl
theorem dX7_hasOpenSum_0 : decode cX7_hasOpenSum 0 = .ok (.iload_n 1, 1) := dk_27 (dk_at dksX7_hasOpenSum_0 0 rfl rfl)
theorem dX7_hasOpenSum_1 : decode cX7_hasOpenSum 1 = .ok (.istore_n 2, 1) := dk_61 (dk_at dksX7_hasOpenSum_0 1 rfl rfl)
theorem dX7_hasOpenSum_2 : decode cX7_hasOpenSum 2 = .ok (.iload_n 2, 1) := dk_28 (dk_at dksX7_hasOpenSum_0 2 rfl rfl)
theorem dX7_hasOpenSum_3 : decode cX7_hasOpenSum 3 = .ok (.aload_n 0, 1) := dk_42 (dk_at dksX7_hasOpenSum_0 3 rfl rfl)
theorem dX7_hasOpenSum_4 : decode cX7_hasOpenSum 4 = .ok (.getfield 174, 3) := dk_180 0 174 (dk_at dksX7_hasOpenSum_0 4 rfl rfl)
theorem dX7_hasOpenSum_7 : decode cX7_hasOpenSum 7 = .ok (.if_icmp .ge 25, 3) := dk_162 0 25 (dk_at dksX7_hasOpenSum_0 7 rfl rfl)
theorem dX7_hasOpenSum_10 : decode cX7_hasOpenSum 10 = .ok (.aload_n 0, 1) := dk_42 (dk_at dksX7_hasOpenSum_0 10 rfl rfl)
theorem dX7_hasOpenSum_11 : decode cX7_hasOpenSum 11 = .ok (.getfield 26, 3) := dk_180 0 26 (dk_at dksX7_hasOpenSum_0 11 rfl rfl)
theorem dX7_hasOpenSum_14 : decode cX7_hasOpenSum 14 = .ok (.iload_n 2, 1) := dk_28 (dk_at dksX7_hasOpenSum_0 14 rfl rfl)
theorem dX7_hasOpenSum_15 : decode cX7_hasOpenSum 15 = .ok (.iaload, 1) := dk_46 (dk_at dksX7_hasOpenSum_0 15 rfl rfl)
theorem dX7_hasOpenSum_16 : decode cX7_hasOpenSum 16 = .ok (.ldc 170, 2) := dk_18 170 (dk_at dksX7_hasOpenSum_0 16 rfl rfl)
theorem dX7_hasOpenSum_18 : decode cX7_hasOpenSum 18 = .ok (.idiv, 1) := dk_108 (dk_at dksX7_hasOpenSum_0 18 rfl rfl)
theorem dX7_hasOpenSum_19 : decode cX7_hasOpenSum 19 = .ok (.bipush 14, 2) := dk_16 14 (dk_at dksX7_hasOpenSum_0 19 rfl rfl)
theorem dX7_hasOpenSum_21 : decode cX7_hasOpenSum 21 = .ok (.if_icmp .ne 5, 3) := dk_160 0 5 (dk_at dksX7_hasOpenSum_0 21 rfl rfl)
theorem dX7_hasOpenSum_24 : decode cX7_hasOpenSum 24 = .ok (.iconst 1, 1) := dk_4 (dk_at dksX7_hasOpenSum_1 0 rfl rfl)
theorem dX7_hasOpenSum_25 : decode cX7_hasOpenSum 25 = .ok (.ireturn, 1) := dk_172 (dk_at dksX7_hasOpenSum_1 1 rfl rfl)
theorem dX7_hasOpenSum_26 : decode cX7_hasOpenSum 26 = .ok (.iinc 2 1, 3) := dk_132 2 1 (dk_at dksX7_hasOpenSum_1 2 rfl rfl)
theorem dX7_hasOpenSum_29 : decode cX7_hasOpenSum 29 = .ok (.goto (-27), 3) := dk_167 255 229 (dk_at dksX7_hasOpenSum_1 5 rfl rfl)
theorem dX7_hasOpenSum_32 : decode cX7_hasOpenSum 32 = .ok (.iconst 0, 1) := dk_3 (dk_at dksX7_hasOpenSum_1 8 rfl rfl)
theorem dX7_hasOpenSum_33 : decode cX7_hasOpenSum 33 = .ok (.ireturn, 1) := dk_172 (dk_at dksX7_hasOpenSum_1 9 rfl rfl)
abbrev cX7_readsCondition : ByteArray := prog_19_method_38_code
def yX7_readsCondition : MethodName := ⟨RX7, "readsCondition", "()Z"⟩
def dkwX7_readsCondition_9 : List UInt8 := [16, 11, 167, 0, 5, 16, 12, 182, 0, 219, 167, 255, 78]
abbrev dktX7_readsCondition_9 : List UInt8 := dkwX7_readsCondition_9 ++ []
def dkwX7_readsCondition_8 : List UInt8 := [16, 124, 160, 0, 7, 4, 167, 0, 4, 3, 182, 0, 216, 42, 42, 182, 0, 150, 16, 38, 160, 0, 8]
abbrev dktX7_readsCondition_8 : List UInt8 := dkwX7_readsCondition_8 ++ dktX7_readsCondition_9
def dkwX7_readsCondition_7 : List UInt8 := [182, 0, 150, 16, 124, 159, 0, 13, 42, 4, 42, 180, 0, 144, 182, 0, 157, 172, 42, 42, 182, 0, 150]
abbrev dktX7_readsCondition_7 : List UInt8 := dkwX7_readsCondition_7 ++ dktX7_readsCondition_8
def dkwX7_readsCondition_6 : List UInt8 := [154, 0, 5, 4, 172, 42, 182, 0, 210, 167, 255, 199, 42, 182, 0, 150, 16, 38, 159, 0, 22, 42]
abbrev dktX7_readsCondition_6 : List UInt8 := dkwX7_readsCondition_6 ++ dktX7_readsCondition_7
def dkwX7_readsCondition_5 : List UInt8 := [42, 180, 0, 171, 4, 100, 181, 0, 171, 42, 42, 180, 0, 144, 4, 96, 181, 0, 144, 42, 180, 0, 174]
abbrev dktX7_readsCondition_5 : List UInt8 := dkwX7_readsCondition_5 ++ dktX7_readsCondition_6
def dkwX7_readsCondition_4 : List UInt8 := [182, 0, 150, 16, 41, 160, 0, 54, 42, 4, 182, 0, 216, 42, 42, 180, 0, 174, 4, 100, 181, 0, 174, 42]
abbrev dktX7_readsCondition_4 : List UInt8 := dkwX7_readsCondition_4 ++ dktX7_readsCondition_5
def dkwX7_readsCondition_3 : List UInt8 := [167, 0, 5, 16, 13, 182, 0, 184, 154, 255, 218, 3, 172, 42, 182, 0, 213, 154, 0, 5, 3, 172, 42]
abbrev dktX7_readsCondition_3 : List UInt8 := dkwX7_readsCondition_3 ++ dktX7_readsCondition_4
def dkwX7_readsCondition_2 : List UInt8 := [159, 0, 12, 42, 182, 0, 150, 16, 40, 160, 0, 28, 42, 42, 182, 0, 150, 16, 33, 160, 0, 8, 16, 10]
abbrev dktX7_readsCondition_2 : List UInt8 := dkwX7_readsCondition_2 ++ dktX7_readsCondition_3
def dkwX7_readsCondition_1 : List UInt8 := [42, 3, 181, 0, 174, 42, 16, 13, 182, 0, 184, 154, 0, 5, 3, 172, 42, 182, 0, 150, 16, 33]
abbrev dktX7_readsCondition_1 : List UInt8 := dkwX7_readsCondition_1 ++ dktX7_readsCondition_2
def dkwX7_readsCondition_0 : List UInt8 := [42, 182, 0, 150, 16, 40, 159, 0, 13, 42, 4, 42, 180, 0, 144, 182, 0, 157, 172, 42, 3, 181, 0, 171]
abbrev dktX7_readsCondition_0 : List UInt8 := dkwX7_readsCondition_0 ++ dktX7_readsCondition_1
theorem dksX7_readsCondition_0 : cX7_readsCondition.data.toList.drop 0 = dktX7_readsCondition_0 := by decide +kernel
theorem dksX7_readsCondition_1 : cX7_readsCondition.data.toList.drop 24 = dktX7_readsCondition_1 := dk_seg dksX7_readsCondition_0 24 rfl rfl
theorem dksX7_readsCondition_2 : cX7_readsCondition.data.toList.drop 46 = dktX7_readsCondition_2 := dk_seg dksX7_readsCondition_1 22 rfl rfl
theorem dksX7_readsCondition_3 : cX7_readsCondition.data.toList.drop 70 = dktX7_readsCondition_3 := dk_seg dksX7_readsCondition_2 24 rfl rfl
theorem dksX7_readsCondition_4 : cX7_readsCondition.data.toList.drop 93 = dktX7_readsCondition_4 := dk_seg dksX7_readsCondition_3 23 rfl rfl
theorem dksX7_readsCondition_5 : cX7_readsCondition.data.toList.drop 117 = dktX7_readsCondition_5 := dk_seg dksX7_readsCondition_4 24 rfl rfl
theorem dksX7_readsCondition_6 : cX7_readsCondition.data.toList.drop 140 = dktX7_readsCondition_6 := dk_seg dksX7_readsCondition_5 23 rfl rfl
theorem dksX7_readsCondition_7 : cX7_readsCondition.data.toList.drop 162 = dktX7_readsCondition_7 := dk_seg dksX7_readsCondition_6 22 rfl rfl
theorem dksX7_readsCondition_8 : cX7_readsCondition.data.toList.drop 185 = dktX7_readsCondition_8 := dk_seg dksX7_readsCondition_7 23 rfl rfl
theorem dksX7_readsCondition_9 : cX7_readsCondition.data.toList.drop 208 = dktX7_readsCondition_9 := dk_seg dksX7_readsCondition_8 23 rfl rfl
theorem dX7_readsCondition_0 : decode cX7_readsCondition 0 = .ok (.aload_n 0, 1) := dk_42 (dk_at dksX7_readsCondition_0 0 rfl rfl)
theorem dX7_readsCondition_1 : decode cX7_readsCondition 1 = .ok (.invokevirtual 150, 3) := dk_182 0 150 (dk_at dksX7_readsCondition_0 1 rfl rfl)
theorem dX7_readsCondition_4 : decode cX7_readsCondition 4 = .ok (.bipush 40, 2) := dk_16 40 (dk_at dksX7_readsCondition_0 4 rfl rfl)
theorem dX7_readsCondition_6 : decode cX7_readsCondition 6 = .ok (.if_icmp .eq 13, 3) := dk_159 0 13 (dk_at dksX7_readsCondition_0 6 rfl rfl)
theorem dX7_readsCondition_9 : decode cX7_readsCondition 9 = .ok (.aload_n 0, 1) := dk_42 (dk_at dksX7_readsCondition_0 9 rfl rfl)
theorem dX7_readsCondition_10 : decode cX7_readsCondition 10 = .ok (.iconst 1, 1) := dk_4 (dk_at dksX7_readsCondition_0 10 rfl rfl)
theorem dX7_readsCondition_11 : decode cX7_readsCondition 11 = .ok (.aload_n 0, 1) := dk_42 (dk_at dksX7_readsCondition_0 11 rfl rfl)
theorem dX7_readsCondition_12 : decode cX7_readsCondition 12 = .ok (.getfield 144, 3) := dk_180 0 144 (dk_at dksX7_readsCondition_0 12 rfl rfl)
theorem dX7_readsCondition_15 : decode cX7_readsCondition 15 = .ok (.invokevirtual 157, 3) := dk_182 0 157 (dk_at dksX7_readsCondition_0 15 rfl rfl)
theorem dX7_readsCondition_18 : decode cX7_readsCondition 18 = .ok (.ireturn, 1) := dk_172 (dk_at dksX7_readsCondition_0 18 rfl rfl)
theorem dX7_readsCondition_19 : decode cX7_readsCondition 19 = .ok (.aload_n 0, 1) := dk_42 (dk_at dksX7_readsCondition_0 19 rfl rfl)
theorem dX7_readsCondition_20 : decode cX7_readsCondition 20 = .ok (.iconst 0, 1) := dk_3 (dk_at dksX7_readsCondition_0 20 rfl rfl)
theorem dX7_readsCondition_21 : decode cX7_readsCondition 21 = .ok (.putfield 171, 3) := dk_181 0 171 (dk_at dksX7_readsCondition_0 21 rfl rfl)
theorem dX7_readsCondition_24 : decode cX7_readsCondition 24 = .ok (.aload_n 0, 1) := dk_42 (dk_at dksX7_readsCondition_1 0 rfl rfl)
theorem dX7_readsCondition_25 : decode cX7_readsCondition 25 = .ok (.iconst 0, 1) := dk_3 (dk_at dksX7_readsCondition_1 1 rfl rfl)
theorem dX7_readsCondition_26 : decode cX7_readsCondition 26 = .ok (.putfield 174, 3) := dk_181 0 174 (dk_at dksX7_readsCondition_1 2 rfl rfl)
theorem dX7_readsCondition_29 : decode cX7_readsCondition 29 = .ok (.aload_n 0, 1) := dk_42 (dk_at dksX7_readsCondition_1 5 rfl rfl)
theorem dX7_readsCondition_30 : decode cX7_readsCondition 30 = .ok (.bipush 13, 2) := dk_16 13 (dk_at dksX7_readsCondition_1 6 rfl rfl)
theorem dX7_readsCondition_32 : decode cX7_readsCondition 32 = .ok (.invokevirtual 184, 3) := dk_182 0 184 (dk_at dksX7_readsCondition_1 8 rfl rfl)
theorem dX7_readsCondition_35 : decode cX7_readsCondition 35 = .ok (.ifCond .ne 5, 3) := dk_154 0 5 (dk_at dksX7_readsCondition_1 11 rfl rfl)
theorem dX7_readsCondition_38 : decode cX7_readsCondition 38 = .ok (.iconst 0, 1) := dk_3 (dk_at dksX7_readsCondition_1 14 rfl rfl)
theorem dX7_readsCondition_39 : decode cX7_readsCondition 39 = .ok (.ireturn, 1) := dk_172 (dk_at dksX7_readsCondition_1 15 rfl rfl)
theorem dX7_readsCondition_40 : decode cX7_readsCondition 40 = .ok (.aload_n 0, 1) := dk_42 (dk_at dksX7_readsCondition_1 16 rfl rfl)
theorem dX7_readsCondition_41 : decode cX7_readsCondition 41 = .ok (.invokevirtual 150, 3) := dk_182 0 150 (dk_at dksX7_readsCondition_1 17 rfl rfl)
theorem dX7_readsCondition_44 : decode cX7_readsCondition 44 = .ok (.bipush 33, 2) := dk_16 33 (dk_at dksX7_readsCondition_1 20 rfl rfl)
theorem dX7_readsCondition_46 : decode cX7_readsCondition 46 = .ok (.if_icmp .eq 12, 3) := dk_159 0 12 (dk_at dksX7_readsCondition_2 0 rfl rfl)
theorem dX7_readsCondition_49 : decode cX7_readsCondition 49 = .ok (.aload_n 0, 1) := dk_42 (dk_at dksX7_readsCondition_2 3 rfl rfl)
theorem dX7_readsCondition_50 : decode cX7_readsCondition 50 = .ok (.invokevirtual 150, 3) := dk_182 0 150 (dk_at dksX7_readsCondition_2 4 rfl rfl)
theorem dX7_readsCondition_53 : decode cX7_readsCondition 53 = .ok (.bipush 40, 2) := dk_16 40 (dk_at dksX7_readsCondition_2 7 rfl rfl)
theorem dX7_readsCondition_55 : decode cX7_readsCondition 55 = .ok (.if_icmp .ne 28, 3) := dk_160 0 28 (dk_at dksX7_readsCondition_2 9 rfl rfl)
theorem dX7_readsCondition_58 : decode cX7_readsCondition 58 = .ok (.aload_n 0, 1) := dk_42 (dk_at dksX7_readsCondition_2 12 rfl rfl)
theorem dX7_readsCondition_59 : decode cX7_readsCondition 59 = .ok (.aload_n 0, 1) := dk_42 (dk_at dksX7_readsCondition_2 13 rfl rfl)
theorem dX7_readsCondition_60 : decode cX7_readsCondition 60 = .ok (.invokevirtual 150, 3) := dk_182 0 150 (dk_at dksX7_readsCondition_2 14 rfl rfl)
theorem dX7_readsCondition_63 : decode cX7_readsCondition 63 = .ok (.bipush 33, 2) := dk_16 33 (dk_at dksX7_readsCondition_2 17 rfl rfl)
theorem dX7_readsCondition_65 : decode cX7_readsCondition 65 = .ok (.if_icmp .ne 8, 3) := dk_160 0 8 (dk_at dksX7_readsCondition_2 19 rfl rfl)
theorem dX7_readsCondition_68 : decode cX7_readsCondition 68 = .ok (.bipush 10, 2) := dk_16 10 (dk_at dksX7_readsCondition_2 22 rfl rfl)
theorem dX7_readsCondition_70 : decode cX7_readsCondition 70 = .ok (.goto 5, 3) := dk_167 0 5 (dk_at dksX7_readsCondition_3 0 rfl rfl)
theorem dX7_readsCondition_73 : decode cX7_readsCondition 73 = .ok (.bipush 13, 2) := dk_16 13 (dk_at dksX7_readsCondition_3 3 rfl rfl)
theorem dX7_readsCondition_75 : decode cX7_readsCondition 75 = .ok (.invokevirtual 184, 3) := dk_182 0 184 (dk_at dksX7_readsCondition_3 5 rfl rfl)
theorem dX7_readsCondition_78 : decode cX7_readsCondition 78 = .ok (.ifCond .ne (-38), 3) := dk_154 255 218 (dk_at dksX7_readsCondition_3 8 rfl rfl)
theorem dX7_readsCondition_81 : decode cX7_readsCondition 81 = .ok (.iconst 0, 1) := dk_3 (dk_at dksX7_readsCondition_3 11 rfl rfl)
theorem dX7_readsCondition_82 : decode cX7_readsCondition 82 = .ok (.ireturn, 1) := dk_172 (dk_at dksX7_readsCondition_3 12 rfl rfl)
theorem dX7_readsCondition_83 : decode cX7_readsCondition 83 = .ok (.aload_n 0, 1) := dk_42 (dk_at dksX7_readsCondition_3 13 rfl rfl)
theorem dX7_readsCondition_84 : decode cX7_readsCondition 84 = .ok (.invokevirtual 213, 3) := dk_182 0 213 (dk_at dksX7_readsCondition_3 14 rfl rfl)
theorem dX7_readsCondition_87 : decode cX7_readsCondition 87 = .ok (.ifCond .ne 5, 3) := dk_154 0 5 (dk_at dksX7_readsCondition_3 17 rfl rfl)
theorem dX7_readsCondition_90 : decode cX7_readsCondition 90 = .ok (.iconst 0, 1) := dk_3 (dk_at dksX7_readsCondition_3 20 rfl rfl)
theorem dX7_readsCondition_91 : decode cX7_readsCondition 91 = .ok (.ireturn, 1) := dk_172 (dk_at dksX7_readsCondition_3 21 rfl rfl)
theorem dX7_readsCondition_92 : decode cX7_readsCondition 92 = .ok (.aload_n 0, 1) := dk_42 (dk_at dksX7_readsCondition_3 22 rfl rfl)
theorem dX7_readsCondition_93 : decode cX7_readsCondition 93 = .ok (.invokevirtual 150, 3) := dk_182 0 150 (dk_at dksX7_readsCondition_4 0 rfl rfl)
theorem dX7_readsCondition_96 : decode cX7_readsCondition 96 = .ok (.bipush 41, 2) := dk_16 41 (dk_at dksX7_readsCondition_4 3 rfl rfl)
theorem dX7_readsCondition_98 : decode cX7_readsCondition 98 = .ok (.if_icmp .ne 54, 3) := dk_160 0 54 (dk_at dksX7_readsCondition_4 5 rfl rfl)
theorem dX7_readsCondition_101 : decode cX7_readsCondition 101 = .ok (.aload_n 0, 1) := dk_42 (dk_at dksX7_readsCondition_4 8 rfl rfl)
theorem dX7_readsCondition_102 : decode cX7_readsCondition 102 = .ok (.iconst 1, 1) := dk_4 (dk_at dksX7_readsCondition_4 9 rfl rfl)
theorem dX7_readsCondition_103 : decode cX7_readsCondition 103 = .ok (.invokevirtual 216, 3) := dk_182 0 216 (dk_at dksX7_readsCondition_4 10 rfl rfl)
theorem dX7_readsCondition_106 : decode cX7_readsCondition 106 = .ok (.aload_n 0, 1) := dk_42 (dk_at dksX7_readsCondition_4 13 rfl rfl)
theorem dX7_readsCondition_107 : decode cX7_readsCondition 107 = .ok (.aload_n 0, 1) := dk_42 (dk_at dksX7_readsCondition_4 14 rfl rfl)
theorem dX7_readsCondition_108 : decode cX7_readsCondition 108 = .ok (.getfield 174, 3) := dk_180 0 174 (dk_at dksX7_readsCondition_4 15 rfl rfl)
theorem dX7_readsCondition_111 : decode cX7_readsCondition 111 = .ok (.iconst 1, 1) := dk_4 (dk_at dksX7_readsCondition_4 18 rfl rfl)
theorem dX7_readsCondition_112 : decode cX7_readsCondition 112 = .ok (.isub, 1) := dk_100 (dk_at dksX7_readsCondition_4 19 rfl rfl)
theorem dX7_readsCondition_113 : decode cX7_readsCondition 113 = .ok (.putfield 174, 3) := dk_181 0 174 (dk_at dksX7_readsCondition_4 20 rfl rfl)
theorem dX7_readsCondition_116 : decode cX7_readsCondition 116 = .ok (.aload_n 0, 1) := dk_42 (dk_at dksX7_readsCondition_4 23 rfl rfl)
theorem dX7_readsCondition_117 : decode cX7_readsCondition 117 = .ok (.aload_n 0, 1) := dk_42 (dk_at dksX7_readsCondition_5 0 rfl rfl)
theorem dX7_readsCondition_118 : decode cX7_readsCondition 118 = .ok (.getfield 171, 3) := dk_180 0 171 (dk_at dksX7_readsCondition_5 1 rfl rfl)
theorem dX7_readsCondition_121 : decode cX7_readsCondition 121 = .ok (.iconst 1, 1) := dk_4 (dk_at dksX7_readsCondition_5 4 rfl rfl)
theorem dX7_readsCondition_122 : decode cX7_readsCondition 122 = .ok (.isub, 1) := dk_100 (dk_at dksX7_readsCondition_5 5 rfl rfl)
theorem dX7_readsCondition_123 : decode cX7_readsCondition 123 = .ok (.putfield 171, 3) := dk_181 0 171 (dk_at dksX7_readsCondition_5 6 rfl rfl)
theorem dX7_readsCondition_126 : decode cX7_readsCondition 126 = .ok (.aload_n 0, 1) := dk_42 (dk_at dksX7_readsCondition_5 9 rfl rfl)
theorem dX7_readsCondition_127 : decode cX7_readsCondition 127 = .ok (.aload_n 0, 1) := dk_42 (dk_at dksX7_readsCondition_5 10 rfl rfl)
theorem dX7_readsCondition_128 : decode cX7_readsCondition 128 = .ok (.getfield 144, 3) := dk_180 0 144 (dk_at dksX7_readsCondition_5 11 rfl rfl)
theorem dX7_readsCondition_131 : decode cX7_readsCondition 131 = .ok (.iconst 1, 1) := dk_4 (dk_at dksX7_readsCondition_5 14 rfl rfl)
theorem dX7_readsCondition_132 : decode cX7_readsCondition 132 = .ok (.iadd, 1) := dk_96 (dk_at dksX7_readsCondition_5 15 rfl rfl)
theorem dX7_readsCondition_133 : decode cX7_readsCondition 133 = .ok (.putfield 144, 3) := dk_181 0 144 (dk_at dksX7_readsCondition_5 16 rfl rfl)
theorem dX7_readsCondition_136 : decode cX7_readsCondition 136 = .ok (.aload_n 0, 1) := dk_42 (dk_at dksX7_readsCondition_5 19 rfl rfl)
theorem dX7_readsCondition_137 : decode cX7_readsCondition 137 = .ok (.getfield 174, 3) := dk_180 0 174 (dk_at dksX7_readsCondition_5 20 rfl rfl)
theorem dX7_readsCondition_140 : decode cX7_readsCondition 140 = .ok (.ifCond .ne 5, 3) := dk_154 0 5 (dk_at dksX7_readsCondition_6 0 rfl rfl)
theorem dX7_readsCondition_143 : decode cX7_readsCondition 143 = .ok (.iconst 1, 1) := dk_4 (dk_at dksX7_readsCondition_6 3 rfl rfl)
theorem dX7_readsCondition_144 : decode cX7_readsCondition 144 = .ok (.ireturn, 1) := dk_172 (dk_at dksX7_readsCondition_6 4 rfl rfl)
theorem dX7_readsCondition_145 : decode cX7_readsCondition 145 = .ok (.aload_n 0, 1) := dk_42 (dk_at dksX7_readsCondition_6 5 rfl rfl)
theorem dX7_readsCondition_146 : decode cX7_readsCondition 146 = .ok (.invokevirtual 210, 3) := dk_182 0 210 (dk_at dksX7_readsCondition_6 6 rfl rfl)
theorem dX7_readsCondition_149 : decode cX7_readsCondition 149 = .ok (.goto (-57), 3) := dk_167 255 199 (dk_at dksX7_readsCondition_6 9 rfl rfl)
theorem dX7_readsCondition_152 : decode cX7_readsCondition 152 = .ok (.aload_n 0, 1) := dk_42 (dk_at dksX7_readsCondition_6 12 rfl rfl)
theorem dX7_readsCondition_153 : decode cX7_readsCondition 153 = .ok (.invokevirtual 150, 3) := dk_182 0 150 (dk_at dksX7_readsCondition_6 13 rfl rfl)
theorem dX7_readsCondition_156 : decode cX7_readsCondition 156 = .ok (.bipush 38, 2) := dk_16 38 (dk_at dksX7_readsCondition_6 16 rfl rfl)
theorem dX7_readsCondition_158 : decode cX7_readsCondition 158 = .ok (.if_icmp .eq 22, 3) := dk_159 0 22 (dk_at dksX7_readsCondition_6 18 rfl rfl)
theorem dX7_readsCondition_161 : decode cX7_readsCondition 161 = .ok (.aload_n 0, 1) := dk_42 (dk_at dksX7_readsCondition_6 21 rfl rfl)
theorem dX7_readsCondition_162 : decode cX7_readsCondition 162 = .ok (.invokevirtual 150, 3) := dk_182 0 150 (dk_at dksX7_readsCondition_7 0 rfl rfl)
theorem dX7_readsCondition_165 : decode cX7_readsCondition 165 = .ok (.bipush 124, 2) := dk_16 124 (dk_at dksX7_readsCondition_7 3 rfl rfl)
theorem dX7_readsCondition_167 : decode cX7_readsCondition 167 = .ok (.if_icmp .eq 13, 3) := dk_159 0 13 (dk_at dksX7_readsCondition_7 5 rfl rfl)
theorem dX7_readsCondition_170 : decode cX7_readsCondition 170 = .ok (.aload_n 0, 1) := dk_42 (dk_at dksX7_readsCondition_7 8 rfl rfl)
theorem dX7_readsCondition_171 : decode cX7_readsCondition 171 = .ok (.iconst 1, 1) := dk_4 (dk_at dksX7_readsCondition_7 9 rfl rfl)
theorem dX7_readsCondition_172 : decode cX7_readsCondition 172 = .ok (.aload_n 0, 1) := dk_42 (dk_at dksX7_readsCondition_7 10 rfl rfl)
theorem dX7_readsCondition_173 : decode cX7_readsCondition 173 = .ok (.getfield 144, 3) := dk_180 0 144 (dk_at dksX7_readsCondition_7 11 rfl rfl)
theorem dX7_readsCondition_176 : decode cX7_readsCondition 176 = .ok (.invokevirtual 157, 3) := dk_182 0 157 (dk_at dksX7_readsCondition_7 14 rfl rfl)
theorem dX7_readsCondition_179 : decode cX7_readsCondition 179 = .ok (.ireturn, 1) := dk_172 (dk_at dksX7_readsCondition_7 17 rfl rfl)
theorem dX7_readsCondition_180 : decode cX7_readsCondition 180 = .ok (.aload_n 0, 1) := dk_42 (dk_at dksX7_readsCondition_7 18 rfl rfl)
theorem dX7_readsCondition_181 : decode cX7_readsCondition 181 = .ok (.aload_n 0, 1) := dk_42 (dk_at dksX7_readsCondition_7 19 rfl rfl)
theorem dX7_readsCondition_182 : decode cX7_readsCondition 182 = .ok (.invokevirtual 150, 3) := dk_182 0 150 (dk_at dksX7_readsCondition_7 20 rfl rfl)
theorem dX7_readsCondition_185 : decode cX7_readsCondition 185 = .ok (.bipush 124, 2) := dk_16 124 (dk_at dksX7_readsCondition_8 0 rfl rfl)
theorem dX7_readsCondition_187 : decode cX7_readsCondition 187 = .ok (.if_icmp .ne 7, 3) := dk_160 0 7 (dk_at dksX7_readsCondition_8 2 rfl rfl)
theorem dX7_readsCondition_190 : decode cX7_readsCondition 190 = .ok (.iconst 1, 1) := dk_4 (dk_at dksX7_readsCondition_8 5 rfl rfl)
theorem dX7_readsCondition_191 : decode cX7_readsCondition 191 = .ok (.goto 4, 3) := dk_167 0 4 (dk_at dksX7_readsCondition_8 6 rfl rfl)
theorem dX7_readsCondition_194 : decode cX7_readsCondition 194 = .ok (.iconst 0, 1) := dk_3 (dk_at dksX7_readsCondition_8 9 rfl rfl)
theorem dX7_readsCondition_195 : decode cX7_readsCondition 195 = .ok (.invokevirtual 216, 3) := dk_182 0 216 (dk_at dksX7_readsCondition_8 10 rfl rfl)
theorem dX7_readsCondition_198 : decode cX7_readsCondition 198 = .ok (.aload_n 0, 1) := dk_42 (dk_at dksX7_readsCondition_8 13 rfl rfl)
theorem dX7_readsCondition_199 : decode cX7_readsCondition 199 = .ok (.aload_n 0, 1) := dk_42 (dk_at dksX7_readsCondition_8 14 rfl rfl)
theorem dX7_readsCondition_200 : decode cX7_readsCondition 200 = .ok (.invokevirtual 150, 3) := dk_182 0 150 (dk_at dksX7_readsCondition_8 15 rfl rfl)
theorem dX7_readsCondition_203 : decode cX7_readsCondition 203 = .ok (.bipush 38, 2) := dk_16 38 (dk_at dksX7_readsCondition_8 18 rfl rfl)
theorem dX7_readsCondition_205 : decode cX7_readsCondition 205 = .ok (.if_icmp .ne 8, 3) := dk_160 0 8 (dk_at dksX7_readsCondition_8 20 rfl rfl)
theorem dX7_readsCondition_208 : decode cX7_readsCondition 208 = .ok (.bipush 11, 2) := dk_16 11 (dk_at dksX7_readsCondition_9 0 rfl rfl)
theorem dX7_readsCondition_210 : decode cX7_readsCondition 210 = .ok (.goto 5, 3) := dk_167 0 5 (dk_at dksX7_readsCondition_9 2 rfl rfl)
theorem dX7_readsCondition_213 : decode cX7_readsCondition 213 = .ok (.bipush 12, 2) := dk_16 12 (dk_at dksX7_readsCondition_9 5 rfl rfl)
theorem dX7_readsCondition_215 : decode cX7_readsCondition 215 = .ok (.invokevirtual 219, 3) := dk_182 0 219 (dk_at dksX7_readsCondition_9 7 rfl rfl)
theorem dX7_readsCondition_218 : decode cX7_readsCondition 218 = .ok (.goto (-178), 3) := dk_167 255 78 (dk_at dksX7_readsCondition_9 10 rfl rfl)
abbrev cX7_readsCompared : ByteArray := prog_19_method_37_code
def yX7_readsCompared : MethodName := ⟨RX7, "readsCompared", "()Z"⟩
def dkwX7_readsCompared_4 : List UInt8 := [182, 0, 210, 4, 172]
abbrev dktX7_readsCompared_4 : List UInt8 := dkwX7_readsCompared_4 ++ []
def dkwX7_readsCompared_3 : List UInt8 := [180, 0, 144, 4, 96, 181, 0, 144, 42, 182, 0, 207, 154, 0, 5, 3, 172, 42, 27, 3, 182, 0, 180, 42]
abbrev dktX7_readsCompared_3 : List UInt8 := dkwX7_readsCompared_3 ++ dktX7_readsCompared_4
def dkwX7_readsCompared_2 : List UInt8 := [167, 0, 4, 2, 60, 27, 2, 160, 0, 13, 42, 4, 42, 180, 0, 144, 182, 0, 157, 172, 42, 42]
abbrev dktX7_readsCompared_2 : List UInt8 := dkwX7_readsCompared_2 ++ dktX7_readsCompared_3
def dkwX7_readsCompared_1 : List UInt8 := [182, 0, 150, 16, 62, 160, 0, 8, 16, 8, 167, 0, 18, 42, 182, 0, 150, 16, 61, 160, 0, 8, 16, 9]
abbrev dktX7_readsCompared_1 : List UInt8 := dkwX7_readsCompared_1 ++ dktX7_readsCompared_2
def dkwX7_readsCompared_0 : List UInt8 := [42, 182, 0, 207, 154, 0, 5, 3, 172, 42, 182, 0, 150, 16, 60, 160, 0, 8, 16, 7, 167, 0, 32, 42]
abbrev dktX7_readsCompared_0 : List UInt8 := dkwX7_readsCompared_0 ++ dktX7_readsCompared_1
theorem dksX7_readsCompared_0 : cX7_readsCompared.data.toList.drop 0 = dktX7_readsCompared_0 := by decide +kernel
theorem dksX7_readsCompared_1 : cX7_readsCompared.data.toList.drop 24 = dktX7_readsCompared_1 := dk_seg dksX7_readsCompared_0 24 rfl rfl
theorem dksX7_readsCompared_2 : cX7_readsCompared.data.toList.drop 48 = dktX7_readsCompared_2 := dk_seg dksX7_readsCompared_1 24 rfl rfl
theorem dksX7_readsCompared_3 : cX7_readsCompared.data.toList.drop 70 = dktX7_readsCompared_3 := dk_seg dksX7_readsCompared_2 22 rfl rfl
theorem dksX7_readsCompared_4 : cX7_readsCompared.data.toList.drop 94 = dktX7_readsCompared_4 := dk_seg dksX7_readsCompared_3 24 rfl rfl
theorem dX7_readsCompared_0 : decode cX7_readsCompared 0 = .ok (.aload_n 0, 1) := dk_42 (dk_at dksX7_readsCompared_0 0 rfl rfl)
theorem dX7_readsCompared_1 : decode cX7_readsCompared 1 = .ok (.invokevirtual 207, 3) := dk_182 0 207 (dk_at dksX7_readsCompared_0 1 rfl rfl)
theorem dX7_readsCompared_4 : decode cX7_readsCompared 4 = .ok (.ifCond .ne 5, 3) := dk_154 0 5 (dk_at dksX7_readsCompared_0 4 rfl rfl)
theorem dX7_readsCompared_7 : decode cX7_readsCompared 7 = .ok (.iconst 0, 1) := dk_3 (dk_at dksX7_readsCompared_0 7 rfl rfl)
theorem dX7_readsCompared_8 : decode cX7_readsCompared 8 = .ok (.ireturn, 1) := dk_172 (dk_at dksX7_readsCompared_0 8 rfl rfl)
theorem dX7_readsCompared_9 : decode cX7_readsCompared 9 = .ok (.aload_n 0, 1) := dk_42 (dk_at dksX7_readsCompared_0 9 rfl rfl)
theorem dX7_readsCompared_10 : decode cX7_readsCompared 10 = .ok (.invokevirtual 150, 3) := dk_182 0 150 (dk_at dksX7_readsCompared_0 10 rfl rfl)
theorem dX7_readsCompared_13 : decode cX7_readsCompared 13 = .ok (.bipush 60, 2) := dk_16 60 (dk_at dksX7_readsCompared_0 13 rfl rfl)
theorem dX7_readsCompared_15 : decode cX7_readsCompared 15 = .ok (.if_icmp .ne 8, 3) := dk_160 0 8 (dk_at dksX7_readsCompared_0 15 rfl rfl)
theorem dX7_readsCompared_18 : decode cX7_readsCompared 18 = .ok (.bipush 7, 2) := dk_16 7 (dk_at dksX7_readsCompared_0 18 rfl rfl)
theorem dX7_readsCompared_20 : decode cX7_readsCompared 20 = .ok (.goto 32, 3) := dk_167 0 32 (dk_at dksX7_readsCompared_0 20 rfl rfl)
theorem dX7_readsCompared_23 : decode cX7_readsCompared 23 = .ok (.aload_n 0, 1) := dk_42 (dk_at dksX7_readsCompared_0 23 rfl rfl)
theorem dX7_readsCompared_24 : decode cX7_readsCompared 24 = .ok (.invokevirtual 150, 3) := dk_182 0 150 (dk_at dksX7_readsCompared_1 0 rfl rfl)
theorem dX7_readsCompared_27 : decode cX7_readsCompared 27 = .ok (.bipush 62, 2) := dk_16 62 (dk_at dksX7_readsCompared_1 3 rfl rfl)
theorem dX7_readsCompared_29 : decode cX7_readsCompared 29 = .ok (.if_icmp .ne 8, 3) := dk_160 0 8 (dk_at dksX7_readsCompared_1 5 rfl rfl)
theorem dX7_readsCompared_32 : decode cX7_readsCompared 32 = .ok (.bipush 8, 2) := dk_16 8 (dk_at dksX7_readsCompared_1 8 rfl rfl)
theorem dX7_readsCompared_34 : decode cX7_readsCompared 34 = .ok (.goto 18, 3) := dk_167 0 18 (dk_at dksX7_readsCompared_1 10 rfl rfl)
theorem dX7_readsCompared_37 : decode cX7_readsCompared 37 = .ok (.aload_n 0, 1) := dk_42 (dk_at dksX7_readsCompared_1 13 rfl rfl)
theorem dX7_readsCompared_38 : decode cX7_readsCompared 38 = .ok (.invokevirtual 150, 3) := dk_182 0 150 (dk_at dksX7_readsCompared_1 14 rfl rfl)
theorem dX7_readsCompared_41 : decode cX7_readsCompared 41 = .ok (.bipush 61, 2) := dk_16 61 (dk_at dksX7_readsCompared_1 17 rfl rfl)
theorem dX7_readsCompared_43 : decode cX7_readsCompared 43 = .ok (.if_icmp .ne 8, 3) := dk_160 0 8 (dk_at dksX7_readsCompared_1 19 rfl rfl)
theorem dX7_readsCompared_46 : decode cX7_readsCompared 46 = .ok (.bipush 9, 2) := dk_16 9 (dk_at dksX7_readsCompared_1 22 rfl rfl)
theorem dX7_readsCompared_48 : decode cX7_readsCompared 48 = .ok (.goto 4, 3) := dk_167 0 4 (dk_at dksX7_readsCompared_2 0 rfl rfl)
theorem dX7_readsCompared_51 : decode cX7_readsCompared 51 = .ok (.iconst (-1), 1) := dk_2 (dk_at dksX7_readsCompared_2 3 rfl rfl)
theorem dX7_readsCompared_52 : decode cX7_readsCompared 52 = .ok (.istore_n 1, 1) := dk_60 (dk_at dksX7_readsCompared_2 4 rfl rfl)
theorem dX7_readsCompared_53 : decode cX7_readsCompared 53 = .ok (.iload_n 1, 1) := dk_27 (dk_at dksX7_readsCompared_2 5 rfl rfl)
theorem dX7_readsCompared_54 : decode cX7_readsCompared 54 = .ok (.iconst (-1), 1) := dk_2 (dk_at dksX7_readsCompared_2 6 rfl rfl)
theorem dX7_readsCompared_55 : decode cX7_readsCompared 55 = .ok (.if_icmp .ne 13, 3) := dk_160 0 13 (dk_at dksX7_readsCompared_2 7 rfl rfl)
theorem dX7_readsCompared_58 : decode cX7_readsCompared 58 = .ok (.aload_n 0, 1) := dk_42 (dk_at dksX7_readsCompared_2 10 rfl rfl)
theorem dX7_readsCompared_59 : decode cX7_readsCompared 59 = .ok (.iconst 1, 1) := dk_4 (dk_at dksX7_readsCompared_2 11 rfl rfl)
theorem dX7_readsCompared_60 : decode cX7_readsCompared 60 = .ok (.aload_n 0, 1) := dk_42 (dk_at dksX7_readsCompared_2 12 rfl rfl)
theorem dX7_readsCompared_61 : decode cX7_readsCompared 61 = .ok (.getfield 144, 3) := dk_180 0 144 (dk_at dksX7_readsCompared_2 13 rfl rfl)
theorem dX7_readsCompared_64 : decode cX7_readsCompared 64 = .ok (.invokevirtual 157, 3) := dk_182 0 157 (dk_at dksX7_readsCompared_2 16 rfl rfl)
theorem dX7_readsCompared_67 : decode cX7_readsCompared 67 = .ok (.ireturn, 1) := dk_172 (dk_at dksX7_readsCompared_2 19 rfl rfl)
theorem dX7_readsCompared_68 : decode cX7_readsCompared 68 = .ok (.aload_n 0, 1) := dk_42 (dk_at dksX7_readsCompared_2 20 rfl rfl)
theorem dX7_readsCompared_69 : decode cX7_readsCompared 69 = .ok (.aload_n 0, 1) := dk_42 (dk_at dksX7_readsCompared_2 21 rfl rfl)
theorem dX7_readsCompared_70 : decode cX7_readsCompared 70 = .ok (.getfield 144, 3) := dk_180 0 144 (dk_at dksX7_readsCompared_3 0 rfl rfl)
theorem dX7_readsCompared_73 : decode cX7_readsCompared 73 = .ok (.iconst 1, 1) := dk_4 (dk_at dksX7_readsCompared_3 3 rfl rfl)
theorem dX7_readsCompared_74 : decode cX7_readsCompared 74 = .ok (.iadd, 1) := dk_96 (dk_at dksX7_readsCompared_3 4 rfl rfl)
theorem dX7_readsCompared_75 : decode cX7_readsCompared 75 = .ok (.putfield 144, 3) := dk_181 0 144 (dk_at dksX7_readsCompared_3 5 rfl rfl)
theorem dX7_readsCompared_78 : decode cX7_readsCompared 78 = .ok (.aload_n 0, 1) := dk_42 (dk_at dksX7_readsCompared_3 8 rfl rfl)
theorem dX7_readsCompared_79 : decode cX7_readsCompared 79 = .ok (.invokevirtual 207, 3) := dk_182 0 207 (dk_at dksX7_readsCompared_3 9 rfl rfl)
theorem dX7_readsCompared_82 : decode cX7_readsCompared 82 = .ok (.ifCond .ne 5, 3) := dk_154 0 5 (dk_at dksX7_readsCompared_3 12 rfl rfl)
theorem dX7_readsCompared_85 : decode cX7_readsCompared 85 = .ok (.iconst 0, 1) := dk_3 (dk_at dksX7_readsCompared_3 15 rfl rfl)
theorem dX7_readsCompared_86 : decode cX7_readsCompared 86 = .ok (.ireturn, 1) := dk_172 (dk_at dksX7_readsCompared_3 16 rfl rfl)
theorem dX7_readsCompared_87 : decode cX7_readsCompared 87 = .ok (.aload_n 0, 1) := dk_42 (dk_at dksX7_readsCompared_3 17 rfl rfl)
theorem dX7_readsCompared_88 : decode cX7_readsCompared 88 = .ok (.iload_n 1, 1) := dk_27 (dk_at dksX7_readsCompared_3 18 rfl rfl)
theorem dX7_readsCompared_89 : decode cX7_readsCompared 89 = .ok (.iconst 0, 1) := dk_3 (dk_at dksX7_readsCompared_3 19 rfl rfl)
theorem dX7_readsCompared_90 : decode cX7_readsCompared 90 = .ok (.invokevirtual 180, 3) := dk_182 0 180 (dk_at dksX7_readsCompared_3 20 rfl rfl)
theorem dX7_readsCompared_93 : decode cX7_readsCompared 93 = .ok (.aload_n 0, 1) := dk_42 (dk_at dksX7_readsCompared_3 23 rfl rfl)
theorem dX7_readsCompared_94 : decode cX7_readsCompared 94 = .ok (.invokevirtual 210, 3) := dk_182 0 210 (dk_at dksX7_readsCompared_4 0 rfl rfl)
theorem dX7_readsCompared_97 : decode cX7_readsCompared 97 = .ok (.iconst 1, 1) := dk_4 (dk_at dksX7_readsCompared_4 3 rfl rfl)
theorem dX7_readsCompared_98 : decode cX7_readsCompared 98 = .ok (.ireturn, 1) := dk_172 (dk_at dksX7_readsCompared_4 4 rfl rfl)
abbrev cX7_endsPiece : ByteArray := prog_19_method_34_code
def yX7_endsPiece : MethodName := ⟨RX7, "endsPiece", "()V"⟩
def dkwX7_endsPiece_1 : List UInt8 := [181, 0, 174, 42, 42, 180, 0, 171, 4, 100, 181, 0, 171, 167, 255, 220, 177]
abbrev dktX7_endsPiece_1 : List UInt8 := dkwX7_endsPiece_1 ++ []
def dkwX7_endsPiece_0 : List UInt8 := [42, 182, 0, 177, 16, 10, 160, 0, 33, 42, 16, 10, 3, 182, 0, 180, 42, 42, 180, 0, 174, 4, 100]
abbrev dktX7_endsPiece_0 : List UInt8 := dkwX7_endsPiece_0 ++ dktX7_endsPiece_1
theorem dksX7_endsPiece_0 : cX7_endsPiece.data.toList.drop 0 = dktX7_endsPiece_0 := by decide +kernel
theorem dksX7_endsPiece_1 : cX7_endsPiece.data.toList.drop 23 = dktX7_endsPiece_1 := dk_seg dksX7_endsPiece_0 23 rfl rfl
theorem dX7_endsPiece_0 : decode cX7_endsPiece 0 = .ok (.aload_n 0, 1) := dk_42 (dk_at dksX7_endsPiece_0 0 rfl rfl)
theorem dX7_endsPiece_1 : decode cX7_endsPiece 1 = .ok (.invokevirtual 177, 3) := dk_182 0 177 (dk_at dksX7_endsPiece_0 1 rfl rfl)
theorem dX7_endsPiece_4 : decode cX7_endsPiece 4 = .ok (.bipush 10, 2) := dk_16 10 (dk_at dksX7_endsPiece_0 4 rfl rfl)
theorem dX7_endsPiece_6 : decode cX7_endsPiece 6 = .ok (.if_icmp .ne 33, 3) := dk_160 0 33 (dk_at dksX7_endsPiece_0 6 rfl rfl)
theorem dX7_endsPiece_9 : decode cX7_endsPiece 9 = .ok (.aload_n 0, 1) := dk_42 (dk_at dksX7_endsPiece_0 9 rfl rfl)
theorem dX7_endsPiece_10 : decode cX7_endsPiece 10 = .ok (.bipush 10, 2) := dk_16 10 (dk_at dksX7_endsPiece_0 10 rfl rfl)
theorem dX7_endsPiece_12 : decode cX7_endsPiece 12 = .ok (.iconst 0, 1) := dk_3 (dk_at dksX7_endsPiece_0 12 rfl rfl)
theorem dX7_endsPiece_13 : decode cX7_endsPiece 13 = .ok (.invokevirtual 180, 3) := dk_182 0 180 (dk_at dksX7_endsPiece_0 13 rfl rfl)
theorem dX7_endsPiece_16 : decode cX7_endsPiece 16 = .ok (.aload_n 0, 1) := dk_42 (dk_at dksX7_endsPiece_0 16 rfl rfl)
theorem dX7_endsPiece_17 : decode cX7_endsPiece 17 = .ok (.aload_n 0, 1) := dk_42 (dk_at dksX7_endsPiece_0 17 rfl rfl)
theorem dX7_endsPiece_18 : decode cX7_endsPiece 18 = .ok (.getfield 174, 3) := dk_180 0 174 (dk_at dksX7_endsPiece_0 18 rfl rfl)
theorem dX7_endsPiece_21 : decode cX7_endsPiece 21 = .ok (.iconst 1, 1) := dk_4 (dk_at dksX7_endsPiece_0 21 rfl rfl)
theorem dX7_endsPiece_22 : decode cX7_endsPiece 22 = .ok (.isub, 1) := dk_100 (dk_at dksX7_endsPiece_0 22 rfl rfl)
theorem dX7_endsPiece_23 : decode cX7_endsPiece 23 = .ok (.putfield 174, 3) := dk_181 0 174 (dk_at dksX7_endsPiece_1 0 rfl rfl)
theorem dX7_endsPiece_26 : decode cX7_endsPiece 26 = .ok (.aload_n 0, 1) := dk_42 (dk_at dksX7_endsPiece_1 3 rfl rfl)
theorem dX7_endsPiece_27 : decode cX7_endsPiece 27 = .ok (.aload_n 0, 1) := dk_42 (dk_at dksX7_endsPiece_1 4 rfl rfl)
theorem dX7_endsPiece_28 : decode cX7_endsPiece 28 = .ok (.getfield 171, 3) := dk_180 0 171 (dk_at dksX7_endsPiece_1 5 rfl rfl)
theorem dX7_endsPiece_31 : decode cX7_endsPiece 31 = .ok (.iconst 1, 1) := dk_4 (dk_at dksX7_endsPiece_1 8 rfl rfl)
theorem dX7_endsPiece_32 : decode cX7_endsPiece 32 = .ok (.isub, 1) := dk_100 (dk_at dksX7_endsPiece_1 9 rfl rfl)
theorem dX7_endsPiece_33 : decode cX7_endsPiece 33 = .ok (.putfield 171, 3) := dk_181 0 171 (dk_at dksX7_endsPiece_1 10 rfl rfl)
theorem dX7_endsPiece_36 : decode cX7_endsPiece 36 = .ok (.goto (-36), 3) := dk_167 255 220 (dk_at dksX7_endsPiece_1 13 rfl rfl)
theorem dX7_endsPiece_39 : decode cX7_endsPiece 39 = .ok (.return_, 1) := dk_177 (dk_at dksX7_endsPiece_1 16 rfl rfl)
abbrev cX7_lands : ByteArray := prog_19_method_35_code
def yX7_lands : MethodName := ⟨RX7, "lands", "(Z)V"⟩
def dkwX7_lands_3 : List UInt8 := [181, 0, 174, 167, 255, 186, 177]
abbrev dktX7_lands_3 : List UInt8 := dkwX7_lands_3 ++ []
def dkwX7_lands_2 : List UInt8 := [180, 0, 23, 28, 46, 18, 170, 108, 104, 42, 180, 0, 167, 96, 79, 42, 42, 180, 0, 174, 4, 100]
abbrev dktX7_lands_2 : List UInt8 := dkwX7_lands_2 ++ dktX7_lands_3
def dkwX7_lands_1 : List UInt8 := [180, 0, 26, 42, 180, 0, 174, 4, 100, 46, 18, 170, 112, 61, 42, 180, 0, 23, 28, 18, 170, 42]
abbrev dktX7_lands_1 : List UInt8 := dkwX7_lands_1 ++ dktX7_lands_2
def dkwX7_lands_0 : List UInt8 := [42, 182, 0, 177, 16, 11, 159, 0, 16, 27, 153, 0, 63, 42, 182, 0, 177, 16, 12, 160, 0, 54, 42]
abbrev dktX7_lands_0 : List UInt8 := dkwX7_lands_0 ++ dktX7_lands_1
theorem dksX7_lands_0 : cX7_lands.data.toList.drop 0 = dktX7_lands_0 := by decide +kernel
theorem dksX7_lands_1 : cX7_lands.data.toList.drop 23 = dktX7_lands_1 := dk_seg dksX7_lands_0 23 rfl rfl
theorem dksX7_lands_2 : cX7_lands.data.toList.drop 45 = dktX7_lands_2 := dk_seg dksX7_lands_1 22 rfl rfl
theorem dksX7_lands_3 : cX7_lands.data.toList.drop 67 = dktX7_lands_3 := dk_seg dksX7_lands_2 22 rfl rfl
theorem dX7_lands_0 : decode cX7_lands 0 = .ok (.aload_n 0, 1) := dk_42 (dk_at dksX7_lands_0 0 rfl rfl)
theorem dX7_lands_1 : decode cX7_lands 1 = .ok (.invokevirtual 177, 3) := dk_182 0 177 (dk_at dksX7_lands_0 1 rfl rfl)
theorem dX7_lands_4 : decode cX7_lands 4 = .ok (.bipush 11, 2) := dk_16 11 (dk_at dksX7_lands_0 4 rfl rfl)
theorem dX7_lands_6 : decode cX7_lands 6 = .ok (.if_icmp .eq 16, 3) := dk_159 0 16 (dk_at dksX7_lands_0 6 rfl rfl)
theorem dX7_lands_9 : decode cX7_lands 9 = .ok (.iload_n 1, 1) := dk_27 (dk_at dksX7_lands_0 9 rfl rfl)
theorem dX7_lands_10 : decode cX7_lands 10 = .ok (.ifCond .eq 63, 3) := dk_153 0 63 (dk_at dksX7_lands_0 10 rfl rfl)
theorem dX7_lands_13 : decode cX7_lands 13 = .ok (.aload_n 0, 1) := dk_42 (dk_at dksX7_lands_0 13 rfl rfl)
theorem dX7_lands_14 : decode cX7_lands 14 = .ok (.invokevirtual 177, 3) := dk_182 0 177 (dk_at dksX7_lands_0 14 rfl rfl)
theorem dX7_lands_17 : decode cX7_lands 17 = .ok (.bipush 12, 2) := dk_16 12 (dk_at dksX7_lands_0 17 rfl rfl)
theorem dX7_lands_19 : decode cX7_lands 19 = .ok (.if_icmp .ne 54, 3) := dk_160 0 54 (dk_at dksX7_lands_0 19 rfl rfl)
theorem dX7_lands_22 : decode cX7_lands 22 = .ok (.aload_n 0, 1) := dk_42 (dk_at dksX7_lands_0 22 rfl rfl)
theorem dX7_lands_23 : decode cX7_lands 23 = .ok (.getfield 26, 3) := dk_180 0 26 (dk_at dksX7_lands_1 0 rfl rfl)
theorem dX7_lands_26 : decode cX7_lands 26 = .ok (.aload_n 0, 1) := dk_42 (dk_at dksX7_lands_1 3 rfl rfl)
theorem dX7_lands_27 : decode cX7_lands 27 = .ok (.getfield 174, 3) := dk_180 0 174 (dk_at dksX7_lands_1 4 rfl rfl)
theorem dX7_lands_30 : decode cX7_lands 30 = .ok (.iconst 1, 1) := dk_4 (dk_at dksX7_lands_1 7 rfl rfl)
theorem dX7_lands_31 : decode cX7_lands 31 = .ok (.isub, 1) := dk_100 (dk_at dksX7_lands_1 8 rfl rfl)
theorem dX7_lands_32 : decode cX7_lands 32 = .ok (.iaload, 1) := dk_46 (dk_at dksX7_lands_1 9 rfl rfl)
theorem dX7_lands_33 : decode cX7_lands 33 = .ok (.ldc 170, 2) := dk_18 170 (dk_at dksX7_lands_1 10 rfl rfl)
theorem dX7_lands_35 : decode cX7_lands 35 = .ok (.irem, 1) := dk_112 (dk_at dksX7_lands_1 12 rfl rfl)
theorem dX7_lands_36 : decode cX7_lands 36 = .ok (.istore_n 2, 1) := dk_61 (dk_at dksX7_lands_1 13 rfl rfl)
theorem dX7_lands_37 : decode cX7_lands 37 = .ok (.aload_n 0, 1) := dk_42 (dk_at dksX7_lands_1 14 rfl rfl)
theorem dX7_lands_38 : decode cX7_lands 38 = .ok (.getfield 23, 3) := dk_180 0 23 (dk_at dksX7_lands_1 15 rfl rfl)
theorem dX7_lands_41 : decode cX7_lands 41 = .ok (.iload_n 2, 1) := dk_28 (dk_at dksX7_lands_1 18 rfl rfl)
theorem dX7_lands_42 : decode cX7_lands 42 = .ok (.ldc 170, 2) := dk_18 170 (dk_at dksX7_lands_1 19 rfl rfl)
theorem dX7_lands_44 : decode cX7_lands 44 = .ok (.aload_n 0, 1) := dk_42 (dk_at dksX7_lands_1 21 rfl rfl)
theorem dX7_lands_45 : decode cX7_lands 45 = .ok (.getfield 23, 3) := dk_180 0 23 (dk_at dksX7_lands_2 0 rfl rfl)
theorem dX7_lands_48 : decode cX7_lands 48 = .ok (.iload_n 2, 1) := dk_28 (dk_at dksX7_lands_2 3 rfl rfl)
theorem dX7_lands_49 : decode cX7_lands 49 = .ok (.iaload, 1) := dk_46 (dk_at dksX7_lands_2 4 rfl rfl)
theorem dX7_lands_50 : decode cX7_lands 50 = .ok (.ldc 170, 2) := dk_18 170 (dk_at dksX7_lands_2 5 rfl rfl)
theorem dX7_lands_52 : decode cX7_lands 52 = .ok (.idiv, 1) := dk_108 (dk_at dksX7_lands_2 7 rfl rfl)
theorem dX7_lands_53 : decode cX7_lands 53 = .ok (.imul, 1) := dk_104 (dk_at dksX7_lands_2 8 rfl rfl)
theorem dX7_lands_54 : decode cX7_lands 54 = .ok (.aload_n 0, 1) := dk_42 (dk_at dksX7_lands_2 9 rfl rfl)
theorem dX7_lands_55 : decode cX7_lands 55 = .ok (.getfield 167, 3) := dk_180 0 167 (dk_at dksX7_lands_2 10 rfl rfl)
theorem dX7_lands_58 : decode cX7_lands 58 = .ok (.iadd, 1) := dk_96 (dk_at dksX7_lands_2 13 rfl rfl)
theorem dX7_lands_59 : decode cX7_lands 59 = .ok (.iastore, 1) := dk_79 (dk_at dksX7_lands_2 14 rfl rfl)
theorem dX7_lands_60 : decode cX7_lands 60 = .ok (.aload_n 0, 1) := dk_42 (dk_at dksX7_lands_2 15 rfl rfl)
theorem dX7_lands_61 : decode cX7_lands 61 = .ok (.aload_n 0, 1) := dk_42 (dk_at dksX7_lands_2 16 rfl rfl)
theorem dX7_lands_62 : decode cX7_lands 62 = .ok (.getfield 174, 3) := dk_180 0 174 (dk_at dksX7_lands_2 17 rfl rfl)
theorem dX7_lands_65 : decode cX7_lands 65 = .ok (.iconst 1, 1) := dk_4 (dk_at dksX7_lands_2 20 rfl rfl)
theorem dX7_lands_66 : decode cX7_lands 66 = .ok (.isub, 1) := dk_100 (dk_at dksX7_lands_2 21 rfl rfl)
theorem dX7_lands_67 : decode cX7_lands 67 = .ok (.putfield 174, 3) := dk_181 0 174 (dk_at dksX7_lands_3 0 rfl rfl)
theorem dX7_lands_70 : decode cX7_lands 70 = .ok (.goto (-70), 3) := dk_167 255 186 (dk_at dksX7_lands_3 3 rfl rfl)
theorem dX7_lands_73 : decode cX7_lands 73 = .ok (.return_, 1) := dk_177 (dk_at dksX7_lands_3 6 rfl rfl)
abbrev cX7_jumps : ByteArray := prog_19_method_36_code
def yX7_jumps : MethodName := ⟨RX7, "jumps", "(I)V"⟩
def dkwX7_jumps_1 : List UInt8 := [96, 181, 0, 174, 42, 27, 3, 182, 0, 180, 42, 42, 180, 0, 144, 4, 96, 181, 0, 144, 177]
abbrev dktX7_jumps_1 : List UInt8 := dkwX7_jumps_1 ++ []
def dkwX7_jumps_0 : List UInt8 := [42, 180, 0, 26, 42, 180, 0, 174, 18, 170, 27, 104, 42, 180, 0, 167, 96, 79, 42, 42, 180, 0, 174, 4]
abbrev dktX7_jumps_0 : List UInt8 := dkwX7_jumps_0 ++ dktX7_jumps_1
theorem dksX7_jumps_0 : cX7_jumps.data.toList.drop 0 = dktX7_jumps_0 := by decide +kernel
theorem dksX7_jumps_1 : cX7_jumps.data.toList.drop 24 = dktX7_jumps_1 := dk_seg dksX7_jumps_0 24 rfl rfl
theorem dX7_jumps_0 : decode cX7_jumps 0 = .ok (.aload_n 0, 1) := dk_42 (dk_at dksX7_jumps_0 0 rfl rfl)
theorem dX7_jumps_1 : decode cX7_jumps 1 = .ok (.getfield 26, 3) := dk_180 0 26 (dk_at dksX7_jumps_0 1 rfl rfl)
theorem dX7_jumps_4 : decode cX7_jumps 4 = .ok (.aload_n 0, 1) := dk_42 (dk_at dksX7_jumps_0 4 rfl rfl)
theorem dX7_jumps_5 : decode cX7_jumps 5 = .ok (.getfield 174, 3) := dk_180 0 174 (dk_at dksX7_jumps_0 5 rfl rfl)
theorem dX7_jumps_8 : decode cX7_jumps 8 = .ok (.ldc 170, 2) := dk_18 170 (dk_at dksX7_jumps_0 8 rfl rfl)
theorem dX7_jumps_10 : decode cX7_jumps 10 = .ok (.iload_n 1, 1) := dk_27 (dk_at dksX7_jumps_0 10 rfl rfl)
theorem dX7_jumps_11 : decode cX7_jumps 11 = .ok (.imul, 1) := dk_104 (dk_at dksX7_jumps_0 11 rfl rfl)
theorem dX7_jumps_12 : decode cX7_jumps 12 = .ok (.aload_n 0, 1) := dk_42 (dk_at dksX7_jumps_0 12 rfl rfl)
theorem dX7_jumps_13 : decode cX7_jumps 13 = .ok (.getfield 167, 3) := dk_180 0 167 (dk_at dksX7_jumps_0 13 rfl rfl)
theorem dX7_jumps_16 : decode cX7_jumps 16 = .ok (.iadd, 1) := dk_96 (dk_at dksX7_jumps_0 16 rfl rfl)
theorem dX7_jumps_17 : decode cX7_jumps 17 = .ok (.iastore, 1) := dk_79 (dk_at dksX7_jumps_0 17 rfl rfl)
theorem dX7_jumps_18 : decode cX7_jumps 18 = .ok (.aload_n 0, 1) := dk_42 (dk_at dksX7_jumps_0 18 rfl rfl)
theorem dX7_jumps_19 : decode cX7_jumps 19 = .ok (.aload_n 0, 1) := dk_42 (dk_at dksX7_jumps_0 19 rfl rfl)
theorem dX7_jumps_20 : decode cX7_jumps 20 = .ok (.getfield 174, 3) := dk_180 0 174 (dk_at dksX7_jumps_0 20 rfl rfl)
theorem dX7_jumps_23 : decode cX7_jumps 23 = .ok (.iconst 1, 1) := dk_4 (dk_at dksX7_jumps_0 23 rfl rfl)
theorem dX7_jumps_24 : decode cX7_jumps 24 = .ok (.iadd, 1) := dk_96 (dk_at dksX7_jumps_1 0 rfl rfl)
theorem dX7_jumps_25 : decode cX7_jumps 25 = .ok (.putfield 174, 3) := dk_181 0 174 (dk_at dksX7_jumps_1 1 rfl rfl)
theorem dX7_jumps_28 : decode cX7_jumps 28 = .ok (.aload_n 0, 1) := dk_42 (dk_at dksX7_jumps_1 4 rfl rfl)
theorem dX7_jumps_29 : decode cX7_jumps 29 = .ok (.iload_n 1, 1) := dk_27 (dk_at dksX7_jumps_1 5 rfl rfl)
theorem dX7_jumps_30 : decode cX7_jumps 30 = .ok (.iconst 0, 1) := dk_3 (dk_at dksX7_jumps_1 6 rfl rfl)
theorem dX7_jumps_31 : decode cX7_jumps 31 = .ok (.invokevirtual 180, 3) := dk_182 0 180 (dk_at dksX7_jumps_1 7 rfl rfl)
theorem dX7_jumps_34 : decode cX7_jumps 34 = .ok (.aload_n 0, 1) := dk_42 (dk_at dksX7_jumps_1 10 rfl rfl)
theorem dX7_jumps_35 : decode cX7_jumps 35 = .ok (.aload_n 0, 1) := dk_42 (dk_at dksX7_jumps_1 11 rfl rfl)
theorem dX7_jumps_36 : decode cX7_jumps 36 = .ok (.getfield 144, 3) := dk_180 0 144 (dk_at dksX7_jumps_1 12 rfl rfl)
theorem dX7_jumps_39 : decode cX7_jumps 39 = .ok (.iconst 1, 1) := dk_4 (dk_at dksX7_jumps_1 15 rfl rfl)
theorem dX7_jumps_40 : decode cX7_jumps 40 = .ok (.iadd, 1) := dk_96 (dk_at dksX7_jumps_1 16 rfl rfl)
theorem dX7_jumps_41 : decode cX7_jumps 41 = .ok (.putfield 144, 3) := dk_181 0 144 (dk_at dksX7_jumps_1 17 rfl rfl)
theorem dX7_jumps_44 : decode cX7_jumps 44 = .ok (.return_, 1) := dk_177 (dk_at dksX7_jumps_1 20 rfl rfl)
abbrev cX7_takes : ByteArray := prog_19_method_23_code
def yX7_takes : MethodName := ⟨RX7, "takes", "(I)Z"⟩
def dkwX7_takes_1 : List UInt8 := [96, 181, 0, 144, 4, 172]
abbrev dktX7_takes_1 : List UInt8 := dkwX7_takes_1 ++ []
def dkwX7_takes_0 : List UInt8 := [42, 182, 0, 150, 27, 159, 0, 13, 42, 4, 42, 180, 0, 144, 182, 0, 157, 172, 42, 42, 180, 0, 144, 4]
abbrev dktX7_takes_0 : List UInt8 := dkwX7_takes_0 ++ dktX7_takes_1
theorem dksX7_takes_0 : cX7_takes.data.toList.drop 0 = dktX7_takes_0 := by decide +kernel
theorem dksX7_takes_1 : cX7_takes.data.toList.drop 24 = dktX7_takes_1 := dk_seg dksX7_takes_0 24 rfl rfl
theorem dX7_takes_0 : decode cX7_takes 0 = .ok (.aload_n 0, 1) := dk_42 (dk_at dksX7_takes_0 0 rfl rfl)
theorem dX7_takes_1 : decode cX7_takes 1 = .ok (.invokevirtual 150, 3) := dk_182 0 150 (dk_at dksX7_takes_0 1 rfl rfl)
theorem dX7_takes_4 : decode cX7_takes 4 = .ok (.iload_n 1, 1) := dk_27 (dk_at dksX7_takes_0 4 rfl rfl)
theorem dX7_takes_5 : decode cX7_takes 5 = .ok (.if_icmp .eq 13, 3) := dk_159 0 13 (dk_at dksX7_takes_0 5 rfl rfl)
theorem dX7_takes_8 : decode cX7_takes 8 = .ok (.aload_n 0, 1) := dk_42 (dk_at dksX7_takes_0 8 rfl rfl)
theorem dX7_takes_9 : decode cX7_takes 9 = .ok (.iconst 1, 1) := dk_4 (dk_at dksX7_takes_0 9 rfl rfl)
theorem dX7_takes_10 : decode cX7_takes 10 = .ok (.aload_n 0, 1) := dk_42 (dk_at dksX7_takes_0 10 rfl rfl)
theorem dX7_takes_11 : decode cX7_takes 11 = .ok (.getfield 144, 3) := dk_180 0 144 (dk_at dksX7_takes_0 11 rfl rfl)
theorem dX7_takes_14 : decode cX7_takes 14 = .ok (.invokevirtual 157, 3) := dk_182 0 157 (dk_at dksX7_takes_0 14 rfl rfl)
theorem dX7_takes_17 : decode cX7_takes 17 = .ok (.ireturn, 1) := dk_172 (dk_at dksX7_takes_0 17 rfl rfl)
theorem dX7_takes_18 : decode cX7_takes 18 = .ok (.aload_n 0, 1) := dk_42 (dk_at dksX7_takes_0 18 rfl rfl)
theorem dX7_takes_19 : decode cX7_takes 19 = .ok (.aload_n 0, 1) := dk_42 (dk_at dksX7_takes_0 19 rfl rfl)
theorem dX7_takes_20 : decode cX7_takes 20 = .ok (.getfield 144, 3) := dk_180 0 144 (dk_at dksX7_takes_0 20 rfl rfl)
theorem dX7_takes_23 : decode cX7_takes 23 = .ok (.iconst 1, 1) := dk_4 (dk_at dksX7_takes_0 23 rfl rfl)
theorem dX7_takes_24 : decode cX7_takes 24 = .ok (.iadd, 1) := dk_96 (dk_at dksX7_takes_1 0 rfl rfl)
theorem dX7_takes_25 : decode cX7_takes 25 = .ok (.putfield 144, 3) := dk_181 0 144 (dk_at dksX7_takes_1 1 rfl rfl)
theorem dX7_takes_28 : decode cX7_takes 28 = .ok (.iconst 1, 1) := dk_4 (dk_at dksX7_takes_1 4 rfl rfl)
theorem dX7_takes_29 : decode cX7_takes 29 = .ok (.ireturn, 1) := dk_172 (dk_at dksX7_takes_1 5 rfl rfl)
abbrev cX7_rule : ByteArray := prog_19_method_43_code
def yX7_rule : MethodName := ⟨RX7, "rule", "(II)I"⟩
def dkwX7_rule_0 : List UInt8 := [27, 3, 6, 184, 0, 126, 153, 0, 14, 42, 27, 4, 96, 28, 182, 0, 237, 167, 0, 4, 2, 172]
abbrev dktX7_rule_0 : List UInt8 := dkwX7_rule_0 ++ []
theorem dksX7_rule_0 : cX7_rule.data.toList.drop 0 = dktX7_rule_0 := by decide +kernel
theorem dX7_rule_0 : decode cX7_rule 0 = .ok (.iload_n 1, 1) := dk_27 (dk_at dksX7_rule_0 0 rfl rfl)
theorem dX7_rule_1 : decode cX7_rule 1 = .ok (.iconst 0, 1) := dk_3 (dk_at dksX7_rule_0 1 rfl rfl)
theorem dX7_rule_2 : decode cX7_rule 2 = .ok (.iconst 3, 1) := dk_6 (dk_at dksX7_rule_0 2 rfl rfl)
theorem dX7_rule_3 : decode cX7_rule 3 = .ok (.invokestatic 126, 3) := dk_184 0 126 (dk_at dksX7_rule_0 3 rfl rfl)
theorem dX7_rule_6 : decode cX7_rule 6 = .ok (.ifCond .eq 14, 3) := dk_153 0 14 (dk_at dksX7_rule_0 6 rfl rfl)
theorem dX7_rule_9 : decode cX7_rule 9 = .ok (.aload_n 0, 1) := dk_42 (dk_at dksX7_rule_0 9 rfl rfl)
theorem dX7_rule_10 : decode cX7_rule 10 = .ok (.iload_n 1, 1) := dk_27 (dk_at dksX7_rule_0 10 rfl rfl)
theorem dX7_rule_11 : decode cX7_rule 11 = .ok (.iconst 1, 1) := dk_4 (dk_at dksX7_rule_0 11 rfl rfl)
theorem dX7_rule_12 : decode cX7_rule 12 = .ok (.iadd, 1) := dk_96 (dk_at dksX7_rule_0 12 rfl rfl)
theorem dX7_rule_13 : decode cX7_rule 13 = .ok (.iload_n 2, 1) := dk_28 (dk_at dksX7_rule_0 13 rfl rfl)
theorem dX7_rule_14 : decode cX7_rule 14 = .ok (.invokevirtual 237, 3) := dk_182 0 237 (dk_at dksX7_rule_0 14 rfl rfl)
theorem dX7_rule_17 : decode cX7_rule 17 = .ok (.goto 4, 3) := dk_167 0 4 (dk_at dksX7_rule_0 17 rfl rfl)
theorem dX7_rule_20 : decode cX7_rule 20 = .ok (.iconst (-1), 1) := dk_2 (dk_at dksX7_rule_0 20 rfl rfl)
theorem dX7_rule_21 : decode cX7_rule 21 = .ok (.ireturn, 1) := dk_172 (dk_at dksX7_rule_0 21 rfl rfl)
abbrev cX7_gives : ByteArray := prog_19_method_50_code
def yX7_gives : MethodName := ⟨RX7, "gives", "(II)I"⟩
def dkwX7_gives_1 : List UInt8 := [153, 0, 12, 42, 27, 28, 182, 1, 6, 167, 0, 4, 3, 172]
abbrev dktX7_gives_1 : List UInt8 := dkwX7_gives_1 ++ []
def dkwX7_gives_0 : List UInt8 := [42, 27, 182, 1, 3, 153, 0, 11, 42, 28, 182, 0, 122, 154, 0, 5, 2, 172, 42, 28, 182, 0, 130]
abbrev dktX7_gives_0 : List UInt8 := dkwX7_gives_0 ++ dktX7_gives_1
theorem dksX7_gives_0 : cX7_gives.data.toList.drop 0 = dktX7_gives_0 := by decide +kernel
theorem dksX7_gives_1 : cX7_gives.data.toList.drop 23 = dktX7_gives_1 := dk_seg dksX7_gives_0 23 rfl rfl
theorem dX7_gives_0 : decode cX7_gives 0 = .ok (.aload_n 0, 1) := dk_42 (dk_at dksX7_gives_0 0 rfl rfl)
theorem dX7_gives_1 : decode cX7_gives 1 = .ok (.iload_n 1, 1) := dk_27 (dk_at dksX7_gives_0 1 rfl rfl)
theorem dX7_gives_2 : decode cX7_gives 2 = .ok (.invokevirtual 259, 3) := dk_182 1 3 (dk_at dksX7_gives_0 2 rfl rfl)
theorem dX7_gives_5 : decode cX7_gives 5 = .ok (.ifCond .eq 11, 3) := dk_153 0 11 (dk_at dksX7_gives_0 5 rfl rfl)
theorem dX7_gives_8 : decode cX7_gives 8 = .ok (.aload_n 0, 1) := dk_42 (dk_at dksX7_gives_0 8 rfl rfl)
theorem dX7_gives_9 : decode cX7_gives 9 = .ok (.iload_n 2, 1) := dk_28 (dk_at dksX7_gives_0 9 rfl rfl)
theorem dX7_gives_10 : decode cX7_gives 10 = .ok (.invokevirtual 122, 3) := dk_182 0 122 (dk_at dksX7_gives_0 10 rfl rfl)
theorem dX7_gives_13 : decode cX7_gives 13 = .ok (.ifCond .ne 5, 3) := dk_154 0 5 (dk_at dksX7_gives_0 13 rfl rfl)
theorem dX7_gives_16 : decode cX7_gives 16 = .ok (.iconst (-1), 1) := dk_2 (dk_at dksX7_gives_0 16 rfl rfl)
theorem dX7_gives_17 : decode cX7_gives 17 = .ok (.ireturn, 1) := dk_172 (dk_at dksX7_gives_0 17 rfl rfl)
theorem dX7_gives_18 : decode cX7_gives 18 = .ok (.aload_n 0, 1) := dk_42 (dk_at dksX7_gives_0 18 rfl rfl)
theorem dX7_gives_19 : decode cX7_gives 19 = .ok (.iload_n 2, 1) := dk_28 (dk_at dksX7_gives_0 19 rfl rfl)
theorem dX7_gives_20 : decode cX7_gives 20 = .ok (.invokevirtual 130, 3) := dk_182 0 130 (dk_at dksX7_gives_0 20 rfl rfl)
theorem dX7_gives_23 : decode cX7_gives 23 = .ok (.ifCond .eq 12, 3) := dk_153 0 12 (dk_at dksX7_gives_1 0 rfl rfl)
theorem dX7_gives_26 : decode cX7_gives 26 = .ok (.aload_n 0, 1) := dk_42 (dk_at dksX7_gives_1 3 rfl rfl)
theorem dX7_gives_27 : decode cX7_gives 27 = .ok (.iload_n 1, 1) := dk_27 (dk_at dksX7_gives_1 4 rfl rfl)
theorem dX7_gives_28 : decode cX7_gives 28 = .ok (.iload_n 2, 1) := dk_28 (dk_at dksX7_gives_1 5 rfl rfl)
theorem dX7_gives_29 : decode cX7_gives 29 = .ok (.invokevirtual 262, 3) := dk_182 1 6 (dk_at dksX7_gives_1 6 rfl rfl)
theorem dX7_gives_32 : decode cX7_gives 32 = .ok (.goto 4, 3) := dk_167 0 4 (dk_at dksX7_gives_1 9 rfl rfl)
theorem dX7_gives_35 : decode cX7_gives 35 = .ok (.iconst 0, 1) := dk_3 (dk_at dksX7_gives_1 12 rfl rfl)
theorem dX7_gives_36 : decode cX7_gives 36 = .ok (.ireturn, 1) := dk_172 (dk_at dksX7_gives_1 13 rfl rfl)
abbrev cX7_isPerson : ByteArray := prog_19_method_13_code
def yX7_isPerson : MethodName := ⟨RX7, "isPerson", "(I)Z"⟩
def dkwX7_isPerson_1 : List UInt8 := [4, 167, 0, 4, 3, 172]
abbrev dktX7_isPerson_1 : List UInt8 := dkwX7_isPerson_1 ++ []
def dkwX7_isPerson_0 : List UInt8 := [27, 155, 0, 27, 27, 16, 8, 162, 0, 21, 42, 180, 0, 7, 16, 78, 46, 27, 184, 0, 118, 153, 0, 7]
abbrev dktX7_isPerson_0 : List UInt8 := dkwX7_isPerson_0 ++ dktX7_isPerson_1
theorem dksX7_isPerson_0 : cX7_isPerson.data.toList.drop 0 = dktX7_isPerson_0 := by decide +kernel
theorem dksX7_isPerson_1 : cX7_isPerson.data.toList.drop 24 = dktX7_isPerson_1 := dk_seg dksX7_isPerson_0 24 rfl rfl
theorem dX7_isPerson_0 : decode cX7_isPerson 0 = .ok (.iload_n 1, 1) := dk_27 (dk_at dksX7_isPerson_0 0 rfl rfl)
theorem dX7_isPerson_1 : decode cX7_isPerson 1 = .ok (.ifCond .lt 27, 3) := dk_155 0 27 (dk_at dksX7_isPerson_0 1 rfl rfl)
theorem dX7_isPerson_4 : decode cX7_isPerson 4 = .ok (.iload_n 1, 1) := dk_27 (dk_at dksX7_isPerson_0 4 rfl rfl)
theorem dX7_isPerson_5 : decode cX7_isPerson 5 = .ok (.bipush 8, 2) := dk_16 8 (dk_at dksX7_isPerson_0 5 rfl rfl)
theorem dX7_isPerson_7 : decode cX7_isPerson 7 = .ok (.if_icmp .ge 21, 3) := dk_162 0 21 (dk_at dksX7_isPerson_0 7 rfl rfl)
theorem dX7_isPerson_10 : decode cX7_isPerson 10 = .ok (.aload_n 0, 1) := dk_42 (dk_at dksX7_isPerson_0 10 rfl rfl)
theorem dX7_isPerson_11 : decode cX7_isPerson 11 = .ok (.getfield 7, 3) := dk_180 0 7 (dk_at dksX7_isPerson_0 11 rfl rfl)
theorem dX7_isPerson_14 : decode cX7_isPerson 14 = .ok (.bipush 78, 2) := dk_16 78 (dk_at dksX7_isPerson_0 14 rfl rfl)
theorem dX7_isPerson_16 : decode cX7_isPerson 16 = .ok (.iaload, 1) := dk_46 (dk_at dksX7_isPerson_0 16 rfl rfl)
theorem dX7_isPerson_17 : decode cX7_isPerson 17 = .ok (.iload_n 1, 1) := dk_27 (dk_at dksX7_isPerson_0 17 rfl rfl)
theorem dX7_isPerson_18 : decode cX7_isPerson 18 = .ok (.invokestatic 118, 3) := dk_184 0 118 (dk_at dksX7_isPerson_0 18 rfl rfl)
theorem dX7_isPerson_21 : decode cX7_isPerson 21 = .ok (.ifCond .eq 7, 3) := dk_153 0 7 (dk_at dksX7_isPerson_0 21 rfl rfl)
theorem dX7_isPerson_24 : decode cX7_isPerson 24 = .ok (.iconst 1, 1) := dk_4 (dk_at dksX7_isPerson_1 0 rfl rfl)
theorem dX7_isPerson_25 : decode cX7_isPerson 25 = .ok (.goto 4, 3) := dk_167 0 4 (dk_at dksX7_isPerson_1 1 rfl rfl)
theorem dX7_isPerson_28 : decode cX7_isPerson 28 = .ok (.iconst 0, 1) := dk_3 (dk_at dksX7_isPerson_1 4 rfl rfl)
theorem dX7_isPerson_29 : decode cX7_isPerson 29 = .ok (.ireturn, 1) := dk_172 (dk_at dksX7_isPerson_1 5 rfl rfl)
abbrev cX7_cupsOf : ByteArray := prog_19_method_49_code
def yX7_cupsOf : MethodName := ⟨RX7, "cupsOf", "(II)I"⟩
def dkwX7_cupsOf_2 : List UInt8 := [180, 0, 7, 16, 60, 27, 96, 46, 4, 96, 16, 103, 16, 9, 182, 1, 0, 172]
abbrev dktX7_cupsOf_2 : List UInt8 := dkwX7_cupsOf_2 ++ []
def dkwX7_cupsOf_1 : List UInt8 := [16, 52, 27, 96, 46, 79, 42, 180, 0, 62, 16, 12, 42, 180, 0, 7, 16, 68, 27, 96, 46, 79, 42, 42]
abbrev dktX7_cupsOf_1 : List UInt8 := dkwX7_cupsOf_1 ++ dktX7_cupsOf_2
def dkwX7_cupsOf_0 : List UInt8 := [42, 28, 182, 0, 253, 42, 180, 0, 62, 16, 8, 27, 79, 42, 180, 0, 62, 16, 9, 42, 180, 0, 7]
abbrev dktX7_cupsOf_0 : List UInt8 := dkwX7_cupsOf_0 ++ dktX7_cupsOf_1
theorem dksX7_cupsOf_0 : cX7_cupsOf.data.toList.drop 0 = dktX7_cupsOf_0 := by decide +kernel
theorem dksX7_cupsOf_1 : cX7_cupsOf.data.toList.drop 23 = dktX7_cupsOf_1 := dk_seg dksX7_cupsOf_0 23 rfl rfl
theorem dksX7_cupsOf_2 : cX7_cupsOf.data.toList.drop 47 = dktX7_cupsOf_2 := dk_seg dksX7_cupsOf_1 24 rfl rfl
theorem dX7_cupsOf_0 : decode cX7_cupsOf 0 = .ok (.aload_n 0, 1) := dk_42 (dk_at dksX7_cupsOf_0 0 rfl rfl)
theorem dX7_cupsOf_1 : decode cX7_cupsOf 1 = .ok (.iload_n 2, 1) := dk_28 (dk_at dksX7_cupsOf_0 1 rfl rfl)
theorem dX7_cupsOf_2 : decode cX7_cupsOf 2 = .ok (.invokevirtual 253, 3) := dk_182 0 253 (dk_at dksX7_cupsOf_0 2 rfl rfl)
theorem dX7_cupsOf_5 : decode cX7_cupsOf 5 = .ok (.aload_n 0, 1) := dk_42 (dk_at dksX7_cupsOf_0 5 rfl rfl)
theorem dX7_cupsOf_6 : decode cX7_cupsOf 6 = .ok (.getfield 62, 3) := dk_180 0 62 (dk_at dksX7_cupsOf_0 6 rfl rfl)
theorem dX7_cupsOf_9 : decode cX7_cupsOf 9 = .ok (.bipush 8, 2) := dk_16 8 (dk_at dksX7_cupsOf_0 9 rfl rfl)
theorem dX7_cupsOf_11 : decode cX7_cupsOf 11 = .ok (.iload_n 1, 1) := dk_27 (dk_at dksX7_cupsOf_0 11 rfl rfl)
theorem dX7_cupsOf_12 : decode cX7_cupsOf 12 = .ok (.iastore, 1) := dk_79 (dk_at dksX7_cupsOf_0 12 rfl rfl)
theorem dX7_cupsOf_13 : decode cX7_cupsOf 13 = .ok (.aload_n 0, 1) := dk_42 (dk_at dksX7_cupsOf_0 13 rfl rfl)
theorem dX7_cupsOf_14 : decode cX7_cupsOf 14 = .ok (.getfield 62, 3) := dk_180 0 62 (dk_at dksX7_cupsOf_0 14 rfl rfl)
theorem dX7_cupsOf_17 : decode cX7_cupsOf 17 = .ok (.bipush 9, 2) := dk_16 9 (dk_at dksX7_cupsOf_0 17 rfl rfl)
theorem dX7_cupsOf_19 : decode cX7_cupsOf 19 = .ok (.aload_n 0, 1) := dk_42 (dk_at dksX7_cupsOf_0 19 rfl rfl)
theorem dX7_cupsOf_20 : decode cX7_cupsOf 20 = .ok (.getfield 7, 3) := dk_180 0 7 (dk_at dksX7_cupsOf_0 20 rfl rfl)
theorem dX7_cupsOf_23 : decode cX7_cupsOf 23 = .ok (.bipush 52, 2) := dk_16 52 (dk_at dksX7_cupsOf_1 0 rfl rfl)
theorem dX7_cupsOf_25 : decode cX7_cupsOf 25 = .ok (.iload_n 1, 1) := dk_27 (dk_at dksX7_cupsOf_1 2 rfl rfl)
theorem dX7_cupsOf_26 : decode cX7_cupsOf 26 = .ok (.iadd, 1) := dk_96 (dk_at dksX7_cupsOf_1 3 rfl rfl)
theorem dX7_cupsOf_27 : decode cX7_cupsOf 27 = .ok (.iaload, 1) := dk_46 (dk_at dksX7_cupsOf_1 4 rfl rfl)
theorem dX7_cupsOf_28 : decode cX7_cupsOf 28 = .ok (.iastore, 1) := dk_79 (dk_at dksX7_cupsOf_1 5 rfl rfl)
theorem dX7_cupsOf_29 : decode cX7_cupsOf 29 = .ok (.aload_n 0, 1) := dk_42 (dk_at dksX7_cupsOf_1 6 rfl rfl)
theorem dX7_cupsOf_30 : decode cX7_cupsOf 30 = .ok (.getfield 62, 3) := dk_180 0 62 (dk_at dksX7_cupsOf_1 7 rfl rfl)
theorem dX7_cupsOf_33 : decode cX7_cupsOf 33 = .ok (.bipush 12, 2) := dk_16 12 (dk_at dksX7_cupsOf_1 10 rfl rfl)
theorem dX7_cupsOf_35 : decode cX7_cupsOf 35 = .ok (.aload_n 0, 1) := dk_42 (dk_at dksX7_cupsOf_1 12 rfl rfl)
theorem dX7_cupsOf_36 : decode cX7_cupsOf 36 = .ok (.getfield 7, 3) := dk_180 0 7 (dk_at dksX7_cupsOf_1 13 rfl rfl)
theorem dX7_cupsOf_39 : decode cX7_cupsOf 39 = .ok (.bipush 68, 2) := dk_16 68 (dk_at dksX7_cupsOf_1 16 rfl rfl)
theorem dX7_cupsOf_41 : decode cX7_cupsOf 41 = .ok (.iload_n 1, 1) := dk_27 (dk_at dksX7_cupsOf_1 18 rfl rfl)
theorem dX7_cupsOf_42 : decode cX7_cupsOf 42 = .ok (.iadd, 1) := dk_96 (dk_at dksX7_cupsOf_1 19 rfl rfl)
theorem dX7_cupsOf_43 : decode cX7_cupsOf 43 = .ok (.iaload, 1) := dk_46 (dk_at dksX7_cupsOf_1 20 rfl rfl)
theorem dX7_cupsOf_44 : decode cX7_cupsOf 44 = .ok (.iastore, 1) := dk_79 (dk_at dksX7_cupsOf_1 21 rfl rfl)
theorem dX7_cupsOf_45 : decode cX7_cupsOf 45 = .ok (.aload_n 0, 1) := dk_42 (dk_at dksX7_cupsOf_1 22 rfl rfl)
theorem dX7_cupsOf_46 : decode cX7_cupsOf 46 = .ok (.aload_n 0, 1) := dk_42 (dk_at dksX7_cupsOf_1 23 rfl rfl)
theorem dX7_cupsOf_47 : decode cX7_cupsOf 47 = .ok (.getfield 7, 3) := dk_180 0 7 (dk_at dksX7_cupsOf_2 0 rfl rfl)
theorem dX7_cupsOf_50 : decode cX7_cupsOf 50 = .ok (.bipush 60, 2) := dk_16 60 (dk_at dksX7_cupsOf_2 3 rfl rfl)
theorem dX7_cupsOf_52 : decode cX7_cupsOf 52 = .ok (.iload_n 1, 1) := dk_27 (dk_at dksX7_cupsOf_2 5 rfl rfl)
theorem dX7_cupsOf_53 : decode cX7_cupsOf 53 = .ok (.iadd, 1) := dk_96 (dk_at dksX7_cupsOf_2 6 rfl rfl)
theorem dX7_cupsOf_54 : decode cX7_cupsOf 54 = .ok (.iaload, 1) := dk_46 (dk_at dksX7_cupsOf_2 7 rfl rfl)
theorem dX7_cupsOf_55 : decode cX7_cupsOf 55 = .ok (.iconst 1, 1) := dk_4 (dk_at dksX7_cupsOf_2 8 rfl rfl)
theorem dX7_cupsOf_56 : decode cX7_cupsOf 56 = .ok (.iadd, 1) := dk_96 (dk_at dksX7_cupsOf_2 9 rfl rfl)
theorem dX7_cupsOf_57 : decode cX7_cupsOf 57 = .ok (.bipush 103, 2) := dk_16 103 (dk_at dksX7_cupsOf_2 10 rfl rfl)
theorem dX7_cupsOf_59 : decode cX7_cupsOf 59 = .ok (.bipush 9, 2) := dk_16 9 (dk_at dksX7_cupsOf_2 12 rfl rfl)
theorem dX7_cupsOf_61 : decode cX7_cupsOf 61 = .ok (.invokevirtual 256, 3) := dk_182 1 0 (dk_at dksX7_cupsOf_2 14 rfl rfl)
theorem dX7_cupsOf_64 : decode cX7_cupsOf 64 = .ok (.ireturn, 1) := dk_172 (dk_at dksX7_cupsOf_2 17 rfl rfl)
abbrev cX7_feelsPlant : ByteArray := prog_19_method_48_code
def yX7_feelsPlant : MethodName := ⟨RX7, "feelsPlant", "(I)V"⟩
def dkwX7_feelsPlant_5 : List UInt8 := [16, 79, 46, 42, 180, 0, 7, 16, 20, 27, 96, 46, 100, 79, 177]
abbrev dktX7_feelsPlant_5 : List UInt8 := dkwX7_feelsPlant_5 ++ []
def dkwX7_feelsPlant_4 : List UInt8 := [16, 11, 42, 180, 0, 7, 16, 20, 27, 96, 46, 156, 0, 8, 16, 99, 167, 0, 20, 42, 180, 0, 7]
abbrev dktX7_feelsPlant_4 : List UInt8 := dkwX7_feelsPlant_4 ++ dktX7_feelsPlant_5
def dkwX7_feelsPlant_3 : List UInt8 := [27, 96, 46, 79, 42, 180, 0, 62, 16, 7, 42, 180, 0, 7, 16, 16, 27, 96, 46, 79, 42, 180, 0, 62]
abbrev dktX7_feelsPlant_3 : List UInt8 := dkwX7_feelsPlant_3 ++ dktX7_feelsPlant_4
def dkwX7_feelsPlant_2 : List UInt8 := [16, 24, 16, 7, 27, 104, 96, 16, 6, 96, 46, 79, 42, 180, 0, 62, 16, 6, 42, 180, 0, 7, 16, 12]
abbrev dktX7_feelsPlant_2 : List UInt8 := dkwX7_feelsPlant_2 ++ dktX7_feelsPlant_3
def dkwX7_feelsPlant_1 : List UInt8 := [79, 42, 180, 0, 62, 7, 42, 180, 0, 7, 7, 27, 96, 46, 79, 42, 180, 0, 62, 8, 42, 180, 0, 7]
abbrev dktX7_feelsPlant_1 : List UInt8 := dkwX7_feelsPlant_1 ++ dktX7_feelsPlant_2
def dkwX7_feelsPlant_0 : List UInt8 := [42, 182, 0, 250, 42, 180, 0, 62, 5, 27, 79, 42, 180, 0, 62, 6, 42, 180, 0, 7, 3, 27, 96, 46]
abbrev dktX7_feelsPlant_0 : List UInt8 := dkwX7_feelsPlant_0 ++ dktX7_feelsPlant_1
theorem dksX7_feelsPlant_0 : cX7_feelsPlant.data.toList.drop 0 = dktX7_feelsPlant_0 := by decide +kernel
theorem dksX7_feelsPlant_1 : cX7_feelsPlant.data.toList.drop 24 = dktX7_feelsPlant_1 := dk_seg dksX7_feelsPlant_0 24 rfl rfl
theorem dksX7_feelsPlant_2 : cX7_feelsPlant.data.toList.drop 48 = dktX7_feelsPlant_2 := dk_seg dksX7_feelsPlant_1 24 rfl rfl
theorem dksX7_feelsPlant_3 : cX7_feelsPlant.data.toList.drop 72 = dktX7_feelsPlant_3 := dk_seg dksX7_feelsPlant_2 24 rfl rfl
theorem dksX7_feelsPlant_4 : cX7_feelsPlant.data.toList.drop 96 = dktX7_feelsPlant_4 := dk_seg dksX7_feelsPlant_3 24 rfl rfl
theorem dksX7_feelsPlant_5 : cX7_feelsPlant.data.toList.drop 119 = dktX7_feelsPlant_5 := dk_seg dksX7_feelsPlant_4 23 rfl rfl
theorem dX7_feelsPlant_0 : decode cX7_feelsPlant 0 = .ok (.aload_n 0, 1) := dk_42 (dk_at dksX7_feelsPlant_0 0 rfl rfl)
theorem dX7_feelsPlant_1 : decode cX7_feelsPlant 1 = .ok (.invokevirtual 250, 3) := dk_182 0 250 (dk_at dksX7_feelsPlant_0 1 rfl rfl)
theorem dX7_feelsPlant_4 : decode cX7_feelsPlant 4 = .ok (.aload_n 0, 1) := dk_42 (dk_at dksX7_feelsPlant_0 4 rfl rfl)
theorem dX7_feelsPlant_5 : decode cX7_feelsPlant 5 = .ok (.getfield 62, 3) := dk_180 0 62 (dk_at dksX7_feelsPlant_0 5 rfl rfl)
theorem dX7_feelsPlant_8 : decode cX7_feelsPlant 8 = .ok (.iconst 2, 1) := dk_5 (dk_at dksX7_feelsPlant_0 8 rfl rfl)
theorem dX7_feelsPlant_9 : decode cX7_feelsPlant 9 = .ok (.iload_n 1, 1) := dk_27 (dk_at dksX7_feelsPlant_0 9 rfl rfl)
theorem dX7_feelsPlant_10 : decode cX7_feelsPlant 10 = .ok (.iastore, 1) := dk_79 (dk_at dksX7_feelsPlant_0 10 rfl rfl)
theorem dX7_feelsPlant_11 : decode cX7_feelsPlant 11 = .ok (.aload_n 0, 1) := dk_42 (dk_at dksX7_feelsPlant_0 11 rfl rfl)
theorem dX7_feelsPlant_12 : decode cX7_feelsPlant 12 = .ok (.getfield 62, 3) := dk_180 0 62 (dk_at dksX7_feelsPlant_0 12 rfl rfl)
theorem dX7_feelsPlant_15 : decode cX7_feelsPlant 15 = .ok (.iconst 3, 1) := dk_6 (dk_at dksX7_feelsPlant_0 15 rfl rfl)
theorem dX7_feelsPlant_16 : decode cX7_feelsPlant 16 = .ok (.aload_n 0, 1) := dk_42 (dk_at dksX7_feelsPlant_0 16 rfl rfl)
theorem dX7_feelsPlant_17 : decode cX7_feelsPlant 17 = .ok (.getfield 7, 3) := dk_180 0 7 (dk_at dksX7_feelsPlant_0 17 rfl rfl)
theorem dX7_feelsPlant_20 : decode cX7_feelsPlant 20 = .ok (.iconst 0, 1) := dk_3 (dk_at dksX7_feelsPlant_0 20 rfl rfl)
theorem dX7_feelsPlant_21 : decode cX7_feelsPlant 21 = .ok (.iload_n 1, 1) := dk_27 (dk_at dksX7_feelsPlant_0 21 rfl rfl)
theorem dX7_feelsPlant_22 : decode cX7_feelsPlant 22 = .ok (.iadd, 1) := dk_96 (dk_at dksX7_feelsPlant_0 22 rfl rfl)
theorem dX7_feelsPlant_23 : decode cX7_feelsPlant 23 = .ok (.iaload, 1) := dk_46 (dk_at dksX7_feelsPlant_0 23 rfl rfl)
theorem dX7_feelsPlant_24 : decode cX7_feelsPlant 24 = .ok (.iastore, 1) := dk_79 (dk_at dksX7_feelsPlant_1 0 rfl rfl)
theorem dX7_feelsPlant_25 : decode cX7_feelsPlant 25 = .ok (.aload_n 0, 1) := dk_42 (dk_at dksX7_feelsPlant_1 1 rfl rfl)
theorem dX7_feelsPlant_26 : decode cX7_feelsPlant 26 = .ok (.getfield 62, 3) := dk_180 0 62 (dk_at dksX7_feelsPlant_1 2 rfl rfl)
theorem dX7_feelsPlant_29 : decode cX7_feelsPlant 29 = .ok (.iconst 4, 1) := dk_7 (dk_at dksX7_feelsPlant_1 5 rfl rfl)
theorem dX7_feelsPlant_30 : decode cX7_feelsPlant 30 = .ok (.aload_n 0, 1) := dk_42 (dk_at dksX7_feelsPlant_1 6 rfl rfl)
theorem dX7_feelsPlant_31 : decode cX7_feelsPlant 31 = .ok (.getfield 7, 3) := dk_180 0 7 (dk_at dksX7_feelsPlant_1 7 rfl rfl)
theorem dX7_feelsPlant_34 : decode cX7_feelsPlant 34 = .ok (.iconst 4, 1) := dk_7 (dk_at dksX7_feelsPlant_1 10 rfl rfl)
theorem dX7_feelsPlant_35 : decode cX7_feelsPlant 35 = .ok (.iload_n 1, 1) := dk_27 (dk_at dksX7_feelsPlant_1 11 rfl rfl)
theorem dX7_feelsPlant_36 : decode cX7_feelsPlant 36 = .ok (.iadd, 1) := dk_96 (dk_at dksX7_feelsPlant_1 12 rfl rfl)
theorem dX7_feelsPlant_37 : decode cX7_feelsPlant 37 = .ok (.iaload, 1) := dk_46 (dk_at dksX7_feelsPlant_1 13 rfl rfl)
theorem dX7_feelsPlant_38 : decode cX7_feelsPlant 38 = .ok (.iastore, 1) := dk_79 (dk_at dksX7_feelsPlant_1 14 rfl rfl)
theorem dX7_feelsPlant_39 : decode cX7_feelsPlant 39 = .ok (.aload_n 0, 1) := dk_42 (dk_at dksX7_feelsPlant_1 15 rfl rfl)
theorem dX7_feelsPlant_40 : decode cX7_feelsPlant 40 = .ok (.getfield 62, 3) := dk_180 0 62 (dk_at dksX7_feelsPlant_1 16 rfl rfl)
theorem dX7_feelsPlant_43 : decode cX7_feelsPlant 43 = .ok (.iconst 5, 1) := dk_8 (dk_at dksX7_feelsPlant_1 19 rfl rfl)
theorem dX7_feelsPlant_44 : decode cX7_feelsPlant 44 = .ok (.aload_n 0, 1) := dk_42 (dk_at dksX7_feelsPlant_1 20 rfl rfl)
theorem dX7_feelsPlant_45 : decode cX7_feelsPlant 45 = .ok (.getfield 7, 3) := dk_180 0 7 (dk_at dksX7_feelsPlant_1 21 rfl rfl)
theorem dX7_feelsPlant_48 : decode cX7_feelsPlant 48 = .ok (.bipush 24, 2) := dk_16 24 (dk_at dksX7_feelsPlant_2 0 rfl rfl)
theorem dX7_feelsPlant_50 : decode cX7_feelsPlant 50 = .ok (.bipush 7, 2) := dk_16 7 (dk_at dksX7_feelsPlant_2 2 rfl rfl)
theorem dX7_feelsPlant_52 : decode cX7_feelsPlant 52 = .ok (.iload_n 1, 1) := dk_27 (dk_at dksX7_feelsPlant_2 4 rfl rfl)
theorem dX7_feelsPlant_53 : decode cX7_feelsPlant 53 = .ok (.imul, 1) := dk_104 (dk_at dksX7_feelsPlant_2 5 rfl rfl)
theorem dX7_feelsPlant_54 : decode cX7_feelsPlant 54 = .ok (.iadd, 1) := dk_96 (dk_at dksX7_feelsPlant_2 6 rfl rfl)
theorem dX7_feelsPlant_55 : decode cX7_feelsPlant 55 = .ok (.bipush 6, 2) := dk_16 6 (dk_at dksX7_feelsPlant_2 7 rfl rfl)
theorem dX7_feelsPlant_57 : decode cX7_feelsPlant 57 = .ok (.iadd, 1) := dk_96 (dk_at dksX7_feelsPlant_2 9 rfl rfl)
theorem dX7_feelsPlant_58 : decode cX7_feelsPlant 58 = .ok (.iaload, 1) := dk_46 (dk_at dksX7_feelsPlant_2 10 rfl rfl)
theorem dX7_feelsPlant_59 : decode cX7_feelsPlant 59 = .ok (.iastore, 1) := dk_79 (dk_at dksX7_feelsPlant_2 11 rfl rfl)
theorem dX7_feelsPlant_60 : decode cX7_feelsPlant 60 = .ok (.aload_n 0, 1) := dk_42 (dk_at dksX7_feelsPlant_2 12 rfl rfl)
theorem dX7_feelsPlant_61 : decode cX7_feelsPlant 61 = .ok (.getfield 62, 3) := dk_180 0 62 (dk_at dksX7_feelsPlant_2 13 rfl rfl)
theorem dX7_feelsPlant_64 : decode cX7_feelsPlant 64 = .ok (.bipush 6, 2) := dk_16 6 (dk_at dksX7_feelsPlant_2 16 rfl rfl)
theorem dX7_feelsPlant_66 : decode cX7_feelsPlant 66 = .ok (.aload_n 0, 1) := dk_42 (dk_at dksX7_feelsPlant_2 18 rfl rfl)
theorem dX7_feelsPlant_67 : decode cX7_feelsPlant 67 = .ok (.getfield 7, 3) := dk_180 0 7 (dk_at dksX7_feelsPlant_2 19 rfl rfl)
theorem dX7_feelsPlant_70 : decode cX7_feelsPlant 70 = .ok (.bipush 12, 2) := dk_16 12 (dk_at dksX7_feelsPlant_2 22 rfl rfl)
theorem dX7_feelsPlant_72 : decode cX7_feelsPlant 72 = .ok (.iload_n 1, 1) := dk_27 (dk_at dksX7_feelsPlant_3 0 rfl rfl)
theorem dX7_feelsPlant_73 : decode cX7_feelsPlant 73 = .ok (.iadd, 1) := dk_96 (dk_at dksX7_feelsPlant_3 1 rfl rfl)
theorem dX7_feelsPlant_74 : decode cX7_feelsPlant 74 = .ok (.iaload, 1) := dk_46 (dk_at dksX7_feelsPlant_3 2 rfl rfl)
theorem dX7_feelsPlant_75 : decode cX7_feelsPlant 75 = .ok (.iastore, 1) := dk_79 (dk_at dksX7_feelsPlant_3 3 rfl rfl)
theorem dX7_feelsPlant_76 : decode cX7_feelsPlant 76 = .ok (.aload_n 0, 1) := dk_42 (dk_at dksX7_feelsPlant_3 4 rfl rfl)
theorem dX7_feelsPlant_77 : decode cX7_feelsPlant 77 = .ok (.getfield 62, 3) := dk_180 0 62 (dk_at dksX7_feelsPlant_3 5 rfl rfl)
theorem dX7_feelsPlant_80 : decode cX7_feelsPlant 80 = .ok (.bipush 7, 2) := dk_16 7 (dk_at dksX7_feelsPlant_3 8 rfl rfl)
theorem dX7_feelsPlant_82 : decode cX7_feelsPlant 82 = .ok (.aload_n 0, 1) := dk_42 (dk_at dksX7_feelsPlant_3 10 rfl rfl)
theorem dX7_feelsPlant_83 : decode cX7_feelsPlant 83 = .ok (.getfield 7, 3) := dk_180 0 7 (dk_at dksX7_feelsPlant_3 11 rfl rfl)
theorem dX7_feelsPlant_86 : decode cX7_feelsPlant 86 = .ok (.bipush 16, 2) := dk_16 16 (dk_at dksX7_feelsPlant_3 14 rfl rfl)
theorem dX7_feelsPlant_88 : decode cX7_feelsPlant 88 = .ok (.iload_n 1, 1) := dk_27 (dk_at dksX7_feelsPlant_3 16 rfl rfl)
theorem dX7_feelsPlant_89 : decode cX7_feelsPlant 89 = .ok (.iadd, 1) := dk_96 (dk_at dksX7_feelsPlant_3 17 rfl rfl)
theorem dX7_feelsPlant_90 : decode cX7_feelsPlant 90 = .ok (.iaload, 1) := dk_46 (dk_at dksX7_feelsPlant_3 18 rfl rfl)
theorem dX7_feelsPlant_91 : decode cX7_feelsPlant 91 = .ok (.iastore, 1) := dk_79 (dk_at dksX7_feelsPlant_3 19 rfl rfl)
theorem dX7_feelsPlant_92 : decode cX7_feelsPlant 92 = .ok (.aload_n 0, 1) := dk_42 (dk_at dksX7_feelsPlant_3 20 rfl rfl)
theorem dX7_feelsPlant_93 : decode cX7_feelsPlant 93 = .ok (.getfield 62, 3) := dk_180 0 62 (dk_at dksX7_feelsPlant_3 21 rfl rfl)
theorem dX7_feelsPlant_96 : decode cX7_feelsPlant 96 = .ok (.bipush 11, 2) := dk_16 11 (dk_at dksX7_feelsPlant_4 0 rfl rfl)
theorem dX7_feelsPlant_98 : decode cX7_feelsPlant 98 = .ok (.aload_n 0, 1) := dk_42 (dk_at dksX7_feelsPlant_4 2 rfl rfl)
theorem dX7_feelsPlant_99 : decode cX7_feelsPlant 99 = .ok (.getfield 7, 3) := dk_180 0 7 (dk_at dksX7_feelsPlant_4 3 rfl rfl)
theorem dX7_feelsPlant_102 : decode cX7_feelsPlant 102 = .ok (.bipush 20, 2) := dk_16 20 (dk_at dksX7_feelsPlant_4 6 rfl rfl)
theorem dX7_feelsPlant_104 : decode cX7_feelsPlant 104 = .ok (.iload_n 1, 1) := dk_27 (dk_at dksX7_feelsPlant_4 8 rfl rfl)
theorem dX7_feelsPlant_105 : decode cX7_feelsPlant 105 = .ok (.iadd, 1) := dk_96 (dk_at dksX7_feelsPlant_4 9 rfl rfl)
theorem dX7_feelsPlant_106 : decode cX7_feelsPlant 106 = .ok (.iaload, 1) := dk_46 (dk_at dksX7_feelsPlant_4 10 rfl rfl)
theorem dX7_feelsPlant_107 : decode cX7_feelsPlant 107 = .ok (.ifCond .ge 8, 3) := dk_156 0 8 (dk_at dksX7_feelsPlant_4 11 rfl rfl)
theorem dX7_feelsPlant_110 : decode cX7_feelsPlant 110 = .ok (.bipush 99, 2) := dk_16 99 (dk_at dksX7_feelsPlant_4 14 rfl rfl)
theorem dX7_feelsPlant_112 : decode cX7_feelsPlant 112 = .ok (.goto 20, 3) := dk_167 0 20 (dk_at dksX7_feelsPlant_4 16 rfl rfl)
theorem dX7_feelsPlant_115 : decode cX7_feelsPlant 115 = .ok (.aload_n 0, 1) := dk_42 (dk_at dksX7_feelsPlant_4 19 rfl rfl)
theorem dX7_feelsPlant_116 : decode cX7_feelsPlant 116 = .ok (.getfield 7, 3) := dk_180 0 7 (dk_at dksX7_feelsPlant_4 20 rfl rfl)
theorem dX7_feelsPlant_119 : decode cX7_feelsPlant 119 = .ok (.bipush 79, 2) := dk_16 79 (dk_at dksX7_feelsPlant_5 0 rfl rfl)
theorem dX7_feelsPlant_121 : decode cX7_feelsPlant 121 = .ok (.iaload, 1) := dk_46 (dk_at dksX7_feelsPlant_5 2 rfl rfl)
theorem dX7_feelsPlant_122 : decode cX7_feelsPlant 122 = .ok (.aload_n 0, 1) := dk_42 (dk_at dksX7_feelsPlant_5 3 rfl rfl)
theorem dX7_feelsPlant_123 : decode cX7_feelsPlant 123 = .ok (.getfield 7, 3) := dk_180 0 7 (dk_at dksX7_feelsPlant_5 4 rfl rfl)
theorem dX7_feelsPlant_126 : decode cX7_feelsPlant 126 = .ok (.bipush 20, 2) := dk_16 20 (dk_at dksX7_feelsPlant_5 7 rfl rfl)
theorem dX7_feelsPlant_128 : decode cX7_feelsPlant 128 = .ok (.iload_n 1, 1) := dk_27 (dk_at dksX7_feelsPlant_5 9 rfl rfl)
theorem dX7_feelsPlant_129 : decode cX7_feelsPlant 129 = .ok (.iadd, 1) := dk_96 (dk_at dksX7_feelsPlant_5 10 rfl rfl)
theorem dX7_feelsPlant_130 : decode cX7_feelsPlant 130 = .ok (.iaload, 1) := dk_46 (dk_at dksX7_feelsPlant_5 11 rfl rfl)
theorem dX7_feelsPlant_131 : decode cX7_feelsPlant 131 = .ok (.isub, 1) := dk_100 (dk_at dksX7_feelsPlant_5 12 rfl rfl)
theorem dX7_feelsPlant_132 : decode cX7_feelsPlant 132 = .ok (.iastore, 1) := dk_79 (dk_at dksX7_feelsPlant_5 13 rfl rfl)
theorem dX7_feelsPlant_133 : decode cX7_feelsPlant 133 = .ok (.return_, 1) := dk_177 (dk_at dksX7_feelsPlant_5 14 rfl rfl)
abbrev cX7_feels : ByteArray := prog_19_method_47_code
def yX7_feels : MethodName := ⟨RX7, "feels", "()V"⟩
def dkwX7_feels_2 : List UInt8 := [16, 7, 112, 79, 42, 180, 0, 62, 16, 10, 42, 180, 0, 7, 16, 78, 46, 184, 0, 247, 79, 177]
abbrev dktX7_feels_2 : List UInt8 := dkwX7_feels_2 ++ []
def dkwX7_feels_1 : List UInt8 := [180, 0, 62, 3, 42, 180, 0, 7, 16, 79, 46, 79, 42, 180, 0, 62, 4, 42, 180, 0, 7, 16, 79, 46]
abbrev dktX7_feels_1 : List UInt8 := dkwX7_feels_1 ++ dktX7_feels_2
def dkwX7_feels_0 : List UInt8 := [3, 60, 27, 16, 13, 162, 0, 16, 42, 180, 0, 62, 27, 3, 79, 132, 1, 1, 167, 255, 240, 42]
abbrev dktX7_feels_0 : List UInt8 := dkwX7_feels_0 ++ dktX7_feels_1
theorem dksX7_feels_0 : cX7_feels.data.toList.drop 0 = dktX7_feels_0 := by decide +kernel
theorem dksX7_feels_1 : cX7_feels.data.toList.drop 22 = dktX7_feels_1 := dk_seg dksX7_feels_0 22 rfl rfl
theorem dksX7_feels_2 : cX7_feels.data.toList.drop 46 = dktX7_feels_2 := dk_seg dksX7_feels_1 24 rfl rfl
theorem dX7_feels_0 : decode cX7_feels 0 = .ok (.iconst 0, 1) := dk_3 (dk_at dksX7_feels_0 0 rfl rfl)
theorem dX7_feels_1 : decode cX7_feels 1 = .ok (.istore_n 1, 1) := dk_60 (dk_at dksX7_feels_0 1 rfl rfl)
theorem dX7_feels_2 : decode cX7_feels 2 = .ok (.iload_n 1, 1) := dk_27 (dk_at dksX7_feels_0 2 rfl rfl)
theorem dX7_feels_3 : decode cX7_feels 3 = .ok (.bipush 13, 2) := dk_16 13 (dk_at dksX7_feels_0 3 rfl rfl)
theorem dX7_feels_5 : decode cX7_feels 5 = .ok (.if_icmp .ge 16, 3) := dk_162 0 16 (dk_at dksX7_feels_0 5 rfl rfl)
theorem dX7_feels_8 : decode cX7_feels 8 = .ok (.aload_n 0, 1) := dk_42 (dk_at dksX7_feels_0 8 rfl rfl)
theorem dX7_feels_9 : decode cX7_feels 9 = .ok (.getfield 62, 3) := dk_180 0 62 (dk_at dksX7_feels_0 9 rfl rfl)
theorem dX7_feels_12 : decode cX7_feels 12 = .ok (.iload_n 1, 1) := dk_27 (dk_at dksX7_feels_0 12 rfl rfl)
theorem dX7_feels_13 : decode cX7_feels 13 = .ok (.iconst 0, 1) := dk_3 (dk_at dksX7_feels_0 13 rfl rfl)
theorem dX7_feels_14 : decode cX7_feels 14 = .ok (.iastore, 1) := dk_79 (dk_at dksX7_feels_0 14 rfl rfl)
theorem dX7_feels_15 : decode cX7_feels 15 = .ok (.iinc 1 1, 3) := dk_132 1 1 (dk_at dksX7_feels_0 15 rfl rfl)
theorem dX7_feels_18 : decode cX7_feels 18 = .ok (.goto (-16), 3) := dk_167 255 240 (dk_at dksX7_feels_0 18 rfl rfl)
theorem dX7_feels_21 : decode cX7_feels 21 = .ok (.aload_n 0, 1) := dk_42 (dk_at dksX7_feels_0 21 rfl rfl)
theorem dX7_feels_22 : decode cX7_feels 22 = .ok (.getfield 62, 3) := dk_180 0 62 (dk_at dksX7_feels_1 0 rfl rfl)
theorem dX7_feels_25 : decode cX7_feels 25 = .ok (.iconst 0, 1) := dk_3 (dk_at dksX7_feels_1 3 rfl rfl)
theorem dX7_feels_26 : decode cX7_feels 26 = .ok (.aload_n 0, 1) := dk_42 (dk_at dksX7_feels_1 4 rfl rfl)
theorem dX7_feels_27 : decode cX7_feels 27 = .ok (.getfield 7, 3) := dk_180 0 7 (dk_at dksX7_feels_1 5 rfl rfl)
theorem dX7_feels_30 : decode cX7_feels 30 = .ok (.bipush 79, 2) := dk_16 79 (dk_at dksX7_feels_1 8 rfl rfl)
theorem dX7_feels_32 : decode cX7_feels 32 = .ok (.iaload, 1) := dk_46 (dk_at dksX7_feels_1 10 rfl rfl)
theorem dX7_feels_33 : decode cX7_feels 33 = .ok (.iastore, 1) := dk_79 (dk_at dksX7_feels_1 11 rfl rfl)
theorem dX7_feels_34 : decode cX7_feels 34 = .ok (.aload_n 0, 1) := dk_42 (dk_at dksX7_feels_1 12 rfl rfl)
theorem dX7_feels_35 : decode cX7_feels 35 = .ok (.getfield 62, 3) := dk_180 0 62 (dk_at dksX7_feels_1 13 rfl rfl)
theorem dX7_feels_38 : decode cX7_feels 38 = .ok (.iconst 1, 1) := dk_4 (dk_at dksX7_feels_1 16 rfl rfl)
theorem dX7_feels_39 : decode cX7_feels 39 = .ok (.aload_n 0, 1) := dk_42 (dk_at dksX7_feels_1 17 rfl rfl)
theorem dX7_feels_40 : decode cX7_feels 40 = .ok (.getfield 7, 3) := dk_180 0 7 (dk_at dksX7_feels_1 18 rfl rfl)
theorem dX7_feels_43 : decode cX7_feels 43 = .ok (.bipush 79, 2) := dk_16 79 (dk_at dksX7_feels_1 21 rfl rfl)
theorem dX7_feels_45 : decode cX7_feels 45 = .ok (.iaload, 1) := dk_46 (dk_at dksX7_feels_1 23 rfl rfl)
theorem dX7_feels_46 : decode cX7_feels 46 = .ok (.bipush 7, 2) := dk_16 7 (dk_at dksX7_feels_2 0 rfl rfl)
theorem dX7_feels_48 : decode cX7_feels 48 = .ok (.irem, 1) := dk_112 (dk_at dksX7_feels_2 2 rfl rfl)
theorem dX7_feels_49 : decode cX7_feels 49 = .ok (.iastore, 1) := dk_79 (dk_at dksX7_feels_2 3 rfl rfl)
theorem dX7_feels_50 : decode cX7_feels 50 = .ok (.aload_n 0, 1) := dk_42 (dk_at dksX7_feels_2 4 rfl rfl)
theorem dX7_feels_51 : decode cX7_feels 51 = .ok (.getfield 62, 3) := dk_180 0 62 (dk_at dksX7_feels_2 5 rfl rfl)
theorem dX7_feels_54 : decode cX7_feels 54 = .ok (.bipush 10, 2) := dk_16 10 (dk_at dksX7_feels_2 8 rfl rfl)
theorem dX7_feels_56 : decode cX7_feels 56 = .ok (.aload_n 0, 1) := dk_42 (dk_at dksX7_feels_2 10 rfl rfl)
theorem dX7_feels_57 : decode cX7_feels 57 = .ok (.getfield 7, 3) := dk_180 0 7 (dk_at dksX7_feels_2 11 rfl rfl)
theorem dX7_feels_60 : decode cX7_feels 60 = .ok (.bipush 78, 2) := dk_16 78 (dk_at dksX7_feels_2 14 rfl rfl)
theorem dX7_feels_62 : decode cX7_feels 62 = .ok (.iaload, 1) := dk_46 (dk_at dksX7_feels_2 16 rfl rfl)
theorem dX7_feels_63 : decode cX7_feels 63 = .ok (.invokestatic 247, 3) := dk_184 0 247 (dk_at dksX7_feels_2 17 rfl rfl)
theorem dX7_feels_66 : decode cX7_feels 66 = .ok (.iastore, 1) := dk_79 (dk_at dksX7_feels_2 20 rfl rfl)
theorem dX7_feels_67 : decode cX7_feels 67 = .ok (.return_, 1) := dk_177 (dk_at dksX7_feels_2 21 rfl rfl)
abbrev cX7_bits : ByteArray := prog_19_method_6_code
def yX7_bits : MethodName := ⟨RX7, "bits", "(I)I"⟩
def dkwX7_bits_1 : List UInt8 := [27, 172]
abbrev dktX7_bits_1 : List UInt8 := dkwX7_bits_1 ++ []
def dkwX7_bits_0 : List UInt8 := [3, 60, 3, 61, 28, 16, 8, 162, 0, 17, 27, 26, 28, 122, 4, 126, 96, 60, 132, 2, 1, 167, 255, 239]
abbrev dktX7_bits_0 : List UInt8 := dkwX7_bits_0 ++ dktX7_bits_1
theorem dksX7_bits_0 : cX7_bits.data.toList.drop 0 = dktX7_bits_0 := by decide +kernel
theorem dksX7_bits_1 : cX7_bits.data.toList.drop 24 = dktX7_bits_1 := dk_seg dksX7_bits_0 24 rfl rfl
theorem dX7_bits_0 : decode cX7_bits 0 = .ok (.iconst 0, 1) := dk_3 (dk_at dksX7_bits_0 0 rfl rfl)
theorem dX7_bits_1 : decode cX7_bits 1 = .ok (.istore_n 1, 1) := dk_60 (dk_at dksX7_bits_0 1 rfl rfl)
theorem dX7_bits_2 : decode cX7_bits 2 = .ok (.iconst 0, 1) := dk_3 (dk_at dksX7_bits_0 2 rfl rfl)
theorem dX7_bits_3 : decode cX7_bits 3 = .ok (.istore_n 2, 1) := dk_61 (dk_at dksX7_bits_0 3 rfl rfl)
theorem dX7_bits_4 : decode cX7_bits 4 = .ok (.iload_n 2, 1) := dk_28 (dk_at dksX7_bits_0 4 rfl rfl)
theorem dX7_bits_5 : decode cX7_bits 5 = .ok (.bipush 8, 2) := dk_16 8 (dk_at dksX7_bits_0 5 rfl rfl)
theorem dX7_bits_7 : decode cX7_bits 7 = .ok (.if_icmp .ge 17, 3) := dk_162 0 17 (dk_at dksX7_bits_0 7 rfl rfl)
theorem dX7_bits_10 : decode cX7_bits 10 = .ok (.iload_n 1, 1) := dk_27 (dk_at dksX7_bits_0 10 rfl rfl)
theorem dX7_bits_11 : decode cX7_bits 11 = .ok (.iload_n 0, 1) := dk_26 (dk_at dksX7_bits_0 11 rfl rfl)
theorem dX7_bits_12 : decode cX7_bits 12 = .ok (.iload_n 2, 1) := dk_28 (dk_at dksX7_bits_0 12 rfl rfl)
theorem dX7_bits_13 : decode cX7_bits 13 = .ok (.ishr, 1) := dk_122 (dk_at dksX7_bits_0 13 rfl rfl)
theorem dX7_bits_14 : decode cX7_bits 14 = .ok (.iconst 1, 1) := dk_4 (dk_at dksX7_bits_0 14 rfl rfl)
theorem dX7_bits_15 : decode cX7_bits 15 = .ok (.iand, 1) := dk_126 (dk_at dksX7_bits_0 15 rfl rfl)
theorem dX7_bits_16 : decode cX7_bits 16 = .ok (.iadd, 1) := dk_96 (dk_at dksX7_bits_0 16 rfl rfl)
theorem dX7_bits_17 : decode cX7_bits 17 = .ok (.istore_n 1, 1) := dk_60 (dk_at dksX7_bits_0 17 rfl rfl)
theorem dX7_bits_18 : decode cX7_bits 18 = .ok (.iinc 2 1, 3) := dk_132 2 1 (dk_at dksX7_bits_0 18 rfl rfl)
theorem dX7_bits_21 : decode cX7_bits 21 = .ok (.goto (-17), 3) := dk_167 255 239 (dk_at dksX7_bits_0 21 rfl rfl)
theorem dX7_bits_24 : decode cX7_bits 24 = .ok (.iload_n 1, 1) := dk_27 (dk_at dksX7_bits_1 0 rfl rfl)
theorem dX7_bits_25 : decode cX7_bits 25 = .ok (.ireturn, 1) := dk_172 (dk_at dksX7_bits_1 1 rfl rfl)
abbrev cX7_byText : ByteArray := prog_19_method_46_code
def yX7_byText : MethodName := ⟨RX7, "byText", "(III)I"⟩
def dkwX7_byText_4 : List UInt8 := [167, 0, 5, 21, 5, 172, 132, 4, 1, 167, 255, 159, 3, 172]
abbrev dktX7_byText_4 : List UInt8 := dkwX7_byText_4 ++ []
def dkwX7_byText_3 : List UInt8 := [21, 4, 46, 182, 0, 244, 54, 5, 21, 5, 156, 0, 7, 3, 167, 0, 15, 21, 5, 29, 164, 0, 7, 29]
abbrev dktX7_byText_3 : List UInt8 := dkwX7_byText_3 ++ dktX7_byText_4
def dkwX7_byText_2 : List UInt8 := [46, 182, 0, 244, 4, 159, 0, 6, 167, 0, 45, 42, 42, 180, 0, 50, 21, 4, 46, 42, 180, 0, 53]
abbrev dktX7_byText_2 : List UInt8 := dkwX7_byText_2 ++ dktX7_byText_3
def dkwX7_byText_1 : List UInt8 := [180, 0, 47, 21, 4, 46, 28, 160, 0, 70, 42, 42, 180, 0, 53, 21, 4, 46, 42, 180, 0, 56, 21, 4]
abbrev dktX7_byText_1 : List UInt8 := dkwX7_byText_1 ++ dktX7_byText_2
def dkwX7_byText_0 : List UInt8 := [16, 14, 27, 104, 54, 4, 21, 4, 16, 14, 27, 104, 42, 180, 0, 44, 27, 46, 96, 162, 0, 87, 42]
abbrev dktX7_byText_0 : List UInt8 := dkwX7_byText_0 ++ dktX7_byText_1
theorem dksX7_byText_0 : cX7_byText.data.toList.drop 0 = dktX7_byText_0 := by decide +kernel
theorem dksX7_byText_1 : cX7_byText.data.toList.drop 23 = dktX7_byText_1 := dk_seg dksX7_byText_0 23 rfl rfl
theorem dksX7_byText_2 : cX7_byText.data.toList.drop 47 = dktX7_byText_2 := dk_seg dksX7_byText_1 24 rfl rfl
theorem dksX7_byText_3 : cX7_byText.data.toList.drop 70 = dktX7_byText_3 := dk_seg dksX7_byText_2 23 rfl rfl
theorem dksX7_byText_4 : cX7_byText.data.toList.drop 94 = dktX7_byText_4 := dk_seg dksX7_byText_3 24 rfl rfl
theorem dX7_byText_0 : decode cX7_byText 0 = .ok (.bipush 14, 2) := dk_16 14 (dk_at dksX7_byText_0 0 rfl rfl)
theorem dX7_byText_2 : decode cX7_byText 2 = .ok (.iload_n 1, 1) := dk_27 (dk_at dksX7_byText_0 2 rfl rfl)
theorem dX7_byText_3 : decode cX7_byText 3 = .ok (.imul, 1) := dk_104 (dk_at dksX7_byText_0 3 rfl rfl)
theorem dX7_byText_4 : decode cX7_byText 4 = .ok (.istore 4, 2) := dk_54 4 (dk_at dksX7_byText_0 4 rfl rfl)
theorem dX7_byText_6 : decode cX7_byText 6 = .ok (.iload 4, 2) := dk_21 4 (dk_at dksX7_byText_0 6 rfl rfl)
theorem dX7_byText_8 : decode cX7_byText 8 = .ok (.bipush 14, 2) := dk_16 14 (dk_at dksX7_byText_0 8 rfl rfl)
theorem dX7_byText_10 : decode cX7_byText 10 = .ok (.iload_n 1, 1) := dk_27 (dk_at dksX7_byText_0 10 rfl rfl)
theorem dX7_byText_11 : decode cX7_byText 11 = .ok (.imul, 1) := dk_104 (dk_at dksX7_byText_0 11 rfl rfl)
theorem dX7_byText_12 : decode cX7_byText 12 = .ok (.aload_n 0, 1) := dk_42 (dk_at dksX7_byText_0 12 rfl rfl)
theorem dX7_byText_13 : decode cX7_byText 13 = .ok (.getfield 44, 3) := dk_180 0 44 (dk_at dksX7_byText_0 13 rfl rfl)
theorem dX7_byText_16 : decode cX7_byText 16 = .ok (.iload_n 1, 1) := dk_27 (dk_at dksX7_byText_0 16 rfl rfl)
theorem dX7_byText_17 : decode cX7_byText 17 = .ok (.iaload, 1) := dk_46 (dk_at dksX7_byText_0 17 rfl rfl)
theorem dX7_byText_18 : decode cX7_byText 18 = .ok (.iadd, 1) := dk_96 (dk_at dksX7_byText_0 18 rfl rfl)
theorem dX7_byText_19 : decode cX7_byText 19 = .ok (.if_icmp .ge 87, 3) := dk_162 0 87 (dk_at dksX7_byText_0 19 rfl rfl)
theorem dX7_byText_22 : decode cX7_byText 22 = .ok (.aload_n 0, 1) := dk_42 (dk_at dksX7_byText_0 22 rfl rfl)
theorem dX7_byText_23 : decode cX7_byText 23 = .ok (.getfield 47, 3) := dk_180 0 47 (dk_at dksX7_byText_1 0 rfl rfl)
theorem dX7_byText_26 : decode cX7_byText 26 = .ok (.iload 4, 2) := dk_21 4 (dk_at dksX7_byText_1 3 rfl rfl)
theorem dX7_byText_28 : decode cX7_byText 28 = .ok (.iaload, 1) := dk_46 (dk_at dksX7_byText_1 5 rfl rfl)
theorem dX7_byText_29 : decode cX7_byText 29 = .ok (.iload_n 2, 1) := dk_28 (dk_at dksX7_byText_1 6 rfl rfl)
theorem dX7_byText_30 : decode cX7_byText 30 = .ok (.if_icmp .ne 70, 3) := dk_160 0 70 (dk_at dksX7_byText_1 7 rfl rfl)
theorem dX7_byText_33 : decode cX7_byText 33 = .ok (.aload_n 0, 1) := dk_42 (dk_at dksX7_byText_1 10 rfl rfl)
theorem dX7_byText_34 : decode cX7_byText 34 = .ok (.aload_n 0, 1) := dk_42 (dk_at dksX7_byText_1 11 rfl rfl)
theorem dX7_byText_35 : decode cX7_byText 35 = .ok (.getfield 53, 3) := dk_180 0 53 (dk_at dksX7_byText_1 12 rfl rfl)
theorem dX7_byText_38 : decode cX7_byText 38 = .ok (.iload 4, 2) := dk_21 4 (dk_at dksX7_byText_1 15 rfl rfl)
theorem dX7_byText_40 : decode cX7_byText 40 = .ok (.iaload, 1) := dk_46 (dk_at dksX7_byText_1 17 rfl rfl)
theorem dX7_byText_41 : decode cX7_byText 41 = .ok (.aload_n 0, 1) := dk_42 (dk_at dksX7_byText_1 18 rfl rfl)
theorem dX7_byText_42 : decode cX7_byText 42 = .ok (.getfield 56, 3) := dk_180 0 56 (dk_at dksX7_byText_1 19 rfl rfl)
theorem dX7_byText_45 : decode cX7_byText 45 = .ok (.iload 4, 2) := dk_21 4 (dk_at dksX7_byText_1 22 rfl rfl)
theorem dX7_byText_47 : decode cX7_byText 47 = .ok (.iaload, 1) := dk_46 (dk_at dksX7_byText_2 0 rfl rfl)
theorem dX7_byText_48 : decode cX7_byText 48 = .ok (.invokevirtual 244, 3) := dk_182 0 244 (dk_at dksX7_byText_2 1 rfl rfl)
theorem dX7_byText_51 : decode cX7_byText 51 = .ok (.iconst 1, 1) := dk_4 (dk_at dksX7_byText_2 4 rfl rfl)
theorem dX7_byText_52 : decode cX7_byText 52 = .ok (.if_icmp .eq 6, 3) := dk_159 0 6 (dk_at dksX7_byText_2 5 rfl rfl)
theorem dX7_byText_55 : decode cX7_byText 55 = .ok (.goto 45, 3) := dk_167 0 45 (dk_at dksX7_byText_2 8 rfl rfl)
theorem dX7_byText_58 : decode cX7_byText 58 = .ok (.aload_n 0, 1) := dk_42 (dk_at dksX7_byText_2 11 rfl rfl)
theorem dX7_byText_59 : decode cX7_byText 59 = .ok (.aload_n 0, 1) := dk_42 (dk_at dksX7_byText_2 12 rfl rfl)
theorem dX7_byText_60 : decode cX7_byText 60 = .ok (.getfield 50, 3) := dk_180 0 50 (dk_at dksX7_byText_2 13 rfl rfl)
theorem dX7_byText_63 : decode cX7_byText 63 = .ok (.iload 4, 2) := dk_21 4 (dk_at dksX7_byText_2 16 rfl rfl)
theorem dX7_byText_65 : decode cX7_byText 65 = .ok (.iaload, 1) := dk_46 (dk_at dksX7_byText_2 18 rfl rfl)
theorem dX7_byText_66 : decode cX7_byText 66 = .ok (.aload_n 0, 1) := dk_42 (dk_at dksX7_byText_2 19 rfl rfl)
theorem dX7_byText_67 : decode cX7_byText 67 = .ok (.getfield 53, 3) := dk_180 0 53 (dk_at dksX7_byText_2 20 rfl rfl)
theorem dX7_byText_70 : decode cX7_byText 70 = .ok (.iload 4, 2) := dk_21 4 (dk_at dksX7_byText_3 0 rfl rfl)
theorem dX7_byText_72 : decode cX7_byText 72 = .ok (.iaload, 1) := dk_46 (dk_at dksX7_byText_3 2 rfl rfl)
theorem dX7_byText_73 : decode cX7_byText 73 = .ok (.invokevirtual 244, 3) := dk_182 0 244 (dk_at dksX7_byText_3 3 rfl rfl)
theorem dX7_byText_76 : decode cX7_byText 76 = .ok (.istore 5, 2) := dk_54 5 (dk_at dksX7_byText_3 6 rfl rfl)
theorem dX7_byText_78 : decode cX7_byText 78 = .ok (.iload 5, 2) := dk_21 5 (dk_at dksX7_byText_3 8 rfl rfl)
theorem dX7_byText_80 : decode cX7_byText 80 = .ok (.ifCond .ge 7, 3) := dk_156 0 7 (dk_at dksX7_byText_3 10 rfl rfl)
theorem dX7_byText_83 : decode cX7_byText 83 = .ok (.iconst 0, 1) := dk_3 (dk_at dksX7_byText_3 13 rfl rfl)
theorem dX7_byText_84 : decode cX7_byText 84 = .ok (.goto 15, 3) := dk_167 0 15 (dk_at dksX7_byText_3 14 rfl rfl)
theorem dX7_byText_87 : decode cX7_byText 87 = .ok (.iload 5, 2) := dk_21 5 (dk_at dksX7_byText_3 17 rfl rfl)
theorem dX7_byText_89 : decode cX7_byText 89 = .ok (.iload_n 3, 1) := dk_29 (dk_at dksX7_byText_3 19 rfl rfl)
theorem dX7_byText_90 : decode cX7_byText 90 = .ok (.if_icmp .le 7, 3) := dk_164 0 7 (dk_at dksX7_byText_3 20 rfl rfl)
theorem dX7_byText_93 : decode cX7_byText 93 = .ok (.iload_n 3, 1) := dk_29 (dk_at dksX7_byText_3 23 rfl rfl)
theorem dX7_byText_94 : decode cX7_byText 94 = .ok (.goto 5, 3) := dk_167 0 5 (dk_at dksX7_byText_4 0 rfl rfl)
theorem dX7_byText_97 : decode cX7_byText 97 = .ok (.iload 5, 2) := dk_21 5 (dk_at dksX7_byText_4 3 rfl rfl)
theorem dX7_byText_99 : decode cX7_byText 99 = .ok (.ireturn, 1) := dk_172 (dk_at dksX7_byText_4 5 rfl rfl)
theorem dX7_byText_100 : decode cX7_byText 100 = .ok (.iinc 4 1, 3) := dk_132 4 1 (dk_at dksX7_byText_4 6 rfl rfl)
theorem dX7_byText_103 : decode cX7_byText 103 = .ok (.goto (-97), 3) := dk_167 255 159 (dk_at dksX7_byText_4 9 rfl rfl)
theorem dX7_byText_106 : decode cX7_byText 106 = .ok (.iconst 0, 1) := dk_3 (dk_at dksX7_byText_4 12 rfl rfl)
theorem dX7_byText_107 : decode cX7_byText 107 = .ok (.ireturn, 1) := dk_172 (dk_at dksX7_byText_4 13 rfl rfl)
abbrev cX7_comesTo : ByteArray := prog_19_method_45_code
def yX7_comesTo : MethodName := ⟨RX7, "comesTo", "(II)I"⟩
def dkwX7_comesTo_10 : List UInt8 := [3, 46, 172]
abbrev dktX7_comesTo_10 : List UInt8 := dkwX7_comesTo_10 ++ []
def dkwX7_comesTo_9 : List UInt8 := [180, 0, 59, 29, 4, 100, 46, 42, 180, 0, 59, 29, 46, 184, 0, 240, 79, 167, 255, 42, 42, 180, 0, 59]
abbrev dktX7_comesTo_9 : List UInt8 := dkwX7_comesTo_9 ++ dktX7_comesTo_10
def dkwX7_comesTo_8 : List UInt8 := [160, 0, 14, 42, 180, 0, 59, 29, 46, 154, 0, 5, 3, 172, 42, 180, 0, 59, 29, 4, 100, 21, 6, 42]
abbrev dktX7_comesTo_8 : List UInt8 := dkwX7_comesTo_8 ++ dktX7_comesTo_9
def dkwX7_comesTo_7 : List UInt8 := [167, 0, 65, 29, 4, 100, 62, 167, 0, 58, 29, 4, 100, 62, 21, 6, 8, 159, 0, 10, 21, 6, 16, 6]
abbrev dktX7_comesTo_7 : List UInt8 := dkwX7_comesTo_7 ++ dktX7_comesTo_8
def dkwX7_comesTo_6 : List UInt8 := [100, 46, 21, 6, 16, 12, 160, 0, 7, 4, 167, 0, 4, 3, 160, 0, 13, 21, 4, 21, 7, 96, 54, 5]
abbrev dktX7_comesTo_6 : List UInt8 := dkwX7_comesTo_6 ++ dktX7_comesTo_7
def dkwX7_comesTo_5 : List UInt8 := [79, 167, 0, 112, 21, 6, 16, 11, 159, 0, 10, 21, 6, 16, 12, 160, 0, 43, 42, 180, 0, 59, 29, 4]
abbrev dktX7_comesTo_5 : List UInt8 := dkwX7_comesTo_5 ++ dktX7_comesTo_6
def dkwX7_comesTo_4 : List UInt8 := [21, 6, 16, 10, 160, 0, 24, 42, 180, 0, 59, 29, 4, 100, 4, 42, 180, 0, 59, 29, 4, 100, 46, 100]
abbrev dktX7_comesTo_4 : List UInt8 := dkwX7_comesTo_4 ++ dktX7_comesTo_5
def dkwX7_comesTo_3 : List UInt8 := [154, 0, 8, 21, 7, 167, 0, 10, 42, 180, 0, 62, 21, 7, 46, 79, 29, 4, 96, 62, 167, 0, 140]
abbrev dktX7_comesTo_3 : List UInt8 := dkwX7_comesTo_3 ++ dktX7_comesTo_4
def dkwX7_comesTo_2 : List UInt8 := [21, 5, 4, 96, 54, 5, 21, 6, 153, 0, 9, 21, 6, 4, 160, 0, 33, 42, 180, 0, 59, 29, 21, 6]
abbrev dktX7_comesTo_2 : List UInt8 := dkwX7_comesTo_2 ++ dktX7_comesTo_3
def dkwX7_comesTo_1 : List UInt8 := [180, 0, 41, 21, 5, 46, 18, 170, 108, 54, 6, 42, 180, 0, 41, 21, 5, 46, 18, 170, 112, 54, 7]
abbrev dktX7_comesTo_1 : List UInt8 := dkwX7_comesTo_1 ++ dktX7_comesTo_2
def dkwX7_comesTo_0 : List UInt8 := [3, 62, 17, 0, 220, 27, 17, 0, 220, 108, 104, 54, 4, 27, 54, 5, 21, 5, 28, 162, 0, 214, 42]
abbrev dktX7_comesTo_0 : List UInt8 := dkwX7_comesTo_0 ++ dktX7_comesTo_1
theorem dksX7_comesTo_0 : cX7_comesTo.data.toList.drop 0 = dktX7_comesTo_0 := by decide +kernel
theorem dksX7_comesTo_1 : cX7_comesTo.data.toList.drop 23 = dktX7_comesTo_1 := dk_seg dksX7_comesTo_0 23 rfl rfl
theorem dksX7_comesTo_2 : cX7_comesTo.data.toList.drop 46 = dktX7_comesTo_2 := dk_seg dksX7_comesTo_1 23 rfl rfl
theorem dksX7_comesTo_3 : cX7_comesTo.data.toList.drop 70 = dktX7_comesTo_3 := dk_seg dksX7_comesTo_2 24 rfl rfl
theorem dksX7_comesTo_4 : cX7_comesTo.data.toList.drop 93 = dktX7_comesTo_4 := dk_seg dksX7_comesTo_3 23 rfl rfl
theorem dksX7_comesTo_5 : cX7_comesTo.data.toList.drop 117 = dktX7_comesTo_5 := dk_seg dksX7_comesTo_4 24 rfl rfl
theorem dksX7_comesTo_6 : cX7_comesTo.data.toList.drop 141 = dktX7_comesTo_6 := dk_seg dksX7_comesTo_5 24 rfl rfl
theorem dksX7_comesTo_7 : cX7_comesTo.data.toList.drop 165 = dktX7_comesTo_7 := dk_seg dksX7_comesTo_6 24 rfl rfl
theorem dksX7_comesTo_8 : cX7_comesTo.data.toList.drop 189 = dktX7_comesTo_8 := dk_seg dksX7_comesTo_7 24 rfl rfl
theorem dksX7_comesTo_9 : cX7_comesTo.data.toList.drop 213 = dktX7_comesTo_9 := dk_seg dksX7_comesTo_8 24 rfl rfl
theorem dksX7_comesTo_10 : cX7_comesTo.data.toList.drop 237 = dktX7_comesTo_10 := dk_seg dksX7_comesTo_9 24 rfl rfl
theorem dX7_comesTo_0 : decode cX7_comesTo 0 = .ok (.iconst 0, 1) := dk_3 (dk_at dksX7_comesTo_0 0 rfl rfl)
theorem dX7_comesTo_1 : decode cX7_comesTo 1 = .ok (.istore_n 3, 1) := dk_62 (dk_at dksX7_comesTo_0 1 rfl rfl)
theorem dX7_comesTo_2 : decode cX7_comesTo 2 = .ok (.sipush 220, 3) := dk_17 0 220 (dk_at dksX7_comesTo_0 2 rfl rfl)
theorem dX7_comesTo_5 : decode cX7_comesTo 5 = .ok (.iload_n 1, 1) := dk_27 (dk_at dksX7_comesTo_0 5 rfl rfl)
theorem dX7_comesTo_6 : decode cX7_comesTo 6 = .ok (.sipush 220, 3) := dk_17 0 220 (dk_at dksX7_comesTo_0 6 rfl rfl)
theorem dX7_comesTo_9 : decode cX7_comesTo 9 = .ok (.idiv, 1) := dk_108 (dk_at dksX7_comesTo_0 9 rfl rfl)
theorem dX7_comesTo_10 : decode cX7_comesTo 10 = .ok (.imul, 1) := dk_104 (dk_at dksX7_comesTo_0 10 rfl rfl)
theorem dX7_comesTo_11 : decode cX7_comesTo 11 = .ok (.istore 4, 2) := dk_54 4 (dk_at dksX7_comesTo_0 11 rfl rfl)
theorem dX7_comesTo_13 : decode cX7_comesTo 13 = .ok (.iload_n 1, 1) := dk_27 (dk_at dksX7_comesTo_0 13 rfl rfl)
theorem dX7_comesTo_14 : decode cX7_comesTo 14 = .ok (.istore 5, 2) := dk_54 5 (dk_at dksX7_comesTo_0 14 rfl rfl)
theorem dX7_comesTo_16 : decode cX7_comesTo 16 = .ok (.iload 5, 2) := dk_21 5 (dk_at dksX7_comesTo_0 16 rfl rfl)
theorem dX7_comesTo_18 : decode cX7_comesTo 18 = .ok (.iload_n 2, 1) := dk_28 (dk_at dksX7_comesTo_0 18 rfl rfl)
theorem dX7_comesTo_19 : decode cX7_comesTo 19 = .ok (.if_icmp .ge 214, 3) := dk_162 0 214 (dk_at dksX7_comesTo_0 19 rfl rfl)
theorem dX7_comesTo_22 : decode cX7_comesTo 22 = .ok (.aload_n 0, 1) := dk_42 (dk_at dksX7_comesTo_0 22 rfl rfl)
theorem dX7_comesTo_23 : decode cX7_comesTo 23 = .ok (.getfield 41, 3) := dk_180 0 41 (dk_at dksX7_comesTo_1 0 rfl rfl)
theorem dX7_comesTo_26 : decode cX7_comesTo 26 = .ok (.iload 5, 2) := dk_21 5 (dk_at dksX7_comesTo_1 3 rfl rfl)
theorem dX7_comesTo_28 : decode cX7_comesTo 28 = .ok (.iaload, 1) := dk_46 (dk_at dksX7_comesTo_1 5 rfl rfl)
theorem dX7_comesTo_29 : decode cX7_comesTo 29 = .ok (.ldc 170, 2) := dk_18 170 (dk_at dksX7_comesTo_1 6 rfl rfl)
theorem dX7_comesTo_31 : decode cX7_comesTo 31 = .ok (.idiv, 1) := dk_108 (dk_at dksX7_comesTo_1 8 rfl rfl)
theorem dX7_comesTo_32 : decode cX7_comesTo 32 = .ok (.istore 6, 2) := dk_54 6 (dk_at dksX7_comesTo_1 9 rfl rfl)
theorem dX7_comesTo_34 : decode cX7_comesTo 34 = .ok (.aload_n 0, 1) := dk_42 (dk_at dksX7_comesTo_1 11 rfl rfl)
theorem dX7_comesTo_35 : decode cX7_comesTo 35 = .ok (.getfield 41, 3) := dk_180 0 41 (dk_at dksX7_comesTo_1 12 rfl rfl)
theorem dX7_comesTo_38 : decode cX7_comesTo 38 = .ok (.iload 5, 2) := dk_21 5 (dk_at dksX7_comesTo_1 15 rfl rfl)
theorem dX7_comesTo_40 : decode cX7_comesTo 40 = .ok (.iaload, 1) := dk_46 (dk_at dksX7_comesTo_1 17 rfl rfl)
theorem dX7_comesTo_41 : decode cX7_comesTo 41 = .ok (.ldc 170, 2) := dk_18 170 (dk_at dksX7_comesTo_1 18 rfl rfl)
theorem dX7_comesTo_43 : decode cX7_comesTo 43 = .ok (.irem, 1) := dk_112 (dk_at dksX7_comesTo_1 20 rfl rfl)
theorem dX7_comesTo_44 : decode cX7_comesTo 44 = .ok (.istore 7, 2) := dk_54 7 (dk_at dksX7_comesTo_1 21 rfl rfl)
theorem dX7_comesTo_46 : decode cX7_comesTo 46 = .ok (.iload 5, 2) := dk_21 5 (dk_at dksX7_comesTo_2 0 rfl rfl)
theorem dX7_comesTo_48 : decode cX7_comesTo 48 = .ok (.iconst 1, 1) := dk_4 (dk_at dksX7_comesTo_2 2 rfl rfl)
theorem dX7_comesTo_49 : decode cX7_comesTo 49 = .ok (.iadd, 1) := dk_96 (dk_at dksX7_comesTo_2 3 rfl rfl)
theorem dX7_comesTo_50 : decode cX7_comesTo 50 = .ok (.istore 5, 2) := dk_54 5 (dk_at dksX7_comesTo_2 4 rfl rfl)
theorem dX7_comesTo_52 : decode cX7_comesTo 52 = .ok (.iload 6, 2) := dk_21 6 (dk_at dksX7_comesTo_2 6 rfl rfl)
theorem dX7_comesTo_54 : decode cX7_comesTo 54 = .ok (.ifCond .eq 9, 3) := dk_153 0 9 (dk_at dksX7_comesTo_2 8 rfl rfl)
theorem dX7_comesTo_57 : decode cX7_comesTo 57 = .ok (.iload 6, 2) := dk_21 6 (dk_at dksX7_comesTo_2 11 rfl rfl)
theorem dX7_comesTo_59 : decode cX7_comesTo 59 = .ok (.iconst 1, 1) := dk_4 (dk_at dksX7_comesTo_2 13 rfl rfl)
theorem dX7_comesTo_60 : decode cX7_comesTo 60 = .ok (.if_icmp .ne 33, 3) := dk_160 0 33 (dk_at dksX7_comesTo_2 14 rfl rfl)
theorem dX7_comesTo_63 : decode cX7_comesTo 63 = .ok (.aload_n 0, 1) := dk_42 (dk_at dksX7_comesTo_2 17 rfl rfl)
theorem dX7_comesTo_64 : decode cX7_comesTo 64 = .ok (.getfield 59, 3) := dk_180 0 59 (dk_at dksX7_comesTo_2 18 rfl rfl)
theorem dX7_comesTo_67 : decode cX7_comesTo 67 = .ok (.iload_n 3, 1) := dk_29 (dk_at dksX7_comesTo_2 21 rfl rfl)
theorem dX7_comesTo_68 : decode cX7_comesTo 68 = .ok (.iload 6, 2) := dk_21 6 (dk_at dksX7_comesTo_2 22 rfl rfl)
theorem dX7_comesTo_70 : decode cX7_comesTo 70 = .ok (.ifCond .ne 8, 3) := dk_154 0 8 (dk_at dksX7_comesTo_3 0 rfl rfl)
theorem dX7_comesTo_73 : decode cX7_comesTo 73 = .ok (.iload 7, 2) := dk_21 7 (dk_at dksX7_comesTo_3 3 rfl rfl)
theorem dX7_comesTo_75 : decode cX7_comesTo 75 = .ok (.goto 10, 3) := dk_167 0 10 (dk_at dksX7_comesTo_3 5 rfl rfl)
theorem dX7_comesTo_78 : decode cX7_comesTo 78 = .ok (.aload_n 0, 1) := dk_42 (dk_at dksX7_comesTo_3 8 rfl rfl)
theorem dX7_comesTo_79 : decode cX7_comesTo 79 = .ok (.getfield 62, 3) := dk_180 0 62 (dk_at dksX7_comesTo_3 9 rfl rfl)
theorem dX7_comesTo_82 : decode cX7_comesTo 82 = .ok (.iload 7, 2) := dk_21 7 (dk_at dksX7_comesTo_3 12 rfl rfl)
theorem dX7_comesTo_84 : decode cX7_comesTo 84 = .ok (.iaload, 1) := dk_46 (dk_at dksX7_comesTo_3 14 rfl rfl)
theorem dX7_comesTo_85 : decode cX7_comesTo 85 = .ok (.iastore, 1) := dk_79 (dk_at dksX7_comesTo_3 15 rfl rfl)
theorem dX7_comesTo_86 : decode cX7_comesTo 86 = .ok (.iload_n 3, 1) := dk_29 (dk_at dksX7_comesTo_3 16 rfl rfl)
theorem dX7_comesTo_87 : decode cX7_comesTo 87 = .ok (.iconst 1, 1) := dk_4 (dk_at dksX7_comesTo_3 17 rfl rfl)
theorem dX7_comesTo_88 : decode cX7_comesTo 88 = .ok (.iadd, 1) := dk_96 (dk_at dksX7_comesTo_3 18 rfl rfl)
theorem dX7_comesTo_89 : decode cX7_comesTo 89 = .ok (.istore_n 3, 1) := dk_62 (dk_at dksX7_comesTo_3 19 rfl rfl)
theorem dX7_comesTo_90 : decode cX7_comesTo 90 = .ok (.goto 140, 3) := dk_167 0 140 (dk_at dksX7_comesTo_3 20 rfl rfl)
theorem dX7_comesTo_93 : decode cX7_comesTo 93 = .ok (.iload 6, 2) := dk_21 6 (dk_at dksX7_comesTo_4 0 rfl rfl)
theorem dX7_comesTo_95 : decode cX7_comesTo 95 = .ok (.bipush 10, 2) := dk_16 10 (dk_at dksX7_comesTo_4 2 rfl rfl)
theorem dX7_comesTo_97 : decode cX7_comesTo 97 = .ok (.if_icmp .ne 24, 3) := dk_160 0 24 (dk_at dksX7_comesTo_4 4 rfl rfl)
theorem dX7_comesTo_100 : decode cX7_comesTo 100 = .ok (.aload_n 0, 1) := dk_42 (dk_at dksX7_comesTo_4 7 rfl rfl)
theorem dX7_comesTo_101 : decode cX7_comesTo 101 = .ok (.getfield 59, 3) := dk_180 0 59 (dk_at dksX7_comesTo_4 8 rfl rfl)
theorem dX7_comesTo_104 : decode cX7_comesTo 104 = .ok (.iload_n 3, 1) := dk_29 (dk_at dksX7_comesTo_4 11 rfl rfl)
theorem dX7_comesTo_105 : decode cX7_comesTo 105 = .ok (.iconst 1, 1) := dk_4 (dk_at dksX7_comesTo_4 12 rfl rfl)
theorem dX7_comesTo_106 : decode cX7_comesTo 106 = .ok (.isub, 1) := dk_100 (dk_at dksX7_comesTo_4 13 rfl rfl)
theorem dX7_comesTo_107 : decode cX7_comesTo 107 = .ok (.iconst 1, 1) := dk_4 (dk_at dksX7_comesTo_4 14 rfl rfl)
theorem dX7_comesTo_108 : decode cX7_comesTo 108 = .ok (.aload_n 0, 1) := dk_42 (dk_at dksX7_comesTo_4 15 rfl rfl)
theorem dX7_comesTo_109 : decode cX7_comesTo 109 = .ok (.getfield 59, 3) := dk_180 0 59 (dk_at dksX7_comesTo_4 16 rfl rfl)
theorem dX7_comesTo_112 : decode cX7_comesTo 112 = .ok (.iload_n 3, 1) := dk_29 (dk_at dksX7_comesTo_4 19 rfl rfl)
theorem dX7_comesTo_113 : decode cX7_comesTo 113 = .ok (.iconst 1, 1) := dk_4 (dk_at dksX7_comesTo_4 20 rfl rfl)
theorem dX7_comesTo_114 : decode cX7_comesTo 114 = .ok (.isub, 1) := dk_100 (dk_at dksX7_comesTo_4 21 rfl rfl)
theorem dX7_comesTo_115 : decode cX7_comesTo 115 = .ok (.iaload, 1) := dk_46 (dk_at dksX7_comesTo_4 22 rfl rfl)
theorem dX7_comesTo_116 : decode cX7_comesTo 116 = .ok (.isub, 1) := dk_100 (dk_at dksX7_comesTo_4 23 rfl rfl)
theorem dX7_comesTo_117 : decode cX7_comesTo 117 = .ok (.iastore, 1) := dk_79 (dk_at dksX7_comesTo_5 0 rfl rfl)
theorem dX7_comesTo_118 : decode cX7_comesTo 118 = .ok (.goto 112, 3) := dk_167 0 112 (dk_at dksX7_comesTo_5 1 rfl rfl)
theorem dX7_comesTo_121 : decode cX7_comesTo 121 = .ok (.iload 6, 2) := dk_21 6 (dk_at dksX7_comesTo_5 4 rfl rfl)
theorem dX7_comesTo_123 : decode cX7_comesTo 123 = .ok (.bipush 11, 2) := dk_16 11 (dk_at dksX7_comesTo_5 6 rfl rfl)
theorem dX7_comesTo_125 : decode cX7_comesTo 125 = .ok (.if_icmp .eq 10, 3) := dk_159 0 10 (dk_at dksX7_comesTo_5 8 rfl rfl)
theorem dX7_comesTo_128 : decode cX7_comesTo 128 = .ok (.iload 6, 2) := dk_21 6 (dk_at dksX7_comesTo_5 11 rfl rfl)
theorem dX7_comesTo_130 : decode cX7_comesTo 130 = .ok (.bipush 12, 2) := dk_16 12 (dk_at dksX7_comesTo_5 13 rfl rfl)
theorem dX7_comesTo_132 : decode cX7_comesTo 132 = .ok (.if_icmp .ne 43, 3) := dk_160 0 43 (dk_at dksX7_comesTo_5 15 rfl rfl)
theorem dX7_comesTo_135 : decode cX7_comesTo 135 = .ok (.aload_n 0, 1) := dk_42 (dk_at dksX7_comesTo_5 18 rfl rfl)
theorem dX7_comesTo_136 : decode cX7_comesTo 136 = .ok (.getfield 59, 3) := dk_180 0 59 (dk_at dksX7_comesTo_5 19 rfl rfl)
theorem dX7_comesTo_139 : decode cX7_comesTo 139 = .ok (.iload_n 3, 1) := dk_29 (dk_at dksX7_comesTo_5 22 rfl rfl)
theorem dX7_comesTo_140 : decode cX7_comesTo 140 = .ok (.iconst 1, 1) := dk_4 (dk_at dksX7_comesTo_5 23 rfl rfl)
theorem dX7_comesTo_141 : decode cX7_comesTo 141 = .ok (.isub, 1) := dk_100 (dk_at dksX7_comesTo_6 0 rfl rfl)
theorem dX7_comesTo_142 : decode cX7_comesTo 142 = .ok (.iaload, 1) := dk_46 (dk_at dksX7_comesTo_6 1 rfl rfl)
theorem dX7_comesTo_143 : decode cX7_comesTo 143 = .ok (.iload 6, 2) := dk_21 6 (dk_at dksX7_comesTo_6 2 rfl rfl)
theorem dX7_comesTo_145 : decode cX7_comesTo 145 = .ok (.bipush 12, 2) := dk_16 12 (dk_at dksX7_comesTo_6 4 rfl rfl)
theorem dX7_comesTo_147 : decode cX7_comesTo 147 = .ok (.if_icmp .ne 7, 3) := dk_160 0 7 (dk_at dksX7_comesTo_6 6 rfl rfl)
theorem dX7_comesTo_150 : decode cX7_comesTo 150 = .ok (.iconst 1, 1) := dk_4 (dk_at dksX7_comesTo_6 9 rfl rfl)
theorem dX7_comesTo_151 : decode cX7_comesTo 151 = .ok (.goto 4, 3) := dk_167 0 4 (dk_at dksX7_comesTo_6 10 rfl rfl)
theorem dX7_comesTo_154 : decode cX7_comesTo 154 = .ok (.iconst 0, 1) := dk_3 (dk_at dksX7_comesTo_6 13 rfl rfl)
theorem dX7_comesTo_155 : decode cX7_comesTo 155 = .ok (.if_icmp .ne 13, 3) := dk_160 0 13 (dk_at dksX7_comesTo_6 14 rfl rfl)
theorem dX7_comesTo_158 : decode cX7_comesTo 158 = .ok (.iload 4, 2) := dk_21 4 (dk_at dksX7_comesTo_6 17 rfl rfl)
theorem dX7_comesTo_160 : decode cX7_comesTo 160 = .ok (.iload 7, 2) := dk_21 7 (dk_at dksX7_comesTo_6 19 rfl rfl)
theorem dX7_comesTo_162 : decode cX7_comesTo 162 = .ok (.iadd, 1) := dk_96 (dk_at dksX7_comesTo_6 21 rfl rfl)
theorem dX7_comesTo_163 : decode cX7_comesTo 163 = .ok (.istore 5, 2) := dk_54 5 (dk_at dksX7_comesTo_6 22 rfl rfl)
theorem dX7_comesTo_165 : decode cX7_comesTo 165 = .ok (.goto 65, 3) := dk_167 0 65 (dk_at dksX7_comesTo_7 0 rfl rfl)
theorem dX7_comesTo_168 : decode cX7_comesTo 168 = .ok (.iload_n 3, 1) := dk_29 (dk_at dksX7_comesTo_7 3 rfl rfl)
theorem dX7_comesTo_169 : decode cX7_comesTo 169 = .ok (.iconst 1, 1) := dk_4 (dk_at dksX7_comesTo_7 4 rfl rfl)
theorem dX7_comesTo_170 : decode cX7_comesTo 170 = .ok (.isub, 1) := dk_100 (dk_at dksX7_comesTo_7 5 rfl rfl)
theorem dX7_comesTo_171 : decode cX7_comesTo 171 = .ok (.istore_n 3, 1) := dk_62 (dk_at dksX7_comesTo_7 6 rfl rfl)
theorem dX7_comesTo_172 : decode cX7_comesTo 172 = .ok (.goto 58, 3) := dk_167 0 58 (dk_at dksX7_comesTo_7 7 rfl rfl)
theorem dX7_comesTo_175 : decode cX7_comesTo 175 = .ok (.iload_n 3, 1) := dk_29 (dk_at dksX7_comesTo_7 10 rfl rfl)
theorem dX7_comesTo_176 : decode cX7_comesTo 176 = .ok (.iconst 1, 1) := dk_4 (dk_at dksX7_comesTo_7 11 rfl rfl)
theorem dX7_comesTo_177 : decode cX7_comesTo 177 = .ok (.isub, 1) := dk_100 (dk_at dksX7_comesTo_7 12 rfl rfl)
theorem dX7_comesTo_178 : decode cX7_comesTo 178 = .ok (.istore_n 3, 1) := dk_62 (dk_at dksX7_comesTo_7 13 rfl rfl)
theorem dX7_comesTo_179 : decode cX7_comesTo 179 = .ok (.iload 6, 2) := dk_21 6 (dk_at dksX7_comesTo_7 14 rfl rfl)
theorem dX7_comesTo_181 : decode cX7_comesTo 181 = .ok (.iconst 5, 1) := dk_8 (dk_at dksX7_comesTo_7 16 rfl rfl)
theorem dX7_comesTo_182 : decode cX7_comesTo 182 = .ok (.if_icmp .eq 10, 3) := dk_159 0 10 (dk_at dksX7_comesTo_7 17 rfl rfl)
theorem dX7_comesTo_185 : decode cX7_comesTo 185 = .ok (.iload 6, 2) := dk_21 6 (dk_at dksX7_comesTo_7 20 rfl rfl)
theorem dX7_comesTo_187 : decode cX7_comesTo 187 = .ok (.bipush 6, 2) := dk_16 6 (dk_at dksX7_comesTo_7 22 rfl rfl)
theorem dX7_comesTo_189 : decode cX7_comesTo 189 = .ok (.if_icmp .ne 14, 3) := dk_160 0 14 (dk_at dksX7_comesTo_8 0 rfl rfl)
theorem dX7_comesTo_192 : decode cX7_comesTo 192 = .ok (.aload_n 0, 1) := dk_42 (dk_at dksX7_comesTo_8 3 rfl rfl)
theorem dX7_comesTo_193 : decode cX7_comesTo 193 = .ok (.getfield 59, 3) := dk_180 0 59 (dk_at dksX7_comesTo_8 4 rfl rfl)
theorem dX7_comesTo_196 : decode cX7_comesTo 196 = .ok (.iload_n 3, 1) := dk_29 (dk_at dksX7_comesTo_8 7 rfl rfl)
theorem dX7_comesTo_197 : decode cX7_comesTo 197 = .ok (.iaload, 1) := dk_46 (dk_at dksX7_comesTo_8 8 rfl rfl)
theorem dX7_comesTo_198 : decode cX7_comesTo 198 = .ok (.ifCond .ne 5, 3) := dk_154 0 5 (dk_at dksX7_comesTo_8 9 rfl rfl)
theorem dX7_comesTo_201 : decode cX7_comesTo 201 = .ok (.iconst 0, 1) := dk_3 (dk_at dksX7_comesTo_8 12 rfl rfl)
theorem dX7_comesTo_202 : decode cX7_comesTo 202 = .ok (.ireturn, 1) := dk_172 (dk_at dksX7_comesTo_8 13 rfl rfl)
theorem dX7_comesTo_203 : decode cX7_comesTo 203 = .ok (.aload_n 0, 1) := dk_42 (dk_at dksX7_comesTo_8 14 rfl rfl)
theorem dX7_comesTo_204 : decode cX7_comesTo 204 = .ok (.getfield 59, 3) := dk_180 0 59 (dk_at dksX7_comesTo_8 15 rfl rfl)
theorem dX7_comesTo_207 : decode cX7_comesTo 207 = .ok (.iload_n 3, 1) := dk_29 (dk_at dksX7_comesTo_8 18 rfl rfl)
theorem dX7_comesTo_208 : decode cX7_comesTo 208 = .ok (.iconst 1, 1) := dk_4 (dk_at dksX7_comesTo_8 19 rfl rfl)
theorem dX7_comesTo_209 : decode cX7_comesTo 209 = .ok (.isub, 1) := dk_100 (dk_at dksX7_comesTo_8 20 rfl rfl)
theorem dX7_comesTo_210 : decode cX7_comesTo 210 = .ok (.iload 6, 2) := dk_21 6 (dk_at dksX7_comesTo_8 21 rfl rfl)
theorem dX7_comesTo_212 : decode cX7_comesTo 212 = .ok (.aload_n 0, 1) := dk_42 (dk_at dksX7_comesTo_8 23 rfl rfl)
theorem dX7_comesTo_213 : decode cX7_comesTo 213 = .ok (.getfield 59, 3) := dk_180 0 59 (dk_at dksX7_comesTo_9 0 rfl rfl)
theorem dX7_comesTo_216 : decode cX7_comesTo 216 = .ok (.iload_n 3, 1) := dk_29 (dk_at dksX7_comesTo_9 3 rfl rfl)
theorem dX7_comesTo_217 : decode cX7_comesTo 217 = .ok (.iconst 1, 1) := dk_4 (dk_at dksX7_comesTo_9 4 rfl rfl)
theorem dX7_comesTo_218 : decode cX7_comesTo 218 = .ok (.isub, 1) := dk_100 (dk_at dksX7_comesTo_9 5 rfl rfl)
theorem dX7_comesTo_219 : decode cX7_comesTo 219 = .ok (.iaload, 1) := dk_46 (dk_at dksX7_comesTo_9 6 rfl rfl)
theorem dX7_comesTo_220 : decode cX7_comesTo 220 = .ok (.aload_n 0, 1) := dk_42 (dk_at dksX7_comesTo_9 7 rfl rfl)
theorem dX7_comesTo_221 : decode cX7_comesTo 221 = .ok (.getfield 59, 3) := dk_180 0 59 (dk_at dksX7_comesTo_9 8 rfl rfl)
theorem dX7_comesTo_224 : decode cX7_comesTo 224 = .ok (.iload_n 3, 1) := dk_29 (dk_at dksX7_comesTo_9 11 rfl rfl)
theorem dX7_comesTo_225 : decode cX7_comesTo 225 = .ok (.iaload, 1) := dk_46 (dk_at dksX7_comesTo_9 12 rfl rfl)
theorem dX7_comesTo_226 : decode cX7_comesTo 226 = .ok (.invokestatic 240, 3) := dk_184 0 240 (dk_at dksX7_comesTo_9 13 rfl rfl)
theorem dX7_comesTo_229 : decode cX7_comesTo 229 = .ok (.iastore, 1) := dk_79 (dk_at dksX7_comesTo_9 16 rfl rfl)
theorem dX7_comesTo_230 : decode cX7_comesTo 230 = .ok (.goto (-214), 3) := dk_167 255 42 (dk_at dksX7_comesTo_9 17 rfl rfl)
theorem dX7_comesTo_233 : decode cX7_comesTo 233 = .ok (.aload_n 0, 1) := dk_42 (dk_at dksX7_comesTo_9 20 rfl rfl)
theorem dX7_comesTo_234 : decode cX7_comesTo 234 = .ok (.getfield 59, 3) := dk_180 0 59 (dk_at dksX7_comesTo_9 21 rfl rfl)
theorem dX7_comesTo_237 : decode cX7_comesTo 237 = .ok (.iconst 0, 1) := dk_3 (dk_at dksX7_comesTo_10 0 rfl rfl)
theorem dX7_comesTo_238 : decode cX7_comesTo 238 = .ok (.iaload, 1) := dk_46 (dk_at dksX7_comesTo_10 1 rfl rfl)
theorem dX7_comesTo_239 : decode cX7_comesTo 239 = .ok (.ireturn, 1) := dk_172 (dk_at dksX7_comesTo_10 2 rfl rfl)
abbrev cX7_reckon : ByteArray := prog_19_method_44_code
def yX7_reckon : MethodName := ⟨RX7, "reckon", "(III)I"⟩
def dkwX7_reckon_4 : List UInt8 := [160, 0, 7, 4, 167, 0, 4, 3, 172]
abbrev dktX7_reckon_4 : List UInt8 := dkwX7_reckon_4 ++ []
def dkwX7_reckon_3 : List UInt8 := [162, 0, 7, 4, 167, 0, 4, 3, 172, 27, 28, 164, 0, 7, 4, 167, 0, 4, 3, 172, 27, 28]
abbrev dktX7_reckon_3 : List UInt8 := dkwX7_reckon_3 ++ dktX7_reckon_4
def dkwX7_reckon_2 : List UInt8 := [27, 28, 96, 172, 27, 28, 100, 172, 27, 28, 104, 172, 27, 28, 108, 172, 27, 28, 112, 172, 27, 28]
abbrev dktX7_reckon_2 : List UInt8 := dkwX7_reckon_2 ++ dktX7_reckon_3
def dkwX7_reckon_1 : List UInt8 := [170, 0, 0, 0, 0, 0, 85, 0, 0, 0, 2, 0, 0, 0, 8, 0, 0, 0, 43, 0, 0, 0, 47, 0, 0, 0, 51, 0, 0, 0, 55, 0, 0, 0, 59, 0, 0, 0, 63, 0, 0, 0, 74]
abbrev dktX7_reckon_1 : List UInt8 := dkwX7_reckon_1 ++ dktX7_reckon_2
def dkwX7_reckon_0 : List UInt8 := [26]
abbrev dktX7_reckon_0 : List UInt8 := dkwX7_reckon_0 ++ dktX7_reckon_1
theorem dksX7_reckon_0 : cX7_reckon.data.toList.drop 0 = dktX7_reckon_0 := by decide +kernel
theorem dksX7_reckon_1 : cX7_reckon.data.toList.drop 1 = dktX7_reckon_1 := dk_seg dksX7_reckon_0 1 rfl rfl
theorem dksX7_reckon_2 : cX7_reckon.data.toList.drop 44 = dktX7_reckon_2 := dk_seg dksX7_reckon_1 43 rfl rfl
theorem dksX7_reckon_3 : cX7_reckon.data.toList.drop 66 = dktX7_reckon_3 := dk_seg dksX7_reckon_2 22 rfl rfl
theorem dksX7_reckon_4 : cX7_reckon.data.toList.drop 88 = dktX7_reckon_4 := dk_seg dksX7_reckon_3 22 rfl rfl
theorem dX7_reckon_0 : decode cX7_reckon 0 = .ok (.iload_n 0, 1) := dk_26 (dk_at dksX7_reckon_0 0 rfl rfl)
theorem dX7_reckon_1 : decode cX7_reckon 1 = .ok (.tableswitch 85 2 8 #[43, 47, 51, 55, 59, 63, 74], 43) := by decide +kernel
theorem dX7_reckon_44 : decode cX7_reckon 44 = .ok (.iload_n 1, 1) := dk_27 (dk_at dksX7_reckon_2 0 rfl rfl)
theorem dX7_reckon_45 : decode cX7_reckon 45 = .ok (.iload_n 2, 1) := dk_28 (dk_at dksX7_reckon_2 1 rfl rfl)
theorem dX7_reckon_46 : decode cX7_reckon 46 = .ok (.iadd, 1) := dk_96 (dk_at dksX7_reckon_2 2 rfl rfl)
theorem dX7_reckon_47 : decode cX7_reckon 47 = .ok (.ireturn, 1) := dk_172 (dk_at dksX7_reckon_2 3 rfl rfl)
theorem dX7_reckon_48 : decode cX7_reckon 48 = .ok (.iload_n 1, 1) := dk_27 (dk_at dksX7_reckon_2 4 rfl rfl)
theorem dX7_reckon_49 : decode cX7_reckon 49 = .ok (.iload_n 2, 1) := dk_28 (dk_at dksX7_reckon_2 5 rfl rfl)
theorem dX7_reckon_50 : decode cX7_reckon 50 = .ok (.isub, 1) := dk_100 (dk_at dksX7_reckon_2 6 rfl rfl)
theorem dX7_reckon_51 : decode cX7_reckon 51 = .ok (.ireturn, 1) := dk_172 (dk_at dksX7_reckon_2 7 rfl rfl)
theorem dX7_reckon_52 : decode cX7_reckon 52 = .ok (.iload_n 1, 1) := dk_27 (dk_at dksX7_reckon_2 8 rfl rfl)
theorem dX7_reckon_53 : decode cX7_reckon 53 = .ok (.iload_n 2, 1) := dk_28 (dk_at dksX7_reckon_2 9 rfl rfl)
theorem dX7_reckon_54 : decode cX7_reckon 54 = .ok (.imul, 1) := dk_104 (dk_at dksX7_reckon_2 10 rfl rfl)
theorem dX7_reckon_55 : decode cX7_reckon 55 = .ok (.ireturn, 1) := dk_172 (dk_at dksX7_reckon_2 11 rfl rfl)
theorem dX7_reckon_56 : decode cX7_reckon 56 = .ok (.iload_n 1, 1) := dk_27 (dk_at dksX7_reckon_2 12 rfl rfl)
theorem dX7_reckon_57 : decode cX7_reckon 57 = .ok (.iload_n 2, 1) := dk_28 (dk_at dksX7_reckon_2 13 rfl rfl)
theorem dX7_reckon_58 : decode cX7_reckon 58 = .ok (.idiv, 1) := dk_108 (dk_at dksX7_reckon_2 14 rfl rfl)
theorem dX7_reckon_59 : decode cX7_reckon 59 = .ok (.ireturn, 1) := dk_172 (dk_at dksX7_reckon_2 15 rfl rfl)
theorem dX7_reckon_60 : decode cX7_reckon 60 = .ok (.iload_n 1, 1) := dk_27 (dk_at dksX7_reckon_2 16 rfl rfl)
theorem dX7_reckon_61 : decode cX7_reckon 61 = .ok (.iload_n 2, 1) := dk_28 (dk_at dksX7_reckon_2 17 rfl rfl)
theorem dX7_reckon_62 : decode cX7_reckon 62 = .ok (.irem, 1) := dk_112 (dk_at dksX7_reckon_2 18 rfl rfl)
theorem dX7_reckon_63 : decode cX7_reckon 63 = .ok (.ireturn, 1) := dk_172 (dk_at dksX7_reckon_2 19 rfl rfl)
theorem dX7_reckon_64 : decode cX7_reckon 64 = .ok (.iload_n 1, 1) := dk_27 (dk_at dksX7_reckon_2 20 rfl rfl)
theorem dX7_reckon_65 : decode cX7_reckon 65 = .ok (.iload_n 2, 1) := dk_28 (dk_at dksX7_reckon_2 21 rfl rfl)
theorem dX7_reckon_66 : decode cX7_reckon 66 = .ok (.if_icmp .ge 7, 3) := dk_162 0 7 (dk_at dksX7_reckon_3 0 rfl rfl)
theorem dX7_reckon_69 : decode cX7_reckon 69 = .ok (.iconst 1, 1) := dk_4 (dk_at dksX7_reckon_3 3 rfl rfl)
theorem dX7_reckon_70 : decode cX7_reckon 70 = .ok (.goto 4, 3) := dk_167 0 4 (dk_at dksX7_reckon_3 4 rfl rfl)
theorem dX7_reckon_73 : decode cX7_reckon 73 = .ok (.iconst 0, 1) := dk_3 (dk_at dksX7_reckon_3 7 rfl rfl)
theorem dX7_reckon_74 : decode cX7_reckon 74 = .ok (.ireturn, 1) := dk_172 (dk_at dksX7_reckon_3 8 rfl rfl)
theorem dX7_reckon_75 : decode cX7_reckon 75 = .ok (.iload_n 1, 1) := dk_27 (dk_at dksX7_reckon_3 9 rfl rfl)
theorem dX7_reckon_76 : decode cX7_reckon 76 = .ok (.iload_n 2, 1) := dk_28 (dk_at dksX7_reckon_3 10 rfl rfl)
theorem dX7_reckon_77 : decode cX7_reckon 77 = .ok (.if_icmp .le 7, 3) := dk_164 0 7 (dk_at dksX7_reckon_3 11 rfl rfl)
theorem dX7_reckon_80 : decode cX7_reckon 80 = .ok (.iconst 1, 1) := dk_4 (dk_at dksX7_reckon_3 14 rfl rfl)
theorem dX7_reckon_81 : decode cX7_reckon 81 = .ok (.goto 4, 3) := dk_167 0 4 (dk_at dksX7_reckon_3 15 rfl rfl)
theorem dX7_reckon_84 : decode cX7_reckon 84 = .ok (.iconst 0, 1) := dk_3 (dk_at dksX7_reckon_3 18 rfl rfl)
theorem dX7_reckon_85 : decode cX7_reckon 85 = .ok (.ireturn, 1) := dk_172 (dk_at dksX7_reckon_3 19 rfl rfl)
theorem dX7_reckon_86 : decode cX7_reckon 86 = .ok (.iload_n 1, 1) := dk_27 (dk_at dksX7_reckon_3 20 rfl rfl)
theorem dX7_reckon_87 : decode cX7_reckon 87 = .ok (.iload_n 2, 1) := dk_28 (dk_at dksX7_reckon_3 21 rfl rfl)
theorem dX7_reckon_88 : decode cX7_reckon 88 = .ok (.if_icmp .ne 7, 3) := dk_160 0 7 (dk_at dksX7_reckon_4 0 rfl rfl)
theorem dX7_reckon_91 : decode cX7_reckon 91 = .ok (.iconst 1, 1) := dk_4 (dk_at dksX7_reckon_4 3 rfl rfl)
theorem dX7_reckon_92 : decode cX7_reckon 92 = .ok (.goto 4, 3) := dk_167 0 4 (dk_at dksX7_reckon_4 4 rfl rfl)
theorem dX7_reckon_95 : decode cX7_reckon 95 = .ok (.iconst 0, 1) := dk_3 (dk_at dksX7_reckon_4 7 rfl rfl)
theorem dX7_reckon_96 : decode cX7_reckon 96 = .ok (.ireturn, 1) := dk_172 (dk_at dksX7_reckon_4 8 rfl rfl)
abbrev cX7_days : ByteArray := prog_19_method_56_code
def yX7_days : MethodName := ⟨RX7, "days", "(I)I"⟩
def dkwX7_days_0 : List UInt8 := [27, 4, 16, 60, 184, 0, 126, 154, 0, 5, 2, 172, 42, 27, 182, 1, 35, 42, 180, 1, 10, 172]
abbrev dktX7_days_0 : List UInt8 := dkwX7_days_0 ++ []
theorem dksX7_days_0 : cX7_days.data.toList.drop 0 = dktX7_days_0 := by decide +kernel
theorem dX7_days_0 : decode cX7_days 0 = .ok (.iload_n 1, 1) := dk_27 (dk_at dksX7_days_0 0 rfl rfl)
theorem dX7_days_1 : decode cX7_days 1 = .ok (.iconst 1, 1) := dk_4 (dk_at dksX7_days_0 1 rfl rfl)
theorem dX7_days_2 : decode cX7_days 2 = .ok (.bipush 60, 2) := dk_16 60 (dk_at dksX7_days_0 2 rfl rfl)
theorem dX7_days_4 : decode cX7_days 4 = .ok (.invokestatic 126, 3) := dk_184 0 126 (dk_at dksX7_days_0 4 rfl rfl)
theorem dX7_days_7 : decode cX7_days 7 = .ok (.ifCond .ne 5, 3) := dk_154 0 5 (dk_at dksX7_days_0 7 rfl rfl)
theorem dX7_days_10 : decode cX7_days 10 = .ok (.iconst (-1), 1) := dk_2 (dk_at dksX7_days_0 10 rfl rfl)
theorem dX7_days_11 : decode cX7_days 11 = .ok (.ireturn, 1) := dk_172 (dk_at dksX7_days_0 11 rfl rfl)
theorem dX7_days_12 : decode cX7_days 12 = .ok (.aload_n 0, 1) := dk_42 (dk_at dksX7_days_0 12 rfl rfl)
theorem dX7_days_13 : decode cX7_days 13 = .ok (.iload_n 1, 1) := dk_27 (dk_at dksX7_days_0 13 rfl rfl)
theorem dX7_days_14 : decode cX7_days 14 = .ok (.invokevirtual 291, 3) := dk_182 1 35 (dk_at dksX7_days_0 14 rfl rfl)
theorem dX7_days_17 : decode cX7_days 17 = .ok (.aload_n 0, 1) := dk_42 (dk_at dksX7_days_0 17 rfl rfl)
theorem dX7_days_18 : decode cX7_days 18 = .ok (.getfield 266, 3) := dk_180 1 10 (dk_at dksX7_days_0 18 rfl rfl)
theorem dX7_days_21 : decode cX7_days 21 = .ok (.ireturn, 1) := dk_172 (dk_at dksX7_days_0 21 rfl rfl)
abbrev cX7_daysGo : ByteArray := prog_19_method_55_code
def yX7_daysGo : MethodName := ⟨RX7, "daysGo", "(I)V"⟩
def dkwX7_daysGo_2 : List UInt8 := [16, 79, 46, 17, 39, 15, 162, 0, 13, 42, 182, 1, 32, 132, 2, 1, 167, 255, 231, 177]
abbrev dktX7_daysGo_2 : List UInt8 := dkwX7_daysGo_2 ++ []
def dkwX7_daysGo_1 : List UInt8 := [180, 0, 65, 28, 3, 79, 132, 2, 1, 167, 255, 240, 3, 61, 28, 27, 162, 0, 26, 42, 180, 0, 7]
abbrev dktX7_daysGo_1 : List UInt8 := dkwX7_daysGo_1 ++ dktX7_daysGo_2
def dkwX7_daysGo_0 : List UInt8 := [42, 3, 181, 1, 10, 42, 3, 181, 1, 13, 42, 3, 181, 1, 25, 3, 61, 28, 16, 8, 162, 0, 16, 42]
abbrev dktX7_daysGo_0 : List UInt8 := dkwX7_daysGo_0 ++ dktX7_daysGo_1
theorem dksX7_daysGo_0 : cX7_daysGo.data.toList.drop 0 = dktX7_daysGo_0 := by decide +kernel
theorem dksX7_daysGo_1 : cX7_daysGo.data.toList.drop 24 = dktX7_daysGo_1 := dk_seg dksX7_daysGo_0 24 rfl rfl
theorem dksX7_daysGo_2 : cX7_daysGo.data.toList.drop 47 = dktX7_daysGo_2 := dk_seg dksX7_daysGo_1 23 rfl rfl
theorem dX7_daysGo_0 : decode cX7_daysGo 0 = .ok (.aload_n 0, 1) := dk_42 (dk_at dksX7_daysGo_0 0 rfl rfl)
theorem dX7_daysGo_1 : decode cX7_daysGo 1 = .ok (.iconst 0, 1) := dk_3 (dk_at dksX7_daysGo_0 1 rfl rfl)
theorem dX7_daysGo_2 : decode cX7_daysGo 2 = .ok (.putfield 266, 3) := dk_181 1 10 (dk_at dksX7_daysGo_0 2 rfl rfl)
theorem dX7_daysGo_5 : decode cX7_daysGo 5 = .ok (.aload_n 0, 1) := dk_42 (dk_at dksX7_daysGo_0 5 rfl rfl)
theorem dX7_daysGo_6 : decode cX7_daysGo 6 = .ok (.iconst 0, 1) := dk_3 (dk_at dksX7_daysGo_0 6 rfl rfl)
theorem dX7_daysGo_7 : decode cX7_daysGo 7 = .ok (.putfield 269, 3) := dk_181 1 13 (dk_at dksX7_daysGo_0 7 rfl rfl)
theorem dX7_daysGo_10 : decode cX7_daysGo 10 = .ok (.aload_n 0, 1) := dk_42 (dk_at dksX7_daysGo_0 10 rfl rfl)
theorem dX7_daysGo_11 : decode cX7_daysGo 11 = .ok (.iconst 0, 1) := dk_3 (dk_at dksX7_daysGo_0 11 rfl rfl)
theorem dX7_daysGo_12 : decode cX7_daysGo 12 = .ok (.putfield 281, 3) := dk_181 1 25 (dk_at dksX7_daysGo_0 12 rfl rfl)
theorem dX7_daysGo_15 : decode cX7_daysGo 15 = .ok (.iconst 0, 1) := dk_3 (dk_at dksX7_daysGo_0 15 rfl rfl)
theorem dX7_daysGo_16 : decode cX7_daysGo 16 = .ok (.istore_n 2, 1) := dk_61 (dk_at dksX7_daysGo_0 16 rfl rfl)
theorem dX7_daysGo_17 : decode cX7_daysGo 17 = .ok (.iload_n 2, 1) := dk_28 (dk_at dksX7_daysGo_0 17 rfl rfl)
theorem dX7_daysGo_18 : decode cX7_daysGo 18 = .ok (.bipush 8, 2) := dk_16 8 (dk_at dksX7_daysGo_0 18 rfl rfl)
theorem dX7_daysGo_20 : decode cX7_daysGo 20 = .ok (.if_icmp .ge 16, 3) := dk_162 0 16 (dk_at dksX7_daysGo_0 20 rfl rfl)
theorem dX7_daysGo_23 : decode cX7_daysGo 23 = .ok (.aload_n 0, 1) := dk_42 (dk_at dksX7_daysGo_0 23 rfl rfl)
theorem dX7_daysGo_24 : decode cX7_daysGo 24 = .ok (.getfield 65, 3) := dk_180 0 65 (dk_at dksX7_daysGo_1 0 rfl rfl)
theorem dX7_daysGo_27 : decode cX7_daysGo 27 = .ok (.iload_n 2, 1) := dk_28 (dk_at dksX7_daysGo_1 3 rfl rfl)
theorem dX7_daysGo_28 : decode cX7_daysGo 28 = .ok (.iconst 0, 1) := dk_3 (dk_at dksX7_daysGo_1 4 rfl rfl)
theorem dX7_daysGo_29 : decode cX7_daysGo 29 = .ok (.iastore, 1) := dk_79 (dk_at dksX7_daysGo_1 5 rfl rfl)
theorem dX7_daysGo_30 : decode cX7_daysGo 30 = .ok (.iinc 2 1, 3) := dk_132 2 1 (dk_at dksX7_daysGo_1 6 rfl rfl)
theorem dX7_daysGo_33 : decode cX7_daysGo 33 = .ok (.goto (-16), 3) := dk_167 255 240 (dk_at dksX7_daysGo_1 9 rfl rfl)
theorem dX7_daysGo_36 : decode cX7_daysGo 36 = .ok (.iconst 0, 1) := dk_3 (dk_at dksX7_daysGo_1 12 rfl rfl)
theorem dX7_daysGo_37 : decode cX7_daysGo 37 = .ok (.istore_n 2, 1) := dk_61 (dk_at dksX7_daysGo_1 13 rfl rfl)
theorem dX7_daysGo_38 : decode cX7_daysGo 38 = .ok (.iload_n 2, 1) := dk_28 (dk_at dksX7_daysGo_1 14 rfl rfl)
theorem dX7_daysGo_39 : decode cX7_daysGo 39 = .ok (.iload_n 1, 1) := dk_27 (dk_at dksX7_daysGo_1 15 rfl rfl)
theorem dX7_daysGo_40 : decode cX7_daysGo 40 = .ok (.if_icmp .ge 26, 3) := dk_162 0 26 (dk_at dksX7_daysGo_1 16 rfl rfl)
theorem dX7_daysGo_43 : decode cX7_daysGo 43 = .ok (.aload_n 0, 1) := dk_42 (dk_at dksX7_daysGo_1 19 rfl rfl)
theorem dX7_daysGo_44 : decode cX7_daysGo 44 = .ok (.getfield 7, 3) := dk_180 0 7 (dk_at dksX7_daysGo_1 20 rfl rfl)
theorem dX7_daysGo_47 : decode cX7_daysGo 47 = .ok (.bipush 79, 2) := dk_16 79 (dk_at dksX7_daysGo_2 0 rfl rfl)
theorem dX7_daysGo_49 : decode cX7_daysGo 49 = .ok (.iaload, 1) := dk_46 (dk_at dksX7_daysGo_2 2 rfl rfl)
theorem dX7_daysGo_50 : decode cX7_daysGo 50 = .ok (.sipush 9999, 3) := dk_17 39 15 (dk_at dksX7_daysGo_2 3 rfl rfl)
theorem dX7_daysGo_53 : decode cX7_daysGo 53 = .ok (.if_icmp .ge 13, 3) := dk_162 0 13 (dk_at dksX7_daysGo_2 6 rfl rfl)
theorem dX7_daysGo_56 : decode cX7_daysGo 56 = .ok (.aload_n 0, 1) := dk_42 (dk_at dksX7_daysGo_2 9 rfl rfl)
theorem dX7_daysGo_57 : decode cX7_daysGo 57 = .ok (.invokevirtual 288, 3) := dk_182 1 32 (dk_at dksX7_daysGo_2 10 rfl rfl)
theorem dX7_daysGo_60 : decode cX7_daysGo 60 = .ok (.iinc 2 1, 3) := dk_132 2 1 (dk_at dksX7_daysGo_2 13 rfl rfl)
theorem dX7_daysGo_63 : decode cX7_daysGo 63 = .ok (.goto (-25), 3) := dk_167 255 231 (dk_at dksX7_daysGo_2 16 rfl rfl)
theorem dX7_daysGo_66 : decode cX7_daysGo 66 = .ok (.return_, 1) := dk_177 (dk_at dksX7_daysGo_2 19 rfl rfl)
abbrev cX7_dayGoes : ByteArray := prog_19_method_54_code
def yX7_dayGoes : MethodName := ⟨RX7, "dayGoes", "()V"⟩
def dkwX7_dayGoes_6 : List UInt8 := [4, 96, 79, 177]
abbrev dktX7_dayGoes_6 : List UInt8 := dkwX7_dayGoes_6 ++ []
def dkwX7_dayGoes_5 : List UInt8 := [27, 28, 182, 1, 28, 132, 1, 1, 167, 255, 199, 42, 180, 0, 7, 16, 79, 42, 180, 0, 7, 16, 79, 46]
abbrev dktX7_dayGoes_5 : List UInt8 := dkwX7_dayGoes_5 ++ dktX7_dayGoes_6
def dkwX7_dayGoes_4 : List UInt8 := [167, 0, 4, 3, 61, 42, 42, 180, 1, 25, 28, 153, 0, 7, 4, 167, 0, 4, 3, 96, 181, 1, 25, 42]
abbrev dktX7_dayGoes_4 : List UInt8 := dkwX7_dayGoes_4 ++ dktX7_dayGoes_5
def dkwX7_dayGoes_3 : List UInt8 := [7, 162, 0, 58, 42, 27, 182, 0, 130, 154, 0, 6, 167, 0, 41, 42, 182, 1, 19, 8, 162, 0, 7, 4]
abbrev dktX7_dayGoes_3 : List UInt8 := dkwX7_dayGoes_3 ++ dktX7_dayGoes_4
def dkwX7_dayGoes_2 : List UInt8 := [153, 0, 9, 42, 27, 28, 182, 1, 22, 132, 2, 1, 167, 255, 234, 132, 1, 1, 167, 255, 193, 3, 60, 27]
abbrev dktX7_dayGoes_2 : List UInt8 := dkwX7_dayGoes_2 ++ dktX7_dayGoes_3
def dkwX7_dayGoes_1 : List UInt8 := [16, 52, 27, 96, 46, 161, 0, 6, 167, 0, 30, 3, 61, 28, 7, 162, 0, 23, 42, 28, 182, 0, 130]
abbrev dktX7_dayGoes_1 : List UInt8 := dkwX7_dayGoes_1 ++ dktX7_dayGoes_2
def dkwX7_dayGoes_0 : List UInt8 := [3, 60, 27, 16, 8, 162, 0, 63, 42, 27, 182, 1, 3, 153, 0, 49, 42, 182, 1, 19, 42, 180, 0, 7]
abbrev dktX7_dayGoes_0 : List UInt8 := dkwX7_dayGoes_0 ++ dktX7_dayGoes_1
theorem dksX7_dayGoes_0 : cX7_dayGoes.data.toList.drop 0 = dktX7_dayGoes_0 := by decide +kernel
theorem dksX7_dayGoes_1 : cX7_dayGoes.data.toList.drop 24 = dktX7_dayGoes_1 := dk_seg dksX7_dayGoes_0 24 rfl rfl
theorem dksX7_dayGoes_2 : cX7_dayGoes.data.toList.drop 47 = dktX7_dayGoes_2 := dk_seg dksX7_dayGoes_1 23 rfl rfl
theorem dksX7_dayGoes_3 : cX7_dayGoes.data.toList.drop 71 = dktX7_dayGoes_3 := dk_seg dksX7_dayGoes_2 24 rfl rfl
theorem dksX7_dayGoes_4 : cX7_dayGoes.data.toList.drop 95 = dktX7_dayGoes_4 := dk_seg dksX7_dayGoes_3 24 rfl rfl
theorem dksX7_dayGoes_5 : cX7_dayGoes.data.toList.drop 119 = dktX7_dayGoes_5 := dk_seg dksX7_dayGoes_4 24 rfl rfl
theorem dksX7_dayGoes_6 : cX7_dayGoes.data.toList.drop 143 = dktX7_dayGoes_6 := dk_seg dksX7_dayGoes_5 24 rfl rfl
theorem dX7_dayGoes_0 : decode cX7_dayGoes 0 = .ok (.iconst 0, 1) := dk_3 (dk_at dksX7_dayGoes_0 0 rfl rfl)
theorem dX7_dayGoes_1 : decode cX7_dayGoes 1 = .ok (.istore_n 1, 1) := dk_60 (dk_at dksX7_dayGoes_0 1 rfl rfl)
theorem dX7_dayGoes_2 : decode cX7_dayGoes 2 = .ok (.iload_n 1, 1) := dk_27 (dk_at dksX7_dayGoes_0 2 rfl rfl)
theorem dX7_dayGoes_3 : decode cX7_dayGoes 3 = .ok (.bipush 8, 2) := dk_16 8 (dk_at dksX7_dayGoes_0 3 rfl rfl)
theorem dX7_dayGoes_5 : decode cX7_dayGoes 5 = .ok (.if_icmp .ge 63, 3) := dk_162 0 63 (dk_at dksX7_dayGoes_0 5 rfl rfl)
theorem dX7_dayGoes_8 : decode cX7_dayGoes 8 = .ok (.aload_n 0, 1) := dk_42 (dk_at dksX7_dayGoes_0 8 rfl rfl)
theorem dX7_dayGoes_9 : decode cX7_dayGoes 9 = .ok (.iload_n 1, 1) := dk_27 (dk_at dksX7_dayGoes_0 9 rfl rfl)
theorem dX7_dayGoes_10 : decode cX7_dayGoes 10 = .ok (.invokevirtual 259, 3) := dk_182 1 3 (dk_at dksX7_dayGoes_0 10 rfl rfl)
theorem dX7_dayGoes_13 : decode cX7_dayGoes 13 = .ok (.ifCond .eq 49, 3) := dk_153 0 49 (dk_at dksX7_dayGoes_0 13 rfl rfl)
theorem dX7_dayGoes_16 : decode cX7_dayGoes 16 = .ok (.aload_n 0, 1) := dk_42 (dk_at dksX7_dayGoes_0 16 rfl rfl)
theorem dX7_dayGoes_17 : decode cX7_dayGoes 17 = .ok (.invokevirtual 275, 3) := dk_182 1 19 (dk_at dksX7_dayGoes_0 17 rfl rfl)
theorem dX7_dayGoes_20 : decode cX7_dayGoes 20 = .ok (.aload_n 0, 1) := dk_42 (dk_at dksX7_dayGoes_0 20 rfl rfl)
theorem dX7_dayGoes_21 : decode cX7_dayGoes 21 = .ok (.getfield 7, 3) := dk_180 0 7 (dk_at dksX7_dayGoes_0 21 rfl rfl)
theorem dX7_dayGoes_24 : decode cX7_dayGoes 24 = .ok (.bipush 52, 2) := dk_16 52 (dk_at dksX7_dayGoes_1 0 rfl rfl)
theorem dX7_dayGoes_26 : decode cX7_dayGoes 26 = .ok (.iload_n 1, 1) := dk_27 (dk_at dksX7_dayGoes_1 2 rfl rfl)
theorem dX7_dayGoes_27 : decode cX7_dayGoes 27 = .ok (.iadd, 1) := dk_96 (dk_at dksX7_dayGoes_1 3 rfl rfl)
theorem dX7_dayGoes_28 : decode cX7_dayGoes 28 = .ok (.iaload, 1) := dk_46 (dk_at dksX7_dayGoes_1 4 rfl rfl)
theorem dX7_dayGoes_29 : decode cX7_dayGoes 29 = .ok (.if_icmp .lt 6, 3) := dk_161 0 6 (dk_at dksX7_dayGoes_1 5 rfl rfl)
theorem dX7_dayGoes_32 : decode cX7_dayGoes 32 = .ok (.goto 30, 3) := dk_167 0 30 (dk_at dksX7_dayGoes_1 8 rfl rfl)
theorem dX7_dayGoes_35 : decode cX7_dayGoes 35 = .ok (.iconst 0, 1) := dk_3 (dk_at dksX7_dayGoes_1 11 rfl rfl)
theorem dX7_dayGoes_36 : decode cX7_dayGoes 36 = .ok (.istore_n 2, 1) := dk_61 (dk_at dksX7_dayGoes_1 12 rfl rfl)
theorem dX7_dayGoes_37 : decode cX7_dayGoes 37 = .ok (.iload_n 2, 1) := dk_28 (dk_at dksX7_dayGoes_1 13 rfl rfl)
theorem dX7_dayGoes_38 : decode cX7_dayGoes 38 = .ok (.iconst 4, 1) := dk_7 (dk_at dksX7_dayGoes_1 14 rfl rfl)
theorem dX7_dayGoes_39 : decode cX7_dayGoes 39 = .ok (.if_icmp .ge 23, 3) := dk_162 0 23 (dk_at dksX7_dayGoes_1 15 rfl rfl)
theorem dX7_dayGoes_42 : decode cX7_dayGoes 42 = .ok (.aload_n 0, 1) := dk_42 (dk_at dksX7_dayGoes_1 18 rfl rfl)
theorem dX7_dayGoes_43 : decode cX7_dayGoes 43 = .ok (.iload_n 2, 1) := dk_28 (dk_at dksX7_dayGoes_1 19 rfl rfl)
theorem dX7_dayGoes_44 : decode cX7_dayGoes 44 = .ok (.invokevirtual 130, 3) := dk_182 0 130 (dk_at dksX7_dayGoes_1 20 rfl rfl)
theorem dX7_dayGoes_47 : decode cX7_dayGoes 47 = .ok (.ifCond .eq 9, 3) := dk_153 0 9 (dk_at dksX7_dayGoes_2 0 rfl rfl)
theorem dX7_dayGoes_50 : decode cX7_dayGoes 50 = .ok (.aload_n 0, 1) := dk_42 (dk_at dksX7_dayGoes_2 3 rfl rfl)
theorem dX7_dayGoes_51 : decode cX7_dayGoes 51 = .ok (.iload_n 1, 1) := dk_27 (dk_at dksX7_dayGoes_2 4 rfl rfl)
theorem dX7_dayGoes_52 : decode cX7_dayGoes 52 = .ok (.iload_n 2, 1) := dk_28 (dk_at dksX7_dayGoes_2 5 rfl rfl)
theorem dX7_dayGoes_53 : decode cX7_dayGoes 53 = .ok (.invokevirtual 278, 3) := dk_182 1 22 (dk_at dksX7_dayGoes_2 6 rfl rfl)
theorem dX7_dayGoes_56 : decode cX7_dayGoes 56 = .ok (.iinc 2 1, 3) := dk_132 2 1 (dk_at dksX7_dayGoes_2 9 rfl rfl)
theorem dX7_dayGoes_59 : decode cX7_dayGoes 59 = .ok (.goto (-22), 3) := dk_167 255 234 (dk_at dksX7_dayGoes_2 12 rfl rfl)
theorem dX7_dayGoes_62 : decode cX7_dayGoes 62 = .ok (.iinc 1 1, 3) := dk_132 1 1 (dk_at dksX7_dayGoes_2 15 rfl rfl)
theorem dX7_dayGoes_65 : decode cX7_dayGoes 65 = .ok (.goto (-63), 3) := dk_167 255 193 (dk_at dksX7_dayGoes_2 18 rfl rfl)
theorem dX7_dayGoes_68 : decode cX7_dayGoes 68 = .ok (.iconst 0, 1) := dk_3 (dk_at dksX7_dayGoes_2 21 rfl rfl)
theorem dX7_dayGoes_69 : decode cX7_dayGoes 69 = .ok (.istore_n 1, 1) := dk_60 (dk_at dksX7_dayGoes_2 22 rfl rfl)
theorem dX7_dayGoes_70 : decode cX7_dayGoes 70 = .ok (.iload_n 1, 1) := dk_27 (dk_at dksX7_dayGoes_2 23 rfl rfl)
theorem dX7_dayGoes_71 : decode cX7_dayGoes 71 = .ok (.iconst 4, 1) := dk_7 (dk_at dksX7_dayGoes_3 0 rfl rfl)
theorem dX7_dayGoes_72 : decode cX7_dayGoes 72 = .ok (.if_icmp .ge 58, 3) := dk_162 0 58 (dk_at dksX7_dayGoes_3 1 rfl rfl)
theorem dX7_dayGoes_75 : decode cX7_dayGoes 75 = .ok (.aload_n 0, 1) := dk_42 (dk_at dksX7_dayGoes_3 4 rfl rfl)
theorem dX7_dayGoes_76 : decode cX7_dayGoes 76 = .ok (.iload_n 1, 1) := dk_27 (dk_at dksX7_dayGoes_3 5 rfl rfl)
theorem dX7_dayGoes_77 : decode cX7_dayGoes 77 = .ok (.invokevirtual 130, 3) := dk_182 0 130 (dk_at dksX7_dayGoes_3 6 rfl rfl)
theorem dX7_dayGoes_80 : decode cX7_dayGoes 80 = .ok (.ifCond .ne 6, 3) := dk_154 0 6 (dk_at dksX7_dayGoes_3 9 rfl rfl)
theorem dX7_dayGoes_83 : decode cX7_dayGoes 83 = .ok (.goto 41, 3) := dk_167 0 41 (dk_at dksX7_dayGoes_3 12 rfl rfl)
theorem dX7_dayGoes_86 : decode cX7_dayGoes 86 = .ok (.aload_n 0, 1) := dk_42 (dk_at dksX7_dayGoes_3 15 rfl rfl)
theorem dX7_dayGoes_87 : decode cX7_dayGoes 87 = .ok (.invokevirtual 275, 3) := dk_182 1 19 (dk_at dksX7_dayGoes_3 16 rfl rfl)
theorem dX7_dayGoes_90 : decode cX7_dayGoes 90 = .ok (.iconst 5, 1) := dk_8 (dk_at dksX7_dayGoes_3 19 rfl rfl)
theorem dX7_dayGoes_91 : decode cX7_dayGoes 91 = .ok (.if_icmp .ge 7, 3) := dk_162 0 7 (dk_at dksX7_dayGoes_3 20 rfl rfl)
theorem dX7_dayGoes_94 : decode cX7_dayGoes 94 = .ok (.iconst 1, 1) := dk_4 (dk_at dksX7_dayGoes_3 23 rfl rfl)
theorem dX7_dayGoes_95 : decode cX7_dayGoes 95 = .ok (.goto 4, 3) := dk_167 0 4 (dk_at dksX7_dayGoes_4 0 rfl rfl)
theorem dX7_dayGoes_98 : decode cX7_dayGoes 98 = .ok (.iconst 0, 1) := dk_3 (dk_at dksX7_dayGoes_4 3 rfl rfl)
theorem dX7_dayGoes_99 : decode cX7_dayGoes 99 = .ok (.istore_n 2, 1) := dk_61 (dk_at dksX7_dayGoes_4 4 rfl rfl)
theorem dX7_dayGoes_100 : decode cX7_dayGoes 100 = .ok (.aload_n 0, 1) := dk_42 (dk_at dksX7_dayGoes_4 5 rfl rfl)
theorem dX7_dayGoes_101 : decode cX7_dayGoes 101 = .ok (.aload_n 0, 1) := dk_42 (dk_at dksX7_dayGoes_4 6 rfl rfl)
theorem dX7_dayGoes_102 : decode cX7_dayGoes 102 = .ok (.getfield 281, 3) := dk_180 1 25 (dk_at dksX7_dayGoes_4 7 rfl rfl)
theorem dX7_dayGoes_105 : decode cX7_dayGoes 105 = .ok (.iload_n 2, 1) := dk_28 (dk_at dksX7_dayGoes_4 10 rfl rfl)
theorem dX7_dayGoes_106 : decode cX7_dayGoes 106 = .ok (.ifCond .eq 7, 3) := dk_153 0 7 (dk_at dksX7_dayGoes_4 11 rfl rfl)
theorem dX7_dayGoes_109 : decode cX7_dayGoes 109 = .ok (.iconst 1, 1) := dk_4 (dk_at dksX7_dayGoes_4 14 rfl rfl)
theorem dX7_dayGoes_110 : decode cX7_dayGoes 110 = .ok (.goto 4, 3) := dk_167 0 4 (dk_at dksX7_dayGoes_4 15 rfl rfl)
theorem dX7_dayGoes_113 : decode cX7_dayGoes 113 = .ok (.iconst 0, 1) := dk_3 (dk_at dksX7_dayGoes_4 18 rfl rfl)
theorem dX7_dayGoes_114 : decode cX7_dayGoes 114 = .ok (.iadd, 1) := dk_96 (dk_at dksX7_dayGoes_4 19 rfl rfl)
theorem dX7_dayGoes_115 : decode cX7_dayGoes 115 = .ok (.putfield 281, 3) := dk_181 1 25 (dk_at dksX7_dayGoes_4 20 rfl rfl)
theorem dX7_dayGoes_118 : decode cX7_dayGoes 118 = .ok (.aload_n 0, 1) := dk_42 (dk_at dksX7_dayGoes_4 23 rfl rfl)
theorem dX7_dayGoes_119 : decode cX7_dayGoes 119 = .ok (.iload_n 1, 1) := dk_27 (dk_at dksX7_dayGoes_5 0 rfl rfl)
theorem dX7_dayGoes_120 : decode cX7_dayGoes 120 = .ok (.iload_n 2, 1) := dk_28 (dk_at dksX7_dayGoes_5 1 rfl rfl)
theorem dX7_dayGoes_121 : decode cX7_dayGoes 121 = .ok (.invokevirtual 284, 3) := dk_182 1 28 (dk_at dksX7_dayGoes_5 2 rfl rfl)
theorem dX7_dayGoes_124 : decode cX7_dayGoes 124 = .ok (.iinc 1 1, 3) := dk_132 1 1 (dk_at dksX7_dayGoes_5 5 rfl rfl)
theorem dX7_dayGoes_127 : decode cX7_dayGoes 127 = .ok (.goto (-57), 3) := dk_167 255 199 (dk_at dksX7_dayGoes_5 8 rfl rfl)
theorem dX7_dayGoes_130 : decode cX7_dayGoes 130 = .ok (.aload_n 0, 1) := dk_42 (dk_at dksX7_dayGoes_5 11 rfl rfl)
theorem dX7_dayGoes_131 : decode cX7_dayGoes 131 = .ok (.getfield 7, 3) := dk_180 0 7 (dk_at dksX7_dayGoes_5 12 rfl rfl)
theorem dX7_dayGoes_134 : decode cX7_dayGoes 134 = .ok (.bipush 79, 2) := dk_16 79 (dk_at dksX7_dayGoes_5 15 rfl rfl)
theorem dX7_dayGoes_136 : decode cX7_dayGoes 136 = .ok (.aload_n 0, 1) := dk_42 (dk_at dksX7_dayGoes_5 17 rfl rfl)
theorem dX7_dayGoes_137 : decode cX7_dayGoes 137 = .ok (.getfield 7, 3) := dk_180 0 7 (dk_at dksX7_dayGoes_5 18 rfl rfl)
theorem dX7_dayGoes_140 : decode cX7_dayGoes 140 = .ok (.bipush 79, 2) := dk_16 79 (dk_at dksX7_dayGoes_5 21 rfl rfl)
theorem dX7_dayGoes_142 : decode cX7_dayGoes 142 = .ok (.iaload, 1) := dk_46 (dk_at dksX7_dayGoes_5 23 rfl rfl)
theorem dX7_dayGoes_143 : decode cX7_dayGoes 143 = .ok (.iconst 1, 1) := dk_4 (dk_at dksX7_dayGoes_6 0 rfl rfl)
theorem dX7_dayGoes_144 : decode cX7_dayGoes 144 = .ok (.iadd, 1) := dk_96 (dk_at dksX7_dayGoes_6 1 rfl rfl)
theorem dX7_dayGoes_145 : decode cX7_dayGoes 145 = .ok (.iastore, 1) := dk_79 (dk_at dksX7_dayGoes_6 2 rfl rfl)
theorem dX7_dayGoes_146 : decode cX7_dayGoes 146 = .ok (.return_, 1) := dk_177 (dk_at dksX7_dayGoes_6 3 rfl rfl)
abbrev cX7_draws : ByteArray := prog_19_method_51_code
def yX7_draws : MethodName := ⟨RX7, "draws", "()I"⟩
def dkwX7_draws_1 : List UInt8 := [112, 79, 42, 180, 0, 7, 16, 80, 46, 16, 10, 112, 172]
abbrev dktX7_draws_1 : List UInt8 := dkwX7_draws_1 ++ []
def dkwX7_draws_0 : List UInt8 := [42, 180, 0, 7, 16, 80, 17, 98, 85, 42, 180, 0, 7, 16, 80, 46, 104, 17, 54, 25, 96, 19, 1, 9]
abbrev dktX7_draws_0 : List UInt8 := dkwX7_draws_0 ++ dktX7_draws_1
theorem dksX7_draws_0 : cX7_draws.data.toList.drop 0 = dktX7_draws_0 := by decide +kernel
theorem dksX7_draws_1 : cX7_draws.data.toList.drop 24 = dktX7_draws_1 := dk_seg dksX7_draws_0 24 rfl rfl
theorem dX7_draws_0 : decode cX7_draws 0 = .ok (.aload_n 0, 1) := dk_42 (dk_at dksX7_draws_0 0 rfl rfl)
theorem dX7_draws_1 : decode cX7_draws 1 = .ok (.getfield 7, 3) := dk_180 0 7 (dk_at dksX7_draws_0 1 rfl rfl)
theorem dX7_draws_4 : decode cX7_draws 4 = .ok (.bipush 80, 2) := dk_16 80 (dk_at dksX7_draws_0 4 rfl rfl)
theorem dX7_draws_6 : decode cX7_draws 6 = .ok (.sipush 25173, 3) := dk_17 98 85 (dk_at dksX7_draws_0 6 rfl rfl)
theorem dX7_draws_9 : decode cX7_draws 9 = .ok (.aload_n 0, 1) := dk_42 (dk_at dksX7_draws_0 9 rfl rfl)
theorem dX7_draws_10 : decode cX7_draws 10 = .ok (.getfield 7, 3) := dk_180 0 7 (dk_at dksX7_draws_0 10 rfl rfl)
theorem dX7_draws_13 : decode cX7_draws 13 = .ok (.bipush 80, 2) := dk_16 80 (dk_at dksX7_draws_0 13 rfl rfl)
theorem dX7_draws_15 : decode cX7_draws 15 = .ok (.iaload, 1) := dk_46 (dk_at dksX7_draws_0 15 rfl rfl)
theorem dX7_draws_16 : decode cX7_draws 16 = .ok (.imul, 1) := dk_104 (dk_at dksX7_draws_0 16 rfl rfl)
theorem dX7_draws_17 : decode cX7_draws 17 = .ok (.sipush 13849, 3) := dk_17 54 25 (dk_at dksX7_draws_0 17 rfl rfl)
theorem dX7_draws_20 : decode cX7_draws 20 = .ok (.iadd, 1) := dk_96 (dk_at dksX7_draws_0 20 rfl rfl)
theorem dX7_draws_21 : decode cX7_draws 21 = .ok (.ldc_w 265, 3) := dk_19 1 9 (dk_at dksX7_draws_0 21 rfl rfl)
theorem dX7_draws_24 : decode cX7_draws 24 = .ok (.irem, 1) := dk_112 (dk_at dksX7_draws_1 0 rfl rfl)
theorem dX7_draws_25 : decode cX7_draws 25 = .ok (.iastore, 1) := dk_79 (dk_at dksX7_draws_1 1 rfl rfl)
theorem dX7_draws_26 : decode cX7_draws 26 = .ok (.aload_n 0, 1) := dk_42 (dk_at dksX7_draws_1 2 rfl rfl)
theorem dX7_draws_27 : decode cX7_draws 27 = .ok (.getfield 7, 3) := dk_180 0 7 (dk_at dksX7_draws_1 3 rfl rfl)
theorem dX7_draws_30 : decode cX7_draws 30 = .ok (.bipush 80, 2) := dk_16 80 (dk_at dksX7_draws_1 6 rfl rfl)
theorem dX7_draws_32 : decode cX7_draws 32 = .ok (.iaload, 1) := dk_46 (dk_at dksX7_draws_1 8 rfl rfl)
theorem dX7_draws_33 : decode cX7_draws 33 = .ok (.bipush 10, 2) := dk_16 10 (dk_at dksX7_draws_1 9 rfl rfl)
theorem dX7_draws_35 : decode cX7_draws 35 = .ok (.irem, 1) := dk_112 (dk_at dksX7_draws_1 11 rfl rfl)
theorem dX7_draws_36 : decode cX7_draws 36 = .ok (.ireturn, 1) := dk_172 (dk_at dksX7_draws_1 12 rfl rfl)
abbrev cX7_waters : ByteArray := prog_19_method_52_code
def yX7_waters : MethodName := ⟨RX7, "waters", "(II)V"⟩
def dkwX7_waters_5 : List UInt8 := [159, 0, 19, 42, 180, 0, 7, 16, 20, 28, 96, 42, 180, 0, 7, 16, 79, 46, 79, 177]
abbrev dktX7_waters_5 : List UInt8 := dkwX7_waters_5 ++ []
def dkwX7_waters_4 : List UInt8 := [180, 0, 65, 27, 46, 29, 96, 79, 29, 158, 0, 33, 42, 180, 0, 7, 16, 20, 28, 96, 46, 16, 254]
abbrev dktX7_waters_4 : List UInt8 := dkwX7_waters_4 ++ dktX7_waters_5
def dkwX7_waters_3 : List UInt8 := [180, 1, 13, 21, 4, 96, 42, 180, 0, 7, 7, 28, 96, 46, 100, 181, 1, 13, 42, 180, 0, 65, 27, 42]
abbrev dktX7_waters_3 : List UInt8 := dkwX7_waters_3 ++ dktX7_waters_4
def dkwX7_waters_2 : List UInt8 := [42, 180, 0, 7, 16, 68, 27, 96, 46, 29, 96, 79, 42, 42, 180, 1, 10, 29, 96, 181, 1, 10, 42, 42]
abbrev dktX7_waters_2 : List UInt8 := dkwX7_waters_2 ++ dktX7_waters_3
def dkwX7_waters_1 : List UInt8 := [28, 96, 42, 180, 0, 7, 3, 28, 96, 46, 21, 4, 184, 0, 133, 79, 42, 180, 0, 7, 16, 68, 27, 96]
abbrev dktX7_waters_1 : List UInt8 := dkwX7_waters_1 ++ dktX7_waters_2
def dkwX7_waters_0 : List UInt8 := [42, 27, 28, 182, 1, 6, 62, 42, 180, 0, 7, 7, 28, 96, 46, 29, 96, 54, 4, 42, 180, 0, 7, 7]
abbrev dktX7_waters_0 : List UInt8 := dkwX7_waters_0 ++ dktX7_waters_1
theorem dksX7_waters_0 : cX7_waters.data.toList.drop 0 = dktX7_waters_0 := by decide +kernel
theorem dksX7_waters_1 : cX7_waters.data.toList.drop 24 = dktX7_waters_1 := dk_seg dksX7_waters_0 24 rfl rfl
theorem dksX7_waters_2 : cX7_waters.data.toList.drop 48 = dktX7_waters_2 := dk_seg dksX7_waters_1 24 rfl rfl
theorem dksX7_waters_3 : cX7_waters.data.toList.drop 72 = dktX7_waters_3 := dk_seg dksX7_waters_2 24 rfl rfl
theorem dksX7_waters_4 : cX7_waters.data.toList.drop 96 = dktX7_waters_4 := dk_seg dksX7_waters_3 24 rfl rfl
theorem dksX7_waters_5 : cX7_waters.data.toList.drop 119 = dktX7_waters_5 := dk_seg dksX7_waters_4 23 rfl rfl
theorem dX7_waters_0 : decode cX7_waters 0 = .ok (.aload_n 0, 1) := dk_42 (dk_at dksX7_waters_0 0 rfl rfl)
theorem dX7_waters_1 : decode cX7_waters 1 = .ok (.iload_n 1, 1) := dk_27 (dk_at dksX7_waters_0 1 rfl rfl)
theorem dX7_waters_2 : decode cX7_waters 2 = .ok (.iload_n 2, 1) := dk_28 (dk_at dksX7_waters_0 2 rfl rfl)
theorem dX7_waters_3 : decode cX7_waters 3 = .ok (.invokevirtual 262, 3) := dk_182 1 6 (dk_at dksX7_waters_0 3 rfl rfl)
theorem dX7_waters_6 : decode cX7_waters 6 = .ok (.istore_n 3, 1) := dk_62 (dk_at dksX7_waters_0 6 rfl rfl)
theorem dX7_waters_7 : decode cX7_waters 7 = .ok (.aload_n 0, 1) := dk_42 (dk_at dksX7_waters_0 7 rfl rfl)
theorem dX7_waters_8 : decode cX7_waters 8 = .ok (.getfield 7, 3) := dk_180 0 7 (dk_at dksX7_waters_0 8 rfl rfl)
theorem dX7_waters_11 : decode cX7_waters 11 = .ok (.iconst 4, 1) := dk_7 (dk_at dksX7_waters_0 11 rfl rfl)
theorem dX7_waters_12 : decode cX7_waters 12 = .ok (.iload_n 2, 1) := dk_28 (dk_at dksX7_waters_0 12 rfl rfl)
theorem dX7_waters_13 : decode cX7_waters 13 = .ok (.iadd, 1) := dk_96 (dk_at dksX7_waters_0 13 rfl rfl)
theorem dX7_waters_14 : decode cX7_waters 14 = .ok (.iaload, 1) := dk_46 (dk_at dksX7_waters_0 14 rfl rfl)
theorem dX7_waters_15 : decode cX7_waters 15 = .ok (.iload_n 3, 1) := dk_29 (dk_at dksX7_waters_0 15 rfl rfl)
theorem dX7_waters_16 : decode cX7_waters 16 = .ok (.iadd, 1) := dk_96 (dk_at dksX7_waters_0 16 rfl rfl)
theorem dX7_waters_17 : decode cX7_waters 17 = .ok (.istore 4, 2) := dk_54 4 (dk_at dksX7_waters_0 17 rfl rfl)
theorem dX7_waters_19 : decode cX7_waters 19 = .ok (.aload_n 0, 1) := dk_42 (dk_at dksX7_waters_0 19 rfl rfl)
theorem dX7_waters_20 : decode cX7_waters 20 = .ok (.getfield 7, 3) := dk_180 0 7 (dk_at dksX7_waters_0 20 rfl rfl)
theorem dX7_waters_23 : decode cX7_waters 23 = .ok (.iconst 4, 1) := dk_7 (dk_at dksX7_waters_0 23 rfl rfl)
theorem dX7_waters_24 : decode cX7_waters 24 = .ok (.iload_n 2, 1) := dk_28 (dk_at dksX7_waters_1 0 rfl rfl)
theorem dX7_waters_25 : decode cX7_waters 25 = .ok (.iadd, 1) := dk_96 (dk_at dksX7_waters_1 1 rfl rfl)
theorem dX7_waters_26 : decode cX7_waters 26 = .ok (.aload_n 0, 1) := dk_42 (dk_at dksX7_waters_1 2 rfl rfl)
theorem dX7_waters_27 : decode cX7_waters 27 = .ok (.getfield 7, 3) := dk_180 0 7 (dk_at dksX7_waters_1 3 rfl rfl)
theorem dX7_waters_30 : decode cX7_waters 30 = .ok (.iconst 0, 1) := dk_3 (dk_at dksX7_waters_1 6 rfl rfl)
theorem dX7_waters_31 : decode cX7_waters 31 = .ok (.iload_n 2, 1) := dk_28 (dk_at dksX7_waters_1 7 rfl rfl)
theorem dX7_waters_32 : decode cX7_waters 32 = .ok (.iadd, 1) := dk_96 (dk_at dksX7_waters_1 8 rfl rfl)
theorem dX7_waters_33 : decode cX7_waters 33 = .ok (.iaload, 1) := dk_46 (dk_at dksX7_waters_1 9 rfl rfl)
theorem dX7_waters_34 : decode cX7_waters 34 = .ok (.iload 4, 2) := dk_21 4 (dk_at dksX7_waters_1 10 rfl rfl)
theorem dX7_waters_36 : decode cX7_waters 36 = .ok (.invokestatic 133, 3) := dk_184 0 133 (dk_at dksX7_waters_1 12 rfl rfl)
theorem dX7_waters_39 : decode cX7_waters 39 = .ok (.iastore, 1) := dk_79 (dk_at dksX7_waters_1 15 rfl rfl)
theorem dX7_waters_40 : decode cX7_waters 40 = .ok (.aload_n 0, 1) := dk_42 (dk_at dksX7_waters_1 16 rfl rfl)
theorem dX7_waters_41 : decode cX7_waters 41 = .ok (.getfield 7, 3) := dk_180 0 7 (dk_at dksX7_waters_1 17 rfl rfl)
theorem dX7_waters_44 : decode cX7_waters 44 = .ok (.bipush 68, 2) := dk_16 68 (dk_at dksX7_waters_1 20 rfl rfl)
theorem dX7_waters_46 : decode cX7_waters 46 = .ok (.iload_n 1, 1) := dk_27 (dk_at dksX7_waters_1 22 rfl rfl)
theorem dX7_waters_47 : decode cX7_waters 47 = .ok (.iadd, 1) := dk_96 (dk_at dksX7_waters_1 23 rfl rfl)
theorem dX7_waters_48 : decode cX7_waters 48 = .ok (.aload_n 0, 1) := dk_42 (dk_at dksX7_waters_2 0 rfl rfl)
theorem dX7_waters_49 : decode cX7_waters 49 = .ok (.getfield 7, 3) := dk_180 0 7 (dk_at dksX7_waters_2 1 rfl rfl)
theorem dX7_waters_52 : decode cX7_waters 52 = .ok (.bipush 68, 2) := dk_16 68 (dk_at dksX7_waters_2 4 rfl rfl)
theorem dX7_waters_54 : decode cX7_waters 54 = .ok (.iload_n 1, 1) := dk_27 (dk_at dksX7_waters_2 6 rfl rfl)
theorem dX7_waters_55 : decode cX7_waters 55 = .ok (.iadd, 1) := dk_96 (dk_at dksX7_waters_2 7 rfl rfl)
theorem dX7_waters_56 : decode cX7_waters 56 = .ok (.iaload, 1) := dk_46 (dk_at dksX7_waters_2 8 rfl rfl)
theorem dX7_waters_57 : decode cX7_waters 57 = .ok (.iload_n 3, 1) := dk_29 (dk_at dksX7_waters_2 9 rfl rfl)
theorem dX7_waters_58 : decode cX7_waters 58 = .ok (.iadd, 1) := dk_96 (dk_at dksX7_waters_2 10 rfl rfl)
theorem dX7_waters_59 : decode cX7_waters 59 = .ok (.iastore, 1) := dk_79 (dk_at dksX7_waters_2 11 rfl rfl)
theorem dX7_waters_60 : decode cX7_waters 60 = .ok (.aload_n 0, 1) := dk_42 (dk_at dksX7_waters_2 12 rfl rfl)
theorem dX7_waters_61 : decode cX7_waters 61 = .ok (.aload_n 0, 1) := dk_42 (dk_at dksX7_waters_2 13 rfl rfl)
theorem dX7_waters_62 : decode cX7_waters 62 = .ok (.getfield 266, 3) := dk_180 1 10 (dk_at dksX7_waters_2 14 rfl rfl)
theorem dX7_waters_65 : decode cX7_waters 65 = .ok (.iload_n 3, 1) := dk_29 (dk_at dksX7_waters_2 17 rfl rfl)
theorem dX7_waters_66 : decode cX7_waters 66 = .ok (.iadd, 1) := dk_96 (dk_at dksX7_waters_2 18 rfl rfl)
theorem dX7_waters_67 : decode cX7_waters 67 = .ok (.putfield 266, 3) := dk_181 1 10 (dk_at dksX7_waters_2 19 rfl rfl)
theorem dX7_waters_70 : decode cX7_waters 70 = .ok (.aload_n 0, 1) := dk_42 (dk_at dksX7_waters_2 22 rfl rfl)
theorem dX7_waters_71 : decode cX7_waters 71 = .ok (.aload_n 0, 1) := dk_42 (dk_at dksX7_waters_2 23 rfl rfl)
theorem dX7_waters_72 : decode cX7_waters 72 = .ok (.getfield 269, 3) := dk_180 1 13 (dk_at dksX7_waters_3 0 rfl rfl)
theorem dX7_waters_75 : decode cX7_waters 75 = .ok (.iload 4, 2) := dk_21 4 (dk_at dksX7_waters_3 3 rfl rfl)
theorem dX7_waters_77 : decode cX7_waters 77 = .ok (.iadd, 1) := dk_96 (dk_at dksX7_waters_3 5 rfl rfl)
theorem dX7_waters_78 : decode cX7_waters 78 = .ok (.aload_n 0, 1) := dk_42 (dk_at dksX7_waters_3 6 rfl rfl)
theorem dX7_waters_79 : decode cX7_waters 79 = .ok (.getfield 7, 3) := dk_180 0 7 (dk_at dksX7_waters_3 7 rfl rfl)
theorem dX7_waters_82 : decode cX7_waters 82 = .ok (.iconst 4, 1) := dk_7 (dk_at dksX7_waters_3 10 rfl rfl)
theorem dX7_waters_83 : decode cX7_waters 83 = .ok (.iload_n 2, 1) := dk_28 (dk_at dksX7_waters_3 11 rfl rfl)
theorem dX7_waters_84 : decode cX7_waters 84 = .ok (.iadd, 1) := dk_96 (dk_at dksX7_waters_3 12 rfl rfl)
theorem dX7_waters_85 : decode cX7_waters 85 = .ok (.iaload, 1) := dk_46 (dk_at dksX7_waters_3 13 rfl rfl)
theorem dX7_waters_86 : decode cX7_waters 86 = .ok (.isub, 1) := dk_100 (dk_at dksX7_waters_3 14 rfl rfl)
theorem dX7_waters_87 : decode cX7_waters 87 = .ok (.putfield 269, 3) := dk_181 1 13 (dk_at dksX7_waters_3 15 rfl rfl)
theorem dX7_waters_90 : decode cX7_waters 90 = .ok (.aload_n 0, 1) := dk_42 (dk_at dksX7_waters_3 18 rfl rfl)
theorem dX7_waters_91 : decode cX7_waters 91 = .ok (.getfield 65, 3) := dk_180 0 65 (dk_at dksX7_waters_3 19 rfl rfl)
theorem dX7_waters_94 : decode cX7_waters 94 = .ok (.iload_n 1, 1) := dk_27 (dk_at dksX7_waters_3 22 rfl rfl)
theorem dX7_waters_95 : decode cX7_waters 95 = .ok (.aload_n 0, 1) := dk_42 (dk_at dksX7_waters_3 23 rfl rfl)
theorem dX7_waters_96 : decode cX7_waters 96 = .ok (.getfield 65, 3) := dk_180 0 65 (dk_at dksX7_waters_4 0 rfl rfl)
theorem dX7_waters_99 : decode cX7_waters 99 = .ok (.iload_n 1, 1) := dk_27 (dk_at dksX7_waters_4 3 rfl rfl)
theorem dX7_waters_100 : decode cX7_waters 100 = .ok (.iaload, 1) := dk_46 (dk_at dksX7_waters_4 4 rfl rfl)
theorem dX7_waters_101 : decode cX7_waters 101 = .ok (.iload_n 3, 1) := dk_29 (dk_at dksX7_waters_4 5 rfl rfl)
theorem dX7_waters_102 : decode cX7_waters 102 = .ok (.iadd, 1) := dk_96 (dk_at dksX7_waters_4 6 rfl rfl)
theorem dX7_waters_103 : decode cX7_waters 103 = .ok (.iastore, 1) := dk_79 (dk_at dksX7_waters_4 7 rfl rfl)
theorem dX7_waters_104 : decode cX7_waters 104 = .ok (.iload_n 3, 1) := dk_29 (dk_at dksX7_waters_4 8 rfl rfl)
theorem dX7_waters_105 : decode cX7_waters 105 = .ok (.ifCond .le 33, 3) := dk_158 0 33 (dk_at dksX7_waters_4 9 rfl rfl)
theorem dX7_waters_108 : decode cX7_waters 108 = .ok (.aload_n 0, 1) := dk_42 (dk_at dksX7_waters_4 12 rfl rfl)
theorem dX7_waters_109 : decode cX7_waters 109 = .ok (.getfield 7, 3) := dk_180 0 7 (dk_at dksX7_waters_4 13 rfl rfl)
theorem dX7_waters_112 : decode cX7_waters 112 = .ok (.bipush 20, 2) := dk_16 20 (dk_at dksX7_waters_4 16 rfl rfl)
theorem dX7_waters_114 : decode cX7_waters 114 = .ok (.iload_n 2, 1) := dk_28 (dk_at dksX7_waters_4 18 rfl rfl)
theorem dX7_waters_115 : decode cX7_waters 115 = .ok (.iadd, 1) := dk_96 (dk_at dksX7_waters_4 19 rfl rfl)
theorem dX7_waters_116 : decode cX7_waters 116 = .ok (.iaload, 1) := dk_46 (dk_at dksX7_waters_4 20 rfl rfl)
theorem dX7_waters_117 : decode cX7_waters 117 = .ok (.bipush (-2), 2) := dk_16 254 (dk_at dksX7_waters_4 21 rfl rfl)
theorem dX7_waters_119 : decode cX7_waters 119 = .ok (.if_icmp .eq 19, 3) := dk_159 0 19 (dk_at dksX7_waters_5 0 rfl rfl)
theorem dX7_waters_122 : decode cX7_waters 122 = .ok (.aload_n 0, 1) := dk_42 (dk_at dksX7_waters_5 3 rfl rfl)
theorem dX7_waters_123 : decode cX7_waters 123 = .ok (.getfield 7, 3) := dk_180 0 7 (dk_at dksX7_waters_5 4 rfl rfl)
theorem dX7_waters_126 : decode cX7_waters 126 = .ok (.bipush 20, 2) := dk_16 20 (dk_at dksX7_waters_5 7 rfl rfl)
theorem dX7_waters_128 : decode cX7_waters 128 = .ok (.iload_n 2, 1) := dk_28 (dk_at dksX7_waters_5 9 rfl rfl)
theorem dX7_waters_129 : decode cX7_waters 129 = .ok (.iadd, 1) := dk_96 (dk_at dksX7_waters_5 10 rfl rfl)
theorem dX7_waters_130 : decode cX7_waters 130 = .ok (.aload_n 0, 1) := dk_42 (dk_at dksX7_waters_5 11 rfl rfl)
theorem dX7_waters_131 : decode cX7_waters 131 = .ok (.getfield 7, 3) := dk_180 0 7 (dk_at dksX7_waters_5 12 rfl rfl)
theorem dX7_waters_134 : decode cX7_waters 134 = .ok (.bipush 79, 2) := dk_16 79 (dk_at dksX7_waters_5 15 rfl rfl)
theorem dX7_waters_136 : decode cX7_waters 136 = .ok (.iaload, 1) := dk_46 (dk_at dksX7_waters_5 17 rfl rfl)
theorem dX7_waters_137 : decode cX7_waters 137 = .ok (.iastore, 1) := dk_79 (dk_at dksX7_waters_5 18 rfl rfl)
theorem dX7_waters_138 : decode cX7_waters 138 = .ok (.return_, 1) := dk_177 (dk_at dksX7_waters_5 19 rfl rfl)
abbrev cX7_dries : ByteArray := prog_19_method_53_code
def yX7_dries : MethodName := ⟨RX7, "dries", "(IZ)V"⟩
def dkwX7_dries_10 : List UInt8 := [16, 7, 27, 104, 96, 21, 4, 79, 177]
abbrev dktX7_dries_10 : List UInt8 := dkwX7_dries_10 ++ []
def dkwX7_dries_9 : List UInt8 := [16, 7, 27, 104, 96, 21, 5, 96, 4, 100, 46, 79, 132, 5, 255, 167, 255, 216, 42, 180, 0, 7, 16, 24]
abbrev dktX7_dries_9 : List UInt8 := dkwX7_dries_9 ++ dktX7_dries_10
def dkwX7_dries_8 : List UInt8 := [158, 0, 41, 42, 180, 0, 7, 16, 24, 16, 7, 27, 104, 96, 21, 5, 96, 42, 180, 0, 7, 16, 24]
abbrev dktX7_dries_8 : List UInt8 := dkwX7_dries_8 ++ dktX7_dries_9
def dkwX7_dries_7 : List UInt8 := [42, 180, 0, 7, 16, 77, 42, 180, 0, 7, 16, 77, 46, 4, 27, 120, 128, 79, 16, 6, 54, 5, 21, 5]
abbrev dktX7_dries_7 : List UInt8 := dkwX7_dries_7 ++ dktX7_dries_8
def dkwX7_dries_6 : List UInt8 := [162, 0, 24, 42, 180, 0, 7, 16, 16, 27, 96, 46, 42, 180, 0, 7, 16, 8, 27, 96, 46, 161, 0, 21]
abbrev dktX7_dries_6 : List UInt8 := dkwX7_dries_6 ++ dktX7_dries_7
def dkwX7_dries_5 : List UInt8 := [167, 0, 4, 3, 79, 42, 180, 0, 7, 16, 12, 27, 96, 46, 42, 180, 0, 7, 16, 8, 27, 96, 46]
abbrev dktX7_dries_5 : List UInt8 := dkwX7_dries_5 ++ dktX7_dries_6
def dkwX7_dries_4 : List UInt8 := [21, 4, 42, 180, 0, 7, 3, 27, 96, 46, 160, 0, 17, 42, 180, 0, 7, 16, 16, 27, 96, 46, 4, 96]
abbrev dktX7_dries_4 : List UInt8 := dkwX7_dries_4 ++ dktX7_dries_5
def dkwX7_dries_3 : List UInt8 := [180, 0, 7, 16, 12, 27, 96, 46, 4, 96, 167, 0, 4, 3, 79, 42, 180, 0, 7, 16, 16, 27, 96]
abbrev dktX7_dries_3 : List UInt8 := dkwX7_dries_3 ++ dktX7_dries_4
def dkwX7_dries_2 : List UInt8 := [180, 0, 7, 7, 27, 96, 21, 4, 79, 42, 180, 0, 7, 16, 12, 27, 96, 21, 4, 154, 0, 17, 42]
abbrev dktX7_dries_2 : List UInt8 := dkwX7_dries_2 ++ dktX7_dries_3
def dkwX7_dries_1 : List UInt8 := [16, 9, 182, 1, 0, 96, 62, 3, 42, 180, 0, 7, 7, 27, 96, 46, 29, 100, 184, 1, 16, 54, 4, 42]
abbrev dktX7_dries_1 : List UInt8 := dkwX7_dries_1 ++ dktX7_dries_2
def dkwX7_dries_0 : List UInt8 := [42, 27, 182, 0, 253, 42, 3, 16, 101, 16, 9, 182, 1, 0, 62, 28, 153, 0, 15, 29, 42, 3, 16, 104]
abbrev dktX7_dries_0 : List UInt8 := dkwX7_dries_0 ++ dktX7_dries_1
theorem dksX7_dries_0 : cX7_dries.data.toList.drop 0 = dktX7_dries_0 := by decide +kernel
theorem dksX7_dries_1 : cX7_dries.data.toList.drop 24 = dktX7_dries_1 := dk_seg dksX7_dries_0 24 rfl rfl
theorem dksX7_dries_2 : cX7_dries.data.toList.drop 48 = dktX7_dries_2 := dk_seg dksX7_dries_1 24 rfl rfl
theorem dksX7_dries_3 : cX7_dries.data.toList.drop 71 = dktX7_dries_3 := dk_seg dksX7_dries_2 23 rfl rfl
theorem dksX7_dries_4 : cX7_dries.data.toList.drop 94 = dktX7_dries_4 := dk_seg dksX7_dries_3 23 rfl rfl
theorem dksX7_dries_5 : cX7_dries.data.toList.drop 118 = dktX7_dries_5 := dk_seg dksX7_dries_4 24 rfl rfl
theorem dksX7_dries_6 : cX7_dries.data.toList.drop 141 = dktX7_dries_6 := dk_seg dksX7_dries_5 23 rfl rfl
theorem dksX7_dries_7 : cX7_dries.data.toList.drop 165 = dktX7_dries_7 := dk_seg dksX7_dries_6 24 rfl rfl
theorem dksX7_dries_8 : cX7_dries.data.toList.drop 189 = dktX7_dries_8 := dk_seg dksX7_dries_7 24 rfl rfl
theorem dksX7_dries_9 : cX7_dries.data.toList.drop 212 = dktX7_dries_9 := dk_seg dksX7_dries_8 23 rfl rfl
theorem dksX7_dries_10 : cX7_dries.data.toList.drop 236 = dktX7_dries_10 := dk_seg dksX7_dries_9 24 rfl rfl
theorem dX7_dries_0 : decode cX7_dries 0 = .ok (.aload_n 0, 1) := dk_42 (dk_at dksX7_dries_0 0 rfl rfl)
theorem dX7_dries_1 : decode cX7_dries 1 = .ok (.iload_n 1, 1) := dk_27 (dk_at dksX7_dries_0 1 rfl rfl)
theorem dX7_dries_2 : decode cX7_dries 2 = .ok (.invokevirtual 253, 3) := dk_182 0 253 (dk_at dksX7_dries_0 2 rfl rfl)
theorem dX7_dries_5 : decode cX7_dries 5 = .ok (.aload_n 0, 1) := dk_42 (dk_at dksX7_dries_0 5 rfl rfl)
theorem dX7_dries_6 : decode cX7_dries 6 = .ok (.iconst 0, 1) := dk_3 (dk_at dksX7_dries_0 6 rfl rfl)
theorem dX7_dries_7 : decode cX7_dries 7 = .ok (.bipush 101, 2) := dk_16 101 (dk_at dksX7_dries_0 7 rfl rfl)
theorem dX7_dries_9 : decode cX7_dries 9 = .ok (.bipush 9, 2) := dk_16 9 (dk_at dksX7_dries_0 9 rfl rfl)
theorem dX7_dries_11 : decode cX7_dries 11 = .ok (.invokevirtual 256, 3) := dk_182 1 0 (dk_at dksX7_dries_0 11 rfl rfl)
theorem dX7_dries_14 : decode cX7_dries 14 = .ok (.istore_n 3, 1) := dk_62 (dk_at dksX7_dries_0 14 rfl rfl)
theorem dX7_dries_15 : decode cX7_dries 15 = .ok (.iload_n 2, 1) := dk_28 (dk_at dksX7_dries_0 15 rfl rfl)
theorem dX7_dries_16 : decode cX7_dries 16 = .ok (.ifCond .eq 15, 3) := dk_153 0 15 (dk_at dksX7_dries_0 16 rfl rfl)
theorem dX7_dries_19 : decode cX7_dries 19 = .ok (.iload_n 3, 1) := dk_29 (dk_at dksX7_dries_0 19 rfl rfl)
theorem dX7_dries_20 : decode cX7_dries 20 = .ok (.aload_n 0, 1) := dk_42 (dk_at dksX7_dries_0 20 rfl rfl)
theorem dX7_dries_21 : decode cX7_dries 21 = .ok (.iconst 0, 1) := dk_3 (dk_at dksX7_dries_0 21 rfl rfl)
theorem dX7_dries_22 : decode cX7_dries 22 = .ok (.bipush 104, 2) := dk_16 104 (dk_at dksX7_dries_0 22 rfl rfl)
theorem dX7_dries_24 : decode cX7_dries 24 = .ok (.bipush 9, 2) := dk_16 9 (dk_at dksX7_dries_1 0 rfl rfl)
theorem dX7_dries_26 : decode cX7_dries 26 = .ok (.invokevirtual 256, 3) := dk_182 1 0 (dk_at dksX7_dries_1 2 rfl rfl)
theorem dX7_dries_29 : decode cX7_dries 29 = .ok (.iadd, 1) := dk_96 (dk_at dksX7_dries_1 5 rfl rfl)
theorem dX7_dries_30 : decode cX7_dries 30 = .ok (.istore_n 3, 1) := dk_62 (dk_at dksX7_dries_1 6 rfl rfl)
theorem dX7_dries_31 : decode cX7_dries 31 = .ok (.iconst 0, 1) := dk_3 (dk_at dksX7_dries_1 7 rfl rfl)
theorem dX7_dries_32 : decode cX7_dries 32 = .ok (.aload_n 0, 1) := dk_42 (dk_at dksX7_dries_1 8 rfl rfl)
theorem dX7_dries_33 : decode cX7_dries 33 = .ok (.getfield 7, 3) := dk_180 0 7 (dk_at dksX7_dries_1 9 rfl rfl)
theorem dX7_dries_36 : decode cX7_dries 36 = .ok (.iconst 4, 1) := dk_7 (dk_at dksX7_dries_1 12 rfl rfl)
theorem dX7_dries_37 : decode cX7_dries 37 = .ok (.iload_n 1, 1) := dk_27 (dk_at dksX7_dries_1 13 rfl rfl)
theorem dX7_dries_38 : decode cX7_dries 38 = .ok (.iadd, 1) := dk_96 (dk_at dksX7_dries_1 14 rfl rfl)
theorem dX7_dries_39 : decode cX7_dries 39 = .ok (.iaload, 1) := dk_46 (dk_at dksX7_dries_1 15 rfl rfl)
theorem dX7_dries_40 : decode cX7_dries 40 = .ok (.iload_n 3, 1) := dk_29 (dk_at dksX7_dries_1 16 rfl rfl)
theorem dX7_dries_41 : decode cX7_dries 41 = .ok (.isub, 1) := dk_100 (dk_at dksX7_dries_1 17 rfl rfl)
theorem dX7_dries_42 : decode cX7_dries 42 = .ok (.invokestatic 272, 3) := dk_184 1 16 (dk_at dksX7_dries_1 18 rfl rfl)
theorem dX7_dries_45 : decode cX7_dries 45 = .ok (.istore 4, 2) := dk_54 4 (dk_at dksX7_dries_1 21 rfl rfl)
theorem dX7_dries_47 : decode cX7_dries 47 = .ok (.aload_n 0, 1) := dk_42 (dk_at dksX7_dries_1 23 rfl rfl)
theorem dX7_dries_48 : decode cX7_dries 48 = .ok (.getfield 7, 3) := dk_180 0 7 (dk_at dksX7_dries_2 0 rfl rfl)
theorem dX7_dries_51 : decode cX7_dries 51 = .ok (.iconst 4, 1) := dk_7 (dk_at dksX7_dries_2 3 rfl rfl)
theorem dX7_dries_52 : decode cX7_dries 52 = .ok (.iload_n 1, 1) := dk_27 (dk_at dksX7_dries_2 4 rfl rfl)
theorem dX7_dries_53 : decode cX7_dries 53 = .ok (.iadd, 1) := dk_96 (dk_at dksX7_dries_2 5 rfl rfl)
theorem dX7_dries_54 : decode cX7_dries 54 = .ok (.iload 4, 2) := dk_21 4 (dk_at dksX7_dries_2 6 rfl rfl)
theorem dX7_dries_56 : decode cX7_dries 56 = .ok (.iastore, 1) := dk_79 (dk_at dksX7_dries_2 8 rfl rfl)
theorem dX7_dries_57 : decode cX7_dries 57 = .ok (.aload_n 0, 1) := dk_42 (dk_at dksX7_dries_2 9 rfl rfl)
theorem dX7_dries_58 : decode cX7_dries 58 = .ok (.getfield 7, 3) := dk_180 0 7 (dk_at dksX7_dries_2 10 rfl rfl)
theorem dX7_dries_61 : decode cX7_dries 61 = .ok (.bipush 12, 2) := dk_16 12 (dk_at dksX7_dries_2 13 rfl rfl)
theorem dX7_dries_63 : decode cX7_dries 63 = .ok (.iload_n 1, 1) := dk_27 (dk_at dksX7_dries_2 15 rfl rfl)
theorem dX7_dries_64 : decode cX7_dries 64 = .ok (.iadd, 1) := dk_96 (dk_at dksX7_dries_2 16 rfl rfl)
theorem dX7_dries_65 : decode cX7_dries 65 = .ok (.iload 4, 2) := dk_21 4 (dk_at dksX7_dries_2 17 rfl rfl)
theorem dX7_dries_67 : decode cX7_dries 67 = .ok (.ifCond .ne 17, 3) := dk_154 0 17 (dk_at dksX7_dries_2 19 rfl rfl)
theorem dX7_dries_70 : decode cX7_dries 70 = .ok (.aload_n 0, 1) := dk_42 (dk_at dksX7_dries_2 22 rfl rfl)
theorem dX7_dries_71 : decode cX7_dries 71 = .ok (.getfield 7, 3) := dk_180 0 7 (dk_at dksX7_dries_3 0 rfl rfl)
theorem dX7_dries_74 : decode cX7_dries 74 = .ok (.bipush 12, 2) := dk_16 12 (dk_at dksX7_dries_3 3 rfl rfl)
theorem dX7_dries_76 : decode cX7_dries 76 = .ok (.iload_n 1, 1) := dk_27 (dk_at dksX7_dries_3 5 rfl rfl)
theorem dX7_dries_77 : decode cX7_dries 77 = .ok (.iadd, 1) := dk_96 (dk_at dksX7_dries_3 6 rfl rfl)
theorem dX7_dries_78 : decode cX7_dries 78 = .ok (.iaload, 1) := dk_46 (dk_at dksX7_dries_3 7 rfl rfl)
theorem dX7_dries_79 : decode cX7_dries 79 = .ok (.iconst 1, 1) := dk_4 (dk_at dksX7_dries_3 8 rfl rfl)
theorem dX7_dries_80 : decode cX7_dries 80 = .ok (.iadd, 1) := dk_96 (dk_at dksX7_dries_3 9 rfl rfl)
theorem dX7_dries_81 : decode cX7_dries 81 = .ok (.goto 4, 3) := dk_167 0 4 (dk_at dksX7_dries_3 10 rfl rfl)
theorem dX7_dries_84 : decode cX7_dries 84 = .ok (.iconst 0, 1) := dk_3 (dk_at dksX7_dries_3 13 rfl rfl)
theorem dX7_dries_85 : decode cX7_dries 85 = .ok (.iastore, 1) := dk_79 (dk_at dksX7_dries_3 14 rfl rfl)
theorem dX7_dries_86 : decode cX7_dries 86 = .ok (.aload_n 0, 1) := dk_42 (dk_at dksX7_dries_3 15 rfl rfl)
theorem dX7_dries_87 : decode cX7_dries 87 = .ok (.getfield 7, 3) := dk_180 0 7 (dk_at dksX7_dries_3 16 rfl rfl)
theorem dX7_dries_90 : decode cX7_dries 90 = .ok (.bipush 16, 2) := dk_16 16 (dk_at dksX7_dries_3 19 rfl rfl)
theorem dX7_dries_92 : decode cX7_dries 92 = .ok (.iload_n 1, 1) := dk_27 (dk_at dksX7_dries_3 21 rfl rfl)
theorem dX7_dries_93 : decode cX7_dries 93 = .ok (.iadd, 1) := dk_96 (dk_at dksX7_dries_3 22 rfl rfl)
theorem dX7_dries_94 : decode cX7_dries 94 = .ok (.iload 4, 2) := dk_21 4 (dk_at dksX7_dries_4 0 rfl rfl)
theorem dX7_dries_96 : decode cX7_dries 96 = .ok (.aload_n 0, 1) := dk_42 (dk_at dksX7_dries_4 2 rfl rfl)
theorem dX7_dries_97 : decode cX7_dries 97 = .ok (.getfield 7, 3) := dk_180 0 7 (dk_at dksX7_dries_4 3 rfl rfl)
theorem dX7_dries_100 : decode cX7_dries 100 = .ok (.iconst 0, 1) := dk_3 (dk_at dksX7_dries_4 6 rfl rfl)
theorem dX7_dries_101 : decode cX7_dries 101 = .ok (.iload_n 1, 1) := dk_27 (dk_at dksX7_dries_4 7 rfl rfl)
theorem dX7_dries_102 : decode cX7_dries 102 = .ok (.iadd, 1) := dk_96 (dk_at dksX7_dries_4 8 rfl rfl)
theorem dX7_dries_103 : decode cX7_dries 103 = .ok (.iaload, 1) := dk_46 (dk_at dksX7_dries_4 9 rfl rfl)
theorem dX7_dries_104 : decode cX7_dries 104 = .ok (.if_icmp .ne 17, 3) := dk_160 0 17 (dk_at dksX7_dries_4 10 rfl rfl)
theorem dX7_dries_107 : decode cX7_dries 107 = .ok (.aload_n 0, 1) := dk_42 (dk_at dksX7_dries_4 13 rfl rfl)
theorem dX7_dries_108 : decode cX7_dries 108 = .ok (.getfield 7, 3) := dk_180 0 7 (dk_at dksX7_dries_4 14 rfl rfl)
theorem dX7_dries_111 : decode cX7_dries 111 = .ok (.bipush 16, 2) := dk_16 16 (dk_at dksX7_dries_4 17 rfl rfl)
theorem dX7_dries_113 : decode cX7_dries 113 = .ok (.iload_n 1, 1) := dk_27 (dk_at dksX7_dries_4 19 rfl rfl)
theorem dX7_dries_114 : decode cX7_dries 114 = .ok (.iadd, 1) := dk_96 (dk_at dksX7_dries_4 20 rfl rfl)
theorem dX7_dries_115 : decode cX7_dries 115 = .ok (.iaload, 1) := dk_46 (dk_at dksX7_dries_4 21 rfl rfl)
theorem dX7_dries_116 : decode cX7_dries 116 = .ok (.iconst 1, 1) := dk_4 (dk_at dksX7_dries_4 22 rfl rfl)
theorem dX7_dries_117 : decode cX7_dries 117 = .ok (.iadd, 1) := dk_96 (dk_at dksX7_dries_4 23 rfl rfl)
theorem dX7_dries_118 : decode cX7_dries 118 = .ok (.goto 4, 3) := dk_167 0 4 (dk_at dksX7_dries_5 0 rfl rfl)
theorem dX7_dries_121 : decode cX7_dries 121 = .ok (.iconst 0, 1) := dk_3 (dk_at dksX7_dries_5 3 rfl rfl)
theorem dX7_dries_122 : decode cX7_dries 122 = .ok (.iastore, 1) := dk_79 (dk_at dksX7_dries_5 4 rfl rfl)
theorem dX7_dries_123 : decode cX7_dries 123 = .ok (.aload_n 0, 1) := dk_42 (dk_at dksX7_dries_5 5 rfl rfl)
theorem dX7_dries_124 : decode cX7_dries 124 = .ok (.getfield 7, 3) := dk_180 0 7 (dk_at dksX7_dries_5 6 rfl rfl)
theorem dX7_dries_127 : decode cX7_dries 127 = .ok (.bipush 12, 2) := dk_16 12 (dk_at dksX7_dries_5 9 rfl rfl)
theorem dX7_dries_129 : decode cX7_dries 129 = .ok (.iload_n 1, 1) := dk_27 (dk_at dksX7_dries_5 11 rfl rfl)
theorem dX7_dries_130 : decode cX7_dries 130 = .ok (.iadd, 1) := dk_96 (dk_at dksX7_dries_5 12 rfl rfl)
theorem dX7_dries_131 : decode cX7_dries 131 = .ok (.iaload, 1) := dk_46 (dk_at dksX7_dries_5 13 rfl rfl)
theorem dX7_dries_132 : decode cX7_dries 132 = .ok (.aload_n 0, 1) := dk_42 (dk_at dksX7_dries_5 14 rfl rfl)
theorem dX7_dries_133 : decode cX7_dries 133 = .ok (.getfield 7, 3) := dk_180 0 7 (dk_at dksX7_dries_5 15 rfl rfl)
theorem dX7_dries_136 : decode cX7_dries 136 = .ok (.bipush 8, 2) := dk_16 8 (dk_at dksX7_dries_5 18 rfl rfl)
theorem dX7_dries_138 : decode cX7_dries 138 = .ok (.iload_n 1, 1) := dk_27 (dk_at dksX7_dries_5 20 rfl rfl)
theorem dX7_dries_139 : decode cX7_dries 139 = .ok (.iadd, 1) := dk_96 (dk_at dksX7_dries_5 21 rfl rfl)
theorem dX7_dries_140 : decode cX7_dries 140 = .ok (.iaload, 1) := dk_46 (dk_at dksX7_dries_5 22 rfl rfl)
theorem dX7_dries_141 : decode cX7_dries 141 = .ok (.if_icmp .ge 24, 3) := dk_162 0 24 (dk_at dksX7_dries_6 0 rfl rfl)
theorem dX7_dries_144 : decode cX7_dries 144 = .ok (.aload_n 0, 1) := dk_42 (dk_at dksX7_dries_6 3 rfl rfl)
theorem dX7_dries_145 : decode cX7_dries 145 = .ok (.getfield 7, 3) := dk_180 0 7 (dk_at dksX7_dries_6 4 rfl rfl)
theorem dX7_dries_148 : decode cX7_dries 148 = .ok (.bipush 16, 2) := dk_16 16 (dk_at dksX7_dries_6 7 rfl rfl)
theorem dX7_dries_150 : decode cX7_dries 150 = .ok (.iload_n 1, 1) := dk_27 (dk_at dksX7_dries_6 9 rfl rfl)
theorem dX7_dries_151 : decode cX7_dries 151 = .ok (.iadd, 1) := dk_96 (dk_at dksX7_dries_6 10 rfl rfl)
theorem dX7_dries_152 : decode cX7_dries 152 = .ok (.iaload, 1) := dk_46 (dk_at dksX7_dries_6 11 rfl rfl)
theorem dX7_dries_153 : decode cX7_dries 153 = .ok (.aload_n 0, 1) := dk_42 (dk_at dksX7_dries_6 12 rfl rfl)
theorem dX7_dries_154 : decode cX7_dries 154 = .ok (.getfield 7, 3) := dk_180 0 7 (dk_at dksX7_dries_6 13 rfl rfl)
theorem dX7_dries_157 : decode cX7_dries 157 = .ok (.bipush 8, 2) := dk_16 8 (dk_at dksX7_dries_6 16 rfl rfl)
theorem dX7_dries_159 : decode cX7_dries 159 = .ok (.iload_n 1, 1) := dk_27 (dk_at dksX7_dries_6 18 rfl rfl)
theorem dX7_dries_160 : decode cX7_dries 160 = .ok (.iadd, 1) := dk_96 (dk_at dksX7_dries_6 19 rfl rfl)
theorem dX7_dries_161 : decode cX7_dries 161 = .ok (.iaload, 1) := dk_46 (dk_at dksX7_dries_6 20 rfl rfl)
theorem dX7_dries_162 : decode cX7_dries 162 = .ok (.if_icmp .lt 21, 3) := dk_161 0 21 (dk_at dksX7_dries_6 21 rfl rfl)
theorem dX7_dries_165 : decode cX7_dries 165 = .ok (.aload_n 0, 1) := dk_42 (dk_at dksX7_dries_7 0 rfl rfl)
theorem dX7_dries_166 : decode cX7_dries 166 = .ok (.getfield 7, 3) := dk_180 0 7 (dk_at dksX7_dries_7 1 rfl rfl)
theorem dX7_dries_169 : decode cX7_dries 169 = .ok (.bipush 77, 2) := dk_16 77 (dk_at dksX7_dries_7 4 rfl rfl)
theorem dX7_dries_171 : decode cX7_dries 171 = .ok (.aload_n 0, 1) := dk_42 (dk_at dksX7_dries_7 6 rfl rfl)
theorem dX7_dries_172 : decode cX7_dries 172 = .ok (.getfield 7, 3) := dk_180 0 7 (dk_at dksX7_dries_7 7 rfl rfl)
theorem dX7_dries_175 : decode cX7_dries 175 = .ok (.bipush 77, 2) := dk_16 77 (dk_at dksX7_dries_7 10 rfl rfl)
theorem dX7_dries_177 : decode cX7_dries 177 = .ok (.iaload, 1) := dk_46 (dk_at dksX7_dries_7 12 rfl rfl)
theorem dX7_dries_178 : decode cX7_dries 178 = .ok (.iconst 1, 1) := dk_4 (dk_at dksX7_dries_7 13 rfl rfl)
theorem dX7_dries_179 : decode cX7_dries 179 = .ok (.iload_n 1, 1) := dk_27 (dk_at dksX7_dries_7 14 rfl rfl)
theorem dX7_dries_180 : decode cX7_dries 180 = .ok (.ishl, 1) := dk_120 (dk_at dksX7_dries_7 15 rfl rfl)
theorem dX7_dries_181 : decode cX7_dries 181 = .ok (.ior, 1) := dk_128 (dk_at dksX7_dries_7 16 rfl rfl)
theorem dX7_dries_182 : decode cX7_dries 182 = .ok (.iastore, 1) := dk_79 (dk_at dksX7_dries_7 17 rfl rfl)
theorem dX7_dries_183 : decode cX7_dries 183 = .ok (.bipush 6, 2) := dk_16 6 (dk_at dksX7_dries_7 18 rfl rfl)
theorem dX7_dries_185 : decode cX7_dries 185 = .ok (.istore 5, 2) := dk_54 5 (dk_at dksX7_dries_7 20 rfl rfl)
theorem dX7_dries_187 : decode cX7_dries 187 = .ok (.iload 5, 2) := dk_21 5 (dk_at dksX7_dries_7 22 rfl rfl)
theorem dX7_dries_189 : decode cX7_dries 189 = .ok (.ifCond .le 41, 3) := dk_158 0 41 (dk_at dksX7_dries_8 0 rfl rfl)
theorem dX7_dries_192 : decode cX7_dries 192 = .ok (.aload_n 0, 1) := dk_42 (dk_at dksX7_dries_8 3 rfl rfl)
theorem dX7_dries_193 : decode cX7_dries 193 = .ok (.getfield 7, 3) := dk_180 0 7 (dk_at dksX7_dries_8 4 rfl rfl)
theorem dX7_dries_196 : decode cX7_dries 196 = .ok (.bipush 24, 2) := dk_16 24 (dk_at dksX7_dries_8 7 rfl rfl)
theorem dX7_dries_198 : decode cX7_dries 198 = .ok (.bipush 7, 2) := dk_16 7 (dk_at dksX7_dries_8 9 rfl rfl)
theorem dX7_dries_200 : decode cX7_dries 200 = .ok (.iload_n 1, 1) := dk_27 (dk_at dksX7_dries_8 11 rfl rfl)
theorem dX7_dries_201 : decode cX7_dries 201 = .ok (.imul, 1) := dk_104 (dk_at dksX7_dries_8 12 rfl rfl)
theorem dX7_dries_202 : decode cX7_dries 202 = .ok (.iadd, 1) := dk_96 (dk_at dksX7_dries_8 13 rfl rfl)
theorem dX7_dries_203 : decode cX7_dries 203 = .ok (.iload 5, 2) := dk_21 5 (dk_at dksX7_dries_8 14 rfl rfl)
theorem dX7_dries_205 : decode cX7_dries 205 = .ok (.iadd, 1) := dk_96 (dk_at dksX7_dries_8 16 rfl rfl)
theorem dX7_dries_206 : decode cX7_dries 206 = .ok (.aload_n 0, 1) := dk_42 (dk_at dksX7_dries_8 17 rfl rfl)
theorem dX7_dries_207 : decode cX7_dries 207 = .ok (.getfield 7, 3) := dk_180 0 7 (dk_at dksX7_dries_8 18 rfl rfl)
theorem dX7_dries_210 : decode cX7_dries 210 = .ok (.bipush 24, 2) := dk_16 24 (dk_at dksX7_dries_8 21 rfl rfl)
theorem dX7_dries_212 : decode cX7_dries 212 = .ok (.bipush 7, 2) := dk_16 7 (dk_at dksX7_dries_9 0 rfl rfl)
theorem dX7_dries_214 : decode cX7_dries 214 = .ok (.iload_n 1, 1) := dk_27 (dk_at dksX7_dries_9 2 rfl rfl)
theorem dX7_dries_215 : decode cX7_dries 215 = .ok (.imul, 1) := dk_104 (dk_at dksX7_dries_9 3 rfl rfl)
theorem dX7_dries_216 : decode cX7_dries 216 = .ok (.iadd, 1) := dk_96 (dk_at dksX7_dries_9 4 rfl rfl)
theorem dX7_dries_217 : decode cX7_dries 217 = .ok (.iload 5, 2) := dk_21 5 (dk_at dksX7_dries_9 5 rfl rfl)
theorem dX7_dries_219 : decode cX7_dries 219 = .ok (.iadd, 1) := dk_96 (dk_at dksX7_dries_9 7 rfl rfl)
theorem dX7_dries_220 : decode cX7_dries 220 = .ok (.iconst 1, 1) := dk_4 (dk_at dksX7_dries_9 8 rfl rfl)
theorem dX7_dries_221 : decode cX7_dries 221 = .ok (.isub, 1) := dk_100 (dk_at dksX7_dries_9 9 rfl rfl)
theorem dX7_dries_222 : decode cX7_dries 222 = .ok (.iaload, 1) := dk_46 (dk_at dksX7_dries_9 10 rfl rfl)
theorem dX7_dries_223 : decode cX7_dries 223 = .ok (.iastore, 1) := dk_79 (dk_at dksX7_dries_9 11 rfl rfl)
theorem dX7_dries_224 : decode cX7_dries 224 = .ok (.iinc 5 (-1), 3) := dk_132 5 255 (dk_at dksX7_dries_9 12 rfl rfl)
theorem dX7_dries_227 : decode cX7_dries 227 = .ok (.goto (-40), 3) := dk_167 255 216 (dk_at dksX7_dries_9 15 rfl rfl)
theorem dX7_dries_230 : decode cX7_dries 230 = .ok (.aload_n 0, 1) := dk_42 (dk_at dksX7_dries_9 18 rfl rfl)
theorem dX7_dries_231 : decode cX7_dries 231 = .ok (.getfield 7, 3) := dk_180 0 7 (dk_at dksX7_dries_9 19 rfl rfl)
theorem dX7_dries_234 : decode cX7_dries 234 = .ok (.bipush 24, 2) := dk_16 24 (dk_at dksX7_dries_9 22 rfl rfl)
theorem dX7_dries_236 : decode cX7_dries 236 = .ok (.bipush 7, 2) := dk_16 7 (dk_at dksX7_dries_10 0 rfl rfl)
theorem dX7_dries_238 : decode cX7_dries 238 = .ok (.iload_n 1, 1) := dk_27 (dk_at dksX7_dries_10 2 rfl rfl)
theorem dX7_dries_239 : decode cX7_dries 239 = .ok (.imul, 1) := dk_104 (dk_at dksX7_dries_10 3 rfl rfl)
theorem dX7_dries_240 : decode cX7_dries 240 = .ok (.iadd, 1) := dk_96 (dk_at dksX7_dries_10 4 rfl rfl)
theorem dX7_dries_241 : decode cX7_dries 241 = .ok (.iload 4, 2) := dk_21 4 (dk_at dksX7_dries_10 5 rfl rfl)
theorem dX7_dries_243 : decode cX7_dries 243 = .ok (.iastore, 1) := dk_79 (dk_at dksX7_dries_10 7 rfl rfl)
theorem dX7_dries_244 : decode cX7_dries 244 = .ok (.return_, 1) := dk_177 (dk_at dksX7_dries_10 8 rfl rfl)
abbrev cX7_max : ByteArray := prog_19_method_4_code
def yX7_max : MethodName := ⟨RX7, "max", "(II)I"⟩
def dkwX7_max_0 : List UInt8 := [26, 27, 164, 0, 7, 26, 167, 0, 4, 27, 172]
abbrev dktX7_max_0 : List UInt8 := dkwX7_max_0 ++ []
theorem dksX7_max_0 : cX7_max.data.toList.drop 0 = dktX7_max_0 := by decide +kernel
theorem dX7_max_0 : decode cX7_max 0 = .ok (.iload_n 0, 1) := dk_26 (dk_at dksX7_max_0 0 rfl rfl)
theorem dX7_max_1 : decode cX7_max 1 = .ok (.iload_n 1, 1) := dk_27 (dk_at dksX7_max_0 1 rfl rfl)
theorem dX7_max_2 : decode cX7_max 2 = .ok (.if_icmp .le 7, 3) := dk_164 0 7 (dk_at dksX7_max_0 2 rfl rfl)
theorem dX7_max_5 : decode cX7_max 5 = .ok (.iload_n 0, 1) := dk_26 (dk_at dksX7_max_0 5 rfl rfl)
theorem dX7_max_6 : decode cX7_max 6 = .ok (.goto 4, 3) := dk_167 0 4 (dk_at dksX7_max_0 6 rfl rfl)
theorem dX7_max_9 : decode cX7_max 9 = .ok (.iload_n 1, 1) := dk_27 (dk_at dksX7_max_0 9 rfl rfl)
theorem dX7_max_10 : decode cX7_max 10 = .ok (.ireturn, 1) := dk_172 (dk_at dksX7_max_0 10 rfl rfl)
abbrev cX7_tried : ByteArray := prog_19_method_57_code
def yX7_tried : MethodName := ⟨RX7, "tried", "(II)I"⟩
def dkwX7_tried_8 : List UInt8 := [184, 1, 38, 21, 4, 172]
abbrev dktX7_tried_8 : List UInt8 := dkwX7_tried_8 ++ []
def dkwX7_tried_7 : List UInt8 := [167, 0, 12, 42, 180, 0, 65, 28, 16, 20, 100, 46, 54, 4, 42, 180, 0, 13, 42, 180, 0, 7]
abbrev dktX7_tried_7 : List UInt8 := dkwX7_tried_7 ++ dktX7_tried_8
def dkwX7_tried_6 : List UInt8 := [180, 1, 25, 167, 0, 32, 28, 16, 20, 162, 0, 17, 42, 180, 0, 7, 7, 28, 96, 16, 10, 100, 46]
abbrev dktX7_tried_6 : List UInt8 := dkwX7_tried_6 ++ dktX7_tried_7
def dkwX7_tried_5 : List UInt8 := [160, 0, 16, 42, 180, 0, 7, 16, 77, 46, 184, 0, 247, 167, 0, 44, 28, 6, 160, 0, 10, 42]
abbrev dktX7_tried_5 : List UInt8 := dkwX7_tried_5 ++ dktX7_tried_6
def dkwX7_tried_4 : List UInt8 := [154, 0, 10, 42, 180, 1, 10, 167, 0, 74, 28, 4, 160, 0, 10, 42, 180, 1, 13, 167, 0, 62, 28, 5]
abbrev dktX7_tried_4 : List UInt8 := dkwX7_tried_4 ++ dktX7_tried_5
def dkwX7_tried_3 : List UInt8 := [154, 0, 5, 2, 172, 42, 180, 0, 7, 42, 180, 0, 13, 184, 1, 38, 42, 27, 182, 1, 35, 28]
abbrev dktX7_tried_3 : List UInt8 := dkwX7_tried_3 ++ dktX7_tried_4
def dkwX7_tried_2 : List UInt8 := [182, 1, 3, 153, 0, 7, 4, 167, 0, 4, 3, 62, 27, 4, 16, 60, 184, 0, 126, 153, 0, 7, 29]
abbrev dktX7_tried_2 : List UInt8 := dkwX7_tried_2 ++ dktX7_tried_3
def dkwX7_tried_1 : List UInt8 := [100, 182, 0, 122, 154, 0, 25, 28, 16, 20, 16, 27, 184, 0, 126, 153, 0, 18, 42, 28, 16, 20, 100]
abbrev dktX7_tried_1 : List UInt8 := dkwX7_tried_1 ++ dktX7_tried_2
def dkwX7_tried_0 : List UInt8 := [28, 3, 6, 184, 0, 126, 154, 0, 47, 28, 16, 10, 16, 13, 184, 0, 126, 153, 0, 14, 42, 28, 16, 10]
abbrev dktX7_tried_0 : List UInt8 := dkwX7_tried_0 ++ dktX7_tried_1
theorem dksX7_tried_0 : cX7_tried.data.toList.drop 0 = dktX7_tried_0 := by decide +kernel
theorem dksX7_tried_1 : cX7_tried.data.toList.drop 24 = dktX7_tried_1 := dk_seg dksX7_tried_0 24 rfl rfl
theorem dksX7_tried_2 : cX7_tried.data.toList.drop 47 = dktX7_tried_2 := dk_seg dksX7_tried_1 23 rfl rfl
theorem dksX7_tried_3 : cX7_tried.data.toList.drop 70 = dktX7_tried_3 := dk_seg dksX7_tried_2 23 rfl rfl
theorem dksX7_tried_4 : cX7_tried.data.toList.drop 92 = dktX7_tried_4 := dk_seg dksX7_tried_3 22 rfl rfl
theorem dksX7_tried_5 : cX7_tried.data.toList.drop 116 = dktX7_tried_5 := dk_seg dksX7_tried_4 24 rfl rfl
theorem dksX7_tried_6 : cX7_tried.data.toList.drop 138 = dktX7_tried_6 := dk_seg dksX7_tried_5 22 rfl rfl
theorem dksX7_tried_7 : cX7_tried.data.toList.drop 161 = dktX7_tried_7 := dk_seg dksX7_tried_6 23 rfl rfl
theorem dksX7_tried_8 : cX7_tried.data.toList.drop 183 = dktX7_tried_8 := dk_seg dksX7_tried_7 22 rfl rfl
theorem dX7_tried_0 : decode cX7_tried 0 = .ok (.iload_n 2, 1) := dk_28 (dk_at dksX7_tried_0 0 rfl rfl)
theorem dX7_tried_1 : decode cX7_tried 1 = .ok (.iconst 0, 1) := dk_3 (dk_at dksX7_tried_0 1 rfl rfl)
theorem dX7_tried_2 : decode cX7_tried 2 = .ok (.iconst 3, 1) := dk_6 (dk_at dksX7_tried_0 2 rfl rfl)
theorem dX7_tried_3 : decode cX7_tried 3 = .ok (.invokestatic 126, 3) := dk_184 0 126 (dk_at dksX7_tried_0 3 rfl rfl)
theorem dX7_tried_6 : decode cX7_tried 6 = .ok (.ifCond .ne 47, 3) := dk_154 0 47 (dk_at dksX7_tried_0 6 rfl rfl)
theorem dX7_tried_9 : decode cX7_tried 9 = .ok (.iload_n 2, 1) := dk_28 (dk_at dksX7_tried_0 9 rfl rfl)
theorem dX7_tried_10 : decode cX7_tried 10 = .ok (.bipush 10, 2) := dk_16 10 (dk_at dksX7_tried_0 10 rfl rfl)
theorem dX7_tried_12 : decode cX7_tried 12 = .ok (.bipush 13, 2) := dk_16 13 (dk_at dksX7_tried_0 12 rfl rfl)
theorem dX7_tried_14 : decode cX7_tried 14 = .ok (.invokestatic 126, 3) := dk_184 0 126 (dk_at dksX7_tried_0 14 rfl rfl)
theorem dX7_tried_17 : decode cX7_tried 17 = .ok (.ifCond .eq 14, 3) := dk_153 0 14 (dk_at dksX7_tried_0 17 rfl rfl)
theorem dX7_tried_20 : decode cX7_tried 20 = .ok (.aload_n 0, 1) := dk_42 (dk_at dksX7_tried_0 20 rfl rfl)
theorem dX7_tried_21 : decode cX7_tried 21 = .ok (.iload_n 2, 1) := dk_28 (dk_at dksX7_tried_0 21 rfl rfl)
theorem dX7_tried_22 : decode cX7_tried 22 = .ok (.bipush 10, 2) := dk_16 10 (dk_at dksX7_tried_0 22 rfl rfl)
theorem dX7_tried_24 : decode cX7_tried 24 = .ok (.isub, 1) := dk_100 (dk_at dksX7_tried_1 0 rfl rfl)
theorem dX7_tried_25 : decode cX7_tried 25 = .ok (.invokevirtual 122, 3) := dk_182 0 122 (dk_at dksX7_tried_1 1 rfl rfl)
theorem dX7_tried_28 : decode cX7_tried 28 = .ok (.ifCond .ne 25, 3) := dk_154 0 25 (dk_at dksX7_tried_1 4 rfl rfl)
theorem dX7_tried_31 : decode cX7_tried 31 = .ok (.iload_n 2, 1) := dk_28 (dk_at dksX7_tried_1 7 rfl rfl)
theorem dX7_tried_32 : decode cX7_tried 32 = .ok (.bipush 20, 2) := dk_16 20 (dk_at dksX7_tried_1 8 rfl rfl)
theorem dX7_tried_34 : decode cX7_tried 34 = .ok (.bipush 27, 2) := dk_16 27 (dk_at dksX7_tried_1 10 rfl rfl)
theorem dX7_tried_36 : decode cX7_tried 36 = .ok (.invokestatic 126, 3) := dk_184 0 126 (dk_at dksX7_tried_1 12 rfl rfl)
theorem dX7_tried_39 : decode cX7_tried 39 = .ok (.ifCond .eq 18, 3) := dk_153 0 18 (dk_at dksX7_tried_1 15 rfl rfl)
theorem dX7_tried_42 : decode cX7_tried 42 = .ok (.aload_n 0, 1) := dk_42 (dk_at dksX7_tried_1 18 rfl rfl)
theorem dX7_tried_43 : decode cX7_tried 43 = .ok (.iload_n 2, 1) := dk_28 (dk_at dksX7_tried_1 19 rfl rfl)
theorem dX7_tried_44 : decode cX7_tried 44 = .ok (.bipush 20, 2) := dk_16 20 (dk_at dksX7_tried_1 20 rfl rfl)
theorem dX7_tried_46 : decode cX7_tried 46 = .ok (.isub, 1) := dk_100 (dk_at dksX7_tried_1 22 rfl rfl)
theorem dX7_tried_47 : decode cX7_tried 47 = .ok (.invokevirtual 259, 3) := dk_182 1 3 (dk_at dksX7_tried_2 0 rfl rfl)
theorem dX7_tried_50 : decode cX7_tried 50 = .ok (.ifCond .eq 7, 3) := dk_153 0 7 (dk_at dksX7_tried_2 3 rfl rfl)
theorem dX7_tried_53 : decode cX7_tried 53 = .ok (.iconst 1, 1) := dk_4 (dk_at dksX7_tried_2 6 rfl rfl)
theorem dX7_tried_54 : decode cX7_tried 54 = .ok (.goto 4, 3) := dk_167 0 4 (dk_at dksX7_tried_2 7 rfl rfl)
theorem dX7_tried_57 : decode cX7_tried 57 = .ok (.iconst 0, 1) := dk_3 (dk_at dksX7_tried_2 10 rfl rfl)
theorem dX7_tried_58 : decode cX7_tried 58 = .ok (.istore_n 3, 1) := dk_62 (dk_at dksX7_tried_2 11 rfl rfl)
theorem dX7_tried_59 : decode cX7_tried 59 = .ok (.iload_n 1, 1) := dk_27 (dk_at dksX7_tried_2 12 rfl rfl)
theorem dX7_tried_60 : decode cX7_tried 60 = .ok (.iconst 1, 1) := dk_4 (dk_at dksX7_tried_2 13 rfl rfl)
theorem dX7_tried_61 : decode cX7_tried 61 = .ok (.bipush 60, 2) := dk_16 60 (dk_at dksX7_tried_2 14 rfl rfl)
theorem dX7_tried_63 : decode cX7_tried 63 = .ok (.invokestatic 126, 3) := dk_184 0 126 (dk_at dksX7_tried_2 16 rfl rfl)
theorem dX7_tried_66 : decode cX7_tried 66 = .ok (.ifCond .eq 7, 3) := dk_153 0 7 (dk_at dksX7_tried_2 19 rfl rfl)
theorem dX7_tried_69 : decode cX7_tried 69 = .ok (.iload_n 3, 1) := dk_29 (dk_at dksX7_tried_2 22 rfl rfl)
theorem dX7_tried_70 : decode cX7_tried 70 = .ok (.ifCond .ne 5, 3) := dk_154 0 5 (dk_at dksX7_tried_3 0 rfl rfl)
theorem dX7_tried_73 : decode cX7_tried 73 = .ok (.iconst (-1), 1) := dk_2 (dk_at dksX7_tried_3 3 rfl rfl)
theorem dX7_tried_74 : decode cX7_tried 74 = .ok (.ireturn, 1) := dk_172 (dk_at dksX7_tried_3 4 rfl rfl)
theorem dX7_tried_75 : decode cX7_tried 75 = .ok (.aload_n 0, 1) := dk_42 (dk_at dksX7_tried_3 5 rfl rfl)
theorem dX7_tried_76 : decode cX7_tried 76 = .ok (.getfield 7, 3) := dk_180 0 7 (dk_at dksX7_tried_3 6 rfl rfl)
theorem dX7_tried_79 : decode cX7_tried 79 = .ok (.aload_n 0, 1) := dk_42 (dk_at dksX7_tried_3 9 rfl rfl)
theorem dX7_tried_80 : decode cX7_tried 80 = .ok (.getfield 13, 3) := dk_180 0 13 (dk_at dksX7_tried_3 10 rfl rfl)
theorem dX7_tried_83 : decode cX7_tried 83 = .ok (.invokestatic 294, 3) := dk_184 1 38 (dk_at dksX7_tried_3 13 rfl rfl)
theorem dX7_tried_86 : decode cX7_tried 86 = .ok (.aload_n 0, 1) := dk_42 (dk_at dksX7_tried_3 16 rfl rfl)
theorem dX7_tried_87 : decode cX7_tried 87 = .ok (.iload_n 1, 1) := dk_27 (dk_at dksX7_tried_3 17 rfl rfl)
theorem dX7_tried_88 : decode cX7_tried 88 = .ok (.invokevirtual 291, 3) := dk_182 1 35 (dk_at dksX7_tried_3 18 rfl rfl)
theorem dX7_tried_91 : decode cX7_tried 91 = .ok (.iload_n 2, 1) := dk_28 (dk_at dksX7_tried_3 21 rfl rfl)
theorem dX7_tried_92 : decode cX7_tried 92 = .ok (.ifCond .ne 10, 3) := dk_154 0 10 (dk_at dksX7_tried_4 0 rfl rfl)
theorem dX7_tried_95 : decode cX7_tried 95 = .ok (.aload_n 0, 1) := dk_42 (dk_at dksX7_tried_4 3 rfl rfl)
theorem dX7_tried_96 : decode cX7_tried 96 = .ok (.getfield 266, 3) := dk_180 1 10 (dk_at dksX7_tried_4 4 rfl rfl)
theorem dX7_tried_99 : decode cX7_tried 99 = .ok (.goto 74, 3) := dk_167 0 74 (dk_at dksX7_tried_4 7 rfl rfl)
theorem dX7_tried_102 : decode cX7_tried 102 = .ok (.iload_n 2, 1) := dk_28 (dk_at dksX7_tried_4 10 rfl rfl)
theorem dX7_tried_103 : decode cX7_tried 103 = .ok (.iconst 1, 1) := dk_4 (dk_at dksX7_tried_4 11 rfl rfl)
theorem dX7_tried_104 : decode cX7_tried 104 = .ok (.if_icmp .ne 10, 3) := dk_160 0 10 (dk_at dksX7_tried_4 12 rfl rfl)
theorem dX7_tried_107 : decode cX7_tried 107 = .ok (.aload_n 0, 1) := dk_42 (dk_at dksX7_tried_4 15 rfl rfl)
theorem dX7_tried_108 : decode cX7_tried 108 = .ok (.getfield 269, 3) := dk_180 1 13 (dk_at dksX7_tried_4 16 rfl rfl)
theorem dX7_tried_111 : decode cX7_tried 111 = .ok (.goto 62, 3) := dk_167 0 62 (dk_at dksX7_tried_4 19 rfl rfl)
theorem dX7_tried_114 : decode cX7_tried 114 = .ok (.iload_n 2, 1) := dk_28 (dk_at dksX7_tried_4 22 rfl rfl)
theorem dX7_tried_115 : decode cX7_tried 115 = .ok (.iconst 2, 1) := dk_5 (dk_at dksX7_tried_4 23 rfl rfl)
theorem dX7_tried_116 : decode cX7_tried 116 = .ok (.if_icmp .ne 16, 3) := dk_160 0 16 (dk_at dksX7_tried_5 0 rfl rfl)
theorem dX7_tried_119 : decode cX7_tried 119 = .ok (.aload_n 0, 1) := dk_42 (dk_at dksX7_tried_5 3 rfl rfl)
theorem dX7_tried_120 : decode cX7_tried 120 = .ok (.getfield 7, 3) := dk_180 0 7 (dk_at dksX7_tried_5 4 rfl rfl)
theorem dX7_tried_123 : decode cX7_tried 123 = .ok (.bipush 77, 2) := dk_16 77 (dk_at dksX7_tried_5 7 rfl rfl)
theorem dX7_tried_125 : decode cX7_tried 125 = .ok (.iaload, 1) := dk_46 (dk_at dksX7_tried_5 9 rfl rfl)
theorem dX7_tried_126 : decode cX7_tried 126 = .ok (.invokestatic 247, 3) := dk_184 0 247 (dk_at dksX7_tried_5 10 rfl rfl)
theorem dX7_tried_129 : decode cX7_tried 129 = .ok (.goto 44, 3) := dk_167 0 44 (dk_at dksX7_tried_5 13 rfl rfl)
theorem dX7_tried_132 : decode cX7_tried 132 = .ok (.iload_n 2, 1) := dk_28 (dk_at dksX7_tried_5 16 rfl rfl)
theorem dX7_tried_133 : decode cX7_tried 133 = .ok (.iconst 3, 1) := dk_6 (dk_at dksX7_tried_5 17 rfl rfl)
theorem dX7_tried_134 : decode cX7_tried 134 = .ok (.if_icmp .ne 10, 3) := dk_160 0 10 (dk_at dksX7_tried_5 18 rfl rfl)
theorem dX7_tried_137 : decode cX7_tried 137 = .ok (.aload_n 0, 1) := dk_42 (dk_at dksX7_tried_5 21 rfl rfl)
theorem dX7_tried_138 : decode cX7_tried 138 = .ok (.getfield 281, 3) := dk_180 1 25 (dk_at dksX7_tried_6 0 rfl rfl)
theorem dX7_tried_141 : decode cX7_tried 141 = .ok (.goto 32, 3) := dk_167 0 32 (dk_at dksX7_tried_6 3 rfl rfl)
theorem dX7_tried_144 : decode cX7_tried 144 = .ok (.iload_n 2, 1) := dk_28 (dk_at dksX7_tried_6 6 rfl rfl)
theorem dX7_tried_145 : decode cX7_tried 145 = .ok (.bipush 20, 2) := dk_16 20 (dk_at dksX7_tried_6 7 rfl rfl)
theorem dX7_tried_147 : decode cX7_tried 147 = .ok (.if_icmp .ge 17, 3) := dk_162 0 17 (dk_at dksX7_tried_6 9 rfl rfl)
theorem dX7_tried_150 : decode cX7_tried 150 = .ok (.aload_n 0, 1) := dk_42 (dk_at dksX7_tried_6 12 rfl rfl)
theorem dX7_tried_151 : decode cX7_tried 151 = .ok (.getfield 7, 3) := dk_180 0 7 (dk_at dksX7_tried_6 13 rfl rfl)
theorem dX7_tried_154 : decode cX7_tried 154 = .ok (.iconst 4, 1) := dk_7 (dk_at dksX7_tried_6 16 rfl rfl)
theorem dX7_tried_155 : decode cX7_tried 155 = .ok (.iload_n 2, 1) := dk_28 (dk_at dksX7_tried_6 17 rfl rfl)
theorem dX7_tried_156 : decode cX7_tried 156 = .ok (.iadd, 1) := dk_96 (dk_at dksX7_tried_6 18 rfl rfl)
theorem dX7_tried_157 : decode cX7_tried 157 = .ok (.bipush 10, 2) := dk_16 10 (dk_at dksX7_tried_6 19 rfl rfl)
theorem dX7_tried_159 : decode cX7_tried 159 = .ok (.isub, 1) := dk_100 (dk_at dksX7_tried_6 21 rfl rfl)
theorem dX7_tried_160 : decode cX7_tried 160 = .ok (.iaload, 1) := dk_46 (dk_at dksX7_tried_6 22 rfl rfl)
theorem dX7_tried_161 : decode cX7_tried 161 = .ok (.goto 12, 3) := dk_167 0 12 (dk_at dksX7_tried_7 0 rfl rfl)
theorem dX7_tried_164 : decode cX7_tried 164 = .ok (.aload_n 0, 1) := dk_42 (dk_at dksX7_tried_7 3 rfl rfl)
theorem dX7_tried_165 : decode cX7_tried 165 = .ok (.getfield 65, 3) := dk_180 0 65 (dk_at dksX7_tried_7 4 rfl rfl)
theorem dX7_tried_168 : decode cX7_tried 168 = .ok (.iload_n 2, 1) := dk_28 (dk_at dksX7_tried_7 7 rfl rfl)
theorem dX7_tried_169 : decode cX7_tried 169 = .ok (.bipush 20, 2) := dk_16 20 (dk_at dksX7_tried_7 8 rfl rfl)
theorem dX7_tried_171 : decode cX7_tried 171 = .ok (.isub, 1) := dk_100 (dk_at dksX7_tried_7 10 rfl rfl)
theorem dX7_tried_172 : decode cX7_tried 172 = .ok (.iaload, 1) := dk_46 (dk_at dksX7_tried_7 11 rfl rfl)
theorem dX7_tried_173 : decode cX7_tried 173 = .ok (.istore 4, 2) := dk_54 4 (dk_at dksX7_tried_7 12 rfl rfl)
theorem dX7_tried_175 : decode cX7_tried 175 = .ok (.aload_n 0, 1) := dk_42 (dk_at dksX7_tried_7 14 rfl rfl)
theorem dX7_tried_176 : decode cX7_tried 176 = .ok (.getfield 13, 3) := dk_180 0 13 (dk_at dksX7_tried_7 15 rfl rfl)
theorem dX7_tried_179 : decode cX7_tried 179 = .ok (.aload_n 0, 1) := dk_42 (dk_at dksX7_tried_7 18 rfl rfl)
theorem dX7_tried_180 : decode cX7_tried 180 = .ok (.getfield 7, 3) := dk_180 0 7 (dk_at dksX7_tried_7 19 rfl rfl)
theorem dX7_tried_183 : decode cX7_tried 183 = .ok (.invokestatic 294, 3) := dk_184 1 38 (dk_at dksX7_tried_8 0 rfl rfl)
theorem dX7_tried_186 : decode cX7_tried 186 = .ok (.iload 4, 2) := dk_21 4 (dk_at dksX7_tried_8 3 rfl rfl)
theorem dX7_tried_188 : decode cX7_tried 188 = .ok (.ireturn, 1) := dk_172 (dk_at dksX7_tried_8 5 rfl rfl)
abbrev cX7_copies : ByteArray := prog_19_method_7_code
def yX7_copies : MethodName := ⟨RX7, "copies", "([I[I)V"⟩
def dkwX7_copies_0 : List UInt8 := [3, 61, 28, 16, 81, 162, 0, 15, 43, 28, 42, 28, 46, 79, 132, 2, 1, 167, 255, 241, 177]
abbrev dktX7_copies_0 : List UInt8 := dkwX7_copies_0 ++ []
theorem dksX7_copies_0 : cX7_copies.data.toList.drop 0 = dktX7_copies_0 := by decide +kernel
theorem dX7_copies_0 : decode cX7_copies 0 = .ok (.iconst 0, 1) := dk_3 (dk_at dksX7_copies_0 0 rfl rfl)
theorem dX7_copies_1 : decode cX7_copies 1 = .ok (.istore_n 2, 1) := dk_61 (dk_at dksX7_copies_0 1 rfl rfl)
theorem dX7_copies_2 : decode cX7_copies 2 = .ok (.iload_n 2, 1) := dk_28 (dk_at dksX7_copies_0 2 rfl rfl)
theorem dX7_copies_3 : decode cX7_copies 3 = .ok (.bipush 81, 2) := dk_16 81 (dk_at dksX7_copies_0 3 rfl rfl)
theorem dX7_copies_5 : decode cX7_copies 5 = .ok (.if_icmp .ge 15, 3) := dk_162 0 15 (dk_at dksX7_copies_0 5 rfl rfl)
theorem dX7_copies_8 : decode cX7_copies 8 = .ok (.aload_n 1, 1) := dk_43 (dk_at dksX7_copies_0 8 rfl rfl)
theorem dX7_copies_9 : decode cX7_copies 9 = .ok (.iload_n 2, 1) := dk_28 (dk_at dksX7_copies_0 9 rfl rfl)
theorem dX7_copies_10 : decode cX7_copies 10 = .ok (.aload_n 0, 1) := dk_42 (dk_at dksX7_copies_0 10 rfl rfl)
theorem dX7_copies_11 : decode cX7_copies 11 = .ok (.iload_n 2, 1) := dk_28 (dk_at dksX7_copies_0 11 rfl rfl)
theorem dX7_copies_12 : decode cX7_copies 12 = .ok (.iaload, 1) := dk_46 (dk_at dksX7_copies_0 12 rfl rfl)
theorem dX7_copies_13 : decode cX7_copies 13 = .ok (.iastore, 1) := dk_79 (dk_at dksX7_copies_0 13 rfl rfl)
theorem dX7_copies_14 : decode cX7_copies 14 = .ok (.iinc 2 1, 3) := dk_132 2 1 (dk_at dksX7_copies_0 14 rfl rfl)
theorem dX7_copies_17 : decode cX7_copies 17 = .ok (.goto (-15), 3) := dk_167 255 241 (dk_at dksX7_copies_0 17 rfl rfl)
theorem dX7_copies_20 : decode cX7_copies 20 = .ok (.return_, 1) := dk_177 (dk_at dksX7_copies_0 20 rfl rfl)
abbrev cX7_plantIs : ByteArray := prog_19_method_58_code
def yX7_plantIs : MethodName := ⟨RX7, "plantIs", "(II)I"⟩
def dkwX7_plantIs_6 : List UInt8 := [16, 10, 100, 46, 167, 0, 4, 2, 172]
abbrev dktX7_plantIs_6 : List UInt8 := dkwX7_plantIs_6 ++ []
def dkwX7_plantIs_5 : List UInt8 := [28, 16, 10, 16, 16, 184, 0, 126, 153, 0, 23, 42, 180, 0, 7, 16, 24, 16, 7, 27, 104, 96, 28, 96]
abbrev dktX7_plantIs_5 : List UInt8 := dkwX7_plantIs_5 ++ dktX7_plantIs_6
def dkwX7_plantIs_4 : List UInt8 := [42, 27, 182, 0, 130, 153, 0, 7, 3, 167, 0, 4, 4, 172, 42, 180, 0, 7, 16, 20, 27, 96, 46, 172]
abbrev dktX7_plantIs_4 : List UInt8 := dkwX7_plantIs_4 ++ dktX7_plantIs_5
def dkwX7_plantIs_3 : List UInt8 := [27, 96, 46, 172, 42, 180, 0, 7, 16, 12, 27, 96, 46, 172, 42, 180, 0, 7, 16, 16, 27, 96, 46, 172]
abbrev dktX7_plantIs_3 : List UInt8 := dkwX7_plantIs_3 ++ dktX7_plantIs_4
def dkwX7_plantIs_2 : List UInt8 := [42, 180, 0, 7, 3, 27, 96, 46, 172, 42, 180, 0, 7, 7, 27, 96, 46, 172, 42, 180, 0, 7, 16, 8]
abbrev dktX7_plantIs_2 : List UInt8 := dkwX7_plantIs_2 ++ dktX7_plantIs_3
def dkwX7_plantIs_1 : List UInt8 := [170, 0, 0, 0, 113, 0, 0, 0, 0, 0, 0, 0, 6, 0, 0, 0, 41, 0, 0, 0, 50, 0, 0, 0, 59, 0, 0, 0, 69, 0, 0, 0, 79, 0, 0, 0, 89, 0, 0, 0, 103]
abbrev dktX7_plantIs_1 : List UInt8 := dkwX7_plantIs_1 ++ dktX7_plantIs_2
def dkwX7_plantIs_0 : List UInt8 := [42, 27, 182, 0, 122, 154, 0, 5, 2, 172, 28]
abbrev dktX7_plantIs_0 : List UInt8 := dkwX7_plantIs_0 ++ dktX7_plantIs_1
theorem dksX7_plantIs_0 : cX7_plantIs.data.toList.drop 0 = dktX7_plantIs_0 := by decide +kernel
theorem dksX7_plantIs_1 : cX7_plantIs.data.toList.drop 11 = dktX7_plantIs_1 := dk_seg dksX7_plantIs_0 11 rfl rfl
theorem dksX7_plantIs_2 : cX7_plantIs.data.toList.drop 52 = dktX7_plantIs_2 := dk_seg dksX7_plantIs_1 41 rfl rfl
theorem dksX7_plantIs_3 : cX7_plantIs.data.toList.drop 76 = dktX7_plantIs_3 := dk_seg dksX7_plantIs_2 24 rfl rfl
theorem dksX7_plantIs_4 : cX7_plantIs.data.toList.drop 100 = dktX7_plantIs_4 := dk_seg dksX7_plantIs_3 24 rfl rfl
theorem dksX7_plantIs_5 : cX7_plantIs.data.toList.drop 124 = dktX7_plantIs_5 := dk_seg dksX7_plantIs_4 24 rfl rfl
theorem dksX7_plantIs_6 : cX7_plantIs.data.toList.drop 148 = dktX7_plantIs_6 := dk_seg dksX7_plantIs_5 24 rfl rfl
theorem dX7_plantIs_0 : decode cX7_plantIs 0 = .ok (.aload_n 0, 1) := dk_42 (dk_at dksX7_plantIs_0 0 rfl rfl)
theorem dX7_plantIs_1 : decode cX7_plantIs 1 = .ok (.iload_n 1, 1) := dk_27 (dk_at dksX7_plantIs_0 1 rfl rfl)
theorem dX7_plantIs_2 : decode cX7_plantIs 2 = .ok (.invokevirtual 122, 3) := dk_182 0 122 (dk_at dksX7_plantIs_0 2 rfl rfl)
theorem dX7_plantIs_5 : decode cX7_plantIs 5 = .ok (.ifCond .ne 5, 3) := dk_154 0 5 (dk_at dksX7_plantIs_0 5 rfl rfl)
theorem dX7_plantIs_8 : decode cX7_plantIs 8 = .ok (.iconst (-1), 1) := dk_2 (dk_at dksX7_plantIs_0 8 rfl rfl)
theorem dX7_plantIs_9 : decode cX7_plantIs 9 = .ok (.ireturn, 1) := dk_172 (dk_at dksX7_plantIs_0 9 rfl rfl)
theorem dX7_plantIs_10 : decode cX7_plantIs 10 = .ok (.iload_n 2, 1) := dk_28 (dk_at dksX7_plantIs_0 10 rfl rfl)
theorem dX7_plantIs_11 : decode cX7_plantIs 11 = .ok (.tableswitch 113 0 6 #[41, 50, 59, 69, 79, 89, 103], 41) := by decide +kernel
theorem dX7_plantIs_52 : decode cX7_plantIs 52 = .ok (.aload_n 0, 1) := dk_42 (dk_at dksX7_plantIs_2 0 rfl rfl)
theorem dX7_plantIs_53 : decode cX7_plantIs 53 = .ok (.getfield 7, 3) := dk_180 0 7 (dk_at dksX7_plantIs_2 1 rfl rfl)
theorem dX7_plantIs_56 : decode cX7_plantIs 56 = .ok (.iconst 0, 1) := dk_3 (dk_at dksX7_plantIs_2 4 rfl rfl)
theorem dX7_plantIs_57 : decode cX7_plantIs 57 = .ok (.iload_n 1, 1) := dk_27 (dk_at dksX7_plantIs_2 5 rfl rfl)
theorem dX7_plantIs_58 : decode cX7_plantIs 58 = .ok (.iadd, 1) := dk_96 (dk_at dksX7_plantIs_2 6 rfl rfl)
theorem dX7_plantIs_59 : decode cX7_plantIs 59 = .ok (.iaload, 1) := dk_46 (dk_at dksX7_plantIs_2 7 rfl rfl)
theorem dX7_plantIs_60 : decode cX7_plantIs 60 = .ok (.ireturn, 1) := dk_172 (dk_at dksX7_plantIs_2 8 rfl rfl)
theorem dX7_plantIs_61 : decode cX7_plantIs 61 = .ok (.aload_n 0, 1) := dk_42 (dk_at dksX7_plantIs_2 9 rfl rfl)
theorem dX7_plantIs_62 : decode cX7_plantIs 62 = .ok (.getfield 7, 3) := dk_180 0 7 (dk_at dksX7_plantIs_2 10 rfl rfl)
theorem dX7_plantIs_65 : decode cX7_plantIs 65 = .ok (.iconst 4, 1) := dk_7 (dk_at dksX7_plantIs_2 13 rfl rfl)
theorem dX7_plantIs_66 : decode cX7_plantIs 66 = .ok (.iload_n 1, 1) := dk_27 (dk_at dksX7_plantIs_2 14 rfl rfl)
theorem dX7_plantIs_67 : decode cX7_plantIs 67 = .ok (.iadd, 1) := dk_96 (dk_at dksX7_plantIs_2 15 rfl rfl)
theorem dX7_plantIs_68 : decode cX7_plantIs 68 = .ok (.iaload, 1) := dk_46 (dk_at dksX7_plantIs_2 16 rfl rfl)
theorem dX7_plantIs_69 : decode cX7_plantIs 69 = .ok (.ireturn, 1) := dk_172 (dk_at dksX7_plantIs_2 17 rfl rfl)
theorem dX7_plantIs_70 : decode cX7_plantIs 70 = .ok (.aload_n 0, 1) := dk_42 (dk_at dksX7_plantIs_2 18 rfl rfl)
theorem dX7_plantIs_71 : decode cX7_plantIs 71 = .ok (.getfield 7, 3) := dk_180 0 7 (dk_at dksX7_plantIs_2 19 rfl rfl)
theorem dX7_plantIs_74 : decode cX7_plantIs 74 = .ok (.bipush 8, 2) := dk_16 8 (dk_at dksX7_plantIs_2 22 rfl rfl)
theorem dX7_plantIs_76 : decode cX7_plantIs 76 = .ok (.iload_n 1, 1) := dk_27 (dk_at dksX7_plantIs_3 0 rfl rfl)
theorem dX7_plantIs_77 : decode cX7_plantIs 77 = .ok (.iadd, 1) := dk_96 (dk_at dksX7_plantIs_3 1 rfl rfl)
theorem dX7_plantIs_78 : decode cX7_plantIs 78 = .ok (.iaload, 1) := dk_46 (dk_at dksX7_plantIs_3 2 rfl rfl)
theorem dX7_plantIs_79 : decode cX7_plantIs 79 = .ok (.ireturn, 1) := dk_172 (dk_at dksX7_plantIs_3 3 rfl rfl)
theorem dX7_plantIs_80 : decode cX7_plantIs 80 = .ok (.aload_n 0, 1) := dk_42 (dk_at dksX7_plantIs_3 4 rfl rfl)
theorem dX7_plantIs_81 : decode cX7_plantIs 81 = .ok (.getfield 7, 3) := dk_180 0 7 (dk_at dksX7_plantIs_3 5 rfl rfl)
theorem dX7_plantIs_84 : decode cX7_plantIs 84 = .ok (.bipush 12, 2) := dk_16 12 (dk_at dksX7_plantIs_3 8 rfl rfl)
theorem dX7_plantIs_86 : decode cX7_plantIs 86 = .ok (.iload_n 1, 1) := dk_27 (dk_at dksX7_plantIs_3 10 rfl rfl)
theorem dX7_plantIs_87 : decode cX7_plantIs 87 = .ok (.iadd, 1) := dk_96 (dk_at dksX7_plantIs_3 11 rfl rfl)
theorem dX7_plantIs_88 : decode cX7_plantIs 88 = .ok (.iaload, 1) := dk_46 (dk_at dksX7_plantIs_3 12 rfl rfl)
theorem dX7_plantIs_89 : decode cX7_plantIs 89 = .ok (.ireturn, 1) := dk_172 (dk_at dksX7_plantIs_3 13 rfl rfl)
theorem dX7_plantIs_90 : decode cX7_plantIs 90 = .ok (.aload_n 0, 1) := dk_42 (dk_at dksX7_plantIs_3 14 rfl rfl)
theorem dX7_plantIs_91 : decode cX7_plantIs 91 = .ok (.getfield 7, 3) := dk_180 0 7 (dk_at dksX7_plantIs_3 15 rfl rfl)
theorem dX7_plantIs_94 : decode cX7_plantIs 94 = .ok (.bipush 16, 2) := dk_16 16 (dk_at dksX7_plantIs_3 18 rfl rfl)
theorem dX7_plantIs_96 : decode cX7_plantIs 96 = .ok (.iload_n 1, 1) := dk_27 (dk_at dksX7_plantIs_3 20 rfl rfl)
theorem dX7_plantIs_97 : decode cX7_plantIs 97 = .ok (.iadd, 1) := dk_96 (dk_at dksX7_plantIs_3 21 rfl rfl)
theorem dX7_plantIs_98 : decode cX7_plantIs 98 = .ok (.iaload, 1) := dk_46 (dk_at dksX7_plantIs_3 22 rfl rfl)
theorem dX7_plantIs_99 : decode cX7_plantIs 99 = .ok (.ireturn, 1) := dk_172 (dk_at dksX7_plantIs_3 23 rfl rfl)
theorem dX7_plantIs_100 : decode cX7_plantIs 100 = .ok (.aload_n 0, 1) := dk_42 (dk_at dksX7_plantIs_4 0 rfl rfl)
theorem dX7_plantIs_101 : decode cX7_plantIs 101 = .ok (.iload_n 1, 1) := dk_27 (dk_at dksX7_plantIs_4 1 rfl rfl)
theorem dX7_plantIs_102 : decode cX7_plantIs 102 = .ok (.invokevirtual 130, 3) := dk_182 0 130 (dk_at dksX7_plantIs_4 2 rfl rfl)
theorem dX7_plantIs_105 : decode cX7_plantIs 105 = .ok (.ifCond .eq 7, 3) := dk_153 0 7 (dk_at dksX7_plantIs_4 5 rfl rfl)
theorem dX7_plantIs_108 : decode cX7_plantIs 108 = .ok (.iconst 0, 1) := dk_3 (dk_at dksX7_plantIs_4 8 rfl rfl)
theorem dX7_plantIs_109 : decode cX7_plantIs 109 = .ok (.goto 4, 3) := dk_167 0 4 (dk_at dksX7_plantIs_4 9 rfl rfl)
theorem dX7_plantIs_112 : decode cX7_plantIs 112 = .ok (.iconst 1, 1) := dk_4 (dk_at dksX7_plantIs_4 12 rfl rfl)
theorem dX7_plantIs_113 : decode cX7_plantIs 113 = .ok (.ireturn, 1) := dk_172 (dk_at dksX7_plantIs_4 13 rfl rfl)
theorem dX7_plantIs_114 : decode cX7_plantIs 114 = .ok (.aload_n 0, 1) := dk_42 (dk_at dksX7_plantIs_4 14 rfl rfl)
theorem dX7_plantIs_115 : decode cX7_plantIs 115 = .ok (.getfield 7, 3) := dk_180 0 7 (dk_at dksX7_plantIs_4 15 rfl rfl)
theorem dX7_plantIs_118 : decode cX7_plantIs 118 = .ok (.bipush 20, 2) := dk_16 20 (dk_at dksX7_plantIs_4 18 rfl rfl)
theorem dX7_plantIs_120 : decode cX7_plantIs 120 = .ok (.iload_n 1, 1) := dk_27 (dk_at dksX7_plantIs_4 20 rfl rfl)
theorem dX7_plantIs_121 : decode cX7_plantIs 121 = .ok (.iadd, 1) := dk_96 (dk_at dksX7_plantIs_4 21 rfl rfl)
theorem dX7_plantIs_122 : decode cX7_plantIs 122 = .ok (.iaload, 1) := dk_46 (dk_at dksX7_plantIs_4 22 rfl rfl)
theorem dX7_plantIs_123 : decode cX7_plantIs 123 = .ok (.ireturn, 1) := dk_172 (dk_at dksX7_plantIs_4 23 rfl rfl)
theorem dX7_plantIs_124 : decode cX7_plantIs 124 = .ok (.iload_n 2, 1) := dk_28 (dk_at dksX7_plantIs_5 0 rfl rfl)
theorem dX7_plantIs_125 : decode cX7_plantIs 125 = .ok (.bipush 10, 2) := dk_16 10 (dk_at dksX7_plantIs_5 1 rfl rfl)
theorem dX7_plantIs_127 : decode cX7_plantIs 127 = .ok (.bipush 16, 2) := dk_16 16 (dk_at dksX7_plantIs_5 3 rfl rfl)
theorem dX7_plantIs_129 : decode cX7_plantIs 129 = .ok (.invokestatic 126, 3) := dk_184 0 126 (dk_at dksX7_plantIs_5 5 rfl rfl)
theorem dX7_plantIs_132 : decode cX7_plantIs 132 = .ok (.ifCond .eq 23, 3) := dk_153 0 23 (dk_at dksX7_plantIs_5 8 rfl rfl)
theorem dX7_plantIs_135 : decode cX7_plantIs 135 = .ok (.aload_n 0, 1) := dk_42 (dk_at dksX7_plantIs_5 11 rfl rfl)
theorem dX7_plantIs_136 : decode cX7_plantIs 136 = .ok (.getfield 7, 3) := dk_180 0 7 (dk_at dksX7_plantIs_5 12 rfl rfl)
theorem dX7_plantIs_139 : decode cX7_plantIs 139 = .ok (.bipush 24, 2) := dk_16 24 (dk_at dksX7_plantIs_5 15 rfl rfl)
theorem dX7_plantIs_141 : decode cX7_plantIs 141 = .ok (.bipush 7, 2) := dk_16 7 (dk_at dksX7_plantIs_5 17 rfl rfl)
theorem dX7_plantIs_143 : decode cX7_plantIs 143 = .ok (.iload_n 1, 1) := dk_27 (dk_at dksX7_plantIs_5 19 rfl rfl)
theorem dX7_plantIs_144 : decode cX7_plantIs 144 = .ok (.imul, 1) := dk_104 (dk_at dksX7_plantIs_5 20 rfl rfl)
theorem dX7_plantIs_145 : decode cX7_plantIs 145 = .ok (.iadd, 1) := dk_96 (dk_at dksX7_plantIs_5 21 rfl rfl)
theorem dX7_plantIs_146 : decode cX7_plantIs 146 = .ok (.iload_n 2, 1) := dk_28 (dk_at dksX7_plantIs_5 22 rfl rfl)
theorem dX7_plantIs_147 : decode cX7_plantIs 147 = .ok (.iadd, 1) := dk_96 (dk_at dksX7_plantIs_5 23 rfl rfl)
theorem dX7_plantIs_148 : decode cX7_plantIs 148 = .ok (.bipush 10, 2) := dk_16 10 (dk_at dksX7_plantIs_6 0 rfl rfl)
theorem dX7_plantIs_150 : decode cX7_plantIs 150 = .ok (.isub, 1) := dk_100 (dk_at dksX7_plantIs_6 2 rfl rfl)
theorem dX7_plantIs_151 : decode cX7_plantIs 151 = .ok (.iaload, 1) := dk_46 (dk_at dksX7_plantIs_6 3 rfl rfl)
theorem dX7_plantIs_152 : decode cX7_plantIs 152 = .ok (.goto 4, 3) := dk_167 0 4 (dk_at dksX7_plantIs_6 4 rfl rfl)
theorem dX7_plantIs_155 : decode cX7_plantIs 155 = .ok (.iconst (-1), 1) := dk_2 (dk_at dksX7_plantIs_6 7 rfl rfl)
theorem dX7_plantIs_156 : decode cX7_plantIs 156 = .ok (.ireturn, 1) := dk_172 (dk_at dksX7_plantIs_6 8 rfl rfl)
abbrev cX7_exactly : ByteArray := prog_19_method_69_code
def yX7_exactly : MethodName := ⟨RX7, "exactly", "(IIII)J"⟩
def dkwX7_exactly_3 : List UInt8 := [97, 55, 5, 132, 7, 1, 167, 255, 228, 22, 5, 173]
abbrev dktX7_exactly_3 : List UInt8 := dkwX7_exactly_3 ++ []
def dkwX7_exactly_2 : List UInt8 := [54, 7, 21, 7, 16, 20, 162, 0, 27, 22, 5, 42, 180, 0, 74, 16, 20, 21, 4, 104, 21, 7, 96, 47]
abbrev dktX7_exactly_2 : List UInt8 := dkwX7_exactly_2 ++ dktX7_exactly_3
def dkwX7_exactly_1 : List UInt8 := [173, 42, 28, 29, 182, 1, 91, 88, 21, 4, 2, 160, 0, 8, 42, 180, 1, 65, 173, 9, 55, 5, 3]
abbrev dktX7_exactly_1 : List UInt8 := dkwX7_exactly_1 ++ dktX7_exactly_2
def dkwX7_exactly_0 : List UInt8 := [42, 27, 28, 29, 182, 1, 86, 153, 0, 14, 21, 4, 2, 16, 24, 184, 0, 126, 154, 0, 7, 20, 1, 89]
abbrev dktX7_exactly_0 : List UInt8 := dkwX7_exactly_0 ++ dktX7_exactly_1
theorem dksX7_exactly_0 : cX7_exactly.data.toList.drop 0 = dktX7_exactly_0 := by decide +kernel
theorem dksX7_exactly_1 : cX7_exactly.data.toList.drop 24 = dktX7_exactly_1 := dk_seg dksX7_exactly_0 24 rfl rfl
theorem dksX7_exactly_2 : cX7_exactly.data.toList.drop 47 = dktX7_exactly_2 := dk_seg dksX7_exactly_1 23 rfl rfl
theorem dksX7_exactly_3 : cX7_exactly.data.toList.drop 71 = dktX7_exactly_3 := dk_seg dksX7_exactly_2 24 rfl rfl
theorem dX7_exactly_0 : decode cX7_exactly 0 = .ok (.aload_n 0, 1) := dk_42 (dk_at dksX7_exactly_0 0 rfl rfl)
theorem dX7_exactly_1 : decode cX7_exactly 1 = .ok (.iload_n 1, 1) := dk_27 (dk_at dksX7_exactly_0 1 rfl rfl)
theorem dX7_exactly_2 : decode cX7_exactly 2 = .ok (.iload_n 2, 1) := dk_28 (dk_at dksX7_exactly_0 2 rfl rfl)
theorem dX7_exactly_3 : decode cX7_exactly 3 = .ok (.iload_n 3, 1) := dk_29 (dk_at dksX7_exactly_0 3 rfl rfl)
theorem dX7_exactly_4 : decode cX7_exactly 4 = .ok (.invokevirtual 342, 3) := dk_182 1 86 (dk_at dksX7_exactly_0 4 rfl rfl)
theorem dX7_exactly_7 : decode cX7_exactly 7 = .ok (.ifCond .eq 14, 3) := dk_153 0 14 (dk_at dksX7_exactly_0 7 rfl rfl)
theorem dX7_exactly_10 : decode cX7_exactly 10 = .ok (.iload 4, 2) := dk_21 4 (dk_at dksX7_exactly_0 10 rfl rfl)
theorem dX7_exactly_12 : decode cX7_exactly 12 = .ok (.iconst (-1), 1) := dk_2 (dk_at dksX7_exactly_0 12 rfl rfl)
theorem dX7_exactly_13 : decode cX7_exactly 13 = .ok (.bipush 24, 2) := dk_16 24 (dk_at dksX7_exactly_0 13 rfl rfl)
theorem dX7_exactly_15 : decode cX7_exactly 15 = .ok (.invokestatic 126, 3) := dk_184 0 126 (dk_at dksX7_exactly_0 15 rfl rfl)
theorem dX7_exactly_18 : decode cX7_exactly 18 = .ok (.ifCond .ne 7, 3) := dk_154 0 7 (dk_at dksX7_exactly_0 18 rfl rfl)
theorem dX7_exactly_21 : decode cX7_exactly 21 = .ok (.ldc2_w 345, 3) := dk_20 1 89 (dk_at dksX7_exactly_0 21 rfl rfl)
theorem dX7_exactly_24 : decode cX7_exactly 24 = .ok (.lreturn, 1) := dk_173 (dk_at dksX7_exactly_1 0 rfl rfl)
theorem dX7_exactly_25 : decode cX7_exactly 25 = .ok (.aload_n 0, 1) := dk_42 (dk_at dksX7_exactly_1 1 rfl rfl)
theorem dX7_exactly_26 : decode cX7_exactly 26 = .ok (.iload_n 2, 1) := dk_28 (dk_at dksX7_exactly_1 2 rfl rfl)
theorem dX7_exactly_27 : decode cX7_exactly 27 = .ok (.iload_n 3, 1) := dk_29 (dk_at dksX7_exactly_1 3 rfl rfl)
theorem dX7_exactly_28 : decode cX7_exactly 28 = .ok (.invokevirtual 347, 3) := dk_182 1 91 (dk_at dksX7_exactly_1 4 rfl rfl)
theorem dX7_exactly_31 : decode cX7_exactly 31 = .ok (.pop2, 1) := dk_88 (dk_at dksX7_exactly_1 7 rfl rfl)
theorem dX7_exactly_32 : decode cX7_exactly 32 = .ok (.iload 4, 2) := dk_21 4 (dk_at dksX7_exactly_1 8 rfl rfl)
theorem dX7_exactly_34 : decode cX7_exactly 34 = .ok (.iconst (-1), 1) := dk_2 (dk_at dksX7_exactly_1 10 rfl rfl)
theorem dX7_exactly_35 : decode cX7_exactly 35 = .ok (.if_icmp .ne 8, 3) := dk_160 0 8 (dk_at dksX7_exactly_1 11 rfl rfl)
theorem dX7_exactly_38 : decode cX7_exactly 38 = .ok (.aload_n 0, 1) := dk_42 (dk_at dksX7_exactly_1 14 rfl rfl)
theorem dX7_exactly_39 : decode cX7_exactly 39 = .ok (.getfield 321, 3) := dk_180 1 65 (dk_at dksX7_exactly_1 15 rfl rfl)
theorem dX7_exactly_42 : decode cX7_exactly 42 = .ok (.lreturn, 1) := dk_173 (dk_at dksX7_exactly_1 18 rfl rfl)
theorem dX7_exactly_43 : decode cX7_exactly 43 = .ok (.lconst 0, 1) := dk_9 (dk_at dksX7_exactly_1 19 rfl rfl)
theorem dX7_exactly_44 : decode cX7_exactly 44 = .ok (.lstore 5, 2) := dk_55 5 (dk_at dksX7_exactly_1 20 rfl rfl)
theorem dX7_exactly_46 : decode cX7_exactly 46 = .ok (.iconst 0, 1) := dk_3 (dk_at dksX7_exactly_1 22 rfl rfl)
theorem dX7_exactly_47 : decode cX7_exactly 47 = .ok (.istore 7, 2) := dk_54 7 (dk_at dksX7_exactly_2 0 rfl rfl)
theorem dX7_exactly_49 : decode cX7_exactly 49 = .ok (.iload 7, 2) := dk_21 7 (dk_at dksX7_exactly_2 2 rfl rfl)
theorem dX7_exactly_51 : decode cX7_exactly 51 = .ok (.bipush 20, 2) := dk_16 20 (dk_at dksX7_exactly_2 4 rfl rfl)
theorem dX7_exactly_53 : decode cX7_exactly 53 = .ok (.if_icmp .ge 27, 3) := dk_162 0 27 (dk_at dksX7_exactly_2 6 rfl rfl)
theorem dX7_exactly_56 : decode cX7_exactly 56 = .ok (.lload 5, 2) := dk_22 5 (dk_at dksX7_exactly_2 9 rfl rfl)
theorem dX7_exactly_58 : decode cX7_exactly 58 = .ok (.aload_n 0, 1) := dk_42 (dk_at dksX7_exactly_2 11 rfl rfl)
theorem dX7_exactly_59 : decode cX7_exactly 59 = .ok (.getfield 74, 3) := dk_180 0 74 (dk_at dksX7_exactly_2 12 rfl rfl)
theorem dX7_exactly_62 : decode cX7_exactly 62 = .ok (.bipush 20, 2) := dk_16 20 (dk_at dksX7_exactly_2 15 rfl rfl)
theorem dX7_exactly_64 : decode cX7_exactly 64 = .ok (.iload 4, 2) := dk_21 4 (dk_at dksX7_exactly_2 17 rfl rfl)
theorem dX7_exactly_66 : decode cX7_exactly 66 = .ok (.imul, 1) := dk_104 (dk_at dksX7_exactly_2 19 rfl rfl)
theorem dX7_exactly_67 : decode cX7_exactly 67 = .ok (.iload 7, 2) := dk_21 7 (dk_at dksX7_exactly_2 20 rfl rfl)
theorem dX7_exactly_69 : decode cX7_exactly 69 = .ok (.iadd, 1) := dk_96 (dk_at dksX7_exactly_2 22 rfl rfl)
theorem dX7_exactly_70 : decode cX7_exactly 70 = .ok (.laload, 1) := dk_47 (dk_at dksX7_exactly_2 23 rfl rfl)
theorem dX7_exactly_71 : decode cX7_exactly 71 = .ok (.ladd, 1) := dk_97 (dk_at dksX7_exactly_3 0 rfl rfl)
theorem dX7_exactly_72 : decode cX7_exactly 72 = .ok (.lstore 5, 2) := dk_55 5 (dk_at dksX7_exactly_3 1 rfl rfl)
theorem dX7_exactly_74 : decode cX7_exactly 74 = .ok (.iinc 7 1, 3) := dk_132 7 1 (dk_at dksX7_exactly_3 3 rfl rfl)
theorem dX7_exactly_77 : decode cX7_exactly 77 = .ok (.goto (-28), 3) := dk_167 255 228 (dk_at dksX7_exactly_3 6 rfl rfl)
theorem dX7_exactly_80 : decode cX7_exactly 80 = .ok (.lload 5, 2) := dk_22 5 (dk_at dksX7_exactly_3 9 rfl rfl)
theorem dX7_exactly_82 : decode cX7_exactly 82 = .ok (.lreturn, 1) := dk_173 (dk_at dksX7_exactly_3 11 rfl rfl)
abbrev cX7_canGo : ByteArray := prog_19_method_68_code
def yX7_canGo : MethodName := ⟨RX7, "canGo", "(III)Z"⟩
def dkwX7_canGo_2 : List UInt8 := [27, 181, 1, 42, 42, 42, 180, 0, 7, 7, 27, 96, 46, 181, 1, 45, 4, 172]
abbrev dktX7_canGo_2 : List UInt8 := dkwX7_canGo_2 ++ []
def dkwX7_canGo_1 : List UInt8 := [153, 0, 21, 28, 29, 4, 96, 104, 16, 18, 163, 0, 11, 42, 29, 182, 1, 83, 154, 0, 5, 3, 172, 42]
abbrev dktX7_canGo_1 : List UInt8 := dkwX7_canGo_1 ++ dktX7_canGo_2
def dkwX7_canGo_0 : List UInt8 := [42, 27, 182, 0, 130, 153, 0, 40, 28, 4, 16, 9, 184, 0, 126, 153, 0, 30, 29, 4, 6, 184, 0, 126]
abbrev dktX7_canGo_0 : List UInt8 := dkwX7_canGo_0 ++ dktX7_canGo_1
theorem dksX7_canGo_0 : cX7_canGo.data.toList.drop 0 = dktX7_canGo_0 := by decide +kernel
theorem dksX7_canGo_1 : cX7_canGo.data.toList.drop 24 = dktX7_canGo_1 := dk_seg dksX7_canGo_0 24 rfl rfl
theorem dksX7_canGo_2 : cX7_canGo.data.toList.drop 48 = dktX7_canGo_2 := dk_seg dksX7_canGo_1 24 rfl rfl
theorem dX7_canGo_0 : decode cX7_canGo 0 = .ok (.aload_n 0, 1) := dk_42 (dk_at dksX7_canGo_0 0 rfl rfl)
theorem dX7_canGo_1 : decode cX7_canGo 1 = .ok (.iload_n 1, 1) := dk_27 (dk_at dksX7_canGo_0 1 rfl rfl)
theorem dX7_canGo_2 : decode cX7_canGo 2 = .ok (.invokevirtual 130, 3) := dk_182 0 130 (dk_at dksX7_canGo_0 2 rfl rfl)
theorem dX7_canGo_5 : decode cX7_canGo 5 = .ok (.ifCond .eq 40, 3) := dk_153 0 40 (dk_at dksX7_canGo_0 5 rfl rfl)
theorem dX7_canGo_8 : decode cX7_canGo 8 = .ok (.iload_n 2, 1) := dk_28 (dk_at dksX7_canGo_0 8 rfl rfl)
theorem dX7_canGo_9 : decode cX7_canGo 9 = .ok (.iconst 1, 1) := dk_4 (dk_at dksX7_canGo_0 9 rfl rfl)
theorem dX7_canGo_10 : decode cX7_canGo 10 = .ok (.bipush 9, 2) := dk_16 9 (dk_at dksX7_canGo_0 10 rfl rfl)
theorem dX7_canGo_12 : decode cX7_canGo 12 = .ok (.invokestatic 126, 3) := dk_184 0 126 (dk_at dksX7_canGo_0 12 rfl rfl)
theorem dX7_canGo_15 : decode cX7_canGo 15 = .ok (.ifCond .eq 30, 3) := dk_153 0 30 (dk_at dksX7_canGo_0 15 rfl rfl)
theorem dX7_canGo_18 : decode cX7_canGo 18 = .ok (.iload_n 3, 1) := dk_29 (dk_at dksX7_canGo_0 18 rfl rfl)
theorem dX7_canGo_19 : decode cX7_canGo 19 = .ok (.iconst 1, 1) := dk_4 (dk_at dksX7_canGo_0 19 rfl rfl)
theorem dX7_canGo_20 : decode cX7_canGo 20 = .ok (.iconst 3, 1) := dk_6 (dk_at dksX7_canGo_0 20 rfl rfl)
theorem dX7_canGo_21 : decode cX7_canGo 21 = .ok (.invokestatic 126, 3) := dk_184 0 126 (dk_at dksX7_canGo_0 21 rfl rfl)
theorem dX7_canGo_24 : decode cX7_canGo 24 = .ok (.ifCond .eq 21, 3) := dk_153 0 21 (dk_at dksX7_canGo_1 0 rfl rfl)
theorem dX7_canGo_27 : decode cX7_canGo 27 = .ok (.iload_n 2, 1) := dk_28 (dk_at dksX7_canGo_1 3 rfl rfl)
theorem dX7_canGo_28 : decode cX7_canGo 28 = .ok (.iload_n 3, 1) := dk_29 (dk_at dksX7_canGo_1 4 rfl rfl)
theorem dX7_canGo_29 : decode cX7_canGo 29 = .ok (.iconst 1, 1) := dk_4 (dk_at dksX7_canGo_1 5 rfl rfl)
theorem dX7_canGo_30 : decode cX7_canGo 30 = .ok (.iadd, 1) := dk_96 (dk_at dksX7_canGo_1 6 rfl rfl)
theorem dX7_canGo_31 : decode cX7_canGo 31 = .ok (.imul, 1) := dk_104 (dk_at dksX7_canGo_1 7 rfl rfl)
theorem dX7_canGo_32 : decode cX7_canGo 32 = .ok (.bipush 18, 2) := dk_16 18 (dk_at dksX7_canGo_1 8 rfl rfl)
theorem dX7_canGo_34 : decode cX7_canGo 34 = .ok (.if_icmp .gt 11, 3) := dk_163 0 11 (dk_at dksX7_canGo_1 10 rfl rfl)
theorem dX7_canGo_37 : decode cX7_canGo 37 = .ok (.aload_n 0, 1) := dk_42 (dk_at dksX7_canGo_1 13 rfl rfl)
theorem dX7_canGo_38 : decode cX7_canGo 38 = .ok (.iload_n 3, 1) := dk_29 (dk_at dksX7_canGo_1 14 rfl rfl)
theorem dX7_canGo_39 : decode cX7_canGo 39 = .ok (.invokevirtual 339, 3) := dk_182 1 83 (dk_at dksX7_canGo_1 15 rfl rfl)
theorem dX7_canGo_42 : decode cX7_canGo 42 = .ok (.ifCond .ne 5, 3) := dk_154 0 5 (dk_at dksX7_canGo_1 18 rfl rfl)
theorem dX7_canGo_45 : decode cX7_canGo 45 = .ok (.iconst 0, 1) := dk_3 (dk_at dksX7_canGo_1 21 rfl rfl)
theorem dX7_canGo_46 : decode cX7_canGo 46 = .ok (.ireturn, 1) := dk_172 (dk_at dksX7_canGo_1 22 rfl rfl)
theorem dX7_canGo_47 : decode cX7_canGo 47 = .ok (.aload_n 0, 1) := dk_42 (dk_at dksX7_canGo_1 23 rfl rfl)
theorem dX7_canGo_48 : decode cX7_canGo 48 = .ok (.iload_n 1, 1) := dk_27 (dk_at dksX7_canGo_2 0 rfl rfl)
theorem dX7_canGo_49 : decode cX7_canGo 49 = .ok (.putfield 298, 3) := dk_181 1 42 (dk_at dksX7_canGo_2 1 rfl rfl)
theorem dX7_canGo_52 : decode cX7_canGo 52 = .ok (.aload_n 0, 1) := dk_42 (dk_at dksX7_canGo_2 4 rfl rfl)
theorem dX7_canGo_53 : decode cX7_canGo 53 = .ok (.aload_n 0, 1) := dk_42 (dk_at dksX7_canGo_2 5 rfl rfl)
theorem dX7_canGo_54 : decode cX7_canGo 54 = .ok (.getfield 7, 3) := dk_180 0 7 (dk_at dksX7_canGo_2 6 rfl rfl)
theorem dX7_canGo_57 : decode cX7_canGo 57 = .ok (.iconst 4, 1) := dk_7 (dk_at dksX7_canGo_2 9 rfl rfl)
theorem dX7_canGo_58 : decode cX7_canGo 58 = .ok (.iload_n 1, 1) := dk_27 (dk_at dksX7_canGo_2 10 rfl rfl)
theorem dX7_canGo_59 : decode cX7_canGo 59 = .ok (.iadd, 1) := dk_96 (dk_at dksX7_canGo_2 11 rfl rfl)
theorem dX7_canGo_60 : decode cX7_canGo 60 = .ok (.iaload, 1) := dk_46 (dk_at dksX7_canGo_2 12 rfl rfl)
theorem dX7_canGo_61 : decode cX7_canGo 61 = .ok (.putfield 301, 3) := dk_181 1 45 (dk_at dksX7_canGo_2 13 rfl rfl)
theorem dX7_canGo_64 : decode cX7_canGo 64 = .ok (.iconst 1, 1) := dk_4 (dk_at dksX7_canGo_2 16 rfl rfl)
theorem dX7_canGo_65 : decode cX7_canGo 65 = .ok (.ireturn, 1) := dk_172 (dk_at dksX7_canGo_2 17 rfl rfl)
abbrev cX7_laysSome : ByteArray := prog_19_method_59_code
def yX7_laysSome : MethodName := ⟨RX7, "laysSome", "(I)Z"⟩
def dkwX7_laysSome_2 : List UInt8 := [79, 28, 4, 96, 61, 132, 3, 1, 167, 255, 205, 28, 27, 160, 0, 7, 4, 167, 0, 4, 3, 172]
abbrev dktX7_laysSome_2 : List UInt8 := dkwX7_laysSome_2 ++ []
def dkwX7_laysSome_1 : List UInt8 := [167, 0, 29, 42, 180, 0, 68, 28, 29, 79, 42, 180, 0, 71, 28, 42, 180, 0, 7, 16, 52, 29, 96, 46]
abbrev dktX7_laysSome_1 : List UInt8 := dkwX7_laysSome_1 ++ dktX7_laysSome_2
def dkwX7_laysSome_0 : List UInt8 := [3, 61, 3, 62, 29, 16, 8, 162, 0, 51, 28, 27, 162, 0, 46, 42, 29, 182, 1, 3, 154, 0, 6]
abbrev dktX7_laysSome_0 : List UInt8 := dkwX7_laysSome_0 ++ dktX7_laysSome_1
theorem dksX7_laysSome_0 : cX7_laysSome.data.toList.drop 0 = dktX7_laysSome_0 := by decide +kernel
theorem dksX7_laysSome_1 : cX7_laysSome.data.toList.drop 23 = dktX7_laysSome_1 := dk_seg dksX7_laysSome_0 23 rfl rfl
theorem dksX7_laysSome_2 : cX7_laysSome.data.toList.drop 47 = dktX7_laysSome_2 := dk_seg dksX7_laysSome_1 24 rfl rfl
theorem dX7_laysSome_0 : decode cX7_laysSome 0 = .ok (.iconst 0, 1) := dk_3 (dk_at dksX7_laysSome_0 0 rfl rfl)
theorem dX7_laysSome_1 : decode cX7_laysSome 1 = .ok (.istore_n 2, 1) := dk_61 (dk_at dksX7_laysSome_0 1 rfl rfl)
theorem dX7_laysSome_2 : decode cX7_laysSome 2 = .ok (.iconst 0, 1) := dk_3 (dk_at dksX7_laysSome_0 2 rfl rfl)
theorem dX7_laysSome_3 : decode cX7_laysSome 3 = .ok (.istore_n 3, 1) := dk_62 (dk_at dksX7_laysSome_0 3 rfl rfl)
theorem dX7_laysSome_4 : decode cX7_laysSome 4 = .ok (.iload_n 3, 1) := dk_29 (dk_at dksX7_laysSome_0 4 rfl rfl)
theorem dX7_laysSome_5 : decode cX7_laysSome 5 = .ok (.bipush 8, 2) := dk_16 8 (dk_at dksX7_laysSome_0 5 rfl rfl)
theorem dX7_laysSome_7 : decode cX7_laysSome 7 = .ok (.if_icmp .ge 51, 3) := dk_162 0 51 (dk_at dksX7_laysSome_0 7 rfl rfl)
theorem dX7_laysSome_10 : decode cX7_laysSome 10 = .ok (.iload_n 2, 1) := dk_28 (dk_at dksX7_laysSome_0 10 rfl rfl)
theorem dX7_laysSome_11 : decode cX7_laysSome 11 = .ok (.iload_n 1, 1) := dk_27 (dk_at dksX7_laysSome_0 11 rfl rfl)
theorem dX7_laysSome_12 : decode cX7_laysSome 12 = .ok (.if_icmp .ge 46, 3) := dk_162 0 46 (dk_at dksX7_laysSome_0 12 rfl rfl)
theorem dX7_laysSome_15 : decode cX7_laysSome 15 = .ok (.aload_n 0, 1) := dk_42 (dk_at dksX7_laysSome_0 15 rfl rfl)
theorem dX7_laysSome_16 : decode cX7_laysSome 16 = .ok (.iload_n 3, 1) := dk_29 (dk_at dksX7_laysSome_0 16 rfl rfl)
theorem dX7_laysSome_17 : decode cX7_laysSome 17 = .ok (.invokevirtual 259, 3) := dk_182 1 3 (dk_at dksX7_laysSome_0 17 rfl rfl)
theorem dX7_laysSome_20 : decode cX7_laysSome 20 = .ok (.ifCond .ne 6, 3) := dk_154 0 6 (dk_at dksX7_laysSome_0 20 rfl rfl)
theorem dX7_laysSome_23 : decode cX7_laysSome 23 = .ok (.goto 29, 3) := dk_167 0 29 (dk_at dksX7_laysSome_1 0 rfl rfl)
theorem dX7_laysSome_26 : decode cX7_laysSome 26 = .ok (.aload_n 0, 1) := dk_42 (dk_at dksX7_laysSome_1 3 rfl rfl)
theorem dX7_laysSome_27 : decode cX7_laysSome 27 = .ok (.getfield 68, 3) := dk_180 0 68 (dk_at dksX7_laysSome_1 4 rfl rfl)
theorem dX7_laysSome_30 : decode cX7_laysSome 30 = .ok (.iload_n 2, 1) := dk_28 (dk_at dksX7_laysSome_1 7 rfl rfl)
theorem dX7_laysSome_31 : decode cX7_laysSome 31 = .ok (.iload_n 3, 1) := dk_29 (dk_at dksX7_laysSome_1 8 rfl rfl)
theorem dX7_laysSome_32 : decode cX7_laysSome 32 = .ok (.iastore, 1) := dk_79 (dk_at dksX7_laysSome_1 9 rfl rfl)
theorem dX7_laysSome_33 : decode cX7_laysSome 33 = .ok (.aload_n 0, 1) := dk_42 (dk_at dksX7_laysSome_1 10 rfl rfl)
theorem dX7_laysSome_34 : decode cX7_laysSome 34 = .ok (.getfield 71, 3) := dk_180 0 71 (dk_at dksX7_laysSome_1 11 rfl rfl)
theorem dX7_laysSome_37 : decode cX7_laysSome 37 = .ok (.iload_n 2, 1) := dk_28 (dk_at dksX7_laysSome_1 14 rfl rfl)
theorem dX7_laysSome_38 : decode cX7_laysSome 38 = .ok (.aload_n 0, 1) := dk_42 (dk_at dksX7_laysSome_1 15 rfl rfl)
theorem dX7_laysSome_39 : decode cX7_laysSome 39 = .ok (.getfield 7, 3) := dk_180 0 7 (dk_at dksX7_laysSome_1 16 rfl rfl)
theorem dX7_laysSome_42 : decode cX7_laysSome 42 = .ok (.bipush 52, 2) := dk_16 52 (dk_at dksX7_laysSome_1 19 rfl rfl)
theorem dX7_laysSome_44 : decode cX7_laysSome 44 = .ok (.iload_n 3, 1) := dk_29 (dk_at dksX7_laysSome_1 21 rfl rfl)
theorem dX7_laysSome_45 : decode cX7_laysSome 45 = .ok (.iadd, 1) := dk_96 (dk_at dksX7_laysSome_1 22 rfl rfl)
theorem dX7_laysSome_46 : decode cX7_laysSome 46 = .ok (.iaload, 1) := dk_46 (dk_at dksX7_laysSome_1 23 rfl rfl)
theorem dX7_laysSome_47 : decode cX7_laysSome 47 = .ok (.iastore, 1) := dk_79 (dk_at dksX7_laysSome_2 0 rfl rfl)
theorem dX7_laysSome_48 : decode cX7_laysSome 48 = .ok (.iload_n 2, 1) := dk_28 (dk_at dksX7_laysSome_2 1 rfl rfl)
theorem dX7_laysSome_49 : decode cX7_laysSome 49 = .ok (.iconst 1, 1) := dk_4 (dk_at dksX7_laysSome_2 2 rfl rfl)
theorem dX7_laysSome_50 : decode cX7_laysSome 50 = .ok (.iadd, 1) := dk_96 (dk_at dksX7_laysSome_2 3 rfl rfl)
theorem dX7_laysSome_51 : decode cX7_laysSome 51 = .ok (.istore_n 2, 1) := dk_61 (dk_at dksX7_laysSome_2 4 rfl rfl)
theorem dX7_laysSome_52 : decode cX7_laysSome 52 = .ok (.iinc 3 1, 3) := dk_132 3 1 (dk_at dksX7_laysSome_2 5 rfl rfl)
theorem dX7_laysSome_55 : decode cX7_laysSome 55 = .ok (.goto (-51), 3) := dk_167 255 205 (dk_at dksX7_laysSome_2 8 rfl rfl)
theorem dX7_laysSome_58 : decode cX7_laysSome 58 = .ok (.iload_n 2, 1) := dk_28 (dk_at dksX7_laysSome_2 11 rfl rfl)
theorem dX7_laysSome_59 : decode cX7_laysSome 59 = .ok (.iload_n 1, 1) := dk_27 (dk_at dksX7_laysSome_2 12 rfl rfl)
theorem dX7_laysSome_60 : decode cX7_laysSome 60 = .ok (.if_icmp .ne 7, 3) := dk_160 0 7 (dk_at dksX7_laysSome_2 13 rfl rfl)
theorem dX7_laysSome_63 : decode cX7_laysSome 63 = .ok (.iconst 1, 1) := dk_4 (dk_at dksX7_laysSome_2 16 rfl rfl)
theorem dX7_laysSome_64 : decode cX7_laysSome 64 = .ok (.goto 4, 3) := dk_167 0 4 (dk_at dksX7_laysSome_2 17 rfl rfl)
theorem dX7_laysSome_67 : decode cX7_laysSome 67 = .ok (.iconst 0, 1) := dk_3 (dk_at dksX7_laysSome_2 20 rfl rfl)
theorem dX7_laysSome_68 : decode cX7_laysSome 68 = .ok (.ireturn, 1) := dk_172 (dk_at dksX7_laysSome_2 21 rfl rfl)
abbrev cX7_goesThrough : ByteArray := prog_19_method_67_code
def yX7_goesThrough : MethodName := ⟨RX7, "goesThrough", "(II)J"⟩
def dkwX7_goesThrough_12 : List UInt8 := [104, 184, 1, 72, 42, 180, 1, 65, 101, 173]
abbrev dktX7_goesThrough_12 : List UInt8 := dkwX7_goesThrough_12 ++ []
def dkwX7_goesThrough_11 : List UInt8 := [16, 79, 46, 4, 96, 79, 132, 4, 1, 167, 255, 72, 42, 180, 0, 7, 16, 79, 29, 79, 27, 28, 4, 96]
abbrev dktX7_goesThrough_11 : List UInt8 := dkwX7_goesThrough_11 ++ dktX7_goesThrough_12
def dkwX7_goesThrough_10 : List UInt8 := [180, 0, 78, 21, 5, 47, 80, 132, 5, 1, 167, 255, 231, 42, 180, 0, 7, 16, 79, 42, 180, 0, 7]
abbrev dktX7_goesThrough_10 : List UInt8 := dkwX7_goesThrough_10 ++ dktX7_goesThrough_11
def dkwX7_goesThrough_9 : List UInt8 := [132, 5, 1, 167, 255, 174, 3, 54, 5, 21, 5, 17, 1, 244, 162, 0, 23, 42, 180, 0, 74, 21, 5, 42]
abbrev dktX7_goesThrough_9 : List UInt8 := dkwX7_goesThrough_9 ++ dktX7_goesThrough_10
def dkwX7_goesThrough_8 : List UInt8 := [42, 21, 5, 21, 6, 4, 182, 1, 79, 42, 21, 5, 21, 6, 3, 182, 1, 79, 132, 6, 1, 167, 255, 213]
abbrev dktX7_goesThrough_8 : List UInt8 := dkwX7_goesThrough_8 ++ dktX7_goesThrough_9
def dkwX7_goesThrough_7 : List UInt8 := [54, 6, 21, 6, 16, 24, 163, 0, 42, 42, 180, 0, 81, 21, 6, 47, 9, 148, 154, 0, 6, 167, 0, 21]
abbrev dktX7_goesThrough_7 : List UInt8 := dkwX7_goesThrough_7 ++ dktX7_goesThrough_8
def dkwX7_goesThrough_6 : List UInt8 := [42, 180, 0, 74, 21, 5, 47, 9, 148, 154, 0, 6, 167, 0, 59, 42, 21, 5, 28, 182, 1, 76, 3]
abbrev dktX7_goesThrough_6 : List UInt8 := dkwX7_goesThrough_6 ++ dktX7_goesThrough_7
def dkwX7_goesThrough_5 : List UInt8 := [180, 0, 78, 21, 5, 9, 80, 132, 5, 1, 167, 255, 237, 3, 54, 5, 21, 5, 17, 1, 244, 162, 0, 80]
abbrev dktX7_goesThrough_5 : List UInt8 := dkwX7_goesThrough_5 ++ dktX7_goesThrough_6
def dkwX7_goesThrough_4 : List UInt8 := [28, 4, 96, 184, 1, 72, 105, 181, 1, 65, 3, 54, 5, 21, 5, 17, 1, 244, 162, 0, 17, 42]
abbrev dktX7_goesThrough_4 : List UInt8 := dkwX7_goesThrough_4 ++ dktX7_goesThrough_5
def dkwX7_goesThrough_3 : List UInt8 := [180, 1, 42, 96, 46, 184, 1, 69, 10, 80, 3, 54, 4, 21, 4, 27, 162, 0, 184, 42, 42, 180, 1, 65]
abbrev dktX7_goesThrough_3 : List UInt8 := dkwX7_goesThrough_3 ++ dktX7_goesThrough_4
def dkwX7_goesThrough_2 : List UInt8 := [180, 1, 42, 96, 46, 42, 180, 0, 7, 16, 12, 42, 180, 1, 42, 96, 46, 42, 180, 0, 7, 16, 16, 42]
abbrev dktX7_goesThrough_2 : List UInt8 := dkwX7_goesThrough_2 ++ dktX7_goesThrough_3
def dkwX7_goesThrough_1 : List UInt8 := [42, 180, 0, 74, 21, 4, 9, 80, 132, 4, 1, 167, 255, 237, 42, 180, 0, 74, 42, 180, 0, 7, 7, 42]
abbrev dktX7_goesThrough_1 : List UInt8 := dkwX7_goesThrough_1 ++ dktX7_goesThrough_2
def dkwX7_goesThrough_0 : List UInt8 := [42, 180, 0, 7, 16, 79, 46, 62, 42, 9, 181, 1, 65, 3, 54, 4, 21, 4, 17, 1, 244, 162, 0, 17]
abbrev dktX7_goesThrough_0 : List UInt8 := dkwX7_goesThrough_0 ++ dktX7_goesThrough_1
theorem dksX7_goesThrough_0 : cX7_goesThrough.data.toList.drop 0 = dktX7_goesThrough_0 := by decide +kernel
theorem dksX7_goesThrough_1 : cX7_goesThrough.data.toList.drop 24 = dktX7_goesThrough_1 := dk_seg dksX7_goesThrough_0 24 rfl rfl
theorem dksX7_goesThrough_2 : cX7_goesThrough.data.toList.drop 48 = dktX7_goesThrough_2 := dk_seg dksX7_goesThrough_1 24 rfl rfl
theorem dksX7_goesThrough_3 : cX7_goesThrough.data.toList.drop 72 = dktX7_goesThrough_3 := dk_seg dksX7_goesThrough_2 24 rfl rfl
theorem dksX7_goesThrough_4 : cX7_goesThrough.data.toList.drop 96 = dktX7_goesThrough_4 := dk_seg dksX7_goesThrough_3 24 rfl rfl
theorem dksX7_goesThrough_5 : cX7_goesThrough.data.toList.drop 118 = dktX7_goesThrough_5 := dk_seg dksX7_goesThrough_4 22 rfl rfl
theorem dksX7_goesThrough_6 : cX7_goesThrough.data.toList.drop 142 = dktX7_goesThrough_6 := dk_seg dksX7_goesThrough_5 24 rfl rfl
theorem dksX7_goesThrough_7 : cX7_goesThrough.data.toList.drop 165 = dktX7_goesThrough_7 := dk_seg dksX7_goesThrough_6 23 rfl rfl
theorem dksX7_goesThrough_8 : cX7_goesThrough.data.toList.drop 189 = dktX7_goesThrough_8 := dk_seg dksX7_goesThrough_7 24 rfl rfl
theorem dksX7_goesThrough_9 : cX7_goesThrough.data.toList.drop 213 = dktX7_goesThrough_9 := dk_seg dksX7_goesThrough_8 24 rfl rfl
theorem dksX7_goesThrough_10 : cX7_goesThrough.data.toList.drop 237 = dktX7_goesThrough_10 := dk_seg dksX7_goesThrough_9 24 rfl rfl
theorem dksX7_goesThrough_11 : cX7_goesThrough.data.toList.drop 260 = dktX7_goesThrough_11 := dk_seg dksX7_goesThrough_10 23 rfl rfl
theorem dksX7_goesThrough_12 : cX7_goesThrough.data.toList.drop 284 = dktX7_goesThrough_12 := dk_seg dksX7_goesThrough_11 24 rfl rfl
theorem dX7_goesThrough_0 : decode cX7_goesThrough 0 = .ok (.aload_n 0, 1) := dk_42 (dk_at dksX7_goesThrough_0 0 rfl rfl)
theorem dX7_goesThrough_1 : decode cX7_goesThrough 1 = .ok (.getfield 7, 3) := dk_180 0 7 (dk_at dksX7_goesThrough_0 1 rfl rfl)
theorem dX7_goesThrough_4 : decode cX7_goesThrough 4 = .ok (.bipush 79, 2) := dk_16 79 (dk_at dksX7_goesThrough_0 4 rfl rfl)
theorem dX7_goesThrough_6 : decode cX7_goesThrough 6 = .ok (.iaload, 1) := dk_46 (dk_at dksX7_goesThrough_0 6 rfl rfl)
theorem dX7_goesThrough_7 : decode cX7_goesThrough 7 = .ok (.istore_n 3, 1) := dk_62 (dk_at dksX7_goesThrough_0 7 rfl rfl)
theorem dX7_goesThrough_8 : decode cX7_goesThrough 8 = .ok (.aload_n 0, 1) := dk_42 (dk_at dksX7_goesThrough_0 8 rfl rfl)
theorem dX7_goesThrough_9 : decode cX7_goesThrough 9 = .ok (.lconst 0, 1) := dk_9 (dk_at dksX7_goesThrough_0 9 rfl rfl)
theorem dX7_goesThrough_10 : decode cX7_goesThrough 10 = .ok (.putfield 321, 3) := dk_181 1 65 (dk_at dksX7_goesThrough_0 10 rfl rfl)
theorem dX7_goesThrough_13 : decode cX7_goesThrough 13 = .ok (.iconst 0, 1) := dk_3 (dk_at dksX7_goesThrough_0 13 rfl rfl)
theorem dX7_goesThrough_14 : decode cX7_goesThrough 14 = .ok (.istore 4, 2) := dk_54 4 (dk_at dksX7_goesThrough_0 14 rfl rfl)
theorem dX7_goesThrough_16 : decode cX7_goesThrough 16 = .ok (.iload 4, 2) := dk_21 4 (dk_at dksX7_goesThrough_0 16 rfl rfl)
theorem dX7_goesThrough_18 : decode cX7_goesThrough 18 = .ok (.sipush 500, 3) := dk_17 1 244 (dk_at dksX7_goesThrough_0 18 rfl rfl)
theorem dX7_goesThrough_21 : decode cX7_goesThrough 21 = .ok (.if_icmp .ge 17, 3) := dk_162 0 17 (dk_at dksX7_goesThrough_0 21 rfl rfl)
theorem dX7_goesThrough_24 : decode cX7_goesThrough 24 = .ok (.aload_n 0, 1) := dk_42 (dk_at dksX7_goesThrough_1 0 rfl rfl)
theorem dX7_goesThrough_25 : decode cX7_goesThrough 25 = .ok (.getfield 74, 3) := dk_180 0 74 (dk_at dksX7_goesThrough_1 1 rfl rfl)
theorem dX7_goesThrough_28 : decode cX7_goesThrough 28 = .ok (.iload 4, 2) := dk_21 4 (dk_at dksX7_goesThrough_1 4 rfl rfl)
theorem dX7_goesThrough_30 : decode cX7_goesThrough 30 = .ok (.lconst 0, 1) := dk_9 (dk_at dksX7_goesThrough_1 6 rfl rfl)
theorem dX7_goesThrough_31 : decode cX7_goesThrough 31 = .ok (.lastore, 1) := dk_80 (dk_at dksX7_goesThrough_1 7 rfl rfl)
theorem dX7_goesThrough_32 : decode cX7_goesThrough 32 = .ok (.iinc 4 1, 3) := dk_132 4 1 (dk_at dksX7_goesThrough_1 8 rfl rfl)
theorem dX7_goesThrough_35 : decode cX7_goesThrough 35 = .ok (.goto (-19), 3) := dk_167 255 237 (dk_at dksX7_goesThrough_1 11 rfl rfl)
theorem dX7_goesThrough_38 : decode cX7_goesThrough 38 = .ok (.aload_n 0, 1) := dk_42 (dk_at dksX7_goesThrough_1 14 rfl rfl)
theorem dX7_goesThrough_39 : decode cX7_goesThrough 39 = .ok (.getfield 74, 3) := dk_180 0 74 (dk_at dksX7_goesThrough_1 15 rfl rfl)
theorem dX7_goesThrough_42 : decode cX7_goesThrough 42 = .ok (.aload_n 0, 1) := dk_42 (dk_at dksX7_goesThrough_1 18 rfl rfl)
theorem dX7_goesThrough_43 : decode cX7_goesThrough 43 = .ok (.getfield 7, 3) := dk_180 0 7 (dk_at dksX7_goesThrough_1 19 rfl rfl)
theorem dX7_goesThrough_46 : decode cX7_goesThrough 46 = .ok (.iconst 4, 1) := dk_7 (dk_at dksX7_goesThrough_1 22 rfl rfl)
theorem dX7_goesThrough_47 : decode cX7_goesThrough 47 = .ok (.aload_n 0, 1) := dk_42 (dk_at dksX7_goesThrough_1 23 rfl rfl)
theorem dX7_goesThrough_48 : decode cX7_goesThrough 48 = .ok (.getfield 298, 3) := dk_180 1 42 (dk_at dksX7_goesThrough_2 0 rfl rfl)
theorem dX7_goesThrough_51 : decode cX7_goesThrough 51 = .ok (.iadd, 1) := dk_96 (dk_at dksX7_goesThrough_2 3 rfl rfl)
theorem dX7_goesThrough_52 : decode cX7_goesThrough 52 = .ok (.iaload, 1) := dk_46 (dk_at dksX7_goesThrough_2 4 rfl rfl)
theorem dX7_goesThrough_53 : decode cX7_goesThrough 53 = .ok (.aload_n 0, 1) := dk_42 (dk_at dksX7_goesThrough_2 5 rfl rfl)
theorem dX7_goesThrough_54 : decode cX7_goesThrough 54 = .ok (.getfield 7, 3) := dk_180 0 7 (dk_at dksX7_goesThrough_2 6 rfl rfl)
theorem dX7_goesThrough_57 : decode cX7_goesThrough 57 = .ok (.bipush 12, 2) := dk_16 12 (dk_at dksX7_goesThrough_2 9 rfl rfl)
theorem dX7_goesThrough_59 : decode cX7_goesThrough 59 = .ok (.aload_n 0, 1) := dk_42 (dk_at dksX7_goesThrough_2 11 rfl rfl)
theorem dX7_goesThrough_60 : decode cX7_goesThrough 60 = .ok (.getfield 298, 3) := dk_180 1 42 (dk_at dksX7_goesThrough_2 12 rfl rfl)
theorem dX7_goesThrough_63 : decode cX7_goesThrough 63 = .ok (.iadd, 1) := dk_96 (dk_at dksX7_goesThrough_2 15 rfl rfl)
theorem dX7_goesThrough_64 : decode cX7_goesThrough 64 = .ok (.iaload, 1) := dk_46 (dk_at dksX7_goesThrough_2 16 rfl rfl)
theorem dX7_goesThrough_65 : decode cX7_goesThrough 65 = .ok (.aload_n 0, 1) := dk_42 (dk_at dksX7_goesThrough_2 17 rfl rfl)
theorem dX7_goesThrough_66 : decode cX7_goesThrough 66 = .ok (.getfield 7, 3) := dk_180 0 7 (dk_at dksX7_goesThrough_2 18 rfl rfl)
theorem dX7_goesThrough_69 : decode cX7_goesThrough 69 = .ok (.bipush 16, 2) := dk_16 16 (dk_at dksX7_goesThrough_2 21 rfl rfl)
theorem dX7_goesThrough_71 : decode cX7_goesThrough 71 = .ok (.aload_n 0, 1) := dk_42 (dk_at dksX7_goesThrough_2 23 rfl rfl)
theorem dX7_goesThrough_72 : decode cX7_goesThrough 72 = .ok (.getfield 298, 3) := dk_180 1 42 (dk_at dksX7_goesThrough_3 0 rfl rfl)
theorem dX7_goesThrough_75 : decode cX7_goesThrough 75 = .ok (.iadd, 1) := dk_96 (dk_at dksX7_goesThrough_3 3 rfl rfl)
theorem dX7_goesThrough_76 : decode cX7_goesThrough 76 = .ok (.iaload, 1) := dk_46 (dk_at dksX7_goesThrough_3 4 rfl rfl)
theorem dX7_goesThrough_77 : decode cX7_goesThrough 77 = .ok (.invokestatic 325, 3) := dk_184 1 69 (dk_at dksX7_goesThrough_3 5 rfl rfl)
theorem dX7_goesThrough_80 : decode cX7_goesThrough 80 = .ok (.lconst 1, 1) := dk_10 (dk_at dksX7_goesThrough_3 8 rfl rfl)
theorem dX7_goesThrough_81 : decode cX7_goesThrough 81 = .ok (.lastore, 1) := dk_80 (dk_at dksX7_goesThrough_3 9 rfl rfl)
theorem dX7_goesThrough_82 : decode cX7_goesThrough 82 = .ok (.iconst 0, 1) := dk_3 (dk_at dksX7_goesThrough_3 10 rfl rfl)
theorem dX7_goesThrough_83 : decode cX7_goesThrough 83 = .ok (.istore 4, 2) := dk_54 4 (dk_at dksX7_goesThrough_3 11 rfl rfl)
theorem dX7_goesThrough_85 : decode cX7_goesThrough 85 = .ok (.iload 4, 2) := dk_21 4 (dk_at dksX7_goesThrough_3 13 rfl rfl)
theorem dX7_goesThrough_87 : decode cX7_goesThrough 87 = .ok (.iload_n 1, 1) := dk_27 (dk_at dksX7_goesThrough_3 15 rfl rfl)
theorem dX7_goesThrough_88 : decode cX7_goesThrough 88 = .ok (.if_icmp .ge 184, 3) := dk_162 0 184 (dk_at dksX7_goesThrough_3 16 rfl rfl)
theorem dX7_goesThrough_91 : decode cX7_goesThrough 91 = .ok (.aload_n 0, 1) := dk_42 (dk_at dksX7_goesThrough_3 19 rfl rfl)
theorem dX7_goesThrough_92 : decode cX7_goesThrough 92 = .ok (.aload_n 0, 1) := dk_42 (dk_at dksX7_goesThrough_3 20 rfl rfl)
theorem dX7_goesThrough_93 : decode cX7_goesThrough 93 = .ok (.getfield 321, 3) := dk_180 1 65 (dk_at dksX7_goesThrough_3 21 rfl rfl)
theorem dX7_goesThrough_96 : decode cX7_goesThrough 96 = .ok (.iload_n 2, 1) := dk_28 (dk_at dksX7_goesThrough_4 0 rfl rfl)
theorem dX7_goesThrough_97 : decode cX7_goesThrough 97 = .ok (.iconst 1, 1) := dk_4 (dk_at dksX7_goesThrough_4 1 rfl rfl)
theorem dX7_goesThrough_98 : decode cX7_goesThrough 98 = .ok (.iadd, 1) := dk_96 (dk_at dksX7_goesThrough_4 2 rfl rfl)
theorem dX7_goesThrough_99 : decode cX7_goesThrough 99 = .ok (.invokestatic 328, 3) := dk_184 1 72 (dk_at dksX7_goesThrough_4 3 rfl rfl)
theorem dX7_goesThrough_102 : decode cX7_goesThrough 102 = .ok (.lmul, 1) := dk_105 (dk_at dksX7_goesThrough_4 6 rfl rfl)
theorem dX7_goesThrough_103 : decode cX7_goesThrough 103 = .ok (.putfield 321, 3) := dk_181 1 65 (dk_at dksX7_goesThrough_4 7 rfl rfl)
theorem dX7_goesThrough_106 : decode cX7_goesThrough 106 = .ok (.iconst 0, 1) := dk_3 (dk_at dksX7_goesThrough_4 10 rfl rfl)
theorem dX7_goesThrough_107 : decode cX7_goesThrough 107 = .ok (.istore 5, 2) := dk_54 5 (dk_at dksX7_goesThrough_4 11 rfl rfl)
theorem dX7_goesThrough_109 : decode cX7_goesThrough 109 = .ok (.iload 5, 2) := dk_21 5 (dk_at dksX7_goesThrough_4 13 rfl rfl)
theorem dX7_goesThrough_111 : decode cX7_goesThrough 111 = .ok (.sipush 500, 3) := dk_17 1 244 (dk_at dksX7_goesThrough_4 15 rfl rfl)
theorem dX7_goesThrough_114 : decode cX7_goesThrough 114 = .ok (.if_icmp .ge 17, 3) := dk_162 0 17 (dk_at dksX7_goesThrough_4 18 rfl rfl)
theorem dX7_goesThrough_117 : decode cX7_goesThrough 117 = .ok (.aload_n 0, 1) := dk_42 (dk_at dksX7_goesThrough_4 21 rfl rfl)
theorem dX7_goesThrough_118 : decode cX7_goesThrough 118 = .ok (.getfield 78, 3) := dk_180 0 78 (dk_at dksX7_goesThrough_5 0 rfl rfl)
theorem dX7_goesThrough_121 : decode cX7_goesThrough 121 = .ok (.iload 5, 2) := dk_21 5 (dk_at dksX7_goesThrough_5 3 rfl rfl)
theorem dX7_goesThrough_123 : decode cX7_goesThrough 123 = .ok (.lconst 0, 1) := dk_9 (dk_at dksX7_goesThrough_5 5 rfl rfl)
theorem dX7_goesThrough_124 : decode cX7_goesThrough 124 = .ok (.lastore, 1) := dk_80 (dk_at dksX7_goesThrough_5 6 rfl rfl)
theorem dX7_goesThrough_125 : decode cX7_goesThrough 125 = .ok (.iinc 5 1, 3) := dk_132 5 1 (dk_at dksX7_goesThrough_5 7 rfl rfl)
theorem dX7_goesThrough_128 : decode cX7_goesThrough 128 = .ok (.goto (-19), 3) := dk_167 255 237 (dk_at dksX7_goesThrough_5 10 rfl rfl)
theorem dX7_goesThrough_131 : decode cX7_goesThrough 131 = .ok (.iconst 0, 1) := dk_3 (dk_at dksX7_goesThrough_5 13 rfl rfl)
theorem dX7_goesThrough_132 : decode cX7_goesThrough 132 = .ok (.istore 5, 2) := dk_54 5 (dk_at dksX7_goesThrough_5 14 rfl rfl)
theorem dX7_goesThrough_134 : decode cX7_goesThrough 134 = .ok (.iload 5, 2) := dk_21 5 (dk_at dksX7_goesThrough_5 16 rfl rfl)
theorem dX7_goesThrough_136 : decode cX7_goesThrough 136 = .ok (.sipush 500, 3) := dk_17 1 244 (dk_at dksX7_goesThrough_5 18 rfl rfl)
theorem dX7_goesThrough_139 : decode cX7_goesThrough 139 = .ok (.if_icmp .ge 80, 3) := dk_162 0 80 (dk_at dksX7_goesThrough_5 21 rfl rfl)
theorem dX7_goesThrough_142 : decode cX7_goesThrough 142 = .ok (.aload_n 0, 1) := dk_42 (dk_at dksX7_goesThrough_6 0 rfl rfl)
theorem dX7_goesThrough_143 : decode cX7_goesThrough 143 = .ok (.getfield 74, 3) := dk_180 0 74 (dk_at dksX7_goesThrough_6 1 rfl rfl)
theorem dX7_goesThrough_146 : decode cX7_goesThrough 146 = .ok (.iload 5, 2) := dk_21 5 (dk_at dksX7_goesThrough_6 4 rfl rfl)
theorem dX7_goesThrough_148 : decode cX7_goesThrough 148 = .ok (.laload, 1) := dk_47 (dk_at dksX7_goesThrough_6 6 rfl rfl)
theorem dX7_goesThrough_149 : decode cX7_goesThrough 149 = .ok (.lconst 0, 1) := dk_9 (dk_at dksX7_goesThrough_6 7 rfl rfl)
theorem dX7_goesThrough_150 : decode cX7_goesThrough 150 = .ok (.lcmp, 1) := dk_148 (dk_at dksX7_goesThrough_6 8 rfl rfl)
theorem dX7_goesThrough_151 : decode cX7_goesThrough 151 = .ok (.ifCond .ne 6, 3) := dk_154 0 6 (dk_at dksX7_goesThrough_6 9 rfl rfl)
theorem dX7_goesThrough_154 : decode cX7_goesThrough 154 = .ok (.goto 59, 3) := dk_167 0 59 (dk_at dksX7_goesThrough_6 12 rfl rfl)
theorem dX7_goesThrough_157 : decode cX7_goesThrough 157 = .ok (.aload_n 0, 1) := dk_42 (dk_at dksX7_goesThrough_6 15 rfl rfl)
theorem dX7_goesThrough_158 : decode cX7_goesThrough 158 = .ok (.iload 5, 2) := dk_21 5 (dk_at dksX7_goesThrough_6 16 rfl rfl)
theorem dX7_goesThrough_160 : decode cX7_goesThrough 160 = .ok (.iload_n 2, 1) := dk_28 (dk_at dksX7_goesThrough_6 18 rfl rfl)
theorem dX7_goesThrough_161 : decode cX7_goesThrough 161 = .ok (.invokevirtual 332, 3) := dk_182 1 76 (dk_at dksX7_goesThrough_6 19 rfl rfl)
theorem dX7_goesThrough_164 : decode cX7_goesThrough 164 = .ok (.iconst 0, 1) := dk_3 (dk_at dksX7_goesThrough_6 22 rfl rfl)
theorem dX7_goesThrough_165 : decode cX7_goesThrough 165 = .ok (.istore 6, 2) := dk_54 6 (dk_at dksX7_goesThrough_7 0 rfl rfl)
theorem dX7_goesThrough_167 : decode cX7_goesThrough 167 = .ok (.iload 6, 2) := dk_21 6 (dk_at dksX7_goesThrough_7 2 rfl rfl)
theorem dX7_goesThrough_169 : decode cX7_goesThrough 169 = .ok (.bipush 24, 2) := dk_16 24 (dk_at dksX7_goesThrough_7 4 rfl rfl)
theorem dX7_goesThrough_171 : decode cX7_goesThrough 171 = .ok (.if_icmp .gt 42, 3) := dk_163 0 42 (dk_at dksX7_goesThrough_7 6 rfl rfl)
theorem dX7_goesThrough_174 : decode cX7_goesThrough 174 = .ok (.aload_n 0, 1) := dk_42 (dk_at dksX7_goesThrough_7 9 rfl rfl)
theorem dX7_goesThrough_175 : decode cX7_goesThrough 175 = .ok (.getfield 81, 3) := dk_180 0 81 (dk_at dksX7_goesThrough_7 10 rfl rfl)
theorem dX7_goesThrough_178 : decode cX7_goesThrough 178 = .ok (.iload 6, 2) := dk_21 6 (dk_at dksX7_goesThrough_7 13 rfl rfl)
theorem dX7_goesThrough_180 : decode cX7_goesThrough 180 = .ok (.laload, 1) := dk_47 (dk_at dksX7_goesThrough_7 15 rfl rfl)
theorem dX7_goesThrough_181 : decode cX7_goesThrough 181 = .ok (.lconst 0, 1) := dk_9 (dk_at dksX7_goesThrough_7 16 rfl rfl)
theorem dX7_goesThrough_182 : decode cX7_goesThrough 182 = .ok (.lcmp, 1) := dk_148 (dk_at dksX7_goesThrough_7 17 rfl rfl)
theorem dX7_goesThrough_183 : decode cX7_goesThrough 183 = .ok (.ifCond .ne 6, 3) := dk_154 0 6 (dk_at dksX7_goesThrough_7 18 rfl rfl)
theorem dX7_goesThrough_186 : decode cX7_goesThrough 186 = .ok (.goto 21, 3) := dk_167 0 21 (dk_at dksX7_goesThrough_7 21 rfl rfl)
theorem dX7_goesThrough_189 : decode cX7_goesThrough 189 = .ok (.aload_n 0, 1) := dk_42 (dk_at dksX7_goesThrough_8 0 rfl rfl)
theorem dX7_goesThrough_190 : decode cX7_goesThrough 190 = .ok (.iload 5, 2) := dk_21 5 (dk_at dksX7_goesThrough_8 1 rfl rfl)
theorem dX7_goesThrough_192 : decode cX7_goesThrough 192 = .ok (.iload 6, 2) := dk_21 6 (dk_at dksX7_goesThrough_8 3 rfl rfl)
theorem dX7_goesThrough_194 : decode cX7_goesThrough 194 = .ok (.iconst 1, 1) := dk_4 (dk_at dksX7_goesThrough_8 5 rfl rfl)
theorem dX7_goesThrough_195 : decode cX7_goesThrough 195 = .ok (.invokevirtual 335, 3) := dk_182 1 79 (dk_at dksX7_goesThrough_8 6 rfl rfl)
theorem dX7_goesThrough_198 : decode cX7_goesThrough 198 = .ok (.aload_n 0, 1) := dk_42 (dk_at dksX7_goesThrough_8 9 rfl rfl)
theorem dX7_goesThrough_199 : decode cX7_goesThrough 199 = .ok (.iload 5, 2) := dk_21 5 (dk_at dksX7_goesThrough_8 10 rfl rfl)
theorem dX7_goesThrough_201 : decode cX7_goesThrough 201 = .ok (.iload 6, 2) := dk_21 6 (dk_at dksX7_goesThrough_8 12 rfl rfl)
theorem dX7_goesThrough_203 : decode cX7_goesThrough 203 = .ok (.iconst 0, 1) := dk_3 (dk_at dksX7_goesThrough_8 14 rfl rfl)
theorem dX7_goesThrough_204 : decode cX7_goesThrough 204 = .ok (.invokevirtual 335, 3) := dk_182 1 79 (dk_at dksX7_goesThrough_8 15 rfl rfl)
theorem dX7_goesThrough_207 : decode cX7_goesThrough 207 = .ok (.iinc 6 1, 3) := dk_132 6 1 (dk_at dksX7_goesThrough_8 18 rfl rfl)
theorem dX7_goesThrough_210 : decode cX7_goesThrough 210 = .ok (.goto (-43), 3) := dk_167 255 213 (dk_at dksX7_goesThrough_8 21 rfl rfl)
theorem dX7_goesThrough_213 : decode cX7_goesThrough 213 = .ok (.iinc 5 1, 3) := dk_132 5 1 (dk_at dksX7_goesThrough_9 0 rfl rfl)
theorem dX7_goesThrough_216 : decode cX7_goesThrough 216 = .ok (.goto (-82), 3) := dk_167 255 174 (dk_at dksX7_goesThrough_9 3 rfl rfl)
theorem dX7_goesThrough_219 : decode cX7_goesThrough 219 = .ok (.iconst 0, 1) := dk_3 (dk_at dksX7_goesThrough_9 6 rfl rfl)
theorem dX7_goesThrough_220 : decode cX7_goesThrough 220 = .ok (.istore 5, 2) := dk_54 5 (dk_at dksX7_goesThrough_9 7 rfl rfl)
theorem dX7_goesThrough_222 : decode cX7_goesThrough 222 = .ok (.iload 5, 2) := dk_21 5 (dk_at dksX7_goesThrough_9 9 rfl rfl)
theorem dX7_goesThrough_224 : decode cX7_goesThrough 224 = .ok (.sipush 500, 3) := dk_17 1 244 (dk_at dksX7_goesThrough_9 11 rfl rfl)
theorem dX7_goesThrough_227 : decode cX7_goesThrough 227 = .ok (.if_icmp .ge 23, 3) := dk_162 0 23 (dk_at dksX7_goesThrough_9 14 rfl rfl)
theorem dX7_goesThrough_230 : decode cX7_goesThrough 230 = .ok (.aload_n 0, 1) := dk_42 (dk_at dksX7_goesThrough_9 17 rfl rfl)
theorem dX7_goesThrough_231 : decode cX7_goesThrough 231 = .ok (.getfield 74, 3) := dk_180 0 74 (dk_at dksX7_goesThrough_9 18 rfl rfl)
theorem dX7_goesThrough_234 : decode cX7_goesThrough 234 = .ok (.iload 5, 2) := dk_21 5 (dk_at dksX7_goesThrough_9 21 rfl rfl)
theorem dX7_goesThrough_236 : decode cX7_goesThrough 236 = .ok (.aload_n 0, 1) := dk_42 (dk_at dksX7_goesThrough_9 23 rfl rfl)
theorem dX7_goesThrough_237 : decode cX7_goesThrough 237 = .ok (.getfield 78, 3) := dk_180 0 78 (dk_at dksX7_goesThrough_10 0 rfl rfl)
theorem dX7_goesThrough_240 : decode cX7_goesThrough 240 = .ok (.iload 5, 2) := dk_21 5 (dk_at dksX7_goesThrough_10 3 rfl rfl)
theorem dX7_goesThrough_242 : decode cX7_goesThrough 242 = .ok (.laload, 1) := dk_47 (dk_at dksX7_goesThrough_10 5 rfl rfl)
theorem dX7_goesThrough_243 : decode cX7_goesThrough 243 = .ok (.lastore, 1) := dk_80 (dk_at dksX7_goesThrough_10 6 rfl rfl)
theorem dX7_goesThrough_244 : decode cX7_goesThrough 244 = .ok (.iinc 5 1, 3) := dk_132 5 1 (dk_at dksX7_goesThrough_10 7 rfl rfl)
theorem dX7_goesThrough_247 : decode cX7_goesThrough 247 = .ok (.goto (-25), 3) := dk_167 255 231 (dk_at dksX7_goesThrough_10 10 rfl rfl)
theorem dX7_goesThrough_250 : decode cX7_goesThrough 250 = .ok (.aload_n 0, 1) := dk_42 (dk_at dksX7_goesThrough_10 13 rfl rfl)
theorem dX7_goesThrough_251 : decode cX7_goesThrough 251 = .ok (.getfield 7, 3) := dk_180 0 7 (dk_at dksX7_goesThrough_10 14 rfl rfl)
theorem dX7_goesThrough_254 : decode cX7_goesThrough 254 = .ok (.bipush 79, 2) := dk_16 79 (dk_at dksX7_goesThrough_10 17 rfl rfl)
theorem dX7_goesThrough_256 : decode cX7_goesThrough 256 = .ok (.aload_n 0, 1) := dk_42 (dk_at dksX7_goesThrough_10 19 rfl rfl)
theorem dX7_goesThrough_257 : decode cX7_goesThrough 257 = .ok (.getfield 7, 3) := dk_180 0 7 (dk_at dksX7_goesThrough_10 20 rfl rfl)
theorem dX7_goesThrough_260 : decode cX7_goesThrough 260 = .ok (.bipush 79, 2) := dk_16 79 (dk_at dksX7_goesThrough_11 0 rfl rfl)
theorem dX7_goesThrough_262 : decode cX7_goesThrough 262 = .ok (.iaload, 1) := dk_46 (dk_at dksX7_goesThrough_11 2 rfl rfl)
theorem dX7_goesThrough_263 : decode cX7_goesThrough 263 = .ok (.iconst 1, 1) := dk_4 (dk_at dksX7_goesThrough_11 3 rfl rfl)
theorem dX7_goesThrough_264 : decode cX7_goesThrough 264 = .ok (.iadd, 1) := dk_96 (dk_at dksX7_goesThrough_11 4 rfl rfl)
theorem dX7_goesThrough_265 : decode cX7_goesThrough 265 = .ok (.iastore, 1) := dk_79 (dk_at dksX7_goesThrough_11 5 rfl rfl)
theorem dX7_goesThrough_266 : decode cX7_goesThrough 266 = .ok (.iinc 4 1, 3) := dk_132 4 1 (dk_at dksX7_goesThrough_11 6 rfl rfl)
theorem dX7_goesThrough_269 : decode cX7_goesThrough 269 = .ok (.goto (-184), 3) := dk_167 255 72 (dk_at dksX7_goesThrough_11 9 rfl rfl)
theorem dX7_goesThrough_272 : decode cX7_goesThrough 272 = .ok (.aload_n 0, 1) := dk_42 (dk_at dksX7_goesThrough_11 12 rfl rfl)
theorem dX7_goesThrough_273 : decode cX7_goesThrough 273 = .ok (.getfield 7, 3) := dk_180 0 7 (dk_at dksX7_goesThrough_11 13 rfl rfl)
theorem dX7_goesThrough_276 : decode cX7_goesThrough 276 = .ok (.bipush 79, 2) := dk_16 79 (dk_at dksX7_goesThrough_11 16 rfl rfl)
theorem dX7_goesThrough_278 : decode cX7_goesThrough 278 = .ok (.iload_n 3, 1) := dk_29 (dk_at dksX7_goesThrough_11 18 rfl rfl)
theorem dX7_goesThrough_279 : decode cX7_goesThrough 279 = .ok (.iastore, 1) := dk_79 (dk_at dksX7_goesThrough_11 19 rfl rfl)
theorem dX7_goesThrough_280 : decode cX7_goesThrough 280 = .ok (.iload_n 1, 1) := dk_27 (dk_at dksX7_goesThrough_11 20 rfl rfl)
theorem dX7_goesThrough_281 : decode cX7_goesThrough 281 = .ok (.iload_n 2, 1) := dk_28 (dk_at dksX7_goesThrough_11 21 rfl rfl)
theorem dX7_goesThrough_282 : decode cX7_goesThrough 282 = .ok (.iconst 1, 1) := dk_4 (dk_at dksX7_goesThrough_11 22 rfl rfl)
theorem dX7_goesThrough_283 : decode cX7_goesThrough 283 = .ok (.iadd, 1) := dk_96 (dk_at dksX7_goesThrough_11 23 rfl rfl)
theorem dX7_goesThrough_284 : decode cX7_goesThrough 284 = .ok (.imul, 1) := dk_104 (dk_at dksX7_goesThrough_12 0 rfl rfl)
theorem dX7_goesThrough_285 : decode cX7_goesThrough 285 = .ok (.invokestatic 328, 3) := dk_184 1 72 (dk_at dksX7_goesThrough_12 1 rfl rfl)
theorem dX7_goesThrough_288 : decode cX7_goesThrough 288 = .ok (.aload_n 0, 1) := dk_42 (dk_at dksX7_goesThrough_12 4 rfl rfl)
theorem dX7_goesThrough_289 : decode cX7_goesThrough 289 = .ok (.getfield 321, 3) := dk_180 1 65 (dk_at dksX7_goesThrough_12 5 rfl rfl)
theorem dX7_goesThrough_292 : decode cX7_goesThrough 292 = .ok (.lsub, 1) := dk_101 (dk_at dksX7_goesThrough_12 8 rfl rfl)
theorem dX7_goesThrough_293 : decode cX7_goesThrough 293 = .ok (.lreturn, 1) := dk_173 (dk_at dksX7_goesThrough_12 9 rfl rfl)
abbrev cX7_stateOf : ByteArray := prog_19_method_60_code
def yX7_stateOf : MethodName := ⟨RX7, "stateOf", "(III)I"⟩
def dkwX7_stateOf_0 : List UInt8 := [16, 20, 26, 104, 28, 158, 0, 10, 16, 10, 28, 96, 167, 0, 4, 27, 96, 172]
abbrev dktX7_stateOf_0 : List UInt8 := dkwX7_stateOf_0 ++ []
theorem dksX7_stateOf_0 : cX7_stateOf.data.toList.drop 0 = dktX7_stateOf_0 := by decide +kernel
theorem dX7_stateOf_0 : decode cX7_stateOf 0 = .ok (.bipush 20, 2) := dk_16 20 (dk_at dksX7_stateOf_0 0 rfl rfl)
theorem dX7_stateOf_2 : decode cX7_stateOf 2 = .ok (.iload_n 0, 1) := dk_26 (dk_at dksX7_stateOf_0 2 rfl rfl)
theorem dX7_stateOf_3 : decode cX7_stateOf 3 = .ok (.imul, 1) := dk_104 (dk_at dksX7_stateOf_0 3 rfl rfl)
theorem dX7_stateOf_4 : decode cX7_stateOf 4 = .ok (.iload_n 2, 1) := dk_28 (dk_at dksX7_stateOf_0 4 rfl rfl)
theorem dX7_stateOf_5 : decode cX7_stateOf 5 = .ok (.ifCond .le 10, 3) := dk_158 0 10 (dk_at dksX7_stateOf_0 5 rfl rfl)
theorem dX7_stateOf_8 : decode cX7_stateOf 8 = .ok (.bipush 10, 2) := dk_16 10 (dk_at dksX7_stateOf_0 8 rfl rfl)
theorem dX7_stateOf_10 : decode cX7_stateOf 10 = .ok (.iload_n 2, 1) := dk_28 (dk_at dksX7_stateOf_0 10 rfl rfl)
theorem dX7_stateOf_11 : decode cX7_stateOf 11 = .ok (.iadd, 1) := dk_96 (dk_at dksX7_stateOf_0 11 rfl rfl)
theorem dX7_stateOf_12 : decode cX7_stateOf 12 = .ok (.goto 4, 3) := dk_167 0 4 (dk_at dksX7_stateOf_0 12 rfl rfl)
theorem dX7_stateOf_15 : decode cX7_stateOf 15 = .ok (.iload_n 1, 1) := dk_27 (dk_at dksX7_stateOf_0 15 rfl rfl)
theorem dX7_stateOf_16 : decode cX7_stateOf 16 = .ok (.iadd, 1) := dk_96 (dk_at dksX7_stateOf_0 16 rfl rfl)
theorem dX7_stateOf_17 : decode cX7_stateOf 17 = .ok (.ireturn, 1) := dk_172 (dk_at dksX7_stateOf_0 17 rfl rfl)
abbrev cX7_tens : ByteArray := prog_19_method_8_code
def yX7_tens : MethodName := ⟨RX7, "tens", "(I)J"⟩
def dkwX7_tens_0 : List UInt8 := [10, 64, 3, 62, 29, 26, 162, 0, 15, 31, 20, 0, 112, 105, 64, 132, 3, 1, 167, 255, 242, 31, 173]
abbrev dktX7_tens_0 : List UInt8 := dkwX7_tens_0 ++ []
theorem dksX7_tens_0 : cX7_tens.data.toList.drop 0 = dktX7_tens_0 := by decide +kernel
theorem dX7_tens_0 : decode cX7_tens 0 = .ok (.lconst 1, 1) := dk_10 (dk_at dksX7_tens_0 0 rfl rfl)
theorem dX7_tens_1 : decode cX7_tens 1 = .ok (.lstore_n 1, 1) := dk_64 (dk_at dksX7_tens_0 1 rfl rfl)
theorem dX7_tens_2 : decode cX7_tens 2 = .ok (.iconst 0, 1) := dk_3 (dk_at dksX7_tens_0 2 rfl rfl)
theorem dX7_tens_3 : decode cX7_tens 3 = .ok (.istore_n 3, 1) := dk_62 (dk_at dksX7_tens_0 3 rfl rfl)
theorem dX7_tens_4 : decode cX7_tens 4 = .ok (.iload_n 3, 1) := dk_29 (dk_at dksX7_tens_0 4 rfl rfl)
theorem dX7_tens_5 : decode cX7_tens 5 = .ok (.iload_n 0, 1) := dk_26 (dk_at dksX7_tens_0 5 rfl rfl)
theorem dX7_tens_6 : decode cX7_tens 6 = .ok (.if_icmp .ge 15, 3) := dk_162 0 15 (dk_at dksX7_tens_0 6 rfl rfl)
theorem dX7_tens_9 : decode cX7_tens 9 = .ok (.lload_n 1, 1) := dk_31 (dk_at dksX7_tens_0 9 rfl rfl)
theorem dX7_tens_10 : decode cX7_tens 10 = .ok (.ldc2_w 112, 3) := dk_20 0 112 (dk_at dksX7_tens_0 10 rfl rfl)
theorem dX7_tens_13 : decode cX7_tens 13 = .ok (.lmul, 1) := dk_105 (dk_at dksX7_tens_0 13 rfl rfl)
theorem dX7_tens_14 : decode cX7_tens 14 = .ok (.lstore_n 1, 1) := dk_64 (dk_at dksX7_tens_0 14 rfl rfl)
theorem dX7_tens_15 : decode cX7_tens 15 = .ok (.iinc 3 1, 3) := dk_132 3 1 (dk_at dksX7_tens_0 15 rfl rfl)
theorem dX7_tens_18 : decode cX7_tens 18 = .ok (.goto (-14), 3) := dk_167 255 242 (dk_at dksX7_tens_0 18 rfl rfl)
theorem dX7_tens_21 : decode cX7_tens 21 = .ok (.lload_n 1, 1) := dk_31 (dk_at dksX7_tens_0 21 rfl rfl)
theorem dX7_tens_22 : decode cX7_tens 22 = .ok (.lreturn, 1) := dk_173 (dk_at dksX7_tens_0 22 rfl rfl)
abbrev cX7_comesBy : ByteArray := prog_19_method_65_code
def yX7_comesBy : MethodName := ⟨RX7, "comesBy", "(II)V"⟩
def dkwX7_comesBy_9 : List UInt8 := [167, 255, 232, 132, 3, 1, 167, 255, 80, 177]
abbrev dktX7_comesBy_9 : List UInt8 := dkwX7_comesBy_9 ++ []
def dkwX7_comesBy_8 : List UInt8 := [16, 24, 163, 0, 23, 42, 180, 0, 81, 21, 4, 42, 180, 0, 84, 21, 4, 47, 80, 132, 4, 1]
abbrev dktX7_comesBy_8 : List UInt8 := dkwX7_comesBy_8 ++ dktX7_comesBy_9
def dkwX7_comesBy_7 : List UInt8 := [21, 4, 47, 42, 180, 0, 71, 29, 46, 133, 105, 97, 80, 132, 4, 1, 167, 255, 165, 3, 54, 4, 21, 4]
abbrev dktX7_comesBy_7 : List UInt8 := dkwX7_comesBy_7 ++ dktX7_comesBy_8
def dkwX7_comesBy_6 : List UInt8 := [96, 184, 0, 133, 54, 5, 42, 180, 0, 84, 21, 5, 42, 180, 0, 84, 21, 5, 47, 42, 180, 0, 81]
abbrev dktX7_comesBy_6 : List UInt8 := dkwX7_comesBy_6 ++ dktX7_comesBy_7
def dkwX7_comesBy_5 : List UInt8 := [167, 0, 60, 42, 180, 0, 7, 3, 42, 180, 1, 42, 96, 46, 21, 4, 42, 27, 21, 4, 29, 182, 1, 60]
abbrev dktX7_comesBy_5 : List UInt8 := dkwX7_comesBy_5 ++ dktX7_comesBy_6
def dkwX7_comesBy_4 : List UInt8 := [163, 0, 90, 42, 180, 0, 81, 21, 4, 47, 9, 148, 153, 0, 72, 42, 180, 0, 71, 29, 46, 154, 0, 6]
abbrev dktX7_comesBy_4 : List UInt8 := dkwX7_comesBy_4 ++ dktX7_comesBy_5
def dkwX7_comesBy_3 : List UInt8 := [42, 180, 0, 71, 29, 46, 100, 133, 105, 80, 132, 4, 1, 167, 255, 221, 3, 54, 4, 21, 4, 16, 24]
abbrev dktX7_comesBy_3 : List UInt8 := dkwX7_comesBy_3 ++ dktX7_comesBy_4
def dkwX7_comesBy_2 : List UInt8 := [54, 4, 21, 4, 16, 24, 163, 0, 34, 42, 180, 0, 84, 21, 4, 42, 180, 0, 81, 21, 4, 47, 16, 10]
abbrev dktX7_comesBy_2 : List UInt8 := dkwX7_comesBy_2 ++ dktX7_comesBy_3
def dkwX7_comesBy_1 : List UInt8 := [180, 0, 74, 27, 47, 167, 0, 4, 9, 80, 132, 3, 1, 167, 255, 223, 3, 62, 29, 28, 162, 0, 177, 3]
abbrev dktX7_comesBy_1 : List UInt8 := dkwX7_comesBy_1 ++ dktX7_comesBy_2
def dkwX7_comesBy_0 : List UInt8 := [3, 62, 29, 16, 24, 163, 0, 33, 42, 180, 0, 81, 29, 29, 27, 16, 20, 108, 160, 0, 12, 42]
abbrev dktX7_comesBy_0 : List UInt8 := dkwX7_comesBy_0 ++ dktX7_comesBy_1
theorem dksX7_comesBy_0 : cX7_comesBy.data.toList.drop 0 = dktX7_comesBy_0 := by decide +kernel
theorem dksX7_comesBy_1 : cX7_comesBy.data.toList.drop 22 = dktX7_comesBy_1 := dk_seg dksX7_comesBy_0 22 rfl rfl
theorem dksX7_comesBy_2 : cX7_comesBy.data.toList.drop 46 = dktX7_comesBy_2 := dk_seg dksX7_comesBy_1 24 rfl rfl
theorem dksX7_comesBy_3 : cX7_comesBy.data.toList.drop 70 = dktX7_comesBy_3 := dk_seg dksX7_comesBy_2 24 rfl rfl
theorem dksX7_comesBy_4 : cX7_comesBy.data.toList.drop 93 = dktX7_comesBy_4 := dk_seg dksX7_comesBy_3 23 rfl rfl
theorem dksX7_comesBy_5 : cX7_comesBy.data.toList.drop 117 = dktX7_comesBy_5 := dk_seg dksX7_comesBy_4 24 rfl rfl
theorem dksX7_comesBy_6 : cX7_comesBy.data.toList.drop 141 = dktX7_comesBy_6 := dk_seg dksX7_comesBy_5 24 rfl rfl
theorem dksX7_comesBy_7 : cX7_comesBy.data.toList.drop 164 = dktX7_comesBy_7 := dk_seg dksX7_comesBy_6 23 rfl rfl
theorem dksX7_comesBy_8 : cX7_comesBy.data.toList.drop 188 = dktX7_comesBy_8 := dk_seg dksX7_comesBy_7 24 rfl rfl
theorem dksX7_comesBy_9 : cX7_comesBy.data.toList.drop 210 = dktX7_comesBy_9 := dk_seg dksX7_comesBy_8 22 rfl rfl
theorem dX7_comesBy_0 : decode cX7_comesBy 0 = .ok (.iconst 0, 1) := dk_3 (dk_at dksX7_comesBy_0 0 rfl rfl)
theorem dX7_comesBy_1 : decode cX7_comesBy 1 = .ok (.istore_n 3, 1) := dk_62 (dk_at dksX7_comesBy_0 1 rfl rfl)
theorem dX7_comesBy_2 : decode cX7_comesBy 2 = .ok (.iload_n 3, 1) := dk_29 (dk_at dksX7_comesBy_0 2 rfl rfl)
theorem dX7_comesBy_3 : decode cX7_comesBy 3 = .ok (.bipush 24, 2) := dk_16 24 (dk_at dksX7_comesBy_0 3 rfl rfl)
theorem dX7_comesBy_5 : decode cX7_comesBy 5 = .ok (.if_icmp .gt 33, 3) := dk_163 0 33 (dk_at dksX7_comesBy_0 5 rfl rfl)
theorem dX7_comesBy_8 : decode cX7_comesBy 8 = .ok (.aload_n 0, 1) := dk_42 (dk_at dksX7_comesBy_0 8 rfl rfl)
theorem dX7_comesBy_9 : decode cX7_comesBy 9 = .ok (.getfield 81, 3) := dk_180 0 81 (dk_at dksX7_comesBy_0 9 rfl rfl)
theorem dX7_comesBy_12 : decode cX7_comesBy 12 = .ok (.iload_n 3, 1) := dk_29 (dk_at dksX7_comesBy_0 12 rfl rfl)
theorem dX7_comesBy_13 : decode cX7_comesBy 13 = .ok (.iload_n 3, 1) := dk_29 (dk_at dksX7_comesBy_0 13 rfl rfl)
theorem dX7_comesBy_14 : decode cX7_comesBy 14 = .ok (.iload_n 1, 1) := dk_27 (dk_at dksX7_comesBy_0 14 rfl rfl)
theorem dX7_comesBy_15 : decode cX7_comesBy 15 = .ok (.bipush 20, 2) := dk_16 20 (dk_at dksX7_comesBy_0 15 rfl rfl)
theorem dX7_comesBy_17 : decode cX7_comesBy 17 = .ok (.idiv, 1) := dk_108 (dk_at dksX7_comesBy_0 17 rfl rfl)
theorem dX7_comesBy_18 : decode cX7_comesBy 18 = .ok (.if_icmp .ne 12, 3) := dk_160 0 12 (dk_at dksX7_comesBy_0 18 rfl rfl)
theorem dX7_comesBy_21 : decode cX7_comesBy 21 = .ok (.aload_n 0, 1) := dk_42 (dk_at dksX7_comesBy_0 21 rfl rfl)
theorem dX7_comesBy_22 : decode cX7_comesBy 22 = .ok (.getfield 74, 3) := dk_180 0 74 (dk_at dksX7_comesBy_1 0 rfl rfl)
theorem dX7_comesBy_25 : decode cX7_comesBy 25 = .ok (.iload_n 1, 1) := dk_27 (dk_at dksX7_comesBy_1 3 rfl rfl)
theorem dX7_comesBy_26 : decode cX7_comesBy 26 = .ok (.laload, 1) := dk_47 (dk_at dksX7_comesBy_1 4 rfl rfl)
theorem dX7_comesBy_27 : decode cX7_comesBy 27 = .ok (.goto 4, 3) := dk_167 0 4 (dk_at dksX7_comesBy_1 5 rfl rfl)
theorem dX7_comesBy_30 : decode cX7_comesBy 30 = .ok (.lconst 0, 1) := dk_9 (dk_at dksX7_comesBy_1 8 rfl rfl)
theorem dX7_comesBy_31 : decode cX7_comesBy 31 = .ok (.lastore, 1) := dk_80 (dk_at dksX7_comesBy_1 9 rfl rfl)
theorem dX7_comesBy_32 : decode cX7_comesBy 32 = .ok (.iinc 3 1, 3) := dk_132 3 1 (dk_at dksX7_comesBy_1 10 rfl rfl)
theorem dX7_comesBy_35 : decode cX7_comesBy 35 = .ok (.goto (-33), 3) := dk_167 255 223 (dk_at dksX7_comesBy_1 13 rfl rfl)
theorem dX7_comesBy_38 : decode cX7_comesBy 38 = .ok (.iconst 0, 1) := dk_3 (dk_at dksX7_comesBy_1 16 rfl rfl)
theorem dX7_comesBy_39 : decode cX7_comesBy 39 = .ok (.istore_n 3, 1) := dk_62 (dk_at dksX7_comesBy_1 17 rfl rfl)
theorem dX7_comesBy_40 : decode cX7_comesBy 40 = .ok (.iload_n 3, 1) := dk_29 (dk_at dksX7_comesBy_1 18 rfl rfl)
theorem dX7_comesBy_41 : decode cX7_comesBy 41 = .ok (.iload_n 2, 1) := dk_28 (dk_at dksX7_comesBy_1 19 rfl rfl)
theorem dX7_comesBy_42 : decode cX7_comesBy 42 = .ok (.if_icmp .ge 177, 3) := dk_162 0 177 (dk_at dksX7_comesBy_1 20 rfl rfl)
theorem dX7_comesBy_45 : decode cX7_comesBy 45 = .ok (.iconst 0, 1) := dk_3 (dk_at dksX7_comesBy_1 23 rfl rfl)
theorem dX7_comesBy_46 : decode cX7_comesBy 46 = .ok (.istore 4, 2) := dk_54 4 (dk_at dksX7_comesBy_2 0 rfl rfl)
theorem dX7_comesBy_48 : decode cX7_comesBy 48 = .ok (.iload 4, 2) := dk_21 4 (dk_at dksX7_comesBy_2 2 rfl rfl)
theorem dX7_comesBy_50 : decode cX7_comesBy 50 = .ok (.bipush 24, 2) := dk_16 24 (dk_at dksX7_comesBy_2 4 rfl rfl)
theorem dX7_comesBy_52 : decode cX7_comesBy 52 = .ok (.if_icmp .gt 34, 3) := dk_163 0 34 (dk_at dksX7_comesBy_2 6 rfl rfl)
theorem dX7_comesBy_55 : decode cX7_comesBy 55 = .ok (.aload_n 0, 1) := dk_42 (dk_at dksX7_comesBy_2 9 rfl rfl)
theorem dX7_comesBy_56 : decode cX7_comesBy 56 = .ok (.getfield 84, 3) := dk_180 0 84 (dk_at dksX7_comesBy_2 10 rfl rfl)
theorem dX7_comesBy_59 : decode cX7_comesBy 59 = .ok (.iload 4, 2) := dk_21 4 (dk_at dksX7_comesBy_2 13 rfl rfl)
theorem dX7_comesBy_61 : decode cX7_comesBy 61 = .ok (.aload_n 0, 1) := dk_42 (dk_at dksX7_comesBy_2 15 rfl rfl)
theorem dX7_comesBy_62 : decode cX7_comesBy 62 = .ok (.getfield 81, 3) := dk_180 0 81 (dk_at dksX7_comesBy_2 16 rfl rfl)
theorem dX7_comesBy_65 : decode cX7_comesBy 65 = .ok (.iload 4, 2) := dk_21 4 (dk_at dksX7_comesBy_2 19 rfl rfl)
theorem dX7_comesBy_67 : decode cX7_comesBy 67 = .ok (.laload, 1) := dk_47 (dk_at dksX7_comesBy_2 21 rfl rfl)
theorem dX7_comesBy_68 : decode cX7_comesBy 68 = .ok (.bipush 10, 2) := dk_16 10 (dk_at dksX7_comesBy_2 22 rfl rfl)
theorem dX7_comesBy_70 : decode cX7_comesBy 70 = .ok (.aload_n 0, 1) := dk_42 (dk_at dksX7_comesBy_3 0 rfl rfl)
theorem dX7_comesBy_71 : decode cX7_comesBy 71 = .ok (.getfield 71, 3) := dk_180 0 71 (dk_at dksX7_comesBy_3 1 rfl rfl)
theorem dX7_comesBy_74 : decode cX7_comesBy 74 = .ok (.iload_n 3, 1) := dk_29 (dk_at dksX7_comesBy_3 4 rfl rfl)
theorem dX7_comesBy_75 : decode cX7_comesBy 75 = .ok (.iaload, 1) := dk_46 (dk_at dksX7_comesBy_3 5 rfl rfl)
theorem dX7_comesBy_76 : decode cX7_comesBy 76 = .ok (.isub, 1) := dk_100 (dk_at dksX7_comesBy_3 6 rfl rfl)
theorem dX7_comesBy_77 : decode cX7_comesBy 77 = .ok (.i2l, 1) := dk_133 (dk_at dksX7_comesBy_3 7 rfl rfl)
theorem dX7_comesBy_78 : decode cX7_comesBy 78 = .ok (.lmul, 1) := dk_105 (dk_at dksX7_comesBy_3 8 rfl rfl)
theorem dX7_comesBy_79 : decode cX7_comesBy 79 = .ok (.lastore, 1) := dk_80 (dk_at dksX7_comesBy_3 9 rfl rfl)
theorem dX7_comesBy_80 : decode cX7_comesBy 80 = .ok (.iinc 4 1, 3) := dk_132 4 1 (dk_at dksX7_comesBy_3 10 rfl rfl)
theorem dX7_comesBy_83 : decode cX7_comesBy 83 = .ok (.goto (-35), 3) := dk_167 255 221 (dk_at dksX7_comesBy_3 13 rfl rfl)
theorem dX7_comesBy_86 : decode cX7_comesBy 86 = .ok (.iconst 0, 1) := dk_3 (dk_at dksX7_comesBy_3 16 rfl rfl)
theorem dX7_comesBy_87 : decode cX7_comesBy 87 = .ok (.istore 4, 2) := dk_54 4 (dk_at dksX7_comesBy_3 17 rfl rfl)
theorem dX7_comesBy_89 : decode cX7_comesBy 89 = .ok (.iload 4, 2) := dk_21 4 (dk_at dksX7_comesBy_3 19 rfl rfl)
theorem dX7_comesBy_91 : decode cX7_comesBy 91 = .ok (.bipush 24, 2) := dk_16 24 (dk_at dksX7_comesBy_3 21 rfl rfl)
theorem dX7_comesBy_93 : decode cX7_comesBy 93 = .ok (.if_icmp .gt 90, 3) := dk_163 0 90 (dk_at dksX7_comesBy_4 0 rfl rfl)
theorem dX7_comesBy_96 : decode cX7_comesBy 96 = .ok (.aload_n 0, 1) := dk_42 (dk_at dksX7_comesBy_4 3 rfl rfl)
theorem dX7_comesBy_97 : decode cX7_comesBy 97 = .ok (.getfield 81, 3) := dk_180 0 81 (dk_at dksX7_comesBy_4 4 rfl rfl)
theorem dX7_comesBy_100 : decode cX7_comesBy 100 = .ok (.iload 4, 2) := dk_21 4 (dk_at dksX7_comesBy_4 7 rfl rfl)
theorem dX7_comesBy_102 : decode cX7_comesBy 102 = .ok (.laload, 1) := dk_47 (dk_at dksX7_comesBy_4 9 rfl rfl)
theorem dX7_comesBy_103 : decode cX7_comesBy 103 = .ok (.lconst 0, 1) := dk_9 (dk_at dksX7_comesBy_4 10 rfl rfl)
theorem dX7_comesBy_104 : decode cX7_comesBy 104 = .ok (.lcmp, 1) := dk_148 (dk_at dksX7_comesBy_4 11 rfl rfl)
theorem dX7_comesBy_105 : decode cX7_comesBy 105 = .ok (.ifCond .eq 72, 3) := dk_153 0 72 (dk_at dksX7_comesBy_4 12 rfl rfl)
theorem dX7_comesBy_108 : decode cX7_comesBy 108 = .ok (.aload_n 0, 1) := dk_42 (dk_at dksX7_comesBy_4 15 rfl rfl)
theorem dX7_comesBy_109 : decode cX7_comesBy 109 = .ok (.getfield 71, 3) := dk_180 0 71 (dk_at dksX7_comesBy_4 16 rfl rfl)
theorem dX7_comesBy_112 : decode cX7_comesBy 112 = .ok (.iload_n 3, 1) := dk_29 (dk_at dksX7_comesBy_4 19 rfl rfl)
theorem dX7_comesBy_113 : decode cX7_comesBy 113 = .ok (.iaload, 1) := dk_46 (dk_at dksX7_comesBy_4 20 rfl rfl)
theorem dX7_comesBy_114 : decode cX7_comesBy 114 = .ok (.ifCond .ne 6, 3) := dk_154 0 6 (dk_at dksX7_comesBy_4 21 rfl rfl)
theorem dX7_comesBy_117 : decode cX7_comesBy 117 = .ok (.goto 60, 3) := dk_167 0 60 (dk_at dksX7_comesBy_5 0 rfl rfl)
theorem dX7_comesBy_120 : decode cX7_comesBy 120 = .ok (.aload_n 0, 1) := dk_42 (dk_at dksX7_comesBy_5 3 rfl rfl)
theorem dX7_comesBy_121 : decode cX7_comesBy 121 = .ok (.getfield 7, 3) := dk_180 0 7 (dk_at dksX7_comesBy_5 4 rfl rfl)
theorem dX7_comesBy_124 : decode cX7_comesBy 124 = .ok (.iconst 0, 1) := dk_3 (dk_at dksX7_comesBy_5 7 rfl rfl)
theorem dX7_comesBy_125 : decode cX7_comesBy 125 = .ok (.aload_n 0, 1) := dk_42 (dk_at dksX7_comesBy_5 8 rfl rfl)
theorem dX7_comesBy_126 : decode cX7_comesBy 126 = .ok (.getfield 298, 3) := dk_180 1 42 (dk_at dksX7_comesBy_5 9 rfl rfl)
theorem dX7_comesBy_129 : decode cX7_comesBy 129 = .ok (.iadd, 1) := dk_96 (dk_at dksX7_comesBy_5 12 rfl rfl)
theorem dX7_comesBy_130 : decode cX7_comesBy 130 = .ok (.iaload, 1) := dk_46 (dk_at dksX7_comesBy_5 13 rfl rfl)
theorem dX7_comesBy_131 : decode cX7_comesBy 131 = .ok (.iload 4, 2) := dk_21 4 (dk_at dksX7_comesBy_5 14 rfl rfl)
theorem dX7_comesBy_133 : decode cX7_comesBy 133 = .ok (.aload_n 0, 1) := dk_42 (dk_at dksX7_comesBy_5 16 rfl rfl)
theorem dX7_comesBy_134 : decode cX7_comesBy 134 = .ok (.iload_n 1, 1) := dk_27 (dk_at dksX7_comesBy_5 17 rfl rfl)
theorem dX7_comesBy_135 : decode cX7_comesBy 135 = .ok (.iload 4, 2) := dk_21 4 (dk_at dksX7_comesBy_5 18 rfl rfl)
theorem dX7_comesBy_137 : decode cX7_comesBy 137 = .ok (.iload_n 3, 1) := dk_29 (dk_at dksX7_comesBy_5 20 rfl rfl)
theorem dX7_comesBy_138 : decode cX7_comesBy 138 = .ok (.invokevirtual 316, 3) := dk_182 1 60 (dk_at dksX7_comesBy_5 21 rfl rfl)
theorem dX7_comesBy_141 : decode cX7_comesBy 141 = .ok (.iadd, 1) := dk_96 (dk_at dksX7_comesBy_6 0 rfl rfl)
theorem dX7_comesBy_142 : decode cX7_comesBy 142 = .ok (.invokestatic 133, 3) := dk_184 0 133 (dk_at dksX7_comesBy_6 1 rfl rfl)
theorem dX7_comesBy_145 : decode cX7_comesBy 145 = .ok (.istore 5, 2) := dk_54 5 (dk_at dksX7_comesBy_6 4 rfl rfl)
theorem dX7_comesBy_147 : decode cX7_comesBy 147 = .ok (.aload_n 0, 1) := dk_42 (dk_at dksX7_comesBy_6 6 rfl rfl)
theorem dX7_comesBy_148 : decode cX7_comesBy 148 = .ok (.getfield 84, 3) := dk_180 0 84 (dk_at dksX7_comesBy_6 7 rfl rfl)
theorem dX7_comesBy_151 : decode cX7_comesBy 151 = .ok (.iload 5, 2) := dk_21 5 (dk_at dksX7_comesBy_6 10 rfl rfl)
theorem dX7_comesBy_153 : decode cX7_comesBy 153 = .ok (.aload_n 0, 1) := dk_42 (dk_at dksX7_comesBy_6 12 rfl rfl)
theorem dX7_comesBy_154 : decode cX7_comesBy 154 = .ok (.getfield 84, 3) := dk_180 0 84 (dk_at dksX7_comesBy_6 13 rfl rfl)
theorem dX7_comesBy_157 : decode cX7_comesBy 157 = .ok (.iload 5, 2) := dk_21 5 (dk_at dksX7_comesBy_6 16 rfl rfl)
theorem dX7_comesBy_159 : decode cX7_comesBy 159 = .ok (.laload, 1) := dk_47 (dk_at dksX7_comesBy_6 18 rfl rfl)
theorem dX7_comesBy_160 : decode cX7_comesBy 160 = .ok (.aload_n 0, 1) := dk_42 (dk_at dksX7_comesBy_6 19 rfl rfl)
theorem dX7_comesBy_161 : decode cX7_comesBy 161 = .ok (.getfield 81, 3) := dk_180 0 81 (dk_at dksX7_comesBy_6 20 rfl rfl)
theorem dX7_comesBy_164 : decode cX7_comesBy 164 = .ok (.iload 4, 2) := dk_21 4 (dk_at dksX7_comesBy_7 0 rfl rfl)
theorem dX7_comesBy_166 : decode cX7_comesBy 166 = .ok (.laload, 1) := dk_47 (dk_at dksX7_comesBy_7 2 rfl rfl)
theorem dX7_comesBy_167 : decode cX7_comesBy 167 = .ok (.aload_n 0, 1) := dk_42 (dk_at dksX7_comesBy_7 3 rfl rfl)
theorem dX7_comesBy_168 : decode cX7_comesBy 168 = .ok (.getfield 71, 3) := dk_180 0 71 (dk_at dksX7_comesBy_7 4 rfl rfl)
theorem dX7_comesBy_171 : decode cX7_comesBy 171 = .ok (.iload_n 3, 1) := dk_29 (dk_at dksX7_comesBy_7 7 rfl rfl)
theorem dX7_comesBy_172 : decode cX7_comesBy 172 = .ok (.iaload, 1) := dk_46 (dk_at dksX7_comesBy_7 8 rfl rfl)
theorem dX7_comesBy_173 : decode cX7_comesBy 173 = .ok (.i2l, 1) := dk_133 (dk_at dksX7_comesBy_7 9 rfl rfl)
theorem dX7_comesBy_174 : decode cX7_comesBy 174 = .ok (.lmul, 1) := dk_105 (dk_at dksX7_comesBy_7 10 rfl rfl)
theorem dX7_comesBy_175 : decode cX7_comesBy 175 = .ok (.ladd, 1) := dk_97 (dk_at dksX7_comesBy_7 11 rfl rfl)
theorem dX7_comesBy_176 : decode cX7_comesBy 176 = .ok (.lastore, 1) := dk_80 (dk_at dksX7_comesBy_7 12 rfl rfl)
theorem dX7_comesBy_177 : decode cX7_comesBy 177 = .ok (.iinc 4 1, 3) := dk_132 4 1 (dk_at dksX7_comesBy_7 13 rfl rfl)
theorem dX7_comesBy_180 : decode cX7_comesBy 180 = .ok (.goto (-91), 3) := dk_167 255 165 (dk_at dksX7_comesBy_7 16 rfl rfl)
theorem dX7_comesBy_183 : decode cX7_comesBy 183 = .ok (.iconst 0, 1) := dk_3 (dk_at dksX7_comesBy_7 19 rfl rfl)
theorem dX7_comesBy_184 : decode cX7_comesBy 184 = .ok (.istore 4, 2) := dk_54 4 (dk_at dksX7_comesBy_7 20 rfl rfl)
theorem dX7_comesBy_186 : decode cX7_comesBy 186 = .ok (.iload 4, 2) := dk_21 4 (dk_at dksX7_comesBy_7 22 rfl rfl)
theorem dX7_comesBy_188 : decode cX7_comesBy 188 = .ok (.bipush 24, 2) := dk_16 24 (dk_at dksX7_comesBy_8 0 rfl rfl)
theorem dX7_comesBy_190 : decode cX7_comesBy 190 = .ok (.if_icmp .gt 23, 3) := dk_163 0 23 (dk_at dksX7_comesBy_8 2 rfl rfl)
theorem dX7_comesBy_193 : decode cX7_comesBy 193 = .ok (.aload_n 0, 1) := dk_42 (dk_at dksX7_comesBy_8 5 rfl rfl)
theorem dX7_comesBy_194 : decode cX7_comesBy 194 = .ok (.getfield 81, 3) := dk_180 0 81 (dk_at dksX7_comesBy_8 6 rfl rfl)
theorem dX7_comesBy_197 : decode cX7_comesBy 197 = .ok (.iload 4, 2) := dk_21 4 (dk_at dksX7_comesBy_8 9 rfl rfl)
theorem dX7_comesBy_199 : decode cX7_comesBy 199 = .ok (.aload_n 0, 1) := dk_42 (dk_at dksX7_comesBy_8 11 rfl rfl)
theorem dX7_comesBy_200 : decode cX7_comesBy 200 = .ok (.getfield 84, 3) := dk_180 0 84 (dk_at dksX7_comesBy_8 12 rfl rfl)
theorem dX7_comesBy_203 : decode cX7_comesBy 203 = .ok (.iload 4, 2) := dk_21 4 (dk_at dksX7_comesBy_8 15 rfl rfl)
theorem dX7_comesBy_205 : decode cX7_comesBy 205 = .ok (.laload, 1) := dk_47 (dk_at dksX7_comesBy_8 17 rfl rfl)
theorem dX7_comesBy_206 : decode cX7_comesBy 206 = .ok (.lastore, 1) := dk_80 (dk_at dksX7_comesBy_8 18 rfl rfl)
theorem dX7_comesBy_207 : decode cX7_comesBy 207 = .ok (.iinc 4 1, 3) := dk_132 4 1 (dk_at dksX7_comesBy_8 19 rfl rfl)
theorem dX7_comesBy_210 : decode cX7_comesBy 210 = .ok (.goto (-24), 3) := dk_167 255 232 (dk_at dksX7_comesBy_9 0 rfl rfl)
theorem dX7_comesBy_213 : decode cX7_comesBy 213 = .ok (.iinc 3 1, 3) := dk_132 3 1 (dk_at dksX7_comesBy_9 3 rfl rfl)
theorem dX7_comesBy_216 : decode cX7_comesBy 216 = .ok (.goto (-176), 3) := dk_167 255 80 (dk_at dksX7_comesBy_9 6 rfl rfl)
theorem dX7_comesBy_219 : decode cX7_comesBy 219 = .ok (.return_, 1) := dk_177 (dk_at dksX7_comesBy_9 9 rfl rfl)
abbrev cX7_cupsIn : ByteArray := prog_19_method_64_code
def yX7_cupsIn : MethodName := ⟨RX7, "cupsIn", "(III)I"⟩
def dkwX7_cupsIn_3 : List UInt8 := [4, 96, 16, 103, 16, 9, 182, 1, 0, 172]
abbrev dktX7_cupsIn_3 : List UInt8 := dkwX7_cupsIn_3 ++ []
def dkwX7_cupsIn_2 : List UInt8 := [16, 9, 42, 180, 0, 71, 29, 46, 79, 42, 42, 180, 0, 7, 16, 60, 42, 180, 0, 68, 29, 46, 96, 46]
abbrev dktX7_cupsIn_2 : List UInt8 := dkwX7_cupsIn_2 ++ dktX7_cupsIn_3
def dkwX7_cupsIn_1 : List UInt8 := [172, 42, 27, 28, 182, 1, 57, 42, 180, 0, 62, 16, 8, 42, 180, 0, 68, 29, 46, 79, 42, 180, 0, 62]
abbrev dktX7_cupsIn_1 : List UInt8 := dkwX7_cupsIn_1 ++ dktX7_cupsIn_2
def dkwX7_cupsIn_0 : List UInt8 := [42, 180, 0, 108, 2, 159, 0, 20, 28, 42, 180, 1, 54, 162, 0, 10, 42, 180, 0, 108, 167, 0, 4, 3]
abbrev dktX7_cupsIn_0 : List UInt8 := dkwX7_cupsIn_0 ++ dktX7_cupsIn_1
theorem dksX7_cupsIn_0 : cX7_cupsIn.data.toList.drop 0 = dktX7_cupsIn_0 := by decide +kernel
theorem dksX7_cupsIn_1 : cX7_cupsIn.data.toList.drop 24 = dktX7_cupsIn_1 := dk_seg dksX7_cupsIn_0 24 rfl rfl
theorem dksX7_cupsIn_2 : cX7_cupsIn.data.toList.drop 48 = dktX7_cupsIn_2 := dk_seg dksX7_cupsIn_1 24 rfl rfl
theorem dksX7_cupsIn_3 : cX7_cupsIn.data.toList.drop 72 = dktX7_cupsIn_3 := dk_seg dksX7_cupsIn_2 24 rfl rfl
theorem dX7_cupsIn_0 : decode cX7_cupsIn 0 = .ok (.aload_n 0, 1) := dk_42 (dk_at dksX7_cupsIn_0 0 rfl rfl)
theorem dX7_cupsIn_1 : decode cX7_cupsIn 1 = .ok (.getfield 108, 3) := dk_180 0 108 (dk_at dksX7_cupsIn_0 1 rfl rfl)
theorem dX7_cupsIn_4 : decode cX7_cupsIn 4 = .ok (.iconst (-1), 1) := dk_2 (dk_at dksX7_cupsIn_0 4 rfl rfl)
theorem dX7_cupsIn_5 : decode cX7_cupsIn 5 = .ok (.if_icmp .eq 20, 3) := dk_159 0 20 (dk_at dksX7_cupsIn_0 5 rfl rfl)
theorem dX7_cupsIn_8 : decode cX7_cupsIn 8 = .ok (.iload_n 2, 1) := dk_28 (dk_at dksX7_cupsIn_0 8 rfl rfl)
theorem dX7_cupsIn_9 : decode cX7_cupsIn 9 = .ok (.aload_n 0, 1) := dk_42 (dk_at dksX7_cupsIn_0 9 rfl rfl)
theorem dX7_cupsIn_10 : decode cX7_cupsIn 10 = .ok (.getfield 310, 3) := dk_180 1 54 (dk_at dksX7_cupsIn_0 10 rfl rfl)
theorem dX7_cupsIn_13 : decode cX7_cupsIn 13 = .ok (.if_icmp .ge 10, 3) := dk_162 0 10 (dk_at dksX7_cupsIn_0 13 rfl rfl)
theorem dX7_cupsIn_16 : decode cX7_cupsIn 16 = .ok (.aload_n 0, 1) := dk_42 (dk_at dksX7_cupsIn_0 16 rfl rfl)
theorem dX7_cupsIn_17 : decode cX7_cupsIn 17 = .ok (.getfield 108, 3) := dk_180 0 108 (dk_at dksX7_cupsIn_0 17 rfl rfl)
theorem dX7_cupsIn_20 : decode cX7_cupsIn 20 = .ok (.goto 4, 3) := dk_167 0 4 (dk_at dksX7_cupsIn_0 20 rfl rfl)
theorem dX7_cupsIn_23 : decode cX7_cupsIn 23 = .ok (.iconst 0, 1) := dk_3 (dk_at dksX7_cupsIn_0 23 rfl rfl)
theorem dX7_cupsIn_24 : decode cX7_cupsIn 24 = .ok (.ireturn, 1) := dk_172 (dk_at dksX7_cupsIn_1 0 rfl rfl)
theorem dX7_cupsIn_25 : decode cX7_cupsIn 25 = .ok (.aload_n 0, 1) := dk_42 (dk_at dksX7_cupsIn_1 1 rfl rfl)
theorem dX7_cupsIn_26 : decode cX7_cupsIn 26 = .ok (.iload_n 1, 1) := dk_27 (dk_at dksX7_cupsIn_1 2 rfl rfl)
theorem dX7_cupsIn_27 : decode cX7_cupsIn 27 = .ok (.iload_n 2, 1) := dk_28 (dk_at dksX7_cupsIn_1 3 rfl rfl)
theorem dX7_cupsIn_28 : decode cX7_cupsIn 28 = .ok (.invokevirtual 313, 3) := dk_182 1 57 (dk_at dksX7_cupsIn_1 4 rfl rfl)
theorem dX7_cupsIn_31 : decode cX7_cupsIn 31 = .ok (.aload_n 0, 1) := dk_42 (dk_at dksX7_cupsIn_1 7 rfl rfl)
theorem dX7_cupsIn_32 : decode cX7_cupsIn 32 = .ok (.getfield 62, 3) := dk_180 0 62 (dk_at dksX7_cupsIn_1 8 rfl rfl)
theorem dX7_cupsIn_35 : decode cX7_cupsIn 35 = .ok (.bipush 8, 2) := dk_16 8 (dk_at dksX7_cupsIn_1 11 rfl rfl)
theorem dX7_cupsIn_37 : decode cX7_cupsIn 37 = .ok (.aload_n 0, 1) := dk_42 (dk_at dksX7_cupsIn_1 13 rfl rfl)
theorem dX7_cupsIn_38 : decode cX7_cupsIn 38 = .ok (.getfield 68, 3) := dk_180 0 68 (dk_at dksX7_cupsIn_1 14 rfl rfl)
theorem dX7_cupsIn_41 : decode cX7_cupsIn 41 = .ok (.iload_n 3, 1) := dk_29 (dk_at dksX7_cupsIn_1 17 rfl rfl)
theorem dX7_cupsIn_42 : decode cX7_cupsIn 42 = .ok (.iaload, 1) := dk_46 (dk_at dksX7_cupsIn_1 18 rfl rfl)
theorem dX7_cupsIn_43 : decode cX7_cupsIn 43 = .ok (.iastore, 1) := dk_79 (dk_at dksX7_cupsIn_1 19 rfl rfl)
theorem dX7_cupsIn_44 : decode cX7_cupsIn 44 = .ok (.aload_n 0, 1) := dk_42 (dk_at dksX7_cupsIn_1 20 rfl rfl)
theorem dX7_cupsIn_45 : decode cX7_cupsIn 45 = .ok (.getfield 62, 3) := dk_180 0 62 (dk_at dksX7_cupsIn_1 21 rfl rfl)
theorem dX7_cupsIn_48 : decode cX7_cupsIn 48 = .ok (.bipush 9, 2) := dk_16 9 (dk_at dksX7_cupsIn_2 0 rfl rfl)
theorem dX7_cupsIn_50 : decode cX7_cupsIn 50 = .ok (.aload_n 0, 1) := dk_42 (dk_at dksX7_cupsIn_2 2 rfl rfl)
theorem dX7_cupsIn_51 : decode cX7_cupsIn 51 = .ok (.getfield 71, 3) := dk_180 0 71 (dk_at dksX7_cupsIn_2 3 rfl rfl)
theorem dX7_cupsIn_54 : decode cX7_cupsIn 54 = .ok (.iload_n 3, 1) := dk_29 (dk_at dksX7_cupsIn_2 6 rfl rfl)
theorem dX7_cupsIn_55 : decode cX7_cupsIn 55 = .ok (.iaload, 1) := dk_46 (dk_at dksX7_cupsIn_2 7 rfl rfl)
theorem dX7_cupsIn_56 : decode cX7_cupsIn 56 = .ok (.iastore, 1) := dk_79 (dk_at dksX7_cupsIn_2 8 rfl rfl)
theorem dX7_cupsIn_57 : decode cX7_cupsIn 57 = .ok (.aload_n 0, 1) := dk_42 (dk_at dksX7_cupsIn_2 9 rfl rfl)
theorem dX7_cupsIn_58 : decode cX7_cupsIn 58 = .ok (.aload_n 0, 1) := dk_42 (dk_at dksX7_cupsIn_2 10 rfl rfl)
theorem dX7_cupsIn_59 : decode cX7_cupsIn 59 = .ok (.getfield 7, 3) := dk_180 0 7 (dk_at dksX7_cupsIn_2 11 rfl rfl)
theorem dX7_cupsIn_62 : decode cX7_cupsIn 62 = .ok (.bipush 60, 2) := dk_16 60 (dk_at dksX7_cupsIn_2 14 rfl rfl)
theorem dX7_cupsIn_64 : decode cX7_cupsIn 64 = .ok (.aload_n 0, 1) := dk_42 (dk_at dksX7_cupsIn_2 16 rfl rfl)
theorem dX7_cupsIn_65 : decode cX7_cupsIn 65 = .ok (.getfield 68, 3) := dk_180 0 68 (dk_at dksX7_cupsIn_2 17 rfl rfl)
theorem dX7_cupsIn_68 : decode cX7_cupsIn 68 = .ok (.iload_n 3, 1) := dk_29 (dk_at dksX7_cupsIn_2 20 rfl rfl)
theorem dX7_cupsIn_69 : decode cX7_cupsIn 69 = .ok (.iaload, 1) := dk_46 (dk_at dksX7_cupsIn_2 21 rfl rfl)
theorem dX7_cupsIn_70 : decode cX7_cupsIn 70 = .ok (.iadd, 1) := dk_96 (dk_at dksX7_cupsIn_2 22 rfl rfl)
theorem dX7_cupsIn_71 : decode cX7_cupsIn 71 = .ok (.iaload, 1) := dk_46 (dk_at dksX7_cupsIn_2 23 rfl rfl)
theorem dX7_cupsIn_72 : decode cX7_cupsIn 72 = .ok (.iconst 1, 1) := dk_4 (dk_at dksX7_cupsIn_3 0 rfl rfl)
theorem dX7_cupsIn_73 : decode cX7_cupsIn 73 = .ok (.iadd, 1) := dk_96 (dk_at dksX7_cupsIn_3 1 rfl rfl)
theorem dX7_cupsIn_74 : decode cX7_cupsIn 74 = .ok (.bipush 103, 2) := dk_16 103 (dk_at dksX7_cupsIn_3 2 rfl rfl)
theorem dX7_cupsIn_76 : decode cX7_cupsIn 76 = .ok (.bipush 9, 2) := dk_16 9 (dk_at dksX7_cupsIn_3 4 rfl rfl)
theorem dX7_cupsIn_78 : decode cX7_cupsIn 78 = .ok (.invokevirtual 256, 3) := dk_182 1 0 (dk_at dksX7_cupsIn_3 6 rfl rfl)
theorem dX7_cupsIn_81 : decode cX7_cupsIn 81 = .ok (.ireturn, 1) := dk_172 (dk_at dksX7_cupsIn_3 9 rfl rfl)
abbrev cX7_feelsState : ByteArray := prog_19_method_63_code
def yX7_feelsState : MethodName := ⟨RX7, "feelsState", "(II)V"⟩
def dkwX7_feelsState_2 : List UInt8 := [180, 0, 62, 16, 11, 16, 99, 79, 177]
abbrev dktX7_feelsState_2 : List UInt8 := dkwX7_feelsState_2 ++ []
def dkwX7_feelsState_1 : List UInt8 := [79, 42, 180, 0, 62, 16, 6, 27, 184, 1, 48, 79, 42, 180, 0, 62, 16, 7, 27, 184, 1, 51, 79, 42]
abbrev dktX7_feelsState_1 : List UInt8 := dkwX7_feelsState_1 ++ dktX7_feelsState_2
def dkwX7_feelsState_0 : List UInt8 := [42, 42, 180, 1, 42, 182, 0, 253, 42, 180, 0, 62, 7, 28, 79, 42, 180, 0, 62, 8, 42, 180, 1, 45]
abbrev dktX7_feelsState_0 : List UInt8 := dkwX7_feelsState_0 ++ dktX7_feelsState_1
theorem dksX7_feelsState_0 : cX7_feelsState.data.toList.drop 0 = dktX7_feelsState_0 := by decide +kernel
theorem dksX7_feelsState_1 : cX7_feelsState.data.toList.drop 24 = dktX7_feelsState_1 := dk_seg dksX7_feelsState_0 24 rfl rfl
theorem dksX7_feelsState_2 : cX7_feelsState.data.toList.drop 48 = dktX7_feelsState_2 := dk_seg dksX7_feelsState_1 24 rfl rfl
theorem dX7_feelsState_0 : decode cX7_feelsState 0 = .ok (.aload_n 0, 1) := dk_42 (dk_at dksX7_feelsState_0 0 rfl rfl)
theorem dX7_feelsState_1 : decode cX7_feelsState 1 = .ok (.aload_n 0, 1) := dk_42 (dk_at dksX7_feelsState_0 1 rfl rfl)
theorem dX7_feelsState_2 : decode cX7_feelsState 2 = .ok (.getfield 298, 3) := dk_180 1 42 (dk_at dksX7_feelsState_0 2 rfl rfl)
theorem dX7_feelsState_5 : decode cX7_feelsState 5 = .ok (.invokevirtual 253, 3) := dk_182 0 253 (dk_at dksX7_feelsState_0 5 rfl rfl)
theorem dX7_feelsState_8 : decode cX7_feelsState 8 = .ok (.aload_n 0, 1) := dk_42 (dk_at dksX7_feelsState_0 8 rfl rfl)
theorem dX7_feelsState_9 : decode cX7_feelsState 9 = .ok (.getfield 62, 3) := dk_180 0 62 (dk_at dksX7_feelsState_0 9 rfl rfl)
theorem dX7_feelsState_12 : decode cX7_feelsState 12 = .ok (.iconst 4, 1) := dk_7 (dk_at dksX7_feelsState_0 12 rfl rfl)
theorem dX7_feelsState_13 : decode cX7_feelsState 13 = .ok (.iload_n 2, 1) := dk_28 (dk_at dksX7_feelsState_0 13 rfl rfl)
theorem dX7_feelsState_14 : decode cX7_feelsState 14 = .ok (.iastore, 1) := dk_79 (dk_at dksX7_feelsState_0 14 rfl rfl)
theorem dX7_feelsState_15 : decode cX7_feelsState 15 = .ok (.aload_n 0, 1) := dk_42 (dk_at dksX7_feelsState_0 15 rfl rfl)
theorem dX7_feelsState_16 : decode cX7_feelsState 16 = .ok (.getfield 62, 3) := dk_180 0 62 (dk_at dksX7_feelsState_0 16 rfl rfl)
theorem dX7_feelsState_19 : decode cX7_feelsState 19 = .ok (.iconst 5, 1) := dk_8 (dk_at dksX7_feelsState_0 19 rfl rfl)
theorem dX7_feelsState_20 : decode cX7_feelsState 20 = .ok (.aload_n 0, 1) := dk_42 (dk_at dksX7_feelsState_0 20 rfl rfl)
theorem dX7_feelsState_21 : decode cX7_feelsState 21 = .ok (.getfield 301, 3) := dk_180 1 45 (dk_at dksX7_feelsState_0 21 rfl rfl)
theorem dX7_feelsState_24 : decode cX7_feelsState 24 = .ok (.iastore, 1) := dk_79 (dk_at dksX7_feelsState_1 0 rfl rfl)
theorem dX7_feelsState_25 : decode cX7_feelsState 25 = .ok (.aload_n 0, 1) := dk_42 (dk_at dksX7_feelsState_1 1 rfl rfl)
theorem dX7_feelsState_26 : decode cX7_feelsState 26 = .ok (.getfield 62, 3) := dk_180 0 62 (dk_at dksX7_feelsState_1 2 rfl rfl)
theorem dX7_feelsState_29 : decode cX7_feelsState 29 = .ok (.bipush 6, 2) := dk_16 6 (dk_at dksX7_feelsState_1 5 rfl rfl)
theorem dX7_feelsState_31 : decode cX7_feelsState 31 = .ok (.iload_n 1, 1) := dk_27 (dk_at dksX7_feelsState_1 7 rfl rfl)
theorem dX7_feelsState_32 : decode cX7_feelsState 32 = .ok (.invokestatic 304, 3) := dk_184 1 48 (dk_at dksX7_feelsState_1 8 rfl rfl)
theorem dX7_feelsState_35 : decode cX7_feelsState 35 = .ok (.iastore, 1) := dk_79 (dk_at dksX7_feelsState_1 11 rfl rfl)
theorem dX7_feelsState_36 : decode cX7_feelsState 36 = .ok (.aload_n 0, 1) := dk_42 (dk_at dksX7_feelsState_1 12 rfl rfl)
theorem dX7_feelsState_37 : decode cX7_feelsState 37 = .ok (.getfield 62, 3) := dk_180 0 62 (dk_at dksX7_feelsState_1 13 rfl rfl)
theorem dX7_feelsState_40 : decode cX7_feelsState 40 = .ok (.bipush 7, 2) := dk_16 7 (dk_at dksX7_feelsState_1 16 rfl rfl)
theorem dX7_feelsState_42 : decode cX7_feelsState 42 = .ok (.iload_n 1, 1) := dk_27 (dk_at dksX7_feelsState_1 18 rfl rfl)
theorem dX7_feelsState_43 : decode cX7_feelsState 43 = .ok (.invokestatic 307, 3) := dk_184 1 51 (dk_at dksX7_feelsState_1 19 rfl rfl)
theorem dX7_feelsState_46 : decode cX7_feelsState 46 = .ok (.iastore, 1) := dk_79 (dk_at dksX7_feelsState_1 22 rfl rfl)
theorem dX7_feelsState_47 : decode cX7_feelsState 47 = .ok (.aload_n 0, 1) := dk_42 (dk_at dksX7_feelsState_1 23 rfl rfl)
theorem dX7_feelsState_48 : decode cX7_feelsState 48 = .ok (.getfield 62, 3) := dk_180 0 62 (dk_at dksX7_feelsState_2 0 rfl rfl)
theorem dX7_feelsState_51 : decode cX7_feelsState 51 = .ok (.bipush 11, 2) := dk_16 11 (dk_at dksX7_feelsState_2 3 rfl rfl)
theorem dX7_feelsState_53 : decode cX7_feelsState 53 = .ok (.bipush 99, 2) := dk_16 99 (dk_at dksX7_feelsState_2 5 rfl rfl)
theorem dX7_feelsState_55 : decode cX7_feelsState 55 = .ok (.iastore, 1) := dk_79 (dk_at dksX7_feelsState_2 7 rfl rfl)
theorem dX7_feelsState_56 : decode cX7_feelsState 56 = .ok (.return_, 1) := dk_177 (dk_at dksX7_feelsState_2 8 rfl rfl)
abbrev cX7_dryIn : ByteArray := prog_19_method_61_code
def yX7_dryIn : MethodName := ⟨RX7, "dryIn", "(I)I"⟩
def dkwX7_dryIn_0 : List UInt8 := [26, 16, 20, 112, 16, 10, 162, 0, 10, 26, 16, 20, 112, 167, 0, 4, 3, 172]
abbrev dktX7_dryIn_0 : List UInt8 := dkwX7_dryIn_0 ++ []
theorem dksX7_dryIn_0 : cX7_dryIn.data.toList.drop 0 = dktX7_dryIn_0 := by decide +kernel
theorem dX7_dryIn_0 : decode cX7_dryIn 0 = .ok (.iload_n 0, 1) := dk_26 (dk_at dksX7_dryIn_0 0 rfl rfl)
theorem dX7_dryIn_1 : decode cX7_dryIn 1 = .ok (.bipush 20, 2) := dk_16 20 (dk_at dksX7_dryIn_0 1 rfl rfl)
theorem dX7_dryIn_3 : decode cX7_dryIn 3 = .ok (.irem, 1) := dk_112 (dk_at dksX7_dryIn_0 3 rfl rfl)
theorem dX7_dryIn_4 : decode cX7_dryIn 4 = .ok (.bipush 10, 2) := dk_16 10 (dk_at dksX7_dryIn_0 4 rfl rfl)
theorem dX7_dryIn_6 : decode cX7_dryIn 6 = .ok (.if_icmp .ge 10, 3) := dk_162 0 10 (dk_at dksX7_dryIn_0 6 rfl rfl)
theorem dX7_dryIn_9 : decode cX7_dryIn 9 = .ok (.iload_n 0, 1) := dk_26 (dk_at dksX7_dryIn_0 9 rfl rfl)
theorem dX7_dryIn_10 : decode cX7_dryIn 10 = .ok (.bipush 20, 2) := dk_16 20 (dk_at dksX7_dryIn_0 10 rfl rfl)
theorem dX7_dryIn_12 : decode cX7_dryIn 12 = .ok (.irem, 1) := dk_112 (dk_at dksX7_dryIn_0 12 rfl rfl)
theorem dX7_dryIn_13 : decode cX7_dryIn 13 = .ok (.goto 4, 3) := dk_167 0 4 (dk_at dksX7_dryIn_0 13 rfl rfl)
theorem dX7_dryIn_16 : decode cX7_dryIn 16 = .ok (.iconst 0, 1) := dk_3 (dk_at dksX7_dryIn_0 16 rfl rfl)
theorem dX7_dryIn_17 : decode cX7_dryIn 17 = .ok (.ireturn, 1) := dk_172 (dk_at dksX7_dryIn_0 17 rfl rfl)
abbrev cX7_drownedIn : ByteArray := prog_19_method_62_code
def yX7_drownedIn : MethodName := ⟨RX7, "drownedIn", "(I)I"⟩
def dkwX7_drownedIn_0 : List UInt8 := [26, 16, 20, 112, 16, 10, 162, 0, 7, 3, 167, 0, 10, 26, 16, 20, 112, 16, 10, 100, 172]
abbrev dktX7_drownedIn_0 : List UInt8 := dkwX7_drownedIn_0 ++ []
theorem dksX7_drownedIn_0 : cX7_drownedIn.data.toList.drop 0 = dktX7_drownedIn_0 := by decide +kernel
theorem dX7_drownedIn_0 : decode cX7_drownedIn 0 = .ok (.iload_n 0, 1) := dk_26 (dk_at dksX7_drownedIn_0 0 rfl rfl)
theorem dX7_drownedIn_1 : decode cX7_drownedIn 1 = .ok (.bipush 20, 2) := dk_16 20 (dk_at dksX7_drownedIn_0 1 rfl rfl)
theorem dX7_drownedIn_3 : decode cX7_drownedIn 3 = .ok (.irem, 1) := dk_112 (dk_at dksX7_drownedIn_0 3 rfl rfl)
theorem dX7_drownedIn_4 : decode cX7_drownedIn 4 = .ok (.bipush 10, 2) := dk_16 10 (dk_at dksX7_drownedIn_0 4 rfl rfl)
theorem dX7_drownedIn_6 : decode cX7_drownedIn 6 = .ok (.if_icmp .ge 7, 3) := dk_162 0 7 (dk_at dksX7_drownedIn_0 6 rfl rfl)
theorem dX7_drownedIn_9 : decode cX7_drownedIn 9 = .ok (.iconst 0, 1) := dk_3 (dk_at dksX7_drownedIn_0 9 rfl rfl)
theorem dX7_drownedIn_10 : decode cX7_drownedIn 10 = .ok (.goto 10, 3) := dk_167 0 10 (dk_at dksX7_drownedIn_0 10 rfl rfl)
theorem dX7_drownedIn_13 : decode cX7_drownedIn 13 = .ok (.iload_n 0, 1) := dk_26 (dk_at dksX7_drownedIn_0 13 rfl rfl)
theorem dX7_drownedIn_14 : decode cX7_drownedIn 14 = .ok (.bipush 20, 2) := dk_16 20 (dk_at dksX7_drownedIn_0 14 rfl rfl)
theorem dX7_drownedIn_16 : decode cX7_drownedIn 16 = .ok (.irem, 1) := dk_112 (dk_at dksX7_drownedIn_0 16 rfl rfl)
theorem dX7_drownedIn_17 : decode cX7_drownedIn 17 = .ok (.bipush 10, 2) := dk_16 10 (dk_at dksX7_drownedIn_0 17 rfl rfl)
theorem dX7_drownedIn_19 : decode cX7_drownedIn 19 = .ok (.isub, 1) := dk_100 (dk_at dksX7_drownedIn_0 19 rfl rfl)
theorem dX7_drownedIn_20 : decode cX7_drownedIn 20 = .ok (.ireturn, 1) := dk_172 (dk_at dksX7_drownedIn_0 20 rfl rfl)
abbrev cX7_sunBy : ByteArray := prog_19_method_66_code
def yX7_sunBy : MethodName := ⟨RX7, "sunBy", "(IIZ)V"⟩
def dkwX7_sunBy_7 : List UInt8 := [184, 1, 69, 42, 180, 0, 78, 21, 5, 21, 6, 21, 7, 184, 1, 69, 47, 22, 8, 97, 80, 177]
abbrev dktX7_sunBy_7 : List UInt8 := dkwX7_sunBy_7 ++ []
def dkwX7_sunBy_6 : List UInt8 := [180, 1, 65, 22, 8, 97, 181, 1, 65, 167, 0, 34, 42, 180, 0, 78, 21, 5, 21, 6, 21, 7]
abbrev dktX7_sunBy_6 : List UInt8 := dkwX7_sunBy_6 ++ dktX7_sunBy_7
def dkwX7_sunBy_5 : List UInt8 := [162, 0, 20, 21, 7, 42, 180, 0, 7, 16, 8, 42, 180, 1, 42, 96, 46, 161, 0, 17, 42, 42]
abbrev dktX7_sunBy_5 : List UInt8 := dkwX7_sunBy_5 ++ dktX7_sunBy_6
def dkwX7_sunBy_4 : List UInt8 := [28, 47, 20, 1, 63, 105, 55, 8, 21, 6, 42, 180, 0, 7, 16, 8, 42, 180, 1, 42, 96, 46]
abbrev dktX7_sunBy_4 : List UInt8 := dkwX7_sunBy_4 ++ dktX7_sunBy_5
def dkwX7_sunBy_3 : List UInt8 := [180, 1, 42, 96, 46, 160, 0, 12, 27, 184, 1, 51, 4, 96, 167, 0, 4, 3, 54, 7, 42, 180, 0, 81]
abbrev dktX7_sunBy_3 : List UInt8 := dkwX7_sunBy_3 ++ dktX7_sunBy_4
def dkwX7_sunBy_2 : List UInt8 := [154, 0, 12, 27, 184, 1, 48, 4, 96, 167, 0, 4, 3, 54, 6, 21, 5, 42, 180, 0, 7, 3, 42]
abbrev dktX7_sunBy_2 : List UInt8 := dkwX7_sunBy_2 ++ dktX7_sunBy_3
def dkwX7_sunBy_1 : List UInt8 := [3, 16, 104, 16, 9, 182, 1, 0, 96, 54, 4, 3, 28, 21, 4, 100, 184, 1, 16, 54, 5, 21, 5]
abbrev dktX7_sunBy_1 : List UInt8 := dkwX7_sunBy_1 ++ dktX7_sunBy_2
def dkwX7_sunBy_0 : List UInt8 := [42, 27, 28, 182, 1, 57, 42, 3, 16, 101, 16, 9, 182, 1, 0, 54, 4, 29, 153, 0, 17, 21, 4, 42]
abbrev dktX7_sunBy_0 : List UInt8 := dkwX7_sunBy_0 ++ dktX7_sunBy_1
theorem dksX7_sunBy_0 : cX7_sunBy.data.toList.drop 0 = dktX7_sunBy_0 := by decide +kernel
theorem dksX7_sunBy_1 : cX7_sunBy.data.toList.drop 24 = dktX7_sunBy_1 := dk_seg dksX7_sunBy_0 24 rfl rfl
theorem dksX7_sunBy_2 : cX7_sunBy.data.toList.drop 47 = dktX7_sunBy_2 := dk_seg dksX7_sunBy_1 23 rfl rfl
theorem dksX7_sunBy_3 : cX7_sunBy.data.toList.drop 70 = dktX7_sunBy_3 := dk_seg dksX7_sunBy_2 23 rfl rfl
theorem dksX7_sunBy_4 : cX7_sunBy.data.toList.drop 94 = dktX7_sunBy_4 := dk_seg dksX7_sunBy_3 24 rfl rfl
theorem dksX7_sunBy_5 : cX7_sunBy.data.toList.drop 116 = dktX7_sunBy_5 := dk_seg dksX7_sunBy_4 22 rfl rfl
theorem dksX7_sunBy_6 : cX7_sunBy.data.toList.drop 138 = dktX7_sunBy_6 := dk_seg dksX7_sunBy_5 22 rfl rfl
theorem dksX7_sunBy_7 : cX7_sunBy.data.toList.drop 160 = dktX7_sunBy_7 := dk_seg dksX7_sunBy_6 22 rfl rfl
theorem dX7_sunBy_0 : decode cX7_sunBy 0 = .ok (.aload_n 0, 1) := dk_42 (dk_at dksX7_sunBy_0 0 rfl rfl)
theorem dX7_sunBy_1 : decode cX7_sunBy 1 = .ok (.iload_n 1, 1) := dk_27 (dk_at dksX7_sunBy_0 1 rfl rfl)
theorem dX7_sunBy_2 : decode cX7_sunBy 2 = .ok (.iload_n 2, 1) := dk_28 (dk_at dksX7_sunBy_0 2 rfl rfl)
theorem dX7_sunBy_3 : decode cX7_sunBy 3 = .ok (.invokevirtual 313, 3) := dk_182 1 57 (dk_at dksX7_sunBy_0 3 rfl rfl)
theorem dX7_sunBy_6 : decode cX7_sunBy 6 = .ok (.aload_n 0, 1) := dk_42 (dk_at dksX7_sunBy_0 6 rfl rfl)
theorem dX7_sunBy_7 : decode cX7_sunBy 7 = .ok (.iconst 0, 1) := dk_3 (dk_at dksX7_sunBy_0 7 rfl rfl)
theorem dX7_sunBy_8 : decode cX7_sunBy 8 = .ok (.bipush 101, 2) := dk_16 101 (dk_at dksX7_sunBy_0 8 rfl rfl)
theorem dX7_sunBy_10 : decode cX7_sunBy 10 = .ok (.bipush 9, 2) := dk_16 9 (dk_at dksX7_sunBy_0 10 rfl rfl)
theorem dX7_sunBy_12 : decode cX7_sunBy 12 = .ok (.invokevirtual 256, 3) := dk_182 1 0 (dk_at dksX7_sunBy_0 12 rfl rfl)
theorem dX7_sunBy_15 : decode cX7_sunBy 15 = .ok (.istore 4, 2) := dk_54 4 (dk_at dksX7_sunBy_0 15 rfl rfl)
theorem dX7_sunBy_17 : decode cX7_sunBy 17 = .ok (.iload_n 3, 1) := dk_29 (dk_at dksX7_sunBy_0 17 rfl rfl)
theorem dX7_sunBy_18 : decode cX7_sunBy 18 = .ok (.ifCond .eq 17, 3) := dk_153 0 17 (dk_at dksX7_sunBy_0 18 rfl rfl)
theorem dX7_sunBy_21 : decode cX7_sunBy 21 = .ok (.iload 4, 2) := dk_21 4 (dk_at dksX7_sunBy_0 21 rfl rfl)
theorem dX7_sunBy_23 : decode cX7_sunBy 23 = .ok (.aload_n 0, 1) := dk_42 (dk_at dksX7_sunBy_0 23 rfl rfl)
theorem dX7_sunBy_24 : decode cX7_sunBy 24 = .ok (.iconst 0, 1) := dk_3 (dk_at dksX7_sunBy_1 0 rfl rfl)
theorem dX7_sunBy_25 : decode cX7_sunBy 25 = .ok (.bipush 104, 2) := dk_16 104 (dk_at dksX7_sunBy_1 1 rfl rfl)
theorem dX7_sunBy_27 : decode cX7_sunBy 27 = .ok (.bipush 9, 2) := dk_16 9 (dk_at dksX7_sunBy_1 3 rfl rfl)
theorem dX7_sunBy_29 : decode cX7_sunBy 29 = .ok (.invokevirtual 256, 3) := dk_182 1 0 (dk_at dksX7_sunBy_1 5 rfl rfl)
theorem dX7_sunBy_32 : decode cX7_sunBy 32 = .ok (.iadd, 1) := dk_96 (dk_at dksX7_sunBy_1 8 rfl rfl)
theorem dX7_sunBy_33 : decode cX7_sunBy 33 = .ok (.istore 4, 2) := dk_54 4 (dk_at dksX7_sunBy_1 9 rfl rfl)
theorem dX7_sunBy_35 : decode cX7_sunBy 35 = .ok (.iconst 0, 1) := dk_3 (dk_at dksX7_sunBy_1 11 rfl rfl)
theorem dX7_sunBy_36 : decode cX7_sunBy 36 = .ok (.iload_n 2, 1) := dk_28 (dk_at dksX7_sunBy_1 12 rfl rfl)
theorem dX7_sunBy_37 : decode cX7_sunBy 37 = .ok (.iload 4, 2) := dk_21 4 (dk_at dksX7_sunBy_1 13 rfl rfl)
theorem dX7_sunBy_39 : decode cX7_sunBy 39 = .ok (.isub, 1) := dk_100 (dk_at dksX7_sunBy_1 15 rfl rfl)
theorem dX7_sunBy_40 : decode cX7_sunBy 40 = .ok (.invokestatic 272, 3) := dk_184 1 16 (dk_at dksX7_sunBy_1 16 rfl rfl)
theorem dX7_sunBy_43 : decode cX7_sunBy 43 = .ok (.istore 5, 2) := dk_54 5 (dk_at dksX7_sunBy_1 19 rfl rfl)
theorem dX7_sunBy_45 : decode cX7_sunBy 45 = .ok (.iload 5, 2) := dk_21 5 (dk_at dksX7_sunBy_1 21 rfl rfl)
theorem dX7_sunBy_47 : decode cX7_sunBy 47 = .ok (.ifCond .ne 12, 3) := dk_154 0 12 (dk_at dksX7_sunBy_2 0 rfl rfl)
theorem dX7_sunBy_50 : decode cX7_sunBy 50 = .ok (.iload_n 1, 1) := dk_27 (dk_at dksX7_sunBy_2 3 rfl rfl)
theorem dX7_sunBy_51 : decode cX7_sunBy 51 = .ok (.invokestatic 304, 3) := dk_184 1 48 (dk_at dksX7_sunBy_2 4 rfl rfl)
theorem dX7_sunBy_54 : decode cX7_sunBy 54 = .ok (.iconst 1, 1) := dk_4 (dk_at dksX7_sunBy_2 7 rfl rfl)
theorem dX7_sunBy_55 : decode cX7_sunBy 55 = .ok (.iadd, 1) := dk_96 (dk_at dksX7_sunBy_2 8 rfl rfl)
theorem dX7_sunBy_56 : decode cX7_sunBy 56 = .ok (.goto 4, 3) := dk_167 0 4 (dk_at dksX7_sunBy_2 9 rfl rfl)
theorem dX7_sunBy_59 : decode cX7_sunBy 59 = .ok (.iconst 0, 1) := dk_3 (dk_at dksX7_sunBy_2 12 rfl rfl)
theorem dX7_sunBy_60 : decode cX7_sunBy 60 = .ok (.istore 6, 2) := dk_54 6 (dk_at dksX7_sunBy_2 13 rfl rfl)
theorem dX7_sunBy_62 : decode cX7_sunBy 62 = .ok (.iload 5, 2) := dk_21 5 (dk_at dksX7_sunBy_2 15 rfl rfl)
theorem dX7_sunBy_64 : decode cX7_sunBy 64 = .ok (.aload_n 0, 1) := dk_42 (dk_at dksX7_sunBy_2 17 rfl rfl)
theorem dX7_sunBy_65 : decode cX7_sunBy 65 = .ok (.getfield 7, 3) := dk_180 0 7 (dk_at dksX7_sunBy_2 18 rfl rfl)
theorem dX7_sunBy_68 : decode cX7_sunBy 68 = .ok (.iconst 0, 1) := dk_3 (dk_at dksX7_sunBy_2 21 rfl rfl)
theorem dX7_sunBy_69 : decode cX7_sunBy 69 = .ok (.aload_n 0, 1) := dk_42 (dk_at dksX7_sunBy_2 22 rfl rfl)
theorem dX7_sunBy_70 : decode cX7_sunBy 70 = .ok (.getfield 298, 3) := dk_180 1 42 (dk_at dksX7_sunBy_3 0 rfl rfl)
theorem dX7_sunBy_73 : decode cX7_sunBy 73 = .ok (.iadd, 1) := dk_96 (dk_at dksX7_sunBy_3 3 rfl rfl)
theorem dX7_sunBy_74 : decode cX7_sunBy 74 = .ok (.iaload, 1) := dk_46 (dk_at dksX7_sunBy_3 4 rfl rfl)
theorem dX7_sunBy_75 : decode cX7_sunBy 75 = .ok (.if_icmp .ne 12, 3) := dk_160 0 12 (dk_at dksX7_sunBy_3 5 rfl rfl)
theorem dX7_sunBy_78 : decode cX7_sunBy 78 = .ok (.iload_n 1, 1) := dk_27 (dk_at dksX7_sunBy_3 8 rfl rfl)
theorem dX7_sunBy_79 : decode cX7_sunBy 79 = .ok (.invokestatic 307, 3) := dk_184 1 51 (dk_at dksX7_sunBy_3 9 rfl rfl)
theorem dX7_sunBy_82 : decode cX7_sunBy 82 = .ok (.iconst 1, 1) := dk_4 (dk_at dksX7_sunBy_3 12 rfl rfl)
theorem dX7_sunBy_83 : decode cX7_sunBy 83 = .ok (.iadd, 1) := dk_96 (dk_at dksX7_sunBy_3 13 rfl rfl)
theorem dX7_sunBy_84 : decode cX7_sunBy 84 = .ok (.goto 4, 3) := dk_167 0 4 (dk_at dksX7_sunBy_3 14 rfl rfl)
theorem dX7_sunBy_87 : decode cX7_sunBy 87 = .ok (.iconst 0, 1) := dk_3 (dk_at dksX7_sunBy_3 17 rfl rfl)
theorem dX7_sunBy_88 : decode cX7_sunBy 88 = .ok (.istore 7, 2) := dk_54 7 (dk_at dksX7_sunBy_3 18 rfl rfl)
theorem dX7_sunBy_90 : decode cX7_sunBy 90 = .ok (.aload_n 0, 1) := dk_42 (dk_at dksX7_sunBy_3 20 rfl rfl)
theorem dX7_sunBy_91 : decode cX7_sunBy 91 = .ok (.getfield 81, 3) := dk_180 0 81 (dk_at dksX7_sunBy_3 21 rfl rfl)
theorem dX7_sunBy_94 : decode cX7_sunBy 94 = .ok (.iload_n 2, 1) := dk_28 (dk_at dksX7_sunBy_4 0 rfl rfl)
theorem dX7_sunBy_95 : decode cX7_sunBy 95 = .ok (.laload, 1) := dk_47 (dk_at dksX7_sunBy_4 1 rfl rfl)
theorem dX7_sunBy_96 : decode cX7_sunBy 96 = .ok (.ldc2_w 319, 3) := dk_20 1 63 (dk_at dksX7_sunBy_4 2 rfl rfl)
theorem dX7_sunBy_99 : decode cX7_sunBy 99 = .ok (.lmul, 1) := dk_105 (dk_at dksX7_sunBy_4 5 rfl rfl)
theorem dX7_sunBy_100 : decode cX7_sunBy 100 = .ok (.lstore 8, 2) := dk_55 8 (dk_at dksX7_sunBy_4 6 rfl rfl)
theorem dX7_sunBy_102 : decode cX7_sunBy 102 = .ok (.iload 6, 2) := dk_21 6 (dk_at dksX7_sunBy_4 8 rfl rfl)
theorem dX7_sunBy_104 : decode cX7_sunBy 104 = .ok (.aload_n 0, 1) := dk_42 (dk_at dksX7_sunBy_4 10 rfl rfl)
theorem dX7_sunBy_105 : decode cX7_sunBy 105 = .ok (.getfield 7, 3) := dk_180 0 7 (dk_at dksX7_sunBy_4 11 rfl rfl)
theorem dX7_sunBy_108 : decode cX7_sunBy 108 = .ok (.bipush 8, 2) := dk_16 8 (dk_at dksX7_sunBy_4 14 rfl rfl)
theorem dX7_sunBy_110 : decode cX7_sunBy 110 = .ok (.aload_n 0, 1) := dk_42 (dk_at dksX7_sunBy_4 16 rfl rfl)
theorem dX7_sunBy_111 : decode cX7_sunBy 111 = .ok (.getfield 298, 3) := dk_180 1 42 (dk_at dksX7_sunBy_4 17 rfl rfl)
theorem dX7_sunBy_114 : decode cX7_sunBy 114 = .ok (.iadd, 1) := dk_96 (dk_at dksX7_sunBy_4 20 rfl rfl)
theorem dX7_sunBy_115 : decode cX7_sunBy 115 = .ok (.iaload, 1) := dk_46 (dk_at dksX7_sunBy_4 21 rfl rfl)
theorem dX7_sunBy_116 : decode cX7_sunBy 116 = .ok (.if_icmp .ge 20, 3) := dk_162 0 20 (dk_at dksX7_sunBy_5 0 rfl rfl)
theorem dX7_sunBy_119 : decode cX7_sunBy 119 = .ok (.iload 7, 2) := dk_21 7 (dk_at dksX7_sunBy_5 3 rfl rfl)
theorem dX7_sunBy_121 : decode cX7_sunBy 121 = .ok (.aload_n 0, 1) := dk_42 (dk_at dksX7_sunBy_5 5 rfl rfl)
theorem dX7_sunBy_122 : decode cX7_sunBy 122 = .ok (.getfield 7, 3) := dk_180 0 7 (dk_at dksX7_sunBy_5 6 rfl rfl)
theorem dX7_sunBy_125 : decode cX7_sunBy 125 = .ok (.bipush 8, 2) := dk_16 8 (dk_at dksX7_sunBy_5 9 rfl rfl)
theorem dX7_sunBy_127 : decode cX7_sunBy 127 = .ok (.aload_n 0, 1) := dk_42 (dk_at dksX7_sunBy_5 11 rfl rfl)
theorem dX7_sunBy_128 : decode cX7_sunBy 128 = .ok (.getfield 298, 3) := dk_180 1 42 (dk_at dksX7_sunBy_5 12 rfl rfl)
theorem dX7_sunBy_131 : decode cX7_sunBy 131 = .ok (.iadd, 1) := dk_96 (dk_at dksX7_sunBy_5 15 rfl rfl)
theorem dX7_sunBy_132 : decode cX7_sunBy 132 = .ok (.iaload, 1) := dk_46 (dk_at dksX7_sunBy_5 16 rfl rfl)
theorem dX7_sunBy_133 : decode cX7_sunBy 133 = .ok (.if_icmp .lt 17, 3) := dk_161 0 17 (dk_at dksX7_sunBy_5 17 rfl rfl)
theorem dX7_sunBy_136 : decode cX7_sunBy 136 = .ok (.aload_n 0, 1) := dk_42 (dk_at dksX7_sunBy_5 20 rfl rfl)
theorem dX7_sunBy_137 : decode cX7_sunBy 137 = .ok (.aload_n 0, 1) := dk_42 (dk_at dksX7_sunBy_5 21 rfl rfl)
theorem dX7_sunBy_138 : decode cX7_sunBy 138 = .ok (.getfield 321, 3) := dk_180 1 65 (dk_at dksX7_sunBy_6 0 rfl rfl)
theorem dX7_sunBy_141 : decode cX7_sunBy 141 = .ok (.lload 8, 2) := dk_22 8 (dk_at dksX7_sunBy_6 3 rfl rfl)
theorem dX7_sunBy_143 : decode cX7_sunBy 143 = .ok (.ladd, 1) := dk_97 (dk_at dksX7_sunBy_6 5 rfl rfl)
theorem dX7_sunBy_144 : decode cX7_sunBy 144 = .ok (.putfield 321, 3) := dk_181 1 65 (dk_at dksX7_sunBy_6 6 rfl rfl)
theorem dX7_sunBy_147 : decode cX7_sunBy 147 = .ok (.goto 34, 3) := dk_167 0 34 (dk_at dksX7_sunBy_6 9 rfl rfl)
theorem dX7_sunBy_150 : decode cX7_sunBy 150 = .ok (.aload_n 0, 1) := dk_42 (dk_at dksX7_sunBy_6 12 rfl rfl)
theorem dX7_sunBy_151 : decode cX7_sunBy 151 = .ok (.getfield 78, 3) := dk_180 0 78 (dk_at dksX7_sunBy_6 13 rfl rfl)
theorem dX7_sunBy_154 : decode cX7_sunBy 154 = .ok (.iload 5, 2) := dk_21 5 (dk_at dksX7_sunBy_6 16 rfl rfl)
theorem dX7_sunBy_156 : decode cX7_sunBy 156 = .ok (.iload 6, 2) := dk_21 6 (dk_at dksX7_sunBy_6 18 rfl rfl)
theorem dX7_sunBy_158 : decode cX7_sunBy 158 = .ok (.iload 7, 2) := dk_21 7 (dk_at dksX7_sunBy_6 20 rfl rfl)
theorem dX7_sunBy_160 : decode cX7_sunBy 160 = .ok (.invokestatic 325, 3) := dk_184 1 69 (dk_at dksX7_sunBy_7 0 rfl rfl)
theorem dX7_sunBy_163 : decode cX7_sunBy 163 = .ok (.aload_n 0, 1) := dk_42 (dk_at dksX7_sunBy_7 3 rfl rfl)
theorem dX7_sunBy_164 : decode cX7_sunBy 164 = .ok (.getfield 78, 3) := dk_180 0 78 (dk_at dksX7_sunBy_7 4 rfl rfl)
theorem dX7_sunBy_167 : decode cX7_sunBy 167 = .ok (.iload 5, 2) := dk_21 5 (dk_at dksX7_sunBy_7 7 rfl rfl)
theorem dX7_sunBy_169 : decode cX7_sunBy 169 = .ok (.iload 6, 2) := dk_21 6 (dk_at dksX7_sunBy_7 9 rfl rfl)
theorem dX7_sunBy_171 : decode cX7_sunBy 171 = .ok (.iload 7, 2) := dk_21 7 (dk_at dksX7_sunBy_7 11 rfl rfl)
theorem dX7_sunBy_173 : decode cX7_sunBy 173 = .ok (.invokestatic 325, 3) := dk_184 1 69 (dk_at dksX7_sunBy_7 13 rfl rfl)
theorem dX7_sunBy_176 : decode cX7_sunBy 176 = .ok (.laload, 1) := dk_47 (dk_at dksX7_sunBy_7 16 rfl rfl)
theorem dX7_sunBy_177 : decode cX7_sunBy 177 = .ok (.lload 8, 2) := dk_22 8 (dk_at dksX7_sunBy_7 17 rfl rfl)
theorem dX7_sunBy_179 : decode cX7_sunBy 179 = .ok (.ladd, 1) := dk_97 (dk_at dksX7_sunBy_7 19 rfl rfl)
theorem dX7_sunBy_180 : decode cX7_sunBy 180 = .ok (.lastore, 1) := dk_80 (dk_at dksX7_sunBy_7 20 rfl rfl)
theorem dX7_sunBy_181 : decode cX7_sunBy 181 = .ok (.return_, 1) := dk_177 (dk_at dksX7_sunBy_7 21 rfl rfl)
abbrev cX7_chance : ByteArray := prog_19_method_70_code
def yX7_chance : MethodName := ⟨RX7, "chance", "(IIII)J"⟩
def dkwX7_chance_4 : List UInt8 := [167, 255, 195, 21, 4, 154, 0, 9, 21, 5, 133, 167, 0, 5, 22, 6, 173]
abbrev dktX7_chance_4 : List UInt8 := dkwX7_chance_4 ++ []
def dkwX7_chance_3 : List UInt8 := [55, 9, 22, 9, 22, 6, 148, 157, 0, 6, 167, 0, 11, 22, 9, 55, 6, 21, 8, 54, 5, 132, 8, 1]
abbrev dktX7_chance_3 : List UInt8 := dkwX7_chance_3 ++ dktX7_chance_4
def dkwX7_chance_2 : List UInt8 := [162, 0, 18, 42, 180, 0, 71, 21, 9, 21, 8, 79, 132, 9, 1, 167, 255, 238, 42, 28, 29, 182, 1, 91]
abbrev dktX7_chance_2 : List UInt8 := dkwX7_chance_2 ++ dktX7_chance_3
def dkwX7_chance_1 : List UInt8 := [3, 54, 5, 20, 1, 89, 55, 6, 3, 54, 8, 21, 8, 16, 10, 163, 0, 60, 3, 54, 9, 21, 9, 29]
abbrev dktX7_chance_1 : List UInt8 := dkwX7_chance_1 ++ dktX7_chance_2
def dkwX7_chance_0 : List UInt8 := [42, 27, 28, 29, 182, 1, 86, 153, 0, 13, 21, 4, 3, 4, 184, 0, 126, 154, 0, 7, 20, 1, 89, 173]
abbrev dktX7_chance_0 : List UInt8 := dkwX7_chance_0 ++ dktX7_chance_1
theorem dksX7_chance_0 : cX7_chance.data.toList.drop 0 = dktX7_chance_0 := by decide +kernel
theorem dksX7_chance_1 : cX7_chance.data.toList.drop 24 = dktX7_chance_1 := dk_seg dksX7_chance_0 24 rfl rfl
theorem dksX7_chance_2 : cX7_chance.data.toList.drop 48 = dktX7_chance_2 := dk_seg dksX7_chance_1 24 rfl rfl
theorem dksX7_chance_3 : cX7_chance.data.toList.drop 72 = dktX7_chance_3 := dk_seg dksX7_chance_2 24 rfl rfl
theorem dksX7_chance_4 : cX7_chance.data.toList.drop 96 = dktX7_chance_4 := dk_seg dksX7_chance_3 24 rfl rfl
theorem dX7_chance_0 : decode cX7_chance 0 = .ok (.aload_n 0, 1) := dk_42 (dk_at dksX7_chance_0 0 rfl rfl)
theorem dX7_chance_1 : decode cX7_chance 1 = .ok (.iload_n 1, 1) := dk_27 (dk_at dksX7_chance_0 1 rfl rfl)
theorem dX7_chance_2 : decode cX7_chance 2 = .ok (.iload_n 2, 1) := dk_28 (dk_at dksX7_chance_0 2 rfl rfl)
theorem dX7_chance_3 : decode cX7_chance 3 = .ok (.iload_n 3, 1) := dk_29 (dk_at dksX7_chance_0 3 rfl rfl)
theorem dX7_chance_4 : decode cX7_chance 4 = .ok (.invokevirtual 342, 3) := dk_182 1 86 (dk_at dksX7_chance_0 4 rfl rfl)
theorem dX7_chance_7 : decode cX7_chance 7 = .ok (.ifCond .eq 13, 3) := dk_153 0 13 (dk_at dksX7_chance_0 7 rfl rfl)
theorem dX7_chance_10 : decode cX7_chance 10 = .ok (.iload 4, 2) := dk_21 4 (dk_at dksX7_chance_0 10 rfl rfl)
theorem dX7_chance_12 : decode cX7_chance 12 = .ok (.iconst 0, 1) := dk_3 (dk_at dksX7_chance_0 12 rfl rfl)
theorem dX7_chance_13 : decode cX7_chance 13 = .ok (.iconst 1, 1) := dk_4 (dk_at dksX7_chance_0 13 rfl rfl)
theorem dX7_chance_14 : decode cX7_chance 14 = .ok (.invokestatic 126, 3) := dk_184 0 126 (dk_at dksX7_chance_0 14 rfl rfl)
theorem dX7_chance_17 : decode cX7_chance 17 = .ok (.ifCond .ne 7, 3) := dk_154 0 7 (dk_at dksX7_chance_0 17 rfl rfl)
theorem dX7_chance_20 : decode cX7_chance 20 = .ok (.ldc2_w 345, 3) := dk_20 1 89 (dk_at dksX7_chance_0 20 rfl rfl)
theorem dX7_chance_23 : decode cX7_chance 23 = .ok (.lreturn, 1) := dk_173 (dk_at dksX7_chance_0 23 rfl rfl)
theorem dX7_chance_24 : decode cX7_chance 24 = .ok (.iconst 0, 1) := dk_3 (dk_at dksX7_chance_1 0 rfl rfl)
theorem dX7_chance_25 : decode cX7_chance 25 = .ok (.istore 5, 2) := dk_54 5 (dk_at dksX7_chance_1 1 rfl rfl)
theorem dX7_chance_27 : decode cX7_chance 27 = .ok (.ldc2_w 345, 3) := dk_20 1 89 (dk_at dksX7_chance_1 3 rfl rfl)
theorem dX7_chance_30 : decode cX7_chance 30 = .ok (.lstore 6, 2) := dk_55 6 (dk_at dksX7_chance_1 6 rfl rfl)
theorem dX7_chance_32 : decode cX7_chance 32 = .ok (.iconst 0, 1) := dk_3 (dk_at dksX7_chance_1 8 rfl rfl)
theorem dX7_chance_33 : decode cX7_chance 33 = .ok (.istore 8, 2) := dk_54 8 (dk_at dksX7_chance_1 9 rfl rfl)
theorem dX7_chance_35 : decode cX7_chance 35 = .ok (.iload 8, 2) := dk_21 8 (dk_at dksX7_chance_1 11 rfl rfl)
theorem dX7_chance_37 : decode cX7_chance 37 = .ok (.bipush 10, 2) := dk_16 10 (dk_at dksX7_chance_1 13 rfl rfl)
theorem dX7_chance_39 : decode cX7_chance 39 = .ok (.if_icmp .gt 60, 3) := dk_163 0 60 (dk_at dksX7_chance_1 15 rfl rfl)
theorem dX7_chance_42 : decode cX7_chance 42 = .ok (.iconst 0, 1) := dk_3 (dk_at dksX7_chance_1 18 rfl rfl)
theorem dX7_chance_43 : decode cX7_chance 43 = .ok (.istore 9, 2) := dk_54 9 (dk_at dksX7_chance_1 19 rfl rfl)
theorem dX7_chance_45 : decode cX7_chance 45 = .ok (.iload 9, 2) := dk_21 9 (dk_at dksX7_chance_1 21 rfl rfl)
theorem dX7_chance_47 : decode cX7_chance 47 = .ok (.iload_n 3, 1) := dk_29 (dk_at dksX7_chance_1 23 rfl rfl)
theorem dX7_chance_48 : decode cX7_chance 48 = .ok (.if_icmp .ge 18, 3) := dk_162 0 18 (dk_at dksX7_chance_2 0 rfl rfl)
theorem dX7_chance_51 : decode cX7_chance 51 = .ok (.aload_n 0, 1) := dk_42 (dk_at dksX7_chance_2 3 rfl rfl)
theorem dX7_chance_52 : decode cX7_chance 52 = .ok (.getfield 71, 3) := dk_180 0 71 (dk_at dksX7_chance_2 4 rfl rfl)
theorem dX7_chance_55 : decode cX7_chance 55 = .ok (.iload 9, 2) := dk_21 9 (dk_at dksX7_chance_2 7 rfl rfl)
theorem dX7_chance_57 : decode cX7_chance 57 = .ok (.iload 8, 2) := dk_21 8 (dk_at dksX7_chance_2 9 rfl rfl)
theorem dX7_chance_59 : decode cX7_chance 59 = .ok (.iastore, 1) := dk_79 (dk_at dksX7_chance_2 11 rfl rfl)
theorem dX7_chance_60 : decode cX7_chance 60 = .ok (.iinc 9 1, 3) := dk_132 9 1 (dk_at dksX7_chance_2 12 rfl rfl)
theorem dX7_chance_63 : decode cX7_chance 63 = .ok (.goto (-18), 3) := dk_167 255 238 (dk_at dksX7_chance_2 15 rfl rfl)
theorem dX7_chance_66 : decode cX7_chance 66 = .ok (.aload_n 0, 1) := dk_42 (dk_at dksX7_chance_2 18 rfl rfl)
theorem dX7_chance_67 : decode cX7_chance 67 = .ok (.iload_n 2, 1) := dk_28 (dk_at dksX7_chance_2 19 rfl rfl)
theorem dX7_chance_68 : decode cX7_chance 68 = .ok (.iload_n 3, 1) := dk_29 (dk_at dksX7_chance_2 20 rfl rfl)
theorem dX7_chance_69 : decode cX7_chance 69 = .ok (.invokevirtual 347, 3) := dk_182 1 91 (dk_at dksX7_chance_2 21 rfl rfl)
theorem dX7_chance_72 : decode cX7_chance 72 = .ok (.lstore 9, 2) := dk_55 9 (dk_at dksX7_chance_3 0 rfl rfl)
theorem dX7_chance_74 : decode cX7_chance 74 = .ok (.lload 9, 2) := dk_22 9 (dk_at dksX7_chance_3 2 rfl rfl)
theorem dX7_chance_76 : decode cX7_chance 76 = .ok (.lload 6, 2) := dk_22 6 (dk_at dksX7_chance_3 4 rfl rfl)
theorem dX7_chance_78 : decode cX7_chance 78 = .ok (.lcmp, 1) := dk_148 (dk_at dksX7_chance_3 6 rfl rfl)
theorem dX7_chance_79 : decode cX7_chance 79 = .ok (.ifCond .gt 6, 3) := dk_157 0 6 (dk_at dksX7_chance_3 7 rfl rfl)
theorem dX7_chance_82 : decode cX7_chance 82 = .ok (.goto 11, 3) := dk_167 0 11 (dk_at dksX7_chance_3 10 rfl rfl)
theorem dX7_chance_85 : decode cX7_chance 85 = .ok (.lload 9, 2) := dk_22 9 (dk_at dksX7_chance_3 13 rfl rfl)
theorem dX7_chance_87 : decode cX7_chance 87 = .ok (.lstore 6, 2) := dk_55 6 (dk_at dksX7_chance_3 15 rfl rfl)
theorem dX7_chance_89 : decode cX7_chance 89 = .ok (.iload 8, 2) := dk_21 8 (dk_at dksX7_chance_3 17 rfl rfl)
theorem dX7_chance_91 : decode cX7_chance 91 = .ok (.istore 5, 2) := dk_54 5 (dk_at dksX7_chance_3 19 rfl rfl)
theorem dX7_chance_93 : decode cX7_chance 93 = .ok (.iinc 8 1, 3) := dk_132 8 1 (dk_at dksX7_chance_3 21 rfl rfl)
theorem dX7_chance_96 : decode cX7_chance 96 = .ok (.goto (-61), 3) := dk_167 255 195 (dk_at dksX7_chance_4 0 rfl rfl)
theorem dX7_chance_99 : decode cX7_chance 99 = .ok (.iload 4, 2) := dk_21 4 (dk_at dksX7_chance_4 3 rfl rfl)
theorem dX7_chance_101 : decode cX7_chance 101 = .ok (.ifCond .ne 9, 3) := dk_154 0 9 (dk_at dksX7_chance_4 5 rfl rfl)
theorem dX7_chance_104 : decode cX7_chance 104 = .ok (.iload 5, 2) := dk_21 5 (dk_at dksX7_chance_4 8 rfl rfl)
theorem dX7_chance_106 : decode cX7_chance 106 = .ok (.i2l, 1) := dk_133 (dk_at dksX7_chance_4 10 rfl rfl)
theorem dX7_chance_107 : decode cX7_chance 107 = .ok (.goto 5, 3) := dk_167 0 5 (dk_at dksX7_chance_4 11 rfl rfl)
theorem dX7_chance_110 : decode cX7_chance 110 = .ok (.lload 6, 2) := dk_22 6 (dk_at dksX7_chance_4 14 rfl rfl)
theorem dX7_chance_112 : decode cX7_chance 112 = .ok (.lreturn, 1) := dk_173 (dk_at dksX7_chance_4 16 rfl rfl)
abbrev cX7_toAsk : ByteArray := prog_19_method_71_code
def yX7_toAsk : MethodName := ⟨RX7, "toAsk", "(IIII)J"⟩
def dkwX7_toAsk_6 : List UInt8 := [154, 0, 9, 21, 5, 133, 167, 0, 5, 22, 6, 173]
abbrev dktX7_toAsk_6 : List UInt8 := dkwX7_toAsk_6 ++ []
def dkwX7_toAsk_5 : List UInt8 := [167, 0, 16, 22, 9, 55, 6, 42, 180, 0, 68, 21, 8, 46, 54, 5, 132, 8, 1, 167, 255, 160, 21, 4]
abbrev dktX7_toAsk_5 : List UInt8 := dkwX7_toAsk_5 ++ dktX7_toAsk_6
def dkwX7_toAsk_4 : List UInt8 := [132, 9, 1, 167, 255, 207, 42, 28, 29, 182, 1, 91, 55, 9, 22, 9, 22, 6, 148, 157, 0, 6]
abbrev dktX7_toAsk_4 : List UInt8 := dkwX7_toAsk_4 ++ dktX7_toAsk_5
def dkwX7_toAsk_3 : List UInt8 := [3, 42, 180, 0, 7, 16, 52, 42, 180, 0, 68, 21, 9, 46, 96, 46, 5, 100, 184, 1, 16, 79]
abbrev dktX7_toAsk_3 : List UInt8 := dkwX7_toAsk_3 ++ dktX7_toAsk_4
def dkwX7_toAsk_2 : List UInt8 := [21, 9, 29, 162, 0, 49, 42, 180, 0, 71, 21, 9, 21, 9, 21, 8, 160, 0, 8, 16, 10, 167, 0, 24]
abbrev dktX7_toAsk_2 : List UInt8 := dkwX7_toAsk_2 ++ dktX7_toAsk_3
def dkwX7_toAsk_1 : List UInt8 := [16, 254, 54, 5, 42, 28, 29, 182, 1, 91, 55, 6, 3, 54, 8, 21, 8, 29, 162, 0, 96, 3, 54, 9]
abbrev dktX7_toAsk_1 : List UInt8 := dkwX7_toAsk_1 ++ dktX7_toAsk_2
def dkwX7_toAsk_0 : List UInt8 := [42, 27, 28, 29, 182, 1, 86, 153, 0, 13, 21, 4, 3, 4, 184, 0, 126, 154, 0, 7, 20, 1, 89, 173]
abbrev dktX7_toAsk_0 : List UInt8 := dkwX7_toAsk_0 ++ dktX7_toAsk_1
theorem dksX7_toAsk_0 : cX7_toAsk.data.toList.drop 0 = dktX7_toAsk_0 := by decide +kernel
theorem dksX7_toAsk_1 : cX7_toAsk.data.toList.drop 24 = dktX7_toAsk_1 := dk_seg dksX7_toAsk_0 24 rfl rfl
theorem dksX7_toAsk_2 : cX7_toAsk.data.toList.drop 48 = dktX7_toAsk_2 := dk_seg dksX7_toAsk_1 24 rfl rfl
theorem dksX7_toAsk_3 : cX7_toAsk.data.toList.drop 72 = dktX7_toAsk_3 := dk_seg dksX7_toAsk_2 24 rfl rfl
theorem dksX7_toAsk_4 : cX7_toAsk.data.toList.drop 94 = dktX7_toAsk_4 := dk_seg dksX7_toAsk_3 22 rfl rfl
theorem dksX7_toAsk_5 : cX7_toAsk.data.toList.drop 116 = dktX7_toAsk_5 := dk_seg dksX7_toAsk_4 22 rfl rfl
theorem dksX7_toAsk_6 : cX7_toAsk.data.toList.drop 140 = dktX7_toAsk_6 := dk_seg dksX7_toAsk_5 24 rfl rfl
theorem dX7_toAsk_0 : decode cX7_toAsk 0 = .ok (.aload_n 0, 1) := dk_42 (dk_at dksX7_toAsk_0 0 rfl rfl)
theorem dX7_toAsk_1 : decode cX7_toAsk 1 = .ok (.iload_n 1, 1) := dk_27 (dk_at dksX7_toAsk_0 1 rfl rfl)
theorem dX7_toAsk_2 : decode cX7_toAsk 2 = .ok (.iload_n 2, 1) := dk_28 (dk_at dksX7_toAsk_0 2 rfl rfl)
theorem dX7_toAsk_3 : decode cX7_toAsk 3 = .ok (.iload_n 3, 1) := dk_29 (dk_at dksX7_toAsk_0 3 rfl rfl)
theorem dX7_toAsk_4 : decode cX7_toAsk 4 = .ok (.invokevirtual 342, 3) := dk_182 1 86 (dk_at dksX7_toAsk_0 4 rfl rfl)
theorem dX7_toAsk_7 : decode cX7_toAsk 7 = .ok (.ifCond .eq 13, 3) := dk_153 0 13 (dk_at dksX7_toAsk_0 7 rfl rfl)
theorem dX7_toAsk_10 : decode cX7_toAsk 10 = .ok (.iload 4, 2) := dk_21 4 (dk_at dksX7_toAsk_0 10 rfl rfl)
theorem dX7_toAsk_12 : decode cX7_toAsk 12 = .ok (.iconst 0, 1) := dk_3 (dk_at dksX7_toAsk_0 12 rfl rfl)
theorem dX7_toAsk_13 : decode cX7_toAsk 13 = .ok (.iconst 1, 1) := dk_4 (dk_at dksX7_toAsk_0 13 rfl rfl)
theorem dX7_toAsk_14 : decode cX7_toAsk 14 = .ok (.invokestatic 126, 3) := dk_184 0 126 (dk_at dksX7_toAsk_0 14 rfl rfl)
theorem dX7_toAsk_17 : decode cX7_toAsk 17 = .ok (.ifCond .ne 7, 3) := dk_154 0 7 (dk_at dksX7_toAsk_0 17 rfl rfl)
theorem dX7_toAsk_20 : decode cX7_toAsk 20 = .ok (.ldc2_w 345, 3) := dk_20 1 89 (dk_at dksX7_toAsk_0 20 rfl rfl)
theorem dX7_toAsk_23 : decode cX7_toAsk 23 = .ok (.lreturn, 1) := dk_173 (dk_at dksX7_toAsk_0 23 rfl rfl)
theorem dX7_toAsk_24 : decode cX7_toAsk 24 = .ok (.bipush (-2), 2) := dk_16 254 (dk_at dksX7_toAsk_1 0 rfl rfl)
theorem dX7_toAsk_26 : decode cX7_toAsk 26 = .ok (.istore 5, 2) := dk_54 5 (dk_at dksX7_toAsk_1 2 rfl rfl)
theorem dX7_toAsk_28 : decode cX7_toAsk 28 = .ok (.aload_n 0, 1) := dk_42 (dk_at dksX7_toAsk_1 4 rfl rfl)
theorem dX7_toAsk_29 : decode cX7_toAsk 29 = .ok (.iload_n 2, 1) := dk_28 (dk_at dksX7_toAsk_1 5 rfl rfl)
theorem dX7_toAsk_30 : decode cX7_toAsk 30 = .ok (.iload_n 3, 1) := dk_29 (dk_at dksX7_toAsk_1 6 rfl rfl)
theorem dX7_toAsk_31 : decode cX7_toAsk 31 = .ok (.invokevirtual 347, 3) := dk_182 1 91 (dk_at dksX7_toAsk_1 7 rfl rfl)
theorem dX7_toAsk_34 : decode cX7_toAsk 34 = .ok (.lstore 6, 2) := dk_55 6 (dk_at dksX7_toAsk_1 10 rfl rfl)
theorem dX7_toAsk_36 : decode cX7_toAsk 36 = .ok (.iconst 0, 1) := dk_3 (dk_at dksX7_toAsk_1 12 rfl rfl)
theorem dX7_toAsk_37 : decode cX7_toAsk 37 = .ok (.istore 8, 2) := dk_54 8 (dk_at dksX7_toAsk_1 13 rfl rfl)
theorem dX7_toAsk_39 : decode cX7_toAsk 39 = .ok (.iload 8, 2) := dk_21 8 (dk_at dksX7_toAsk_1 15 rfl rfl)
theorem dX7_toAsk_41 : decode cX7_toAsk 41 = .ok (.iload_n 3, 1) := dk_29 (dk_at dksX7_toAsk_1 17 rfl rfl)
theorem dX7_toAsk_42 : decode cX7_toAsk 42 = .ok (.if_icmp .ge 96, 3) := dk_162 0 96 (dk_at dksX7_toAsk_1 18 rfl rfl)
theorem dX7_toAsk_45 : decode cX7_toAsk 45 = .ok (.iconst 0, 1) := dk_3 (dk_at dksX7_toAsk_1 21 rfl rfl)
theorem dX7_toAsk_46 : decode cX7_toAsk 46 = .ok (.istore 9, 2) := dk_54 9 (dk_at dksX7_toAsk_1 22 rfl rfl)
theorem dX7_toAsk_48 : decode cX7_toAsk 48 = .ok (.iload 9, 2) := dk_21 9 (dk_at dksX7_toAsk_2 0 rfl rfl)
theorem dX7_toAsk_50 : decode cX7_toAsk 50 = .ok (.iload_n 3, 1) := dk_29 (dk_at dksX7_toAsk_2 2 rfl rfl)
theorem dX7_toAsk_51 : decode cX7_toAsk 51 = .ok (.if_icmp .ge 49, 3) := dk_162 0 49 (dk_at dksX7_toAsk_2 3 rfl rfl)
theorem dX7_toAsk_54 : decode cX7_toAsk 54 = .ok (.aload_n 0, 1) := dk_42 (dk_at dksX7_toAsk_2 6 rfl rfl)
theorem dX7_toAsk_55 : decode cX7_toAsk 55 = .ok (.getfield 71, 3) := dk_180 0 71 (dk_at dksX7_toAsk_2 7 rfl rfl)
theorem dX7_toAsk_58 : decode cX7_toAsk 58 = .ok (.iload 9, 2) := dk_21 9 (dk_at dksX7_toAsk_2 10 rfl rfl)
theorem dX7_toAsk_60 : decode cX7_toAsk 60 = .ok (.iload 9, 2) := dk_21 9 (dk_at dksX7_toAsk_2 12 rfl rfl)
theorem dX7_toAsk_62 : decode cX7_toAsk 62 = .ok (.iload 8, 2) := dk_21 8 (dk_at dksX7_toAsk_2 14 rfl rfl)
theorem dX7_toAsk_64 : decode cX7_toAsk 64 = .ok (.if_icmp .ne 8, 3) := dk_160 0 8 (dk_at dksX7_toAsk_2 16 rfl rfl)
theorem dX7_toAsk_67 : decode cX7_toAsk 67 = .ok (.bipush 10, 2) := dk_16 10 (dk_at dksX7_toAsk_2 19 rfl rfl)
theorem dX7_toAsk_69 : decode cX7_toAsk 69 = .ok (.goto 24, 3) := dk_167 0 24 (dk_at dksX7_toAsk_2 21 rfl rfl)
theorem dX7_toAsk_72 : decode cX7_toAsk 72 = .ok (.iconst 0, 1) := dk_3 (dk_at dksX7_toAsk_3 0 rfl rfl)
theorem dX7_toAsk_73 : decode cX7_toAsk 73 = .ok (.aload_n 0, 1) := dk_42 (dk_at dksX7_toAsk_3 1 rfl rfl)
theorem dX7_toAsk_74 : decode cX7_toAsk 74 = .ok (.getfield 7, 3) := dk_180 0 7 (dk_at dksX7_toAsk_3 2 rfl rfl)
theorem dX7_toAsk_77 : decode cX7_toAsk 77 = .ok (.bipush 52, 2) := dk_16 52 (dk_at dksX7_toAsk_3 5 rfl rfl)
theorem dX7_toAsk_79 : decode cX7_toAsk 79 = .ok (.aload_n 0, 1) := dk_42 (dk_at dksX7_toAsk_3 7 rfl rfl)
theorem dX7_toAsk_80 : decode cX7_toAsk 80 = .ok (.getfield 68, 3) := dk_180 0 68 (dk_at dksX7_toAsk_3 8 rfl rfl)
theorem dX7_toAsk_83 : decode cX7_toAsk 83 = .ok (.iload 9, 2) := dk_21 9 (dk_at dksX7_toAsk_3 11 rfl rfl)
theorem dX7_toAsk_85 : decode cX7_toAsk 85 = .ok (.iaload, 1) := dk_46 (dk_at dksX7_toAsk_3 13 rfl rfl)
theorem dX7_toAsk_86 : decode cX7_toAsk 86 = .ok (.iadd, 1) := dk_96 (dk_at dksX7_toAsk_3 14 rfl rfl)
theorem dX7_toAsk_87 : decode cX7_toAsk 87 = .ok (.iaload, 1) := dk_46 (dk_at dksX7_toAsk_3 15 rfl rfl)
theorem dX7_toAsk_88 : decode cX7_toAsk 88 = .ok (.iconst 2, 1) := dk_5 (dk_at dksX7_toAsk_3 16 rfl rfl)
theorem dX7_toAsk_89 : decode cX7_toAsk 89 = .ok (.isub, 1) := dk_100 (dk_at dksX7_toAsk_3 17 rfl rfl)
theorem dX7_toAsk_90 : decode cX7_toAsk 90 = .ok (.invokestatic 272, 3) := dk_184 1 16 (dk_at dksX7_toAsk_3 18 rfl rfl)
theorem dX7_toAsk_93 : decode cX7_toAsk 93 = .ok (.iastore, 1) := dk_79 (dk_at dksX7_toAsk_3 21 rfl rfl)
theorem dX7_toAsk_94 : decode cX7_toAsk 94 = .ok (.iinc 9 1, 3) := dk_132 9 1 (dk_at dksX7_toAsk_4 0 rfl rfl)
theorem dX7_toAsk_97 : decode cX7_toAsk 97 = .ok (.goto (-49), 3) := dk_167 255 207 (dk_at dksX7_toAsk_4 3 rfl rfl)
theorem dX7_toAsk_100 : decode cX7_toAsk 100 = .ok (.aload_n 0, 1) := dk_42 (dk_at dksX7_toAsk_4 6 rfl rfl)
theorem dX7_toAsk_101 : decode cX7_toAsk 101 = .ok (.iload_n 2, 1) := dk_28 (dk_at dksX7_toAsk_4 7 rfl rfl)
theorem dX7_toAsk_102 : decode cX7_toAsk 102 = .ok (.iload_n 3, 1) := dk_29 (dk_at dksX7_toAsk_4 8 rfl rfl)
theorem dX7_toAsk_103 : decode cX7_toAsk 103 = .ok (.invokevirtual 347, 3) := dk_182 1 91 (dk_at dksX7_toAsk_4 9 rfl rfl)
theorem dX7_toAsk_106 : decode cX7_toAsk 106 = .ok (.lstore 9, 2) := dk_55 9 (dk_at dksX7_toAsk_4 12 rfl rfl)
theorem dX7_toAsk_108 : decode cX7_toAsk 108 = .ok (.lload 9, 2) := dk_22 9 (dk_at dksX7_toAsk_4 14 rfl rfl)
theorem dX7_toAsk_110 : decode cX7_toAsk 110 = .ok (.lload 6, 2) := dk_22 6 (dk_at dksX7_toAsk_4 16 rfl rfl)
theorem dX7_toAsk_112 : decode cX7_toAsk 112 = .ok (.lcmp, 1) := dk_148 (dk_at dksX7_toAsk_4 18 rfl rfl)
theorem dX7_toAsk_113 : decode cX7_toAsk 113 = .ok (.ifCond .gt 6, 3) := dk_157 0 6 (dk_at dksX7_toAsk_4 19 rfl rfl)
theorem dX7_toAsk_116 : decode cX7_toAsk 116 = .ok (.goto 16, 3) := dk_167 0 16 (dk_at dksX7_toAsk_5 0 rfl rfl)
theorem dX7_toAsk_119 : decode cX7_toAsk 119 = .ok (.lload 9, 2) := dk_22 9 (dk_at dksX7_toAsk_5 3 rfl rfl)
theorem dX7_toAsk_121 : decode cX7_toAsk 121 = .ok (.lstore 6, 2) := dk_55 6 (dk_at dksX7_toAsk_5 5 rfl rfl)
theorem dX7_toAsk_123 : decode cX7_toAsk 123 = .ok (.aload_n 0, 1) := dk_42 (dk_at dksX7_toAsk_5 7 rfl rfl)
theorem dX7_toAsk_124 : decode cX7_toAsk 124 = .ok (.getfield 68, 3) := dk_180 0 68 (dk_at dksX7_toAsk_5 8 rfl rfl)
theorem dX7_toAsk_127 : decode cX7_toAsk 127 = .ok (.iload 8, 2) := dk_21 8 (dk_at dksX7_toAsk_5 11 rfl rfl)
theorem dX7_toAsk_129 : decode cX7_toAsk 129 = .ok (.iaload, 1) := dk_46 (dk_at dksX7_toAsk_5 13 rfl rfl)
theorem dX7_toAsk_130 : decode cX7_toAsk 130 = .ok (.istore 5, 2) := dk_54 5 (dk_at dksX7_toAsk_5 14 rfl rfl)
theorem dX7_toAsk_132 : decode cX7_toAsk 132 = .ok (.iinc 8 1, 3) := dk_132 8 1 (dk_at dksX7_toAsk_5 16 rfl rfl)
theorem dX7_toAsk_135 : decode cX7_toAsk 135 = .ok (.goto (-96), 3) := dk_167 255 160 (dk_at dksX7_toAsk_5 19 rfl rfl)
theorem dX7_toAsk_138 : decode cX7_toAsk 138 = .ok (.iload 4, 2) := dk_21 4 (dk_at dksX7_toAsk_5 22 rfl rfl)
theorem dX7_toAsk_140 : decode cX7_toAsk 140 = .ok (.ifCond .ne 9, 3) := dk_154 0 9 (dk_at dksX7_toAsk_6 0 rfl rfl)
theorem dX7_toAsk_143 : decode cX7_toAsk 143 = .ok (.iload 5, 2) := dk_21 5 (dk_at dksX7_toAsk_6 3 rfl rfl)
theorem dX7_toAsk_145 : decode cX7_toAsk 145 = .ok (.i2l, 1) := dk_133 (dk_at dksX7_toAsk_6 5 rfl rfl)
theorem dX7_toAsk_146 : decode cX7_toAsk 146 = .ok (.goto 5, 3) := dk_167 0 5 (dk_at dksX7_toAsk_6 6 rfl rfl)
theorem dX7_toAsk_149 : decode cX7_toAsk 149 = .ok (.lload 6, 2) := dk_22 6 (dk_at dksX7_toAsk_6 9 rfl rfl)
theorem dX7_toAsk_151 : decode cX7_toAsk 151 = .ok (.lreturn, 1) := dk_173 (dk_at dksX7_toAsk_6 11 rfl rfl)
abbrev cX7_few : ByteArray := prog_19_method_72_code
def yX7_few : MethodName := ⟨RX7, "few", "(IIII)I"⟩
def dkwX7_few_3 : List UInt8 := [16, 254, 172]
abbrev dktX7_few_3 : List UInt8 := dkwX7_few_3 ++ []
def dkwX7_few_2 : List UInt8 := [21, 5, 182, 1, 91, 21, 4, 133, 22, 6, 105, 148, 155, 0, 6, 21, 5, 172, 132, 5, 1, 167, 255, 214]
abbrev dktX7_few_2 : List UInt8 := dkwX7_few_2 ++ dktX7_few_3
def dkwX7_few_1 : List UInt8 := [54, 5, 21, 5, 29, 163, 0, 42, 28, 21, 5, 4, 96, 104, 4, 100, 184, 1, 72, 55, 6, 42, 28]
abbrev dktX7_few_1 : List UInt8 := dkwX7_few_1 ++ dktX7_few_2
def dkwX7_few_0 : List UInt8 := [42, 27, 28, 29, 182, 1, 86, 153, 0, 14, 21, 4, 3, 16, 10, 184, 0, 126, 154, 0, 5, 2, 172, 3]
abbrev dktX7_few_0 : List UInt8 := dkwX7_few_0 ++ dktX7_few_1
theorem dksX7_few_0 : cX7_few.data.toList.drop 0 = dktX7_few_0 := by decide +kernel
theorem dksX7_few_1 : cX7_few.data.toList.drop 24 = dktX7_few_1 := dk_seg dksX7_few_0 24 rfl rfl
theorem dksX7_few_2 : cX7_few.data.toList.drop 47 = dktX7_few_2 := dk_seg dksX7_few_1 23 rfl rfl
theorem dksX7_few_3 : cX7_few.data.toList.drop 71 = dktX7_few_3 := dk_seg dksX7_few_2 24 rfl rfl
theorem dX7_few_0 : decode cX7_few 0 = .ok (.aload_n 0, 1) := dk_42 (dk_at dksX7_few_0 0 rfl rfl)
theorem dX7_few_1 : decode cX7_few 1 = .ok (.iload_n 1, 1) := dk_27 (dk_at dksX7_few_0 1 rfl rfl)
theorem dX7_few_2 : decode cX7_few 2 = .ok (.iload_n 2, 1) := dk_28 (dk_at dksX7_few_0 2 rfl rfl)
theorem dX7_few_3 : decode cX7_few 3 = .ok (.iload_n 3, 1) := dk_29 (dk_at dksX7_few_0 3 rfl rfl)
theorem dX7_few_4 : decode cX7_few 4 = .ok (.invokevirtual 342, 3) := dk_182 1 86 (dk_at dksX7_few_0 4 rfl rfl)
theorem dX7_few_7 : decode cX7_few 7 = .ok (.ifCond .eq 14, 3) := dk_153 0 14 (dk_at dksX7_few_0 7 rfl rfl)
theorem dX7_few_10 : decode cX7_few 10 = .ok (.iload 4, 2) := dk_21 4 (dk_at dksX7_few_0 10 rfl rfl)
theorem dX7_few_12 : decode cX7_few 12 = .ok (.iconst 0, 1) := dk_3 (dk_at dksX7_few_0 12 rfl rfl)
theorem dX7_few_13 : decode cX7_few 13 = .ok (.bipush 10, 2) := dk_16 10 (dk_at dksX7_few_0 13 rfl rfl)
theorem dX7_few_15 : decode cX7_few 15 = .ok (.invokestatic 126, 3) := dk_184 0 126 (dk_at dksX7_few_0 15 rfl rfl)
theorem dX7_few_18 : decode cX7_few 18 = .ok (.ifCond .ne 5, 3) := dk_154 0 5 (dk_at dksX7_few_0 18 rfl rfl)
theorem dX7_few_21 : decode cX7_few 21 = .ok (.iconst (-1), 1) := dk_2 (dk_at dksX7_few_0 21 rfl rfl)
theorem dX7_few_22 : decode cX7_few 22 = .ok (.ireturn, 1) := dk_172 (dk_at dksX7_few_0 22 rfl rfl)
theorem dX7_few_23 : decode cX7_few 23 = .ok (.iconst 0, 1) := dk_3 (dk_at dksX7_few_0 23 rfl rfl)
theorem dX7_few_24 : decode cX7_few 24 = .ok (.istore 5, 2) := dk_54 5 (dk_at dksX7_few_1 0 rfl rfl)
theorem dX7_few_26 : decode cX7_few 26 = .ok (.iload 5, 2) := dk_21 5 (dk_at dksX7_few_1 2 rfl rfl)
theorem dX7_few_28 : decode cX7_few 28 = .ok (.iload_n 3, 1) := dk_29 (dk_at dksX7_few_1 4 rfl rfl)
theorem dX7_few_29 : decode cX7_few 29 = .ok (.if_icmp .gt 42, 3) := dk_163 0 42 (dk_at dksX7_few_1 5 rfl rfl)
theorem dX7_few_32 : decode cX7_few 32 = .ok (.iload_n 2, 1) := dk_28 (dk_at dksX7_few_1 8 rfl rfl)
theorem dX7_few_33 : decode cX7_few 33 = .ok (.iload 5, 2) := dk_21 5 (dk_at dksX7_few_1 9 rfl rfl)
theorem dX7_few_35 : decode cX7_few 35 = .ok (.iconst 1, 1) := dk_4 (dk_at dksX7_few_1 11 rfl rfl)
theorem dX7_few_36 : decode cX7_few 36 = .ok (.iadd, 1) := dk_96 (dk_at dksX7_few_1 12 rfl rfl)
theorem dX7_few_37 : decode cX7_few 37 = .ok (.imul, 1) := dk_104 (dk_at dksX7_few_1 13 rfl rfl)
theorem dX7_few_38 : decode cX7_few 38 = .ok (.iconst 1, 1) := dk_4 (dk_at dksX7_few_1 14 rfl rfl)
theorem dX7_few_39 : decode cX7_few 39 = .ok (.isub, 1) := dk_100 (dk_at dksX7_few_1 15 rfl rfl)
theorem dX7_few_40 : decode cX7_few 40 = .ok (.invokestatic 328, 3) := dk_184 1 72 (dk_at dksX7_few_1 16 rfl rfl)
theorem dX7_few_43 : decode cX7_few 43 = .ok (.lstore 6, 2) := dk_55 6 (dk_at dksX7_few_1 19 rfl rfl)
theorem dX7_few_45 : decode cX7_few 45 = .ok (.aload_n 0, 1) := dk_42 (dk_at dksX7_few_1 21 rfl rfl)
theorem dX7_few_46 : decode cX7_few 46 = .ok (.iload_n 2, 1) := dk_28 (dk_at dksX7_few_1 22 rfl rfl)
theorem dX7_few_47 : decode cX7_few 47 = .ok (.iload 5, 2) := dk_21 5 (dk_at dksX7_few_2 0 rfl rfl)
theorem dX7_few_49 : decode cX7_few 49 = .ok (.invokevirtual 347, 3) := dk_182 1 91 (dk_at dksX7_few_2 2 rfl rfl)
theorem dX7_few_52 : decode cX7_few 52 = .ok (.iload 4, 2) := dk_21 4 (dk_at dksX7_few_2 5 rfl rfl)
theorem dX7_few_54 : decode cX7_few 54 = .ok (.i2l, 1) := dk_133 (dk_at dksX7_few_2 7 rfl rfl)
theorem dX7_few_55 : decode cX7_few 55 = .ok (.lload 6, 2) := dk_22 6 (dk_at dksX7_few_2 8 rfl rfl)
theorem dX7_few_57 : decode cX7_few 57 = .ok (.lmul, 1) := dk_105 (dk_at dksX7_few_2 10 rfl rfl)
theorem dX7_few_58 : decode cX7_few 58 = .ok (.lcmp, 1) := dk_148 (dk_at dksX7_few_2 11 rfl rfl)
theorem dX7_few_59 : decode cX7_few 59 = .ok (.ifCond .lt 6, 3) := dk_155 0 6 (dk_at dksX7_few_2 12 rfl rfl)
theorem dX7_few_62 : decode cX7_few 62 = .ok (.iload 5, 2) := dk_21 5 (dk_at dksX7_few_2 15 rfl rfl)
theorem dX7_few_64 : decode cX7_few 64 = .ok (.ireturn, 1) := dk_172 (dk_at dksX7_few_2 17 rfl rfl)
theorem dX7_few_65 : decode cX7_few 65 = .ok (.iinc 5 1, 3) := dk_132 5 1 (dk_at dksX7_few_2 18 rfl rfl)
theorem dX7_few_68 : decode cX7_few 68 = .ok (.goto (-42), 3) := dk_167 255 214 (dk_at dksX7_few_2 21 rfl rfl)
theorem dX7_few_71 : decode cX7_few 71 = .ok (.bipush (-2), 2) := dk_16 254 (dk_at dksX7_few_3 0 rfl rfl)
theorem dX7_few_73 : decode cX7_few 73 = .ok (.ireturn, 1) := dk_172 (dk_at dksX7_few_3 2 rfl rfl)
abbrev cX7_pot : ByteArray := prog_19_method_73_code
def yX7_pot : MethodName := ⟨RX7, "pot", "(IIII)J"⟩
def dkwX7_pot_5 : List UInt8 := [22, 5, 101, 173]
abbrev dktX7_pot_5 : List UInt8 := dkwX7_pot_5 ++ []
def dkwX7_pot_4 : List UInt8 := [55, 9, 42, 180, 0, 7, 3, 27, 96, 21, 7, 79, 42, 180, 0, 7, 7, 27, 96, 21, 8, 79, 22, 9]
abbrev dktX7_pot_4 : List UInt8 := dkwX7_pot_4 ++ dktX7_pot_5
def dkwX7_pot_3 : List UInt8 := [21, 8, 184, 0, 133, 79, 42, 42, 180, 0, 7, 7, 27, 96, 46, 181, 1, 45, 42, 28, 29, 182, 1, 91]
abbrev dktX7_pot_3 : List UInt8 := dkwX7_pot_3 ++ dktX7_pot_4
def dkwX7_pot_2 : List UInt8 := [27, 96, 46, 54, 8, 42, 180, 0, 7, 3, 27, 96, 21, 4, 79, 42, 180, 0, 7, 7, 27, 96, 21, 4]
abbrev dktX7_pot_2 : List UInt8 := dkwX7_pot_2 ++ dktX7_pot_3
def dkwX7_pot_1 : List UInt8 := [173, 42, 28, 29, 182, 1, 91, 55, 5, 42, 180, 0, 7, 3, 27, 96, 46, 54, 7, 42, 180, 0, 7, 7]
abbrev dktX7_pot_1 : List UInt8 := dkwX7_pot_1 ++ dktX7_pot_2
def dkwX7_pot_0 : List UInt8 := [42, 27, 28, 29, 182, 1, 86, 153, 0, 14, 21, 4, 7, 16, 24, 184, 0, 126, 154, 0, 7, 20, 1, 95]
abbrev dktX7_pot_0 : List UInt8 := dkwX7_pot_0 ++ dktX7_pot_1
theorem dksX7_pot_0 : cX7_pot.data.toList.drop 0 = dktX7_pot_0 := by decide +kernel
theorem dksX7_pot_1 : cX7_pot.data.toList.drop 24 = dktX7_pot_1 := dk_seg dksX7_pot_0 24 rfl rfl
theorem dksX7_pot_2 : cX7_pot.data.toList.drop 48 = dktX7_pot_2 := dk_seg dksX7_pot_1 24 rfl rfl
theorem dksX7_pot_3 : cX7_pot.data.toList.drop 72 = dktX7_pot_3 := dk_seg dksX7_pot_2 24 rfl rfl
theorem dksX7_pot_4 : cX7_pot.data.toList.drop 96 = dktX7_pot_4 := dk_seg dksX7_pot_3 24 rfl rfl
theorem dksX7_pot_5 : cX7_pot.data.toList.drop 120 = dktX7_pot_5 := dk_seg dksX7_pot_4 24 rfl rfl
theorem dX7_pot_0 : decode cX7_pot 0 = .ok (.aload_n 0, 1) := dk_42 (dk_at dksX7_pot_0 0 rfl rfl)
theorem dX7_pot_1 : decode cX7_pot 1 = .ok (.iload_n 1, 1) := dk_27 (dk_at dksX7_pot_0 1 rfl rfl)
theorem dX7_pot_2 : decode cX7_pot 2 = .ok (.iload_n 2, 1) := dk_28 (dk_at dksX7_pot_0 2 rfl rfl)
theorem dX7_pot_3 : decode cX7_pot 3 = .ok (.iload_n 3, 1) := dk_29 (dk_at dksX7_pot_0 3 rfl rfl)
theorem dX7_pot_4 : decode cX7_pot 4 = .ok (.invokevirtual 342, 3) := dk_182 1 86 (dk_at dksX7_pot_0 4 rfl rfl)
theorem dX7_pot_7 : decode cX7_pot 7 = .ok (.ifCond .eq 14, 3) := dk_153 0 14 (dk_at dksX7_pot_0 7 rfl rfl)
theorem dX7_pot_10 : decode cX7_pot 10 = .ok (.iload 4, 2) := dk_21 4 (dk_at dksX7_pot_0 10 rfl rfl)
theorem dX7_pot_12 : decode cX7_pot 12 = .ok (.iconst 4, 1) := dk_7 (dk_at dksX7_pot_0 12 rfl rfl)
theorem dX7_pot_13 : decode cX7_pot 13 = .ok (.bipush 24, 2) := dk_16 24 (dk_at dksX7_pot_0 13 rfl rfl)
theorem dX7_pot_15 : decode cX7_pot 15 = .ok (.invokestatic 126, 3) := dk_184 0 126 (dk_at dksX7_pot_0 15 rfl rfl)
theorem dX7_pot_18 : decode cX7_pot 18 = .ok (.ifCond .ne 7, 3) := dk_154 0 7 (dk_at dksX7_pot_0 18 rfl rfl)
theorem dX7_pot_21 : decode cX7_pot 21 = .ok (.ldc2_w 351, 3) := dk_20 1 95 (dk_at dksX7_pot_0 21 rfl rfl)
theorem dX7_pot_24 : decode cX7_pot 24 = .ok (.lreturn, 1) := dk_173 (dk_at dksX7_pot_1 0 rfl rfl)
theorem dX7_pot_25 : decode cX7_pot 25 = .ok (.aload_n 0, 1) := dk_42 (dk_at dksX7_pot_1 1 rfl rfl)
theorem dX7_pot_26 : decode cX7_pot 26 = .ok (.iload_n 2, 1) := dk_28 (dk_at dksX7_pot_1 2 rfl rfl)
theorem dX7_pot_27 : decode cX7_pot 27 = .ok (.iload_n 3, 1) := dk_29 (dk_at dksX7_pot_1 3 rfl rfl)
theorem dX7_pot_28 : decode cX7_pot 28 = .ok (.invokevirtual 347, 3) := dk_182 1 91 (dk_at dksX7_pot_1 4 rfl rfl)
theorem dX7_pot_31 : decode cX7_pot 31 = .ok (.lstore 5, 2) := dk_55 5 (dk_at dksX7_pot_1 7 rfl rfl)
theorem dX7_pot_33 : decode cX7_pot 33 = .ok (.aload_n 0, 1) := dk_42 (dk_at dksX7_pot_1 9 rfl rfl)
theorem dX7_pot_34 : decode cX7_pot 34 = .ok (.getfield 7, 3) := dk_180 0 7 (dk_at dksX7_pot_1 10 rfl rfl)
theorem dX7_pot_37 : decode cX7_pot 37 = .ok (.iconst 0, 1) := dk_3 (dk_at dksX7_pot_1 13 rfl rfl)
theorem dX7_pot_38 : decode cX7_pot 38 = .ok (.iload_n 1, 1) := dk_27 (dk_at dksX7_pot_1 14 rfl rfl)
theorem dX7_pot_39 : decode cX7_pot 39 = .ok (.iadd, 1) := dk_96 (dk_at dksX7_pot_1 15 rfl rfl)
theorem dX7_pot_40 : decode cX7_pot 40 = .ok (.iaload, 1) := dk_46 (dk_at dksX7_pot_1 16 rfl rfl)
theorem dX7_pot_41 : decode cX7_pot 41 = .ok (.istore 7, 2) := dk_54 7 (dk_at dksX7_pot_1 17 rfl rfl)
theorem dX7_pot_43 : decode cX7_pot 43 = .ok (.aload_n 0, 1) := dk_42 (dk_at dksX7_pot_1 19 rfl rfl)
theorem dX7_pot_44 : decode cX7_pot 44 = .ok (.getfield 7, 3) := dk_180 0 7 (dk_at dksX7_pot_1 20 rfl rfl)
theorem dX7_pot_47 : decode cX7_pot 47 = .ok (.iconst 4, 1) := dk_7 (dk_at dksX7_pot_1 23 rfl rfl)
theorem dX7_pot_48 : decode cX7_pot 48 = .ok (.iload_n 1, 1) := dk_27 (dk_at dksX7_pot_2 0 rfl rfl)
theorem dX7_pot_49 : decode cX7_pot 49 = .ok (.iadd, 1) := dk_96 (dk_at dksX7_pot_2 1 rfl rfl)
theorem dX7_pot_50 : decode cX7_pot 50 = .ok (.iaload, 1) := dk_46 (dk_at dksX7_pot_2 2 rfl rfl)
theorem dX7_pot_51 : decode cX7_pot 51 = .ok (.istore 8, 2) := dk_54 8 (dk_at dksX7_pot_2 3 rfl rfl)
theorem dX7_pot_53 : decode cX7_pot 53 = .ok (.aload_n 0, 1) := dk_42 (dk_at dksX7_pot_2 5 rfl rfl)
theorem dX7_pot_54 : decode cX7_pot 54 = .ok (.getfield 7, 3) := dk_180 0 7 (dk_at dksX7_pot_2 6 rfl rfl)
theorem dX7_pot_57 : decode cX7_pot 57 = .ok (.iconst 0, 1) := dk_3 (dk_at dksX7_pot_2 9 rfl rfl)
theorem dX7_pot_58 : decode cX7_pot 58 = .ok (.iload_n 1, 1) := dk_27 (dk_at dksX7_pot_2 10 rfl rfl)
theorem dX7_pot_59 : decode cX7_pot 59 = .ok (.iadd, 1) := dk_96 (dk_at dksX7_pot_2 11 rfl rfl)
theorem dX7_pot_60 : decode cX7_pot 60 = .ok (.iload 4, 2) := dk_21 4 (dk_at dksX7_pot_2 12 rfl rfl)
theorem dX7_pot_62 : decode cX7_pot 62 = .ok (.iastore, 1) := dk_79 (dk_at dksX7_pot_2 14 rfl rfl)
theorem dX7_pot_63 : decode cX7_pot 63 = .ok (.aload_n 0, 1) := dk_42 (dk_at dksX7_pot_2 15 rfl rfl)
theorem dX7_pot_64 : decode cX7_pot 64 = .ok (.getfield 7, 3) := dk_180 0 7 (dk_at dksX7_pot_2 16 rfl rfl)
theorem dX7_pot_67 : decode cX7_pot 67 = .ok (.iconst 4, 1) := dk_7 (dk_at dksX7_pot_2 19 rfl rfl)
theorem dX7_pot_68 : decode cX7_pot 68 = .ok (.iload_n 1, 1) := dk_27 (dk_at dksX7_pot_2 20 rfl rfl)
theorem dX7_pot_69 : decode cX7_pot 69 = .ok (.iadd, 1) := dk_96 (dk_at dksX7_pot_2 21 rfl rfl)
theorem dX7_pot_70 : decode cX7_pot 70 = .ok (.iload 4, 2) := dk_21 4 (dk_at dksX7_pot_2 22 rfl rfl)
theorem dX7_pot_72 : decode cX7_pot 72 = .ok (.iload 8, 2) := dk_21 8 (dk_at dksX7_pot_3 0 rfl rfl)
theorem dX7_pot_74 : decode cX7_pot 74 = .ok (.invokestatic 133, 3) := dk_184 0 133 (dk_at dksX7_pot_3 2 rfl rfl)
theorem dX7_pot_77 : decode cX7_pot 77 = .ok (.iastore, 1) := dk_79 (dk_at dksX7_pot_3 5 rfl rfl)
theorem dX7_pot_78 : decode cX7_pot 78 = .ok (.aload_n 0, 1) := dk_42 (dk_at dksX7_pot_3 6 rfl rfl)
theorem dX7_pot_79 : decode cX7_pot 79 = .ok (.aload_n 0, 1) := dk_42 (dk_at dksX7_pot_3 7 rfl rfl)
theorem dX7_pot_80 : decode cX7_pot 80 = .ok (.getfield 7, 3) := dk_180 0 7 (dk_at dksX7_pot_3 8 rfl rfl)
theorem dX7_pot_83 : decode cX7_pot 83 = .ok (.iconst 4, 1) := dk_7 (dk_at dksX7_pot_3 11 rfl rfl)
theorem dX7_pot_84 : decode cX7_pot 84 = .ok (.iload_n 1, 1) := dk_27 (dk_at dksX7_pot_3 12 rfl rfl)
theorem dX7_pot_85 : decode cX7_pot 85 = .ok (.iadd, 1) := dk_96 (dk_at dksX7_pot_3 13 rfl rfl)
theorem dX7_pot_86 : decode cX7_pot 86 = .ok (.iaload, 1) := dk_46 (dk_at dksX7_pot_3 14 rfl rfl)
theorem dX7_pot_87 : decode cX7_pot 87 = .ok (.putfield 301, 3) := dk_181 1 45 (dk_at dksX7_pot_3 15 rfl rfl)
theorem dX7_pot_90 : decode cX7_pot 90 = .ok (.aload_n 0, 1) := dk_42 (dk_at dksX7_pot_3 18 rfl rfl)
theorem dX7_pot_91 : decode cX7_pot 91 = .ok (.iload_n 2, 1) := dk_28 (dk_at dksX7_pot_3 19 rfl rfl)
theorem dX7_pot_92 : decode cX7_pot 92 = .ok (.iload_n 3, 1) := dk_29 (dk_at dksX7_pot_3 20 rfl rfl)
theorem dX7_pot_93 : decode cX7_pot 93 = .ok (.invokevirtual 347, 3) := dk_182 1 91 (dk_at dksX7_pot_3 21 rfl rfl)
theorem dX7_pot_96 : decode cX7_pot 96 = .ok (.lstore 9, 2) := dk_55 9 (dk_at dksX7_pot_4 0 rfl rfl)
theorem dX7_pot_98 : decode cX7_pot 98 = .ok (.aload_n 0, 1) := dk_42 (dk_at dksX7_pot_4 2 rfl rfl)
theorem dX7_pot_99 : decode cX7_pot 99 = .ok (.getfield 7, 3) := dk_180 0 7 (dk_at dksX7_pot_4 3 rfl rfl)
theorem dX7_pot_102 : decode cX7_pot 102 = .ok (.iconst 0, 1) := dk_3 (dk_at dksX7_pot_4 6 rfl rfl)
theorem dX7_pot_103 : decode cX7_pot 103 = .ok (.iload_n 1, 1) := dk_27 (dk_at dksX7_pot_4 7 rfl rfl)
theorem dX7_pot_104 : decode cX7_pot 104 = .ok (.iadd, 1) := dk_96 (dk_at dksX7_pot_4 8 rfl rfl)
theorem dX7_pot_105 : decode cX7_pot 105 = .ok (.iload 7, 2) := dk_21 7 (dk_at dksX7_pot_4 9 rfl rfl)
theorem dX7_pot_107 : decode cX7_pot 107 = .ok (.iastore, 1) := dk_79 (dk_at dksX7_pot_4 11 rfl rfl)
theorem dX7_pot_108 : decode cX7_pot 108 = .ok (.aload_n 0, 1) := dk_42 (dk_at dksX7_pot_4 12 rfl rfl)
theorem dX7_pot_109 : decode cX7_pot 109 = .ok (.getfield 7, 3) := dk_180 0 7 (dk_at dksX7_pot_4 13 rfl rfl)
theorem dX7_pot_112 : decode cX7_pot 112 = .ok (.iconst 4, 1) := dk_7 (dk_at dksX7_pot_4 16 rfl rfl)
theorem dX7_pot_113 : decode cX7_pot 113 = .ok (.iload_n 1, 1) := dk_27 (dk_at dksX7_pot_4 17 rfl rfl)
theorem dX7_pot_114 : decode cX7_pot 114 = .ok (.iadd, 1) := dk_96 (dk_at dksX7_pot_4 18 rfl rfl)
theorem dX7_pot_115 : decode cX7_pot 115 = .ok (.iload 8, 2) := dk_21 8 (dk_at dksX7_pot_4 19 rfl rfl)
theorem dX7_pot_117 : decode cX7_pot 117 = .ok (.iastore, 1) := dk_79 (dk_at dksX7_pot_4 21 rfl rfl)
theorem dX7_pot_118 : decode cX7_pot 118 = .ok (.lload 9, 2) := dk_22 9 (dk_at dksX7_pot_4 22 rfl rfl)
theorem dX7_pot_120 : decode cX7_pot 120 = .ok (.lload 5, 2) := dk_22 5 (dk_at dksX7_pot_5 0 rfl rfl)
theorem dX7_pot_122 : decode cX7_pot 122 = .ok (.lsub, 1) := dk_101 (dk_at dksX7_pot_5 2 rfl rfl)
theorem dX7_pot_123 : decode cX7_pot 123 = .ok (.lreturn, 1) := dk_173 (dk_at dksX7_pot_5 3 rfl rfl)
abbrev cX7_ruleFor : ByteArray := prog_19_method_74_code
def yX7_ruleFor : MethodName := ⟨RX7, "ruleFor", "(IIIII)J"⟩
def dkwX7_ruleFor_5 : List UInt8 := [173]
abbrev dktX7_ruleFor_5 : List UInt8 := dkwX7_ruleFor_5 ++ []
def dkwX7_ruleFor_4 : List UInt8 := [132, 9, 1, 167, 255, 213, 42, 2, 181, 0, 108, 21, 5, 154, 0, 9, 21, 6, 133, 167, 0, 5, 22, 7]
abbrev dktX7_ruleFor_4 : List UInt8 := dkwX7_ruleFor_4 ++ dktX7_ruleFor_5
def dkwX7_ruleFor_3 : List UInt8 := [182, 1, 91, 55, 10, 22, 10, 22, 7, 148, 157, 0, 6, 167, 0, 11, 22, 10, 55, 7, 21, 9, 54, 6]
abbrev dktX7_ruleFor_3 : List UInt8 := dkwX7_ruleFor_3 ++ dktX7_ruleFor_4
def dkwX7_ruleFor_2 : List UInt8 := [181, 0, 108, 3, 54, 9, 21, 9, 16, 24, 163, 0, 42, 42, 21, 9, 181, 1, 54, 42, 28, 29]
abbrev dktX7_ruleFor_2 : List UInt8 := dkwX7_ruleFor_2 ++ dktX7_ruleFor_3
def dkwX7_ruleFor_1 : List UInt8 := [4, 184, 0, 126, 154, 0, 7, 20, 1, 89, 173, 3, 54, 6, 20, 1, 89, 55, 7, 42, 21, 4]
abbrev dktX7_ruleFor_1 : List UInt8 := dkwX7_ruleFor_1 ++ dktX7_ruleFor_2
def dkwX7_ruleFor_0 : List UInt8 := [42, 27, 28, 29, 182, 1, 86, 153, 0, 24, 21, 4, 4, 16, 9, 184, 0, 126, 153, 0, 13, 21, 5, 3]
abbrev dktX7_ruleFor_0 : List UInt8 := dkwX7_ruleFor_0 ++ dktX7_ruleFor_1
theorem dksX7_ruleFor_0 : cX7_ruleFor.data.toList.drop 0 = dktX7_ruleFor_0 := by decide +kernel
theorem dksX7_ruleFor_1 : cX7_ruleFor.data.toList.drop 24 = dktX7_ruleFor_1 := dk_seg dksX7_ruleFor_0 24 rfl rfl
theorem dksX7_ruleFor_2 : cX7_ruleFor.data.toList.drop 46 = dktX7_ruleFor_2 := dk_seg dksX7_ruleFor_1 22 rfl rfl
theorem dksX7_ruleFor_3 : cX7_ruleFor.data.toList.drop 68 = dktX7_ruleFor_3 := dk_seg dksX7_ruleFor_2 22 rfl rfl
theorem dksX7_ruleFor_4 : cX7_ruleFor.data.toList.drop 92 = dktX7_ruleFor_4 := dk_seg dksX7_ruleFor_3 24 rfl rfl
theorem dksX7_ruleFor_5 : cX7_ruleFor.data.toList.drop 116 = dktX7_ruleFor_5 := dk_seg dksX7_ruleFor_4 24 rfl rfl
theorem dX7_ruleFor_0 : decode cX7_ruleFor 0 = .ok (.aload_n 0, 1) := dk_42 (dk_at dksX7_ruleFor_0 0 rfl rfl)
theorem dX7_ruleFor_1 : decode cX7_ruleFor 1 = .ok (.iload_n 1, 1) := dk_27 (dk_at dksX7_ruleFor_0 1 rfl rfl)
theorem dX7_ruleFor_2 : decode cX7_ruleFor 2 = .ok (.iload_n 2, 1) := dk_28 (dk_at dksX7_ruleFor_0 2 rfl rfl)
theorem dX7_ruleFor_3 : decode cX7_ruleFor 3 = .ok (.iload_n 3, 1) := dk_29 (dk_at dksX7_ruleFor_0 3 rfl rfl)
theorem dX7_ruleFor_4 : decode cX7_ruleFor 4 = .ok (.invokevirtual 342, 3) := dk_182 1 86 (dk_at dksX7_ruleFor_0 4 rfl rfl)
theorem dX7_ruleFor_7 : decode cX7_ruleFor 7 = .ok (.ifCond .eq 24, 3) := dk_153 0 24 (dk_at dksX7_ruleFor_0 7 rfl rfl)
theorem dX7_ruleFor_10 : decode cX7_ruleFor 10 = .ok (.iload 4, 2) := dk_21 4 (dk_at dksX7_ruleFor_0 10 rfl rfl)
theorem dX7_ruleFor_12 : decode cX7_ruleFor 12 = .ok (.iconst 1, 1) := dk_4 (dk_at dksX7_ruleFor_0 12 rfl rfl)
theorem dX7_ruleFor_13 : decode cX7_ruleFor 13 = .ok (.bipush 9, 2) := dk_16 9 (dk_at dksX7_ruleFor_0 13 rfl rfl)
theorem dX7_ruleFor_15 : decode cX7_ruleFor 15 = .ok (.invokestatic 126, 3) := dk_184 0 126 (dk_at dksX7_ruleFor_0 15 rfl rfl)
theorem dX7_ruleFor_18 : decode cX7_ruleFor 18 = .ok (.ifCond .eq 13, 3) := dk_153 0 13 (dk_at dksX7_ruleFor_0 18 rfl rfl)
theorem dX7_ruleFor_21 : decode cX7_ruleFor 21 = .ok (.iload 5, 2) := dk_21 5 (dk_at dksX7_ruleFor_0 21 rfl rfl)
theorem dX7_ruleFor_23 : decode cX7_ruleFor 23 = .ok (.iconst 0, 1) := dk_3 (dk_at dksX7_ruleFor_0 23 rfl rfl)
theorem dX7_ruleFor_24 : decode cX7_ruleFor 24 = .ok (.iconst 1, 1) := dk_4 (dk_at dksX7_ruleFor_1 0 rfl rfl)
theorem dX7_ruleFor_25 : decode cX7_ruleFor 25 = .ok (.invokestatic 126, 3) := dk_184 0 126 (dk_at dksX7_ruleFor_1 1 rfl rfl)
theorem dX7_ruleFor_28 : decode cX7_ruleFor 28 = .ok (.ifCond .ne 7, 3) := dk_154 0 7 (dk_at dksX7_ruleFor_1 4 rfl rfl)
theorem dX7_ruleFor_31 : decode cX7_ruleFor 31 = .ok (.ldc2_w 345, 3) := dk_20 1 89 (dk_at dksX7_ruleFor_1 7 rfl rfl)
theorem dX7_ruleFor_34 : decode cX7_ruleFor 34 = .ok (.lreturn, 1) := dk_173 (dk_at dksX7_ruleFor_1 10 rfl rfl)
theorem dX7_ruleFor_35 : decode cX7_ruleFor 35 = .ok (.iconst 0, 1) := dk_3 (dk_at dksX7_ruleFor_1 11 rfl rfl)
theorem dX7_ruleFor_36 : decode cX7_ruleFor 36 = .ok (.istore 6, 2) := dk_54 6 (dk_at dksX7_ruleFor_1 12 rfl rfl)
theorem dX7_ruleFor_38 : decode cX7_ruleFor 38 = .ok (.ldc2_w 345, 3) := dk_20 1 89 (dk_at dksX7_ruleFor_1 14 rfl rfl)
theorem dX7_ruleFor_41 : decode cX7_ruleFor 41 = .ok (.lstore 7, 2) := dk_55 7 (dk_at dksX7_ruleFor_1 17 rfl rfl)
theorem dX7_ruleFor_43 : decode cX7_ruleFor 43 = .ok (.aload_n 0, 1) := dk_42 (dk_at dksX7_ruleFor_1 19 rfl rfl)
theorem dX7_ruleFor_44 : decode cX7_ruleFor 44 = .ok (.iload 4, 2) := dk_21 4 (dk_at dksX7_ruleFor_1 20 rfl rfl)
theorem dX7_ruleFor_46 : decode cX7_ruleFor 46 = .ok (.putfield 108, 3) := dk_181 0 108 (dk_at dksX7_ruleFor_2 0 rfl rfl)
theorem dX7_ruleFor_49 : decode cX7_ruleFor 49 = .ok (.iconst 0, 1) := dk_3 (dk_at dksX7_ruleFor_2 3 rfl rfl)
theorem dX7_ruleFor_50 : decode cX7_ruleFor 50 = .ok (.istore 9, 2) := dk_54 9 (dk_at dksX7_ruleFor_2 4 rfl rfl)
theorem dX7_ruleFor_52 : decode cX7_ruleFor 52 = .ok (.iload 9, 2) := dk_21 9 (dk_at dksX7_ruleFor_2 6 rfl rfl)
theorem dX7_ruleFor_54 : decode cX7_ruleFor 54 = .ok (.bipush 24, 2) := dk_16 24 (dk_at dksX7_ruleFor_2 8 rfl rfl)
theorem dX7_ruleFor_56 : decode cX7_ruleFor 56 = .ok (.if_icmp .gt 42, 3) := dk_163 0 42 (dk_at dksX7_ruleFor_2 10 rfl rfl)
theorem dX7_ruleFor_59 : decode cX7_ruleFor 59 = .ok (.aload_n 0, 1) := dk_42 (dk_at dksX7_ruleFor_2 13 rfl rfl)
theorem dX7_ruleFor_60 : decode cX7_ruleFor 60 = .ok (.iload 9, 2) := dk_21 9 (dk_at dksX7_ruleFor_2 14 rfl rfl)
theorem dX7_ruleFor_62 : decode cX7_ruleFor 62 = .ok (.putfield 310, 3) := dk_181 1 54 (dk_at dksX7_ruleFor_2 16 rfl rfl)
theorem dX7_ruleFor_65 : decode cX7_ruleFor 65 = .ok (.aload_n 0, 1) := dk_42 (dk_at dksX7_ruleFor_2 19 rfl rfl)
theorem dX7_ruleFor_66 : decode cX7_ruleFor 66 = .ok (.iload_n 2, 1) := dk_28 (dk_at dksX7_ruleFor_2 20 rfl rfl)
theorem dX7_ruleFor_67 : decode cX7_ruleFor 67 = .ok (.iload_n 3, 1) := dk_29 (dk_at dksX7_ruleFor_2 21 rfl rfl)
theorem dX7_ruleFor_68 : decode cX7_ruleFor 68 = .ok (.invokevirtual 347, 3) := dk_182 1 91 (dk_at dksX7_ruleFor_3 0 rfl rfl)
theorem dX7_ruleFor_71 : decode cX7_ruleFor 71 = .ok (.lstore 10, 2) := dk_55 10 (dk_at dksX7_ruleFor_3 3 rfl rfl)
theorem dX7_ruleFor_73 : decode cX7_ruleFor 73 = .ok (.lload 10, 2) := dk_22 10 (dk_at dksX7_ruleFor_3 5 rfl rfl)
theorem dX7_ruleFor_75 : decode cX7_ruleFor 75 = .ok (.lload 7, 2) := dk_22 7 (dk_at dksX7_ruleFor_3 7 rfl rfl)
theorem dX7_ruleFor_77 : decode cX7_ruleFor 77 = .ok (.lcmp, 1) := dk_148 (dk_at dksX7_ruleFor_3 9 rfl rfl)
theorem dX7_ruleFor_78 : decode cX7_ruleFor 78 = .ok (.ifCond .gt 6, 3) := dk_157 0 6 (dk_at dksX7_ruleFor_3 10 rfl rfl)
theorem dX7_ruleFor_81 : decode cX7_ruleFor 81 = .ok (.goto 11, 3) := dk_167 0 11 (dk_at dksX7_ruleFor_3 13 rfl rfl)
theorem dX7_ruleFor_84 : decode cX7_ruleFor 84 = .ok (.lload 10, 2) := dk_22 10 (dk_at dksX7_ruleFor_3 16 rfl rfl)
theorem dX7_ruleFor_86 : decode cX7_ruleFor 86 = .ok (.lstore 7, 2) := dk_55 7 (dk_at dksX7_ruleFor_3 18 rfl rfl)
theorem dX7_ruleFor_88 : decode cX7_ruleFor 88 = .ok (.iload 9, 2) := dk_21 9 (dk_at dksX7_ruleFor_3 20 rfl rfl)
theorem dX7_ruleFor_90 : decode cX7_ruleFor 90 = .ok (.istore 6, 2) := dk_54 6 (dk_at dksX7_ruleFor_3 22 rfl rfl)
theorem dX7_ruleFor_92 : decode cX7_ruleFor 92 = .ok (.iinc 9 1, 3) := dk_132 9 1 (dk_at dksX7_ruleFor_4 0 rfl rfl)
theorem dX7_ruleFor_95 : decode cX7_ruleFor 95 = .ok (.goto (-43), 3) := dk_167 255 213 (dk_at dksX7_ruleFor_4 3 rfl rfl)
theorem dX7_ruleFor_98 : decode cX7_ruleFor 98 = .ok (.aload_n 0, 1) := dk_42 (dk_at dksX7_ruleFor_4 6 rfl rfl)
theorem dX7_ruleFor_99 : decode cX7_ruleFor 99 = .ok (.iconst (-1), 1) := dk_2 (dk_at dksX7_ruleFor_4 7 rfl rfl)
theorem dX7_ruleFor_100 : decode cX7_ruleFor 100 = .ok (.putfield 108, 3) := dk_181 0 108 (dk_at dksX7_ruleFor_4 8 rfl rfl)
theorem dX7_ruleFor_103 : decode cX7_ruleFor 103 = .ok (.iload 5, 2) := dk_21 5 (dk_at dksX7_ruleFor_4 11 rfl rfl)
theorem dX7_ruleFor_105 : decode cX7_ruleFor 105 = .ok (.ifCond .ne 9, 3) := dk_154 0 9 (dk_at dksX7_ruleFor_4 13 rfl rfl)
theorem dX7_ruleFor_108 : decode cX7_ruleFor 108 = .ok (.iload 6, 2) := dk_21 6 (dk_at dksX7_ruleFor_4 16 rfl rfl)
theorem dX7_ruleFor_110 : decode cX7_ruleFor 110 = .ok (.i2l, 1) := dk_133 (dk_at dksX7_ruleFor_4 18 rfl rfl)
theorem dX7_ruleFor_111 : decode cX7_ruleFor 111 = .ok (.goto 5, 3) := dk_167 0 5 (dk_at dksX7_ruleFor_4 19 rfl rfl)
theorem dX7_ruleFor_114 : decode cX7_ruleFor 114 = .ok (.lload 7, 2) := dk_22 7 (dk_at dksX7_ruleFor_4 22 rfl rfl)
theorem dX7_ruleFor_116 : decode cX7_ruleFor 116 = .ok (.lreturn, 1) := dk_173 (dk_at dksX7_ruleFor_5 0 rfl rfl)
abbrev cX7_lasts : ByteArray := prog_19_method_76_code
def yX7_lasts : MethodName := ⟨RX7, "lasts", "(II)I"⟩
def dkwX7_lasts_1 : List UInt8 := [182, 1, 97, 172]
abbrev dktX7_lasts_1 : List UInt8 := dkwX7_lasts_1 ++ []
def dkwX7_lasts_0 : List UInt8 := [42, 27, 182, 0, 130, 153, 0, 13, 28, 3, 16, 24, 184, 0, 126, 154, 0, 5, 2, 172, 42, 27, 28]
abbrev dktX7_lasts_0 : List UInt8 := dkwX7_lasts_0 ++ dktX7_lasts_1
theorem dksX7_lasts_0 : cX7_lasts.data.toList.drop 0 = dktX7_lasts_0 := by decide +kernel
theorem dksX7_lasts_1 : cX7_lasts.data.toList.drop 23 = dktX7_lasts_1 := dk_seg dksX7_lasts_0 23 rfl rfl
theorem dX7_lasts_0 : decode cX7_lasts 0 = .ok (.aload_n 0, 1) := dk_42 (dk_at dksX7_lasts_0 0 rfl rfl)
theorem dX7_lasts_1 : decode cX7_lasts 1 = .ok (.iload_n 1, 1) := dk_27 (dk_at dksX7_lasts_0 1 rfl rfl)
theorem dX7_lasts_2 : decode cX7_lasts 2 = .ok (.invokevirtual 130, 3) := dk_182 0 130 (dk_at dksX7_lasts_0 2 rfl rfl)
theorem dX7_lasts_5 : decode cX7_lasts 5 = .ok (.ifCond .eq 13, 3) := dk_153 0 13 (dk_at dksX7_lasts_0 5 rfl rfl)
theorem dX7_lasts_8 : decode cX7_lasts 8 = .ok (.iload_n 2, 1) := dk_28 (dk_at dksX7_lasts_0 8 rfl rfl)
theorem dX7_lasts_9 : decode cX7_lasts 9 = .ok (.iconst 0, 1) := dk_3 (dk_at dksX7_lasts_0 9 rfl rfl)
theorem dX7_lasts_10 : decode cX7_lasts 10 = .ok (.bipush 24, 2) := dk_16 24 (dk_at dksX7_lasts_0 10 rfl rfl)
theorem dX7_lasts_12 : decode cX7_lasts 12 = .ok (.invokestatic 126, 3) := dk_184 0 126 (dk_at dksX7_lasts_0 12 rfl rfl)
theorem dX7_lasts_15 : decode cX7_lasts 15 = .ok (.ifCond .ne 5, 3) := dk_154 0 5 (dk_at dksX7_lasts_0 15 rfl rfl)
theorem dX7_lasts_18 : decode cX7_lasts 18 = .ok (.iconst (-1), 1) := dk_2 (dk_at dksX7_lasts_0 18 rfl rfl)
theorem dX7_lasts_19 : decode cX7_lasts 19 = .ok (.ireturn, 1) := dk_172 (dk_at dksX7_lasts_0 19 rfl rfl)
theorem dX7_lasts_20 : decode cX7_lasts 20 = .ok (.aload_n 0, 1) := dk_42 (dk_at dksX7_lasts_0 20 rfl rfl)
theorem dX7_lasts_21 : decode cX7_lasts 21 = .ok (.iload_n 1, 1) := dk_27 (dk_at dksX7_lasts_0 21 rfl rfl)
theorem dX7_lasts_22 : decode cX7_lasts 22 = .ok (.iload_n 2, 1) := dk_28 (dk_at dksX7_lasts_0 22 rfl rfl)
theorem dX7_lasts_23 : decode cX7_lasts 23 = .ok (.invokevirtual 353, 3) := dk_182 1 97 (dk_at dksX7_lasts_1 0 rfl rfl)
theorem dX7_lasts_26 : decode cX7_lasts 26 = .ok (.ireturn, 1) := dk_172 (dk_at dksX7_lasts_1 3 rfl rfl)
abbrev cX7_lastsWith : ByteArray := prog_19_method_75_code
def yX7_lastsWith : MethodName := ⟨RX7, "lastsWith", "(II)I"⟩
def dkwX7_lastsWith_4 : List UInt8 := [184, 1, 38, 29, 172]
abbrev dktX7_lastsWith_4 : List UInt8 := dkwX7_lastsWith_4 ++ []
def dkwX7_lastsWith_3 : List UInt8 := [180, 0, 7, 16, 79, 46, 4, 96, 79, 29, 4, 96, 62, 167, 255, 213, 42, 180, 0, 13, 42, 180, 0, 7]
abbrev dktX7_lastsWith_3 : List UInt8 := dkwX7_lastsWith_3 ++ dktX7_lastsWith_4
def dkwX7_lastsWith_2 : List UInt8 := [42, 27, 3, 182, 1, 28, 42, 27, 182, 0, 130, 154, 0, 6, 167, 0, 26, 42, 180, 0, 7, 16, 79, 42]
abbrev dktX7_lastsWith_2 : List UInt8 := dkwX7_lastsWith_2 ++ dktX7_lastsWith_3
def dkwX7_lastsWith_1 : List UInt8 := [96, 46, 42, 180, 0, 7, 7, 27, 96, 46, 28, 96, 184, 0, 133, 79, 3, 62, 29, 16, 60, 162, 0, 43]
abbrev dktX7_lastsWith_1 : List UInt8 := dkwX7_lastsWith_1 ++ dktX7_lastsWith_2
def dkwX7_lastsWith_0 : List UInt8 := [42, 180, 0, 7, 42, 180, 0, 13, 184, 1, 38, 42, 180, 0, 7, 7, 27, 96, 42, 180, 0, 7, 3, 27]
abbrev dktX7_lastsWith_0 : List UInt8 := dkwX7_lastsWith_0 ++ dktX7_lastsWith_1
theorem dksX7_lastsWith_0 : cX7_lastsWith.data.toList.drop 0 = dktX7_lastsWith_0 := by decide +kernel
theorem dksX7_lastsWith_1 : cX7_lastsWith.data.toList.drop 24 = dktX7_lastsWith_1 := dk_seg dksX7_lastsWith_0 24 rfl rfl
theorem dksX7_lastsWith_2 : cX7_lastsWith.data.toList.drop 48 = dktX7_lastsWith_2 := dk_seg dksX7_lastsWith_1 24 rfl rfl
theorem dksX7_lastsWith_3 : cX7_lastsWith.data.toList.drop 72 = dktX7_lastsWith_3 := dk_seg dksX7_lastsWith_2 24 rfl rfl
theorem dksX7_lastsWith_4 : cX7_lastsWith.data.toList.drop 96 = dktX7_lastsWith_4 := dk_seg dksX7_lastsWith_3 24 rfl rfl
theorem dX7_lastsWith_0 : decode cX7_lastsWith 0 = .ok (.aload_n 0, 1) := dk_42 (dk_at dksX7_lastsWith_0 0 rfl rfl)
theorem dX7_lastsWith_1 : decode cX7_lastsWith 1 = .ok (.getfield 7, 3) := dk_180 0 7 (dk_at dksX7_lastsWith_0 1 rfl rfl)
theorem dX7_lastsWith_4 : decode cX7_lastsWith 4 = .ok (.aload_n 0, 1) := dk_42 (dk_at dksX7_lastsWith_0 4 rfl rfl)
theorem dX7_lastsWith_5 : decode cX7_lastsWith 5 = .ok (.getfield 13, 3) := dk_180 0 13 (dk_at dksX7_lastsWith_0 5 rfl rfl)
theorem dX7_lastsWith_8 : decode cX7_lastsWith 8 = .ok (.invokestatic 294, 3) := dk_184 1 38 (dk_at dksX7_lastsWith_0 8 rfl rfl)
theorem dX7_lastsWith_11 : decode cX7_lastsWith 11 = .ok (.aload_n 0, 1) := dk_42 (dk_at dksX7_lastsWith_0 11 rfl rfl)
theorem dX7_lastsWith_12 : decode cX7_lastsWith 12 = .ok (.getfield 7, 3) := dk_180 0 7 (dk_at dksX7_lastsWith_0 12 rfl rfl)
theorem dX7_lastsWith_15 : decode cX7_lastsWith 15 = .ok (.iconst 4, 1) := dk_7 (dk_at dksX7_lastsWith_0 15 rfl rfl)
theorem dX7_lastsWith_16 : decode cX7_lastsWith 16 = .ok (.iload_n 1, 1) := dk_27 (dk_at dksX7_lastsWith_0 16 rfl rfl)
theorem dX7_lastsWith_17 : decode cX7_lastsWith 17 = .ok (.iadd, 1) := dk_96 (dk_at dksX7_lastsWith_0 17 rfl rfl)
theorem dX7_lastsWith_18 : decode cX7_lastsWith 18 = .ok (.aload_n 0, 1) := dk_42 (dk_at dksX7_lastsWith_0 18 rfl rfl)
theorem dX7_lastsWith_19 : decode cX7_lastsWith 19 = .ok (.getfield 7, 3) := dk_180 0 7 (dk_at dksX7_lastsWith_0 19 rfl rfl)
theorem dX7_lastsWith_22 : decode cX7_lastsWith 22 = .ok (.iconst 0, 1) := dk_3 (dk_at dksX7_lastsWith_0 22 rfl rfl)
theorem dX7_lastsWith_23 : decode cX7_lastsWith 23 = .ok (.iload_n 1, 1) := dk_27 (dk_at dksX7_lastsWith_0 23 rfl rfl)
theorem dX7_lastsWith_24 : decode cX7_lastsWith 24 = .ok (.iadd, 1) := dk_96 (dk_at dksX7_lastsWith_1 0 rfl rfl)
theorem dX7_lastsWith_25 : decode cX7_lastsWith 25 = .ok (.iaload, 1) := dk_46 (dk_at dksX7_lastsWith_1 1 rfl rfl)
theorem dX7_lastsWith_26 : decode cX7_lastsWith 26 = .ok (.aload_n 0, 1) := dk_42 (dk_at dksX7_lastsWith_1 2 rfl rfl)
theorem dX7_lastsWith_27 : decode cX7_lastsWith 27 = .ok (.getfield 7, 3) := dk_180 0 7 (dk_at dksX7_lastsWith_1 3 rfl rfl)
theorem dX7_lastsWith_30 : decode cX7_lastsWith 30 = .ok (.iconst 4, 1) := dk_7 (dk_at dksX7_lastsWith_1 6 rfl rfl)
theorem dX7_lastsWith_31 : decode cX7_lastsWith 31 = .ok (.iload_n 1, 1) := dk_27 (dk_at dksX7_lastsWith_1 7 rfl rfl)
theorem dX7_lastsWith_32 : decode cX7_lastsWith 32 = .ok (.iadd, 1) := dk_96 (dk_at dksX7_lastsWith_1 8 rfl rfl)
theorem dX7_lastsWith_33 : decode cX7_lastsWith 33 = .ok (.iaload, 1) := dk_46 (dk_at dksX7_lastsWith_1 9 rfl rfl)
theorem dX7_lastsWith_34 : decode cX7_lastsWith 34 = .ok (.iload_n 2, 1) := dk_28 (dk_at dksX7_lastsWith_1 10 rfl rfl)
theorem dX7_lastsWith_35 : decode cX7_lastsWith 35 = .ok (.iadd, 1) := dk_96 (dk_at dksX7_lastsWith_1 11 rfl rfl)
theorem dX7_lastsWith_36 : decode cX7_lastsWith 36 = .ok (.invokestatic 133, 3) := dk_184 0 133 (dk_at dksX7_lastsWith_1 12 rfl rfl)
theorem dX7_lastsWith_39 : decode cX7_lastsWith 39 = .ok (.iastore, 1) := dk_79 (dk_at dksX7_lastsWith_1 15 rfl rfl)
theorem dX7_lastsWith_40 : decode cX7_lastsWith 40 = .ok (.iconst 0, 1) := dk_3 (dk_at dksX7_lastsWith_1 16 rfl rfl)
theorem dX7_lastsWith_41 : decode cX7_lastsWith 41 = .ok (.istore_n 3, 1) := dk_62 (dk_at dksX7_lastsWith_1 17 rfl rfl)
theorem dX7_lastsWith_42 : decode cX7_lastsWith 42 = .ok (.iload_n 3, 1) := dk_29 (dk_at dksX7_lastsWith_1 18 rfl rfl)
theorem dX7_lastsWith_43 : decode cX7_lastsWith 43 = .ok (.bipush 60, 2) := dk_16 60 (dk_at dksX7_lastsWith_1 19 rfl rfl)
theorem dX7_lastsWith_45 : decode cX7_lastsWith 45 = .ok (.if_icmp .ge 43, 3) := dk_162 0 43 (dk_at dksX7_lastsWith_1 21 rfl rfl)
theorem dX7_lastsWith_48 : decode cX7_lastsWith 48 = .ok (.aload_n 0, 1) := dk_42 (dk_at dksX7_lastsWith_2 0 rfl rfl)
theorem dX7_lastsWith_49 : decode cX7_lastsWith 49 = .ok (.iload_n 1, 1) := dk_27 (dk_at dksX7_lastsWith_2 1 rfl rfl)
theorem dX7_lastsWith_50 : decode cX7_lastsWith 50 = .ok (.iconst 0, 1) := dk_3 (dk_at dksX7_lastsWith_2 2 rfl rfl)
theorem dX7_lastsWith_51 : decode cX7_lastsWith 51 = .ok (.invokevirtual 284, 3) := dk_182 1 28 (dk_at dksX7_lastsWith_2 3 rfl rfl)
theorem dX7_lastsWith_54 : decode cX7_lastsWith 54 = .ok (.aload_n 0, 1) := dk_42 (dk_at dksX7_lastsWith_2 6 rfl rfl)
theorem dX7_lastsWith_55 : decode cX7_lastsWith 55 = .ok (.iload_n 1, 1) := dk_27 (dk_at dksX7_lastsWith_2 7 rfl rfl)
theorem dX7_lastsWith_56 : decode cX7_lastsWith 56 = .ok (.invokevirtual 130, 3) := dk_182 0 130 (dk_at dksX7_lastsWith_2 8 rfl rfl)
theorem dX7_lastsWith_59 : decode cX7_lastsWith 59 = .ok (.ifCond .ne 6, 3) := dk_154 0 6 (dk_at dksX7_lastsWith_2 11 rfl rfl)
theorem dX7_lastsWith_62 : decode cX7_lastsWith 62 = .ok (.goto 26, 3) := dk_167 0 26 (dk_at dksX7_lastsWith_2 14 rfl rfl)
theorem dX7_lastsWith_65 : decode cX7_lastsWith 65 = .ok (.aload_n 0, 1) := dk_42 (dk_at dksX7_lastsWith_2 17 rfl rfl)
theorem dX7_lastsWith_66 : decode cX7_lastsWith 66 = .ok (.getfield 7, 3) := dk_180 0 7 (dk_at dksX7_lastsWith_2 18 rfl rfl)
theorem dX7_lastsWith_69 : decode cX7_lastsWith 69 = .ok (.bipush 79, 2) := dk_16 79 (dk_at dksX7_lastsWith_2 21 rfl rfl)
theorem dX7_lastsWith_71 : decode cX7_lastsWith 71 = .ok (.aload_n 0, 1) := dk_42 (dk_at dksX7_lastsWith_2 23 rfl rfl)
theorem dX7_lastsWith_72 : decode cX7_lastsWith 72 = .ok (.getfield 7, 3) := dk_180 0 7 (dk_at dksX7_lastsWith_3 0 rfl rfl)
theorem dX7_lastsWith_75 : decode cX7_lastsWith 75 = .ok (.bipush 79, 2) := dk_16 79 (dk_at dksX7_lastsWith_3 3 rfl rfl)
theorem dX7_lastsWith_77 : decode cX7_lastsWith 77 = .ok (.iaload, 1) := dk_46 (dk_at dksX7_lastsWith_3 5 rfl rfl)
theorem dX7_lastsWith_78 : decode cX7_lastsWith 78 = .ok (.iconst 1, 1) := dk_4 (dk_at dksX7_lastsWith_3 6 rfl rfl)
theorem dX7_lastsWith_79 : decode cX7_lastsWith 79 = .ok (.iadd, 1) := dk_96 (dk_at dksX7_lastsWith_3 7 rfl rfl)
theorem dX7_lastsWith_80 : decode cX7_lastsWith 80 = .ok (.iastore, 1) := dk_79 (dk_at dksX7_lastsWith_3 8 rfl rfl)
theorem dX7_lastsWith_81 : decode cX7_lastsWith 81 = .ok (.iload_n 3, 1) := dk_29 (dk_at dksX7_lastsWith_3 9 rfl rfl)
theorem dX7_lastsWith_82 : decode cX7_lastsWith 82 = .ok (.iconst 1, 1) := dk_4 (dk_at dksX7_lastsWith_3 10 rfl rfl)
theorem dX7_lastsWith_83 : decode cX7_lastsWith 83 = .ok (.iadd, 1) := dk_96 (dk_at dksX7_lastsWith_3 11 rfl rfl)
theorem dX7_lastsWith_84 : decode cX7_lastsWith 84 = .ok (.istore_n 3, 1) := dk_62 (dk_at dksX7_lastsWith_3 12 rfl rfl)
theorem dX7_lastsWith_85 : decode cX7_lastsWith 85 = .ok (.goto (-43), 3) := dk_167 255 213 (dk_at dksX7_lastsWith_3 13 rfl rfl)
theorem dX7_lastsWith_88 : decode cX7_lastsWith 88 = .ok (.aload_n 0, 1) := dk_42 (dk_at dksX7_lastsWith_3 16 rfl rfl)
theorem dX7_lastsWith_89 : decode cX7_lastsWith 89 = .ok (.getfield 13, 3) := dk_180 0 13 (dk_at dksX7_lastsWith_3 17 rfl rfl)
theorem dX7_lastsWith_92 : decode cX7_lastsWith 92 = .ok (.aload_n 0, 1) := dk_42 (dk_at dksX7_lastsWith_3 20 rfl rfl)
theorem dX7_lastsWith_93 : decode cX7_lastsWith 93 = .ok (.getfield 7, 3) := dk_180 0 7 (dk_at dksX7_lastsWith_3 21 rfl rfl)
theorem dX7_lastsWith_96 : decode cX7_lastsWith 96 = .ok (.invokestatic 294, 3) := dk_184 1 38 (dk_at dksX7_lastsWith_4 0 rfl rfl)
theorem dX7_lastsWith_99 : decode cX7_lastsWith 99 = .ok (.iload_n 3, 1) := dk_29 (dk_at dksX7_lastsWith_4 3 rfl rfl)
theorem dX7_lastsWith_100 : decode cX7_lastsWith 100 = .ok (.ireturn, 1) := dk_172 (dk_at dksX7_lastsWith_4 4 rfl rfl)
abbrev cX7_spread : ByteArray := prog_19_method_80_code
def yX7_spread : MethodName := ⟨RX7, "spread", "(II)I"⟩
def dkwX7_spread_3 : List UInt8 := [180, 0, 93, 28, 46, 172]
abbrev dktX7_spread_3 : List UInt8 := dkwX7_spread_3 ++ []
def dkwX7_spread_2 : List UInt8 := [154, 0, 6, 16, 254, 172, 42, 27, 182, 1, 106, 62, 28, 16, 10, 160, 0, 7, 29, 167, 0, 9, 42]
abbrev dktX7_spread_2 : List UInt8 := dkwX7_spread_2 ++ dktX7_spread_3
def dkwX7_spread_1 : List UInt8 := [154, 0, 5, 2, 172, 42, 180, 0, 7, 16, 76, 46, 42, 180, 0, 7, 16, 77, 46, 2, 130, 126]
abbrev dktX7_spread_1 : List UInt8 := dkwX7_spread_1 ++ dktX7_spread_2
def dkwX7_spread_0 : List UInt8 := [27, 3, 16, 24, 184, 0, 126, 153, 0, 18, 28, 16, 10, 159, 0, 14, 28, 3, 6, 184, 0, 126]
abbrev dktX7_spread_0 : List UInt8 := dkwX7_spread_0 ++ dktX7_spread_1
theorem dksX7_spread_0 : cX7_spread.data.toList.drop 0 = dktX7_spread_0 := by decide +kernel
theorem dksX7_spread_1 : cX7_spread.data.toList.drop 22 = dktX7_spread_1 := dk_seg dksX7_spread_0 22 rfl rfl
theorem dksX7_spread_2 : cX7_spread.data.toList.drop 44 = dktX7_spread_2 := dk_seg dksX7_spread_1 22 rfl rfl
theorem dksX7_spread_3 : cX7_spread.data.toList.drop 67 = dktX7_spread_3 := dk_seg dksX7_spread_2 23 rfl rfl
theorem dX7_spread_0 : decode cX7_spread 0 = .ok (.iload_n 1, 1) := dk_27 (dk_at dksX7_spread_0 0 rfl rfl)
theorem dX7_spread_1 : decode cX7_spread 1 = .ok (.iconst 0, 1) := dk_3 (dk_at dksX7_spread_0 1 rfl rfl)
theorem dX7_spread_2 : decode cX7_spread 2 = .ok (.bipush 24, 2) := dk_16 24 (dk_at dksX7_spread_0 2 rfl rfl)
theorem dX7_spread_4 : decode cX7_spread 4 = .ok (.invokestatic 126, 3) := dk_184 0 126 (dk_at dksX7_spread_0 4 rfl rfl)
theorem dX7_spread_7 : decode cX7_spread 7 = .ok (.ifCond .eq 18, 3) := dk_153 0 18 (dk_at dksX7_spread_0 7 rfl rfl)
theorem dX7_spread_10 : decode cX7_spread 10 = .ok (.iload_n 2, 1) := dk_28 (dk_at dksX7_spread_0 10 rfl rfl)
theorem dX7_spread_11 : decode cX7_spread 11 = .ok (.bipush 10, 2) := dk_16 10 (dk_at dksX7_spread_0 11 rfl rfl)
theorem dX7_spread_13 : decode cX7_spread 13 = .ok (.if_icmp .eq 14, 3) := dk_159 0 14 (dk_at dksX7_spread_0 13 rfl rfl)
theorem dX7_spread_16 : decode cX7_spread 16 = .ok (.iload_n 2, 1) := dk_28 (dk_at dksX7_spread_0 16 rfl rfl)
theorem dX7_spread_17 : decode cX7_spread 17 = .ok (.iconst 0, 1) := dk_3 (dk_at dksX7_spread_0 17 rfl rfl)
theorem dX7_spread_18 : decode cX7_spread 18 = .ok (.iconst 3, 1) := dk_6 (dk_at dksX7_spread_0 18 rfl rfl)
theorem dX7_spread_19 : decode cX7_spread 19 = .ok (.invokestatic 126, 3) := dk_184 0 126 (dk_at dksX7_spread_0 19 rfl rfl)
theorem dX7_spread_22 : decode cX7_spread 22 = .ok (.ifCond .ne 5, 3) := dk_154 0 5 (dk_at dksX7_spread_1 0 rfl rfl)
theorem dX7_spread_25 : decode cX7_spread 25 = .ok (.iconst (-1), 1) := dk_2 (dk_at dksX7_spread_1 3 rfl rfl)
theorem dX7_spread_26 : decode cX7_spread 26 = .ok (.ireturn, 1) := dk_172 (dk_at dksX7_spread_1 4 rfl rfl)
theorem dX7_spread_27 : decode cX7_spread 27 = .ok (.aload_n 0, 1) := dk_42 (dk_at dksX7_spread_1 5 rfl rfl)
theorem dX7_spread_28 : decode cX7_spread 28 = .ok (.getfield 7, 3) := dk_180 0 7 (dk_at dksX7_spread_1 6 rfl rfl)
theorem dX7_spread_31 : decode cX7_spread 31 = .ok (.bipush 76, 2) := dk_16 76 (dk_at dksX7_spread_1 9 rfl rfl)
theorem dX7_spread_33 : decode cX7_spread 33 = .ok (.iaload, 1) := dk_46 (dk_at dksX7_spread_1 11 rfl rfl)
theorem dX7_spread_34 : decode cX7_spread 34 = .ok (.aload_n 0, 1) := dk_42 (dk_at dksX7_spread_1 12 rfl rfl)
theorem dX7_spread_35 : decode cX7_spread 35 = .ok (.getfield 7, 3) := dk_180 0 7 (dk_at dksX7_spread_1 13 rfl rfl)
theorem dX7_spread_38 : decode cX7_spread 38 = .ok (.bipush 77, 2) := dk_16 77 (dk_at dksX7_spread_1 16 rfl rfl)
theorem dX7_spread_40 : decode cX7_spread 40 = .ok (.iaload, 1) := dk_46 (dk_at dksX7_spread_1 18 rfl rfl)
theorem dX7_spread_41 : decode cX7_spread 41 = .ok (.iconst (-1), 1) := dk_2 (dk_at dksX7_spread_1 19 rfl rfl)
theorem dX7_spread_42 : decode cX7_spread 42 = .ok (.ixor, 1) := dk_130 (dk_at dksX7_spread_1 20 rfl rfl)
theorem dX7_spread_43 : decode cX7_spread 43 = .ok (.iand, 1) := dk_126 (dk_at dksX7_spread_1 21 rfl rfl)
theorem dX7_spread_44 : decode cX7_spread 44 = .ok (.ifCond .ne 6, 3) := dk_154 0 6 (dk_at dksX7_spread_2 0 rfl rfl)
theorem dX7_spread_47 : decode cX7_spread 47 = .ok (.bipush (-2), 2) := dk_16 254 (dk_at dksX7_spread_2 3 rfl rfl)
theorem dX7_spread_49 : decode cX7_spread 49 = .ok (.ireturn, 1) := dk_172 (dk_at dksX7_spread_2 5 rfl rfl)
theorem dX7_spread_50 : decode cX7_spread 50 = .ok (.aload_n 0, 1) := dk_42 (dk_at dksX7_spread_2 6 rfl rfl)
theorem dX7_spread_51 : decode cX7_spread 51 = .ok (.iload_n 1, 1) := dk_27 (dk_at dksX7_spread_2 7 rfl rfl)
theorem dX7_spread_52 : decode cX7_spread 52 = .ok (.invokevirtual 362, 3) := dk_182 1 106 (dk_at dksX7_spread_2 8 rfl rfl)
theorem dX7_spread_55 : decode cX7_spread 55 = .ok (.istore_n 3, 1) := dk_62 (dk_at dksX7_spread_2 11 rfl rfl)
theorem dX7_spread_56 : decode cX7_spread 56 = .ok (.iload_n 2, 1) := dk_28 (dk_at dksX7_spread_2 12 rfl rfl)
theorem dX7_spread_57 : decode cX7_spread 57 = .ok (.bipush 10, 2) := dk_16 10 (dk_at dksX7_spread_2 13 rfl rfl)
theorem dX7_spread_59 : decode cX7_spread 59 = .ok (.if_icmp .ne 7, 3) := dk_160 0 7 (dk_at dksX7_spread_2 15 rfl rfl)
theorem dX7_spread_62 : decode cX7_spread 62 = .ok (.iload_n 3, 1) := dk_29 (dk_at dksX7_spread_2 18 rfl rfl)
theorem dX7_spread_63 : decode cX7_spread 63 = .ok (.goto 9, 3) := dk_167 0 9 (dk_at dksX7_spread_2 19 rfl rfl)
theorem dX7_spread_66 : decode cX7_spread 66 = .ok (.aload_n 0, 1) := dk_42 (dk_at dksX7_spread_2 22 rfl rfl)
theorem dX7_spread_67 : decode cX7_spread 67 = .ok (.getfield 93, 3) := dk_180 0 93 (dk_at dksX7_spread_3 0 rfl rfl)
theorem dX7_spread_70 : decode cX7_spread 70 = .ok (.iload_n 2, 1) := dk_28 (dk_at dksX7_spread_3 3 rfl rfl)
theorem dX7_spread_71 : decode cX7_spread 71 = .ok (.iaload, 1) := dk_46 (dk_at dksX7_spread_3 4 rfl rfl)
theorem dX7_spread_72 : decode cX7_spread 72 = .ok (.ireturn, 1) := dk_172 (dk_at dksX7_spread_3 5 rfl rfl)
abbrev cX7_laysSpread : ByteArray := prog_19_method_79_code
def yX7_laysSpread : MethodName := ⟨RX7, "laysSpread", "(I)I"⟩
def dkwX7_laysSpread_8 : List UInt8 := [132, 5, 1, 167, 255, 151, 132, 4, 1, 167, 255, 134, 132, 3, 1, 167, 255, 120, 28, 172]
abbrev dktX7_laysSpread_8 : List UInt8 := dkwX7_laysSpread_8 ++ []
def dkwX7_laysSpread_7 : List UInt8 := [7, 162, 0, 23, 42, 180, 0, 93, 21, 6, 42, 180, 0, 90, 21, 6, 46, 79, 132, 6, 1, 167, 255, 233]
abbrev dktX7_laysSpread_7 : List UInt8 := dkwX7_laysSpread_7 ++ dktX7_laysSpread_8
def dkwX7_laysSpread_6 : List UInt8 := [153, 0, 48, 42, 182, 1, 103, 28, 163, 0, 6, 167, 0, 37, 42, 182, 1, 103, 61, 3, 54, 6, 21, 6]
abbrev dktX7_laysSpread_6 : List UInt8 := dkwX7_laysSpread_6 ++ dktX7_laysSpread_7
def dkwX7_laysSpread_5 : List UInt8 := [21, 5, 79, 42, 180, 0, 90, 6, 27, 29, 100, 21, 4, 100, 21, 5, 100, 79, 42, 27, 182, 1, 100]
abbrev dktX7_laysSpread_5 : List UInt8 := dkwX7_laysSpread_5 ++ dktX7_laysSpread_6
def dkwX7_laysSpread_4 : List UInt8 := [163, 0, 100, 42, 180, 0, 90, 3, 29, 79, 42, 180, 0, 90, 4, 21, 4, 79, 42, 180, 0, 90, 5]
abbrev dktX7_laysSpread_4 : List UInt8 := dkwX7_laysSpread_4 ++ dktX7_laysSpread_5
def dkwX7_laysSpread_3 : List UInt8 := [3, 54, 4, 29, 21, 4, 96, 27, 163, 0, 120, 3, 54, 5, 29, 21, 4, 96, 21, 5, 96, 27]
abbrev dktX7_laysSpread_3 : List UInt8 := dkwX7_laysSpread_3 ++ dktX7_laysSpread_4
def dkwX7_laysSpread_2 : List UInt8 := [167, 0, 4, 3, 79, 132, 4, 1, 167, 255, 215, 132, 3, 1, 167, 255, 201, 3, 62, 29, 27, 163, 0, 137]
abbrev dktX7_laysSpread_2 : List UInt8 := dkwX7_laysSpread_2 ++ dktX7_laysSpread_3
def dkwX7_laysSpread_1 : List UInt8 := [16, 25, 29, 104, 21, 4, 96, 42, 29, 182, 0, 130, 153, 0, 13, 42, 29, 21, 4, 182, 1, 97]
abbrev dktX7_laysSpread_1 : List UInt8 := dkwX7_laysSpread_1 ++ dktX7_laysSpread_2
def dkwX7_laysSpread_0 : List UInt8 := [2, 61, 3, 62, 29, 7, 162, 0, 56, 3, 54, 4, 21, 4, 16, 24, 163, 0, 40, 42, 180, 0, 87]
abbrev dktX7_laysSpread_0 : List UInt8 := dkwX7_laysSpread_0 ++ dktX7_laysSpread_1
theorem dksX7_laysSpread_0 : cX7_laysSpread.data.toList.drop 0 = dktX7_laysSpread_0 := by decide +kernel
theorem dksX7_laysSpread_1 : cX7_laysSpread.data.toList.drop 23 = dktX7_laysSpread_1 := dk_seg dksX7_laysSpread_0 23 rfl rfl
theorem dksX7_laysSpread_2 : cX7_laysSpread.data.toList.drop 45 = dktX7_laysSpread_2 := dk_seg dksX7_laysSpread_1 22 rfl rfl
theorem dksX7_laysSpread_3 : cX7_laysSpread.data.toList.drop 69 = dktX7_laysSpread_3 := dk_seg dksX7_laysSpread_2 24 rfl rfl
theorem dksX7_laysSpread_4 : cX7_laysSpread.data.toList.drop 91 = dktX7_laysSpread_4 := dk_seg dksX7_laysSpread_3 22 rfl rfl
theorem dksX7_laysSpread_5 : cX7_laysSpread.data.toList.drop 114 = dktX7_laysSpread_5 := dk_seg dksX7_laysSpread_4 23 rfl rfl
theorem dksX7_laysSpread_6 : cX7_laysSpread.data.toList.drop 137 = dktX7_laysSpread_6 := dk_seg dksX7_laysSpread_5 23 rfl rfl
theorem dksX7_laysSpread_7 : cX7_laysSpread.data.toList.drop 161 = dktX7_laysSpread_7 := dk_seg dksX7_laysSpread_6 24 rfl rfl
theorem dksX7_laysSpread_8 : cX7_laysSpread.data.toList.drop 185 = dktX7_laysSpread_8 := dk_seg dksX7_laysSpread_7 24 rfl rfl
theorem dX7_laysSpread_0 : decode cX7_laysSpread 0 = .ok (.iconst (-1), 1) := dk_2 (dk_at dksX7_laysSpread_0 0 rfl rfl)
theorem dX7_laysSpread_1 : decode cX7_laysSpread 1 = .ok (.istore_n 2, 1) := dk_61 (dk_at dksX7_laysSpread_0 1 rfl rfl)
theorem dX7_laysSpread_2 : decode cX7_laysSpread 2 = .ok (.iconst 0, 1) := dk_3 (dk_at dksX7_laysSpread_0 2 rfl rfl)
theorem dX7_laysSpread_3 : decode cX7_laysSpread 3 = .ok (.istore_n 3, 1) := dk_62 (dk_at dksX7_laysSpread_0 3 rfl rfl)
theorem dX7_laysSpread_4 : decode cX7_laysSpread 4 = .ok (.iload_n 3, 1) := dk_29 (dk_at dksX7_laysSpread_0 4 rfl rfl)
theorem dX7_laysSpread_5 : decode cX7_laysSpread 5 = .ok (.iconst 4, 1) := dk_7 (dk_at dksX7_laysSpread_0 5 rfl rfl)
theorem dX7_laysSpread_6 : decode cX7_laysSpread 6 = .ok (.if_icmp .ge 56, 3) := dk_162 0 56 (dk_at dksX7_laysSpread_0 6 rfl rfl)
theorem dX7_laysSpread_9 : decode cX7_laysSpread 9 = .ok (.iconst 0, 1) := dk_3 (dk_at dksX7_laysSpread_0 9 rfl rfl)
theorem dX7_laysSpread_10 : decode cX7_laysSpread 10 = .ok (.istore 4, 2) := dk_54 4 (dk_at dksX7_laysSpread_0 10 rfl rfl)
theorem dX7_laysSpread_12 : decode cX7_laysSpread 12 = .ok (.iload 4, 2) := dk_21 4 (dk_at dksX7_laysSpread_0 12 rfl rfl)
theorem dX7_laysSpread_14 : decode cX7_laysSpread 14 = .ok (.bipush 24, 2) := dk_16 24 (dk_at dksX7_laysSpread_0 14 rfl rfl)
theorem dX7_laysSpread_16 : decode cX7_laysSpread 16 = .ok (.if_icmp .gt 40, 3) := dk_163 0 40 (dk_at dksX7_laysSpread_0 16 rfl rfl)
theorem dX7_laysSpread_19 : decode cX7_laysSpread 19 = .ok (.aload_n 0, 1) := dk_42 (dk_at dksX7_laysSpread_0 19 rfl rfl)
theorem dX7_laysSpread_20 : decode cX7_laysSpread 20 = .ok (.getfield 87, 3) := dk_180 0 87 (dk_at dksX7_laysSpread_0 20 rfl rfl)
theorem dX7_laysSpread_23 : decode cX7_laysSpread 23 = .ok (.bipush 25, 2) := dk_16 25 (dk_at dksX7_laysSpread_1 0 rfl rfl)
theorem dX7_laysSpread_25 : decode cX7_laysSpread 25 = .ok (.iload_n 3, 1) := dk_29 (dk_at dksX7_laysSpread_1 2 rfl rfl)
theorem dX7_laysSpread_26 : decode cX7_laysSpread 26 = .ok (.imul, 1) := dk_104 (dk_at dksX7_laysSpread_1 3 rfl rfl)
theorem dX7_laysSpread_27 : decode cX7_laysSpread 27 = .ok (.iload 4, 2) := dk_21 4 (dk_at dksX7_laysSpread_1 4 rfl rfl)
theorem dX7_laysSpread_29 : decode cX7_laysSpread 29 = .ok (.iadd, 1) := dk_96 (dk_at dksX7_laysSpread_1 6 rfl rfl)
theorem dX7_laysSpread_30 : decode cX7_laysSpread 30 = .ok (.aload_n 0, 1) := dk_42 (dk_at dksX7_laysSpread_1 7 rfl rfl)
theorem dX7_laysSpread_31 : decode cX7_laysSpread 31 = .ok (.iload_n 3, 1) := dk_29 (dk_at dksX7_laysSpread_1 8 rfl rfl)
theorem dX7_laysSpread_32 : decode cX7_laysSpread 32 = .ok (.invokevirtual 130, 3) := dk_182 0 130 (dk_at dksX7_laysSpread_1 9 rfl rfl)
theorem dX7_laysSpread_35 : decode cX7_laysSpread 35 = .ok (.ifCond .eq 13, 3) := dk_153 0 13 (dk_at dksX7_laysSpread_1 12 rfl rfl)
theorem dX7_laysSpread_38 : decode cX7_laysSpread 38 = .ok (.aload_n 0, 1) := dk_42 (dk_at dksX7_laysSpread_1 15 rfl rfl)
theorem dX7_laysSpread_39 : decode cX7_laysSpread 39 = .ok (.iload_n 3, 1) := dk_29 (dk_at dksX7_laysSpread_1 16 rfl rfl)
theorem dX7_laysSpread_40 : decode cX7_laysSpread 40 = .ok (.iload 4, 2) := dk_21 4 (dk_at dksX7_laysSpread_1 17 rfl rfl)
theorem dX7_laysSpread_42 : decode cX7_laysSpread 42 = .ok (.invokevirtual 353, 3) := dk_182 1 97 (dk_at dksX7_laysSpread_1 19 rfl rfl)
theorem dX7_laysSpread_45 : decode cX7_laysSpread 45 = .ok (.goto 4, 3) := dk_167 0 4 (dk_at dksX7_laysSpread_2 0 rfl rfl)
theorem dX7_laysSpread_48 : decode cX7_laysSpread 48 = .ok (.iconst 0, 1) := dk_3 (dk_at dksX7_laysSpread_2 3 rfl rfl)
theorem dX7_laysSpread_49 : decode cX7_laysSpread 49 = .ok (.iastore, 1) := dk_79 (dk_at dksX7_laysSpread_2 4 rfl rfl)
theorem dX7_laysSpread_50 : decode cX7_laysSpread 50 = .ok (.iinc 4 1, 3) := dk_132 4 1 (dk_at dksX7_laysSpread_2 5 rfl rfl)
theorem dX7_laysSpread_53 : decode cX7_laysSpread 53 = .ok (.goto (-41), 3) := dk_167 255 215 (dk_at dksX7_laysSpread_2 8 rfl rfl)
theorem dX7_laysSpread_56 : decode cX7_laysSpread 56 = .ok (.iinc 3 1, 3) := dk_132 3 1 (dk_at dksX7_laysSpread_2 11 rfl rfl)
theorem dX7_laysSpread_59 : decode cX7_laysSpread 59 = .ok (.goto (-55), 3) := dk_167 255 201 (dk_at dksX7_laysSpread_2 14 rfl rfl)
theorem dX7_laysSpread_62 : decode cX7_laysSpread 62 = .ok (.iconst 0, 1) := dk_3 (dk_at dksX7_laysSpread_2 17 rfl rfl)
theorem dX7_laysSpread_63 : decode cX7_laysSpread 63 = .ok (.istore_n 3, 1) := dk_62 (dk_at dksX7_laysSpread_2 18 rfl rfl)
theorem dX7_laysSpread_64 : decode cX7_laysSpread 64 = .ok (.iload_n 3, 1) := dk_29 (dk_at dksX7_laysSpread_2 19 rfl rfl)
theorem dX7_laysSpread_65 : decode cX7_laysSpread 65 = .ok (.iload_n 1, 1) := dk_27 (dk_at dksX7_laysSpread_2 20 rfl rfl)
theorem dX7_laysSpread_66 : decode cX7_laysSpread 66 = .ok (.if_icmp .gt 137, 3) := dk_163 0 137 (dk_at dksX7_laysSpread_2 21 rfl rfl)
theorem dX7_laysSpread_69 : decode cX7_laysSpread 69 = .ok (.iconst 0, 1) := dk_3 (dk_at dksX7_laysSpread_3 0 rfl rfl)
theorem dX7_laysSpread_70 : decode cX7_laysSpread 70 = .ok (.istore 4, 2) := dk_54 4 (dk_at dksX7_laysSpread_3 1 rfl rfl)
theorem dX7_laysSpread_72 : decode cX7_laysSpread 72 = .ok (.iload_n 3, 1) := dk_29 (dk_at dksX7_laysSpread_3 3 rfl rfl)
theorem dX7_laysSpread_73 : decode cX7_laysSpread 73 = .ok (.iload 4, 2) := dk_21 4 (dk_at dksX7_laysSpread_3 4 rfl rfl)
theorem dX7_laysSpread_75 : decode cX7_laysSpread 75 = .ok (.iadd, 1) := dk_96 (dk_at dksX7_laysSpread_3 6 rfl rfl)
theorem dX7_laysSpread_76 : decode cX7_laysSpread 76 = .ok (.iload_n 1, 1) := dk_27 (dk_at dksX7_laysSpread_3 7 rfl rfl)
theorem dX7_laysSpread_77 : decode cX7_laysSpread 77 = .ok (.if_icmp .gt 120, 3) := dk_163 0 120 (dk_at dksX7_laysSpread_3 8 rfl rfl)
theorem dX7_laysSpread_80 : decode cX7_laysSpread 80 = .ok (.iconst 0, 1) := dk_3 (dk_at dksX7_laysSpread_3 11 rfl rfl)
theorem dX7_laysSpread_81 : decode cX7_laysSpread 81 = .ok (.istore 5, 2) := dk_54 5 (dk_at dksX7_laysSpread_3 12 rfl rfl)
theorem dX7_laysSpread_83 : decode cX7_laysSpread 83 = .ok (.iload_n 3, 1) := dk_29 (dk_at dksX7_laysSpread_3 14 rfl rfl)
theorem dX7_laysSpread_84 : decode cX7_laysSpread 84 = .ok (.iload 4, 2) := dk_21 4 (dk_at dksX7_laysSpread_3 15 rfl rfl)
theorem dX7_laysSpread_86 : decode cX7_laysSpread 86 = .ok (.iadd, 1) := dk_96 (dk_at dksX7_laysSpread_3 17 rfl rfl)
theorem dX7_laysSpread_87 : decode cX7_laysSpread 87 = .ok (.iload 5, 2) := dk_21 5 (dk_at dksX7_laysSpread_3 18 rfl rfl)
theorem dX7_laysSpread_89 : decode cX7_laysSpread 89 = .ok (.iadd, 1) := dk_96 (dk_at dksX7_laysSpread_3 20 rfl rfl)
theorem dX7_laysSpread_90 : decode cX7_laysSpread 90 = .ok (.iload_n 1, 1) := dk_27 (dk_at dksX7_laysSpread_3 21 rfl rfl)
theorem dX7_laysSpread_91 : decode cX7_laysSpread 91 = .ok (.if_icmp .gt 100, 3) := dk_163 0 100 (dk_at dksX7_laysSpread_4 0 rfl rfl)
theorem dX7_laysSpread_94 : decode cX7_laysSpread 94 = .ok (.aload_n 0, 1) := dk_42 (dk_at dksX7_laysSpread_4 3 rfl rfl)
theorem dX7_laysSpread_95 : decode cX7_laysSpread 95 = .ok (.getfield 90, 3) := dk_180 0 90 (dk_at dksX7_laysSpread_4 4 rfl rfl)
theorem dX7_laysSpread_98 : decode cX7_laysSpread 98 = .ok (.iconst 0, 1) := dk_3 (dk_at dksX7_laysSpread_4 7 rfl rfl)
theorem dX7_laysSpread_99 : decode cX7_laysSpread 99 = .ok (.iload_n 3, 1) := dk_29 (dk_at dksX7_laysSpread_4 8 rfl rfl)
theorem dX7_laysSpread_100 : decode cX7_laysSpread 100 = .ok (.iastore, 1) := dk_79 (dk_at dksX7_laysSpread_4 9 rfl rfl)
theorem dX7_laysSpread_101 : decode cX7_laysSpread 101 = .ok (.aload_n 0, 1) := dk_42 (dk_at dksX7_laysSpread_4 10 rfl rfl)
theorem dX7_laysSpread_102 : decode cX7_laysSpread 102 = .ok (.getfield 90, 3) := dk_180 0 90 (dk_at dksX7_laysSpread_4 11 rfl rfl)
theorem dX7_laysSpread_105 : decode cX7_laysSpread 105 = .ok (.iconst 1, 1) := dk_4 (dk_at dksX7_laysSpread_4 14 rfl rfl)
theorem dX7_laysSpread_106 : decode cX7_laysSpread 106 = .ok (.iload 4, 2) := dk_21 4 (dk_at dksX7_laysSpread_4 15 rfl rfl)
theorem dX7_laysSpread_108 : decode cX7_laysSpread 108 = .ok (.iastore, 1) := dk_79 (dk_at dksX7_laysSpread_4 17 rfl rfl)
theorem dX7_laysSpread_109 : decode cX7_laysSpread 109 = .ok (.aload_n 0, 1) := dk_42 (dk_at dksX7_laysSpread_4 18 rfl rfl)
theorem dX7_laysSpread_110 : decode cX7_laysSpread 110 = .ok (.getfield 90, 3) := dk_180 0 90 (dk_at dksX7_laysSpread_4 19 rfl rfl)
theorem dX7_laysSpread_113 : decode cX7_laysSpread 113 = .ok (.iconst 2, 1) := dk_5 (dk_at dksX7_laysSpread_4 22 rfl rfl)
theorem dX7_laysSpread_114 : decode cX7_laysSpread 114 = .ok (.iload 5, 2) := dk_21 5 (dk_at dksX7_laysSpread_5 0 rfl rfl)
theorem dX7_laysSpread_116 : decode cX7_laysSpread 116 = .ok (.iastore, 1) := dk_79 (dk_at dksX7_laysSpread_5 2 rfl rfl)
theorem dX7_laysSpread_117 : decode cX7_laysSpread 117 = .ok (.aload_n 0, 1) := dk_42 (dk_at dksX7_laysSpread_5 3 rfl rfl)
theorem dX7_laysSpread_118 : decode cX7_laysSpread 118 = .ok (.getfield 90, 3) := dk_180 0 90 (dk_at dksX7_laysSpread_5 4 rfl rfl)
theorem dX7_laysSpread_121 : decode cX7_laysSpread 121 = .ok (.iconst 3, 1) := dk_6 (dk_at dksX7_laysSpread_5 7 rfl rfl)
theorem dX7_laysSpread_122 : decode cX7_laysSpread 122 = .ok (.iload_n 1, 1) := dk_27 (dk_at dksX7_laysSpread_5 8 rfl rfl)
theorem dX7_laysSpread_123 : decode cX7_laysSpread 123 = .ok (.iload_n 3, 1) := dk_29 (dk_at dksX7_laysSpread_5 9 rfl rfl)
theorem dX7_laysSpread_124 : decode cX7_laysSpread 124 = .ok (.isub, 1) := dk_100 (dk_at dksX7_laysSpread_5 10 rfl rfl)
theorem dX7_laysSpread_125 : decode cX7_laysSpread 125 = .ok (.iload 4, 2) := dk_21 4 (dk_at dksX7_laysSpread_5 11 rfl rfl)
theorem dX7_laysSpread_127 : decode cX7_laysSpread 127 = .ok (.isub, 1) := dk_100 (dk_at dksX7_laysSpread_5 13 rfl rfl)
theorem dX7_laysSpread_128 : decode cX7_laysSpread 128 = .ok (.iload 5, 2) := dk_21 5 (dk_at dksX7_laysSpread_5 14 rfl rfl)
theorem dX7_laysSpread_130 : decode cX7_laysSpread 130 = .ok (.isub, 1) := dk_100 (dk_at dksX7_laysSpread_5 16 rfl rfl)
theorem dX7_laysSpread_131 : decode cX7_laysSpread 131 = .ok (.iastore, 1) := dk_79 (dk_at dksX7_laysSpread_5 17 rfl rfl)
theorem dX7_laysSpread_132 : decode cX7_laysSpread 132 = .ok (.aload_n 0, 1) := dk_42 (dk_at dksX7_laysSpread_5 18 rfl rfl)
theorem dX7_laysSpread_133 : decode cX7_laysSpread 133 = .ok (.iload_n 1, 1) := dk_27 (dk_at dksX7_laysSpread_5 19 rfl rfl)
theorem dX7_laysSpread_134 : decode cX7_laysSpread 134 = .ok (.invokevirtual 356, 3) := dk_182 1 100 (dk_at dksX7_laysSpread_5 20 rfl rfl)
theorem dX7_laysSpread_137 : decode cX7_laysSpread 137 = .ok (.ifCond .eq 48, 3) := dk_153 0 48 (dk_at dksX7_laysSpread_6 0 rfl rfl)
theorem dX7_laysSpread_140 : decode cX7_laysSpread 140 = .ok (.aload_n 0, 1) := dk_42 (dk_at dksX7_laysSpread_6 3 rfl rfl)
theorem dX7_laysSpread_141 : decode cX7_laysSpread 141 = .ok (.invokevirtual 359, 3) := dk_182 1 103 (dk_at dksX7_laysSpread_6 4 rfl rfl)
theorem dX7_laysSpread_144 : decode cX7_laysSpread 144 = .ok (.iload_n 2, 1) := dk_28 (dk_at dksX7_laysSpread_6 7 rfl rfl)
theorem dX7_laysSpread_145 : decode cX7_laysSpread 145 = .ok (.if_icmp .gt 6, 3) := dk_163 0 6 (dk_at dksX7_laysSpread_6 8 rfl rfl)
theorem dX7_laysSpread_148 : decode cX7_laysSpread 148 = .ok (.goto 37, 3) := dk_167 0 37 (dk_at dksX7_laysSpread_6 11 rfl rfl)
theorem dX7_laysSpread_151 : decode cX7_laysSpread 151 = .ok (.aload_n 0, 1) := dk_42 (dk_at dksX7_laysSpread_6 14 rfl rfl)
theorem dX7_laysSpread_152 : decode cX7_laysSpread 152 = .ok (.invokevirtual 359, 3) := dk_182 1 103 (dk_at dksX7_laysSpread_6 15 rfl rfl)
theorem dX7_laysSpread_155 : decode cX7_laysSpread 155 = .ok (.istore_n 2, 1) := dk_61 (dk_at dksX7_laysSpread_6 18 rfl rfl)
theorem dX7_laysSpread_156 : decode cX7_laysSpread 156 = .ok (.iconst 0, 1) := dk_3 (dk_at dksX7_laysSpread_6 19 rfl rfl)
theorem dX7_laysSpread_157 : decode cX7_laysSpread 157 = .ok (.istore 6, 2) := dk_54 6 (dk_at dksX7_laysSpread_6 20 rfl rfl)
theorem dX7_laysSpread_159 : decode cX7_laysSpread 159 = .ok (.iload 6, 2) := dk_21 6 (dk_at dksX7_laysSpread_6 22 rfl rfl)
theorem dX7_laysSpread_161 : decode cX7_laysSpread 161 = .ok (.iconst 4, 1) := dk_7 (dk_at dksX7_laysSpread_7 0 rfl rfl)
theorem dX7_laysSpread_162 : decode cX7_laysSpread 162 = .ok (.if_icmp .ge 23, 3) := dk_162 0 23 (dk_at dksX7_laysSpread_7 1 rfl rfl)
theorem dX7_laysSpread_165 : decode cX7_laysSpread 165 = .ok (.aload_n 0, 1) := dk_42 (dk_at dksX7_laysSpread_7 4 rfl rfl)
theorem dX7_laysSpread_166 : decode cX7_laysSpread 166 = .ok (.getfield 93, 3) := dk_180 0 93 (dk_at dksX7_laysSpread_7 5 rfl rfl)
theorem dX7_laysSpread_169 : decode cX7_laysSpread 169 = .ok (.iload 6, 2) := dk_21 6 (dk_at dksX7_laysSpread_7 8 rfl rfl)
theorem dX7_laysSpread_171 : decode cX7_laysSpread 171 = .ok (.aload_n 0, 1) := dk_42 (dk_at dksX7_laysSpread_7 10 rfl rfl)
theorem dX7_laysSpread_172 : decode cX7_laysSpread 172 = .ok (.getfield 90, 3) := dk_180 0 90 (dk_at dksX7_laysSpread_7 11 rfl rfl)
theorem dX7_laysSpread_175 : decode cX7_laysSpread 175 = .ok (.iload 6, 2) := dk_21 6 (dk_at dksX7_laysSpread_7 14 rfl rfl)
theorem dX7_laysSpread_177 : decode cX7_laysSpread 177 = .ok (.iaload, 1) := dk_46 (dk_at dksX7_laysSpread_7 16 rfl rfl)
theorem dX7_laysSpread_178 : decode cX7_laysSpread 178 = .ok (.iastore, 1) := dk_79 (dk_at dksX7_laysSpread_7 17 rfl rfl)
theorem dX7_laysSpread_179 : decode cX7_laysSpread 179 = .ok (.iinc 6 1, 3) := dk_132 6 1 (dk_at dksX7_laysSpread_7 18 rfl rfl)
theorem dX7_laysSpread_182 : decode cX7_laysSpread 182 = .ok (.goto (-23), 3) := dk_167 255 233 (dk_at dksX7_laysSpread_7 21 rfl rfl)
theorem dX7_laysSpread_185 : decode cX7_laysSpread 185 = .ok (.iinc 5 1, 3) := dk_132 5 1 (dk_at dksX7_laysSpread_8 0 rfl rfl)
theorem dX7_laysSpread_188 : decode cX7_laysSpread 188 = .ok (.goto (-105), 3) := dk_167 255 151 (dk_at dksX7_laysSpread_8 3 rfl rfl)
theorem dX7_laysSpread_191 : decode cX7_laysSpread 191 = .ok (.iinc 4 1, 3) := dk_132 4 1 (dk_at dksX7_laysSpread_8 6 rfl rfl)
theorem dX7_laysSpread_194 : decode cX7_laysSpread 194 = .ok (.goto (-122), 3) := dk_167 255 134 (dk_at dksX7_laysSpread_8 9 rfl rfl)
theorem dX7_laysSpread_197 : decode cX7_laysSpread 197 = .ok (.iinc 3 1, 3) := dk_132 3 1 (dk_at dksX7_laysSpread_8 12 rfl rfl)
theorem dX7_laysSpread_200 : decode cX7_laysSpread 200 = .ok (.goto (-136), 3) := dk_167 255 120 (dk_at dksX7_laysSpread_8 15 rfl rfl)
theorem dX7_laysSpread_203 : decode cX7_laysSpread 203 = .ok (.iload_n 2, 1) := dk_28 (dk_at dksX7_laysSpread_8 18 rfl rfl)
theorem dX7_laysSpread_204 : decode cX7_laysSpread 204 = .ok (.ireturn, 1) := dk_172 (dk_at dksX7_laysSpread_8 19 rfl rfl)
abbrev cX7_mayBe : ByteArray := prog_19_method_78_code
def yX7_mayBe : MethodName := ⟨RX7, "mayBe", "(I)Z"⟩
def dkwX7_mayBe_2 : List UInt8 := [160, 0, 7, 4, 167, 0, 4, 3, 172]
abbrev dktX7_mayBe_2 : List UInt8 := dkwX7_mayBe_2 ++ []
def dkwX7_mayBe_1 : List UInt8 := [158, 0, 5, 3, 172, 28, 42, 180, 0, 90, 29, 46, 96, 61, 132, 3, 1, 167, 255, 220, 28, 27]
abbrev dktX7_mayBe_1 : List UInt8 := dkwX7_mayBe_1 ++ dktX7_mayBe_2
def dkwX7_mayBe_0 : List UInt8 := [3, 61, 3, 62, 29, 7, 162, 0, 37, 42, 29, 182, 0, 130, 154, 0, 14, 42, 180, 0, 90, 29, 46]
abbrev dktX7_mayBe_0 : List UInt8 := dkwX7_mayBe_0 ++ dktX7_mayBe_1
theorem dksX7_mayBe_0 : cX7_mayBe.data.toList.drop 0 = dktX7_mayBe_0 := by decide +kernel
theorem dksX7_mayBe_1 : cX7_mayBe.data.toList.drop 23 = dktX7_mayBe_1 := dk_seg dksX7_mayBe_0 23 rfl rfl
theorem dksX7_mayBe_2 : cX7_mayBe.data.toList.drop 45 = dktX7_mayBe_2 := dk_seg dksX7_mayBe_1 22 rfl rfl
theorem dX7_mayBe_0 : decode cX7_mayBe 0 = .ok (.iconst 0, 1) := dk_3 (dk_at dksX7_mayBe_0 0 rfl rfl)
theorem dX7_mayBe_1 : decode cX7_mayBe 1 = .ok (.istore_n 2, 1) := dk_61 (dk_at dksX7_mayBe_0 1 rfl rfl)
theorem dX7_mayBe_2 : decode cX7_mayBe 2 = .ok (.iconst 0, 1) := dk_3 (dk_at dksX7_mayBe_0 2 rfl rfl)
theorem dX7_mayBe_3 : decode cX7_mayBe 3 = .ok (.istore_n 3, 1) := dk_62 (dk_at dksX7_mayBe_0 3 rfl rfl)
theorem dX7_mayBe_4 : decode cX7_mayBe 4 = .ok (.iload_n 3, 1) := dk_29 (dk_at dksX7_mayBe_0 4 rfl rfl)
theorem dX7_mayBe_5 : decode cX7_mayBe 5 = .ok (.iconst 4, 1) := dk_7 (dk_at dksX7_mayBe_0 5 rfl rfl)
theorem dX7_mayBe_6 : decode cX7_mayBe 6 = .ok (.if_icmp .ge 37, 3) := dk_162 0 37 (dk_at dksX7_mayBe_0 6 rfl rfl)
theorem dX7_mayBe_9 : decode cX7_mayBe 9 = .ok (.aload_n 0, 1) := dk_42 (dk_at dksX7_mayBe_0 9 rfl rfl)
theorem dX7_mayBe_10 : decode cX7_mayBe 10 = .ok (.iload_n 3, 1) := dk_29 (dk_at dksX7_mayBe_0 10 rfl rfl)
theorem dX7_mayBe_11 : decode cX7_mayBe 11 = .ok (.invokevirtual 130, 3) := dk_182 0 130 (dk_at dksX7_mayBe_0 11 rfl rfl)
theorem dX7_mayBe_14 : decode cX7_mayBe 14 = .ok (.ifCond .ne 14, 3) := dk_154 0 14 (dk_at dksX7_mayBe_0 14 rfl rfl)
theorem dX7_mayBe_17 : decode cX7_mayBe 17 = .ok (.aload_n 0, 1) := dk_42 (dk_at dksX7_mayBe_0 17 rfl rfl)
theorem dX7_mayBe_18 : decode cX7_mayBe 18 = .ok (.getfield 90, 3) := dk_180 0 90 (dk_at dksX7_mayBe_0 18 rfl rfl)
theorem dX7_mayBe_21 : decode cX7_mayBe 21 = .ok (.iload_n 3, 1) := dk_29 (dk_at dksX7_mayBe_0 21 rfl rfl)
theorem dX7_mayBe_22 : decode cX7_mayBe 22 = .ok (.iaload, 1) := dk_46 (dk_at dksX7_mayBe_0 22 rfl rfl)
theorem dX7_mayBe_23 : decode cX7_mayBe 23 = .ok (.ifCond .le 5, 3) := dk_158 0 5 (dk_at dksX7_mayBe_1 0 rfl rfl)
theorem dX7_mayBe_26 : decode cX7_mayBe 26 = .ok (.iconst 0, 1) := dk_3 (dk_at dksX7_mayBe_1 3 rfl rfl)
theorem dX7_mayBe_27 : decode cX7_mayBe 27 = .ok (.ireturn, 1) := dk_172 (dk_at dksX7_mayBe_1 4 rfl rfl)
theorem dX7_mayBe_28 : decode cX7_mayBe 28 = .ok (.iload_n 2, 1) := dk_28 (dk_at dksX7_mayBe_1 5 rfl rfl)
theorem dX7_mayBe_29 : decode cX7_mayBe 29 = .ok (.aload_n 0, 1) := dk_42 (dk_at dksX7_mayBe_1 6 rfl rfl)
theorem dX7_mayBe_30 : decode cX7_mayBe 30 = .ok (.getfield 90, 3) := dk_180 0 90 (dk_at dksX7_mayBe_1 7 rfl rfl)
theorem dX7_mayBe_33 : decode cX7_mayBe 33 = .ok (.iload_n 3, 1) := dk_29 (dk_at dksX7_mayBe_1 10 rfl rfl)
theorem dX7_mayBe_34 : decode cX7_mayBe 34 = .ok (.iaload, 1) := dk_46 (dk_at dksX7_mayBe_1 11 rfl rfl)
theorem dX7_mayBe_35 : decode cX7_mayBe 35 = .ok (.iadd, 1) := dk_96 (dk_at dksX7_mayBe_1 12 rfl rfl)
theorem dX7_mayBe_36 : decode cX7_mayBe 36 = .ok (.istore_n 2, 1) := dk_61 (dk_at dksX7_mayBe_1 13 rfl rfl)
theorem dX7_mayBe_37 : decode cX7_mayBe 37 = .ok (.iinc 3 1, 3) := dk_132 3 1 (dk_at dksX7_mayBe_1 14 rfl rfl)
theorem dX7_mayBe_40 : decode cX7_mayBe 40 = .ok (.goto (-36), 3) := dk_167 255 220 (dk_at dksX7_mayBe_1 17 rfl rfl)
theorem dX7_mayBe_43 : decode cX7_mayBe 43 = .ok (.iload_n 2, 1) := dk_28 (dk_at dksX7_mayBe_1 20 rfl rfl)
theorem dX7_mayBe_44 : decode cX7_mayBe 44 = .ok (.iload_n 1, 1) := dk_27 (dk_at dksX7_mayBe_1 21 rfl rfl)
theorem dX7_mayBe_45 : decode cX7_mayBe 45 = .ok (.if_icmp .ne 7, 3) := dk_160 0 7 (dk_at dksX7_mayBe_2 0 rfl rfl)
theorem dX7_mayBe_48 : decode cX7_mayBe 48 = .ok (.iconst 1, 1) := dk_4 (dk_at dksX7_mayBe_2 3 rfl rfl)
theorem dX7_mayBe_49 : decode cX7_mayBe 49 = .ok (.goto 4, 3) := dk_167 0 4 (dk_at dksX7_mayBe_2 4 rfl rfl)
theorem dX7_mayBe_52 : decode cX7_mayBe 52 = .ok (.iconst 0, 1) := dk_3 (dk_at dksX7_mayBe_2 7 rfl rfl)
theorem dX7_mayBe_53 : decode cX7_mayBe 53 = .ok (.ireturn, 1) := dk_172 (dk_at dksX7_mayBe_2 8 rfl rfl)
abbrev cX7_leastBy : ByteArray := prog_19_method_77_code
def yX7_leastBy : MethodName := ⟨RX7, "leastBy", "()I"⟩
def dkwX7_leastBy_1 : List UInt8 := [16, 25, 28, 104, 42, 180, 0, 90, 28, 46, 96, 46, 184, 0, 133, 60, 132, 2, 1, 167, 255, 219, 27, 172]
abbrev dktX7_leastBy_1 : List UInt8 := dkwX7_leastBy_1 ++ []
def dkwX7_leastBy_0 : List UInt8 := [16, 60, 60, 3, 61, 28, 7, 162, 0, 38, 42, 28, 182, 0, 130, 153, 0, 24, 27, 42, 180, 0, 87]
abbrev dktX7_leastBy_0 : List UInt8 := dkwX7_leastBy_0 ++ dktX7_leastBy_1
theorem dksX7_leastBy_0 : cX7_leastBy.data.toList.drop 0 = dktX7_leastBy_0 := by decide +kernel
theorem dksX7_leastBy_1 : cX7_leastBy.data.toList.drop 23 = dktX7_leastBy_1 := dk_seg dksX7_leastBy_0 23 rfl rfl
theorem dX7_leastBy_0 : decode cX7_leastBy 0 = .ok (.bipush 60, 2) := dk_16 60 (dk_at dksX7_leastBy_0 0 rfl rfl)
theorem dX7_leastBy_2 : decode cX7_leastBy 2 = .ok (.istore_n 1, 1) := dk_60 (dk_at dksX7_leastBy_0 2 rfl rfl)
theorem dX7_leastBy_3 : decode cX7_leastBy 3 = .ok (.iconst 0, 1) := dk_3 (dk_at dksX7_leastBy_0 3 rfl rfl)
theorem dX7_leastBy_4 : decode cX7_leastBy 4 = .ok (.istore_n 2, 1) := dk_61 (dk_at dksX7_leastBy_0 4 rfl rfl)
theorem dX7_leastBy_5 : decode cX7_leastBy 5 = .ok (.iload_n 2, 1) := dk_28 (dk_at dksX7_leastBy_0 5 rfl rfl)
theorem dX7_leastBy_6 : decode cX7_leastBy 6 = .ok (.iconst 4, 1) := dk_7 (dk_at dksX7_leastBy_0 6 rfl rfl)
theorem dX7_leastBy_7 : decode cX7_leastBy 7 = .ok (.if_icmp .ge 38, 3) := dk_162 0 38 (dk_at dksX7_leastBy_0 7 rfl rfl)
theorem dX7_leastBy_10 : decode cX7_leastBy 10 = .ok (.aload_n 0, 1) := dk_42 (dk_at dksX7_leastBy_0 10 rfl rfl)
theorem dX7_leastBy_11 : decode cX7_leastBy 11 = .ok (.iload_n 2, 1) := dk_28 (dk_at dksX7_leastBy_0 11 rfl rfl)
theorem dX7_leastBy_12 : decode cX7_leastBy 12 = .ok (.invokevirtual 130, 3) := dk_182 0 130 (dk_at dksX7_leastBy_0 12 rfl rfl)
theorem dX7_leastBy_15 : decode cX7_leastBy 15 = .ok (.ifCond .eq 24, 3) := dk_153 0 24 (dk_at dksX7_leastBy_0 15 rfl rfl)
theorem dX7_leastBy_18 : decode cX7_leastBy 18 = .ok (.iload_n 1, 1) := dk_27 (dk_at dksX7_leastBy_0 18 rfl rfl)
theorem dX7_leastBy_19 : decode cX7_leastBy 19 = .ok (.aload_n 0, 1) := dk_42 (dk_at dksX7_leastBy_0 19 rfl rfl)
theorem dX7_leastBy_20 : decode cX7_leastBy 20 = .ok (.getfield 87, 3) := dk_180 0 87 (dk_at dksX7_leastBy_0 20 rfl rfl)
theorem dX7_leastBy_23 : decode cX7_leastBy 23 = .ok (.bipush 25, 2) := dk_16 25 (dk_at dksX7_leastBy_1 0 rfl rfl)
theorem dX7_leastBy_25 : decode cX7_leastBy 25 = .ok (.iload_n 2, 1) := dk_28 (dk_at dksX7_leastBy_1 2 rfl rfl)
theorem dX7_leastBy_26 : decode cX7_leastBy 26 = .ok (.imul, 1) := dk_104 (dk_at dksX7_leastBy_1 3 rfl rfl)
theorem dX7_leastBy_27 : decode cX7_leastBy 27 = .ok (.aload_n 0, 1) := dk_42 (dk_at dksX7_leastBy_1 4 rfl rfl)
theorem dX7_leastBy_28 : decode cX7_leastBy 28 = .ok (.getfield 90, 3) := dk_180 0 90 (dk_at dksX7_leastBy_1 5 rfl rfl)
theorem dX7_leastBy_31 : decode cX7_leastBy 31 = .ok (.iload_n 2, 1) := dk_28 (dk_at dksX7_leastBy_1 8 rfl rfl)
theorem dX7_leastBy_32 : decode cX7_leastBy 32 = .ok (.iaload, 1) := dk_46 (dk_at dksX7_leastBy_1 9 rfl rfl)
theorem dX7_leastBy_33 : decode cX7_leastBy 33 = .ok (.iadd, 1) := dk_96 (dk_at dksX7_leastBy_1 10 rfl rfl)
theorem dX7_leastBy_34 : decode cX7_leastBy 34 = .ok (.iaload, 1) := dk_46 (dk_at dksX7_leastBy_1 11 rfl rfl)
theorem dX7_leastBy_35 : decode cX7_leastBy 35 = .ok (.invokestatic 133, 3) := dk_184 0 133 (dk_at dksX7_leastBy_1 12 rfl rfl)
theorem dX7_leastBy_38 : decode cX7_leastBy 38 = .ok (.istore_n 1, 1) := dk_60 (dk_at dksX7_leastBy_1 15 rfl rfl)
theorem dX7_leastBy_39 : decode cX7_leastBy 39 = .ok (.iinc 2 1, 3) := dk_132 2 1 (dk_at dksX7_leastBy_1 16 rfl rfl)
theorem dX7_leastBy_42 : decode cX7_leastBy 42 = .ok (.goto (-37), 3) := dk_167 255 219 (dk_at dksX7_leastBy_1 19 rfl rfl)
theorem dX7_leastBy_45 : decode cX7_leastBy 45 = .ok (.iload_n 1, 1) := dk_27 (dk_at dksX7_leastBy_1 22 rfl rfl)
theorem dX7_leastBy_46 : decode cX7_leastBy 46 = .ok (.ireturn, 1) := dk_172 (dk_at dksX7_leastBy_1 23 rfl rfl)
abbrev cX7_needs : ByteArray := prog_19_method_81_code
def yX7_needs : MethodName := ⟨RX7, "needs", "(II)I"⟩
def dkwX7_needs_2 : List UInt8 := [16, 254, 172]
abbrev dktX7_needs_2 : List UInt8 := dkwX7_needs_2 ++ []
def dkwX7_needs_1 : List UInt8 := [16, 24, 163, 0, 21, 42, 27, 29, 182, 1, 97, 28, 161, 0, 5, 29, 172, 132, 3, 1, 167, 255, 235]
abbrev dktX7_needs_1 : List UInt8 := dkwX7_needs_1 ++ dktX7_needs_2
def dkwX7_needs_0 : List UInt8 := [42, 27, 182, 0, 130, 153, 0, 13, 28, 4, 16, 60, 184, 0, 126, 154, 0, 5, 2, 172, 3, 62, 29]
abbrev dktX7_needs_0 : List UInt8 := dkwX7_needs_0 ++ dktX7_needs_1
theorem dksX7_needs_0 : cX7_needs.data.toList.drop 0 = dktX7_needs_0 := by decide +kernel
theorem dksX7_needs_1 : cX7_needs.data.toList.drop 23 = dktX7_needs_1 := dk_seg dksX7_needs_0 23 rfl rfl
theorem dksX7_needs_2 : cX7_needs.data.toList.drop 46 = dktX7_needs_2 := dk_seg dksX7_needs_1 23 rfl rfl
theorem dX7_needs_0 : decode cX7_needs 0 = .ok (.aload_n 0, 1) := dk_42 (dk_at dksX7_needs_0 0 rfl rfl)
theorem dX7_needs_1 : decode cX7_needs 1 = .ok (.iload_n 1, 1) := dk_27 (dk_at dksX7_needs_0 1 rfl rfl)
theorem dX7_needs_2 : decode cX7_needs 2 = .ok (.invokevirtual 130, 3) := dk_182 0 130 (dk_at dksX7_needs_0 2 rfl rfl)
theorem dX7_needs_5 : decode cX7_needs 5 = .ok (.ifCond .eq 13, 3) := dk_153 0 13 (dk_at dksX7_needs_0 5 rfl rfl)
theorem dX7_needs_8 : decode cX7_needs 8 = .ok (.iload_n 2, 1) := dk_28 (dk_at dksX7_needs_0 8 rfl rfl)
theorem dX7_needs_9 : decode cX7_needs 9 = .ok (.iconst 1, 1) := dk_4 (dk_at dksX7_needs_0 9 rfl rfl)
theorem dX7_needs_10 : decode cX7_needs 10 = .ok (.bipush 60, 2) := dk_16 60 (dk_at dksX7_needs_0 10 rfl rfl)
theorem dX7_needs_12 : decode cX7_needs 12 = .ok (.invokestatic 126, 3) := dk_184 0 126 (dk_at dksX7_needs_0 12 rfl rfl)
theorem dX7_needs_15 : decode cX7_needs 15 = .ok (.ifCond .ne 5, 3) := dk_154 0 5 (dk_at dksX7_needs_0 15 rfl rfl)
theorem dX7_needs_18 : decode cX7_needs 18 = .ok (.iconst (-1), 1) := dk_2 (dk_at dksX7_needs_0 18 rfl rfl)
theorem dX7_needs_19 : decode cX7_needs 19 = .ok (.ireturn, 1) := dk_172 (dk_at dksX7_needs_0 19 rfl rfl)
theorem dX7_needs_20 : decode cX7_needs 20 = .ok (.iconst 0, 1) := dk_3 (dk_at dksX7_needs_0 20 rfl rfl)
theorem dX7_needs_21 : decode cX7_needs 21 = .ok (.istore_n 3, 1) := dk_62 (dk_at dksX7_needs_0 21 rfl rfl)
theorem dX7_needs_22 : decode cX7_needs 22 = .ok (.iload_n 3, 1) := dk_29 (dk_at dksX7_needs_0 22 rfl rfl)
theorem dX7_needs_23 : decode cX7_needs 23 = .ok (.bipush 24, 2) := dk_16 24 (dk_at dksX7_needs_1 0 rfl rfl)
theorem dX7_needs_25 : decode cX7_needs 25 = .ok (.if_icmp .gt 21, 3) := dk_163 0 21 (dk_at dksX7_needs_1 2 rfl rfl)
theorem dX7_needs_28 : decode cX7_needs 28 = .ok (.aload_n 0, 1) := dk_42 (dk_at dksX7_needs_1 5 rfl rfl)
theorem dX7_needs_29 : decode cX7_needs 29 = .ok (.iload_n 1, 1) := dk_27 (dk_at dksX7_needs_1 6 rfl rfl)
theorem dX7_needs_30 : decode cX7_needs 30 = .ok (.iload_n 3, 1) := dk_29 (dk_at dksX7_needs_1 7 rfl rfl)
theorem dX7_needs_31 : decode cX7_needs 31 = .ok (.invokevirtual 353, 3) := dk_182 1 97 (dk_at dksX7_needs_1 8 rfl rfl)
theorem dX7_needs_34 : decode cX7_needs 34 = .ok (.iload_n 2, 1) := dk_28 (dk_at dksX7_needs_1 11 rfl rfl)
theorem dX7_needs_35 : decode cX7_needs 35 = .ok (.if_icmp .lt 5, 3) := dk_161 0 5 (dk_at dksX7_needs_1 12 rfl rfl)
theorem dX7_needs_38 : decode cX7_needs 38 = .ok (.iload_n 3, 1) := dk_29 (dk_at dksX7_needs_1 15 rfl rfl)
theorem dX7_needs_39 : decode cX7_needs 39 = .ok (.ireturn, 1) := dk_172 (dk_at dksX7_needs_1 16 rfl rfl)
theorem dX7_needs_40 : decode cX7_needs 40 = .ok (.iinc 3 1, 3) := dk_132 3 1 (dk_at dksX7_needs_1 17 rfl rfl)
theorem dX7_needs_43 : decode cX7_needs 43 = .ok (.goto (-21), 3) := dk_167 255 235 (dk_at dksX7_needs_1 20 rfl rfl)
theorem dX7_needs_46 : decode cX7_needs 46 = .ok (.bipush (-2), 2) := dk_16 254 (dk_at dksX7_needs_2 0 rfl rfl)
theorem dX7_needs_48 : decode cX7_needs 48 = .ok (.ireturn, 1) := dk_172 (dk_at dksX7_needs_2 2 rfl rfl)
abbrev cX7_movesOut : ByteArray := prog_19_method_82_code
def yX7_movesOut : MethodName := ⟨RX7, "movesOut", "(IIII)J"⟩
def dkwX7_movesOut_6 : List UInt8 := [167, 0, 5, 22, 6, 173]
abbrev dktX7_movesOut_6 : List UInt8 := dkwX7_movesOut_6 ++ []
def dkwX7_movesOut_5 : List UInt8 := [180, 0, 68, 21, 8, 46, 54, 5, 132, 8, 1, 167, 255, 161, 21, 4, 154, 0, 9, 21, 5, 133]
abbrev dktX7_movesOut_5 : List UInt8 := dkwX7_movesOut_5 ++ dktX7_movesOut_6
def dkwX7_movesOut_4 : List UInt8 := [21, 5, 2, 159, 0, 14, 22, 9, 22, 6, 148, 155, 0, 6, 167, 0, 16, 22, 9, 55, 6, 42]
abbrev dktX7_movesOut_4 : List UInt8 := dkwX7_movesOut_4 ++ dktX7_movesOut_5
def dkwX7_movesOut_3 : List UInt8 := [180, 0, 68, 21, 9, 46, 96, 46, 79, 132, 9, 1, 167, 255, 214, 42, 28, 29, 182, 1, 91, 55, 9]
abbrev dktX7_movesOut_3 : List UInt8 := dkwX7_movesOut_3 ++ dktX7_movesOut_4
def dkwX7_movesOut_2 : List UInt8 := [42, 180, 0, 71, 21, 9, 21, 9, 21, 8, 160, 0, 7, 3, 167, 0, 18, 42, 180, 0, 7, 16, 52, 42]
abbrev dktX7_movesOut_2 : List UInt8 := dkwX7_movesOut_2 ++ dktX7_movesOut_3
def dkwX7_movesOut_1 : List UInt8 := [2, 54, 5, 9, 55, 6, 3, 54, 8, 21, 8, 29, 162, 0, 95, 3, 54, 9, 21, 9, 29, 162, 0, 42]
abbrev dktX7_movesOut_1 : List UInt8 := dkwX7_movesOut_1 ++ dktX7_movesOut_2
def dkwX7_movesOut_0 : List UInt8 := [42, 27, 28, 29, 182, 1, 86, 153, 0, 13, 21, 4, 3, 4, 184, 0, 126, 154, 0, 7, 20, 1, 89, 173]
abbrev dktX7_movesOut_0 : List UInt8 := dkwX7_movesOut_0 ++ dktX7_movesOut_1
theorem dksX7_movesOut_0 : cX7_movesOut.data.toList.drop 0 = dktX7_movesOut_0 := by decide +kernel
theorem dksX7_movesOut_1 : cX7_movesOut.data.toList.drop 24 = dktX7_movesOut_1 := dk_seg dksX7_movesOut_0 24 rfl rfl
theorem dksX7_movesOut_2 : cX7_movesOut.data.toList.drop 48 = dktX7_movesOut_2 := dk_seg dksX7_movesOut_1 24 rfl rfl
theorem dksX7_movesOut_3 : cX7_movesOut.data.toList.drop 72 = dktX7_movesOut_3 := dk_seg dksX7_movesOut_2 24 rfl rfl
theorem dksX7_movesOut_4 : cX7_movesOut.data.toList.drop 95 = dktX7_movesOut_4 := dk_seg dksX7_movesOut_3 23 rfl rfl
theorem dksX7_movesOut_5 : cX7_movesOut.data.toList.drop 117 = dktX7_movesOut_5 := dk_seg dksX7_movesOut_4 22 rfl rfl
theorem dksX7_movesOut_6 : cX7_movesOut.data.toList.drop 139 = dktX7_movesOut_6 := dk_seg dksX7_movesOut_5 22 rfl rfl
theorem dX7_movesOut_0 : decode cX7_movesOut 0 = .ok (.aload_n 0, 1) := dk_42 (dk_at dksX7_movesOut_0 0 rfl rfl)
theorem dX7_movesOut_1 : decode cX7_movesOut 1 = .ok (.iload_n 1, 1) := dk_27 (dk_at dksX7_movesOut_0 1 rfl rfl)
theorem dX7_movesOut_2 : decode cX7_movesOut 2 = .ok (.iload_n 2, 1) := dk_28 (dk_at dksX7_movesOut_0 2 rfl rfl)
theorem dX7_movesOut_3 : decode cX7_movesOut 3 = .ok (.iload_n 3, 1) := dk_29 (dk_at dksX7_movesOut_0 3 rfl rfl)
theorem dX7_movesOut_4 : decode cX7_movesOut 4 = .ok (.invokevirtual 342, 3) := dk_182 1 86 (dk_at dksX7_movesOut_0 4 rfl rfl)
theorem dX7_movesOut_7 : decode cX7_movesOut 7 = .ok (.ifCond .eq 13, 3) := dk_153 0 13 (dk_at dksX7_movesOut_0 7 rfl rfl)
theorem dX7_movesOut_10 : decode cX7_movesOut 10 = .ok (.iload 4, 2) := dk_21 4 (dk_at dksX7_movesOut_0 10 rfl rfl)
theorem dX7_movesOut_12 : decode cX7_movesOut 12 = .ok (.iconst 0, 1) := dk_3 (dk_at dksX7_movesOut_0 12 rfl rfl)
theorem dX7_movesOut_13 : decode cX7_movesOut 13 = .ok (.iconst 1, 1) := dk_4 (dk_at dksX7_movesOut_0 13 rfl rfl)
theorem dX7_movesOut_14 : decode cX7_movesOut 14 = .ok (.invokestatic 126, 3) := dk_184 0 126 (dk_at dksX7_movesOut_0 14 rfl rfl)
theorem dX7_movesOut_17 : decode cX7_movesOut 17 = .ok (.ifCond .ne 7, 3) := dk_154 0 7 (dk_at dksX7_movesOut_0 17 rfl rfl)
theorem dX7_movesOut_20 : decode cX7_movesOut 20 = .ok (.ldc2_w 345, 3) := dk_20 1 89 (dk_at dksX7_movesOut_0 20 rfl rfl)
theorem dX7_movesOut_23 : decode cX7_movesOut 23 = .ok (.lreturn, 1) := dk_173 (dk_at dksX7_movesOut_0 23 rfl rfl)
theorem dX7_movesOut_24 : decode cX7_movesOut 24 = .ok (.iconst (-1), 1) := dk_2 (dk_at dksX7_movesOut_1 0 rfl rfl)
theorem dX7_movesOut_25 : decode cX7_movesOut 25 = .ok (.istore 5, 2) := dk_54 5 (dk_at dksX7_movesOut_1 1 rfl rfl)
theorem dX7_movesOut_27 : decode cX7_movesOut 27 = .ok (.lconst 0, 1) := dk_9 (dk_at dksX7_movesOut_1 3 rfl rfl)
theorem dX7_movesOut_28 : decode cX7_movesOut 28 = .ok (.lstore 6, 2) := dk_55 6 (dk_at dksX7_movesOut_1 4 rfl rfl)
theorem dX7_movesOut_30 : decode cX7_movesOut 30 = .ok (.iconst 0, 1) := dk_3 (dk_at dksX7_movesOut_1 6 rfl rfl)
theorem dX7_movesOut_31 : decode cX7_movesOut 31 = .ok (.istore 8, 2) := dk_54 8 (dk_at dksX7_movesOut_1 7 rfl rfl)
theorem dX7_movesOut_33 : decode cX7_movesOut 33 = .ok (.iload 8, 2) := dk_21 8 (dk_at dksX7_movesOut_1 9 rfl rfl)
theorem dX7_movesOut_35 : decode cX7_movesOut 35 = .ok (.iload_n 3, 1) := dk_29 (dk_at dksX7_movesOut_1 11 rfl rfl)
theorem dX7_movesOut_36 : decode cX7_movesOut 36 = .ok (.if_icmp .ge 95, 3) := dk_162 0 95 (dk_at dksX7_movesOut_1 12 rfl rfl)
theorem dX7_movesOut_39 : decode cX7_movesOut 39 = .ok (.iconst 0, 1) := dk_3 (dk_at dksX7_movesOut_1 15 rfl rfl)
theorem dX7_movesOut_40 : decode cX7_movesOut 40 = .ok (.istore 9, 2) := dk_54 9 (dk_at dksX7_movesOut_1 16 rfl rfl)
theorem dX7_movesOut_42 : decode cX7_movesOut 42 = .ok (.iload 9, 2) := dk_21 9 (dk_at dksX7_movesOut_1 18 rfl rfl)
theorem dX7_movesOut_44 : decode cX7_movesOut 44 = .ok (.iload_n 3, 1) := dk_29 (dk_at dksX7_movesOut_1 20 rfl rfl)
theorem dX7_movesOut_45 : decode cX7_movesOut 45 = .ok (.if_icmp .ge 42, 3) := dk_162 0 42 (dk_at dksX7_movesOut_1 21 rfl rfl)
theorem dX7_movesOut_48 : decode cX7_movesOut 48 = .ok (.aload_n 0, 1) := dk_42 (dk_at dksX7_movesOut_2 0 rfl rfl)
theorem dX7_movesOut_49 : decode cX7_movesOut 49 = .ok (.getfield 71, 3) := dk_180 0 71 (dk_at dksX7_movesOut_2 1 rfl rfl)
theorem dX7_movesOut_52 : decode cX7_movesOut 52 = .ok (.iload 9, 2) := dk_21 9 (dk_at dksX7_movesOut_2 4 rfl rfl)
theorem dX7_movesOut_54 : decode cX7_movesOut 54 = .ok (.iload 9, 2) := dk_21 9 (dk_at dksX7_movesOut_2 6 rfl rfl)
theorem dX7_movesOut_56 : decode cX7_movesOut 56 = .ok (.iload 8, 2) := dk_21 8 (dk_at dksX7_movesOut_2 8 rfl rfl)
theorem dX7_movesOut_58 : decode cX7_movesOut 58 = .ok (.if_icmp .ne 7, 3) := dk_160 0 7 (dk_at dksX7_movesOut_2 10 rfl rfl)
theorem dX7_movesOut_61 : decode cX7_movesOut 61 = .ok (.iconst 0, 1) := dk_3 (dk_at dksX7_movesOut_2 13 rfl rfl)
theorem dX7_movesOut_62 : decode cX7_movesOut 62 = .ok (.goto 18, 3) := dk_167 0 18 (dk_at dksX7_movesOut_2 14 rfl rfl)
theorem dX7_movesOut_65 : decode cX7_movesOut 65 = .ok (.aload_n 0, 1) := dk_42 (dk_at dksX7_movesOut_2 17 rfl rfl)
theorem dX7_movesOut_66 : decode cX7_movesOut 66 = .ok (.getfield 7, 3) := dk_180 0 7 (dk_at dksX7_movesOut_2 18 rfl rfl)
theorem dX7_movesOut_69 : decode cX7_movesOut 69 = .ok (.bipush 52, 2) := dk_16 52 (dk_at dksX7_movesOut_2 21 rfl rfl)
theorem dX7_movesOut_71 : decode cX7_movesOut 71 = .ok (.aload_n 0, 1) := dk_42 (dk_at dksX7_movesOut_2 23 rfl rfl)
theorem dX7_movesOut_72 : decode cX7_movesOut 72 = .ok (.getfield 68, 3) := dk_180 0 68 (dk_at dksX7_movesOut_3 0 rfl rfl)
theorem dX7_movesOut_75 : decode cX7_movesOut 75 = .ok (.iload 9, 2) := dk_21 9 (dk_at dksX7_movesOut_3 3 rfl rfl)
theorem dX7_movesOut_77 : decode cX7_movesOut 77 = .ok (.iaload, 1) := dk_46 (dk_at dksX7_movesOut_3 5 rfl rfl)
theorem dX7_movesOut_78 : decode cX7_movesOut 78 = .ok (.iadd, 1) := dk_96 (dk_at dksX7_movesOut_3 6 rfl rfl)
theorem dX7_movesOut_79 : decode cX7_movesOut 79 = .ok (.iaload, 1) := dk_46 (dk_at dksX7_movesOut_3 7 rfl rfl)
theorem dX7_movesOut_80 : decode cX7_movesOut 80 = .ok (.iastore, 1) := dk_79 (dk_at dksX7_movesOut_3 8 rfl rfl)
theorem dX7_movesOut_81 : decode cX7_movesOut 81 = .ok (.iinc 9 1, 3) := dk_132 9 1 (dk_at dksX7_movesOut_3 9 rfl rfl)
theorem dX7_movesOut_84 : decode cX7_movesOut 84 = .ok (.goto (-42), 3) := dk_167 255 214 (dk_at dksX7_movesOut_3 12 rfl rfl)
theorem dX7_movesOut_87 : decode cX7_movesOut 87 = .ok (.aload_n 0, 1) := dk_42 (dk_at dksX7_movesOut_3 15 rfl rfl)
theorem dX7_movesOut_88 : decode cX7_movesOut 88 = .ok (.iload_n 2, 1) := dk_28 (dk_at dksX7_movesOut_3 16 rfl rfl)
theorem dX7_movesOut_89 : decode cX7_movesOut 89 = .ok (.iload_n 3, 1) := dk_29 (dk_at dksX7_movesOut_3 17 rfl rfl)
theorem dX7_movesOut_90 : decode cX7_movesOut 90 = .ok (.invokevirtual 347, 3) := dk_182 1 91 (dk_at dksX7_movesOut_3 18 rfl rfl)
theorem dX7_movesOut_93 : decode cX7_movesOut 93 = .ok (.lstore 9, 2) := dk_55 9 (dk_at dksX7_movesOut_3 21 rfl rfl)
theorem dX7_movesOut_95 : decode cX7_movesOut 95 = .ok (.iload 5, 2) := dk_21 5 (dk_at dksX7_movesOut_4 0 rfl rfl)
theorem dX7_movesOut_97 : decode cX7_movesOut 97 = .ok (.iconst (-1), 1) := dk_2 (dk_at dksX7_movesOut_4 2 rfl rfl)
theorem dX7_movesOut_98 : decode cX7_movesOut 98 = .ok (.if_icmp .eq 14, 3) := dk_159 0 14 (dk_at dksX7_movesOut_4 3 rfl rfl)
theorem dX7_movesOut_101 : decode cX7_movesOut 101 = .ok (.lload 9, 2) := dk_22 9 (dk_at dksX7_movesOut_4 6 rfl rfl)
theorem dX7_movesOut_103 : decode cX7_movesOut 103 = .ok (.lload 6, 2) := dk_22 6 (dk_at dksX7_movesOut_4 8 rfl rfl)
theorem dX7_movesOut_105 : decode cX7_movesOut 105 = .ok (.lcmp, 1) := dk_148 (dk_at dksX7_movesOut_4 10 rfl rfl)
theorem dX7_movesOut_106 : decode cX7_movesOut 106 = .ok (.ifCond .lt 6, 3) := dk_155 0 6 (dk_at dksX7_movesOut_4 11 rfl rfl)
theorem dX7_movesOut_109 : decode cX7_movesOut 109 = .ok (.goto 16, 3) := dk_167 0 16 (dk_at dksX7_movesOut_4 14 rfl rfl)
theorem dX7_movesOut_112 : decode cX7_movesOut 112 = .ok (.lload 9, 2) := dk_22 9 (dk_at dksX7_movesOut_4 17 rfl rfl)
theorem dX7_movesOut_114 : decode cX7_movesOut 114 = .ok (.lstore 6, 2) := dk_55 6 (dk_at dksX7_movesOut_4 19 rfl rfl)
theorem dX7_movesOut_116 : decode cX7_movesOut 116 = .ok (.aload_n 0, 1) := dk_42 (dk_at dksX7_movesOut_4 21 rfl rfl)
theorem dX7_movesOut_117 : decode cX7_movesOut 117 = .ok (.getfield 68, 3) := dk_180 0 68 (dk_at dksX7_movesOut_5 0 rfl rfl)
theorem dX7_movesOut_120 : decode cX7_movesOut 120 = .ok (.iload 8, 2) := dk_21 8 (dk_at dksX7_movesOut_5 3 rfl rfl)
theorem dX7_movesOut_122 : decode cX7_movesOut 122 = .ok (.iaload, 1) := dk_46 (dk_at dksX7_movesOut_5 5 rfl rfl)
theorem dX7_movesOut_123 : decode cX7_movesOut 123 = .ok (.istore 5, 2) := dk_54 5 (dk_at dksX7_movesOut_5 6 rfl rfl)
theorem dX7_movesOut_125 : decode cX7_movesOut 125 = .ok (.iinc 8 1, 3) := dk_132 8 1 (dk_at dksX7_movesOut_5 8 rfl rfl)
theorem dX7_movesOut_128 : decode cX7_movesOut 128 = .ok (.goto (-95), 3) := dk_167 255 161 (dk_at dksX7_movesOut_5 11 rfl rfl)
theorem dX7_movesOut_131 : decode cX7_movesOut 131 = .ok (.iload 4, 2) := dk_21 4 (dk_at dksX7_movesOut_5 14 rfl rfl)
theorem dX7_movesOut_133 : decode cX7_movesOut 133 = .ok (.ifCond .ne 9, 3) := dk_154 0 9 (dk_at dksX7_movesOut_5 16 rfl rfl)
theorem dX7_movesOut_136 : decode cX7_movesOut 136 = .ok (.iload 5, 2) := dk_21 5 (dk_at dksX7_movesOut_5 19 rfl rfl)
theorem dX7_movesOut_138 : decode cX7_movesOut 138 = .ok (.i2l, 1) := dk_133 (dk_at dksX7_movesOut_5 21 rfl rfl)
theorem dX7_movesOut_139 : decode cX7_movesOut 139 = .ok (.goto 5, 3) := dk_167 0 5 (dk_at dksX7_movesOut_6 0 rfl rfl)
theorem dX7_movesOut_142 : decode cX7_movesOut 142 = .ok (.lload 6, 2) := dk_22 6 (dk_at dksX7_movesOut_6 3 rfl rfl)
theorem dX7_movesOut_144 : decode cX7_movesOut 144 = .ok (.lreturn, 1) := dk_173 (dk_at dksX7_movesOut_6 5 rfl rfl)
abbrev cX7_week : ByteArray := prog_19_method_86_code
def yX7_week : MethodName := ⟨RX7, "week", "(III)I"⟩
def dkwX7_week_8 : List UInt8 := [160, 0, 8, 16, 253, 167, 0, 10, 42, 180, 0, 68, 21, 6, 46, 172]
abbrev dktX7_week_8 : List UInt8 := dkwX7_week_8 ++ []
def dkwX7_week_7 : List UInt8 := [167, 0, 11, 42, 27, 28, 21, 5, 182, 1, 115, 172, 21, 5, 28, 29, 184, 1, 109, 54, 6, 21, 6, 28]
abbrev dktX7_week_7 : List UInt8 := dkwX7_week_7 ++ dktX7_week_8
def dkwX7_week_6 : List UInt8 := [160, 0, 6, 16, 254, 172, 29, 16, 9, 164, 0, 27, 29, 16, 10, 160, 0, 12, 21, 5, 28, 184, 1, 112]
abbrev dktX7_week_6 : List UInt8 := dkwX7_week_6 ++ dktX7_week_7
def dkwX7_week_5 : List UInt8 := [21, 6, 182, 1, 115, 2, 159, 0, 7, 21, 6, 54, 5, 132, 6, 1, 167, 255, 206, 21, 5, 2]
abbrev dktX7_week_5 : List UInt8 := dkwX7_week_5 ++ dktX7_week_6
def dkwX7_week_4 : List UInt8 := [159, 0, 21, 21, 6, 28, 184, 1, 112, 21, 5, 28, 184, 1, 112, 161, 0, 6, 167, 0, 19, 42, 27, 28]
abbrev dktX7_week_4 : List UInt8 := dkwX7_week_4 ++ dktX7_week_5
def dkwX7_week_3 : List UInt8 := [132, 5, 1, 167, 255, 238, 2, 54, 5, 3, 54, 6, 21, 6, 21, 4, 162, 0, 49, 21, 5, 2]
abbrev dktX7_week_3 : List UInt8 := dkwX7_week_3 ++ dktX7_week_4
def dkwX7_week_2 : List UInt8 := [2, 172, 4, 54, 4, 3, 54, 5, 21, 5, 16, 7, 162, 0, 17, 21, 4, 28, 4, 96, 104, 54, 4]
abbrev dktX7_week_2 : List UInt8 := dkwX7_week_2 ++ dktX7_week_3
def dkwX7_week_1 : List UInt8 := [184, 0, 126, 154, 0, 13, 29, 3, 16, 6, 184, 0, 126, 153, 0, 11, 42, 28, 182, 1, 83, 154, 0, 5]
abbrev dktX7_week_1 : List UInt8 := dkwX7_week_1 ++ dktX7_week_2
def dkwX7_week_0 : List UInt8 := [42, 27, 182, 0, 130, 153, 0, 41, 28, 4, 6, 184, 0, 126, 153, 0, 32, 29, 16, 10, 16, 11]
abbrev dktX7_week_0 : List UInt8 := dkwX7_week_0 ++ dktX7_week_1
theorem dksX7_week_0 : cX7_week.data.toList.drop 0 = dktX7_week_0 := by decide +kernel
theorem dksX7_week_1 : cX7_week.data.toList.drop 22 = dktX7_week_1 := dk_seg dksX7_week_0 22 rfl rfl
theorem dksX7_week_2 : cX7_week.data.toList.drop 46 = dktX7_week_2 := dk_seg dksX7_week_1 24 rfl rfl
theorem dksX7_week_3 : cX7_week.data.toList.drop 69 = dktX7_week_3 := dk_seg dksX7_week_2 23 rfl rfl
theorem dksX7_week_4 : cX7_week.data.toList.drop 91 = dktX7_week_4 := dk_seg dksX7_week_3 22 rfl rfl
theorem dksX7_week_5 : cX7_week.data.toList.drop 115 = dktX7_week_5 := dk_seg dksX7_week_4 24 rfl rfl
theorem dksX7_week_6 : cX7_week.data.toList.drop 137 = dktX7_week_6 := dk_seg dksX7_week_5 22 rfl rfl
theorem dksX7_week_7 : cX7_week.data.toList.drop 161 = dktX7_week_7 := dk_seg dksX7_week_6 24 rfl rfl
theorem dksX7_week_8 : cX7_week.data.toList.drop 185 = dktX7_week_8 := dk_seg dksX7_week_7 24 rfl rfl
theorem dX7_week_0 : decode cX7_week 0 = .ok (.aload_n 0, 1) := dk_42 (dk_at dksX7_week_0 0 rfl rfl)
theorem dX7_week_1 : decode cX7_week 1 = .ok (.iload_n 1, 1) := dk_27 (dk_at dksX7_week_0 1 rfl rfl)
theorem dX7_week_2 : decode cX7_week 2 = .ok (.invokevirtual 130, 3) := dk_182 0 130 (dk_at dksX7_week_0 2 rfl rfl)
theorem dX7_week_5 : decode cX7_week 5 = .ok (.ifCond .eq 41, 3) := dk_153 0 41 (dk_at dksX7_week_0 5 rfl rfl)
theorem dX7_week_8 : decode cX7_week 8 = .ok (.iload_n 2, 1) := dk_28 (dk_at dksX7_week_0 8 rfl rfl)
theorem dX7_week_9 : decode cX7_week 9 = .ok (.iconst 1, 1) := dk_4 (dk_at dksX7_week_0 9 rfl rfl)
theorem dX7_week_10 : decode cX7_week 10 = .ok (.iconst 3, 1) := dk_6 (dk_at dksX7_week_0 10 rfl rfl)
theorem dX7_week_11 : decode cX7_week 11 = .ok (.invokestatic 126, 3) := dk_184 0 126 (dk_at dksX7_week_0 11 rfl rfl)
theorem dX7_week_14 : decode cX7_week 14 = .ok (.ifCond .eq 32, 3) := dk_153 0 32 (dk_at dksX7_week_0 14 rfl rfl)
theorem dX7_week_17 : decode cX7_week 17 = .ok (.iload_n 3, 1) := dk_29 (dk_at dksX7_week_0 17 rfl rfl)
theorem dX7_week_18 : decode cX7_week 18 = .ok (.bipush 10, 2) := dk_16 10 (dk_at dksX7_week_0 18 rfl rfl)
theorem dX7_week_20 : decode cX7_week 20 = .ok (.bipush 11, 2) := dk_16 11 (dk_at dksX7_week_0 20 rfl rfl)
theorem dX7_week_22 : decode cX7_week 22 = .ok (.invokestatic 126, 3) := dk_184 0 126 (dk_at dksX7_week_1 0 rfl rfl)
theorem dX7_week_25 : decode cX7_week 25 = .ok (.ifCond .ne 13, 3) := dk_154 0 13 (dk_at dksX7_week_1 3 rfl rfl)
theorem dX7_week_28 : decode cX7_week 28 = .ok (.iload_n 3, 1) := dk_29 (dk_at dksX7_week_1 6 rfl rfl)
theorem dX7_week_29 : decode cX7_week 29 = .ok (.iconst 0, 1) := dk_3 (dk_at dksX7_week_1 7 rfl rfl)
theorem dX7_week_30 : decode cX7_week 30 = .ok (.bipush 6, 2) := dk_16 6 (dk_at dksX7_week_1 8 rfl rfl)
theorem dX7_week_32 : decode cX7_week 32 = .ok (.invokestatic 126, 3) := dk_184 0 126 (dk_at dksX7_week_1 10 rfl rfl)
theorem dX7_week_35 : decode cX7_week 35 = .ok (.ifCond .eq 11, 3) := dk_153 0 11 (dk_at dksX7_week_1 13 rfl rfl)
theorem dX7_week_38 : decode cX7_week 38 = .ok (.aload_n 0, 1) := dk_42 (dk_at dksX7_week_1 16 rfl rfl)
theorem dX7_week_39 : decode cX7_week 39 = .ok (.iload_n 2, 1) := dk_28 (dk_at dksX7_week_1 17 rfl rfl)
theorem dX7_week_40 : decode cX7_week 40 = .ok (.invokevirtual 339, 3) := dk_182 1 83 (dk_at dksX7_week_1 18 rfl rfl)
theorem dX7_week_43 : decode cX7_week 43 = .ok (.ifCond .ne 5, 3) := dk_154 0 5 (dk_at dksX7_week_1 21 rfl rfl)
theorem dX7_week_46 : decode cX7_week 46 = .ok (.iconst (-1), 1) := dk_2 (dk_at dksX7_week_2 0 rfl rfl)
theorem dX7_week_47 : decode cX7_week 47 = .ok (.ireturn, 1) := dk_172 (dk_at dksX7_week_2 1 rfl rfl)
theorem dX7_week_48 : decode cX7_week 48 = .ok (.iconst 1, 1) := dk_4 (dk_at dksX7_week_2 2 rfl rfl)
theorem dX7_week_49 : decode cX7_week 49 = .ok (.istore 4, 2) := dk_54 4 (dk_at dksX7_week_2 3 rfl rfl)
theorem dX7_week_51 : decode cX7_week 51 = .ok (.iconst 0, 1) := dk_3 (dk_at dksX7_week_2 5 rfl rfl)
theorem dX7_week_52 : decode cX7_week 52 = .ok (.istore 5, 2) := dk_54 5 (dk_at dksX7_week_2 6 rfl rfl)
theorem dX7_week_54 : decode cX7_week 54 = .ok (.iload 5, 2) := dk_21 5 (dk_at dksX7_week_2 8 rfl rfl)
theorem dX7_week_56 : decode cX7_week 56 = .ok (.bipush 7, 2) := dk_16 7 (dk_at dksX7_week_2 10 rfl rfl)
theorem dX7_week_58 : decode cX7_week 58 = .ok (.if_icmp .ge 17, 3) := dk_162 0 17 (dk_at dksX7_week_2 12 rfl rfl)
theorem dX7_week_61 : decode cX7_week 61 = .ok (.iload 4, 2) := dk_21 4 (dk_at dksX7_week_2 15 rfl rfl)
theorem dX7_week_63 : decode cX7_week 63 = .ok (.iload_n 2, 1) := dk_28 (dk_at dksX7_week_2 17 rfl rfl)
theorem dX7_week_64 : decode cX7_week 64 = .ok (.iconst 1, 1) := dk_4 (dk_at dksX7_week_2 18 rfl rfl)
theorem dX7_week_65 : decode cX7_week 65 = .ok (.iadd, 1) := dk_96 (dk_at dksX7_week_2 19 rfl rfl)
theorem dX7_week_66 : decode cX7_week 66 = .ok (.imul, 1) := dk_104 (dk_at dksX7_week_2 20 rfl rfl)
theorem dX7_week_67 : decode cX7_week 67 = .ok (.istore 4, 2) := dk_54 4 (dk_at dksX7_week_2 21 rfl rfl)
theorem dX7_week_69 : decode cX7_week 69 = .ok (.iinc 5 1, 3) := dk_132 5 1 (dk_at dksX7_week_3 0 rfl rfl)
theorem dX7_week_72 : decode cX7_week 72 = .ok (.goto (-18), 3) := dk_167 255 238 (dk_at dksX7_week_3 3 rfl rfl)
theorem dX7_week_75 : decode cX7_week 75 = .ok (.iconst (-1), 1) := dk_2 (dk_at dksX7_week_3 6 rfl rfl)
theorem dX7_week_76 : decode cX7_week 76 = .ok (.istore 5, 2) := dk_54 5 (dk_at dksX7_week_3 7 rfl rfl)
theorem dX7_week_78 : decode cX7_week 78 = .ok (.iconst 0, 1) := dk_3 (dk_at dksX7_week_3 9 rfl rfl)
theorem dX7_week_79 : decode cX7_week 79 = .ok (.istore 6, 2) := dk_54 6 (dk_at dksX7_week_3 10 rfl rfl)
theorem dX7_week_81 : decode cX7_week 81 = .ok (.iload 6, 2) := dk_21 6 (dk_at dksX7_week_3 12 rfl rfl)
theorem dX7_week_83 : decode cX7_week 83 = .ok (.iload 4, 2) := dk_21 4 (dk_at dksX7_week_3 14 rfl rfl)
theorem dX7_week_85 : decode cX7_week 85 = .ok (.if_icmp .ge 49, 3) := dk_162 0 49 (dk_at dksX7_week_3 16 rfl rfl)
theorem dX7_week_88 : decode cX7_week 88 = .ok (.iload 5, 2) := dk_21 5 (dk_at dksX7_week_3 19 rfl rfl)
theorem dX7_week_90 : decode cX7_week 90 = .ok (.iconst (-1), 1) := dk_2 (dk_at dksX7_week_3 21 rfl rfl)
theorem dX7_week_91 : decode cX7_week 91 = .ok (.if_icmp .eq 21, 3) := dk_159 0 21 (dk_at dksX7_week_4 0 rfl rfl)
theorem dX7_week_94 : decode cX7_week 94 = .ok (.iload 6, 2) := dk_21 6 (dk_at dksX7_week_4 3 rfl rfl)
theorem dX7_week_96 : decode cX7_week 96 = .ok (.iload_n 2, 1) := dk_28 (dk_at dksX7_week_4 5 rfl rfl)
theorem dX7_week_97 : decode cX7_week 97 = .ok (.invokestatic 368, 3) := dk_184 1 112 (dk_at dksX7_week_4 6 rfl rfl)
theorem dX7_week_100 : decode cX7_week 100 = .ok (.iload 5, 2) := dk_21 5 (dk_at dksX7_week_4 9 rfl rfl)
theorem dX7_week_102 : decode cX7_week 102 = .ok (.iload_n 2, 1) := dk_28 (dk_at dksX7_week_4 11 rfl rfl)
theorem dX7_week_103 : decode cX7_week 103 = .ok (.invokestatic 368, 3) := dk_184 1 112 (dk_at dksX7_week_4 12 rfl rfl)
theorem dX7_week_106 : decode cX7_week 106 = .ok (.if_icmp .lt 6, 3) := dk_161 0 6 (dk_at dksX7_week_4 15 rfl rfl)
theorem dX7_week_109 : decode cX7_week 109 = .ok (.goto 19, 3) := dk_167 0 19 (dk_at dksX7_week_4 18 rfl rfl)
theorem dX7_week_112 : decode cX7_week 112 = .ok (.aload_n 0, 1) := dk_42 (dk_at dksX7_week_4 21 rfl rfl)
theorem dX7_week_113 : decode cX7_week 113 = .ok (.iload_n 1, 1) := dk_27 (dk_at dksX7_week_4 22 rfl rfl)
theorem dX7_week_114 : decode cX7_week 114 = .ok (.iload_n 2, 1) := dk_28 (dk_at dksX7_week_4 23 rfl rfl)
theorem dX7_week_115 : decode cX7_week 115 = .ok (.iload 6, 2) := dk_21 6 (dk_at dksX7_week_5 0 rfl rfl)
theorem dX7_week_117 : decode cX7_week 117 = .ok (.invokevirtual 371, 3) := dk_182 1 115 (dk_at dksX7_week_5 2 rfl rfl)
theorem dX7_week_120 : decode cX7_week 120 = .ok (.iconst (-1), 1) := dk_2 (dk_at dksX7_week_5 5 rfl rfl)
theorem dX7_week_121 : decode cX7_week 121 = .ok (.if_icmp .eq 7, 3) := dk_159 0 7 (dk_at dksX7_week_5 6 rfl rfl)
theorem dX7_week_124 : decode cX7_week 124 = .ok (.iload 6, 2) := dk_21 6 (dk_at dksX7_week_5 9 rfl rfl)
theorem dX7_week_126 : decode cX7_week 126 = .ok (.istore 5, 2) := dk_54 5 (dk_at dksX7_week_5 11 rfl rfl)
theorem dX7_week_128 : decode cX7_week 128 = .ok (.iinc 6 1, 3) := dk_132 6 1 (dk_at dksX7_week_5 13 rfl rfl)
theorem dX7_week_131 : decode cX7_week 131 = .ok (.goto (-50), 3) := dk_167 255 206 (dk_at dksX7_week_5 16 rfl rfl)
theorem dX7_week_134 : decode cX7_week 134 = .ok (.iload 5, 2) := dk_21 5 (dk_at dksX7_week_5 19 rfl rfl)
theorem dX7_week_136 : decode cX7_week 136 = .ok (.iconst (-1), 1) := dk_2 (dk_at dksX7_week_5 21 rfl rfl)
theorem dX7_week_137 : decode cX7_week 137 = .ok (.if_icmp .ne 6, 3) := dk_160 0 6 (dk_at dksX7_week_6 0 rfl rfl)
theorem dX7_week_140 : decode cX7_week 140 = .ok (.bipush (-2), 2) := dk_16 254 (dk_at dksX7_week_6 3 rfl rfl)
theorem dX7_week_142 : decode cX7_week 142 = .ok (.ireturn, 1) := dk_172 (dk_at dksX7_week_6 5 rfl rfl)
theorem dX7_week_143 : decode cX7_week 143 = .ok (.iload_n 3, 1) := dk_29 (dk_at dksX7_week_6 6 rfl rfl)
theorem dX7_week_144 : decode cX7_week 144 = .ok (.bipush 9, 2) := dk_16 9 (dk_at dksX7_week_6 7 rfl rfl)
theorem dX7_week_146 : decode cX7_week 146 = .ok (.if_icmp .le 27, 3) := dk_164 0 27 (dk_at dksX7_week_6 9 rfl rfl)
theorem dX7_week_149 : decode cX7_week 149 = .ok (.iload_n 3, 1) := dk_29 (dk_at dksX7_week_6 12 rfl rfl)
theorem dX7_week_150 : decode cX7_week 150 = .ok (.bipush 10, 2) := dk_16 10 (dk_at dksX7_week_6 13 rfl rfl)
theorem dX7_week_152 : decode cX7_week 152 = .ok (.if_icmp .ne 12, 3) := dk_160 0 12 (dk_at dksX7_week_6 15 rfl rfl)
theorem dX7_week_155 : decode cX7_week 155 = .ok (.iload 5, 2) := dk_21 5 (dk_at dksX7_week_6 18 rfl rfl)
theorem dX7_week_157 : decode cX7_week 157 = .ok (.iload_n 2, 1) := dk_28 (dk_at dksX7_week_6 20 rfl rfl)
theorem dX7_week_158 : decode cX7_week 158 = .ok (.invokestatic 368, 3) := dk_184 1 112 (dk_at dksX7_week_6 21 rfl rfl)
theorem dX7_week_161 : decode cX7_week 161 = .ok (.goto 11, 3) := dk_167 0 11 (dk_at dksX7_week_7 0 rfl rfl)
theorem dX7_week_164 : decode cX7_week 164 = .ok (.aload_n 0, 1) := dk_42 (dk_at dksX7_week_7 3 rfl rfl)
theorem dX7_week_165 : decode cX7_week 165 = .ok (.iload_n 1, 1) := dk_27 (dk_at dksX7_week_7 4 rfl rfl)
theorem dX7_week_166 : decode cX7_week 166 = .ok (.iload_n 2, 1) := dk_28 (dk_at dksX7_week_7 5 rfl rfl)
theorem dX7_week_167 : decode cX7_week 167 = .ok (.iload 5, 2) := dk_21 5 (dk_at dksX7_week_7 6 rfl rfl)
theorem dX7_week_169 : decode cX7_week 169 = .ok (.invokevirtual 371, 3) := dk_182 1 115 (dk_at dksX7_week_7 8 rfl rfl)
theorem dX7_week_172 : decode cX7_week 172 = .ok (.ireturn, 1) := dk_172 (dk_at dksX7_week_7 11 rfl rfl)
theorem dX7_week_173 : decode cX7_week 173 = .ok (.iload 5, 2) := dk_21 5 (dk_at dksX7_week_7 12 rfl rfl)
theorem dX7_week_175 : decode cX7_week 175 = .ok (.iload_n 2, 1) := dk_28 (dk_at dksX7_week_7 14 rfl rfl)
theorem dX7_week_176 : decode cX7_week 176 = .ok (.iload_n 3, 1) := dk_29 (dk_at dksX7_week_7 15 rfl rfl)
theorem dX7_week_177 : decode cX7_week 177 = .ok (.invokestatic 365, 3) := dk_184 1 109 (dk_at dksX7_week_7 16 rfl rfl)
theorem dX7_week_180 : decode cX7_week 180 = .ok (.istore 6, 2) := dk_54 6 (dk_at dksX7_week_7 19 rfl rfl)
theorem dX7_week_182 : decode cX7_week 182 = .ok (.iload 6, 2) := dk_21 6 (dk_at dksX7_week_7 21 rfl rfl)
theorem dX7_week_184 : decode cX7_week 184 = .ok (.iload_n 2, 1) := dk_28 (dk_at dksX7_week_7 23 rfl rfl)
theorem dX7_week_185 : decode cX7_week 185 = .ok (.if_icmp .ne 8, 3) := dk_160 0 8 (dk_at dksX7_week_8 0 rfl rfl)
theorem dX7_week_188 : decode cX7_week 188 = .ok (.bipush (-3), 2) := dk_16 253 (dk_at dksX7_week_8 3 rfl rfl)
theorem dX7_week_190 : decode cX7_week 190 = .ok (.goto 10, 3) := dk_167 0 10 (dk_at dksX7_week_8 5 rfl rfl)
theorem dX7_week_193 : decode cX7_week 193 = .ok (.aload_n 0, 1) := dk_42 (dk_at dksX7_week_8 8 rfl rfl)
theorem dX7_week_194 : decode cX7_week 194 = .ok (.getfield 68, 3) := dk_180 0 68 (dk_at dksX7_week_8 9 rfl rfl)
theorem dX7_week_197 : decode cX7_week 197 = .ok (.iload 6, 2) := dk_21 6 (dk_at dksX7_week_8 12 rfl rfl)
theorem dX7_week_199 : decode cX7_week 199 = .ok (.iaload, 1) := dk_46 (dk_at dksX7_week_8 14 rfl rfl)
theorem dX7_week_200 : decode cX7_week 200 = .ok (.ireturn, 1) := dk_172 (dk_at dksX7_week_8 15 rfl rfl)
abbrev cX7_comings : ByteArray := prog_19_method_84_code
def yX7_comings : MethodName := ⟨RX7, "comings", "(II)I"⟩
def dkwX7_comings_1 : List UInt8 := [167, 0, 4, 3, 96, 61, 132, 3, 1, 167, 255, 229, 28, 172]
abbrev dktX7_comings_1 : List UInt8 := dkwX7_comings_1 ++ []
def dkwX7_comings_0 : List UInt8 := [3, 61, 3, 62, 29, 16, 7, 162, 0, 27, 28, 26, 27, 29, 184, 1, 109, 27, 162, 0, 7, 4]
abbrev dktX7_comings_0 : List UInt8 := dkwX7_comings_0 ++ dktX7_comings_1
theorem dksX7_comings_0 : cX7_comings.data.toList.drop 0 = dktX7_comings_0 := by decide +kernel
theorem dksX7_comings_1 : cX7_comings.data.toList.drop 22 = dktX7_comings_1 := dk_seg dksX7_comings_0 22 rfl rfl
theorem dX7_comings_0 : decode cX7_comings 0 = .ok (.iconst 0, 1) := dk_3 (dk_at dksX7_comings_0 0 rfl rfl)
theorem dX7_comings_1 : decode cX7_comings 1 = .ok (.istore_n 2, 1) := dk_61 (dk_at dksX7_comings_0 1 rfl rfl)
theorem dX7_comings_2 : decode cX7_comings 2 = .ok (.iconst 0, 1) := dk_3 (dk_at dksX7_comings_0 2 rfl rfl)
theorem dX7_comings_3 : decode cX7_comings 3 = .ok (.istore_n 3, 1) := dk_62 (dk_at dksX7_comings_0 3 rfl rfl)
theorem dX7_comings_4 : decode cX7_comings 4 = .ok (.iload_n 3, 1) := dk_29 (dk_at dksX7_comings_0 4 rfl rfl)
theorem dX7_comings_5 : decode cX7_comings 5 = .ok (.bipush 7, 2) := dk_16 7 (dk_at dksX7_comings_0 5 rfl rfl)
theorem dX7_comings_7 : decode cX7_comings 7 = .ok (.if_icmp .ge 27, 3) := dk_162 0 27 (dk_at dksX7_comings_0 7 rfl rfl)
theorem dX7_comings_10 : decode cX7_comings 10 = .ok (.iload_n 2, 1) := dk_28 (dk_at dksX7_comings_0 10 rfl rfl)
theorem dX7_comings_11 : decode cX7_comings 11 = .ok (.iload_n 0, 1) := dk_26 (dk_at dksX7_comings_0 11 rfl rfl)
theorem dX7_comings_12 : decode cX7_comings 12 = .ok (.iload_n 1, 1) := dk_27 (dk_at dksX7_comings_0 12 rfl rfl)
theorem dX7_comings_13 : decode cX7_comings 13 = .ok (.iload_n 3, 1) := dk_29 (dk_at dksX7_comings_0 13 rfl rfl)
theorem dX7_comings_14 : decode cX7_comings 14 = .ok (.invokestatic 365, 3) := dk_184 1 109 (dk_at dksX7_comings_0 14 rfl rfl)
theorem dX7_comings_17 : decode cX7_comings 17 = .ok (.iload_n 1, 1) := dk_27 (dk_at dksX7_comings_0 17 rfl rfl)
theorem dX7_comings_18 : decode cX7_comings 18 = .ok (.if_icmp .ge 7, 3) := dk_162 0 7 (dk_at dksX7_comings_0 18 rfl rfl)
theorem dX7_comings_21 : decode cX7_comings 21 = .ok (.iconst 1, 1) := dk_4 (dk_at dksX7_comings_0 21 rfl rfl)
theorem dX7_comings_22 : decode cX7_comings 22 = .ok (.goto 4, 3) := dk_167 0 4 (dk_at dksX7_comings_1 0 rfl rfl)
theorem dX7_comings_25 : decode cX7_comings 25 = .ok (.iconst 0, 1) := dk_3 (dk_at dksX7_comings_1 3 rfl rfl)
theorem dX7_comings_26 : decode cX7_comings 26 = .ok (.iadd, 1) := dk_96 (dk_at dksX7_comings_1 4 rfl rfl)
theorem dX7_comings_27 : decode cX7_comings 27 = .ok (.istore_n 2, 1) := dk_61 (dk_at dksX7_comings_1 5 rfl rfl)
theorem dX7_comings_28 : decode cX7_comings 28 = .ok (.iinc 3 1, 3) := dk_132 3 1 (dk_at dksX7_comings_1 6 rfl rfl)
theorem dX7_comings_31 : decode cX7_comings 31 = .ok (.goto (-27), 3) := dk_167 255 229 (dk_at dksX7_comings_1 9 rfl rfl)
theorem dX7_comings_34 : decode cX7_comings 34 = .ok (.iload_n 2, 1) := dk_28 (dk_at dksX7_comings_1 12 rfl rfl)
theorem dX7_comings_35 : decode cX7_comings 35 = .ok (.ireturn, 1) := dk_172 (dk_at dksX7_comings_1 13 rfl rfl)
abbrev cX7_comingIn : ByteArray := prog_19_method_83_code
def yX7_comingIn : MethodName := ⟨RX7, "comingIn", "(III)I"⟩
def dkwX7_comingIn_1 : List UInt8 := [29, 27, 4, 96, 112, 172]
abbrev dktX7_comingIn_1 : List UInt8 := dkwX7_comingIn_1 ++ []
def dkwX7_comingIn_0 : List UInt8 := [26, 62, 16, 6, 54, 4, 21, 4, 28, 164, 0, 15, 29, 27, 4, 96, 108, 62, 132, 4, 255, 167, 255, 241]
abbrev dktX7_comingIn_0 : List UInt8 := dkwX7_comingIn_0 ++ dktX7_comingIn_1
theorem dksX7_comingIn_0 : cX7_comingIn.data.toList.drop 0 = dktX7_comingIn_0 := by decide +kernel
theorem dksX7_comingIn_1 : cX7_comingIn.data.toList.drop 24 = dktX7_comingIn_1 := dk_seg dksX7_comingIn_0 24 rfl rfl
theorem dX7_comingIn_0 : decode cX7_comingIn 0 = .ok (.iload_n 0, 1) := dk_26 (dk_at dksX7_comingIn_0 0 rfl rfl)
theorem dX7_comingIn_1 : decode cX7_comingIn 1 = .ok (.istore_n 3, 1) := dk_62 (dk_at dksX7_comingIn_0 1 rfl rfl)
theorem dX7_comingIn_2 : decode cX7_comingIn 2 = .ok (.bipush 6, 2) := dk_16 6 (dk_at dksX7_comingIn_0 2 rfl rfl)
theorem dX7_comingIn_4 : decode cX7_comingIn 4 = .ok (.istore 4, 2) := dk_54 4 (dk_at dksX7_comingIn_0 4 rfl rfl)
theorem dX7_comingIn_6 : decode cX7_comingIn 6 = .ok (.iload 4, 2) := dk_21 4 (dk_at dksX7_comingIn_0 6 rfl rfl)
theorem dX7_comingIn_8 : decode cX7_comingIn 8 = .ok (.iload_n 2, 1) := dk_28 (dk_at dksX7_comingIn_0 8 rfl rfl)
theorem dX7_comingIn_9 : decode cX7_comingIn 9 = .ok (.if_icmp .le 15, 3) := dk_164 0 15 (dk_at dksX7_comingIn_0 9 rfl rfl)
theorem dX7_comingIn_12 : decode cX7_comingIn 12 = .ok (.iload_n 3, 1) := dk_29 (dk_at dksX7_comingIn_0 12 rfl rfl)
theorem dX7_comingIn_13 : decode cX7_comingIn 13 = .ok (.iload_n 1, 1) := dk_27 (dk_at dksX7_comingIn_0 13 rfl rfl)
theorem dX7_comingIn_14 : decode cX7_comingIn 14 = .ok (.iconst 1, 1) := dk_4 (dk_at dksX7_comingIn_0 14 rfl rfl)
theorem dX7_comingIn_15 : decode cX7_comingIn 15 = .ok (.iadd, 1) := dk_96 (dk_at dksX7_comingIn_0 15 rfl rfl)
theorem dX7_comingIn_16 : decode cX7_comingIn 16 = .ok (.idiv, 1) := dk_108 (dk_at dksX7_comingIn_0 16 rfl rfl)
theorem dX7_comingIn_17 : decode cX7_comingIn 17 = .ok (.istore_n 3, 1) := dk_62 (dk_at dksX7_comingIn_0 17 rfl rfl)
theorem dX7_comingIn_18 : decode cX7_comingIn 18 = .ok (.iinc 4 (-1), 3) := dk_132 4 255 (dk_at dksX7_comingIn_0 18 rfl rfl)
theorem dX7_comingIn_21 : decode cX7_comingIn 21 = .ok (.goto (-15), 3) := dk_167 255 241 (dk_at dksX7_comingIn_0 21 rfl rfl)
theorem dX7_comingIn_24 : decode cX7_comingIn 24 = .ok (.iload_n 3, 1) := dk_29 (dk_at dksX7_comingIn_1 0 rfl rfl)
theorem dX7_comingIn_25 : decode cX7_comingIn 25 = .ok (.iload_n 1, 1) := dk_27 (dk_at dksX7_comingIn_1 1 rfl rfl)
theorem dX7_comingIn_26 : decode cX7_comingIn 26 = .ok (.iconst 1, 1) := dk_4 (dk_at dksX7_comingIn_1 2 rfl rfl)
theorem dX7_comingIn_27 : decode cX7_comingIn 27 = .ok (.iadd, 1) := dk_96 (dk_at dksX7_comingIn_1 3 rfl rfl)
theorem dX7_comingIn_28 : decode cX7_comingIn 28 = .ok (.irem, 1) := dk_112 (dk_at dksX7_comingIn_1 4 rfl rfl)
theorem dX7_comingIn_29 : decode cX7_comingIn 29 = .ok (.ireturn, 1) := dk_172 (dk_at dksX7_comingIn_1 5 rfl rfl)
abbrev cX7_wetBehind : ByteArray := prog_19_method_85_code
def yX7_wetBehind : MethodName := ⟨RX7, "wetBehind", "(III)I"⟩
def dkwX7_wetBehind_5 : List UInt8 := [21, 4, 172]
abbrev dktX7_wetBehind_5 : List UInt8 := dkwX7_wetBehind_5 ++ []
def dkwX7_wetBehind_4 : List UInt8 := [180, 0, 7, 7, 27, 96, 46, 167, 0, 4, 2, 54, 4, 42, 180, 0, 13, 42, 180, 0, 7, 184, 1, 38]
abbrev dktX7_wetBehind_4 : List UInt8 := dkwX7_wetBehind_4 ++ dktX7_wetBehind_5
def dkwX7_wetBehind_3 : List UInt8 := [180, 0, 7, 16, 79, 46, 4, 96, 79, 132, 4, 1, 167, 255, 189, 42, 27, 182, 0, 130, 153, 0, 14, 42]
abbrev dktX7_wetBehind_3 : List UInt8 := dkwX7_wetBehind_3 ++ dktX7_wetBehind_4
def dkwX7_wetBehind_2 : List UInt8 := [180, 0, 68, 21, 5, 46, 27, 182, 1, 22, 42, 27, 3, 182, 1, 28, 42, 180, 0, 7, 16, 79, 42]
abbrev dktX7_wetBehind_2 : List UInt8 := dkwX7_wetBehind_2 ++ dktX7_wetBehind_3
def dkwX7_wetBehind_1 : List UInt8 := [182, 0, 130, 153, 0, 58, 29, 28, 21, 4, 184, 1, 109, 54, 5, 21, 5, 28, 162, 0, 15, 42, 42]
abbrev dktX7_wetBehind_1 : List UInt8 := dkwX7_wetBehind_1 ++ dktX7_wetBehind_2
def dkwX7_wetBehind_0 : List UInt8 := [42, 180, 0, 7, 42, 180, 0, 13, 184, 1, 38, 3, 54, 4, 21, 4, 16, 7, 162, 0, 66, 42, 27]
abbrev dktX7_wetBehind_0 : List UInt8 := dkwX7_wetBehind_0 ++ dktX7_wetBehind_1
theorem dksX7_wetBehind_0 : cX7_wetBehind.data.toList.drop 0 = dktX7_wetBehind_0 := by decide +kernel
theorem dksX7_wetBehind_1 : cX7_wetBehind.data.toList.drop 23 = dktX7_wetBehind_1 := dk_seg dksX7_wetBehind_0 23 rfl rfl
theorem dksX7_wetBehind_2 : cX7_wetBehind.data.toList.drop 46 = dktX7_wetBehind_2 := dk_seg dksX7_wetBehind_1 23 rfl rfl
theorem dksX7_wetBehind_3 : cX7_wetBehind.data.toList.drop 69 = dktX7_wetBehind_3 := dk_seg dksX7_wetBehind_2 23 rfl rfl
theorem dksX7_wetBehind_4 : cX7_wetBehind.data.toList.drop 93 = dktX7_wetBehind_4 := dk_seg dksX7_wetBehind_3 24 rfl rfl
theorem dksX7_wetBehind_5 : cX7_wetBehind.data.toList.drop 117 = dktX7_wetBehind_5 := dk_seg dksX7_wetBehind_4 24 rfl rfl
theorem dX7_wetBehind_0 : decode cX7_wetBehind 0 = .ok (.aload_n 0, 1) := dk_42 (dk_at dksX7_wetBehind_0 0 rfl rfl)
theorem dX7_wetBehind_1 : decode cX7_wetBehind 1 = .ok (.getfield 7, 3) := dk_180 0 7 (dk_at dksX7_wetBehind_0 1 rfl rfl)
theorem dX7_wetBehind_4 : decode cX7_wetBehind 4 = .ok (.aload_n 0, 1) := dk_42 (dk_at dksX7_wetBehind_0 4 rfl rfl)
theorem dX7_wetBehind_5 : decode cX7_wetBehind 5 = .ok (.getfield 13, 3) := dk_180 0 13 (dk_at dksX7_wetBehind_0 5 rfl rfl)
theorem dX7_wetBehind_8 : decode cX7_wetBehind 8 = .ok (.invokestatic 294, 3) := dk_184 1 38 (dk_at dksX7_wetBehind_0 8 rfl rfl)
theorem dX7_wetBehind_11 : decode cX7_wetBehind 11 = .ok (.iconst 0, 1) := dk_3 (dk_at dksX7_wetBehind_0 11 rfl rfl)
theorem dX7_wetBehind_12 : decode cX7_wetBehind 12 = .ok (.istore 4, 2) := dk_54 4 (dk_at dksX7_wetBehind_0 12 rfl rfl)
theorem dX7_wetBehind_14 : decode cX7_wetBehind 14 = .ok (.iload 4, 2) := dk_21 4 (dk_at dksX7_wetBehind_0 14 rfl rfl)
theorem dX7_wetBehind_16 : decode cX7_wetBehind 16 = .ok (.bipush 7, 2) := dk_16 7 (dk_at dksX7_wetBehind_0 16 rfl rfl)
theorem dX7_wetBehind_18 : decode cX7_wetBehind 18 = .ok (.if_icmp .ge 66, 3) := dk_162 0 66 (dk_at dksX7_wetBehind_0 18 rfl rfl)
theorem dX7_wetBehind_21 : decode cX7_wetBehind 21 = .ok (.aload_n 0, 1) := dk_42 (dk_at dksX7_wetBehind_0 21 rfl rfl)
theorem dX7_wetBehind_22 : decode cX7_wetBehind 22 = .ok (.iload_n 1, 1) := dk_27 (dk_at dksX7_wetBehind_0 22 rfl rfl)
theorem dX7_wetBehind_23 : decode cX7_wetBehind 23 = .ok (.invokevirtual 130, 3) := dk_182 0 130 (dk_at dksX7_wetBehind_1 0 rfl rfl)
theorem dX7_wetBehind_26 : decode cX7_wetBehind 26 = .ok (.ifCond .eq 58, 3) := dk_153 0 58 (dk_at dksX7_wetBehind_1 3 rfl rfl)
theorem dX7_wetBehind_29 : decode cX7_wetBehind 29 = .ok (.iload_n 3, 1) := dk_29 (dk_at dksX7_wetBehind_1 6 rfl rfl)
theorem dX7_wetBehind_30 : decode cX7_wetBehind 30 = .ok (.iload_n 2, 1) := dk_28 (dk_at dksX7_wetBehind_1 7 rfl rfl)
theorem dX7_wetBehind_31 : decode cX7_wetBehind 31 = .ok (.iload 4, 2) := dk_21 4 (dk_at dksX7_wetBehind_1 8 rfl rfl)
theorem dX7_wetBehind_33 : decode cX7_wetBehind 33 = .ok (.invokestatic 365, 3) := dk_184 1 109 (dk_at dksX7_wetBehind_1 10 rfl rfl)
theorem dX7_wetBehind_36 : decode cX7_wetBehind 36 = .ok (.istore 5, 2) := dk_54 5 (dk_at dksX7_wetBehind_1 13 rfl rfl)
theorem dX7_wetBehind_38 : decode cX7_wetBehind 38 = .ok (.iload 5, 2) := dk_21 5 (dk_at dksX7_wetBehind_1 15 rfl rfl)
theorem dX7_wetBehind_40 : decode cX7_wetBehind 40 = .ok (.iload_n 2, 1) := dk_28 (dk_at dksX7_wetBehind_1 17 rfl rfl)
theorem dX7_wetBehind_41 : decode cX7_wetBehind 41 = .ok (.if_icmp .ge 15, 3) := dk_162 0 15 (dk_at dksX7_wetBehind_1 18 rfl rfl)
theorem dX7_wetBehind_44 : decode cX7_wetBehind 44 = .ok (.aload_n 0, 1) := dk_42 (dk_at dksX7_wetBehind_1 21 rfl rfl)
theorem dX7_wetBehind_45 : decode cX7_wetBehind 45 = .ok (.aload_n 0, 1) := dk_42 (dk_at dksX7_wetBehind_1 22 rfl rfl)
theorem dX7_wetBehind_46 : decode cX7_wetBehind 46 = .ok (.getfield 68, 3) := dk_180 0 68 (dk_at dksX7_wetBehind_2 0 rfl rfl)
theorem dX7_wetBehind_49 : decode cX7_wetBehind 49 = .ok (.iload 5, 2) := dk_21 5 (dk_at dksX7_wetBehind_2 3 rfl rfl)
theorem dX7_wetBehind_51 : decode cX7_wetBehind 51 = .ok (.iaload, 1) := dk_46 (dk_at dksX7_wetBehind_2 5 rfl rfl)
theorem dX7_wetBehind_52 : decode cX7_wetBehind 52 = .ok (.iload_n 1, 1) := dk_27 (dk_at dksX7_wetBehind_2 6 rfl rfl)
theorem dX7_wetBehind_53 : decode cX7_wetBehind 53 = .ok (.invokevirtual 278, 3) := dk_182 1 22 (dk_at dksX7_wetBehind_2 7 rfl rfl)
theorem dX7_wetBehind_56 : decode cX7_wetBehind 56 = .ok (.aload_n 0, 1) := dk_42 (dk_at dksX7_wetBehind_2 10 rfl rfl)
theorem dX7_wetBehind_57 : decode cX7_wetBehind 57 = .ok (.iload_n 1, 1) := dk_27 (dk_at dksX7_wetBehind_2 11 rfl rfl)
theorem dX7_wetBehind_58 : decode cX7_wetBehind 58 = .ok (.iconst 0, 1) := dk_3 (dk_at dksX7_wetBehind_2 12 rfl rfl)
theorem dX7_wetBehind_59 : decode cX7_wetBehind 59 = .ok (.invokevirtual 284, 3) := dk_182 1 28 (dk_at dksX7_wetBehind_2 13 rfl rfl)
theorem dX7_wetBehind_62 : decode cX7_wetBehind 62 = .ok (.aload_n 0, 1) := dk_42 (dk_at dksX7_wetBehind_2 16 rfl rfl)
theorem dX7_wetBehind_63 : decode cX7_wetBehind 63 = .ok (.getfield 7, 3) := dk_180 0 7 (dk_at dksX7_wetBehind_2 17 rfl rfl)
theorem dX7_wetBehind_66 : decode cX7_wetBehind 66 = .ok (.bipush 79, 2) := dk_16 79 (dk_at dksX7_wetBehind_2 20 rfl rfl)
theorem dX7_wetBehind_68 : decode cX7_wetBehind 68 = .ok (.aload_n 0, 1) := dk_42 (dk_at dksX7_wetBehind_2 22 rfl rfl)
theorem dX7_wetBehind_69 : decode cX7_wetBehind 69 = .ok (.getfield 7, 3) := dk_180 0 7 (dk_at dksX7_wetBehind_3 0 rfl rfl)
theorem dX7_wetBehind_72 : decode cX7_wetBehind 72 = .ok (.bipush 79, 2) := dk_16 79 (dk_at dksX7_wetBehind_3 3 rfl rfl)
theorem dX7_wetBehind_74 : decode cX7_wetBehind 74 = .ok (.iaload, 1) := dk_46 (dk_at dksX7_wetBehind_3 5 rfl rfl)
theorem dX7_wetBehind_75 : decode cX7_wetBehind 75 = .ok (.iconst 1, 1) := dk_4 (dk_at dksX7_wetBehind_3 6 rfl rfl)
theorem dX7_wetBehind_76 : decode cX7_wetBehind 76 = .ok (.iadd, 1) := dk_96 (dk_at dksX7_wetBehind_3 7 rfl rfl)
theorem dX7_wetBehind_77 : decode cX7_wetBehind 77 = .ok (.iastore, 1) := dk_79 (dk_at dksX7_wetBehind_3 8 rfl rfl)
theorem dX7_wetBehind_78 : decode cX7_wetBehind 78 = .ok (.iinc 4 1, 3) := dk_132 4 1 (dk_at dksX7_wetBehind_3 9 rfl rfl)
theorem dX7_wetBehind_81 : decode cX7_wetBehind 81 = .ok (.goto (-67), 3) := dk_167 255 189 (dk_at dksX7_wetBehind_3 12 rfl rfl)
theorem dX7_wetBehind_84 : decode cX7_wetBehind 84 = .ok (.aload_n 0, 1) := dk_42 (dk_at dksX7_wetBehind_3 15 rfl rfl)
theorem dX7_wetBehind_85 : decode cX7_wetBehind 85 = .ok (.iload_n 1, 1) := dk_27 (dk_at dksX7_wetBehind_3 16 rfl rfl)
theorem dX7_wetBehind_86 : decode cX7_wetBehind 86 = .ok (.invokevirtual 130, 3) := dk_182 0 130 (dk_at dksX7_wetBehind_3 17 rfl rfl)
theorem dX7_wetBehind_89 : decode cX7_wetBehind 89 = .ok (.ifCond .eq 14, 3) := dk_153 0 14 (dk_at dksX7_wetBehind_3 20 rfl rfl)
theorem dX7_wetBehind_92 : decode cX7_wetBehind 92 = .ok (.aload_n 0, 1) := dk_42 (dk_at dksX7_wetBehind_3 23 rfl rfl)
theorem dX7_wetBehind_93 : decode cX7_wetBehind 93 = .ok (.getfield 7, 3) := dk_180 0 7 (dk_at dksX7_wetBehind_4 0 rfl rfl)
theorem dX7_wetBehind_96 : decode cX7_wetBehind 96 = .ok (.iconst 4, 1) := dk_7 (dk_at dksX7_wetBehind_4 3 rfl rfl)
theorem dX7_wetBehind_97 : decode cX7_wetBehind 97 = .ok (.iload_n 1, 1) := dk_27 (dk_at dksX7_wetBehind_4 4 rfl rfl)
theorem dX7_wetBehind_98 : decode cX7_wetBehind 98 = .ok (.iadd, 1) := dk_96 (dk_at dksX7_wetBehind_4 5 rfl rfl)
theorem dX7_wetBehind_99 : decode cX7_wetBehind 99 = .ok (.iaload, 1) := dk_46 (dk_at dksX7_wetBehind_4 6 rfl rfl)
theorem dX7_wetBehind_100 : decode cX7_wetBehind 100 = .ok (.goto 4, 3) := dk_167 0 4 (dk_at dksX7_wetBehind_4 7 rfl rfl)
theorem dX7_wetBehind_103 : decode cX7_wetBehind 103 = .ok (.iconst (-1), 1) := dk_2 (dk_at dksX7_wetBehind_4 10 rfl rfl)
theorem dX7_wetBehind_104 : decode cX7_wetBehind 104 = .ok (.istore 4, 2) := dk_54 4 (dk_at dksX7_wetBehind_4 11 rfl rfl)
theorem dX7_wetBehind_106 : decode cX7_wetBehind 106 = .ok (.aload_n 0, 1) := dk_42 (dk_at dksX7_wetBehind_4 13 rfl rfl)
theorem dX7_wetBehind_107 : decode cX7_wetBehind 107 = .ok (.getfield 13, 3) := dk_180 0 13 (dk_at dksX7_wetBehind_4 14 rfl rfl)
theorem dX7_wetBehind_110 : decode cX7_wetBehind 110 = .ok (.aload_n 0, 1) := dk_42 (dk_at dksX7_wetBehind_4 17 rfl rfl)
theorem dX7_wetBehind_111 : decode cX7_wetBehind 111 = .ok (.getfield 7, 3) := dk_180 0 7 (dk_at dksX7_wetBehind_4 18 rfl rfl)
theorem dX7_wetBehind_114 : decode cX7_wetBehind 114 = .ok (.invokestatic 294, 3) := dk_184 1 38 (dk_at dksX7_wetBehind_4 21 rfl rfl)
theorem dX7_wetBehind_117 : decode cX7_wetBehind 117 = .ok (.iload 4, 2) := dk_21 4 (dk_at dksX7_wetBehind_5 0 rfl rfl)
theorem dX7_wetBehind_119 : decode cX7_wetBehind 119 = .ok (.ireturn, 1) := dk_172 (dk_at dksX7_wetBehind_5 2 rfl rfl)
abbrev cX7_comes : ByteArray := prog_19_method_89_code
def yX7_comes : MethodName := ⟨RX7, "comes", "(III)J"⟩
def dkwX7_comes_3 : List UInt8 := [184, 1, 72, 29, 184, 1, 126, 173]
abbrev dktX7_comes_3 : List UInt8 := dkwX7_comes_3 ++ []
def dkwX7_comes_2 : List UInt8 := [27, 182, 1, 118, 154, 0, 7, 20, 1, 121, 173, 42, 27, 182, 1, 123, 42, 180, 0, 96, 28, 47, 27]
abbrev dktX7_comes_2 : List UInt8 := dkwX7_comes_2 ++ dktX7_comes_3
def dkwX7_comes_1 : List UInt8 := [184, 0, 126, 153, 0, 11, 27, 42, 180, 0, 137, 164, 0, 7, 20, 1, 89, 173, 42, 3, 181, 0, 137, 42]
abbrev dktX7_comes_1 : List UInt8 := dkwX7_comes_1 ++ dktX7_comes_2
def dkwX7_comes_0 : List UInt8 := [27, 4, 16, 12, 184, 0, 126, 153, 0, 30, 28, 3, 16, 12, 184, 0, 126, 153, 0, 20, 29, 3, 4]
abbrev dktX7_comes_0 : List UInt8 := dkwX7_comes_0 ++ dktX7_comes_1
theorem dksX7_comes_0 : cX7_comes.data.toList.drop 0 = dktX7_comes_0 := by decide +kernel
theorem dksX7_comes_1 : cX7_comes.data.toList.drop 23 = dktX7_comes_1 := dk_seg dksX7_comes_0 23 rfl rfl
theorem dksX7_comes_2 : cX7_comes.data.toList.drop 47 = dktX7_comes_2 := dk_seg dksX7_comes_1 24 rfl rfl
theorem dksX7_comes_3 : cX7_comes.data.toList.drop 70 = dktX7_comes_3 := dk_seg dksX7_comes_2 23 rfl rfl
theorem dX7_comes_0 : decode cX7_comes 0 = .ok (.iload_n 1, 1) := dk_27 (dk_at dksX7_comes_0 0 rfl rfl)
theorem dX7_comes_1 : decode cX7_comes 1 = .ok (.iconst 1, 1) := dk_4 (dk_at dksX7_comes_0 1 rfl rfl)
theorem dX7_comes_2 : decode cX7_comes 2 = .ok (.bipush 12, 2) := dk_16 12 (dk_at dksX7_comes_0 2 rfl rfl)
theorem dX7_comes_4 : decode cX7_comes 4 = .ok (.invokestatic 126, 3) := dk_184 0 126 (dk_at dksX7_comes_0 4 rfl rfl)
theorem dX7_comes_7 : decode cX7_comes 7 = .ok (.ifCond .eq 30, 3) := dk_153 0 30 (dk_at dksX7_comes_0 7 rfl rfl)
theorem dX7_comes_10 : decode cX7_comes 10 = .ok (.iload_n 2, 1) := dk_28 (dk_at dksX7_comes_0 10 rfl rfl)
theorem dX7_comes_11 : decode cX7_comes 11 = .ok (.iconst 0, 1) := dk_3 (dk_at dksX7_comes_0 11 rfl rfl)
theorem dX7_comes_12 : decode cX7_comes 12 = .ok (.bipush 12, 2) := dk_16 12 (dk_at dksX7_comes_0 12 rfl rfl)
theorem dX7_comes_14 : decode cX7_comes 14 = .ok (.invokestatic 126, 3) := dk_184 0 126 (dk_at dksX7_comes_0 14 rfl rfl)
theorem dX7_comes_17 : decode cX7_comes 17 = .ok (.ifCond .eq 20, 3) := dk_153 0 20 (dk_at dksX7_comes_0 17 rfl rfl)
theorem dX7_comes_20 : decode cX7_comes 20 = .ok (.iload_n 3, 1) := dk_29 (dk_at dksX7_comes_0 20 rfl rfl)
theorem dX7_comes_21 : decode cX7_comes 21 = .ok (.iconst 0, 1) := dk_3 (dk_at dksX7_comes_0 21 rfl rfl)
theorem dX7_comes_22 : decode cX7_comes 22 = .ok (.iconst 1, 1) := dk_4 (dk_at dksX7_comes_0 22 rfl rfl)
theorem dX7_comes_23 : decode cX7_comes 23 = .ok (.invokestatic 126, 3) := dk_184 0 126 (dk_at dksX7_comes_1 0 rfl rfl)
theorem dX7_comes_26 : decode cX7_comes 26 = .ok (.ifCond .eq 11, 3) := dk_153 0 11 (dk_at dksX7_comes_1 3 rfl rfl)
theorem dX7_comes_29 : decode cX7_comes 29 = .ok (.iload_n 1, 1) := dk_27 (dk_at dksX7_comes_1 6 rfl rfl)
theorem dX7_comes_30 : decode cX7_comes 30 = .ok (.aload_n 0, 1) := dk_42 (dk_at dksX7_comes_1 7 rfl rfl)
theorem dX7_comes_31 : decode cX7_comes 31 = .ok (.getfield 137, 3) := dk_180 0 137 (dk_at dksX7_comes_1 8 rfl rfl)
theorem dX7_comes_34 : decode cX7_comes 34 = .ok (.if_icmp .le 7, 3) := dk_164 0 7 (dk_at dksX7_comes_1 11 rfl rfl)
theorem dX7_comes_37 : decode cX7_comes 37 = .ok (.ldc2_w 345, 3) := dk_20 1 89 (dk_at dksX7_comes_1 14 rfl rfl)
theorem dX7_comes_40 : decode cX7_comes 40 = .ok (.lreturn, 1) := dk_173 (dk_at dksX7_comes_1 17 rfl rfl)
theorem dX7_comes_41 : decode cX7_comes 41 = .ok (.aload_n 0, 1) := dk_42 (dk_at dksX7_comes_1 18 rfl rfl)
theorem dX7_comes_42 : decode cX7_comes 42 = .ok (.iconst 0, 1) := dk_3 (dk_at dksX7_comes_1 19 rfl rfl)
theorem dX7_comes_43 : decode cX7_comes 43 = .ok (.putfield 137, 3) := dk_181 0 137 (dk_at dksX7_comes_1 20 rfl rfl)
theorem dX7_comes_46 : decode cX7_comes 46 = .ok (.aload_n 0, 1) := dk_42 (dk_at dksX7_comes_1 23 rfl rfl)
theorem dX7_comes_47 : decode cX7_comes 47 = .ok (.iload_n 1, 1) := dk_27 (dk_at dksX7_comes_2 0 rfl rfl)
theorem dX7_comes_48 : decode cX7_comes 48 = .ok (.invokevirtual 374, 3) := dk_182 1 118 (dk_at dksX7_comes_2 1 rfl rfl)
theorem dX7_comes_51 : decode cX7_comes 51 = .ok (.ifCond .ne 7, 3) := dk_154 0 7 (dk_at dksX7_comes_2 4 rfl rfl)
theorem dX7_comes_54 : decode cX7_comes 54 = .ok (.ldc2_w 377, 3) := dk_20 1 121 (dk_at dksX7_comes_2 7 rfl rfl)
theorem dX7_comes_57 : decode cX7_comes 57 = .ok (.lreturn, 1) := dk_173 (dk_at dksX7_comes_2 10 rfl rfl)
theorem dX7_comes_58 : decode cX7_comes 58 = .ok (.aload_n 0, 1) := dk_42 (dk_at dksX7_comes_2 11 rfl rfl)
theorem dX7_comes_59 : decode cX7_comes 59 = .ok (.iload_n 1, 1) := dk_27 (dk_at dksX7_comes_2 12 rfl rfl)
theorem dX7_comes_60 : decode cX7_comes 60 = .ok (.invokevirtual 379, 3) := dk_182 1 123 (dk_at dksX7_comes_2 13 rfl rfl)
theorem dX7_comes_63 : decode cX7_comes 63 = .ok (.aload_n 0, 1) := dk_42 (dk_at dksX7_comes_2 16 rfl rfl)
theorem dX7_comes_64 : decode cX7_comes 64 = .ok (.getfield 96, 3) := dk_180 0 96 (dk_at dksX7_comes_2 17 rfl rfl)
theorem dX7_comes_67 : decode cX7_comes 67 = .ok (.iload_n 2, 1) := dk_28 (dk_at dksX7_comes_2 20 rfl rfl)
theorem dX7_comes_68 : decode cX7_comes 68 = .ok (.laload, 1) := dk_47 (dk_at dksX7_comes_2 21 rfl rfl)
theorem dX7_comes_69 : decode cX7_comes 69 = .ok (.iload_n 1, 1) := dk_27 (dk_at dksX7_comes_2 22 rfl rfl)
theorem dX7_comes_70 : decode cX7_comes 70 = .ok (.invokestatic 328, 3) := dk_184 1 72 (dk_at dksX7_comes_3 0 rfl rfl)
theorem dX7_comes_73 : decode cX7_comes 73 = .ok (.iload_n 3, 1) := dk_29 (dk_at dksX7_comes_3 3 rfl rfl)
theorem dX7_comes_74 : decode cX7_comes 74 = .ok (.invokestatic 382, 3) := dk_184 1 126 (dk_at dksX7_comes_3 4 rfl rfl)
theorem dX7_comes_77 : decode cX7_comes 77 = .ok (.lreturn, 1) := dk_173 (dk_at dksX7_comes_3 7 rfl rfl)
abbrev cX7_areTenths : ByteArray := prog_19_method_87_code
def yX7_areTenths : MethodName := ⟨RX7, "areTenths", "(I)Z"⟩
def dkwX7_areTenths_1 : List UInt8 := [132, 2, 1, 167, 255, 231, 4, 172]
abbrev dktX7_areTenths_1 : List UInt8 := dkwX7_areTenths_1 ++ []
def dkwX7_areTenths_0 : List UInt8 := [3, 61, 28, 27, 162, 0, 26, 42, 180, 0, 19, 28, 51, 3, 16, 10, 184, 0, 126, 154, 0, 5, 3, 172]
abbrev dktX7_areTenths_0 : List UInt8 := dkwX7_areTenths_0 ++ dktX7_areTenths_1
theorem dksX7_areTenths_0 : cX7_areTenths.data.toList.drop 0 = dktX7_areTenths_0 := by decide +kernel
theorem dksX7_areTenths_1 : cX7_areTenths.data.toList.drop 24 = dktX7_areTenths_1 := dk_seg dksX7_areTenths_0 24 rfl rfl
theorem dX7_areTenths_0 : decode cX7_areTenths 0 = .ok (.iconst 0, 1) := dk_3 (dk_at dksX7_areTenths_0 0 rfl rfl)
theorem dX7_areTenths_1 : decode cX7_areTenths 1 = .ok (.istore_n 2, 1) := dk_61 (dk_at dksX7_areTenths_0 1 rfl rfl)
theorem dX7_areTenths_2 : decode cX7_areTenths 2 = .ok (.iload_n 2, 1) := dk_28 (dk_at dksX7_areTenths_0 2 rfl rfl)
theorem dX7_areTenths_3 : decode cX7_areTenths 3 = .ok (.iload_n 1, 1) := dk_27 (dk_at dksX7_areTenths_0 3 rfl rfl)
theorem dX7_areTenths_4 : decode cX7_areTenths 4 = .ok (.if_icmp .ge 26, 3) := dk_162 0 26 (dk_at dksX7_areTenths_0 4 rfl rfl)
theorem dX7_areTenths_7 : decode cX7_areTenths 7 = .ok (.aload_n 0, 1) := dk_42 (dk_at dksX7_areTenths_0 7 rfl rfl)
theorem dX7_areTenths_8 : decode cX7_areTenths 8 = .ok (.getfield 19, 3) := dk_180 0 19 (dk_at dksX7_areTenths_0 8 rfl rfl)
theorem dX7_areTenths_11 : decode cX7_areTenths 11 = .ok (.iload_n 2, 1) := dk_28 (dk_at dksX7_areTenths_0 11 rfl rfl)
theorem dX7_areTenths_12 : decode cX7_areTenths 12 = .ok (.baload, 1) := dk_51 (dk_at dksX7_areTenths_0 12 rfl rfl)
theorem dX7_areTenths_13 : decode cX7_areTenths 13 = .ok (.iconst 0, 1) := dk_3 (dk_at dksX7_areTenths_0 13 rfl rfl)
theorem dX7_areTenths_14 : decode cX7_areTenths 14 = .ok (.bipush 10, 2) := dk_16 10 (dk_at dksX7_areTenths_0 14 rfl rfl)
theorem dX7_areTenths_16 : decode cX7_areTenths 16 = .ok (.invokestatic 126, 3) := dk_184 0 126 (dk_at dksX7_areTenths_0 16 rfl rfl)
theorem dX7_areTenths_19 : decode cX7_areTenths 19 = .ok (.ifCond .ne 5, 3) := dk_154 0 5 (dk_at dksX7_areTenths_0 19 rfl rfl)
theorem dX7_areTenths_22 : decode cX7_areTenths 22 = .ok (.iconst 0, 1) := dk_3 (dk_at dksX7_areTenths_0 22 rfl rfl)
theorem dX7_areTenths_23 : decode cX7_areTenths 23 = .ok (.ireturn, 1) := dk_172 (dk_at dksX7_areTenths_0 23 rfl rfl)
theorem dX7_areTenths_24 : decode cX7_areTenths 24 = .ok (.iinc 2 1, 3) := dk_132 2 1 (dk_at dksX7_areTenths_1 0 rfl rfl)
theorem dX7_areTenths_27 : decode cX7_areTenths 27 = .ok (.goto (-25), 3) := dk_167 255 231 (dk_at dksX7_areTenths_1 3 rfl rfl)
theorem dX7_areTenths_30 : decode cX7_areTenths 30 = .ok (.iconst 1, 1) := dk_4 (dk_at dksX7_areTenths_1 6 rfl rfl)
theorem dX7_areTenths_31 : decode cX7_areTenths 31 = .ok (.ireturn, 1) := dk_172 (dk_at dksX7_areTenths_1 7 rfl rfl)
abbrev cX7_laysComes : ByteArray := prog_19_method_88_code
def yX7_laysComes : MethodName := ⟨RX7, "laysComes", "(I)V"⟩
def dkwX7_laysComes_4 : List UInt8 := [80, 132, 3, 255, 167, 255, 201, 132, 2, 1, 167, 255, 186, 177]
abbrev dktX7_laysComes_4 : List UInt8 := dkwX7_laysComes_4 ++ []
def dkwX7_laysComes_3 : List UInt8 := [158, 0, 22, 42, 180, 0, 96, 29, 4, 100, 47, 42, 180, 0, 19, 28, 51, 133, 105, 167, 0, 4, 9, 97]
abbrev dktX7_laysComes_3 : List UInt8 := dkwX7_laysComes_3 ++ dktX7_laysComes_4
def dkwX7_laysComes_2 : List UInt8 := [180, 0, 96, 29, 42, 180, 0, 96, 29, 47, 16, 10, 42, 180, 0, 19, 28, 51, 100, 133, 105, 29]
abbrev dktX7_laysComes_2 : List UInt8 := dkwX7_laysComes_2 ++ dktX7_laysComes_3
def dkwX7_laysComes_1 : List UInt8 := [132, 2, 1, 167, 255, 232, 3, 61, 28, 27, 162, 0, 71, 28, 4, 96, 62, 29, 155, 0, 57, 42]
abbrev dktX7_laysComes_1 : List UInt8 := dkwX7_laysComes_1 ++ dktX7_laysComes_2
def dkwX7_laysComes_0 : List UInt8 := [3, 61, 28, 16, 13, 162, 0, 24, 42, 180, 0, 96, 28, 28, 154, 0, 7, 10, 167, 0, 4, 9, 80]
abbrev dktX7_laysComes_0 : List UInt8 := dkwX7_laysComes_0 ++ dktX7_laysComes_1
theorem dksX7_laysComes_0 : cX7_laysComes.data.toList.drop 0 = dktX7_laysComes_0 := by decide +kernel
theorem dksX7_laysComes_1 : cX7_laysComes.data.toList.drop 23 = dktX7_laysComes_1 := dk_seg dksX7_laysComes_0 23 rfl rfl
theorem dksX7_laysComes_2 : cX7_laysComes.data.toList.drop 45 = dktX7_laysComes_2 := dk_seg dksX7_laysComes_1 22 rfl rfl
theorem dksX7_laysComes_3 : cX7_laysComes.data.toList.drop 67 = dktX7_laysComes_3 := dk_seg dksX7_laysComes_2 22 rfl rfl
theorem dksX7_laysComes_4 : cX7_laysComes.data.toList.drop 91 = dktX7_laysComes_4 := dk_seg dksX7_laysComes_3 24 rfl rfl
theorem dX7_laysComes_0 : decode cX7_laysComes 0 = .ok (.iconst 0, 1) := dk_3 (dk_at dksX7_laysComes_0 0 rfl rfl)
theorem dX7_laysComes_1 : decode cX7_laysComes 1 = .ok (.istore_n 2, 1) := dk_61 (dk_at dksX7_laysComes_0 1 rfl rfl)
theorem dX7_laysComes_2 : decode cX7_laysComes 2 = .ok (.iload_n 2, 1) := dk_28 (dk_at dksX7_laysComes_0 2 rfl rfl)
theorem dX7_laysComes_3 : decode cX7_laysComes 3 = .ok (.bipush 13, 2) := dk_16 13 (dk_at dksX7_laysComes_0 3 rfl rfl)
theorem dX7_laysComes_5 : decode cX7_laysComes 5 = .ok (.if_icmp .ge 24, 3) := dk_162 0 24 (dk_at dksX7_laysComes_0 5 rfl rfl)
theorem dX7_laysComes_8 : decode cX7_laysComes 8 = .ok (.aload_n 0, 1) := dk_42 (dk_at dksX7_laysComes_0 8 rfl rfl)
theorem dX7_laysComes_9 : decode cX7_laysComes 9 = .ok (.getfield 96, 3) := dk_180 0 96 (dk_at dksX7_laysComes_0 9 rfl rfl)
theorem dX7_laysComes_12 : decode cX7_laysComes 12 = .ok (.iload_n 2, 1) := dk_28 (dk_at dksX7_laysComes_0 12 rfl rfl)
theorem dX7_laysComes_13 : decode cX7_laysComes 13 = .ok (.iload_n 2, 1) := dk_28 (dk_at dksX7_laysComes_0 13 rfl rfl)
theorem dX7_laysComes_14 : decode cX7_laysComes 14 = .ok (.ifCond .ne 7, 3) := dk_154 0 7 (dk_at dksX7_laysComes_0 14 rfl rfl)
theorem dX7_laysComes_17 : decode cX7_laysComes 17 = .ok (.lconst 1, 1) := dk_10 (dk_at dksX7_laysComes_0 17 rfl rfl)
theorem dX7_laysComes_18 : decode cX7_laysComes 18 = .ok (.goto 4, 3) := dk_167 0 4 (dk_at dksX7_laysComes_0 18 rfl rfl)
theorem dX7_laysComes_21 : decode cX7_laysComes 21 = .ok (.lconst 0, 1) := dk_9 (dk_at dksX7_laysComes_0 21 rfl rfl)
theorem dX7_laysComes_22 : decode cX7_laysComes 22 = .ok (.lastore, 1) := dk_80 (dk_at dksX7_laysComes_0 22 rfl rfl)
theorem dX7_laysComes_23 : decode cX7_laysComes 23 = .ok (.iinc 2 1, 3) := dk_132 2 1 (dk_at dksX7_laysComes_1 0 rfl rfl)
theorem dX7_laysComes_26 : decode cX7_laysComes 26 = .ok (.goto (-24), 3) := dk_167 255 232 (dk_at dksX7_laysComes_1 3 rfl rfl)
theorem dX7_laysComes_29 : decode cX7_laysComes 29 = .ok (.iconst 0, 1) := dk_3 (dk_at dksX7_laysComes_1 6 rfl rfl)
theorem dX7_laysComes_30 : decode cX7_laysComes 30 = .ok (.istore_n 2, 1) := dk_61 (dk_at dksX7_laysComes_1 7 rfl rfl)
theorem dX7_laysComes_31 : decode cX7_laysComes 31 = .ok (.iload_n 2, 1) := dk_28 (dk_at dksX7_laysComes_1 8 rfl rfl)
theorem dX7_laysComes_32 : decode cX7_laysComes 32 = .ok (.iload_n 1, 1) := dk_27 (dk_at dksX7_laysComes_1 9 rfl rfl)
theorem dX7_laysComes_33 : decode cX7_laysComes 33 = .ok (.if_icmp .ge 71, 3) := dk_162 0 71 (dk_at dksX7_laysComes_1 10 rfl rfl)
theorem dX7_laysComes_36 : decode cX7_laysComes 36 = .ok (.iload_n 2, 1) := dk_28 (dk_at dksX7_laysComes_1 13 rfl rfl)
theorem dX7_laysComes_37 : decode cX7_laysComes 37 = .ok (.iconst 1, 1) := dk_4 (dk_at dksX7_laysComes_1 14 rfl rfl)
theorem dX7_laysComes_38 : decode cX7_laysComes 38 = .ok (.iadd, 1) := dk_96 (dk_at dksX7_laysComes_1 15 rfl rfl)
theorem dX7_laysComes_39 : decode cX7_laysComes 39 = .ok (.istore_n 3, 1) := dk_62 (dk_at dksX7_laysComes_1 16 rfl rfl)
theorem dX7_laysComes_40 : decode cX7_laysComes 40 = .ok (.iload_n 3, 1) := dk_29 (dk_at dksX7_laysComes_1 17 rfl rfl)
theorem dX7_laysComes_41 : decode cX7_laysComes 41 = .ok (.ifCond .lt 57, 3) := dk_155 0 57 (dk_at dksX7_laysComes_1 18 rfl rfl)
theorem dX7_laysComes_44 : decode cX7_laysComes 44 = .ok (.aload_n 0, 1) := dk_42 (dk_at dksX7_laysComes_1 21 rfl rfl)
theorem dX7_laysComes_45 : decode cX7_laysComes 45 = .ok (.getfield 96, 3) := dk_180 0 96 (dk_at dksX7_laysComes_2 0 rfl rfl)
theorem dX7_laysComes_48 : decode cX7_laysComes 48 = .ok (.iload_n 3, 1) := dk_29 (dk_at dksX7_laysComes_2 3 rfl rfl)
theorem dX7_laysComes_49 : decode cX7_laysComes 49 = .ok (.aload_n 0, 1) := dk_42 (dk_at dksX7_laysComes_2 4 rfl rfl)
theorem dX7_laysComes_50 : decode cX7_laysComes 50 = .ok (.getfield 96, 3) := dk_180 0 96 (dk_at dksX7_laysComes_2 5 rfl rfl)
theorem dX7_laysComes_53 : decode cX7_laysComes 53 = .ok (.iload_n 3, 1) := dk_29 (dk_at dksX7_laysComes_2 8 rfl rfl)
theorem dX7_laysComes_54 : decode cX7_laysComes 54 = .ok (.laload, 1) := dk_47 (dk_at dksX7_laysComes_2 9 rfl rfl)
theorem dX7_laysComes_55 : decode cX7_laysComes 55 = .ok (.bipush 10, 2) := dk_16 10 (dk_at dksX7_laysComes_2 10 rfl rfl)
theorem dX7_laysComes_57 : decode cX7_laysComes 57 = .ok (.aload_n 0, 1) := dk_42 (dk_at dksX7_laysComes_2 12 rfl rfl)
theorem dX7_laysComes_58 : decode cX7_laysComes 58 = .ok (.getfield 19, 3) := dk_180 0 19 (dk_at dksX7_laysComes_2 13 rfl rfl)
theorem dX7_laysComes_61 : decode cX7_laysComes 61 = .ok (.iload_n 2, 1) := dk_28 (dk_at dksX7_laysComes_2 16 rfl rfl)
theorem dX7_laysComes_62 : decode cX7_laysComes 62 = .ok (.baload, 1) := dk_51 (dk_at dksX7_laysComes_2 17 rfl rfl)
theorem dX7_laysComes_63 : decode cX7_laysComes 63 = .ok (.isub, 1) := dk_100 (dk_at dksX7_laysComes_2 18 rfl rfl)
theorem dX7_laysComes_64 : decode cX7_laysComes 64 = .ok (.i2l, 1) := dk_133 (dk_at dksX7_laysComes_2 19 rfl rfl)
theorem dX7_laysComes_65 : decode cX7_laysComes 65 = .ok (.lmul, 1) := dk_105 (dk_at dksX7_laysComes_2 20 rfl rfl)
theorem dX7_laysComes_66 : decode cX7_laysComes 66 = .ok (.iload_n 3, 1) := dk_29 (dk_at dksX7_laysComes_2 21 rfl rfl)
theorem dX7_laysComes_67 : decode cX7_laysComes 67 = .ok (.ifCond .le 22, 3) := dk_158 0 22 (dk_at dksX7_laysComes_3 0 rfl rfl)
theorem dX7_laysComes_70 : decode cX7_laysComes 70 = .ok (.aload_n 0, 1) := dk_42 (dk_at dksX7_laysComes_3 3 rfl rfl)
theorem dX7_laysComes_71 : decode cX7_laysComes 71 = .ok (.getfield 96, 3) := dk_180 0 96 (dk_at dksX7_laysComes_3 4 rfl rfl)
theorem dX7_laysComes_74 : decode cX7_laysComes 74 = .ok (.iload_n 3, 1) := dk_29 (dk_at dksX7_laysComes_3 7 rfl rfl)
theorem dX7_laysComes_75 : decode cX7_laysComes 75 = .ok (.iconst 1, 1) := dk_4 (dk_at dksX7_laysComes_3 8 rfl rfl)
theorem dX7_laysComes_76 : decode cX7_laysComes 76 = .ok (.isub, 1) := dk_100 (dk_at dksX7_laysComes_3 9 rfl rfl)
theorem dX7_laysComes_77 : decode cX7_laysComes 77 = .ok (.laload, 1) := dk_47 (dk_at dksX7_laysComes_3 10 rfl rfl)
theorem dX7_laysComes_78 : decode cX7_laysComes 78 = .ok (.aload_n 0, 1) := dk_42 (dk_at dksX7_laysComes_3 11 rfl rfl)
theorem dX7_laysComes_79 : decode cX7_laysComes 79 = .ok (.getfield 19, 3) := dk_180 0 19 (dk_at dksX7_laysComes_3 12 rfl rfl)
theorem dX7_laysComes_82 : decode cX7_laysComes 82 = .ok (.iload_n 2, 1) := dk_28 (dk_at dksX7_laysComes_3 15 rfl rfl)
theorem dX7_laysComes_83 : decode cX7_laysComes 83 = .ok (.baload, 1) := dk_51 (dk_at dksX7_laysComes_3 16 rfl rfl)
theorem dX7_laysComes_84 : decode cX7_laysComes 84 = .ok (.i2l, 1) := dk_133 (dk_at dksX7_laysComes_3 17 rfl rfl)
theorem dX7_laysComes_85 : decode cX7_laysComes 85 = .ok (.lmul, 1) := dk_105 (dk_at dksX7_laysComes_3 18 rfl rfl)
theorem dX7_laysComes_86 : decode cX7_laysComes 86 = .ok (.goto 4, 3) := dk_167 0 4 (dk_at dksX7_laysComes_3 19 rfl rfl)
theorem dX7_laysComes_89 : decode cX7_laysComes 89 = .ok (.lconst 0, 1) := dk_9 (dk_at dksX7_laysComes_3 22 rfl rfl)
theorem dX7_laysComes_90 : decode cX7_laysComes 90 = .ok (.ladd, 1) := dk_97 (dk_at dksX7_laysComes_3 23 rfl rfl)
theorem dX7_laysComes_91 : decode cX7_laysComes 91 = .ok (.lastore, 1) := dk_80 (dk_at dksX7_laysComes_4 0 rfl rfl)
theorem dX7_laysComes_92 : decode cX7_laysComes 92 = .ok (.iinc 3 (-1), 3) := dk_132 3 255 (dk_at dksX7_laysComes_4 1 rfl rfl)
theorem dX7_laysComes_95 : decode cX7_laysComes 95 = .ok (.goto (-55), 3) := dk_167 255 201 (dk_at dksX7_laysComes_4 4 rfl rfl)
theorem dX7_laysComes_98 : decode cX7_laysComes 98 = .ok (.iinc 2 1, 3) := dk_132 2 1 (dk_at dksX7_laysComes_4 7 rfl rfl)
theorem dX7_laysComes_101 : decode cX7_laysComes 101 = .ok (.goto (-70), 3) := dk_167 255 186 (dk_at dksX7_laysComes_4 10 rfl rfl)
theorem dX7_laysComes_104 : decode cX7_laysComes 104 = .ok (.return_, 1) := dk_177 (dk_at dksX7_laysComes_4 13 rfl rfl)
abbrev cX7_through : ByteArray := prog_19_method_10_code
def yX7_through : MethodName := ⟨RX7, "through", "(JJI)J"⟩
def dkwX7_through_0 : List UInt8 := [30, 32, 184, 0, 114, 55, 5, 21, 4, 154, 0, 10, 30, 22, 5, 109, 167, 0, 7, 32, 22, 5, 109, 173]
abbrev dktX7_through_0 : List UInt8 := dkwX7_through_0 ++ []
theorem dksX7_through_0 : cX7_through.data.toList.drop 0 = dktX7_through_0 := by decide +kernel
theorem dX7_through_0 : decode cX7_through 0 = .ok (.lload_n 0, 1) := dk_30 (dk_at dksX7_through_0 0 rfl rfl)
theorem dX7_through_1 : decode cX7_through 1 = .ok (.lload_n 2, 1) := dk_32 (dk_at dksX7_through_0 1 rfl rfl)
theorem dX7_through_2 : decode cX7_through 2 = .ok (.invokestatic 114, 3) := dk_184 0 114 (dk_at dksX7_through_0 2 rfl rfl)
theorem dX7_through_5 : decode cX7_through 5 = .ok (.lstore 5, 2) := dk_55 5 (dk_at dksX7_through_0 5 rfl rfl)
theorem dX7_through_7 : decode cX7_through 7 = .ok (.iload 4, 2) := dk_21 4 (dk_at dksX7_through_0 7 rfl rfl)
theorem dX7_through_9 : decode cX7_through 9 = .ok (.ifCond .ne 10, 3) := dk_154 0 10 (dk_at dksX7_through_0 9 rfl rfl)
theorem dX7_through_12 : decode cX7_through 12 = .ok (.lload_n 0, 1) := dk_30 (dk_at dksX7_through_0 12 rfl rfl)
theorem dX7_through_13 : decode cX7_through 13 = .ok (.lload 5, 2) := dk_22 5 (dk_at dksX7_through_0 13 rfl rfl)
theorem dX7_through_15 : decode cX7_through 15 = .ok (.ldiv, 1) := dk_109 (dk_at dksX7_through_0 15 rfl rfl)
theorem dX7_through_16 : decode cX7_through 16 = .ok (.goto 7, 3) := dk_167 0 7 (dk_at dksX7_through_0 16 rfl rfl)
theorem dX7_through_19 : decode cX7_through 19 = .ok (.lload_n 2, 1) := dk_32 (dk_at dksX7_through_0 19 rfl rfl)
theorem dX7_through_20 : decode cX7_through 20 = .ok (.lload 5, 2) := dk_22 5 (dk_at dksX7_through_0 20 rfl rfl)
theorem dX7_through_22 : decode cX7_through 22 = .ok (.ldiv, 1) := dk_109 (dk_at dksX7_through_0 22 rfl rfl)
theorem dX7_through_23 : decode cX7_through 23 = .ok (.lreturn, 1) := dk_173 (dk_at dksX7_through_0 23 rfl rfl)
abbrev cX7_gcd : ByteArray := prog_19_method_9_code
def yX7_gcd : MethodName := ⟨RX7, "gcd", "(JJ)J"⟩
def dkwX7_gcd_1 : List UInt8 := [22, 8, 55, 6, 167, 255, 234, 22, 4, 173]
abbrev dktX7_gcd_1 : List UInt8 := dkwX7_gcd_1 ++ []
def dkwX7_gcd_0 : List UInt8 := [30, 55, 4, 32, 55, 6, 22, 6, 9, 148, 153, 0, 21, 22, 4, 22, 6, 113, 55, 8, 22, 6, 55, 4]
abbrev dktX7_gcd_0 : List UInt8 := dkwX7_gcd_0 ++ dktX7_gcd_1
theorem dksX7_gcd_0 : cX7_gcd.data.toList.drop 0 = dktX7_gcd_0 := by decide +kernel
theorem dksX7_gcd_1 : cX7_gcd.data.toList.drop 24 = dktX7_gcd_1 := dk_seg dksX7_gcd_0 24 rfl rfl
theorem dX7_gcd_0 : decode cX7_gcd 0 = .ok (.lload_n 0, 1) := dk_30 (dk_at dksX7_gcd_0 0 rfl rfl)
theorem dX7_gcd_1 : decode cX7_gcd 1 = .ok (.lstore 4, 2) := dk_55 4 (dk_at dksX7_gcd_0 1 rfl rfl)
theorem dX7_gcd_3 : decode cX7_gcd 3 = .ok (.lload_n 2, 1) := dk_32 (dk_at dksX7_gcd_0 3 rfl rfl)
theorem dX7_gcd_4 : decode cX7_gcd 4 = .ok (.lstore 6, 2) := dk_55 6 (dk_at dksX7_gcd_0 4 rfl rfl)
theorem dX7_gcd_6 : decode cX7_gcd 6 = .ok (.lload 6, 2) := dk_22 6 (dk_at dksX7_gcd_0 6 rfl rfl)
theorem dX7_gcd_8 : decode cX7_gcd 8 = .ok (.lconst 0, 1) := dk_9 (dk_at dksX7_gcd_0 8 rfl rfl)
theorem dX7_gcd_9 : decode cX7_gcd 9 = .ok (.lcmp, 1) := dk_148 (dk_at dksX7_gcd_0 9 rfl rfl)
theorem dX7_gcd_10 : decode cX7_gcd 10 = .ok (.ifCond .eq 21, 3) := dk_153 0 21 (dk_at dksX7_gcd_0 10 rfl rfl)
theorem dX7_gcd_13 : decode cX7_gcd 13 = .ok (.lload 4, 2) := dk_22 4 (dk_at dksX7_gcd_0 13 rfl rfl)
theorem dX7_gcd_15 : decode cX7_gcd 15 = .ok (.lload 6, 2) := dk_22 6 (dk_at dksX7_gcd_0 15 rfl rfl)
theorem dX7_gcd_17 : decode cX7_gcd 17 = .ok (.lrem, 1) := dk_113 (dk_at dksX7_gcd_0 17 rfl rfl)
theorem dX7_gcd_18 : decode cX7_gcd 18 = .ok (.lstore 8, 2) := dk_55 8 (dk_at dksX7_gcd_0 18 rfl rfl)
theorem dX7_gcd_20 : decode cX7_gcd 20 = .ok (.lload 6, 2) := dk_22 6 (dk_at dksX7_gcd_0 20 rfl rfl)
theorem dX7_gcd_22 : decode cX7_gcd 22 = .ok (.lstore 4, 2) := dk_55 4 (dk_at dksX7_gcd_0 22 rfl rfl)
theorem dX7_gcd_24 : decode cX7_gcd 24 = .ok (.lload 8, 2) := dk_22 8 (dk_at dksX7_gcd_1 0 rfl rfl)
theorem dX7_gcd_26 : decode cX7_gcd 26 = .ok (.lstore 6, 2) := dk_55 6 (dk_at dksX7_gcd_1 2 rfl rfl)
theorem dX7_gcd_28 : decode cX7_gcd 28 = .ok (.goto (-22), 3) := dk_167 255 234 (dk_at dksX7_gcd_1 4 rfl rfl)
theorem dX7_gcd_31 : decode cX7_gcd 31 = .ok (.lload 4, 2) := dk_22 4 (dk_at dksX7_gcd_1 7 rfl rfl)
theorem dX7_gcd_33 : decode cX7_gcd 33 = .ok (.lreturn, 1) := dk_173 (dk_at dksX7_gcd_1 9 rfl rfl)
abbrev cX7_share : ByteArray := prog_19_method_90_code
def yX7_share : MethodName := ⟨RX7, "share", "(II)I"⟩
def dkwX7_share_6 : List UInt8 := [180, 0, 7, 16, 68, 27, 96, 46, 133, 29, 133, 28, 184, 1, 126, 136, 172]
abbrev dktX7_share_6 : List UInt8 := dkwX7_share_6 ++ []
def dkwX7_share_5 : List UInt8 := [153, 0, 12, 28, 3, 4, 184, 0, 126, 154, 0, 5, 2, 172, 29, 154, 0, 7, 28, 167, 0, 20, 42]
abbrev dktX7_share_5 : List UInt8 := dkwX7_share_5 ++ dktX7_share_6
def dkwX7_share_4 : List UInt8 := [167, 255, 174, 27, 2, 160, 0, 14, 28, 154, 0, 8, 21, 4, 167, 0, 4, 2, 172, 42, 27, 182, 1, 3]
abbrev dktX7_share_4 : List UInt8 := dkwX7_share_4 ++ dktX7_share_5
def dkwX7_share_3 : List UInt8 := [96, 46, 42, 180, 0, 7, 16, 68, 21, 4, 96, 46, 164, 0, 7, 21, 5, 54, 4, 132, 5, 1]
abbrev dktX7_share_3 : List UInt8 := dkwX7_share_3 ++ dktX7_share_4
def dkwX7_share_2 : List UInt8 := [16, 68, 21, 5, 96, 46, 158, 0, 37, 21, 4, 16, 254, 159, 0, 26, 42, 180, 0, 7, 16, 68, 21, 5]
abbrev dktX7_share_2 : List UInt8 := dkwX7_share_2 ++ dktX7_share_3
def dkwX7_share_1 : List UInt8 := [154, 0, 6, 167, 0, 63, 29, 42, 180, 0, 7, 16, 68, 21, 5, 96, 46, 96, 62, 42, 180, 0, 7]
abbrev dktX7_share_1 : List UInt8 := dkwX7_share_1 ++ dktX7_share_2
def dkwX7_share_0 : List UInt8 := [3, 62, 16, 254, 54, 4, 3, 54, 5, 21, 5, 16, 8, 162, 0, 81, 42, 21, 5, 182, 1, 3]
abbrev dktX7_share_0 : List UInt8 := dkwX7_share_0 ++ dktX7_share_1
theorem dksX7_share_0 : cX7_share.data.toList.drop 0 = dktX7_share_0 := by decide +kernel
theorem dksX7_share_1 : cX7_share.data.toList.drop 22 = dktX7_share_1 := dk_seg dksX7_share_0 22 rfl rfl
theorem dksX7_share_2 : cX7_share.data.toList.drop 45 = dktX7_share_2 := dk_seg dksX7_share_1 23 rfl rfl
theorem dksX7_share_3 : cX7_share.data.toList.drop 69 = dktX7_share_3 := dk_seg dksX7_share_2 24 rfl rfl
theorem dksX7_share_4 : cX7_share.data.toList.drop 91 = dktX7_share_4 := dk_seg dksX7_share_3 22 rfl rfl
theorem dksX7_share_5 : cX7_share.data.toList.drop 115 = dktX7_share_5 := dk_seg dksX7_share_4 24 rfl rfl
theorem dksX7_share_6 : cX7_share.data.toList.drop 138 = dktX7_share_6 := dk_seg dksX7_share_5 23 rfl rfl
theorem dX7_share_0 : decode cX7_share 0 = .ok (.iconst 0, 1) := dk_3 (dk_at dksX7_share_0 0 rfl rfl)
theorem dX7_share_1 : decode cX7_share 1 = .ok (.istore_n 3, 1) := dk_62 (dk_at dksX7_share_0 1 rfl rfl)
theorem dX7_share_2 : decode cX7_share 2 = .ok (.bipush (-2), 2) := dk_16 254 (dk_at dksX7_share_0 2 rfl rfl)
theorem dX7_share_4 : decode cX7_share 4 = .ok (.istore 4, 2) := dk_54 4 (dk_at dksX7_share_0 4 rfl rfl)
theorem dX7_share_6 : decode cX7_share 6 = .ok (.iconst 0, 1) := dk_3 (dk_at dksX7_share_0 6 rfl rfl)
theorem dX7_share_7 : decode cX7_share 7 = .ok (.istore 5, 2) := dk_54 5 (dk_at dksX7_share_0 7 rfl rfl)
theorem dX7_share_9 : decode cX7_share 9 = .ok (.iload 5, 2) := dk_21 5 (dk_at dksX7_share_0 9 rfl rfl)
theorem dX7_share_11 : decode cX7_share 11 = .ok (.bipush 8, 2) := dk_16 8 (dk_at dksX7_share_0 11 rfl rfl)
theorem dX7_share_13 : decode cX7_share 13 = .ok (.if_icmp .ge 81, 3) := dk_162 0 81 (dk_at dksX7_share_0 13 rfl rfl)
theorem dX7_share_16 : decode cX7_share 16 = .ok (.aload_n 0, 1) := dk_42 (dk_at dksX7_share_0 16 rfl rfl)
theorem dX7_share_17 : decode cX7_share 17 = .ok (.iload 5, 2) := dk_21 5 (dk_at dksX7_share_0 17 rfl rfl)
theorem dX7_share_19 : decode cX7_share 19 = .ok (.invokevirtual 259, 3) := dk_182 1 3 (dk_at dksX7_share_0 19 rfl rfl)
theorem dX7_share_22 : decode cX7_share 22 = .ok (.ifCond .ne 6, 3) := dk_154 0 6 (dk_at dksX7_share_1 0 rfl rfl)
theorem dX7_share_25 : decode cX7_share 25 = .ok (.goto 63, 3) := dk_167 0 63 (dk_at dksX7_share_1 3 rfl rfl)
theorem dX7_share_28 : decode cX7_share 28 = .ok (.iload_n 3, 1) := dk_29 (dk_at dksX7_share_1 6 rfl rfl)
theorem dX7_share_29 : decode cX7_share 29 = .ok (.aload_n 0, 1) := dk_42 (dk_at dksX7_share_1 7 rfl rfl)
theorem dX7_share_30 : decode cX7_share 30 = .ok (.getfield 7, 3) := dk_180 0 7 (dk_at dksX7_share_1 8 rfl rfl)
theorem dX7_share_33 : decode cX7_share 33 = .ok (.bipush 68, 2) := dk_16 68 (dk_at dksX7_share_1 11 rfl rfl)
theorem dX7_share_35 : decode cX7_share 35 = .ok (.iload 5, 2) := dk_21 5 (dk_at dksX7_share_1 13 rfl rfl)
theorem dX7_share_37 : decode cX7_share 37 = .ok (.iadd, 1) := dk_96 (dk_at dksX7_share_1 15 rfl rfl)
theorem dX7_share_38 : decode cX7_share 38 = .ok (.iaload, 1) := dk_46 (dk_at dksX7_share_1 16 rfl rfl)
theorem dX7_share_39 : decode cX7_share 39 = .ok (.iadd, 1) := dk_96 (dk_at dksX7_share_1 17 rfl rfl)
theorem dX7_share_40 : decode cX7_share 40 = .ok (.istore_n 3, 1) := dk_62 (dk_at dksX7_share_1 18 rfl rfl)
theorem dX7_share_41 : decode cX7_share 41 = .ok (.aload_n 0, 1) := dk_42 (dk_at dksX7_share_1 19 rfl rfl)
theorem dX7_share_42 : decode cX7_share 42 = .ok (.getfield 7, 3) := dk_180 0 7 (dk_at dksX7_share_1 20 rfl rfl)
theorem dX7_share_45 : decode cX7_share 45 = .ok (.bipush 68, 2) := dk_16 68 (dk_at dksX7_share_2 0 rfl rfl)
theorem dX7_share_47 : decode cX7_share 47 = .ok (.iload 5, 2) := dk_21 5 (dk_at dksX7_share_2 2 rfl rfl)
theorem dX7_share_49 : decode cX7_share 49 = .ok (.iadd, 1) := dk_96 (dk_at dksX7_share_2 4 rfl rfl)
theorem dX7_share_50 : decode cX7_share 50 = .ok (.iaload, 1) := dk_46 (dk_at dksX7_share_2 5 rfl rfl)
theorem dX7_share_51 : decode cX7_share 51 = .ok (.ifCond .le 37, 3) := dk_158 0 37 (dk_at dksX7_share_2 6 rfl rfl)
theorem dX7_share_54 : decode cX7_share 54 = .ok (.iload 4, 2) := dk_21 4 (dk_at dksX7_share_2 9 rfl rfl)
theorem dX7_share_56 : decode cX7_share 56 = .ok (.bipush (-2), 2) := dk_16 254 (dk_at dksX7_share_2 11 rfl rfl)
theorem dX7_share_58 : decode cX7_share 58 = .ok (.if_icmp .eq 26, 3) := dk_159 0 26 (dk_at dksX7_share_2 13 rfl rfl)
theorem dX7_share_61 : decode cX7_share 61 = .ok (.aload_n 0, 1) := dk_42 (dk_at dksX7_share_2 16 rfl rfl)
theorem dX7_share_62 : decode cX7_share 62 = .ok (.getfield 7, 3) := dk_180 0 7 (dk_at dksX7_share_2 17 rfl rfl)
theorem dX7_share_65 : decode cX7_share 65 = .ok (.bipush 68, 2) := dk_16 68 (dk_at dksX7_share_2 20 rfl rfl)
theorem dX7_share_67 : decode cX7_share 67 = .ok (.iload 5, 2) := dk_21 5 (dk_at dksX7_share_2 22 rfl rfl)
theorem dX7_share_69 : decode cX7_share 69 = .ok (.iadd, 1) := dk_96 (dk_at dksX7_share_3 0 rfl rfl)
theorem dX7_share_70 : decode cX7_share 70 = .ok (.iaload, 1) := dk_46 (dk_at dksX7_share_3 1 rfl rfl)
theorem dX7_share_71 : decode cX7_share 71 = .ok (.aload_n 0, 1) := dk_42 (dk_at dksX7_share_3 2 rfl rfl)
theorem dX7_share_72 : decode cX7_share 72 = .ok (.getfield 7, 3) := dk_180 0 7 (dk_at dksX7_share_3 3 rfl rfl)
theorem dX7_share_75 : decode cX7_share 75 = .ok (.bipush 68, 2) := dk_16 68 (dk_at dksX7_share_3 6 rfl rfl)
theorem dX7_share_77 : decode cX7_share 77 = .ok (.iload 4, 2) := dk_21 4 (dk_at dksX7_share_3 8 rfl rfl)
theorem dX7_share_79 : decode cX7_share 79 = .ok (.iadd, 1) := dk_96 (dk_at dksX7_share_3 10 rfl rfl)
theorem dX7_share_80 : decode cX7_share 80 = .ok (.iaload, 1) := dk_46 (dk_at dksX7_share_3 11 rfl rfl)
theorem dX7_share_81 : decode cX7_share 81 = .ok (.if_icmp .le 7, 3) := dk_164 0 7 (dk_at dksX7_share_3 12 rfl rfl)
theorem dX7_share_84 : decode cX7_share 84 = .ok (.iload 5, 2) := dk_21 5 (dk_at dksX7_share_3 15 rfl rfl)
theorem dX7_share_86 : decode cX7_share 86 = .ok (.istore 4, 2) := dk_54 4 (dk_at dksX7_share_3 17 rfl rfl)
theorem dX7_share_88 : decode cX7_share 88 = .ok (.iinc 5 1, 3) := dk_132 5 1 (dk_at dksX7_share_3 19 rfl rfl)
theorem dX7_share_91 : decode cX7_share 91 = .ok (.goto (-82), 3) := dk_167 255 174 (dk_at dksX7_share_4 0 rfl rfl)
theorem dX7_share_94 : decode cX7_share 94 = .ok (.iload_n 1, 1) := dk_27 (dk_at dksX7_share_4 3 rfl rfl)
theorem dX7_share_95 : decode cX7_share 95 = .ok (.iconst (-1), 1) := dk_2 (dk_at dksX7_share_4 4 rfl rfl)
theorem dX7_share_96 : decode cX7_share 96 = .ok (.if_icmp .ne 14, 3) := dk_160 0 14 (dk_at dksX7_share_4 5 rfl rfl)
theorem dX7_share_99 : decode cX7_share 99 = .ok (.iload_n 2, 1) := dk_28 (dk_at dksX7_share_4 8 rfl rfl)
theorem dX7_share_100 : decode cX7_share 100 = .ok (.ifCond .ne 8, 3) := dk_154 0 8 (dk_at dksX7_share_4 9 rfl rfl)
theorem dX7_share_103 : decode cX7_share 103 = .ok (.iload 4, 2) := dk_21 4 (dk_at dksX7_share_4 12 rfl rfl)
theorem dX7_share_105 : decode cX7_share 105 = .ok (.goto 4, 3) := dk_167 0 4 (dk_at dksX7_share_4 14 rfl rfl)
theorem dX7_share_108 : decode cX7_share 108 = .ok (.iconst (-1), 1) := dk_2 (dk_at dksX7_share_4 17 rfl rfl)
theorem dX7_share_109 : decode cX7_share 109 = .ok (.ireturn, 1) := dk_172 (dk_at dksX7_share_4 18 rfl rfl)
theorem dX7_share_110 : decode cX7_share 110 = .ok (.aload_n 0, 1) := dk_42 (dk_at dksX7_share_4 19 rfl rfl)
theorem dX7_share_111 : decode cX7_share 111 = .ok (.iload_n 1, 1) := dk_27 (dk_at dksX7_share_4 20 rfl rfl)
theorem dX7_share_112 : decode cX7_share 112 = .ok (.invokevirtual 259, 3) := dk_182 1 3 (dk_at dksX7_share_4 21 rfl rfl)
theorem dX7_share_115 : decode cX7_share 115 = .ok (.ifCond .eq 12, 3) := dk_153 0 12 (dk_at dksX7_share_5 0 rfl rfl)
theorem dX7_share_118 : decode cX7_share 118 = .ok (.iload_n 2, 1) := dk_28 (dk_at dksX7_share_5 3 rfl rfl)
theorem dX7_share_119 : decode cX7_share 119 = .ok (.iconst 0, 1) := dk_3 (dk_at dksX7_share_5 4 rfl rfl)
theorem dX7_share_120 : decode cX7_share 120 = .ok (.iconst 1, 1) := dk_4 (dk_at dksX7_share_5 5 rfl rfl)
theorem dX7_share_121 : decode cX7_share 121 = .ok (.invokestatic 126, 3) := dk_184 0 126 (dk_at dksX7_share_5 6 rfl rfl)
theorem dX7_share_124 : decode cX7_share 124 = .ok (.ifCond .ne 5, 3) := dk_154 0 5 (dk_at dksX7_share_5 9 rfl rfl)
theorem dX7_share_127 : decode cX7_share 127 = .ok (.iconst (-1), 1) := dk_2 (dk_at dksX7_share_5 12 rfl rfl)
theorem dX7_share_128 : decode cX7_share 128 = .ok (.ireturn, 1) := dk_172 (dk_at dksX7_share_5 13 rfl rfl)
theorem dX7_share_129 : decode cX7_share 129 = .ok (.iload_n 3, 1) := dk_29 (dk_at dksX7_share_5 14 rfl rfl)
theorem dX7_share_130 : decode cX7_share 130 = .ok (.ifCond .ne 7, 3) := dk_154 0 7 (dk_at dksX7_share_5 15 rfl rfl)
theorem dX7_share_133 : decode cX7_share 133 = .ok (.iload_n 2, 1) := dk_28 (dk_at dksX7_share_5 18 rfl rfl)
theorem dX7_share_134 : decode cX7_share 134 = .ok (.goto 20, 3) := dk_167 0 20 (dk_at dksX7_share_5 19 rfl rfl)
theorem dX7_share_137 : decode cX7_share 137 = .ok (.aload_n 0, 1) := dk_42 (dk_at dksX7_share_5 22 rfl rfl)
theorem dX7_share_138 : decode cX7_share 138 = .ok (.getfield 7, 3) := dk_180 0 7 (dk_at dksX7_share_6 0 rfl rfl)
theorem dX7_share_141 : decode cX7_share 141 = .ok (.bipush 68, 2) := dk_16 68 (dk_at dksX7_share_6 3 rfl rfl)
theorem dX7_share_143 : decode cX7_share 143 = .ok (.iload_n 1, 1) := dk_27 (dk_at dksX7_share_6 5 rfl rfl)
theorem dX7_share_144 : decode cX7_share 144 = .ok (.iadd, 1) := dk_96 (dk_at dksX7_share_6 6 rfl rfl)
theorem dX7_share_145 : decode cX7_share 145 = .ok (.iaload, 1) := dk_46 (dk_at dksX7_share_6 7 rfl rfl)
theorem dX7_share_146 : decode cX7_share 146 = .ok (.i2l, 1) := dk_133 (dk_at dksX7_share_6 8 rfl rfl)
theorem dX7_share_147 : decode cX7_share 147 = .ok (.iload_n 3, 1) := dk_29 (dk_at dksX7_share_6 9 rfl rfl)
theorem dX7_share_148 : decode cX7_share 148 = .ok (.i2l, 1) := dk_133 (dk_at dksX7_share_6 10 rfl rfl)
theorem dX7_share_149 : decode cX7_share 149 = .ok (.iload_n 2, 1) := dk_28 (dk_at dksX7_share_6 11 rfl rfl)
theorem dX7_share_150 : decode cX7_share 150 = .ok (.invokestatic 382, 3) := dk_184 1 126 (dk_at dksX7_share_6 12 rfl rfl)
theorem dX7_share_153 : decode cX7_share 153 = .ok (.l2i, 1) := dk_136 (dk_at dksX7_share_6 15 rfl rfl)
theorem dX7_share_154 : decode cX7_share 154 = .ok (.ireturn, 1) := dk_172 (dk_at dksX7_share_6 16 rfl rfl)
abbrev cX7_rota : ByteArray := prog_19_method_94_code
def yX7_rota : MethodName := ⟨RX7, "rota", "(III)I"⟩
def dkwX7_rota_9 : List UInt8 := [182, 1, 148, 29, 4, 160, 0, 10, 42, 180, 1, 139, 167, 0, 7, 42, 180, 1, 142, 172]
abbrev dktX7_rota_9 : List UInt8 := dkwX7_rota_9 ++ []
def dkwX7_rota_8 : List UInt8 := [160, 0, 7, 4, 167, 0, 4, 3, 96, 54, 5, 132, 6, 1, 167, 255, 220, 21, 5, 172, 42, 27]
abbrev dktX7_rota_8 : List UInt8 := dkwX7_rota_8 ++ dktX7_rota_9
def dkwX7_rota_7 : List UInt8 := [54, 6, 21, 6, 42, 180, 1, 136, 162, 0, 33, 21, 5, 42, 180, 0, 99, 21, 6, 46, 29, 16, 10, 100]
abbrev dktX7_rota_7 : List UInt8 := dkwX7_rota_7 ++ dktX7_rota_8
def dkwX7_rota_6 : List UInt8 := [180, 0, 154, 172, 29, 154, 0, 8, 42, 180, 1, 136, 172, 29, 16, 10, 161, 0, 51, 3, 54, 5, 3]
abbrev dktX7_rota_6 : List UInt8 := dkwX7_rota_6 ++ dktX7_rota_7
def dkwX7_rota_5 : List UInt8 := [153, 0, 7, 4, 167, 0, 4, 3, 54, 4, 167, 255, 217, 42, 3, 181, 0, 137, 21, 4, 154, 0, 8, 42]
abbrev dktX7_rota_5 : List UInt8 := dkwX7_rota_5 ++ dktX7_rota_6
def dkwX7_rota_4 : List UInt8 := [180, 0, 144, 42, 180, 0, 147, 162, 0, 29, 42, 16, 47, 182, 0, 234, 153, 0, 14, 42, 182, 1, 145]
abbrev dktX7_rota_4 : List UInt8 := dkwX7_rota_4 ++ dktX7_rota_5
def dkwX7_rota_3 : List UInt8 := [42, 3, 181, 1, 136, 42, 3, 181, 1, 133, 42, 182, 1, 145, 54, 4, 21, 4, 153, 0, 40, 42]
abbrev dktX7_rota_3 : List UInt8 := dkwX7_rota_3 ++ dktX7_rota_4
def dkwX7_rota_2 : List UInt8 := [180, 0, 7, 16, 79, 46, 17, 38, 187, 164, 0, 5, 2, 172, 42, 3, 181, 0, 144, 42, 28, 181, 0, 147]
abbrev dktX7_rota_2 : List UInt8 := dkwX7_rota_2 ++ dktX7_rota_3
def dkwX7_rota_1 : List UInt8 := [154, 0, 14, 29, 16, 10, 16, 17, 184, 0, 126, 153, 0, 24, 28, 42, 180, 0, 137, 163, 0, 16, 42]
abbrev dktX7_rota_1 : List UInt8 := dkwX7_rota_1 ++ dktX7_rota_2
def dkwX7_rota_0 : List UInt8 := [42, 27, 182, 0, 130, 153, 0, 54, 28, 4, 16, 90, 184, 0, 126, 153, 0, 44, 29, 3, 5, 184, 0, 126]
abbrev dktX7_rota_0 : List UInt8 := dkwX7_rota_0 ++ dktX7_rota_1
theorem dksX7_rota_0 : cX7_rota.data.toList.drop 0 = dktX7_rota_0 := by decide +kernel
theorem dksX7_rota_1 : cX7_rota.data.toList.drop 24 = dktX7_rota_1 := dk_seg dksX7_rota_0 24 rfl rfl
theorem dksX7_rota_2 : cX7_rota.data.toList.drop 47 = dktX7_rota_2 := dk_seg dksX7_rota_1 23 rfl rfl
theorem dksX7_rota_3 : cX7_rota.data.toList.drop 71 = dktX7_rota_3 := dk_seg dksX7_rota_2 24 rfl rfl
theorem dksX7_rota_4 : cX7_rota.data.toList.drop 93 = dktX7_rota_4 := dk_seg dksX7_rota_3 22 rfl rfl
theorem dksX7_rota_5 : cX7_rota.data.toList.drop 116 = dktX7_rota_5 := dk_seg dksX7_rota_4 23 rfl rfl
theorem dksX7_rota_6 : cX7_rota.data.toList.drop 140 = dktX7_rota_6 := dk_seg dksX7_rota_5 24 rfl rfl
theorem dksX7_rota_7 : cX7_rota.data.toList.drop 163 = dktX7_rota_7 := dk_seg dksX7_rota_6 23 rfl rfl
theorem dksX7_rota_8 : cX7_rota.data.toList.drop 187 = dktX7_rota_8 := dk_seg dksX7_rota_7 24 rfl rfl
theorem dksX7_rota_9 : cX7_rota.data.toList.drop 209 = dktX7_rota_9 := dk_seg dksX7_rota_8 22 rfl rfl
theorem dX7_rota_0 : decode cX7_rota 0 = .ok (.aload_n 0, 1) := dk_42 (dk_at dksX7_rota_0 0 rfl rfl)
theorem dX7_rota_1 : decode cX7_rota 1 = .ok (.iload_n 1, 1) := dk_27 (dk_at dksX7_rota_0 1 rfl rfl)
theorem dX7_rota_2 : decode cX7_rota 2 = .ok (.invokevirtual 130, 3) := dk_182 0 130 (dk_at dksX7_rota_0 2 rfl rfl)
theorem dX7_rota_5 : decode cX7_rota 5 = .ok (.ifCond .eq 54, 3) := dk_153 0 54 (dk_at dksX7_rota_0 5 rfl rfl)
theorem dX7_rota_8 : decode cX7_rota 8 = .ok (.iload_n 2, 1) := dk_28 (dk_at dksX7_rota_0 8 rfl rfl)
theorem dX7_rota_9 : decode cX7_rota 9 = .ok (.iconst 1, 1) := dk_4 (dk_at dksX7_rota_0 9 rfl rfl)
theorem dX7_rota_10 : decode cX7_rota 10 = .ok (.bipush 90, 2) := dk_16 90 (dk_at dksX7_rota_0 10 rfl rfl)
theorem dX7_rota_12 : decode cX7_rota 12 = .ok (.invokestatic 126, 3) := dk_184 0 126 (dk_at dksX7_rota_0 12 rfl rfl)
theorem dX7_rota_15 : decode cX7_rota 15 = .ok (.ifCond .eq 44, 3) := dk_153 0 44 (dk_at dksX7_rota_0 15 rfl rfl)
theorem dX7_rota_18 : decode cX7_rota 18 = .ok (.iload_n 3, 1) := dk_29 (dk_at dksX7_rota_0 18 rfl rfl)
theorem dX7_rota_19 : decode cX7_rota 19 = .ok (.iconst 0, 1) := dk_3 (dk_at dksX7_rota_0 19 rfl rfl)
theorem dX7_rota_20 : decode cX7_rota 20 = .ok (.iconst 2, 1) := dk_5 (dk_at dksX7_rota_0 20 rfl rfl)
theorem dX7_rota_21 : decode cX7_rota 21 = .ok (.invokestatic 126, 3) := dk_184 0 126 (dk_at dksX7_rota_0 21 rfl rfl)
theorem dX7_rota_24 : decode cX7_rota 24 = .ok (.ifCond .ne 14, 3) := dk_154 0 14 (dk_at dksX7_rota_1 0 rfl rfl)
theorem dX7_rota_27 : decode cX7_rota 27 = .ok (.iload_n 3, 1) := dk_29 (dk_at dksX7_rota_1 3 rfl rfl)
theorem dX7_rota_28 : decode cX7_rota 28 = .ok (.bipush 10, 2) := dk_16 10 (dk_at dksX7_rota_1 4 rfl rfl)
theorem dX7_rota_30 : decode cX7_rota 30 = .ok (.bipush 17, 2) := dk_16 17 (dk_at dksX7_rota_1 6 rfl rfl)
theorem dX7_rota_32 : decode cX7_rota 32 = .ok (.invokestatic 126, 3) := dk_184 0 126 (dk_at dksX7_rota_1 8 rfl rfl)
theorem dX7_rota_35 : decode cX7_rota 35 = .ok (.ifCond .eq 24, 3) := dk_153 0 24 (dk_at dksX7_rota_1 11 rfl rfl)
theorem dX7_rota_38 : decode cX7_rota 38 = .ok (.iload_n 2, 1) := dk_28 (dk_at dksX7_rota_1 14 rfl rfl)
theorem dX7_rota_39 : decode cX7_rota 39 = .ok (.aload_n 0, 1) := dk_42 (dk_at dksX7_rota_1 15 rfl rfl)
theorem dX7_rota_40 : decode cX7_rota 40 = .ok (.getfield 137, 3) := dk_180 0 137 (dk_at dksX7_rota_1 16 rfl rfl)
theorem dX7_rota_43 : decode cX7_rota 43 = .ok (.if_icmp .gt 16, 3) := dk_163 0 16 (dk_at dksX7_rota_1 19 rfl rfl)
theorem dX7_rota_46 : decode cX7_rota 46 = .ok (.aload_n 0, 1) := dk_42 (dk_at dksX7_rota_1 22 rfl rfl)
theorem dX7_rota_47 : decode cX7_rota 47 = .ok (.getfield 7, 3) := dk_180 0 7 (dk_at dksX7_rota_2 0 rfl rfl)
theorem dX7_rota_50 : decode cX7_rota 50 = .ok (.bipush 79, 2) := dk_16 79 (dk_at dksX7_rota_2 3 rfl rfl)
theorem dX7_rota_52 : decode cX7_rota 52 = .ok (.iaload, 1) := dk_46 (dk_at dksX7_rota_2 5 rfl rfl)
theorem dX7_rota_53 : decode cX7_rota 53 = .ok (.sipush 9915, 3) := dk_17 38 187 (dk_at dksX7_rota_2 6 rfl rfl)
theorem dX7_rota_56 : decode cX7_rota 56 = .ok (.if_icmp .le 5, 3) := dk_164 0 5 (dk_at dksX7_rota_2 9 rfl rfl)
theorem dX7_rota_59 : decode cX7_rota 59 = .ok (.iconst (-1), 1) := dk_2 (dk_at dksX7_rota_2 12 rfl rfl)
theorem dX7_rota_60 : decode cX7_rota 60 = .ok (.ireturn, 1) := dk_172 (dk_at dksX7_rota_2 13 rfl rfl)
theorem dX7_rota_61 : decode cX7_rota 61 = .ok (.aload_n 0, 1) := dk_42 (dk_at dksX7_rota_2 14 rfl rfl)
theorem dX7_rota_62 : decode cX7_rota 62 = .ok (.iconst 0, 1) := dk_3 (dk_at dksX7_rota_2 15 rfl rfl)
theorem dX7_rota_63 : decode cX7_rota 63 = .ok (.putfield 144, 3) := dk_181 0 144 (dk_at dksX7_rota_2 16 rfl rfl)
theorem dX7_rota_66 : decode cX7_rota 66 = .ok (.aload_n 0, 1) := dk_42 (dk_at dksX7_rota_2 19 rfl rfl)
theorem dX7_rota_67 : decode cX7_rota 67 = .ok (.iload_n 2, 1) := dk_28 (dk_at dksX7_rota_2 20 rfl rfl)
theorem dX7_rota_68 : decode cX7_rota 68 = .ok (.putfield 147, 3) := dk_181 0 147 (dk_at dksX7_rota_2 21 rfl rfl)
theorem dX7_rota_71 : decode cX7_rota 71 = .ok (.aload_n 0, 1) := dk_42 (dk_at dksX7_rota_3 0 rfl rfl)
theorem dX7_rota_72 : decode cX7_rota 72 = .ok (.iconst 0, 1) := dk_3 (dk_at dksX7_rota_3 1 rfl rfl)
theorem dX7_rota_73 : decode cX7_rota 73 = .ok (.putfield 392, 3) := dk_181 1 136 (dk_at dksX7_rota_3 2 rfl rfl)
theorem dX7_rota_76 : decode cX7_rota 76 = .ok (.aload_n 0, 1) := dk_42 (dk_at dksX7_rota_3 5 rfl rfl)
theorem dX7_rota_77 : decode cX7_rota 77 = .ok (.iconst 0, 1) := dk_3 (dk_at dksX7_rota_3 6 rfl rfl)
theorem dX7_rota_78 : decode cX7_rota 78 = .ok (.putfield 389, 3) := dk_181 1 133 (dk_at dksX7_rota_3 7 rfl rfl)
theorem dX7_rota_81 : decode cX7_rota 81 = .ok (.aload_n 0, 1) := dk_42 (dk_at dksX7_rota_3 10 rfl rfl)
theorem dX7_rota_82 : decode cX7_rota 82 = .ok (.invokevirtual 401, 3) := dk_182 1 145 (dk_at dksX7_rota_3 11 rfl rfl)
theorem dX7_rota_85 : decode cX7_rota 85 = .ok (.istore 4, 2) := dk_54 4 (dk_at dksX7_rota_3 14 rfl rfl)
theorem dX7_rota_87 : decode cX7_rota 87 = .ok (.iload 4, 2) := dk_21 4 (dk_at dksX7_rota_3 16 rfl rfl)
theorem dX7_rota_89 : decode cX7_rota 89 = .ok (.ifCond .eq 40, 3) := dk_153 0 40 (dk_at dksX7_rota_3 18 rfl rfl)
theorem dX7_rota_92 : decode cX7_rota 92 = .ok (.aload_n 0, 1) := dk_42 (dk_at dksX7_rota_3 21 rfl rfl)
theorem dX7_rota_93 : decode cX7_rota 93 = .ok (.getfield 144, 3) := dk_180 0 144 (dk_at dksX7_rota_4 0 rfl rfl)
theorem dX7_rota_96 : decode cX7_rota 96 = .ok (.aload_n 0, 1) := dk_42 (dk_at dksX7_rota_4 3 rfl rfl)
theorem dX7_rota_97 : decode cX7_rota 97 = .ok (.getfield 147, 3) := dk_180 0 147 (dk_at dksX7_rota_4 4 rfl rfl)
theorem dX7_rota_100 : decode cX7_rota 100 = .ok (.if_icmp .ge 29, 3) := dk_162 0 29 (dk_at dksX7_rota_4 7 rfl rfl)
theorem dX7_rota_103 : decode cX7_rota 103 = .ok (.aload_n 0, 1) := dk_42 (dk_at dksX7_rota_4 10 rfl rfl)
theorem dX7_rota_104 : decode cX7_rota 104 = .ok (.bipush 47, 2) := dk_16 47 (dk_at dksX7_rota_4 11 rfl rfl)
theorem dX7_rota_106 : decode cX7_rota 106 = .ok (.invokevirtual 234, 3) := dk_182 0 234 (dk_at dksX7_rota_4 13 rfl rfl)
theorem dX7_rota_109 : decode cX7_rota 109 = .ok (.ifCond .eq 14, 3) := dk_153 0 14 (dk_at dksX7_rota_4 16 rfl rfl)
theorem dX7_rota_112 : decode cX7_rota 112 = .ok (.aload_n 0, 1) := dk_42 (dk_at dksX7_rota_4 19 rfl rfl)
theorem dX7_rota_113 : decode cX7_rota 113 = .ok (.invokevirtual 401, 3) := dk_182 1 145 (dk_at dksX7_rota_4 20 rfl rfl)
theorem dX7_rota_116 : decode cX7_rota 116 = .ok (.ifCond .eq 7, 3) := dk_153 0 7 (dk_at dksX7_rota_5 0 rfl rfl)
theorem dX7_rota_119 : decode cX7_rota 119 = .ok (.iconst 1, 1) := dk_4 (dk_at dksX7_rota_5 3 rfl rfl)
theorem dX7_rota_120 : decode cX7_rota 120 = .ok (.goto 4, 3) := dk_167 0 4 (dk_at dksX7_rota_5 4 rfl rfl)
theorem dX7_rota_123 : decode cX7_rota 123 = .ok (.iconst 0, 1) := dk_3 (dk_at dksX7_rota_5 7 rfl rfl)
theorem dX7_rota_124 : decode cX7_rota 124 = .ok (.istore 4, 2) := dk_54 4 (dk_at dksX7_rota_5 8 rfl rfl)
theorem dX7_rota_126 : decode cX7_rota 126 = .ok (.goto (-39), 3) := dk_167 255 217 (dk_at dksX7_rota_5 10 rfl rfl)
theorem dX7_rota_129 : decode cX7_rota 129 = .ok (.aload_n 0, 1) := dk_42 (dk_at dksX7_rota_5 13 rfl rfl)
theorem dX7_rota_130 : decode cX7_rota 130 = .ok (.iconst 0, 1) := dk_3 (dk_at dksX7_rota_5 14 rfl rfl)
theorem dX7_rota_131 : decode cX7_rota 131 = .ok (.putfield 137, 3) := dk_181 0 137 (dk_at dksX7_rota_5 15 rfl rfl)
theorem dX7_rota_134 : decode cX7_rota 134 = .ok (.iload 4, 2) := dk_21 4 (dk_at dksX7_rota_5 18 rfl rfl)
theorem dX7_rota_136 : decode cX7_rota 136 = .ok (.ifCond .ne 8, 3) := dk_154 0 8 (dk_at dksX7_rota_5 20 rfl rfl)
theorem dX7_rota_139 : decode cX7_rota 139 = .ok (.aload_n 0, 1) := dk_42 (dk_at dksX7_rota_5 23 rfl rfl)
theorem dX7_rota_140 : decode cX7_rota 140 = .ok (.getfield 154, 3) := dk_180 0 154 (dk_at dksX7_rota_6 0 rfl rfl)
theorem dX7_rota_143 : decode cX7_rota 143 = .ok (.ireturn, 1) := dk_172 (dk_at dksX7_rota_6 3 rfl rfl)
theorem dX7_rota_144 : decode cX7_rota 144 = .ok (.iload_n 3, 1) := dk_29 (dk_at dksX7_rota_6 4 rfl rfl)
theorem dX7_rota_145 : decode cX7_rota 145 = .ok (.ifCond .ne 8, 3) := dk_154 0 8 (dk_at dksX7_rota_6 5 rfl rfl)
theorem dX7_rota_148 : decode cX7_rota 148 = .ok (.aload_n 0, 1) := dk_42 (dk_at dksX7_rota_6 8 rfl rfl)
theorem dX7_rota_149 : decode cX7_rota 149 = .ok (.getfield 392, 3) := dk_180 1 136 (dk_at dksX7_rota_6 9 rfl rfl)
theorem dX7_rota_152 : decode cX7_rota 152 = .ok (.ireturn, 1) := dk_172 (dk_at dksX7_rota_6 12 rfl rfl)
theorem dX7_rota_153 : decode cX7_rota 153 = .ok (.iload_n 3, 1) := dk_29 (dk_at dksX7_rota_6 13 rfl rfl)
theorem dX7_rota_154 : decode cX7_rota 154 = .ok (.bipush 10, 2) := dk_16 10 (dk_at dksX7_rota_6 14 rfl rfl)
theorem dX7_rota_156 : decode cX7_rota 156 = .ok (.if_icmp .lt 51, 3) := dk_161 0 51 (dk_at dksX7_rota_6 16 rfl rfl)
theorem dX7_rota_159 : decode cX7_rota 159 = .ok (.iconst 0, 1) := dk_3 (dk_at dksX7_rota_6 19 rfl rfl)
theorem dX7_rota_160 : decode cX7_rota 160 = .ok (.istore 5, 2) := dk_54 5 (dk_at dksX7_rota_6 20 rfl rfl)
theorem dX7_rota_162 : decode cX7_rota 162 = .ok (.iconst 0, 1) := dk_3 (dk_at dksX7_rota_6 22 rfl rfl)
theorem dX7_rota_163 : decode cX7_rota 163 = .ok (.istore 6, 2) := dk_54 6 (dk_at dksX7_rota_7 0 rfl rfl)
theorem dX7_rota_165 : decode cX7_rota 165 = .ok (.iload 6, 2) := dk_21 6 (dk_at dksX7_rota_7 2 rfl rfl)
theorem dX7_rota_167 : decode cX7_rota 167 = .ok (.aload_n 0, 1) := dk_42 (dk_at dksX7_rota_7 4 rfl rfl)
theorem dX7_rota_168 : decode cX7_rota 168 = .ok (.getfield 392, 3) := dk_180 1 136 (dk_at dksX7_rota_7 5 rfl rfl)
theorem dX7_rota_171 : decode cX7_rota 171 = .ok (.if_icmp .ge 33, 3) := dk_162 0 33 (dk_at dksX7_rota_7 8 rfl rfl)
theorem dX7_rota_174 : decode cX7_rota 174 = .ok (.iload 5, 2) := dk_21 5 (dk_at dksX7_rota_7 11 rfl rfl)
theorem dX7_rota_176 : decode cX7_rota 176 = .ok (.aload_n 0, 1) := dk_42 (dk_at dksX7_rota_7 13 rfl rfl)
theorem dX7_rota_177 : decode cX7_rota 177 = .ok (.getfield 99, 3) := dk_180 0 99 (dk_at dksX7_rota_7 14 rfl rfl)
theorem dX7_rota_180 : decode cX7_rota 180 = .ok (.iload 6, 2) := dk_21 6 (dk_at dksX7_rota_7 17 rfl rfl)
theorem dX7_rota_182 : decode cX7_rota 182 = .ok (.iaload, 1) := dk_46 (dk_at dksX7_rota_7 19 rfl rfl)
theorem dX7_rota_183 : decode cX7_rota 183 = .ok (.iload_n 3, 1) := dk_29 (dk_at dksX7_rota_7 20 rfl rfl)
theorem dX7_rota_184 : decode cX7_rota 184 = .ok (.bipush 10, 2) := dk_16 10 (dk_at dksX7_rota_7 21 rfl rfl)
theorem dX7_rota_186 : decode cX7_rota 186 = .ok (.isub, 1) := dk_100 (dk_at dksX7_rota_7 23 rfl rfl)
theorem dX7_rota_187 : decode cX7_rota 187 = .ok (.if_icmp .ne 7, 3) := dk_160 0 7 (dk_at dksX7_rota_8 0 rfl rfl)
theorem dX7_rota_190 : decode cX7_rota 190 = .ok (.iconst 1, 1) := dk_4 (dk_at dksX7_rota_8 3 rfl rfl)
theorem dX7_rota_191 : decode cX7_rota 191 = .ok (.goto 4, 3) := dk_167 0 4 (dk_at dksX7_rota_8 4 rfl rfl)
theorem dX7_rota_194 : decode cX7_rota 194 = .ok (.iconst 0, 1) := dk_3 (dk_at dksX7_rota_8 7 rfl rfl)
theorem dX7_rota_195 : decode cX7_rota 195 = .ok (.iadd, 1) := dk_96 (dk_at dksX7_rota_8 8 rfl rfl)
theorem dX7_rota_196 : decode cX7_rota 196 = .ok (.istore 5, 2) := dk_54 5 (dk_at dksX7_rota_8 9 rfl rfl)
theorem dX7_rota_198 : decode cX7_rota 198 = .ok (.iinc 6 1, 3) := dk_132 6 1 (dk_at dksX7_rota_8 11 rfl rfl)
theorem dX7_rota_201 : decode cX7_rota 201 = .ok (.goto (-36), 3) := dk_167 255 220 (dk_at dksX7_rota_8 14 rfl rfl)
theorem dX7_rota_204 : decode cX7_rota 204 = .ok (.iload 5, 2) := dk_21 5 (dk_at dksX7_rota_8 17 rfl rfl)
theorem dX7_rota_206 : decode cX7_rota 206 = .ok (.ireturn, 1) := dk_172 (dk_at dksX7_rota_8 19 rfl rfl)
theorem dX7_rota_207 : decode cX7_rota 207 = .ok (.aload_n 0, 1) := dk_42 (dk_at dksX7_rota_8 20 rfl rfl)
theorem dX7_rota_208 : decode cX7_rota 208 = .ok (.iload_n 1, 1) := dk_27 (dk_at dksX7_rota_8 21 rfl rfl)
theorem dX7_rota_209 : decode cX7_rota 209 = .ok (.invokevirtual 404, 3) := dk_182 1 148 (dk_at dksX7_rota_9 0 rfl rfl)
theorem dX7_rota_212 : decode cX7_rota 212 = .ok (.iload_n 3, 1) := dk_29 (dk_at dksX7_rota_9 3 rfl rfl)
theorem dX7_rota_213 : decode cX7_rota 213 = .ok (.iconst 1, 1) := dk_4 (dk_at dksX7_rota_9 4 rfl rfl)
theorem dX7_rota_214 : decode cX7_rota 214 = .ok (.if_icmp .ne 10, 3) := dk_160 0 10 (dk_at dksX7_rota_9 5 rfl rfl)
theorem dX7_rota_217 : decode cX7_rota 217 = .ok (.aload_n 0, 1) := dk_42 (dk_at dksX7_rota_9 8 rfl rfl)
theorem dX7_rota_218 : decode cX7_rota 218 = .ok (.getfield 395, 3) := dk_180 1 139 (dk_at dksX7_rota_9 9 rfl rfl)
theorem dX7_rota_221 : decode cX7_rota 221 = .ok (.goto 7, 3) := dk_167 0 7 (dk_at dksX7_rota_9 12 rfl rfl)
theorem dX7_rota_224 : decode cX7_rota 224 = .ok (.aload_n 0, 1) := dk_42 (dk_at dksX7_rota_9 15 rfl rfl)
theorem dX7_rota_225 : decode cX7_rota 225 = .ok (.getfield 398, 3) := dk_180 1 142 (dk_at dksX7_rota_9 16 rfl rfl)
theorem dX7_rota_228 : decode cX7_rota 228 = .ok (.ireturn, 1) := dk_172 (dk_at dksX7_rota_9 19 rfl rfl)
abbrev cX7_readsWeek : ByteArray := prog_19_method_92_code
def yX7_readsWeek : MethodName := ⟨RX7, "readsWeek", "()Z"⟩
def dkwX7_readsWeek_11 : List UInt8 := [153, 0, 16, 42, 16, 6, 42, 180, 0, 144, 182, 0, 157, 153, 0, 7, 4, 167, 0, 4, 3, 172]
abbrev dktX7_readsWeek_11 : List UInt8 := dkwX7_readsWeek_11 ++ []
def dkwX7_readsWeek_10 : List UInt8 := [181, 0, 144, 167, 255, 49, 42, 42, 180, 1, 133, 4, 96, 181, 1, 133, 42, 182, 0, 150, 184, 1, 130]
abbrev dktX7_readsWeek_10 : List UInt8 := dkwX7_readsWeek_10 ++ dktX7_readsWeek_11
def dkwX7_readsWeek_9 : List UInt8 := [167, 255, 221, 42, 42, 180, 1, 136, 29, 96, 181, 1, 136, 27, 29, 96, 60, 42, 42, 180, 0, 144, 4, 96]
abbrev dktX7_readsWeek_9 : List UInt8 := dkwX7_readsWeek_9 ++ dktX7_readsWeek_10
def dkwX7_readsWeek_8 : List UInt8 := [180, 1, 136, 21, 4, 96, 28, 16, 46, 160, 0, 7, 2, 167, 0, 7, 28, 16, 97, 100, 79, 132, 4, 1]
abbrev dktX7_readsWeek_8 : List UInt8 := dkwX7_readsWeek_8 ++ dktX7_readsWeek_9
def dkwX7_readsWeek_7 : List UInt8 := [42, 180, 0, 144, 182, 0, 157, 172, 3, 54, 4, 21, 4, 29, 162, 0, 35, 42, 180, 0, 99, 42]
abbrev dktX7_readsWeek_7 : List UInt8 := dkwX7_readsWeek_7 ++ dktX7_readsWeek_8
def dkwX7_readsWeek_6 : List UInt8 := [182, 0, 157, 172, 28, 16, 46, 159, 0, 25, 42, 28, 16, 97, 100, 182, 1, 3, 154, 0, 14, 42, 16, 7]
abbrev dktX7_readsWeek_6 : List UInt8 := dkwX7_readsWeek_6 ++ dktX7_readsWeek_7
def dkwX7_readsWeek_5 : List UInt8 := [28, 16, 46, 159, 0, 24, 28, 16, 97, 16, 104, 184, 0, 126, 154, 0, 13, 42, 4, 42, 180, 0, 144]
abbrev dktX7_readsWeek_5 : List UInt8 := dkwX7_readsWeek_5 ++ dktX7_readsWeek_6
def dkwX7_readsWeek_4 : List UInt8 := [182, 0, 157, 172, 29, 4, 164, 0, 13, 42, 42, 180, 0, 144, 4, 96, 181, 0, 144, 42, 182, 0, 150, 61]
abbrev dktX7_readsWeek_4 : List UInt8 := dkwX7_readsWeek_4 ++ dktX7_readsWeek_5
def dkwX7_readsWeek_3 : List UInt8 := [28, 16, 48, 100, 167, 0, 4, 4, 62, 27, 29, 96, 16, 7, 164, 0, 14, 42, 16, 6, 42, 180, 0, 144]
abbrev dktX7_readsWeek_3 : List UInt8 := dkwX7_readsWeek_3 ++ dktX7_readsWeek_4
def dkwX7_readsWeek_2 : List UInt8 := [154, 0, 13, 42, 4, 42, 180, 0, 144, 182, 0, 157, 172, 28, 16, 50, 16, 55, 184, 0, 126, 153, 0, 10]
abbrev dktX7_readsWeek_2 : List UInt8 := dkwX7_readsWeek_2 ++ dktX7_readsWeek_3
def dkwX7_readsWeek_1 : List UInt8 := [180, 0, 144, 182, 0, 157, 172, 27, 16, 7, 162, 0, 207, 42, 182, 0, 150, 61, 28, 184, 1, 130]
abbrev dktX7_readsWeek_1 : List UInt8 := dkwX7_readsWeek_1 ++ dktX7_readsWeek_2
def dkwX7_readsWeek_0 : List UInt8 := [3, 60, 42, 182, 0, 150, 184, 1, 130, 153, 0, 22, 42, 180, 1, 133, 16, 12, 160, 0, 13, 42, 7, 42]
abbrev dktX7_readsWeek_0 : List UInt8 := dkwX7_readsWeek_0 ++ dktX7_readsWeek_1
theorem dksX7_readsWeek_0 : cX7_readsWeek.data.toList.drop 0 = dktX7_readsWeek_0 := by decide +kernel
theorem dksX7_readsWeek_1 : cX7_readsWeek.data.toList.drop 24 = dktX7_readsWeek_1 := dk_seg dksX7_readsWeek_0 24 rfl rfl
theorem dksX7_readsWeek_2 : cX7_readsWeek.data.toList.drop 46 = dktX7_readsWeek_2 := dk_seg dksX7_readsWeek_1 22 rfl rfl
theorem dksX7_readsWeek_3 : cX7_readsWeek.data.toList.drop 70 = dktX7_readsWeek_3 := dk_seg dksX7_readsWeek_2 24 rfl rfl
theorem dksX7_readsWeek_4 : cX7_readsWeek.data.toList.drop 94 = dktX7_readsWeek_4 := dk_seg dksX7_readsWeek_3 24 rfl rfl
theorem dksX7_readsWeek_5 : cX7_readsWeek.data.toList.drop 118 = dktX7_readsWeek_5 := dk_seg dksX7_readsWeek_4 24 rfl rfl
theorem dksX7_readsWeek_6 : cX7_readsWeek.data.toList.drop 141 = dktX7_readsWeek_6 := dk_seg dksX7_readsWeek_5 23 rfl rfl
theorem dksX7_readsWeek_7 : cX7_readsWeek.data.toList.drop 165 = dktX7_readsWeek_7 := dk_seg dksX7_readsWeek_6 24 rfl rfl
theorem dksX7_readsWeek_8 : cX7_readsWeek.data.toList.drop 187 = dktX7_readsWeek_8 := dk_seg dksX7_readsWeek_7 22 rfl rfl
theorem dksX7_readsWeek_9 : cX7_readsWeek.data.toList.drop 211 = dktX7_readsWeek_9 := dk_seg dksX7_readsWeek_8 24 rfl rfl
theorem dksX7_readsWeek_10 : cX7_readsWeek.data.toList.drop 235 = dktX7_readsWeek_10 := dk_seg dksX7_readsWeek_9 24 rfl rfl
theorem dksX7_readsWeek_11 : cX7_readsWeek.data.toList.drop 258 = dktX7_readsWeek_11 := dk_seg dksX7_readsWeek_10 23 rfl rfl
theorem dX7_readsWeek_0 : decode cX7_readsWeek 0 = .ok (.iconst 0, 1) := dk_3 (dk_at dksX7_readsWeek_0 0 rfl rfl)
theorem dX7_readsWeek_1 : decode cX7_readsWeek 1 = .ok (.istore_n 1, 1) := dk_60 (dk_at dksX7_readsWeek_0 1 rfl rfl)
theorem dX7_readsWeek_2 : decode cX7_readsWeek 2 = .ok (.aload_n 0, 1) := dk_42 (dk_at dksX7_readsWeek_0 2 rfl rfl)
theorem dX7_readsWeek_3 : decode cX7_readsWeek 3 = .ok (.invokevirtual 150, 3) := dk_182 0 150 (dk_at dksX7_readsWeek_0 3 rfl rfl)
theorem dX7_readsWeek_6 : decode cX7_readsWeek 6 = .ok (.invokestatic 386, 3) := dk_184 1 130 (dk_at dksX7_readsWeek_0 6 rfl rfl)
theorem dX7_readsWeek_9 : decode cX7_readsWeek 9 = .ok (.ifCond .eq 22, 3) := dk_153 0 22 (dk_at dksX7_readsWeek_0 9 rfl rfl)
theorem dX7_readsWeek_12 : decode cX7_readsWeek 12 = .ok (.aload_n 0, 1) := dk_42 (dk_at dksX7_readsWeek_0 12 rfl rfl)
theorem dX7_readsWeek_13 : decode cX7_readsWeek 13 = .ok (.getfield 389, 3) := dk_180 1 133 (dk_at dksX7_readsWeek_0 13 rfl rfl)
theorem dX7_readsWeek_16 : decode cX7_readsWeek 16 = .ok (.bipush 12, 2) := dk_16 12 (dk_at dksX7_readsWeek_0 16 rfl rfl)
theorem dX7_readsWeek_18 : decode cX7_readsWeek 18 = .ok (.if_icmp .ne 13, 3) := dk_160 0 13 (dk_at dksX7_readsWeek_0 18 rfl rfl)
theorem dX7_readsWeek_21 : decode cX7_readsWeek 21 = .ok (.aload_n 0, 1) := dk_42 (dk_at dksX7_readsWeek_0 21 rfl rfl)
theorem dX7_readsWeek_22 : decode cX7_readsWeek 22 = .ok (.iconst 4, 1) := dk_7 (dk_at dksX7_readsWeek_0 22 rfl rfl)
theorem dX7_readsWeek_23 : decode cX7_readsWeek 23 = .ok (.aload_n 0, 1) := dk_42 (dk_at dksX7_readsWeek_0 23 rfl rfl)
theorem dX7_readsWeek_24 : decode cX7_readsWeek 24 = .ok (.getfield 144, 3) := dk_180 0 144 (dk_at dksX7_readsWeek_1 0 rfl rfl)
theorem dX7_readsWeek_27 : decode cX7_readsWeek 27 = .ok (.invokevirtual 157, 3) := dk_182 0 157 (dk_at dksX7_readsWeek_1 3 rfl rfl)
theorem dX7_readsWeek_30 : decode cX7_readsWeek 30 = .ok (.ireturn, 1) := dk_172 (dk_at dksX7_readsWeek_1 6 rfl rfl)
theorem dX7_readsWeek_31 : decode cX7_readsWeek 31 = .ok (.iload_n 1, 1) := dk_27 (dk_at dksX7_readsWeek_1 7 rfl rfl)
theorem dX7_readsWeek_32 : decode cX7_readsWeek 32 = .ok (.bipush 7, 2) := dk_16 7 (dk_at dksX7_readsWeek_1 8 rfl rfl)
theorem dX7_readsWeek_34 : decode cX7_readsWeek 34 = .ok (.if_icmp .ge 207, 3) := dk_162 0 207 (dk_at dksX7_readsWeek_1 10 rfl rfl)
theorem dX7_readsWeek_37 : decode cX7_readsWeek 37 = .ok (.aload_n 0, 1) := dk_42 (dk_at dksX7_readsWeek_1 13 rfl rfl)
theorem dX7_readsWeek_38 : decode cX7_readsWeek 38 = .ok (.invokevirtual 150, 3) := dk_182 0 150 (dk_at dksX7_readsWeek_1 14 rfl rfl)
theorem dX7_readsWeek_41 : decode cX7_readsWeek 41 = .ok (.istore_n 2, 1) := dk_61 (dk_at dksX7_readsWeek_1 17 rfl rfl)
theorem dX7_readsWeek_42 : decode cX7_readsWeek 42 = .ok (.iload_n 2, 1) := dk_28 (dk_at dksX7_readsWeek_1 18 rfl rfl)
theorem dX7_readsWeek_43 : decode cX7_readsWeek 43 = .ok (.invokestatic 386, 3) := dk_184 1 130 (dk_at dksX7_readsWeek_1 19 rfl rfl)
theorem dX7_readsWeek_46 : decode cX7_readsWeek 46 = .ok (.ifCond .ne 13, 3) := dk_154 0 13 (dk_at dksX7_readsWeek_2 0 rfl rfl)
theorem dX7_readsWeek_49 : decode cX7_readsWeek 49 = .ok (.aload_n 0, 1) := dk_42 (dk_at dksX7_readsWeek_2 3 rfl rfl)
theorem dX7_readsWeek_50 : decode cX7_readsWeek 50 = .ok (.iconst 1, 1) := dk_4 (dk_at dksX7_readsWeek_2 4 rfl rfl)
theorem dX7_readsWeek_51 : decode cX7_readsWeek 51 = .ok (.aload_n 0, 1) := dk_42 (dk_at dksX7_readsWeek_2 5 rfl rfl)
theorem dX7_readsWeek_52 : decode cX7_readsWeek 52 = .ok (.getfield 144, 3) := dk_180 0 144 (dk_at dksX7_readsWeek_2 6 rfl rfl)
theorem dX7_readsWeek_55 : decode cX7_readsWeek 55 = .ok (.invokevirtual 157, 3) := dk_182 0 157 (dk_at dksX7_readsWeek_2 9 rfl rfl)
theorem dX7_readsWeek_58 : decode cX7_readsWeek 58 = .ok (.ireturn, 1) := dk_172 (dk_at dksX7_readsWeek_2 12 rfl rfl)
theorem dX7_readsWeek_59 : decode cX7_readsWeek 59 = .ok (.iload_n 2, 1) := dk_28 (dk_at dksX7_readsWeek_2 13 rfl rfl)
theorem dX7_readsWeek_60 : decode cX7_readsWeek 60 = .ok (.bipush 50, 2) := dk_16 50 (dk_at dksX7_readsWeek_2 14 rfl rfl)
theorem dX7_readsWeek_62 : decode cX7_readsWeek 62 = .ok (.bipush 55, 2) := dk_16 55 (dk_at dksX7_readsWeek_2 16 rfl rfl)
theorem dX7_readsWeek_64 : decode cX7_readsWeek 64 = .ok (.invokestatic 126, 3) := dk_184 0 126 (dk_at dksX7_readsWeek_2 18 rfl rfl)
theorem dX7_readsWeek_67 : decode cX7_readsWeek 67 = .ok (.ifCond .eq 10, 3) := dk_153 0 10 (dk_at dksX7_readsWeek_2 21 rfl rfl)
theorem dX7_readsWeek_70 : decode cX7_readsWeek 70 = .ok (.iload_n 2, 1) := dk_28 (dk_at dksX7_readsWeek_3 0 rfl rfl)
theorem dX7_readsWeek_71 : decode cX7_readsWeek 71 = .ok (.bipush 48, 2) := dk_16 48 (dk_at dksX7_readsWeek_3 1 rfl rfl)
theorem dX7_readsWeek_73 : decode cX7_readsWeek 73 = .ok (.isub, 1) := dk_100 (dk_at dksX7_readsWeek_3 3 rfl rfl)
theorem dX7_readsWeek_74 : decode cX7_readsWeek 74 = .ok (.goto 4, 3) := dk_167 0 4 (dk_at dksX7_readsWeek_3 4 rfl rfl)
theorem dX7_readsWeek_77 : decode cX7_readsWeek 77 = .ok (.iconst 1, 1) := dk_4 (dk_at dksX7_readsWeek_3 7 rfl rfl)
theorem dX7_readsWeek_78 : decode cX7_readsWeek 78 = .ok (.istore_n 3, 1) := dk_62 (dk_at dksX7_readsWeek_3 8 rfl rfl)
theorem dX7_readsWeek_79 : decode cX7_readsWeek 79 = .ok (.iload_n 1, 1) := dk_27 (dk_at dksX7_readsWeek_3 9 rfl rfl)
theorem dX7_readsWeek_80 : decode cX7_readsWeek 80 = .ok (.iload_n 3, 1) := dk_29 (dk_at dksX7_readsWeek_3 10 rfl rfl)
theorem dX7_readsWeek_81 : decode cX7_readsWeek 81 = .ok (.iadd, 1) := dk_96 (dk_at dksX7_readsWeek_3 11 rfl rfl)
theorem dX7_readsWeek_82 : decode cX7_readsWeek 82 = .ok (.bipush 7, 2) := dk_16 7 (dk_at dksX7_readsWeek_3 12 rfl rfl)
theorem dX7_readsWeek_84 : decode cX7_readsWeek 84 = .ok (.if_icmp .le 14, 3) := dk_164 0 14 (dk_at dksX7_readsWeek_3 14 rfl rfl)
theorem dX7_readsWeek_87 : decode cX7_readsWeek 87 = .ok (.aload_n 0, 1) := dk_42 (dk_at dksX7_readsWeek_3 17 rfl rfl)
theorem dX7_readsWeek_88 : decode cX7_readsWeek 88 = .ok (.bipush 6, 2) := dk_16 6 (dk_at dksX7_readsWeek_3 18 rfl rfl)
theorem dX7_readsWeek_90 : decode cX7_readsWeek 90 = .ok (.aload_n 0, 1) := dk_42 (dk_at dksX7_readsWeek_3 20 rfl rfl)
theorem dX7_readsWeek_91 : decode cX7_readsWeek 91 = .ok (.getfield 144, 3) := dk_180 0 144 (dk_at dksX7_readsWeek_3 21 rfl rfl)
theorem dX7_readsWeek_94 : decode cX7_readsWeek 94 = .ok (.invokevirtual 157, 3) := dk_182 0 157 (dk_at dksX7_readsWeek_4 0 rfl rfl)
theorem dX7_readsWeek_97 : decode cX7_readsWeek 97 = .ok (.ireturn, 1) := dk_172 (dk_at dksX7_readsWeek_4 3 rfl rfl)
theorem dX7_readsWeek_98 : decode cX7_readsWeek 98 = .ok (.iload_n 3, 1) := dk_29 (dk_at dksX7_readsWeek_4 4 rfl rfl)
theorem dX7_readsWeek_99 : decode cX7_readsWeek 99 = .ok (.iconst 1, 1) := dk_4 (dk_at dksX7_readsWeek_4 5 rfl rfl)
theorem dX7_readsWeek_100 : decode cX7_readsWeek 100 = .ok (.if_icmp .le 13, 3) := dk_164 0 13 (dk_at dksX7_readsWeek_4 6 rfl rfl)
theorem dX7_readsWeek_103 : decode cX7_readsWeek 103 = .ok (.aload_n 0, 1) := dk_42 (dk_at dksX7_readsWeek_4 9 rfl rfl)
theorem dX7_readsWeek_104 : decode cX7_readsWeek 104 = .ok (.aload_n 0, 1) := dk_42 (dk_at dksX7_readsWeek_4 10 rfl rfl)
theorem dX7_readsWeek_105 : decode cX7_readsWeek 105 = .ok (.getfield 144, 3) := dk_180 0 144 (dk_at dksX7_readsWeek_4 11 rfl rfl)
theorem dX7_readsWeek_108 : decode cX7_readsWeek 108 = .ok (.iconst 1, 1) := dk_4 (dk_at dksX7_readsWeek_4 14 rfl rfl)
theorem dX7_readsWeek_109 : decode cX7_readsWeek 109 = .ok (.iadd, 1) := dk_96 (dk_at dksX7_readsWeek_4 15 rfl rfl)
theorem dX7_readsWeek_110 : decode cX7_readsWeek 110 = .ok (.putfield 144, 3) := dk_181 0 144 (dk_at dksX7_readsWeek_4 16 rfl rfl)
theorem dX7_readsWeek_113 : decode cX7_readsWeek 113 = .ok (.aload_n 0, 1) := dk_42 (dk_at dksX7_readsWeek_4 19 rfl rfl)
theorem dX7_readsWeek_114 : decode cX7_readsWeek 114 = .ok (.invokevirtual 150, 3) := dk_182 0 150 (dk_at dksX7_readsWeek_4 20 rfl rfl)
theorem dX7_readsWeek_117 : decode cX7_readsWeek 117 = .ok (.istore_n 2, 1) := dk_61 (dk_at dksX7_readsWeek_4 23 rfl rfl)
theorem dX7_readsWeek_118 : decode cX7_readsWeek 118 = .ok (.iload_n 2, 1) := dk_28 (dk_at dksX7_readsWeek_5 0 rfl rfl)
theorem dX7_readsWeek_119 : decode cX7_readsWeek 119 = .ok (.bipush 46, 2) := dk_16 46 (dk_at dksX7_readsWeek_5 1 rfl rfl)
theorem dX7_readsWeek_121 : decode cX7_readsWeek 121 = .ok (.if_icmp .eq 24, 3) := dk_159 0 24 (dk_at dksX7_readsWeek_5 3 rfl rfl)
theorem dX7_readsWeek_124 : decode cX7_readsWeek 124 = .ok (.iload_n 2, 1) := dk_28 (dk_at dksX7_readsWeek_5 6 rfl rfl)
theorem dX7_readsWeek_125 : decode cX7_readsWeek 125 = .ok (.bipush 97, 2) := dk_16 97 (dk_at dksX7_readsWeek_5 7 rfl rfl)
theorem dX7_readsWeek_127 : decode cX7_readsWeek 127 = .ok (.bipush 104, 2) := dk_16 104 (dk_at dksX7_readsWeek_5 9 rfl rfl)
theorem dX7_readsWeek_129 : decode cX7_readsWeek 129 = .ok (.invokestatic 126, 3) := dk_184 0 126 (dk_at dksX7_readsWeek_5 11 rfl rfl)
theorem dX7_readsWeek_132 : decode cX7_readsWeek 132 = .ok (.ifCond .ne 13, 3) := dk_154 0 13 (dk_at dksX7_readsWeek_5 14 rfl rfl)
theorem dX7_readsWeek_135 : decode cX7_readsWeek 135 = .ok (.aload_n 0, 1) := dk_42 (dk_at dksX7_readsWeek_5 17 rfl rfl)
theorem dX7_readsWeek_136 : decode cX7_readsWeek 136 = .ok (.iconst 1, 1) := dk_4 (dk_at dksX7_readsWeek_5 18 rfl rfl)
theorem dX7_readsWeek_137 : decode cX7_readsWeek 137 = .ok (.aload_n 0, 1) := dk_42 (dk_at dksX7_readsWeek_5 19 rfl rfl)
theorem dX7_readsWeek_138 : decode cX7_readsWeek 138 = .ok (.getfield 144, 3) := dk_180 0 144 (dk_at dksX7_readsWeek_5 20 rfl rfl)
theorem dX7_readsWeek_141 : decode cX7_readsWeek 141 = .ok (.invokevirtual 157, 3) := dk_182 0 157 (dk_at dksX7_readsWeek_6 0 rfl rfl)
theorem dX7_readsWeek_144 : decode cX7_readsWeek 144 = .ok (.ireturn, 1) := dk_172 (dk_at dksX7_readsWeek_6 3 rfl rfl)
theorem dX7_readsWeek_145 : decode cX7_readsWeek 145 = .ok (.iload_n 2, 1) := dk_28 (dk_at dksX7_readsWeek_6 4 rfl rfl)
theorem dX7_readsWeek_146 : decode cX7_readsWeek 146 = .ok (.bipush 46, 2) := dk_16 46 (dk_at dksX7_readsWeek_6 5 rfl rfl)
theorem dX7_readsWeek_148 : decode cX7_readsWeek 148 = .ok (.if_icmp .eq 25, 3) := dk_159 0 25 (dk_at dksX7_readsWeek_6 7 rfl rfl)
theorem dX7_readsWeek_151 : decode cX7_readsWeek 151 = .ok (.aload_n 0, 1) := dk_42 (dk_at dksX7_readsWeek_6 10 rfl rfl)
theorem dX7_readsWeek_152 : decode cX7_readsWeek 152 = .ok (.iload_n 2, 1) := dk_28 (dk_at dksX7_readsWeek_6 11 rfl rfl)
theorem dX7_readsWeek_153 : decode cX7_readsWeek 153 = .ok (.bipush 97, 2) := dk_16 97 (dk_at dksX7_readsWeek_6 12 rfl rfl)
theorem dX7_readsWeek_155 : decode cX7_readsWeek 155 = .ok (.isub, 1) := dk_100 (dk_at dksX7_readsWeek_6 14 rfl rfl)
theorem dX7_readsWeek_156 : decode cX7_readsWeek 156 = .ok (.invokevirtual 259, 3) := dk_182 1 3 (dk_at dksX7_readsWeek_6 15 rfl rfl)
theorem dX7_readsWeek_159 : decode cX7_readsWeek 159 = .ok (.ifCond .ne 14, 3) := dk_154 0 14 (dk_at dksX7_readsWeek_6 18 rfl rfl)
theorem dX7_readsWeek_162 : decode cX7_readsWeek 162 = .ok (.aload_n 0, 1) := dk_42 (dk_at dksX7_readsWeek_6 21 rfl rfl)
theorem dX7_readsWeek_163 : decode cX7_readsWeek 163 = .ok (.bipush 7, 2) := dk_16 7 (dk_at dksX7_readsWeek_6 22 rfl rfl)
theorem dX7_readsWeek_165 : decode cX7_readsWeek 165 = .ok (.aload_n 0, 1) := dk_42 (dk_at dksX7_readsWeek_7 0 rfl rfl)
theorem dX7_readsWeek_166 : decode cX7_readsWeek 166 = .ok (.getfield 144, 3) := dk_180 0 144 (dk_at dksX7_readsWeek_7 1 rfl rfl)
theorem dX7_readsWeek_169 : decode cX7_readsWeek 169 = .ok (.invokevirtual 157, 3) := dk_182 0 157 (dk_at dksX7_readsWeek_7 4 rfl rfl)
theorem dX7_readsWeek_172 : decode cX7_readsWeek 172 = .ok (.ireturn, 1) := dk_172 (dk_at dksX7_readsWeek_7 7 rfl rfl)
theorem dX7_readsWeek_173 : decode cX7_readsWeek 173 = .ok (.iconst 0, 1) := dk_3 (dk_at dksX7_readsWeek_7 8 rfl rfl)
theorem dX7_readsWeek_174 : decode cX7_readsWeek 174 = .ok (.istore 4, 2) := dk_54 4 (dk_at dksX7_readsWeek_7 9 rfl rfl)
theorem dX7_readsWeek_176 : decode cX7_readsWeek 176 = .ok (.iload 4, 2) := dk_21 4 (dk_at dksX7_readsWeek_7 11 rfl rfl)
theorem dX7_readsWeek_178 : decode cX7_readsWeek 178 = .ok (.iload_n 3, 1) := dk_29 (dk_at dksX7_readsWeek_7 13 rfl rfl)
theorem dX7_readsWeek_179 : decode cX7_readsWeek 179 = .ok (.if_icmp .ge 35, 3) := dk_162 0 35 (dk_at dksX7_readsWeek_7 14 rfl rfl)
theorem dX7_readsWeek_182 : decode cX7_readsWeek 182 = .ok (.aload_n 0, 1) := dk_42 (dk_at dksX7_readsWeek_7 17 rfl rfl)
theorem dX7_readsWeek_183 : decode cX7_readsWeek 183 = .ok (.getfield 99, 3) := dk_180 0 99 (dk_at dksX7_readsWeek_7 18 rfl rfl)
theorem dX7_readsWeek_186 : decode cX7_readsWeek 186 = .ok (.aload_n 0, 1) := dk_42 (dk_at dksX7_readsWeek_7 21 rfl rfl)
theorem dX7_readsWeek_187 : decode cX7_readsWeek 187 = .ok (.getfield 392, 3) := dk_180 1 136 (dk_at dksX7_readsWeek_8 0 rfl rfl)
theorem dX7_readsWeek_190 : decode cX7_readsWeek 190 = .ok (.iload 4, 2) := dk_21 4 (dk_at dksX7_readsWeek_8 3 rfl rfl)
theorem dX7_readsWeek_192 : decode cX7_readsWeek 192 = .ok (.iadd, 1) := dk_96 (dk_at dksX7_readsWeek_8 5 rfl rfl)
theorem dX7_readsWeek_193 : decode cX7_readsWeek 193 = .ok (.iload_n 2, 1) := dk_28 (dk_at dksX7_readsWeek_8 6 rfl rfl)
theorem dX7_readsWeek_194 : decode cX7_readsWeek 194 = .ok (.bipush 46, 2) := dk_16 46 (dk_at dksX7_readsWeek_8 7 rfl rfl)
theorem dX7_readsWeek_196 : decode cX7_readsWeek 196 = .ok (.if_icmp .ne 7, 3) := dk_160 0 7 (dk_at dksX7_readsWeek_8 9 rfl rfl)
theorem dX7_readsWeek_199 : decode cX7_readsWeek 199 = .ok (.iconst (-1), 1) := dk_2 (dk_at dksX7_readsWeek_8 12 rfl rfl)
theorem dX7_readsWeek_200 : decode cX7_readsWeek 200 = .ok (.goto 7, 3) := dk_167 0 7 (dk_at dksX7_readsWeek_8 13 rfl rfl)
theorem dX7_readsWeek_203 : decode cX7_readsWeek 203 = .ok (.iload_n 2, 1) := dk_28 (dk_at dksX7_readsWeek_8 16 rfl rfl)
theorem dX7_readsWeek_204 : decode cX7_readsWeek 204 = .ok (.bipush 97, 2) := dk_16 97 (dk_at dksX7_readsWeek_8 17 rfl rfl)
theorem dX7_readsWeek_206 : decode cX7_readsWeek 206 = .ok (.isub, 1) := dk_100 (dk_at dksX7_readsWeek_8 19 rfl rfl)
theorem dX7_readsWeek_207 : decode cX7_readsWeek 207 = .ok (.iastore, 1) := dk_79 (dk_at dksX7_readsWeek_8 20 rfl rfl)
theorem dX7_readsWeek_208 : decode cX7_readsWeek 208 = .ok (.iinc 4 1, 3) := dk_132 4 1 (dk_at dksX7_readsWeek_8 21 rfl rfl)
theorem dX7_readsWeek_211 : decode cX7_readsWeek 211 = .ok (.goto (-35), 3) := dk_167 255 221 (dk_at dksX7_readsWeek_9 0 rfl rfl)
theorem dX7_readsWeek_214 : decode cX7_readsWeek 214 = .ok (.aload_n 0, 1) := dk_42 (dk_at dksX7_readsWeek_9 3 rfl rfl)
theorem dX7_readsWeek_215 : decode cX7_readsWeek 215 = .ok (.aload_n 0, 1) := dk_42 (dk_at dksX7_readsWeek_9 4 rfl rfl)
theorem dX7_readsWeek_216 : decode cX7_readsWeek 216 = .ok (.getfield 392, 3) := dk_180 1 136 (dk_at dksX7_readsWeek_9 5 rfl rfl)
theorem dX7_readsWeek_219 : decode cX7_readsWeek 219 = .ok (.iload_n 3, 1) := dk_29 (dk_at dksX7_readsWeek_9 8 rfl rfl)
theorem dX7_readsWeek_220 : decode cX7_readsWeek 220 = .ok (.iadd, 1) := dk_96 (dk_at dksX7_readsWeek_9 9 rfl rfl)
theorem dX7_readsWeek_221 : decode cX7_readsWeek 221 = .ok (.putfield 392, 3) := dk_181 1 136 (dk_at dksX7_readsWeek_9 10 rfl rfl)
theorem dX7_readsWeek_224 : decode cX7_readsWeek 224 = .ok (.iload_n 1, 1) := dk_27 (dk_at dksX7_readsWeek_9 13 rfl rfl)
theorem dX7_readsWeek_225 : decode cX7_readsWeek 225 = .ok (.iload_n 3, 1) := dk_29 (dk_at dksX7_readsWeek_9 14 rfl rfl)
theorem dX7_readsWeek_226 : decode cX7_readsWeek 226 = .ok (.iadd, 1) := dk_96 (dk_at dksX7_readsWeek_9 15 rfl rfl)
theorem dX7_readsWeek_227 : decode cX7_readsWeek 227 = .ok (.istore_n 1, 1) := dk_60 (dk_at dksX7_readsWeek_9 16 rfl rfl)
theorem dX7_readsWeek_228 : decode cX7_readsWeek 228 = .ok (.aload_n 0, 1) := dk_42 (dk_at dksX7_readsWeek_9 17 rfl rfl)
theorem dX7_readsWeek_229 : decode cX7_readsWeek 229 = .ok (.aload_n 0, 1) := dk_42 (dk_at dksX7_readsWeek_9 18 rfl rfl)
theorem dX7_readsWeek_230 : decode cX7_readsWeek 230 = .ok (.getfield 144, 3) := dk_180 0 144 (dk_at dksX7_readsWeek_9 19 rfl rfl)
theorem dX7_readsWeek_233 : decode cX7_readsWeek 233 = .ok (.iconst 1, 1) := dk_4 (dk_at dksX7_readsWeek_9 22 rfl rfl)
theorem dX7_readsWeek_234 : decode cX7_readsWeek 234 = .ok (.iadd, 1) := dk_96 (dk_at dksX7_readsWeek_9 23 rfl rfl)
theorem dX7_readsWeek_235 : decode cX7_readsWeek 235 = .ok (.putfield 144, 3) := dk_181 0 144 (dk_at dksX7_readsWeek_10 0 rfl rfl)
theorem dX7_readsWeek_238 : decode cX7_readsWeek 238 = .ok (.goto (-207), 3) := dk_167 255 49 (dk_at dksX7_readsWeek_10 3 rfl rfl)
theorem dX7_readsWeek_241 : decode cX7_readsWeek 241 = .ok (.aload_n 0, 1) := dk_42 (dk_at dksX7_readsWeek_10 6 rfl rfl)
theorem dX7_readsWeek_242 : decode cX7_readsWeek 242 = .ok (.aload_n 0, 1) := dk_42 (dk_at dksX7_readsWeek_10 7 rfl rfl)
theorem dX7_readsWeek_243 : decode cX7_readsWeek 243 = .ok (.getfield 389, 3) := dk_180 1 133 (dk_at dksX7_readsWeek_10 8 rfl rfl)
theorem dX7_readsWeek_246 : decode cX7_readsWeek 246 = .ok (.iconst 1, 1) := dk_4 (dk_at dksX7_readsWeek_10 11 rfl rfl)
theorem dX7_readsWeek_247 : decode cX7_readsWeek 247 = .ok (.iadd, 1) := dk_96 (dk_at dksX7_readsWeek_10 12 rfl rfl)
theorem dX7_readsWeek_248 : decode cX7_readsWeek 248 = .ok (.putfield 389, 3) := dk_181 1 133 (dk_at dksX7_readsWeek_10 13 rfl rfl)
theorem dX7_readsWeek_251 : decode cX7_readsWeek 251 = .ok (.aload_n 0, 1) := dk_42 (dk_at dksX7_readsWeek_10 16 rfl rfl)
theorem dX7_readsWeek_252 : decode cX7_readsWeek 252 = .ok (.invokevirtual 150, 3) := dk_182 0 150 (dk_at dksX7_readsWeek_10 17 rfl rfl)
theorem dX7_readsWeek_255 : decode cX7_readsWeek 255 = .ok (.invokestatic 386, 3) := dk_184 1 130 (dk_at dksX7_readsWeek_10 20 rfl rfl)
theorem dX7_readsWeek_258 : decode cX7_readsWeek 258 = .ok (.ifCond .eq 16, 3) := dk_153 0 16 (dk_at dksX7_readsWeek_11 0 rfl rfl)
theorem dX7_readsWeek_261 : decode cX7_readsWeek 261 = .ok (.aload_n 0, 1) := dk_42 (dk_at dksX7_readsWeek_11 3 rfl rfl)
theorem dX7_readsWeek_262 : decode cX7_readsWeek 262 = .ok (.bipush 6, 2) := dk_16 6 (dk_at dksX7_readsWeek_11 4 rfl rfl)
theorem dX7_readsWeek_264 : decode cX7_readsWeek 264 = .ok (.aload_n 0, 1) := dk_42 (dk_at dksX7_readsWeek_11 6 rfl rfl)
theorem dX7_readsWeek_265 : decode cX7_readsWeek 265 = .ok (.getfield 144, 3) := dk_180 0 144 (dk_at dksX7_readsWeek_11 7 rfl rfl)
theorem dX7_readsWeek_268 : decode cX7_readsWeek 268 = .ok (.invokevirtual 157, 3) := dk_182 0 157 (dk_at dksX7_readsWeek_11 10 rfl rfl)
theorem dX7_readsWeek_271 : decode cX7_readsWeek 271 = .ok (.ifCond .eq 7, 3) := dk_153 0 7 (dk_at dksX7_readsWeek_11 13 rfl rfl)
theorem dX7_readsWeek_274 : decode cX7_readsWeek 274 = .ok (.iconst 1, 1) := dk_4 (dk_at dksX7_readsWeek_11 16 rfl rfl)
theorem dX7_readsWeek_275 : decode cX7_readsWeek 275 = .ok (.goto 4, 3) := dk_167 0 4 (dk_at dksX7_readsWeek_11 17 rfl rfl)
theorem dX7_readsWeek_278 : decode cX7_readsWeek 278 = .ok (.iconst 0, 1) := dk_3 (dk_at dksX7_readsWeek_11 20 rfl rfl)
theorem dX7_readsWeek_279 : decode cX7_readsWeek 279 = .ok (.ireturn, 1) := dk_172 (dk_at dksX7_readsWeek_11 21 rfl rfl)
abbrev cX7_isDayAt : ByteArray := prog_19_method_91_code
def yX7_isDayAt : MethodName := ⟨RX7, "isDayAt", "(I)Z"⟩
def dkwX7_isDayAt_1 : List UInt8 := [184, 0, 126, 153, 0, 7, 4, 167, 0, 4, 3, 172]
abbrev dktX7_isDayAt_1 : List UInt8 := dkwX7_isDayAt_1 ++ []
def dkwX7_isDayAt_0 : List UInt8 := [26, 16, 46, 159, 0, 25, 26, 16, 97, 16, 104, 184, 0, 126, 154, 0, 14, 26, 16, 50, 16, 55]
abbrev dktX7_isDayAt_0 : List UInt8 := dkwX7_isDayAt_0 ++ dktX7_isDayAt_1
theorem dksX7_isDayAt_0 : cX7_isDayAt.data.toList.drop 0 = dktX7_isDayAt_0 := by decide +kernel
theorem dksX7_isDayAt_1 : cX7_isDayAt.data.toList.drop 22 = dktX7_isDayAt_1 := dk_seg dksX7_isDayAt_0 22 rfl rfl
theorem dX7_isDayAt_0 : decode cX7_isDayAt 0 = .ok (.iload_n 0, 1) := dk_26 (dk_at dksX7_isDayAt_0 0 rfl rfl)
theorem dX7_isDayAt_1 : decode cX7_isDayAt 1 = .ok (.bipush 46, 2) := dk_16 46 (dk_at dksX7_isDayAt_0 1 rfl rfl)
theorem dX7_isDayAt_3 : decode cX7_isDayAt 3 = .ok (.if_icmp .eq 25, 3) := dk_159 0 25 (dk_at dksX7_isDayAt_0 3 rfl rfl)
theorem dX7_isDayAt_6 : decode cX7_isDayAt 6 = .ok (.iload_n 0, 1) := dk_26 (dk_at dksX7_isDayAt_0 6 rfl rfl)
theorem dX7_isDayAt_7 : decode cX7_isDayAt 7 = .ok (.bipush 97, 2) := dk_16 97 (dk_at dksX7_isDayAt_0 7 rfl rfl)
theorem dX7_isDayAt_9 : decode cX7_isDayAt 9 = .ok (.bipush 104, 2) := dk_16 104 (dk_at dksX7_isDayAt_0 9 rfl rfl)
theorem dX7_isDayAt_11 : decode cX7_isDayAt 11 = .ok (.invokestatic 126, 3) := dk_184 0 126 (dk_at dksX7_isDayAt_0 11 rfl rfl)
theorem dX7_isDayAt_14 : decode cX7_isDayAt 14 = .ok (.ifCond .ne 14, 3) := dk_154 0 14 (dk_at dksX7_isDayAt_0 14 rfl rfl)
theorem dX7_isDayAt_17 : decode cX7_isDayAt 17 = .ok (.iload_n 0, 1) := dk_26 (dk_at dksX7_isDayAt_0 17 rfl rfl)
theorem dX7_isDayAt_18 : decode cX7_isDayAt 18 = .ok (.bipush 50, 2) := dk_16 50 (dk_at dksX7_isDayAt_0 18 rfl rfl)
theorem dX7_isDayAt_20 : decode cX7_isDayAt 20 = .ok (.bipush 55, 2) := dk_16 55 (dk_at dksX7_isDayAt_0 20 rfl rfl)
theorem dX7_isDayAt_22 : decode cX7_isDayAt 22 = .ok (.invokestatic 126, 3) := dk_184 0 126 (dk_at dksX7_isDayAt_1 0 rfl rfl)
theorem dX7_isDayAt_25 : decode cX7_isDayAt 25 = .ok (.ifCond .eq 7, 3) := dk_153 0 7 (dk_at dksX7_isDayAt_1 3 rfl rfl)
theorem dX7_isDayAt_28 : decode cX7_isDayAt 28 = .ok (.iconst 1, 1) := dk_4 (dk_at dksX7_isDayAt_1 6 rfl rfl)
theorem dX7_isDayAt_29 : decode cX7_isDayAt 29 = .ok (.goto 4, 3) := dk_167 0 4 (dk_at dksX7_isDayAt_1 7 rfl rfl)
theorem dX7_isDayAt_32 : decode cX7_isDayAt 32 = .ok (.iconst 0, 1) := dk_3 (dk_at dksX7_isDayAt_1 10 rfl rfl)
theorem dX7_isDayAt_33 : decode cX7_isDayAt 33 = .ok (.ireturn, 1) := dk_172 (dk_at dksX7_isDayAt_1 11 rfl rfl)
abbrev cX7_goesByRota : ByteArray := prog_19_method_93_code
def yX7_goesByRota : MethodName := ⟨RX7, "goesByRota", "(I)V"⟩
def dkwX7_goesByRota_5 : List UInt8 := [181, 1, 142, 42, 180, 0, 13, 42, 180, 0, 7, 184, 1, 38, 177]
abbrev dktX7_goesByRota_5 : List UInt8 := dkwX7_goesByRota_5 ++ []
def dkwX7_goesByRota_4 : List UInt8 := [180, 0, 7, 16, 79, 46, 4, 96, 79, 132, 2, 1, 167, 255, 169, 42, 42, 180, 0, 7, 7, 27, 96, 46]
abbrev dktX7_goesByRota_4 : List UInt8 := dkwX7_goesByRota_4 ++ dktX7_goesByRota_5
def dkwX7_goesByRota_3 : List UInt8 := [182, 1, 28, 42, 27, 182, 0, 130, 154, 0, 8, 42, 28, 181, 1, 139, 42, 180, 0, 7, 16, 79, 42]
abbrev dktX7_goesByRota_3 : List UInt8 := dkwX7_goesByRota_3 ++ dktX7_goesByRota_4
def dkwX7_goesByRota_2 : List UInt8 := [180, 0, 99, 28, 46, 27, 182, 1, 22, 42, 27, 42, 182, 1, 19, 8, 162, 0, 7, 4, 167, 0, 4, 3]
abbrev dktX7_goesByRota_2 : List UInt8 := dkwX7_goesByRota_2 ++ dktX7_goesByRota_3
def dkwX7_goesByRota_1 : List UInt8 := [162, 0, 85, 42, 27, 182, 0, 130, 153, 0, 77, 42, 180, 0, 99, 28, 46, 2, 159, 0, 14, 42, 42]
abbrev dktX7_goesByRota_1 : List UInt8 := dkwX7_goesByRota_1 ++ dktX7_goesByRota_2
def dkwX7_goesByRota_0 : List UInt8 := [42, 180, 0, 7, 42, 180, 0, 13, 184, 1, 38, 42, 16, 254, 181, 1, 139, 3, 61, 28, 42, 180, 1, 136]
abbrev dktX7_goesByRota_0 : List UInt8 := dkwX7_goesByRota_0 ++ dktX7_goesByRota_1
theorem dksX7_goesByRota_0 : cX7_goesByRota.data.toList.drop 0 = dktX7_goesByRota_0 := by decide +kernel
theorem dksX7_goesByRota_1 : cX7_goesByRota.data.toList.drop 24 = dktX7_goesByRota_1 := dk_seg dksX7_goesByRota_0 24 rfl rfl
theorem dksX7_goesByRota_2 : cX7_goesByRota.data.toList.drop 47 = dktX7_goesByRota_2 := dk_seg dksX7_goesByRota_1 23 rfl rfl
theorem dksX7_goesByRota_3 : cX7_goesByRota.data.toList.drop 71 = dktX7_goesByRota_3 := dk_seg dksX7_goesByRota_2 24 rfl rfl
theorem dksX7_goesByRota_4 : cX7_goesByRota.data.toList.drop 94 = dktX7_goesByRota_4 := dk_seg dksX7_goesByRota_3 23 rfl rfl
theorem dksX7_goesByRota_5 : cX7_goesByRota.data.toList.drop 118 = dktX7_goesByRota_5 := dk_seg dksX7_goesByRota_4 24 rfl rfl
theorem dX7_goesByRota_0 : decode cX7_goesByRota 0 = .ok (.aload_n 0, 1) := dk_42 (dk_at dksX7_goesByRota_0 0 rfl rfl)
theorem dX7_goesByRota_1 : decode cX7_goesByRota 1 = .ok (.getfield 7, 3) := dk_180 0 7 (dk_at dksX7_goesByRota_0 1 rfl rfl)
theorem dX7_goesByRota_4 : decode cX7_goesByRota 4 = .ok (.aload_n 0, 1) := dk_42 (dk_at dksX7_goesByRota_0 4 rfl rfl)
theorem dX7_goesByRota_5 : decode cX7_goesByRota 5 = .ok (.getfield 13, 3) := dk_180 0 13 (dk_at dksX7_goesByRota_0 5 rfl rfl)
theorem dX7_goesByRota_8 : decode cX7_goesByRota 8 = .ok (.invokestatic 294, 3) := dk_184 1 38 (dk_at dksX7_goesByRota_0 8 rfl rfl)
theorem dX7_goesByRota_11 : decode cX7_goesByRota 11 = .ok (.aload_n 0, 1) := dk_42 (dk_at dksX7_goesByRota_0 11 rfl rfl)
theorem dX7_goesByRota_12 : decode cX7_goesByRota 12 = .ok (.bipush (-2), 2) := dk_16 254 (dk_at dksX7_goesByRota_0 12 rfl rfl)
theorem dX7_goesByRota_14 : decode cX7_goesByRota 14 = .ok (.putfield 395, 3) := dk_181 1 139 (dk_at dksX7_goesByRota_0 14 rfl rfl)
theorem dX7_goesByRota_17 : decode cX7_goesByRota 17 = .ok (.iconst 0, 1) := dk_3 (dk_at dksX7_goesByRota_0 17 rfl rfl)
theorem dX7_goesByRota_18 : decode cX7_goesByRota 18 = .ok (.istore_n 2, 1) := dk_61 (dk_at dksX7_goesByRota_0 18 rfl rfl)
theorem dX7_goesByRota_19 : decode cX7_goesByRota 19 = .ok (.iload_n 2, 1) := dk_28 (dk_at dksX7_goesByRota_0 19 rfl rfl)
theorem dX7_goesByRota_20 : decode cX7_goesByRota 20 = .ok (.aload_n 0, 1) := dk_42 (dk_at dksX7_goesByRota_0 20 rfl rfl)
theorem dX7_goesByRota_21 : decode cX7_goesByRota 21 = .ok (.getfield 392, 3) := dk_180 1 136 (dk_at dksX7_goesByRota_0 21 rfl rfl)
theorem dX7_goesByRota_24 : decode cX7_goesByRota 24 = .ok (.if_icmp .ge 85, 3) := dk_162 0 85 (dk_at dksX7_goesByRota_1 0 rfl rfl)
theorem dX7_goesByRota_27 : decode cX7_goesByRota 27 = .ok (.aload_n 0, 1) := dk_42 (dk_at dksX7_goesByRota_1 3 rfl rfl)
theorem dX7_goesByRota_28 : decode cX7_goesByRota 28 = .ok (.iload_n 1, 1) := dk_27 (dk_at dksX7_goesByRota_1 4 rfl rfl)
theorem dX7_goesByRota_29 : decode cX7_goesByRota 29 = .ok (.invokevirtual 130, 3) := dk_182 0 130 (dk_at dksX7_goesByRota_1 5 rfl rfl)
theorem dX7_goesByRota_32 : decode cX7_goesByRota 32 = .ok (.ifCond .eq 77, 3) := dk_153 0 77 (dk_at dksX7_goesByRota_1 8 rfl rfl)
theorem dX7_goesByRota_35 : decode cX7_goesByRota 35 = .ok (.aload_n 0, 1) := dk_42 (dk_at dksX7_goesByRota_1 11 rfl rfl)
theorem dX7_goesByRota_36 : decode cX7_goesByRota 36 = .ok (.getfield 99, 3) := dk_180 0 99 (dk_at dksX7_goesByRota_1 12 rfl rfl)
theorem dX7_goesByRota_39 : decode cX7_goesByRota 39 = .ok (.iload_n 2, 1) := dk_28 (dk_at dksX7_goesByRota_1 15 rfl rfl)
theorem dX7_goesByRota_40 : decode cX7_goesByRota 40 = .ok (.iaload, 1) := dk_46 (dk_at dksX7_goesByRota_1 16 rfl rfl)
theorem dX7_goesByRota_41 : decode cX7_goesByRota 41 = .ok (.iconst (-1), 1) := dk_2 (dk_at dksX7_goesByRota_1 17 rfl rfl)
theorem dX7_goesByRota_42 : decode cX7_goesByRota 42 = .ok (.if_icmp .eq 14, 3) := dk_159 0 14 (dk_at dksX7_goesByRota_1 18 rfl rfl)
theorem dX7_goesByRota_45 : decode cX7_goesByRota 45 = .ok (.aload_n 0, 1) := dk_42 (dk_at dksX7_goesByRota_1 21 rfl rfl)
theorem dX7_goesByRota_46 : decode cX7_goesByRota 46 = .ok (.aload_n 0, 1) := dk_42 (dk_at dksX7_goesByRota_1 22 rfl rfl)
theorem dX7_goesByRota_47 : decode cX7_goesByRota 47 = .ok (.getfield 99, 3) := dk_180 0 99 (dk_at dksX7_goesByRota_2 0 rfl rfl)
theorem dX7_goesByRota_50 : decode cX7_goesByRota 50 = .ok (.iload_n 2, 1) := dk_28 (dk_at dksX7_goesByRota_2 3 rfl rfl)
theorem dX7_goesByRota_51 : decode cX7_goesByRota 51 = .ok (.iaload, 1) := dk_46 (dk_at dksX7_goesByRota_2 4 rfl rfl)
theorem dX7_goesByRota_52 : decode cX7_goesByRota 52 = .ok (.iload_n 1, 1) := dk_27 (dk_at dksX7_goesByRota_2 5 rfl rfl)
theorem dX7_goesByRota_53 : decode cX7_goesByRota 53 = .ok (.invokevirtual 278, 3) := dk_182 1 22 (dk_at dksX7_goesByRota_2 6 rfl rfl)
theorem dX7_goesByRota_56 : decode cX7_goesByRota 56 = .ok (.aload_n 0, 1) := dk_42 (dk_at dksX7_goesByRota_2 9 rfl rfl)
theorem dX7_goesByRota_57 : decode cX7_goesByRota 57 = .ok (.iload_n 1, 1) := dk_27 (dk_at dksX7_goesByRota_2 10 rfl rfl)
theorem dX7_goesByRota_58 : decode cX7_goesByRota 58 = .ok (.aload_n 0, 1) := dk_42 (dk_at dksX7_goesByRota_2 11 rfl rfl)
theorem dX7_goesByRota_59 : decode cX7_goesByRota 59 = .ok (.invokevirtual 275, 3) := dk_182 1 19 (dk_at dksX7_goesByRota_2 12 rfl rfl)
theorem dX7_goesByRota_62 : decode cX7_goesByRota 62 = .ok (.iconst 5, 1) := dk_8 (dk_at dksX7_goesByRota_2 15 rfl rfl)
theorem dX7_goesByRota_63 : decode cX7_goesByRota 63 = .ok (.if_icmp .ge 7, 3) := dk_162 0 7 (dk_at dksX7_goesByRota_2 16 rfl rfl)
theorem dX7_goesByRota_66 : decode cX7_goesByRota 66 = .ok (.iconst 1, 1) := dk_4 (dk_at dksX7_goesByRota_2 19 rfl rfl)
theorem dX7_goesByRota_67 : decode cX7_goesByRota 67 = .ok (.goto 4, 3) := dk_167 0 4 (dk_at dksX7_goesByRota_2 20 rfl rfl)
theorem dX7_goesByRota_70 : decode cX7_goesByRota 70 = .ok (.iconst 0, 1) := dk_3 (dk_at dksX7_goesByRota_2 23 rfl rfl)
theorem dX7_goesByRota_71 : decode cX7_goesByRota 71 = .ok (.invokevirtual 284, 3) := dk_182 1 28 (dk_at dksX7_goesByRota_3 0 rfl rfl)
theorem dX7_goesByRota_74 : decode cX7_goesByRota 74 = .ok (.aload_n 0, 1) := dk_42 (dk_at dksX7_goesByRota_3 3 rfl rfl)
theorem dX7_goesByRota_75 : decode cX7_goesByRota 75 = .ok (.iload_n 1, 1) := dk_27 (dk_at dksX7_goesByRota_3 4 rfl rfl)
theorem dX7_goesByRota_76 : decode cX7_goesByRota 76 = .ok (.invokevirtual 130, 3) := dk_182 0 130 (dk_at dksX7_goesByRota_3 5 rfl rfl)
theorem dX7_goesByRota_79 : decode cX7_goesByRota 79 = .ok (.ifCond .ne 8, 3) := dk_154 0 8 (dk_at dksX7_goesByRota_3 8 rfl rfl)
theorem dX7_goesByRota_82 : decode cX7_goesByRota 82 = .ok (.aload_n 0, 1) := dk_42 (dk_at dksX7_goesByRota_3 11 rfl rfl)
theorem dX7_goesByRota_83 : decode cX7_goesByRota 83 = .ok (.iload_n 2, 1) := dk_28 (dk_at dksX7_goesByRota_3 12 rfl rfl)
theorem dX7_goesByRota_84 : decode cX7_goesByRota 84 = .ok (.putfield 395, 3) := dk_181 1 139 (dk_at dksX7_goesByRota_3 13 rfl rfl)
theorem dX7_goesByRota_87 : decode cX7_goesByRota 87 = .ok (.aload_n 0, 1) := dk_42 (dk_at dksX7_goesByRota_3 16 rfl rfl)
theorem dX7_goesByRota_88 : decode cX7_goesByRota 88 = .ok (.getfield 7, 3) := dk_180 0 7 (dk_at dksX7_goesByRota_3 17 rfl rfl)
theorem dX7_goesByRota_91 : decode cX7_goesByRota 91 = .ok (.bipush 79, 2) := dk_16 79 (dk_at dksX7_goesByRota_3 20 rfl rfl)
theorem dX7_goesByRota_93 : decode cX7_goesByRota 93 = .ok (.aload_n 0, 1) := dk_42 (dk_at dksX7_goesByRota_3 22 rfl rfl)
theorem dX7_goesByRota_94 : decode cX7_goesByRota 94 = .ok (.getfield 7, 3) := dk_180 0 7 (dk_at dksX7_goesByRota_4 0 rfl rfl)
theorem dX7_goesByRota_97 : decode cX7_goesByRota 97 = .ok (.bipush 79, 2) := dk_16 79 (dk_at dksX7_goesByRota_4 3 rfl rfl)
theorem dX7_goesByRota_99 : decode cX7_goesByRota 99 = .ok (.iaload, 1) := dk_46 (dk_at dksX7_goesByRota_4 5 rfl rfl)
theorem dX7_goesByRota_100 : decode cX7_goesByRota 100 = .ok (.iconst 1, 1) := dk_4 (dk_at dksX7_goesByRota_4 6 rfl rfl)
theorem dX7_goesByRota_101 : decode cX7_goesByRota 101 = .ok (.iadd, 1) := dk_96 (dk_at dksX7_goesByRota_4 7 rfl rfl)
theorem dX7_goesByRota_102 : decode cX7_goesByRota 102 = .ok (.iastore, 1) := dk_79 (dk_at dksX7_goesByRota_4 8 rfl rfl)
theorem dX7_goesByRota_103 : decode cX7_goesByRota 103 = .ok (.iinc 2 1, 3) := dk_132 2 1 (dk_at dksX7_goesByRota_4 9 rfl rfl)
theorem dX7_goesByRota_106 : decode cX7_goesByRota 106 = .ok (.goto (-87), 3) := dk_167 255 169 (dk_at dksX7_goesByRota_4 12 rfl rfl)
theorem dX7_goesByRota_109 : decode cX7_goesByRota 109 = .ok (.aload_n 0, 1) := dk_42 (dk_at dksX7_goesByRota_4 15 rfl rfl)
theorem dX7_goesByRota_110 : decode cX7_goesByRota 110 = .ok (.aload_n 0, 1) := dk_42 (dk_at dksX7_goesByRota_4 16 rfl rfl)
theorem dX7_goesByRota_111 : decode cX7_goesByRota 111 = .ok (.getfield 7, 3) := dk_180 0 7 (dk_at dksX7_goesByRota_4 17 rfl rfl)
theorem dX7_goesByRota_114 : decode cX7_goesByRota 114 = .ok (.iconst 4, 1) := dk_7 (dk_at dksX7_goesByRota_4 20 rfl rfl)
theorem dX7_goesByRota_115 : decode cX7_goesByRota 115 = .ok (.iload_n 1, 1) := dk_27 (dk_at dksX7_goesByRota_4 21 rfl rfl)
theorem dX7_goesByRota_116 : decode cX7_goesByRota 116 = .ok (.iadd, 1) := dk_96 (dk_at dksX7_goesByRota_4 22 rfl rfl)
theorem dX7_goesByRota_117 : decode cX7_goesByRota 117 = .ok (.iaload, 1) := dk_46 (dk_at dksX7_goesByRota_4 23 rfl rfl)
theorem dX7_goesByRota_118 : decode cX7_goesByRota 118 = .ok (.putfield 398, 3) := dk_181 1 142 (dk_at dksX7_goesByRota_5 0 rfl rfl)
theorem dX7_goesByRota_121 : decode cX7_goesByRota 121 = .ok (.aload_n 0, 1) := dk_42 (dk_at dksX7_goesByRota_5 3 rfl rfl)
theorem dX7_goesByRota_122 : decode cX7_goesByRota 122 = .ok (.getfield 13, 3) := dk_180 0 13 (dk_at dksX7_goesByRota_5 4 rfl rfl)
theorem dX7_goesByRota_125 : decode cX7_goesByRota 125 = .ok (.aload_n 0, 1) := dk_42 (dk_at dksX7_goesByRota_5 7 rfl rfl)
theorem dX7_goesByRota_126 : decode cX7_goesByRota 126 = .ok (.getfield 7, 3) := dk_180 0 7 (dk_at dksX7_goesByRota_5 8 rfl rfl)
theorem dX7_goesByRota_129 : decode cX7_goesByRota 129 = .ok (.invokestatic 294, 3) := dk_184 1 38 (dk_at dksX7_goesByRota_5 11 rfl rfl)
theorem dX7_goesByRota_132 : decode cX7_goesByRota 132 = .ok (.return_, 1) := dk_177 (dk_at dksX7_goesByRota_5 14 rfl rfl)
abbrev cX7_alone : ByteArray := prog_19_method_98_code
def yX7_alone : MethodName := ⟨RX7, "alone", "(II)I"⟩
def dkwX7_alone_7 : List UInt8 := [167, 255, 166, 28, 154, 0, 7, 29, 167, 0, 5, 21, 4, 172]
abbrev dktX7_alone_7 : List UInt8 := dkwX7_alone_7 ++ []
def dkwX7_alone_6 : List UInt8 := [167, 0, 20, 29, 154, 0, 8, 21, 5, 167, 0, 5, 21, 4, 54, 4, 29, 4, 96, 62, 132, 5, 1]
abbrev dktX7_alone_6 : List UInt8 := dkwX7_alone_6 ++ dktX7_alone_7
def dkwX7_alone_5 : List UInt8 := [182, 1, 157, 163, 0, 7, 4, 167, 0, 4, 3, 54, 6, 132, 7, 1, 167, 255, 211, 21, 6, 154, 0, 6]
abbrev dktX7_alone_5 : List UInt8 := dkwX7_alone_5 ++ dktX7_alone_6
def dkwX7_alone_4 : List UInt8 := [21, 6, 153, 0, 40, 42, 21, 5, 4, 21, 7, 120, 130, 21, 7, 182, 1, 157, 42, 21, 5, 21, 7]
abbrev dktX7_alone_4 : List UInt8 := dkwX7_alone_4 ++ dktX7_alone_5
def dkwX7_alone_3 : List UInt8 := [3, 54, 5, 21, 5, 4, 27, 120, 162, 0, 88, 4, 54, 6, 3, 54, 7, 21, 7, 27, 162, 0, 45]
abbrev dktX7_alone_3 : List UInt8 := dkwX7_alone_3 ++ dktX7_alone_4
def dkwX7_alone_2 : List UInt8 := [29, 4, 100, 62, 167, 255, 239, 29, 156, 0, 8, 16, 254, 167, 0, 4, 29, 172, 3, 62, 16, 254, 54, 4]
abbrev dktX7_alone_2 : List UInt8 := dkwX7_alone_2 ++ dktX7_alone_3
def dkwX7_alone_1 : List UInt8 := [182, 1, 151, 28, 5, 160, 0, 37, 16, 10, 62, 29, 155, 0, 19, 42, 27, 29, 182, 1, 154, 154, 0, 10]
abbrev dktX7_alone_1 : List UInt8 := dkwX7_alone_1 ++ dktX7_alone_2
def dkwX7_alone_0 : List UInt8 := [27, 5, 16, 6, 184, 0, 126, 153, 0, 12, 28, 3, 5, 184, 0, 126, 154, 0, 5, 2, 172, 42, 27]
abbrev dktX7_alone_0 : List UInt8 := dkwX7_alone_0 ++ dktX7_alone_1
theorem dksX7_alone_0 : cX7_alone.data.toList.drop 0 = dktX7_alone_0 := by decide +kernel
theorem dksX7_alone_1 : cX7_alone.data.toList.drop 23 = dktX7_alone_1 := dk_seg dksX7_alone_0 23 rfl rfl
theorem dksX7_alone_2 : cX7_alone.data.toList.drop 47 = dktX7_alone_2 := dk_seg dksX7_alone_1 24 rfl rfl
theorem dksX7_alone_3 : cX7_alone.data.toList.drop 71 = dktX7_alone_3 := dk_seg dksX7_alone_2 24 rfl rfl
theorem dksX7_alone_4 : cX7_alone.data.toList.drop 94 = dktX7_alone_4 := dk_seg dksX7_alone_3 23 rfl rfl
theorem dksX7_alone_5 : cX7_alone.data.toList.drop 117 = dktX7_alone_5 := dk_seg dksX7_alone_4 23 rfl rfl
theorem dksX7_alone_6 : cX7_alone.data.toList.drop 141 = dktX7_alone_6 := dk_seg dksX7_alone_5 24 rfl rfl
theorem dksX7_alone_7 : cX7_alone.data.toList.drop 164 = dktX7_alone_7 := dk_seg dksX7_alone_6 23 rfl rfl
theorem dX7_alone_0 : decode cX7_alone 0 = .ok (.iload_n 1, 1) := dk_27 (dk_at dksX7_alone_0 0 rfl rfl)
theorem dX7_alone_1 : decode cX7_alone 1 = .ok (.iconst 2, 1) := dk_5 (dk_at dksX7_alone_0 1 rfl rfl)
theorem dX7_alone_2 : decode cX7_alone 2 = .ok (.bipush 6, 2) := dk_16 6 (dk_at dksX7_alone_0 2 rfl rfl)
theorem dX7_alone_4 : decode cX7_alone 4 = .ok (.invokestatic 126, 3) := dk_184 0 126 (dk_at dksX7_alone_0 4 rfl rfl)
theorem dX7_alone_7 : decode cX7_alone 7 = .ok (.ifCond .eq 12, 3) := dk_153 0 12 (dk_at dksX7_alone_0 7 rfl rfl)
theorem dX7_alone_10 : decode cX7_alone 10 = .ok (.iload_n 2, 1) := dk_28 (dk_at dksX7_alone_0 10 rfl rfl)
theorem dX7_alone_11 : decode cX7_alone 11 = .ok (.iconst 0, 1) := dk_3 (dk_at dksX7_alone_0 11 rfl rfl)
theorem dX7_alone_12 : decode cX7_alone 12 = .ok (.iconst 2, 1) := dk_5 (dk_at dksX7_alone_0 12 rfl rfl)
theorem dX7_alone_13 : decode cX7_alone 13 = .ok (.invokestatic 126, 3) := dk_184 0 126 (dk_at dksX7_alone_0 13 rfl rfl)
theorem dX7_alone_16 : decode cX7_alone 16 = .ok (.ifCond .ne 5, 3) := dk_154 0 5 (dk_at dksX7_alone_0 16 rfl rfl)
theorem dX7_alone_19 : decode cX7_alone 19 = .ok (.iconst (-1), 1) := dk_2 (dk_at dksX7_alone_0 19 rfl rfl)
theorem dX7_alone_20 : decode cX7_alone 20 = .ok (.ireturn, 1) := dk_172 (dk_at dksX7_alone_0 20 rfl rfl)
theorem dX7_alone_21 : decode cX7_alone 21 = .ok (.aload_n 0, 1) := dk_42 (dk_at dksX7_alone_0 21 rfl rfl)
theorem dX7_alone_22 : decode cX7_alone 22 = .ok (.iload_n 1, 1) := dk_27 (dk_at dksX7_alone_0 22 rfl rfl)
theorem dX7_alone_23 : decode cX7_alone 23 = .ok (.invokevirtual 407, 3) := dk_182 1 151 (dk_at dksX7_alone_1 0 rfl rfl)
theorem dX7_alone_26 : decode cX7_alone 26 = .ok (.iload_n 2, 1) := dk_28 (dk_at dksX7_alone_1 3 rfl rfl)
theorem dX7_alone_27 : decode cX7_alone 27 = .ok (.iconst 2, 1) := dk_5 (dk_at dksX7_alone_1 4 rfl rfl)
theorem dX7_alone_28 : decode cX7_alone 28 = .ok (.if_icmp .ne 37, 3) := dk_160 0 37 (dk_at dksX7_alone_1 5 rfl rfl)
theorem dX7_alone_31 : decode cX7_alone 31 = .ok (.bipush 10, 2) := dk_16 10 (dk_at dksX7_alone_1 8 rfl rfl)
theorem dX7_alone_33 : decode cX7_alone 33 = .ok (.istore_n 3, 1) := dk_62 (dk_at dksX7_alone_1 10 rfl rfl)
theorem dX7_alone_34 : decode cX7_alone 34 = .ok (.iload_n 3, 1) := dk_29 (dk_at dksX7_alone_1 11 rfl rfl)
theorem dX7_alone_35 : decode cX7_alone 35 = .ok (.ifCond .lt 19, 3) := dk_155 0 19 (dk_at dksX7_alone_1 12 rfl rfl)
theorem dX7_alone_38 : decode cX7_alone 38 = .ok (.aload_n 0, 1) := dk_42 (dk_at dksX7_alone_1 15 rfl rfl)
theorem dX7_alone_39 : decode cX7_alone 39 = .ok (.iload_n 1, 1) := dk_27 (dk_at dksX7_alone_1 16 rfl rfl)
theorem dX7_alone_40 : decode cX7_alone 40 = .ok (.iload_n 3, 1) := dk_29 (dk_at dksX7_alone_1 17 rfl rfl)
theorem dX7_alone_41 : decode cX7_alone 41 = .ok (.invokevirtual 410, 3) := dk_182 1 154 (dk_at dksX7_alone_1 18 rfl rfl)
theorem dX7_alone_44 : decode cX7_alone 44 = .ok (.ifCond .ne 10, 3) := dk_154 0 10 (dk_at dksX7_alone_1 21 rfl rfl)
theorem dX7_alone_47 : decode cX7_alone 47 = .ok (.iload_n 3, 1) := dk_29 (dk_at dksX7_alone_2 0 rfl rfl)
theorem dX7_alone_48 : decode cX7_alone 48 = .ok (.iconst 1, 1) := dk_4 (dk_at dksX7_alone_2 1 rfl rfl)
theorem dX7_alone_49 : decode cX7_alone 49 = .ok (.isub, 1) := dk_100 (dk_at dksX7_alone_2 2 rfl rfl)
theorem dX7_alone_50 : decode cX7_alone 50 = .ok (.istore_n 3, 1) := dk_62 (dk_at dksX7_alone_2 3 rfl rfl)
theorem dX7_alone_51 : decode cX7_alone 51 = .ok (.goto (-17), 3) := dk_167 255 239 (dk_at dksX7_alone_2 4 rfl rfl)
theorem dX7_alone_54 : decode cX7_alone 54 = .ok (.iload_n 3, 1) := dk_29 (dk_at dksX7_alone_2 7 rfl rfl)
theorem dX7_alone_55 : decode cX7_alone 55 = .ok (.ifCond .ge 8, 3) := dk_156 0 8 (dk_at dksX7_alone_2 8 rfl rfl)
theorem dX7_alone_58 : decode cX7_alone 58 = .ok (.bipush (-2), 2) := dk_16 254 (dk_at dksX7_alone_2 11 rfl rfl)
theorem dX7_alone_60 : decode cX7_alone 60 = .ok (.goto 4, 3) := dk_167 0 4 (dk_at dksX7_alone_2 13 rfl rfl)
theorem dX7_alone_63 : decode cX7_alone 63 = .ok (.iload_n 3, 1) := dk_29 (dk_at dksX7_alone_2 16 rfl rfl)
theorem dX7_alone_64 : decode cX7_alone 64 = .ok (.ireturn, 1) := dk_172 (dk_at dksX7_alone_2 17 rfl rfl)
theorem dX7_alone_65 : decode cX7_alone 65 = .ok (.iconst 0, 1) := dk_3 (dk_at dksX7_alone_2 18 rfl rfl)
theorem dX7_alone_66 : decode cX7_alone 66 = .ok (.istore_n 3, 1) := dk_62 (dk_at dksX7_alone_2 19 rfl rfl)
theorem dX7_alone_67 : decode cX7_alone 67 = .ok (.bipush (-2), 2) := dk_16 254 (dk_at dksX7_alone_2 20 rfl rfl)
theorem dX7_alone_69 : decode cX7_alone 69 = .ok (.istore 4, 2) := dk_54 4 (dk_at dksX7_alone_2 22 rfl rfl)
theorem dX7_alone_71 : decode cX7_alone 71 = .ok (.iconst 0, 1) := dk_3 (dk_at dksX7_alone_3 0 rfl rfl)
theorem dX7_alone_72 : decode cX7_alone 72 = .ok (.istore 5, 2) := dk_54 5 (dk_at dksX7_alone_3 1 rfl rfl)
theorem dX7_alone_74 : decode cX7_alone 74 = .ok (.iload 5, 2) := dk_21 5 (dk_at dksX7_alone_3 3 rfl rfl)
theorem dX7_alone_76 : decode cX7_alone 76 = .ok (.iconst 1, 1) := dk_4 (dk_at dksX7_alone_3 5 rfl rfl)
theorem dX7_alone_77 : decode cX7_alone 77 = .ok (.iload_n 1, 1) := dk_27 (dk_at dksX7_alone_3 6 rfl rfl)
theorem dX7_alone_78 : decode cX7_alone 78 = .ok (.ishl, 1) := dk_120 (dk_at dksX7_alone_3 7 rfl rfl)
theorem dX7_alone_79 : decode cX7_alone 79 = .ok (.if_icmp .ge 88, 3) := dk_162 0 88 (dk_at dksX7_alone_3 8 rfl rfl)
theorem dX7_alone_82 : decode cX7_alone 82 = .ok (.iconst 1, 1) := dk_4 (dk_at dksX7_alone_3 11 rfl rfl)
theorem dX7_alone_83 : decode cX7_alone 83 = .ok (.istore 6, 2) := dk_54 6 (dk_at dksX7_alone_3 12 rfl rfl)
theorem dX7_alone_85 : decode cX7_alone 85 = .ok (.iconst 0, 1) := dk_3 (dk_at dksX7_alone_3 14 rfl rfl)
theorem dX7_alone_86 : decode cX7_alone 86 = .ok (.istore 7, 2) := dk_54 7 (dk_at dksX7_alone_3 15 rfl rfl)
theorem dX7_alone_88 : decode cX7_alone 88 = .ok (.iload 7, 2) := dk_21 7 (dk_at dksX7_alone_3 17 rfl rfl)
theorem dX7_alone_90 : decode cX7_alone 90 = .ok (.iload_n 1, 1) := dk_27 (dk_at dksX7_alone_3 19 rfl rfl)
theorem dX7_alone_91 : decode cX7_alone 91 = .ok (.if_icmp .ge 45, 3) := dk_162 0 45 (dk_at dksX7_alone_3 20 rfl rfl)
theorem dX7_alone_94 : decode cX7_alone 94 = .ok (.iload 6, 2) := dk_21 6 (dk_at dksX7_alone_4 0 rfl rfl)
theorem dX7_alone_96 : decode cX7_alone 96 = .ok (.ifCond .eq 40, 3) := dk_153 0 40 (dk_at dksX7_alone_4 2 rfl rfl)
theorem dX7_alone_99 : decode cX7_alone 99 = .ok (.aload_n 0, 1) := dk_42 (dk_at dksX7_alone_4 5 rfl rfl)
theorem dX7_alone_100 : decode cX7_alone 100 = .ok (.iload 5, 2) := dk_21 5 (dk_at dksX7_alone_4 6 rfl rfl)
theorem dX7_alone_102 : decode cX7_alone 102 = .ok (.iconst 1, 1) := dk_4 (dk_at dksX7_alone_4 8 rfl rfl)
theorem dX7_alone_103 : decode cX7_alone 103 = .ok (.iload 7, 2) := dk_21 7 (dk_at dksX7_alone_4 9 rfl rfl)
theorem dX7_alone_105 : decode cX7_alone 105 = .ok (.ishl, 1) := dk_120 (dk_at dksX7_alone_4 11 rfl rfl)
theorem dX7_alone_106 : decode cX7_alone 106 = .ok (.ixor, 1) := dk_130 (dk_at dksX7_alone_4 12 rfl rfl)
theorem dX7_alone_107 : decode cX7_alone 107 = .ok (.iload 7, 2) := dk_21 7 (dk_at dksX7_alone_4 13 rfl rfl)
theorem dX7_alone_109 : decode cX7_alone 109 = .ok (.invokevirtual 413, 3) := dk_182 1 157 (dk_at dksX7_alone_4 15 rfl rfl)
theorem dX7_alone_112 : decode cX7_alone 112 = .ok (.aload_n 0, 1) := dk_42 (dk_at dksX7_alone_4 18 rfl rfl)
theorem dX7_alone_113 : decode cX7_alone 113 = .ok (.iload 5, 2) := dk_21 5 (dk_at dksX7_alone_4 19 rfl rfl)
theorem dX7_alone_115 : decode cX7_alone 115 = .ok (.iload 7, 2) := dk_21 7 (dk_at dksX7_alone_4 21 rfl rfl)
theorem dX7_alone_117 : decode cX7_alone 117 = .ok (.invokevirtual 413, 3) := dk_182 1 157 (dk_at dksX7_alone_5 0 rfl rfl)
theorem dX7_alone_120 : decode cX7_alone 120 = .ok (.if_icmp .gt 7, 3) := dk_163 0 7 (dk_at dksX7_alone_5 3 rfl rfl)
theorem dX7_alone_123 : decode cX7_alone 123 = .ok (.iconst 1, 1) := dk_4 (dk_at dksX7_alone_5 6 rfl rfl)
theorem dX7_alone_124 : decode cX7_alone 124 = .ok (.goto 4, 3) := dk_167 0 4 (dk_at dksX7_alone_5 7 rfl rfl)
theorem dX7_alone_127 : decode cX7_alone 127 = .ok (.iconst 0, 1) := dk_3 (dk_at dksX7_alone_5 10 rfl rfl)
theorem dX7_alone_128 : decode cX7_alone 128 = .ok (.istore 6, 2) := dk_54 6 (dk_at dksX7_alone_5 11 rfl rfl)
theorem dX7_alone_130 : decode cX7_alone 130 = .ok (.iinc 7 1, 3) := dk_132 7 1 (dk_at dksX7_alone_5 13 rfl rfl)
theorem dX7_alone_133 : decode cX7_alone 133 = .ok (.goto (-45), 3) := dk_167 255 211 (dk_at dksX7_alone_5 16 rfl rfl)
theorem dX7_alone_136 : decode cX7_alone 136 = .ok (.iload 6, 2) := dk_21 6 (dk_at dksX7_alone_5 19 rfl rfl)
theorem dX7_alone_138 : decode cX7_alone 138 = .ok (.ifCond .ne 6, 3) := dk_154 0 6 (dk_at dksX7_alone_5 21 rfl rfl)
theorem dX7_alone_141 : decode cX7_alone 141 = .ok (.goto 20, 3) := dk_167 0 20 (dk_at dksX7_alone_6 0 rfl rfl)
theorem dX7_alone_144 : decode cX7_alone 144 = .ok (.iload_n 3, 1) := dk_29 (dk_at dksX7_alone_6 3 rfl rfl)
theorem dX7_alone_145 : decode cX7_alone 145 = .ok (.ifCond .ne 8, 3) := dk_154 0 8 (dk_at dksX7_alone_6 4 rfl rfl)
theorem dX7_alone_148 : decode cX7_alone 148 = .ok (.iload 5, 2) := dk_21 5 (dk_at dksX7_alone_6 7 rfl rfl)
theorem dX7_alone_150 : decode cX7_alone 150 = .ok (.goto 5, 3) := dk_167 0 5 (dk_at dksX7_alone_6 9 rfl rfl)
theorem dX7_alone_153 : decode cX7_alone 153 = .ok (.iload 4, 2) := dk_21 4 (dk_at dksX7_alone_6 12 rfl rfl)
theorem dX7_alone_155 : decode cX7_alone 155 = .ok (.istore 4, 2) := dk_54 4 (dk_at dksX7_alone_6 14 rfl rfl)
theorem dX7_alone_157 : decode cX7_alone 157 = .ok (.iload_n 3, 1) := dk_29 (dk_at dksX7_alone_6 16 rfl rfl)
theorem dX7_alone_158 : decode cX7_alone 158 = .ok (.iconst 1, 1) := dk_4 (dk_at dksX7_alone_6 17 rfl rfl)
theorem dX7_alone_159 : decode cX7_alone 159 = .ok (.iadd, 1) := dk_96 (dk_at dksX7_alone_6 18 rfl rfl)
theorem dX7_alone_160 : decode cX7_alone 160 = .ok (.istore_n 3, 1) := dk_62 (dk_at dksX7_alone_6 19 rfl rfl)
theorem dX7_alone_161 : decode cX7_alone 161 = .ok (.iinc 5 1, 3) := dk_132 5 1 (dk_at dksX7_alone_6 20 rfl rfl)
theorem dX7_alone_164 : decode cX7_alone 164 = .ok (.goto (-90), 3) := dk_167 255 166 (dk_at dksX7_alone_7 0 rfl rfl)
theorem dX7_alone_167 : decode cX7_alone 167 = .ok (.iload_n 2, 1) := dk_28 (dk_at dksX7_alone_7 3 rfl rfl)
theorem dX7_alone_168 : decode cX7_alone 168 = .ok (.ifCond .ne 7, 3) := dk_154 0 7 (dk_at dksX7_alone_7 4 rfl rfl)
theorem dX7_alone_171 : decode cX7_alone 171 = .ok (.iload_n 3, 1) := dk_29 (dk_at dksX7_alone_7 7 rfl rfl)
theorem dX7_alone_172 : decode cX7_alone 172 = .ok (.goto 5, 3) := dk_167 0 5 (dk_at dksX7_alone_7 8 rfl rfl)
theorem dX7_alone_175 : decode cX7_alone 175 = .ok (.iload 4, 2) := dk_21 4 (dk_at dksX7_alone_7 11 rfl rfl)
theorem dX7_alone_177 : decode cX7_alone 177 = .ok (.ireturn, 1) := dk_172 (dk_at dksX7_alone_7 13 rfl rfl)
abbrev cX7_laysAlone : ByteArray := prog_19_method_95_code
def yX7_laysAlone : MethodName := ⟨RX7, "laysAlone", "(I)V"⟩
def dkwX7_laysAlone_2 : List UInt8 := [182, 1, 0, 79, 132, 2, 1, 167, 255, 205, 177]
abbrev dktX7_laysAlone_2 : List UInt8 := dkwX7_laysAlone_2 ++ []
def dkwX7_laysAlone_1 : List UInt8 := [42, 3, 16, 99, 16, 99, 182, 1, 0, 79, 42, 180, 0, 105, 28, 42, 3, 16, 98, 17, 3, 231]
abbrev dktX7_laysAlone_1 : List UInt8 := dkwX7_laysAlone_1 ++ dktX7_laysAlone_2
def dkwX7_laysAlone_0 : List UInt8 := [3, 61, 28, 27, 162, 0, 52, 42, 182, 0, 250, 42, 180, 0, 62, 16, 8, 28, 79, 42, 180, 0, 102, 28]
abbrev dktX7_laysAlone_0 : List UInt8 := dkwX7_laysAlone_0 ++ dktX7_laysAlone_1
theorem dksX7_laysAlone_0 : cX7_laysAlone.data.toList.drop 0 = dktX7_laysAlone_0 := by decide +kernel
theorem dksX7_laysAlone_1 : cX7_laysAlone.data.toList.drop 24 = dktX7_laysAlone_1 := dk_seg dksX7_laysAlone_0 24 rfl rfl
theorem dksX7_laysAlone_2 : cX7_laysAlone.data.toList.drop 46 = dktX7_laysAlone_2 := dk_seg dksX7_laysAlone_1 22 rfl rfl
theorem dX7_laysAlone_0 : decode cX7_laysAlone 0 = .ok (.iconst 0, 1) := dk_3 (dk_at dksX7_laysAlone_0 0 rfl rfl)
theorem dX7_laysAlone_1 : decode cX7_laysAlone 1 = .ok (.istore_n 2, 1) := dk_61 (dk_at dksX7_laysAlone_0 1 rfl rfl)
theorem dX7_laysAlone_2 : decode cX7_laysAlone 2 = .ok (.iload_n 2, 1) := dk_28 (dk_at dksX7_laysAlone_0 2 rfl rfl)
theorem dX7_laysAlone_3 : decode cX7_laysAlone 3 = .ok (.iload_n 1, 1) := dk_27 (dk_at dksX7_laysAlone_0 3 rfl rfl)
theorem dX7_laysAlone_4 : decode cX7_laysAlone 4 = .ok (.if_icmp .ge 52, 3) := dk_162 0 52 (dk_at dksX7_laysAlone_0 4 rfl rfl)
theorem dX7_laysAlone_7 : decode cX7_laysAlone 7 = .ok (.aload_n 0, 1) := dk_42 (dk_at dksX7_laysAlone_0 7 rfl rfl)
theorem dX7_laysAlone_8 : decode cX7_laysAlone 8 = .ok (.invokevirtual 250, 3) := dk_182 0 250 (dk_at dksX7_laysAlone_0 8 rfl rfl)
theorem dX7_laysAlone_11 : decode cX7_laysAlone 11 = .ok (.aload_n 0, 1) := dk_42 (dk_at dksX7_laysAlone_0 11 rfl rfl)
theorem dX7_laysAlone_12 : decode cX7_laysAlone 12 = .ok (.getfield 62, 3) := dk_180 0 62 (dk_at dksX7_laysAlone_0 12 rfl rfl)
theorem dX7_laysAlone_15 : decode cX7_laysAlone 15 = .ok (.bipush 8, 2) := dk_16 8 (dk_at dksX7_laysAlone_0 15 rfl rfl)
theorem dX7_laysAlone_17 : decode cX7_laysAlone 17 = .ok (.iload_n 2, 1) := dk_28 (dk_at dksX7_laysAlone_0 17 rfl rfl)
theorem dX7_laysAlone_18 : decode cX7_laysAlone 18 = .ok (.iastore, 1) := dk_79 (dk_at dksX7_laysAlone_0 18 rfl rfl)
theorem dX7_laysAlone_19 : decode cX7_laysAlone 19 = .ok (.aload_n 0, 1) := dk_42 (dk_at dksX7_laysAlone_0 19 rfl rfl)
theorem dX7_laysAlone_20 : decode cX7_laysAlone 20 = .ok (.getfield 102, 3) := dk_180 0 102 (dk_at dksX7_laysAlone_0 20 rfl rfl)
theorem dX7_laysAlone_23 : decode cX7_laysAlone 23 = .ok (.iload_n 2, 1) := dk_28 (dk_at dksX7_laysAlone_0 23 rfl rfl)
theorem dX7_laysAlone_24 : decode cX7_laysAlone 24 = .ok (.aload_n 0, 1) := dk_42 (dk_at dksX7_laysAlone_1 0 rfl rfl)
theorem dX7_laysAlone_25 : decode cX7_laysAlone 25 = .ok (.iconst 0, 1) := dk_3 (dk_at dksX7_laysAlone_1 1 rfl rfl)
theorem dX7_laysAlone_26 : decode cX7_laysAlone 26 = .ok (.bipush 99, 2) := dk_16 99 (dk_at dksX7_laysAlone_1 2 rfl rfl)
theorem dX7_laysAlone_28 : decode cX7_laysAlone 28 = .ok (.bipush 99, 2) := dk_16 99 (dk_at dksX7_laysAlone_1 4 rfl rfl)
theorem dX7_laysAlone_30 : decode cX7_laysAlone 30 = .ok (.invokevirtual 256, 3) := dk_182 1 0 (dk_at dksX7_laysAlone_1 6 rfl rfl)
theorem dX7_laysAlone_33 : decode cX7_laysAlone 33 = .ok (.iastore, 1) := dk_79 (dk_at dksX7_laysAlone_1 9 rfl rfl)
theorem dX7_laysAlone_34 : decode cX7_laysAlone 34 = .ok (.aload_n 0, 1) := dk_42 (dk_at dksX7_laysAlone_1 10 rfl rfl)
theorem dX7_laysAlone_35 : decode cX7_laysAlone 35 = .ok (.getfield 105, 3) := dk_180 0 105 (dk_at dksX7_laysAlone_1 11 rfl rfl)
theorem dX7_laysAlone_38 : decode cX7_laysAlone 38 = .ok (.iload_n 2, 1) := dk_28 (dk_at dksX7_laysAlone_1 14 rfl rfl)
theorem dX7_laysAlone_39 : decode cX7_laysAlone 39 = .ok (.aload_n 0, 1) := dk_42 (dk_at dksX7_laysAlone_1 15 rfl rfl)
theorem dX7_laysAlone_40 : decode cX7_laysAlone 40 = .ok (.iconst 0, 1) := dk_3 (dk_at dksX7_laysAlone_1 16 rfl rfl)
theorem dX7_laysAlone_41 : decode cX7_laysAlone 41 = .ok (.bipush 98, 2) := dk_16 98 (dk_at dksX7_laysAlone_1 17 rfl rfl)
theorem dX7_laysAlone_43 : decode cX7_laysAlone 43 = .ok (.sipush 999, 3) := dk_17 3 231 (dk_at dksX7_laysAlone_1 19 rfl rfl)
theorem dX7_laysAlone_46 : decode cX7_laysAlone 46 = .ok (.invokevirtual 256, 3) := dk_182 1 0 (dk_at dksX7_laysAlone_2 0 rfl rfl)
theorem dX7_laysAlone_49 : decode cX7_laysAlone 49 = .ok (.iastore, 1) := dk_79 (dk_at dksX7_laysAlone_2 3 rfl rfl)
theorem dX7_laysAlone_50 : decode cX7_laysAlone 50 = .ok (.iinc 2 1, 3) := dk_132 2 1 (dk_at dksX7_laysAlone_2 4 rfl rfl)
theorem dX7_laysAlone_53 : decode cX7_laysAlone 53 = .ok (.goto (-51), 3) := dk_167 255 205 (dk_at dksX7_laysAlone_2 7 rfl rfl)
theorem dX7_laysAlone_56 : decode cX7_laysAlone 56 = .ok (.return_, 1) := dk_177 (dk_at dksX7_laysAlone_2 10 rfl rfl)
abbrev cX7_waterBy : ByteArray := prog_19_method_97_code
def yX7_waterBy : MethodName := ⟨RX7, "waterBy", "(II)Z"⟩
def dkwX7_waterBy_3 : List UInt8 := [167, 255, 216, 4, 172]
abbrev dktX7_waterBy_3 : List UInt8 := dkwX7_waterBy_3 ++ []
def dkwX7_waterBy_2 : List UInt8 := [184, 1, 72, 105, 42, 180, 0, 105, 21, 5, 46, 133, 33, 105, 148, 158, 0, 5, 3, 172, 132, 5, 1]
abbrev dktX7_waterBy_2 : List UInt8 := dkwX7_waterBy_2 ++ dktX7_waterBy_3
def dkwX7_waterBy_1 : List UInt8 := [167, 255, 239, 3, 54, 5, 21, 5, 27, 162, 0, 40, 42, 180, 0, 102, 21, 5, 46, 133, 27, 4, 100]
abbrev dktX7_waterBy_1 : List UInt8 := dkwX7_waterBy_1 ++ dktX7_waterBy_2
def dkwX7_waterBy_0 : List UInt8 := [10, 66, 4, 54, 5, 21, 5, 27, 162, 0, 17, 33, 16, 10, 28, 100, 133, 105, 66, 132, 5, 1]
abbrev dktX7_waterBy_0 : List UInt8 := dkwX7_waterBy_0 ++ dktX7_waterBy_1
theorem dksX7_waterBy_0 : cX7_waterBy.data.toList.drop 0 = dktX7_waterBy_0 := by decide +kernel
theorem dksX7_waterBy_1 : cX7_waterBy.data.toList.drop 22 = dktX7_waterBy_1 := dk_seg dksX7_waterBy_0 22 rfl rfl
theorem dksX7_waterBy_2 : cX7_waterBy.data.toList.drop 45 = dktX7_waterBy_2 := dk_seg dksX7_waterBy_1 23 rfl rfl
theorem dksX7_waterBy_3 : cX7_waterBy.data.toList.drop 68 = dktX7_waterBy_3 := dk_seg dksX7_waterBy_2 23 rfl rfl
theorem dX7_waterBy_0 : decode cX7_waterBy 0 = .ok (.lconst 1, 1) := dk_10 (dk_at dksX7_waterBy_0 0 rfl rfl)
theorem dX7_waterBy_1 : decode cX7_waterBy 1 = .ok (.lstore_n 3, 1) := dk_66 (dk_at dksX7_waterBy_0 1 rfl rfl)
theorem dX7_waterBy_2 : decode cX7_waterBy 2 = .ok (.iconst 1, 1) := dk_4 (dk_at dksX7_waterBy_0 2 rfl rfl)
theorem dX7_waterBy_3 : decode cX7_waterBy 3 = .ok (.istore 5, 2) := dk_54 5 (dk_at dksX7_waterBy_0 3 rfl rfl)
theorem dX7_waterBy_5 : decode cX7_waterBy 5 = .ok (.iload 5, 2) := dk_21 5 (dk_at dksX7_waterBy_0 5 rfl rfl)
theorem dX7_waterBy_7 : decode cX7_waterBy 7 = .ok (.iload_n 1, 1) := dk_27 (dk_at dksX7_waterBy_0 7 rfl rfl)
theorem dX7_waterBy_8 : decode cX7_waterBy 8 = .ok (.if_icmp .ge 17, 3) := dk_162 0 17 (dk_at dksX7_waterBy_0 8 rfl rfl)
theorem dX7_waterBy_11 : decode cX7_waterBy 11 = .ok (.lload_n 3, 1) := dk_33 (dk_at dksX7_waterBy_0 11 rfl rfl)
theorem dX7_waterBy_12 : decode cX7_waterBy 12 = .ok (.bipush 10, 2) := dk_16 10 (dk_at dksX7_waterBy_0 12 rfl rfl)
theorem dX7_waterBy_14 : decode cX7_waterBy 14 = .ok (.iload_n 2, 1) := dk_28 (dk_at dksX7_waterBy_0 14 rfl rfl)
theorem dX7_waterBy_15 : decode cX7_waterBy 15 = .ok (.isub, 1) := dk_100 (dk_at dksX7_waterBy_0 15 rfl rfl)
theorem dX7_waterBy_16 : decode cX7_waterBy 16 = .ok (.i2l, 1) := dk_133 (dk_at dksX7_waterBy_0 16 rfl rfl)
theorem dX7_waterBy_17 : decode cX7_waterBy 17 = .ok (.lmul, 1) := dk_105 (dk_at dksX7_waterBy_0 17 rfl rfl)
theorem dX7_waterBy_18 : decode cX7_waterBy 18 = .ok (.lstore_n 3, 1) := dk_66 (dk_at dksX7_waterBy_0 18 rfl rfl)
theorem dX7_waterBy_19 : decode cX7_waterBy 19 = .ok (.iinc 5 1, 3) := dk_132 5 1 (dk_at dksX7_waterBy_0 19 rfl rfl)
theorem dX7_waterBy_22 : decode cX7_waterBy 22 = .ok (.goto (-17), 3) := dk_167 255 239 (dk_at dksX7_waterBy_1 0 rfl rfl)
theorem dX7_waterBy_25 : decode cX7_waterBy 25 = .ok (.iconst 0, 1) := dk_3 (dk_at dksX7_waterBy_1 3 rfl rfl)
theorem dX7_waterBy_26 : decode cX7_waterBy 26 = .ok (.istore 5, 2) := dk_54 5 (dk_at dksX7_waterBy_1 4 rfl rfl)
theorem dX7_waterBy_28 : decode cX7_waterBy 28 = .ok (.iload 5, 2) := dk_21 5 (dk_at dksX7_waterBy_1 6 rfl rfl)
theorem dX7_waterBy_30 : decode cX7_waterBy 30 = .ok (.iload_n 1, 1) := dk_27 (dk_at dksX7_waterBy_1 8 rfl rfl)
theorem dX7_waterBy_31 : decode cX7_waterBy 31 = .ok (.if_icmp .ge 40, 3) := dk_162 0 40 (dk_at dksX7_waterBy_1 9 rfl rfl)
theorem dX7_waterBy_34 : decode cX7_waterBy 34 = .ok (.aload_n 0, 1) := dk_42 (dk_at dksX7_waterBy_1 12 rfl rfl)
theorem dX7_waterBy_35 : decode cX7_waterBy 35 = .ok (.getfield 102, 3) := dk_180 0 102 (dk_at dksX7_waterBy_1 13 rfl rfl)
theorem dX7_waterBy_38 : decode cX7_waterBy 38 = .ok (.iload 5, 2) := dk_21 5 (dk_at dksX7_waterBy_1 16 rfl rfl)
theorem dX7_waterBy_40 : decode cX7_waterBy 40 = .ok (.iaload, 1) := dk_46 (dk_at dksX7_waterBy_1 18 rfl rfl)
theorem dX7_waterBy_41 : decode cX7_waterBy 41 = .ok (.i2l, 1) := dk_133 (dk_at dksX7_waterBy_1 19 rfl rfl)
theorem dX7_waterBy_42 : decode cX7_waterBy 42 = .ok (.iload_n 1, 1) := dk_27 (dk_at dksX7_waterBy_1 20 rfl rfl)
theorem dX7_waterBy_43 : decode cX7_waterBy 43 = .ok (.iconst 1, 1) := dk_4 (dk_at dksX7_waterBy_1 21 rfl rfl)
theorem dX7_waterBy_44 : decode cX7_waterBy 44 = .ok (.isub, 1) := dk_100 (dk_at dksX7_waterBy_1 22 rfl rfl)
theorem dX7_waterBy_45 : decode cX7_waterBy 45 = .ok (.invokestatic 328, 3) := dk_184 1 72 (dk_at dksX7_waterBy_2 0 rfl rfl)
theorem dX7_waterBy_48 : decode cX7_waterBy 48 = .ok (.lmul, 1) := dk_105 (dk_at dksX7_waterBy_2 3 rfl rfl)
theorem dX7_waterBy_49 : decode cX7_waterBy 49 = .ok (.aload_n 0, 1) := dk_42 (dk_at dksX7_waterBy_2 4 rfl rfl)
theorem dX7_waterBy_50 : decode cX7_waterBy 50 = .ok (.getfield 105, 3) := dk_180 0 105 (dk_at dksX7_waterBy_2 5 rfl rfl)
theorem dX7_waterBy_53 : decode cX7_waterBy 53 = .ok (.iload 5, 2) := dk_21 5 (dk_at dksX7_waterBy_2 8 rfl rfl)
theorem dX7_waterBy_55 : decode cX7_waterBy 55 = .ok (.iaload, 1) := dk_46 (dk_at dksX7_waterBy_2 10 rfl rfl)
theorem dX7_waterBy_56 : decode cX7_waterBy 56 = .ok (.i2l, 1) := dk_133 (dk_at dksX7_waterBy_2 11 rfl rfl)
theorem dX7_waterBy_57 : decode cX7_waterBy 57 = .ok (.lload_n 3, 1) := dk_33 (dk_at dksX7_waterBy_2 12 rfl rfl)
theorem dX7_waterBy_58 : decode cX7_waterBy 58 = .ok (.lmul, 1) := dk_105 (dk_at dksX7_waterBy_2 13 rfl rfl)
theorem dX7_waterBy_59 : decode cX7_waterBy 59 = .ok (.lcmp, 1) := dk_148 (dk_at dksX7_waterBy_2 14 rfl rfl)
theorem dX7_waterBy_60 : decode cX7_waterBy 60 = .ok (.ifCond .le 5, 3) := dk_158 0 5 (dk_at dksX7_waterBy_2 15 rfl rfl)
theorem dX7_waterBy_63 : decode cX7_waterBy 63 = .ok (.iconst 0, 1) := dk_3 (dk_at dksX7_waterBy_2 18 rfl rfl)
theorem dX7_waterBy_64 : decode cX7_waterBy 64 = .ok (.ireturn, 1) := dk_172 (dk_at dksX7_waterBy_2 19 rfl rfl)
theorem dX7_waterBy_65 : decode cX7_waterBy 65 = .ok (.iinc 5 1, 3) := dk_132 5 1 (dk_at dksX7_waterBy_2 20 rfl rfl)
theorem dX7_waterBy_68 : decode cX7_waterBy 68 = .ok (.goto (-40), 3) := dk_167 255 216 (dk_at dksX7_waterBy_3 0 rfl rfl)
theorem dX7_waterBy_71 : decode cX7_waterBy 71 = .ok (.iconst 1, 1) := dk_4 (dk_at dksX7_waterBy_3 3 rfl rfl)
theorem dX7_waterBy_72 : decode cX7_waterBy 72 = .ok (.ireturn, 1) := dk_172 (dk_at dksX7_waterBy_3 4 rfl rfl)
abbrev cX7_gainOf : ByteArray := prog_19_method_96_code
def yX7_gainOf : MethodName := ⟨RX7, "gainOf", "(II)I"⟩
def dkwX7_gainOf_1 : List UInt8 := [154, 0, 7, 3, 167, 0, 9, 42, 180, 0, 105, 28, 46, 172]
abbrev dktX7_gainOf_1 : List UInt8 := dkwX7_gainOf_1 ++ []
def dkwX7_gainOf_0 : List UInt8 := [27, 28, 184, 0, 118, 153, 0, 17, 42, 180, 0, 105, 28, 46, 42, 180, 0, 102, 28, 46, 100, 172, 27]
abbrev dktX7_gainOf_0 : List UInt8 := dkwX7_gainOf_0 ++ dktX7_gainOf_1
theorem dksX7_gainOf_0 : cX7_gainOf.data.toList.drop 0 = dktX7_gainOf_0 := by decide +kernel
theorem dksX7_gainOf_1 : cX7_gainOf.data.toList.drop 23 = dktX7_gainOf_1 := dk_seg dksX7_gainOf_0 23 rfl rfl
theorem dX7_gainOf_0 : decode cX7_gainOf 0 = .ok (.iload_n 1, 1) := dk_27 (dk_at dksX7_gainOf_0 0 rfl rfl)
theorem dX7_gainOf_1 : decode cX7_gainOf 1 = .ok (.iload_n 2, 1) := dk_28 (dk_at dksX7_gainOf_0 1 rfl rfl)
theorem dX7_gainOf_2 : decode cX7_gainOf 2 = .ok (.invokestatic 118, 3) := dk_184 0 118 (dk_at dksX7_gainOf_0 2 rfl rfl)
theorem dX7_gainOf_5 : decode cX7_gainOf 5 = .ok (.ifCond .eq 17, 3) := dk_153 0 17 (dk_at dksX7_gainOf_0 5 rfl rfl)
theorem dX7_gainOf_8 : decode cX7_gainOf 8 = .ok (.aload_n 0, 1) := dk_42 (dk_at dksX7_gainOf_0 8 rfl rfl)
theorem dX7_gainOf_9 : decode cX7_gainOf 9 = .ok (.getfield 105, 3) := dk_180 0 105 (dk_at dksX7_gainOf_0 9 rfl rfl)
theorem dX7_gainOf_12 : decode cX7_gainOf 12 = .ok (.iload_n 2, 1) := dk_28 (dk_at dksX7_gainOf_0 12 rfl rfl)
theorem dX7_gainOf_13 : decode cX7_gainOf 13 = .ok (.iaload, 1) := dk_46 (dk_at dksX7_gainOf_0 13 rfl rfl)
theorem dX7_gainOf_14 : decode cX7_gainOf 14 = .ok (.aload_n 0, 1) := dk_42 (dk_at dksX7_gainOf_0 14 rfl rfl)
theorem dX7_gainOf_15 : decode cX7_gainOf 15 = .ok (.getfield 102, 3) := dk_180 0 102 (dk_at dksX7_gainOf_0 15 rfl rfl)
theorem dX7_gainOf_18 : decode cX7_gainOf 18 = .ok (.iload_n 2, 1) := dk_28 (dk_at dksX7_gainOf_0 18 rfl rfl)
theorem dX7_gainOf_19 : decode cX7_gainOf 19 = .ok (.iaload, 1) := dk_46 (dk_at dksX7_gainOf_0 19 rfl rfl)
theorem dX7_gainOf_20 : decode cX7_gainOf 20 = .ok (.isub, 1) := dk_100 (dk_at dksX7_gainOf_0 20 rfl rfl)
theorem dX7_gainOf_21 : decode cX7_gainOf 21 = .ok (.ireturn, 1) := dk_172 (dk_at dksX7_gainOf_0 21 rfl rfl)
theorem dX7_gainOf_22 : decode cX7_gainOf 22 = .ok (.iload_n 1, 1) := dk_27 (dk_at dksX7_gainOf_0 22 rfl rfl)
theorem dX7_gainOf_23 : decode cX7_gainOf 23 = .ok (.ifCond .ne 7, 3) := dk_154 0 7 (dk_at dksX7_gainOf_1 0 rfl rfl)
theorem dX7_gainOf_26 : decode cX7_gainOf 26 = .ok (.iconst 0, 1) := dk_3 (dk_at dksX7_gainOf_1 3 rfl rfl)
theorem dX7_gainOf_27 : decode cX7_gainOf 27 = .ok (.goto 9, 3) := dk_167 0 9 (dk_at dksX7_gainOf_1 4 rfl rfl)
theorem dX7_gainOf_30 : decode cX7_gainOf 30 = .ok (.aload_n 0, 1) := dk_42 (dk_at dksX7_gainOf_1 7 rfl rfl)
theorem dX7_gainOf_31 : decode cX7_gainOf 31 = .ok (.getfield 105, 3) := dk_180 0 105 (dk_at dksX7_gainOf_1 8 rfl rfl)
theorem dX7_gainOf_34 : decode cX7_gainOf 34 = .ok (.iload_n 2, 1) := dk_28 (dk_at dksX7_gainOf_1 11 rfl rfl)
theorem dX7_gainOf_35 : decode cX7_gainOf 35 = .ok (.iaload, 1) := dk_46 (dk_at dksX7_gainOf_1 12 rfl rfl)
theorem dX7_gainOf_36 : decode cX7_gainOf 36 = .ok (.ireturn, 1) := dk_172 (dk_at dksX7_gainOf_1 13 rfl rfl)
abbrev cX7_whoDid : ByteArray := prog_19_method_99_code
def yX7_whoDid : MethodName := ⟨RX7, "whoDid", "(IIIII)J"⟩
def dkwX7_whoDid_11 : List UInt8 := [154, 0, 7, 9, 167, 0, 6, 21, 9, 133, 173]
abbrev dktX7_whoDid_11 : List UInt8 := dkwX7_whoDid_11 ++ []
def dkwX7_whoDid_10 : List UInt8 := [154, 0, 8, 22, 6, 167, 0, 29, 21, 5, 4, 160, 0, 9, 21, 8, 133, 167, 0, 17, 22, 6, 9, 148]
abbrev dktX7_whoDid_10 : List UInt8 := dkwX7_whoDid_10 ++ dktX7_whoDid_11
def dkwX7_whoDid_9 : List UInt8 := [160, 0, 7, 21, 10, 54, 8, 21, 9, 21, 12, 128, 54, 9, 132, 10, 1, 167, 255, 126, 21, 5]
abbrev dktX7_whoDid_9 : List UInt8 := dkwX7_whoDid_9 ++ dktX7_whoDid_10
def dkwX7_whoDid_8 : List UInt8 := [132, 13, 1, 167, 255, 178, 22, 6, 21, 11, 133, 105, 55, 6, 21, 11, 154, 0, 14, 21, 8, 16, 254]
abbrev dktX7_whoDid_8 : List UInt8 := dkwX7_whoDid_8 ++ dktX7_whoDid_9
def dkwX7_whoDid_7 : List UInt8 := [17, 0, 255, 126, 159, 0, 6, 167, 0, 16, 21, 11, 4, 96, 54, 11, 21, 12, 21, 13, 126, 54, 12]
abbrev dktX7_whoDid_7 : List UInt8 := dkwX7_whoDid_7 ++ dktX7_whoDid_8
def dkwX7_whoDid_6 : List UInt8 := [29, 21, 13, 184, 0, 247, 104, 96, 21, 4, 100, 184, 1, 16, 42, 180, 0, 19, 21, 10, 4, 96, 51]
abbrev dktX7_whoDid_6 : List UInt8 := dkwX7_whoDid_6 ++ dktX7_whoDid_7
def dkwX7_whoDid_5 : List UInt8 := [162, 0, 76, 21, 13, 28, 2, 130, 126, 154, 0, 61, 3, 42, 180, 0, 19, 21, 10, 51, 17, 0, 255, 126]
abbrev dktX7_whoDid_5 : List UInt8 := dkwX7_whoDid_5 ++ dktX7_whoDid_6
def dkwX7_whoDid_4 : List UInt8 := [54, 10, 21, 10, 27, 162, 0, 130, 3, 54, 11, 28, 54, 12, 3, 54, 13, 21, 13, 17, 1, 0]
abbrev dktX7_whoDid_4 : List UInt8 := dkwX7_whoDid_4 ++ dktX7_whoDid_5
def dkwX7_whoDid_3 : List UInt8 := [164, 0, 7, 20, 1, 89, 173, 42, 3, 181, 0, 137, 10, 55, 6, 16, 254, 54, 8, 3, 54, 9, 3]
abbrev dktX7_whoDid_3 : List UInt8 := dkwX7_whoDid_3 ++ dktX7_whoDid_4
def dkwX7_whoDid_2 : List UInt8 := [184, 0, 126, 153, 0, 23, 21, 5, 3, 5, 184, 0, 126, 153, 0, 13, 27, 4, 96, 42, 180, 0, 137]
abbrev dktX7_whoDid_2 : List UInt8 := dkwX7_whoDid_2 ++ dktX7_whoDid_3
def dkwX7_whoDid_1 : List UInt8 := [184, 0, 247, 8, 163, 0, 44, 29, 4, 16, 9, 184, 0, 126, 153, 0, 34, 21, 4, 3, 16, 9]
abbrev dktX7_whoDid_1 : List UInt8 := dkwX7_whoDid_1 ++ dktX7_whoDid_2
def dkwX7_whoDid_0 : List UInt8 := [27, 4, 16, 6, 184, 0, 126, 153, 0, 63, 28, 4, 17, 0, 255, 184, 0, 126, 153, 0, 52, 28]
abbrev dktX7_whoDid_0 : List UInt8 := dkwX7_whoDid_0 ++ dktX7_whoDid_1
theorem dksX7_whoDid_0 : cX7_whoDid.data.toList.drop 0 = dktX7_whoDid_0 := by decide +kernel
theorem dksX7_whoDid_1 : cX7_whoDid.data.toList.drop 22 = dktX7_whoDid_1 := dk_seg dksX7_whoDid_0 22 rfl rfl
theorem dksX7_whoDid_2 : cX7_whoDid.data.toList.drop 44 = dktX7_whoDid_2 := dk_seg dksX7_whoDid_1 22 rfl rfl
theorem dksX7_whoDid_3 : cX7_whoDid.data.toList.drop 67 = dktX7_whoDid_3 := dk_seg dksX7_whoDid_2 23 rfl rfl
theorem dksX7_whoDid_4 : cX7_whoDid.data.toList.drop 90 = dktX7_whoDid_4 := dk_seg dksX7_whoDid_3 23 rfl rfl
theorem dksX7_whoDid_5 : cX7_whoDid.data.toList.drop 112 = dktX7_whoDid_5 := dk_seg dksX7_whoDid_4 22 rfl rfl
theorem dksX7_whoDid_6 : cX7_whoDid.data.toList.drop 136 = dktX7_whoDid_6 := dk_seg dksX7_whoDid_5 24 rfl rfl
theorem dksX7_whoDid_7 : cX7_whoDid.data.toList.drop 159 = dktX7_whoDid_7 := dk_seg dksX7_whoDid_6 23 rfl rfl
theorem dksX7_whoDid_8 : cX7_whoDid.data.toList.drop 182 = dktX7_whoDid_8 := dk_seg dksX7_whoDid_7 23 rfl rfl
theorem dksX7_whoDid_9 : cX7_whoDid.data.toList.drop 205 = dktX7_whoDid_9 := dk_seg dksX7_whoDid_8 23 rfl rfl
theorem dksX7_whoDid_10 : cX7_whoDid.data.toList.drop 227 = dktX7_whoDid_10 := dk_seg dksX7_whoDid_9 22 rfl rfl
theorem dksX7_whoDid_11 : cX7_whoDid.data.toList.drop 251 = dktX7_whoDid_11 := dk_seg dksX7_whoDid_10 24 rfl rfl
theorem dX7_whoDid_0 : decode cX7_whoDid 0 = .ok (.iload_n 1, 1) := dk_27 (dk_at dksX7_whoDid_0 0 rfl rfl)
theorem dX7_whoDid_1 : decode cX7_whoDid 1 = .ok (.iconst 1, 1) := dk_4 (dk_at dksX7_whoDid_0 1 rfl rfl)
theorem dX7_whoDid_2 : decode cX7_whoDid 2 = .ok (.bipush 6, 2) := dk_16 6 (dk_at dksX7_whoDid_0 2 rfl rfl)
theorem dX7_whoDid_4 : decode cX7_whoDid 4 = .ok (.invokestatic 126, 3) := dk_184 0 126 (dk_at dksX7_whoDid_0 4 rfl rfl)
theorem dX7_whoDid_7 : decode cX7_whoDid 7 = .ok (.ifCond .eq 63, 3) := dk_153 0 63 (dk_at dksX7_whoDid_0 7 rfl rfl)
theorem dX7_whoDid_10 : decode cX7_whoDid 10 = .ok (.iload_n 2, 1) := dk_28 (dk_at dksX7_whoDid_0 10 rfl rfl)
theorem dX7_whoDid_11 : decode cX7_whoDid 11 = .ok (.iconst 1, 1) := dk_4 (dk_at dksX7_whoDid_0 11 rfl rfl)
theorem dX7_whoDid_12 : decode cX7_whoDid 12 = .ok (.sipush 255, 3) := dk_17 0 255 (dk_at dksX7_whoDid_0 12 rfl rfl)
theorem dX7_whoDid_15 : decode cX7_whoDid 15 = .ok (.invokestatic 126, 3) := dk_184 0 126 (dk_at dksX7_whoDid_0 15 rfl rfl)
theorem dX7_whoDid_18 : decode cX7_whoDid 18 = .ok (.ifCond .eq 52, 3) := dk_153 0 52 (dk_at dksX7_whoDid_0 18 rfl rfl)
theorem dX7_whoDid_21 : decode cX7_whoDid 21 = .ok (.iload_n 2, 1) := dk_28 (dk_at dksX7_whoDid_0 21 rfl rfl)
theorem dX7_whoDid_22 : decode cX7_whoDid 22 = .ok (.invokestatic 247, 3) := dk_184 0 247 (dk_at dksX7_whoDid_1 0 rfl rfl)
theorem dX7_whoDid_25 : decode cX7_whoDid 25 = .ok (.iconst 5, 1) := dk_8 (dk_at dksX7_whoDid_1 3 rfl rfl)
theorem dX7_whoDid_26 : decode cX7_whoDid 26 = .ok (.if_icmp .gt 44, 3) := dk_163 0 44 (dk_at dksX7_whoDid_1 4 rfl rfl)
theorem dX7_whoDid_29 : decode cX7_whoDid 29 = .ok (.iload_n 3, 1) := dk_29 (dk_at dksX7_whoDid_1 7 rfl rfl)
theorem dX7_whoDid_30 : decode cX7_whoDid 30 = .ok (.iconst 1, 1) := dk_4 (dk_at dksX7_whoDid_1 8 rfl rfl)
theorem dX7_whoDid_31 : decode cX7_whoDid 31 = .ok (.bipush 9, 2) := dk_16 9 (dk_at dksX7_whoDid_1 9 rfl rfl)
theorem dX7_whoDid_33 : decode cX7_whoDid 33 = .ok (.invokestatic 126, 3) := dk_184 0 126 (dk_at dksX7_whoDid_1 11 rfl rfl)
theorem dX7_whoDid_36 : decode cX7_whoDid 36 = .ok (.ifCond .eq 34, 3) := dk_153 0 34 (dk_at dksX7_whoDid_1 14 rfl rfl)
theorem dX7_whoDid_39 : decode cX7_whoDid 39 = .ok (.iload 4, 2) := dk_21 4 (dk_at dksX7_whoDid_1 17 rfl rfl)
theorem dX7_whoDid_41 : decode cX7_whoDid 41 = .ok (.iconst 0, 1) := dk_3 (dk_at dksX7_whoDid_1 19 rfl rfl)
theorem dX7_whoDid_42 : decode cX7_whoDid 42 = .ok (.bipush 9, 2) := dk_16 9 (dk_at dksX7_whoDid_1 20 rfl rfl)
theorem dX7_whoDid_44 : decode cX7_whoDid 44 = .ok (.invokestatic 126, 3) := dk_184 0 126 (dk_at dksX7_whoDid_2 0 rfl rfl)
theorem dX7_whoDid_47 : decode cX7_whoDid 47 = .ok (.ifCond .eq 23, 3) := dk_153 0 23 (dk_at dksX7_whoDid_2 3 rfl rfl)
theorem dX7_whoDid_50 : decode cX7_whoDid 50 = .ok (.iload 5, 2) := dk_21 5 (dk_at dksX7_whoDid_2 6 rfl rfl)
theorem dX7_whoDid_52 : decode cX7_whoDid 52 = .ok (.iconst 0, 1) := dk_3 (dk_at dksX7_whoDid_2 8 rfl rfl)
theorem dX7_whoDid_53 : decode cX7_whoDid 53 = .ok (.iconst 2, 1) := dk_5 (dk_at dksX7_whoDid_2 9 rfl rfl)
theorem dX7_whoDid_54 : decode cX7_whoDid 54 = .ok (.invokestatic 126, 3) := dk_184 0 126 (dk_at dksX7_whoDid_2 10 rfl rfl)
theorem dX7_whoDid_57 : decode cX7_whoDid 57 = .ok (.ifCond .eq 13, 3) := dk_153 0 13 (dk_at dksX7_whoDid_2 13 rfl rfl)
theorem dX7_whoDid_60 : decode cX7_whoDid 60 = .ok (.iload_n 1, 1) := dk_27 (dk_at dksX7_whoDid_2 16 rfl rfl)
theorem dX7_whoDid_61 : decode cX7_whoDid 61 = .ok (.iconst 1, 1) := dk_4 (dk_at dksX7_whoDid_2 17 rfl rfl)
theorem dX7_whoDid_62 : decode cX7_whoDid 62 = .ok (.iadd, 1) := dk_96 (dk_at dksX7_whoDid_2 18 rfl rfl)
theorem dX7_whoDid_63 : decode cX7_whoDid 63 = .ok (.aload_n 0, 1) := dk_42 (dk_at dksX7_whoDid_2 19 rfl rfl)
theorem dX7_whoDid_64 : decode cX7_whoDid 64 = .ok (.getfield 137, 3) := dk_180 0 137 (dk_at dksX7_whoDid_2 20 rfl rfl)
theorem dX7_whoDid_67 : decode cX7_whoDid 67 = .ok (.if_icmp .le 7, 3) := dk_164 0 7 (dk_at dksX7_whoDid_3 0 rfl rfl)
theorem dX7_whoDid_70 : decode cX7_whoDid 70 = .ok (.ldc2_w 345, 3) := dk_20 1 89 (dk_at dksX7_whoDid_3 3 rfl rfl)
theorem dX7_whoDid_73 : decode cX7_whoDid 73 = .ok (.lreturn, 1) := dk_173 (dk_at dksX7_whoDid_3 6 rfl rfl)
theorem dX7_whoDid_74 : decode cX7_whoDid 74 = .ok (.aload_n 0, 1) := dk_42 (dk_at dksX7_whoDid_3 7 rfl rfl)
theorem dX7_whoDid_75 : decode cX7_whoDid 75 = .ok (.iconst 0, 1) := dk_3 (dk_at dksX7_whoDid_3 8 rfl rfl)
theorem dX7_whoDid_76 : decode cX7_whoDid 76 = .ok (.putfield 137, 3) := dk_181 0 137 (dk_at dksX7_whoDid_3 9 rfl rfl)
theorem dX7_whoDid_79 : decode cX7_whoDid 79 = .ok (.lconst 1, 1) := dk_10 (dk_at dksX7_whoDid_3 12 rfl rfl)
theorem dX7_whoDid_80 : decode cX7_whoDid 80 = .ok (.lstore 6, 2) := dk_55 6 (dk_at dksX7_whoDid_3 13 rfl rfl)
theorem dX7_whoDid_82 : decode cX7_whoDid 82 = .ok (.bipush (-2), 2) := dk_16 254 (dk_at dksX7_whoDid_3 15 rfl rfl)
theorem dX7_whoDid_84 : decode cX7_whoDid 84 = .ok (.istore 8, 2) := dk_54 8 (dk_at dksX7_whoDid_3 17 rfl rfl)
theorem dX7_whoDid_86 : decode cX7_whoDid 86 = .ok (.iconst 0, 1) := dk_3 (dk_at dksX7_whoDid_3 19 rfl rfl)
theorem dX7_whoDid_87 : decode cX7_whoDid 87 = .ok (.istore 9, 2) := dk_54 9 (dk_at dksX7_whoDid_3 20 rfl rfl)
theorem dX7_whoDid_89 : decode cX7_whoDid 89 = .ok (.iconst 0, 1) := dk_3 (dk_at dksX7_whoDid_3 22 rfl rfl)
theorem dX7_whoDid_90 : decode cX7_whoDid 90 = .ok (.istore 10, 2) := dk_54 10 (dk_at dksX7_whoDid_4 0 rfl rfl)
theorem dX7_whoDid_92 : decode cX7_whoDid 92 = .ok (.iload 10, 2) := dk_21 10 (dk_at dksX7_whoDid_4 2 rfl rfl)
theorem dX7_whoDid_94 : decode cX7_whoDid 94 = .ok (.iload_n 1, 1) := dk_27 (dk_at dksX7_whoDid_4 4 rfl rfl)
theorem dX7_whoDid_95 : decode cX7_whoDid 95 = .ok (.if_icmp .ge 130, 3) := dk_162 0 130 (dk_at dksX7_whoDid_4 5 rfl rfl)
theorem dX7_whoDid_98 : decode cX7_whoDid 98 = .ok (.iconst 0, 1) := dk_3 (dk_at dksX7_whoDid_4 8 rfl rfl)
theorem dX7_whoDid_99 : decode cX7_whoDid 99 = .ok (.istore 11, 2) := dk_54 11 (dk_at dksX7_whoDid_4 9 rfl rfl)
theorem dX7_whoDid_101 : decode cX7_whoDid 101 = .ok (.iload_n 2, 1) := dk_28 (dk_at dksX7_whoDid_4 11 rfl rfl)
theorem dX7_whoDid_102 : decode cX7_whoDid 102 = .ok (.istore 12, 2) := dk_54 12 (dk_at dksX7_whoDid_4 12 rfl rfl)
theorem dX7_whoDid_104 : decode cX7_whoDid 104 = .ok (.iconst 0, 1) := dk_3 (dk_at dksX7_whoDid_4 14 rfl rfl)
theorem dX7_whoDid_105 : decode cX7_whoDid 105 = .ok (.istore 13, 2) := dk_54 13 (dk_at dksX7_whoDid_4 15 rfl rfl)
theorem dX7_whoDid_107 : decode cX7_whoDid 107 = .ok (.iload 13, 2) := dk_21 13 (dk_at dksX7_whoDid_4 17 rfl rfl)
theorem dX7_whoDid_109 : decode cX7_whoDid 109 = .ok (.sipush 256, 3) := dk_17 1 0 (dk_at dksX7_whoDid_4 19 rfl rfl)
theorem dX7_whoDid_112 : decode cX7_whoDid 112 = .ok (.if_icmp .ge 76, 3) := dk_162 0 76 (dk_at dksX7_whoDid_5 0 rfl rfl)
theorem dX7_whoDid_115 : decode cX7_whoDid 115 = .ok (.iload 13, 2) := dk_21 13 (dk_at dksX7_whoDid_5 3 rfl rfl)
theorem dX7_whoDid_117 : decode cX7_whoDid 117 = .ok (.iload_n 2, 1) := dk_28 (dk_at dksX7_whoDid_5 5 rfl rfl)
theorem dX7_whoDid_118 : decode cX7_whoDid 118 = .ok (.iconst (-1), 1) := dk_2 (dk_at dksX7_whoDid_5 6 rfl rfl)
theorem dX7_whoDid_119 : decode cX7_whoDid 119 = .ok (.ixor, 1) := dk_130 (dk_at dksX7_whoDid_5 7 rfl rfl)
theorem dX7_whoDid_120 : decode cX7_whoDid 120 = .ok (.iand, 1) := dk_126 (dk_at dksX7_whoDid_5 8 rfl rfl)
theorem dX7_whoDid_121 : decode cX7_whoDid 121 = .ok (.ifCond .ne 61, 3) := dk_154 0 61 (dk_at dksX7_whoDid_5 9 rfl rfl)
theorem dX7_whoDid_124 : decode cX7_whoDid 124 = .ok (.iconst 0, 1) := dk_3 (dk_at dksX7_whoDid_5 12 rfl rfl)
theorem dX7_whoDid_125 : decode cX7_whoDid 125 = .ok (.aload_n 0, 1) := dk_42 (dk_at dksX7_whoDid_5 13 rfl rfl)
theorem dX7_whoDid_126 : decode cX7_whoDid 126 = .ok (.getfield 19, 3) := dk_180 0 19 (dk_at dksX7_whoDid_5 14 rfl rfl)
theorem dX7_whoDid_129 : decode cX7_whoDid 129 = .ok (.iload 10, 2) := dk_21 10 (dk_at dksX7_whoDid_5 17 rfl rfl)
theorem dX7_whoDid_131 : decode cX7_whoDid 131 = .ok (.baload, 1) := dk_51 (dk_at dksX7_whoDid_5 19 rfl rfl)
theorem dX7_whoDid_132 : decode cX7_whoDid 132 = .ok (.sipush 255, 3) := dk_17 0 255 (dk_at dksX7_whoDid_5 20 rfl rfl)
theorem dX7_whoDid_135 : decode cX7_whoDid 135 = .ok (.iand, 1) := dk_126 (dk_at dksX7_whoDid_5 23 rfl rfl)
theorem dX7_whoDid_136 : decode cX7_whoDid 136 = .ok (.iload_n 3, 1) := dk_29 (dk_at dksX7_whoDid_6 0 rfl rfl)
theorem dX7_whoDid_137 : decode cX7_whoDid 137 = .ok (.iload 13, 2) := dk_21 13 (dk_at dksX7_whoDid_6 1 rfl rfl)
theorem dX7_whoDid_139 : decode cX7_whoDid 139 = .ok (.invokestatic 247, 3) := dk_184 0 247 (dk_at dksX7_whoDid_6 3 rfl rfl)
theorem dX7_whoDid_142 : decode cX7_whoDid 142 = .ok (.imul, 1) := dk_104 (dk_at dksX7_whoDid_6 6 rfl rfl)
theorem dX7_whoDid_143 : decode cX7_whoDid 143 = .ok (.iadd, 1) := dk_96 (dk_at dksX7_whoDid_6 7 rfl rfl)
theorem dX7_whoDid_144 : decode cX7_whoDid 144 = .ok (.iload 4, 2) := dk_21 4 (dk_at dksX7_whoDid_6 8 rfl rfl)
theorem dX7_whoDid_146 : decode cX7_whoDid 146 = .ok (.isub, 1) := dk_100 (dk_at dksX7_whoDid_6 10 rfl rfl)
theorem dX7_whoDid_147 : decode cX7_whoDid 147 = .ok (.invokestatic 272, 3) := dk_184 1 16 (dk_at dksX7_whoDid_6 11 rfl rfl)
theorem dX7_whoDid_150 : decode cX7_whoDid 150 = .ok (.aload_n 0, 1) := dk_42 (dk_at dksX7_whoDid_6 14 rfl rfl)
theorem dX7_whoDid_151 : decode cX7_whoDid 151 = .ok (.getfield 19, 3) := dk_180 0 19 (dk_at dksX7_whoDid_6 15 rfl rfl)
theorem dX7_whoDid_154 : decode cX7_whoDid 154 = .ok (.iload 10, 2) := dk_21 10 (dk_at dksX7_whoDid_6 18 rfl rfl)
theorem dX7_whoDid_156 : decode cX7_whoDid 156 = .ok (.iconst 1, 1) := dk_4 (dk_at dksX7_whoDid_6 20 rfl rfl)
theorem dX7_whoDid_157 : decode cX7_whoDid 157 = .ok (.iadd, 1) := dk_96 (dk_at dksX7_whoDid_6 21 rfl rfl)
theorem dX7_whoDid_158 : decode cX7_whoDid 158 = .ok (.baload, 1) := dk_51 (dk_at dksX7_whoDid_6 22 rfl rfl)
theorem dX7_whoDid_159 : decode cX7_whoDid 159 = .ok (.sipush 255, 3) := dk_17 0 255 (dk_at dksX7_whoDid_7 0 rfl rfl)
theorem dX7_whoDid_162 : decode cX7_whoDid 162 = .ok (.iand, 1) := dk_126 (dk_at dksX7_whoDid_7 3 rfl rfl)
theorem dX7_whoDid_163 : decode cX7_whoDid 163 = .ok (.if_icmp .eq 6, 3) := dk_159 0 6 (dk_at dksX7_whoDid_7 4 rfl rfl)
theorem dX7_whoDid_166 : decode cX7_whoDid 166 = .ok (.goto 16, 3) := dk_167 0 16 (dk_at dksX7_whoDid_7 7 rfl rfl)
theorem dX7_whoDid_169 : decode cX7_whoDid 169 = .ok (.iload 11, 2) := dk_21 11 (dk_at dksX7_whoDid_7 10 rfl rfl)
theorem dX7_whoDid_171 : decode cX7_whoDid 171 = .ok (.iconst 1, 1) := dk_4 (dk_at dksX7_whoDid_7 12 rfl rfl)
theorem dX7_whoDid_172 : decode cX7_whoDid 172 = .ok (.iadd, 1) := dk_96 (dk_at dksX7_whoDid_7 13 rfl rfl)
theorem dX7_whoDid_173 : decode cX7_whoDid 173 = .ok (.istore 11, 2) := dk_54 11 (dk_at dksX7_whoDid_7 14 rfl rfl)
theorem dX7_whoDid_175 : decode cX7_whoDid 175 = .ok (.iload 12, 2) := dk_21 12 (dk_at dksX7_whoDid_7 16 rfl rfl)
theorem dX7_whoDid_177 : decode cX7_whoDid 177 = .ok (.iload 13, 2) := dk_21 13 (dk_at dksX7_whoDid_7 18 rfl rfl)
theorem dX7_whoDid_179 : decode cX7_whoDid 179 = .ok (.iand, 1) := dk_126 (dk_at dksX7_whoDid_7 20 rfl rfl)
theorem dX7_whoDid_180 : decode cX7_whoDid 180 = .ok (.istore 12, 2) := dk_54 12 (dk_at dksX7_whoDid_7 21 rfl rfl)
theorem dX7_whoDid_182 : decode cX7_whoDid 182 = .ok (.iinc 13 1, 3) := dk_132 13 1 (dk_at dksX7_whoDid_8 0 rfl rfl)
theorem dX7_whoDid_185 : decode cX7_whoDid 185 = .ok (.goto (-78), 3) := dk_167 255 178 (dk_at dksX7_whoDid_8 3 rfl rfl)
theorem dX7_whoDid_188 : decode cX7_whoDid 188 = .ok (.lload 6, 2) := dk_22 6 (dk_at dksX7_whoDid_8 6 rfl rfl)
theorem dX7_whoDid_190 : decode cX7_whoDid 190 = .ok (.iload 11, 2) := dk_21 11 (dk_at dksX7_whoDid_8 8 rfl rfl)
theorem dX7_whoDid_192 : decode cX7_whoDid 192 = .ok (.i2l, 1) := dk_133 (dk_at dksX7_whoDid_8 10 rfl rfl)
theorem dX7_whoDid_193 : decode cX7_whoDid 193 = .ok (.lmul, 1) := dk_105 (dk_at dksX7_whoDid_8 11 rfl rfl)
theorem dX7_whoDid_194 : decode cX7_whoDid 194 = .ok (.lstore 6, 2) := dk_55 6 (dk_at dksX7_whoDid_8 12 rfl rfl)
theorem dX7_whoDid_196 : decode cX7_whoDid 196 = .ok (.iload 11, 2) := dk_21 11 (dk_at dksX7_whoDid_8 14 rfl rfl)
theorem dX7_whoDid_198 : decode cX7_whoDid 198 = .ok (.ifCond .ne 14, 3) := dk_154 0 14 (dk_at dksX7_whoDid_8 16 rfl rfl)
theorem dX7_whoDid_201 : decode cX7_whoDid 201 = .ok (.iload 8, 2) := dk_21 8 (dk_at dksX7_whoDid_8 19 rfl rfl)
theorem dX7_whoDid_203 : decode cX7_whoDid 203 = .ok (.bipush (-2), 2) := dk_16 254 (dk_at dksX7_whoDid_8 21 rfl rfl)
theorem dX7_whoDid_205 : decode cX7_whoDid 205 = .ok (.if_icmp .ne 7, 3) := dk_160 0 7 (dk_at dksX7_whoDid_9 0 rfl rfl)
theorem dX7_whoDid_208 : decode cX7_whoDid 208 = .ok (.iload 10, 2) := dk_21 10 (dk_at dksX7_whoDid_9 3 rfl rfl)
theorem dX7_whoDid_210 : decode cX7_whoDid 210 = .ok (.istore 8, 2) := dk_54 8 (dk_at dksX7_whoDid_9 5 rfl rfl)
theorem dX7_whoDid_212 : decode cX7_whoDid 212 = .ok (.iload 9, 2) := dk_21 9 (dk_at dksX7_whoDid_9 7 rfl rfl)
theorem dX7_whoDid_214 : decode cX7_whoDid 214 = .ok (.iload 12, 2) := dk_21 12 (dk_at dksX7_whoDid_9 9 rfl rfl)
theorem dX7_whoDid_216 : decode cX7_whoDid 216 = .ok (.ior, 1) := dk_128 (dk_at dksX7_whoDid_9 11 rfl rfl)
theorem dX7_whoDid_217 : decode cX7_whoDid 217 = .ok (.istore 9, 2) := dk_54 9 (dk_at dksX7_whoDid_9 12 rfl rfl)
theorem dX7_whoDid_219 : decode cX7_whoDid 219 = .ok (.iinc 10 1, 3) := dk_132 10 1 (dk_at dksX7_whoDid_9 14 rfl rfl)
theorem dX7_whoDid_222 : decode cX7_whoDid 222 = .ok (.goto (-130), 3) := dk_167 255 126 (dk_at dksX7_whoDid_9 17 rfl rfl)
theorem dX7_whoDid_225 : decode cX7_whoDid 225 = .ok (.iload 5, 2) := dk_21 5 (dk_at dksX7_whoDid_9 20 rfl rfl)
theorem dX7_whoDid_227 : decode cX7_whoDid 227 = .ok (.ifCond .ne 8, 3) := dk_154 0 8 (dk_at dksX7_whoDid_10 0 rfl rfl)
theorem dX7_whoDid_230 : decode cX7_whoDid 230 = .ok (.lload 6, 2) := dk_22 6 (dk_at dksX7_whoDid_10 3 rfl rfl)
theorem dX7_whoDid_232 : decode cX7_whoDid 232 = .ok (.goto 29, 3) := dk_167 0 29 (dk_at dksX7_whoDid_10 5 rfl rfl)
theorem dX7_whoDid_235 : decode cX7_whoDid 235 = .ok (.iload 5, 2) := dk_21 5 (dk_at dksX7_whoDid_10 8 rfl rfl)
theorem dX7_whoDid_237 : decode cX7_whoDid 237 = .ok (.iconst 1, 1) := dk_4 (dk_at dksX7_whoDid_10 10 rfl rfl)
theorem dX7_whoDid_238 : decode cX7_whoDid 238 = .ok (.if_icmp .ne 9, 3) := dk_160 0 9 (dk_at dksX7_whoDid_10 11 rfl rfl)
theorem dX7_whoDid_241 : decode cX7_whoDid 241 = .ok (.iload 8, 2) := dk_21 8 (dk_at dksX7_whoDid_10 14 rfl rfl)
theorem dX7_whoDid_243 : decode cX7_whoDid 243 = .ok (.i2l, 1) := dk_133 (dk_at dksX7_whoDid_10 16 rfl rfl)
theorem dX7_whoDid_244 : decode cX7_whoDid 244 = .ok (.goto 17, 3) := dk_167 0 17 (dk_at dksX7_whoDid_10 17 rfl rfl)
theorem dX7_whoDid_247 : decode cX7_whoDid 247 = .ok (.lload 6, 2) := dk_22 6 (dk_at dksX7_whoDid_10 20 rfl rfl)
theorem dX7_whoDid_249 : decode cX7_whoDid 249 = .ok (.lconst 0, 1) := dk_9 (dk_at dksX7_whoDid_10 22 rfl rfl)
theorem dX7_whoDid_250 : decode cX7_whoDid 250 = .ok (.lcmp, 1) := dk_148 (dk_at dksX7_whoDid_10 23 rfl rfl)
theorem dX7_whoDid_251 : decode cX7_whoDid 251 = .ok (.ifCond .ne 7, 3) := dk_154 0 7 (dk_at dksX7_whoDid_11 0 rfl rfl)
theorem dX7_whoDid_254 : decode cX7_whoDid 254 = .ok (.lconst 0, 1) := dk_9 (dk_at dksX7_whoDid_11 3 rfl rfl)
theorem dX7_whoDid_255 : decode cX7_whoDid 255 = .ok (.goto 6, 3) := dk_167 0 6 (dk_at dksX7_whoDid_11 4 rfl rfl)
theorem dX7_whoDid_258 : decode cX7_whoDid 258 = .ok (.iload 9, 2) := dk_21 9 (dk_at dksX7_whoDid_11 7 rfl rfl)
theorem dX7_whoDid_260 : decode cX7_whoDid 260 = .ok (.i2l, 1) := dk_133 (dk_at dksX7_whoDid_11 9 rfl rfl)
theorem dX7_whoDid_261 : decode cX7_whoDid 261 = .ok (.lreturn, 1) := dk_173 (dk_at dksX7_whoDid_11 10 rfl rfl)
abbrev cX7_can : ByteArray := prog_19_method_100_code
def yX7_can : MethodName := ⟨RX7, "can", "(IIII)J"⟩
def dkwX7_can_5 : List UInt8 := [132, 7, 1, 167, 255, 215, 22, 5, 27, 184, 1, 72, 21, 4, 184, 1, 126, 173]
abbrev dktX7_can_5 : List UInt8 := dkwX7_can_5 ++ []
def dkwX7_can_4 : List UInt8 := [3, 28, 21, 7, 104, 29, 100, 184, 1, 16, 3, 28, 29, 100, 184, 1, 16, 100, 133, 105, 97, 55, 5]
abbrev dktX7_can_4 : List UInt8 := dkwX7_can_4 ++ dktX7_can_5
def dkwX7_can_3 : List UInt8 := [182, 1, 123, 9, 55, 5, 4, 54, 7, 21, 7, 27, 163, 0, 41, 22, 5, 42, 180, 0, 96, 21, 7, 47]
abbrev dktX7_can_3 : List UInt8 := dkwX7_can_3 ++ dktX7_can_4
def dkwX7_can_2 : List UInt8 := [20, 1, 89, 173, 42, 3, 181, 0, 137, 42, 27, 182, 1, 118, 154, 0, 7, 20, 1, 121, 173, 42, 27]
abbrev dktX7_can_2 : List UInt8 := dkwX7_can_2 ++ dktX7_can_3
def dkwX7_can_1 : List UInt8 := [184, 0, 126, 153, 0, 21, 21, 4, 3, 4, 184, 0, 126, 153, 0, 11, 27, 42, 180, 0, 137, 164, 0, 7]
abbrev dktX7_can_1 : List UInt8 := dkwX7_can_1 ++ dktX7_can_2
def dkwX7_can_0 : List UInt8 := [27, 4, 16, 6, 184, 0, 126, 153, 0, 41, 28, 4, 16, 9, 184, 0, 126, 153, 0, 31, 29, 3, 16, 60]
abbrev dktX7_can_0 : List UInt8 := dkwX7_can_0 ++ dktX7_can_1
theorem dksX7_can_0 : cX7_can.data.toList.drop 0 = dktX7_can_0 := by decide +kernel
theorem dksX7_can_1 : cX7_can.data.toList.drop 24 = dktX7_can_1 := dk_seg dksX7_can_0 24 rfl rfl
theorem dksX7_can_2 : cX7_can.data.toList.drop 48 = dktX7_can_2 := dk_seg dksX7_can_1 24 rfl rfl
theorem dksX7_can_3 : cX7_can.data.toList.drop 71 = dktX7_can_3 := dk_seg dksX7_can_2 23 rfl rfl
theorem dksX7_can_4 : cX7_can.data.toList.drop 95 = dktX7_can_4 := dk_seg dksX7_can_3 24 rfl rfl
theorem dksX7_can_5 : cX7_can.data.toList.drop 118 = dktX7_can_5 := dk_seg dksX7_can_4 23 rfl rfl
theorem dX7_can_0 : decode cX7_can 0 = .ok (.iload_n 1, 1) := dk_27 (dk_at dksX7_can_0 0 rfl rfl)
theorem dX7_can_1 : decode cX7_can 1 = .ok (.iconst 1, 1) := dk_4 (dk_at dksX7_can_0 1 rfl rfl)
theorem dX7_can_2 : decode cX7_can 2 = .ok (.bipush 6, 2) := dk_16 6 (dk_at dksX7_can_0 2 rfl rfl)
theorem dX7_can_4 : decode cX7_can 4 = .ok (.invokestatic 126, 3) := dk_184 0 126 (dk_at dksX7_can_0 4 rfl rfl)
theorem dX7_can_7 : decode cX7_can 7 = .ok (.ifCond .eq 41, 3) := dk_153 0 41 (dk_at dksX7_can_0 7 rfl rfl)
theorem dX7_can_10 : decode cX7_can 10 = .ok (.iload_n 2, 1) := dk_28 (dk_at dksX7_can_0 10 rfl rfl)
theorem dX7_can_11 : decode cX7_can 11 = .ok (.iconst 1, 1) := dk_4 (dk_at dksX7_can_0 11 rfl rfl)
theorem dX7_can_12 : decode cX7_can 12 = .ok (.bipush 9, 2) := dk_16 9 (dk_at dksX7_can_0 12 rfl rfl)
theorem dX7_can_14 : decode cX7_can 14 = .ok (.invokestatic 126, 3) := dk_184 0 126 (dk_at dksX7_can_0 14 rfl rfl)
theorem dX7_can_17 : decode cX7_can 17 = .ok (.ifCond .eq 31, 3) := dk_153 0 31 (dk_at dksX7_can_0 17 rfl rfl)
theorem dX7_can_20 : decode cX7_can 20 = .ok (.iload_n 3, 1) := dk_29 (dk_at dksX7_can_0 20 rfl rfl)
theorem dX7_can_21 : decode cX7_can 21 = .ok (.iconst 0, 1) := dk_3 (dk_at dksX7_can_0 21 rfl rfl)
theorem dX7_can_22 : decode cX7_can 22 = .ok (.bipush 60, 2) := dk_16 60 (dk_at dksX7_can_0 22 rfl rfl)
theorem dX7_can_24 : decode cX7_can 24 = .ok (.invokestatic 126, 3) := dk_184 0 126 (dk_at dksX7_can_1 0 rfl rfl)
theorem dX7_can_27 : decode cX7_can 27 = .ok (.ifCond .eq 21, 3) := dk_153 0 21 (dk_at dksX7_can_1 3 rfl rfl)
theorem dX7_can_30 : decode cX7_can 30 = .ok (.iload 4, 2) := dk_21 4 (dk_at dksX7_can_1 6 rfl rfl)
theorem dX7_can_32 : decode cX7_can 32 = .ok (.iconst 0, 1) := dk_3 (dk_at dksX7_can_1 8 rfl rfl)
theorem dX7_can_33 : decode cX7_can 33 = .ok (.iconst 1, 1) := dk_4 (dk_at dksX7_can_1 9 rfl rfl)
theorem dX7_can_34 : decode cX7_can 34 = .ok (.invokestatic 126, 3) := dk_184 0 126 (dk_at dksX7_can_1 10 rfl rfl)
theorem dX7_can_37 : decode cX7_can 37 = .ok (.ifCond .eq 11, 3) := dk_153 0 11 (dk_at dksX7_can_1 13 rfl rfl)
theorem dX7_can_40 : decode cX7_can 40 = .ok (.iload_n 1, 1) := dk_27 (dk_at dksX7_can_1 16 rfl rfl)
theorem dX7_can_41 : decode cX7_can 41 = .ok (.aload_n 0, 1) := dk_42 (dk_at dksX7_can_1 17 rfl rfl)
theorem dX7_can_42 : decode cX7_can 42 = .ok (.getfield 137, 3) := dk_180 0 137 (dk_at dksX7_can_1 18 rfl rfl)
theorem dX7_can_45 : decode cX7_can 45 = .ok (.if_icmp .le 7, 3) := dk_164 0 7 (dk_at dksX7_can_1 21 rfl rfl)
theorem dX7_can_48 : decode cX7_can 48 = .ok (.ldc2_w 345, 3) := dk_20 1 89 (dk_at dksX7_can_2 0 rfl rfl)
theorem dX7_can_51 : decode cX7_can 51 = .ok (.lreturn, 1) := dk_173 (dk_at dksX7_can_2 3 rfl rfl)
theorem dX7_can_52 : decode cX7_can 52 = .ok (.aload_n 0, 1) := dk_42 (dk_at dksX7_can_2 4 rfl rfl)
theorem dX7_can_53 : decode cX7_can 53 = .ok (.iconst 0, 1) := dk_3 (dk_at dksX7_can_2 5 rfl rfl)
theorem dX7_can_54 : decode cX7_can 54 = .ok (.putfield 137, 3) := dk_181 0 137 (dk_at dksX7_can_2 6 rfl rfl)
theorem dX7_can_57 : decode cX7_can 57 = .ok (.aload_n 0, 1) := dk_42 (dk_at dksX7_can_2 9 rfl rfl)
theorem dX7_can_58 : decode cX7_can 58 = .ok (.iload_n 1, 1) := dk_27 (dk_at dksX7_can_2 10 rfl rfl)
theorem dX7_can_59 : decode cX7_can 59 = .ok (.invokevirtual 374, 3) := dk_182 1 118 (dk_at dksX7_can_2 11 rfl rfl)
theorem dX7_can_62 : decode cX7_can 62 = .ok (.ifCond .ne 7, 3) := dk_154 0 7 (dk_at dksX7_can_2 14 rfl rfl)
theorem dX7_can_65 : decode cX7_can 65 = .ok (.ldc2_w 377, 3) := dk_20 1 121 (dk_at dksX7_can_2 17 rfl rfl)
theorem dX7_can_68 : decode cX7_can 68 = .ok (.lreturn, 1) := dk_173 (dk_at dksX7_can_2 20 rfl rfl)
theorem dX7_can_69 : decode cX7_can 69 = .ok (.aload_n 0, 1) := dk_42 (dk_at dksX7_can_2 21 rfl rfl)
theorem dX7_can_70 : decode cX7_can 70 = .ok (.iload_n 1, 1) := dk_27 (dk_at dksX7_can_2 22 rfl rfl)
theorem dX7_can_71 : decode cX7_can 71 = .ok (.invokevirtual 379, 3) := dk_182 1 123 (dk_at dksX7_can_3 0 rfl rfl)
theorem dX7_can_74 : decode cX7_can 74 = .ok (.lconst 0, 1) := dk_9 (dk_at dksX7_can_3 3 rfl rfl)
theorem dX7_can_75 : decode cX7_can 75 = .ok (.lstore 5, 2) := dk_55 5 (dk_at dksX7_can_3 4 rfl rfl)
theorem dX7_can_77 : decode cX7_can 77 = .ok (.iconst 1, 1) := dk_4 (dk_at dksX7_can_3 6 rfl rfl)
theorem dX7_can_78 : decode cX7_can 78 = .ok (.istore 7, 2) := dk_54 7 (dk_at dksX7_can_3 7 rfl rfl)
theorem dX7_can_80 : decode cX7_can 80 = .ok (.iload 7, 2) := dk_21 7 (dk_at dksX7_can_3 9 rfl rfl)
theorem dX7_can_82 : decode cX7_can 82 = .ok (.iload_n 1, 1) := dk_27 (dk_at dksX7_can_3 11 rfl rfl)
theorem dX7_can_83 : decode cX7_can 83 = .ok (.if_icmp .gt 41, 3) := dk_163 0 41 (dk_at dksX7_can_3 12 rfl rfl)
theorem dX7_can_86 : decode cX7_can 86 = .ok (.lload 5, 2) := dk_22 5 (dk_at dksX7_can_3 15 rfl rfl)
theorem dX7_can_88 : decode cX7_can 88 = .ok (.aload_n 0, 1) := dk_42 (dk_at dksX7_can_3 17 rfl rfl)
theorem dX7_can_89 : decode cX7_can 89 = .ok (.getfield 96, 3) := dk_180 0 96 (dk_at dksX7_can_3 18 rfl rfl)
theorem dX7_can_92 : decode cX7_can 92 = .ok (.iload 7, 2) := dk_21 7 (dk_at dksX7_can_3 21 rfl rfl)
theorem dX7_can_94 : decode cX7_can 94 = .ok (.laload, 1) := dk_47 (dk_at dksX7_can_3 23 rfl rfl)
theorem dX7_can_95 : decode cX7_can 95 = .ok (.iconst 0, 1) := dk_3 (dk_at dksX7_can_4 0 rfl rfl)
theorem dX7_can_96 : decode cX7_can 96 = .ok (.iload_n 2, 1) := dk_28 (dk_at dksX7_can_4 1 rfl rfl)
theorem dX7_can_97 : decode cX7_can 97 = .ok (.iload 7, 2) := dk_21 7 (dk_at dksX7_can_4 2 rfl rfl)
theorem dX7_can_99 : decode cX7_can 99 = .ok (.imul, 1) := dk_104 (dk_at dksX7_can_4 4 rfl rfl)
theorem dX7_can_100 : decode cX7_can 100 = .ok (.iload_n 3, 1) := dk_29 (dk_at dksX7_can_4 5 rfl rfl)
theorem dX7_can_101 : decode cX7_can 101 = .ok (.isub, 1) := dk_100 (dk_at dksX7_can_4 6 rfl rfl)
theorem dX7_can_102 : decode cX7_can 102 = .ok (.invokestatic 272, 3) := dk_184 1 16 (dk_at dksX7_can_4 7 rfl rfl)
theorem dX7_can_105 : decode cX7_can 105 = .ok (.iconst 0, 1) := dk_3 (dk_at dksX7_can_4 10 rfl rfl)
theorem dX7_can_106 : decode cX7_can 106 = .ok (.iload_n 2, 1) := dk_28 (dk_at dksX7_can_4 11 rfl rfl)
theorem dX7_can_107 : decode cX7_can 107 = .ok (.iload_n 3, 1) := dk_29 (dk_at dksX7_can_4 12 rfl rfl)
theorem dX7_can_108 : decode cX7_can 108 = .ok (.isub, 1) := dk_100 (dk_at dksX7_can_4 13 rfl rfl)
theorem dX7_can_109 : decode cX7_can 109 = .ok (.invokestatic 272, 3) := dk_184 1 16 (dk_at dksX7_can_4 14 rfl rfl)
theorem dX7_can_112 : decode cX7_can 112 = .ok (.isub, 1) := dk_100 (dk_at dksX7_can_4 17 rfl rfl)
theorem dX7_can_113 : decode cX7_can 113 = .ok (.i2l, 1) := dk_133 (dk_at dksX7_can_4 18 rfl rfl)
theorem dX7_can_114 : decode cX7_can 114 = .ok (.lmul, 1) := dk_105 (dk_at dksX7_can_4 19 rfl rfl)
theorem dX7_can_115 : decode cX7_can 115 = .ok (.ladd, 1) := dk_97 (dk_at dksX7_can_4 20 rfl rfl)
theorem dX7_can_116 : decode cX7_can 116 = .ok (.lstore 5, 2) := dk_55 5 (dk_at dksX7_can_4 21 rfl rfl)
theorem dX7_can_118 : decode cX7_can 118 = .ok (.iinc 7 1, 3) := dk_132 7 1 (dk_at dksX7_can_5 0 rfl rfl)
theorem dX7_can_121 : decode cX7_can 121 = .ok (.goto (-41), 3) := dk_167 255 215 (dk_at dksX7_can_5 3 rfl rfl)
theorem dX7_can_124 : decode cX7_can 124 = .ok (.lload 5, 2) := dk_22 5 (dk_at dksX7_can_5 6 rfl rfl)
theorem dX7_can_126 : decode cX7_can 126 = .ok (.iload_n 1, 1) := dk_27 (dk_at dksX7_can_5 8 rfl rfl)
theorem dX7_can_127 : decode cX7_can 127 = .ok (.invokestatic 328, 3) := dk_184 1 72 (dk_at dksX7_can_5 9 rfl rfl)
theorem dX7_can_130 : decode cX7_can 130 = .ok (.iload 4, 2) := dk_21 4 (dk_at dksX7_can_5 12 rfl rfl)
theorem dX7_can_132 : decode cX7_can 132 = .ok (.invokestatic 382, 3) := dk_184 1 126 (dk_at dksX7_can_5 14 rfl rfl)
theorem dX7_can_135 : decode cX7_can 135 = .ok (.lreturn, 1) := dk_173 (dk_at dksX7_can_5 17 rfl rfl)
abbrev cX7_seed : ByteArray := prog_19_method_101_code
def yX7_seed : MethodName := ⟨RX7, "seed", "(I)Z"⟩
def dkwX7_seed_0 : List UInt8 := [27, 3, 19, 1, 160, 184, 0, 126, 154, 0, 5, 3, 172, 42, 180, 0, 7, 16, 80, 27, 79, 4, 172]
abbrev dktX7_seed_0 : List UInt8 := dkwX7_seed_0 ++ []
theorem dksX7_seed_0 : cX7_seed.data.toList.drop 0 = dktX7_seed_0 := by decide +kernel
theorem dX7_seed_0 : decode cX7_seed 0 = .ok (.iload_n 1, 1) := dk_27 (dk_at dksX7_seed_0 0 rfl rfl)
theorem dX7_seed_1 : decode cX7_seed 1 = .ok (.iconst 0, 1) := dk_3 (dk_at dksX7_seed_0 1 rfl rfl)
theorem dX7_seed_2 : decode cX7_seed 2 = .ok (.ldc_w 416, 3) := dk_19 1 160 (dk_at dksX7_seed_0 2 rfl rfl)
theorem dX7_seed_5 : decode cX7_seed 5 = .ok (.invokestatic 126, 3) := dk_184 0 126 (dk_at dksX7_seed_0 5 rfl rfl)
theorem dX7_seed_8 : decode cX7_seed 8 = .ok (.ifCond .ne 5, 3) := dk_154 0 5 (dk_at dksX7_seed_0 8 rfl rfl)
theorem dX7_seed_11 : decode cX7_seed 11 = .ok (.iconst 0, 1) := dk_3 (dk_at dksX7_seed_0 11 rfl rfl)
theorem dX7_seed_12 : decode cX7_seed 12 = .ok (.ireturn, 1) := dk_172 (dk_at dksX7_seed_0 12 rfl rfl)
theorem dX7_seed_13 : decode cX7_seed 13 = .ok (.aload_n 0, 1) := dk_42 (dk_at dksX7_seed_0 13 rfl rfl)
theorem dX7_seed_14 : decode cX7_seed 14 = .ok (.getfield 7, 3) := dk_180 0 7 (dk_at dksX7_seed_0 14 rfl rfl)
theorem dX7_seed_17 : decode cX7_seed 17 = .ok (.bipush 80, 2) := dk_16 80 (dk_at dksX7_seed_0 17 rfl rfl)
theorem dX7_seed_19 : decode cX7_seed 19 = .ok (.iload_n 1, 1) := dk_27 (dk_at dksX7_seed_0 19 rfl rfl)
theorem dX7_seed_20 : decode cX7_seed 20 = .ok (.iastore, 1) := dk_79 (dk_at dksX7_seed_0 20 rfl rfl)
theorem dX7_seed_21 : decode cX7_seed 21 = .ok (.iconst 1, 1) := dk_4 (dk_at dksX7_seed_0 21 rfl rfl)
theorem dX7_seed_22 : decode cX7_seed 22 = .ok (.ireturn, 1) := dk_172 (dk_at dksX7_seed_0 22 rfl rfl)
abbrev cX7_keep : ByteArray := prog_19_method_102_code
def yX7_keep : MethodName := ⟨RX7, "keep", "()I"⟩
def dkwX7_keep_2 : List UInt8 := [96, 60, 132, 2, 1, 167, 255, 225, 27, 172]
abbrev dktX7_keep_2 : List UInt8 := dkwX7_keep_2 ++ []
def dkwX7_keep_1 : List UInt8 := [162, 0, 32, 27, 42, 28, 182, 0, 122, 153, 0, 14, 42, 180, 0, 7, 7, 28, 96, 46, 167, 0, 4, 3]
abbrev dktX7_keep_1 : List UInt8 := dkwX7_keep_1 ++ dktX7_keep_2
def dkwX7_keep_0 : List UInt8 := [42, 4, 181, 1, 161, 42, 180, 0, 7, 42, 180, 0, 16, 184, 1, 38, 3, 60, 3, 61, 28, 7]
abbrev dktX7_keep_0 : List UInt8 := dkwX7_keep_0 ++ dktX7_keep_1
theorem dksX7_keep_0 : cX7_keep.data.toList.drop 0 = dktX7_keep_0 := by decide +kernel
theorem dksX7_keep_1 : cX7_keep.data.toList.drop 22 = dktX7_keep_1 := dk_seg dksX7_keep_0 22 rfl rfl
theorem dksX7_keep_2 : cX7_keep.data.toList.drop 46 = dktX7_keep_2 := dk_seg dksX7_keep_1 24 rfl rfl
theorem dX7_keep_0 : decode cX7_keep 0 = .ok (.aload_n 0, 1) := dk_42 (dk_at dksX7_keep_0 0 rfl rfl)
theorem dX7_keep_1 : decode cX7_keep 1 = .ok (.iconst 1, 1) := dk_4 (dk_at dksX7_keep_0 1 rfl rfl)
theorem dX7_keep_2 : decode cX7_keep 2 = .ok (.putfield 417, 3) := dk_181 1 161 (dk_at dksX7_keep_0 2 rfl rfl)
theorem dX7_keep_5 : decode cX7_keep 5 = .ok (.aload_n 0, 1) := dk_42 (dk_at dksX7_keep_0 5 rfl rfl)
theorem dX7_keep_6 : decode cX7_keep 6 = .ok (.getfield 7, 3) := dk_180 0 7 (dk_at dksX7_keep_0 6 rfl rfl)
theorem dX7_keep_9 : decode cX7_keep 9 = .ok (.aload_n 0, 1) := dk_42 (dk_at dksX7_keep_0 9 rfl rfl)
theorem dX7_keep_10 : decode cX7_keep 10 = .ok (.getfield 16, 3) := dk_180 0 16 (dk_at dksX7_keep_0 10 rfl rfl)
theorem dX7_keep_13 : decode cX7_keep 13 = .ok (.invokestatic 294, 3) := dk_184 1 38 (dk_at dksX7_keep_0 13 rfl rfl)
theorem dX7_keep_16 : decode cX7_keep 16 = .ok (.iconst 0, 1) := dk_3 (dk_at dksX7_keep_0 16 rfl rfl)
theorem dX7_keep_17 : decode cX7_keep 17 = .ok (.istore_n 1, 1) := dk_60 (dk_at dksX7_keep_0 17 rfl rfl)
theorem dX7_keep_18 : decode cX7_keep 18 = .ok (.iconst 0, 1) := dk_3 (dk_at dksX7_keep_0 18 rfl rfl)
theorem dX7_keep_19 : decode cX7_keep 19 = .ok (.istore_n 2, 1) := dk_61 (dk_at dksX7_keep_0 19 rfl rfl)
theorem dX7_keep_20 : decode cX7_keep 20 = .ok (.iload_n 2, 1) := dk_28 (dk_at dksX7_keep_0 20 rfl rfl)
theorem dX7_keep_21 : decode cX7_keep 21 = .ok (.iconst 4, 1) := dk_7 (dk_at dksX7_keep_0 21 rfl rfl)
theorem dX7_keep_22 : decode cX7_keep 22 = .ok (.if_icmp .ge 32, 3) := dk_162 0 32 (dk_at dksX7_keep_1 0 rfl rfl)
theorem dX7_keep_25 : decode cX7_keep 25 = .ok (.iload_n 1, 1) := dk_27 (dk_at dksX7_keep_1 3 rfl rfl)
theorem dX7_keep_26 : decode cX7_keep 26 = .ok (.aload_n 0, 1) := dk_42 (dk_at dksX7_keep_1 4 rfl rfl)
theorem dX7_keep_27 : decode cX7_keep 27 = .ok (.iload_n 2, 1) := dk_28 (dk_at dksX7_keep_1 5 rfl rfl)
theorem dX7_keep_28 : decode cX7_keep 28 = .ok (.invokevirtual 122, 3) := dk_182 0 122 (dk_at dksX7_keep_1 6 rfl rfl)
theorem dX7_keep_31 : decode cX7_keep 31 = .ok (.ifCond .eq 14, 3) := dk_153 0 14 (dk_at dksX7_keep_1 9 rfl rfl)
theorem dX7_keep_34 : decode cX7_keep 34 = .ok (.aload_n 0, 1) := dk_42 (dk_at dksX7_keep_1 12 rfl rfl)
theorem dX7_keep_35 : decode cX7_keep 35 = .ok (.getfield 7, 3) := dk_180 0 7 (dk_at dksX7_keep_1 13 rfl rfl)
theorem dX7_keep_38 : decode cX7_keep 38 = .ok (.iconst 4, 1) := dk_7 (dk_at dksX7_keep_1 16 rfl rfl)
theorem dX7_keep_39 : decode cX7_keep 39 = .ok (.iload_n 2, 1) := dk_28 (dk_at dksX7_keep_1 17 rfl rfl)
theorem dX7_keep_40 : decode cX7_keep 40 = .ok (.iadd, 1) := dk_96 (dk_at dksX7_keep_1 18 rfl rfl)
theorem dX7_keep_41 : decode cX7_keep 41 = .ok (.iaload, 1) := dk_46 (dk_at dksX7_keep_1 19 rfl rfl)
theorem dX7_keep_42 : decode cX7_keep 42 = .ok (.goto 4, 3) := dk_167 0 4 (dk_at dksX7_keep_1 20 rfl rfl)
theorem dX7_keep_45 : decode cX7_keep 45 = .ok (.iconst 0, 1) := dk_3 (dk_at dksX7_keep_1 23 rfl rfl)
theorem dX7_keep_46 : decode cX7_keep 46 = .ok (.iadd, 1) := dk_96 (dk_at dksX7_keep_2 0 rfl rfl)
theorem dX7_keep_47 : decode cX7_keep 47 = .ok (.istore_n 1, 1) := dk_60 (dk_at dksX7_keep_2 1 rfl rfl)
theorem dX7_keep_48 : decode cX7_keep 48 = .ok (.iinc 2 1, 3) := dk_132 2 1 (dk_at dksX7_keep_2 2 rfl rfl)
theorem dX7_keep_51 : decode cX7_keep 51 = .ok (.goto (-31), 3) := dk_167 255 225 (dk_at dksX7_keep_2 5 rfl rfl)
theorem dX7_keep_54 : decode cX7_keep 54 = .ok (.iload_n 1, 1) := dk_27 (dk_at dksX7_keep_2 8 rfl rfl)
theorem dX7_keep_55 : decode cX7_keep 55 = .ok (.ireturn, 1) := dk_172 (dk_at dksX7_keep_2 9 rfl rfl)
abbrev cX7_undo : ByteArray := prog_19_method_103_code
def yX7_undo : MethodName := ⟨RX7, "undo", "()Z"⟩
def dkwX7_undo_0 : List UInt8 := [42, 180, 1, 161, 154, 0, 5, 3, 172, 42, 180, 0, 16, 42, 180, 0, 7, 184, 1, 38, 4, 172]
abbrev dktX7_undo_0 : List UInt8 := dkwX7_undo_0 ++ []
theorem dksX7_undo_0 : cX7_undo.data.toList.drop 0 = dktX7_undo_0 := by decide +kernel
theorem dX7_undo_0 : decode cX7_undo 0 = .ok (.aload_n 0, 1) := dk_42 (dk_at dksX7_undo_0 0 rfl rfl)
theorem dX7_undo_1 : decode cX7_undo 1 = .ok (.getfield 417, 3) := dk_180 1 161 (dk_at dksX7_undo_0 1 rfl rfl)
theorem dX7_undo_4 : decode cX7_undo 4 = .ok (.ifCond .ne 5, 3) := dk_154 0 5 (dk_at dksX7_undo_0 4 rfl rfl)
theorem dX7_undo_7 : decode cX7_undo 7 = .ok (.iconst 0, 1) := dk_3 (dk_at dksX7_undo_0 7 rfl rfl)
theorem dX7_undo_8 : decode cX7_undo 8 = .ok (.ireturn, 1) := dk_172 (dk_at dksX7_undo_0 8 rfl rfl)
theorem dX7_undo_9 : decode cX7_undo 9 = .ok (.aload_n 0, 1) := dk_42 (dk_at dksX7_undo_0 9 rfl rfl)
theorem dX7_undo_10 : decode cX7_undo 10 = .ok (.getfield 16, 3) := dk_180 0 16 (dk_at dksX7_undo_0 10 rfl rfl)
theorem dX7_undo_13 : decode cX7_undo 13 = .ok (.aload_n 0, 1) := dk_42 (dk_at dksX7_undo_0 13 rfl rfl)
theorem dX7_undo_14 : decode cX7_undo 14 = .ok (.getfield 7, 3) := dk_180 0 7 (dk_at dksX7_undo_0 14 rfl rfl)
theorem dX7_undo_17 : decode cX7_undo 17 = .ok (.invokestatic 294, 3) := dk_184 1 38 (dk_at dksX7_undo_0 17 rfl rfl)
theorem dX7_undo_20 : decode cX7_undo 20 = .ok (.iconst 1, 1) := dk_4 (dk_at dksX7_undo_0 20 rfl rfl)
theorem dX7_undo_21 : decode cX7_undo 21 = .ok (.ireturn, 1) := dk_172 (dk_at dksX7_undo_0 21 rfl rfl)
abbrev cX7_check : ByteArray := prog_19_method_105_code
def yX7_check : MethodName := ⟨RX7, "check", "(II)I"⟩
def dkwX7_check_3 : List UInt8 := [132, 3, 1, 167, 255, 221, 2, 172]
abbrev dktX7_check_3 : List UInt8 := dkwX7_check_3 ++ []
def dkwX7_check_2 : List UInt8 := [42, 180, 0, 7, 16, 24, 16, 7, 27, 104, 96, 16, 6, 96, 29, 100, 46, 159, 0, 5, 29, 172]
abbrev dktX7_check_2 : List UInt8 := dkwX7_check_2 ++ dktX7_check_3
def dkwX7_check_1 : List UInt8 := [108, 164, 0, 6, 16, 254, 172, 42, 3, 181, 0, 137, 3, 62, 29, 28, 162, 0, 36, 42, 29, 182, 1, 165]
abbrev dktX7_check_1 : List UInt8 := dkwX7_check_1 ++ dktX7_check_2
def dkwX7_check_0 : List UInt8 := [42, 27, 182, 0, 122, 153, 0, 23, 28, 3, 16, 7, 184, 0, 126, 153, 0, 13, 28, 42, 180, 0, 137, 7]
abbrev dktX7_check_0 : List UInt8 := dkwX7_check_0 ++ dktX7_check_1
theorem dksX7_check_0 : cX7_check.data.toList.drop 0 = dktX7_check_0 := by decide +kernel
theorem dksX7_check_1 : cX7_check.data.toList.drop 24 = dktX7_check_1 := dk_seg dksX7_check_0 24 rfl rfl
theorem dksX7_check_2 : cX7_check.data.toList.drop 48 = dktX7_check_2 := dk_seg dksX7_check_1 24 rfl rfl
theorem dksX7_check_3 : cX7_check.data.toList.drop 70 = dktX7_check_3 := dk_seg dksX7_check_2 22 rfl rfl
theorem dX7_check_0 : decode cX7_check 0 = .ok (.aload_n 0, 1) := dk_42 (dk_at dksX7_check_0 0 rfl rfl)
theorem dX7_check_1 : decode cX7_check 1 = .ok (.iload_n 1, 1) := dk_27 (dk_at dksX7_check_0 1 rfl rfl)
theorem dX7_check_2 : decode cX7_check 2 = .ok (.invokevirtual 122, 3) := dk_182 0 122 (dk_at dksX7_check_0 2 rfl rfl)
theorem dX7_check_5 : decode cX7_check 5 = .ok (.ifCond .eq 23, 3) := dk_153 0 23 (dk_at dksX7_check_0 5 rfl rfl)
theorem dX7_check_8 : decode cX7_check 8 = .ok (.iload_n 2, 1) := dk_28 (dk_at dksX7_check_0 8 rfl rfl)
theorem dX7_check_9 : decode cX7_check 9 = .ok (.iconst 0, 1) := dk_3 (dk_at dksX7_check_0 9 rfl rfl)
theorem dX7_check_10 : decode cX7_check 10 = .ok (.bipush 7, 2) := dk_16 7 (dk_at dksX7_check_0 10 rfl rfl)
theorem dX7_check_12 : decode cX7_check 12 = .ok (.invokestatic 126, 3) := dk_184 0 126 (dk_at dksX7_check_0 12 rfl rfl)
theorem dX7_check_15 : decode cX7_check 15 = .ok (.ifCond .eq 13, 3) := dk_153 0 13 (dk_at dksX7_check_0 15 rfl rfl)
theorem dX7_check_18 : decode cX7_check 18 = .ok (.iload_n 2, 1) := dk_28 (dk_at dksX7_check_0 18 rfl rfl)
theorem dX7_check_19 : decode cX7_check 19 = .ok (.aload_n 0, 1) := dk_42 (dk_at dksX7_check_0 19 rfl rfl)
theorem dX7_check_20 : decode cX7_check 20 = .ok (.getfield 137, 3) := dk_180 0 137 (dk_at dksX7_check_0 20 rfl rfl)
theorem dX7_check_23 : decode cX7_check 23 = .ok (.iconst 4, 1) := dk_7 (dk_at dksX7_check_0 23 rfl rfl)
theorem dX7_check_24 : decode cX7_check 24 = .ok (.idiv, 1) := dk_108 (dk_at dksX7_check_1 0 rfl rfl)
theorem dX7_check_25 : decode cX7_check 25 = .ok (.if_icmp .le 6, 3) := dk_164 0 6 (dk_at dksX7_check_1 1 rfl rfl)
theorem dX7_check_28 : decode cX7_check 28 = .ok (.bipush (-2), 2) := dk_16 254 (dk_at dksX7_check_1 4 rfl rfl)
theorem dX7_check_30 : decode cX7_check 30 = .ok (.ireturn, 1) := dk_172 (dk_at dksX7_check_1 6 rfl rfl)
theorem dX7_check_31 : decode cX7_check 31 = .ok (.aload_n 0, 1) := dk_42 (dk_at dksX7_check_1 7 rfl rfl)
theorem dX7_check_32 : decode cX7_check 32 = .ok (.iconst 0, 1) := dk_3 (dk_at dksX7_check_1 8 rfl rfl)
theorem dX7_check_33 : decode cX7_check 33 = .ok (.putfield 137, 3) := dk_181 0 137 (dk_at dksX7_check_1 9 rfl rfl)
theorem dX7_check_36 : decode cX7_check 36 = .ok (.iconst 0, 1) := dk_3 (dk_at dksX7_check_1 12 rfl rfl)
theorem dX7_check_37 : decode cX7_check 37 = .ok (.istore_n 3, 1) := dk_62 (dk_at dksX7_check_1 13 rfl rfl)
theorem dX7_check_38 : decode cX7_check 38 = .ok (.iload_n 3, 1) := dk_29 (dk_at dksX7_check_1 14 rfl rfl)
theorem dX7_check_39 : decode cX7_check 39 = .ok (.iload_n 2, 1) := dk_28 (dk_at dksX7_check_1 15 rfl rfl)
theorem dX7_check_40 : decode cX7_check 40 = .ok (.if_icmp .ge 36, 3) := dk_162 0 36 (dk_at dksX7_check_1 16 rfl rfl)
theorem dX7_check_43 : decode cX7_check 43 = .ok (.aload_n 0, 1) := dk_42 (dk_at dksX7_check_1 19 rfl rfl)
theorem dX7_check_44 : decode cX7_check 44 = .ok (.iload_n 3, 1) := dk_29 (dk_at dksX7_check_1 20 rfl rfl)
theorem dX7_check_45 : decode cX7_check 45 = .ok (.invokevirtual 421, 3) := dk_182 1 165 (dk_at dksX7_check_1 21 rfl rfl)
theorem dX7_check_48 : decode cX7_check 48 = .ok (.aload_n 0, 1) := dk_42 (dk_at dksX7_check_2 0 rfl rfl)
theorem dX7_check_49 : decode cX7_check 49 = .ok (.getfield 7, 3) := dk_180 0 7 (dk_at dksX7_check_2 1 rfl rfl)
theorem dX7_check_52 : decode cX7_check 52 = .ok (.bipush 24, 2) := dk_16 24 (dk_at dksX7_check_2 4 rfl rfl)
theorem dX7_check_54 : decode cX7_check 54 = .ok (.bipush 7, 2) := dk_16 7 (dk_at dksX7_check_2 6 rfl rfl)
theorem dX7_check_56 : decode cX7_check 56 = .ok (.iload_n 1, 1) := dk_27 (dk_at dksX7_check_2 8 rfl rfl)
theorem dX7_check_57 : decode cX7_check 57 = .ok (.imul, 1) := dk_104 (dk_at dksX7_check_2 9 rfl rfl)
theorem dX7_check_58 : decode cX7_check 58 = .ok (.iadd, 1) := dk_96 (dk_at dksX7_check_2 10 rfl rfl)
theorem dX7_check_59 : decode cX7_check 59 = .ok (.bipush 6, 2) := dk_16 6 (dk_at dksX7_check_2 11 rfl rfl)
theorem dX7_check_61 : decode cX7_check 61 = .ok (.iadd, 1) := dk_96 (dk_at dksX7_check_2 13 rfl rfl)
theorem dX7_check_62 : decode cX7_check 62 = .ok (.iload_n 3, 1) := dk_29 (dk_at dksX7_check_2 14 rfl rfl)
theorem dX7_check_63 : decode cX7_check 63 = .ok (.isub, 1) := dk_100 (dk_at dksX7_check_2 15 rfl rfl)
theorem dX7_check_64 : decode cX7_check 64 = .ok (.iaload, 1) := dk_46 (dk_at dksX7_check_2 16 rfl rfl)
theorem dX7_check_65 : decode cX7_check 65 = .ok (.if_icmp .eq 5, 3) := dk_159 0 5 (dk_at dksX7_check_2 17 rfl rfl)
theorem dX7_check_68 : decode cX7_check 68 = .ok (.iload_n 3, 1) := dk_29 (dk_at dksX7_check_2 20 rfl rfl)
theorem dX7_check_69 : decode cX7_check 69 = .ok (.ireturn, 1) := dk_172 (dk_at dksX7_check_2 21 rfl rfl)
theorem dX7_check_70 : decode cX7_check 70 = .ok (.iinc 3 1, 3) := dk_132 3 1 (dk_at dksX7_check_3 0 rfl rfl)
theorem dX7_check_73 : decode cX7_check 73 = .ok (.goto (-35), 3) := dk_167 255 221 (dk_at dksX7_check_3 3 rfl rfl)
theorem dX7_check_76 : decode cX7_check 76 = .ok (.iconst (-1), 1) := dk_2 (dk_at dksX7_check_3 6 rfl rfl)
theorem dX7_check_77 : decode cX7_check 77 = .ok (.ireturn, 1) := dk_172 (dk_at dksX7_check_3 7 rfl rfl)
abbrev cX7_tapeNumber : ByteArray := prog_19_method_104_code
def yX7_tapeNumber : MethodName := ⟨RX7, "tapeNumber", "(I)I"⟩
def dkwX7_tapeNumber_1 : List UInt8 := [51, 17, 0, 255, 126, 128, 61, 132, 3, 1, 167, 255, 228, 28, 172]
abbrev dktX7_tapeNumber_1 : List UInt8 := dkwX7_tapeNumber_1 ++ []
def dkwX7_tapeNumber_0 : List UInt8 := [3, 61, 7, 27, 104, 62, 29, 7, 27, 104, 7, 96, 162, 0, 25, 28, 16, 8, 120, 42, 180, 0, 19, 29]
abbrev dktX7_tapeNumber_0 : List UInt8 := dkwX7_tapeNumber_0 ++ dktX7_tapeNumber_1
theorem dksX7_tapeNumber_0 : cX7_tapeNumber.data.toList.drop 0 = dktX7_tapeNumber_0 := by decide +kernel
theorem dksX7_tapeNumber_1 : cX7_tapeNumber.data.toList.drop 24 = dktX7_tapeNumber_1 := dk_seg dksX7_tapeNumber_0 24 rfl rfl
theorem dX7_tapeNumber_0 : decode cX7_tapeNumber 0 = .ok (.iconst 0, 1) := dk_3 (dk_at dksX7_tapeNumber_0 0 rfl rfl)
theorem dX7_tapeNumber_1 : decode cX7_tapeNumber 1 = .ok (.istore_n 2, 1) := dk_61 (dk_at dksX7_tapeNumber_0 1 rfl rfl)
theorem dX7_tapeNumber_2 : decode cX7_tapeNumber 2 = .ok (.iconst 4, 1) := dk_7 (dk_at dksX7_tapeNumber_0 2 rfl rfl)
theorem dX7_tapeNumber_3 : decode cX7_tapeNumber 3 = .ok (.iload_n 1, 1) := dk_27 (dk_at dksX7_tapeNumber_0 3 rfl rfl)
theorem dX7_tapeNumber_4 : decode cX7_tapeNumber 4 = .ok (.imul, 1) := dk_104 (dk_at dksX7_tapeNumber_0 4 rfl rfl)
theorem dX7_tapeNumber_5 : decode cX7_tapeNumber 5 = .ok (.istore_n 3, 1) := dk_62 (dk_at dksX7_tapeNumber_0 5 rfl rfl)
theorem dX7_tapeNumber_6 : decode cX7_tapeNumber 6 = .ok (.iload_n 3, 1) := dk_29 (dk_at dksX7_tapeNumber_0 6 rfl rfl)
theorem dX7_tapeNumber_7 : decode cX7_tapeNumber 7 = .ok (.iconst 4, 1) := dk_7 (dk_at dksX7_tapeNumber_0 7 rfl rfl)
theorem dX7_tapeNumber_8 : decode cX7_tapeNumber 8 = .ok (.iload_n 1, 1) := dk_27 (dk_at dksX7_tapeNumber_0 8 rfl rfl)
theorem dX7_tapeNumber_9 : decode cX7_tapeNumber 9 = .ok (.imul, 1) := dk_104 (dk_at dksX7_tapeNumber_0 9 rfl rfl)
theorem dX7_tapeNumber_10 : decode cX7_tapeNumber 10 = .ok (.iconst 4, 1) := dk_7 (dk_at dksX7_tapeNumber_0 10 rfl rfl)
theorem dX7_tapeNumber_11 : decode cX7_tapeNumber 11 = .ok (.iadd, 1) := dk_96 (dk_at dksX7_tapeNumber_0 11 rfl rfl)
theorem dX7_tapeNumber_12 : decode cX7_tapeNumber 12 = .ok (.if_icmp .ge 25, 3) := dk_162 0 25 (dk_at dksX7_tapeNumber_0 12 rfl rfl)
theorem dX7_tapeNumber_15 : decode cX7_tapeNumber 15 = .ok (.iload_n 2, 1) := dk_28 (dk_at dksX7_tapeNumber_0 15 rfl rfl)
theorem dX7_tapeNumber_16 : decode cX7_tapeNumber 16 = .ok (.bipush 8, 2) := dk_16 8 (dk_at dksX7_tapeNumber_0 16 rfl rfl)
theorem dX7_tapeNumber_18 : decode cX7_tapeNumber 18 = .ok (.ishl, 1) := dk_120 (dk_at dksX7_tapeNumber_0 18 rfl rfl)
theorem dX7_tapeNumber_19 : decode cX7_tapeNumber 19 = .ok (.aload_n 0, 1) := dk_42 (dk_at dksX7_tapeNumber_0 19 rfl rfl)
theorem dX7_tapeNumber_20 : decode cX7_tapeNumber 20 = .ok (.getfield 19, 3) := dk_180 0 19 (dk_at dksX7_tapeNumber_0 20 rfl rfl)
theorem dX7_tapeNumber_23 : decode cX7_tapeNumber 23 = .ok (.iload_n 3, 1) := dk_29 (dk_at dksX7_tapeNumber_0 23 rfl rfl)
theorem dX7_tapeNumber_24 : decode cX7_tapeNumber 24 = .ok (.baload, 1) := dk_51 (dk_at dksX7_tapeNumber_1 0 rfl rfl)
theorem dX7_tapeNumber_25 : decode cX7_tapeNumber 25 = .ok (.sipush 255, 3) := dk_17 0 255 (dk_at dksX7_tapeNumber_1 1 rfl rfl)
theorem dX7_tapeNumber_28 : decode cX7_tapeNumber 28 = .ok (.iand, 1) := dk_126 (dk_at dksX7_tapeNumber_1 4 rfl rfl)
theorem dX7_tapeNumber_29 : decode cX7_tapeNumber 29 = .ok (.ior, 1) := dk_128 (dk_at dksX7_tapeNumber_1 5 rfl rfl)
theorem dX7_tapeNumber_30 : decode cX7_tapeNumber 30 = .ok (.istore_n 2, 1) := dk_61 (dk_at dksX7_tapeNumber_1 6 rfl rfl)
theorem dX7_tapeNumber_31 : decode cX7_tapeNumber 31 = .ok (.iinc 3 1, 3) := dk_132 3 1 (dk_at dksX7_tapeNumber_1 7 rfl rfl)
theorem dX7_tapeNumber_34 : decode cX7_tapeNumber 34 = .ok (.goto (-28), 3) := dk_167 255 228 (dk_at dksX7_tapeNumber_1 10 rfl rfl)
theorem dX7_tapeNumber_37 : decode cX7_tapeNumber 37 = .ok (.iload_n 2, 1) := dk_28 (dk_at dksX7_tapeNumber_1 13 rfl rfl)
theorem dX7_tapeNumber_38 : decode cX7_tapeNumber 38 = .ok (.ireturn, 1) := dk_172 (dk_at dksX7_tapeNumber_1 14 rfl rfl)
abbrev cX7_count : ByteArray := prog_19_method_106_code
def yX7_count : MethodName := ⟨RX7, "count", "(I)I"⟩
def dkwX7_count_9 : List UInt8 := [180, 0, 7, 16, 68, 27, 96, 16, 40, 100, 46, 167, 0, 4, 2, 172]
abbrev dktX7_count_9 : List UInt8 := dkwX7_count_9 ++ []
def dkwX7_count_8 : List UInt8 := [16, 40, 16, 47, 184, 0, 126, 153, 0, 29, 42, 27, 16, 40, 100, 182, 1, 3, 153, 0, 18, 42]
abbrev dktX7_count_8 : List UInt8 := dkwX7_count_8 ++ dktX7_count_9
def dkwX7_count_7 : List UInt8 := [27, 16, 30, 100, 182, 1, 3, 153, 0, 16, 42, 180, 0, 7, 16, 60, 27, 96, 16, 30, 100, 46, 172, 27]
abbrev dktX7_count_7 : List UInt8 := dkwX7_count_7 ++ dktX7_count_8
def dkwX7_count_6 : List UInt8 := [180, 0, 7, 16, 52, 27, 96, 16, 20, 100, 46, 172, 27, 16, 30, 16, 37, 184, 0, 126, 153, 0, 27, 42]
abbrev dktX7_count_6 : List UInt8 := dkwX7_count_6 ++ dktX7_count_7
def dkwX7_count_5 : List UInt8 := [172, 27, 16, 20, 16, 27, 184, 0, 126, 153, 0, 27, 42, 27, 16, 20, 100, 182, 1, 3, 153, 0, 16, 42]
abbrev dktX7_count_5 : List UInt8 := dkwX7_count_5 ++ dktX7_count_6
def dkwX7_count_4 : List UInt8 := [16, 80, 46, 172, 27, 16, 10, 16, 13, 184, 0, 126, 153, 0, 13, 42, 180, 0, 44, 27, 16, 9, 100, 46]
abbrev dktX7_count_4 : List UInt8 := dkwX7_count_4 ++ dktX7_count_5
def dkwX7_count_3 : List UInt8 := [42, 180, 0, 7, 16, 78, 46, 172, 42, 180, 0, 44, 3, 46, 172, 42, 180, 0, 137, 172, 42, 180, 0, 7]
abbrev dktX7_count_3 : List UInt8 := dkwX7_count_3 ++ dktX7_count_4
def dkwX7_count_2 : List UInt8 := [42, 180, 0, 7, 16, 79, 46, 172, 42, 180, 0, 7, 16, 76, 46, 172, 42, 180, 0, 7, 16, 77, 46, 172]
abbrev dktX7_count_2 : List UInt8 := dkwX7_count_2 ++ dktX7_count_3
def dkwX7_count_1 : List UInt8 := [170, 0, 0, 0, 0, 0, 95, 0, 0, 0, 0, 0, 0, 0, 6, 0, 0, 0, 43, 0, 0, 0, 51, 0, 0, 0, 59, 0, 0, 0, 67, 0, 0, 0, 75, 0, 0, 0, 82, 0, 0, 0, 87]
abbrev dktX7_count_1 : List UInt8 := dkwX7_count_1 ++ dktX7_count_2
def dkwX7_count_0 : List UInt8 := [27]
abbrev dktX7_count_0 : List UInt8 := dkwX7_count_0 ++ dktX7_count_1
theorem dksX7_count_0 : cX7_count.data.toList.drop 0 = dktX7_count_0 := by decide +kernel
theorem dksX7_count_1 : cX7_count.data.toList.drop 1 = dktX7_count_1 := dk_seg dksX7_count_0 1 rfl rfl
theorem dksX7_count_2 : cX7_count.data.toList.drop 44 = dktX7_count_2 := dk_seg dksX7_count_1 43 rfl rfl
theorem dksX7_count_3 : cX7_count.data.toList.drop 68 = dktX7_count_3 := dk_seg dksX7_count_2 24 rfl rfl
theorem dksX7_count_4 : cX7_count.data.toList.drop 92 = dktX7_count_4 := dk_seg dksX7_count_3 24 rfl rfl
theorem dksX7_count_5 : cX7_count.data.toList.drop 116 = dktX7_count_5 := dk_seg dksX7_count_4 24 rfl rfl
theorem dksX7_count_6 : cX7_count.data.toList.drop 140 = dktX7_count_6 := dk_seg dksX7_count_5 24 rfl rfl
theorem dksX7_count_7 : cX7_count.data.toList.drop 164 = dktX7_count_7 := dk_seg dksX7_count_6 24 rfl rfl
theorem dksX7_count_8 : cX7_count.data.toList.drop 188 = dktX7_count_8 := dk_seg dksX7_count_7 24 rfl rfl
theorem dksX7_count_9 : cX7_count.data.toList.drop 210 = dktX7_count_9 := dk_seg dksX7_count_8 22 rfl rfl
theorem dX7_count_0 : decode cX7_count 0 = .ok (.iload_n 1, 1) := dk_27 (dk_at dksX7_count_0 0 rfl rfl)
theorem dX7_count_1 : decode cX7_count 1 = .ok (.tableswitch 95 0 6 #[43, 51, 59, 67, 75, 82, 87], 43) := by decide +kernel
theorem dX7_count_44 : decode cX7_count 44 = .ok (.aload_n 0, 1) := dk_42 (dk_at dksX7_count_2 0 rfl rfl)
theorem dX7_count_45 : decode cX7_count 45 = .ok (.getfield 7, 3) := dk_180 0 7 (dk_at dksX7_count_2 1 rfl rfl)
theorem dX7_count_48 : decode cX7_count 48 = .ok (.bipush 79, 2) := dk_16 79 (dk_at dksX7_count_2 4 rfl rfl)
theorem dX7_count_50 : decode cX7_count 50 = .ok (.iaload, 1) := dk_46 (dk_at dksX7_count_2 6 rfl rfl)
theorem dX7_count_51 : decode cX7_count 51 = .ok (.ireturn, 1) := dk_172 (dk_at dksX7_count_2 7 rfl rfl)
theorem dX7_count_52 : decode cX7_count 52 = .ok (.aload_n 0, 1) := dk_42 (dk_at dksX7_count_2 8 rfl rfl)
theorem dX7_count_53 : decode cX7_count 53 = .ok (.getfield 7, 3) := dk_180 0 7 (dk_at dksX7_count_2 9 rfl rfl)
theorem dX7_count_56 : decode cX7_count 56 = .ok (.bipush 76, 2) := dk_16 76 (dk_at dksX7_count_2 12 rfl rfl)
theorem dX7_count_58 : decode cX7_count 58 = .ok (.iaload, 1) := dk_46 (dk_at dksX7_count_2 14 rfl rfl)
theorem dX7_count_59 : decode cX7_count 59 = .ok (.ireturn, 1) := dk_172 (dk_at dksX7_count_2 15 rfl rfl)
theorem dX7_count_60 : decode cX7_count 60 = .ok (.aload_n 0, 1) := dk_42 (dk_at dksX7_count_2 16 rfl rfl)
theorem dX7_count_61 : decode cX7_count 61 = .ok (.getfield 7, 3) := dk_180 0 7 (dk_at dksX7_count_2 17 rfl rfl)
theorem dX7_count_64 : decode cX7_count 64 = .ok (.bipush 77, 2) := dk_16 77 (dk_at dksX7_count_2 20 rfl rfl)
theorem dX7_count_66 : decode cX7_count 66 = .ok (.iaload, 1) := dk_46 (dk_at dksX7_count_2 22 rfl rfl)
theorem dX7_count_67 : decode cX7_count 67 = .ok (.ireturn, 1) := dk_172 (dk_at dksX7_count_2 23 rfl rfl)
theorem dX7_count_68 : decode cX7_count 68 = .ok (.aload_n 0, 1) := dk_42 (dk_at dksX7_count_3 0 rfl rfl)
theorem dX7_count_69 : decode cX7_count 69 = .ok (.getfield 7, 3) := dk_180 0 7 (dk_at dksX7_count_3 1 rfl rfl)
theorem dX7_count_72 : decode cX7_count 72 = .ok (.bipush 78, 2) := dk_16 78 (dk_at dksX7_count_3 4 rfl rfl)
theorem dX7_count_74 : decode cX7_count 74 = .ok (.iaload, 1) := dk_46 (dk_at dksX7_count_3 6 rfl rfl)
theorem dX7_count_75 : decode cX7_count 75 = .ok (.ireturn, 1) := dk_172 (dk_at dksX7_count_3 7 rfl rfl)
theorem dX7_count_76 : decode cX7_count 76 = .ok (.aload_n 0, 1) := dk_42 (dk_at dksX7_count_3 8 rfl rfl)
theorem dX7_count_77 : decode cX7_count 77 = .ok (.getfield 44, 3) := dk_180 0 44 (dk_at dksX7_count_3 9 rfl rfl)
theorem dX7_count_80 : decode cX7_count 80 = .ok (.iconst 0, 1) := dk_3 (dk_at dksX7_count_3 12 rfl rfl)
theorem dX7_count_81 : decode cX7_count 81 = .ok (.iaload, 1) := dk_46 (dk_at dksX7_count_3 13 rfl rfl)
theorem dX7_count_82 : decode cX7_count 82 = .ok (.ireturn, 1) := dk_172 (dk_at dksX7_count_3 14 rfl rfl)
theorem dX7_count_83 : decode cX7_count 83 = .ok (.aload_n 0, 1) := dk_42 (dk_at dksX7_count_3 15 rfl rfl)
theorem dX7_count_84 : decode cX7_count 84 = .ok (.getfield 137, 3) := dk_180 0 137 (dk_at dksX7_count_3 16 rfl rfl)
theorem dX7_count_87 : decode cX7_count 87 = .ok (.ireturn, 1) := dk_172 (dk_at dksX7_count_3 19 rfl rfl)
theorem dX7_count_88 : decode cX7_count 88 = .ok (.aload_n 0, 1) := dk_42 (dk_at dksX7_count_3 20 rfl rfl)
theorem dX7_count_89 : decode cX7_count 89 = .ok (.getfield 7, 3) := dk_180 0 7 (dk_at dksX7_count_3 21 rfl rfl)
theorem dX7_count_92 : decode cX7_count 92 = .ok (.bipush 80, 2) := dk_16 80 (dk_at dksX7_count_4 0 rfl rfl)
theorem dX7_count_94 : decode cX7_count 94 = .ok (.iaload, 1) := dk_46 (dk_at dksX7_count_4 2 rfl rfl)
theorem dX7_count_95 : decode cX7_count 95 = .ok (.ireturn, 1) := dk_172 (dk_at dksX7_count_4 3 rfl rfl)
theorem dX7_count_96 : decode cX7_count 96 = .ok (.iload_n 1, 1) := dk_27 (dk_at dksX7_count_4 4 rfl rfl)
theorem dX7_count_97 : decode cX7_count 97 = .ok (.bipush 10, 2) := dk_16 10 (dk_at dksX7_count_4 5 rfl rfl)
theorem dX7_count_99 : decode cX7_count 99 = .ok (.bipush 13, 2) := dk_16 13 (dk_at dksX7_count_4 7 rfl rfl)
theorem dX7_count_101 : decode cX7_count 101 = .ok (.invokestatic 126, 3) := dk_184 0 126 (dk_at dksX7_count_4 9 rfl rfl)
theorem dX7_count_104 : decode cX7_count 104 = .ok (.ifCond .eq 13, 3) := dk_153 0 13 (dk_at dksX7_count_4 12 rfl rfl)
theorem dX7_count_107 : decode cX7_count 107 = .ok (.aload_n 0, 1) := dk_42 (dk_at dksX7_count_4 15 rfl rfl)
theorem dX7_count_108 : decode cX7_count 108 = .ok (.getfield 44, 3) := dk_180 0 44 (dk_at dksX7_count_4 16 rfl rfl)
theorem dX7_count_111 : decode cX7_count 111 = .ok (.iload_n 1, 1) := dk_27 (dk_at dksX7_count_4 19 rfl rfl)
theorem dX7_count_112 : decode cX7_count 112 = .ok (.bipush 9, 2) := dk_16 9 (dk_at dksX7_count_4 20 rfl rfl)
theorem dX7_count_114 : decode cX7_count 114 = .ok (.isub, 1) := dk_100 (dk_at dksX7_count_4 22 rfl rfl)
theorem dX7_count_115 : decode cX7_count 115 = .ok (.iaload, 1) := dk_46 (dk_at dksX7_count_4 23 rfl rfl)
theorem dX7_count_116 : decode cX7_count 116 = .ok (.ireturn, 1) := dk_172 (dk_at dksX7_count_5 0 rfl rfl)
theorem dX7_count_117 : decode cX7_count 117 = .ok (.iload_n 1, 1) := dk_27 (dk_at dksX7_count_5 1 rfl rfl)
theorem dX7_count_118 : decode cX7_count 118 = .ok (.bipush 20, 2) := dk_16 20 (dk_at dksX7_count_5 2 rfl rfl)
theorem dX7_count_120 : decode cX7_count 120 = .ok (.bipush 27, 2) := dk_16 27 (dk_at dksX7_count_5 4 rfl rfl)
theorem dX7_count_122 : decode cX7_count 122 = .ok (.invokestatic 126, 3) := dk_184 0 126 (dk_at dksX7_count_5 6 rfl rfl)
theorem dX7_count_125 : decode cX7_count 125 = .ok (.ifCond .eq 27, 3) := dk_153 0 27 (dk_at dksX7_count_5 9 rfl rfl)
theorem dX7_count_128 : decode cX7_count 128 = .ok (.aload_n 0, 1) := dk_42 (dk_at dksX7_count_5 12 rfl rfl)
theorem dX7_count_129 : decode cX7_count 129 = .ok (.iload_n 1, 1) := dk_27 (dk_at dksX7_count_5 13 rfl rfl)
theorem dX7_count_130 : decode cX7_count 130 = .ok (.bipush 20, 2) := dk_16 20 (dk_at dksX7_count_5 14 rfl rfl)
theorem dX7_count_132 : decode cX7_count 132 = .ok (.isub, 1) := dk_100 (dk_at dksX7_count_5 16 rfl rfl)
theorem dX7_count_133 : decode cX7_count 133 = .ok (.invokevirtual 259, 3) := dk_182 1 3 (dk_at dksX7_count_5 17 rfl rfl)
theorem dX7_count_136 : decode cX7_count 136 = .ok (.ifCond .eq 16, 3) := dk_153 0 16 (dk_at dksX7_count_5 20 rfl rfl)
theorem dX7_count_139 : decode cX7_count 139 = .ok (.aload_n 0, 1) := dk_42 (dk_at dksX7_count_5 23 rfl rfl)
theorem dX7_count_140 : decode cX7_count 140 = .ok (.getfield 7, 3) := dk_180 0 7 (dk_at dksX7_count_6 0 rfl rfl)
theorem dX7_count_143 : decode cX7_count 143 = .ok (.bipush 52, 2) := dk_16 52 (dk_at dksX7_count_6 3 rfl rfl)
theorem dX7_count_145 : decode cX7_count 145 = .ok (.iload_n 1, 1) := dk_27 (dk_at dksX7_count_6 5 rfl rfl)
theorem dX7_count_146 : decode cX7_count 146 = .ok (.iadd, 1) := dk_96 (dk_at dksX7_count_6 6 rfl rfl)
theorem dX7_count_147 : decode cX7_count 147 = .ok (.bipush 20, 2) := dk_16 20 (dk_at dksX7_count_6 7 rfl rfl)
theorem dX7_count_149 : decode cX7_count 149 = .ok (.isub, 1) := dk_100 (dk_at dksX7_count_6 9 rfl rfl)
theorem dX7_count_150 : decode cX7_count 150 = .ok (.iaload, 1) := dk_46 (dk_at dksX7_count_6 10 rfl rfl)
theorem dX7_count_151 : decode cX7_count 151 = .ok (.ireturn, 1) := dk_172 (dk_at dksX7_count_6 11 rfl rfl)
theorem dX7_count_152 : decode cX7_count 152 = .ok (.iload_n 1, 1) := dk_27 (dk_at dksX7_count_6 12 rfl rfl)
theorem dX7_count_153 : decode cX7_count 153 = .ok (.bipush 30, 2) := dk_16 30 (dk_at dksX7_count_6 13 rfl rfl)
theorem dX7_count_155 : decode cX7_count 155 = .ok (.bipush 37, 2) := dk_16 37 (dk_at dksX7_count_6 15 rfl rfl)
theorem dX7_count_157 : decode cX7_count 157 = .ok (.invokestatic 126, 3) := dk_184 0 126 (dk_at dksX7_count_6 17 rfl rfl)
theorem dX7_count_160 : decode cX7_count 160 = .ok (.ifCond .eq 27, 3) := dk_153 0 27 (dk_at dksX7_count_6 20 rfl rfl)
theorem dX7_count_163 : decode cX7_count 163 = .ok (.aload_n 0, 1) := dk_42 (dk_at dksX7_count_6 23 rfl rfl)
theorem dX7_count_164 : decode cX7_count 164 = .ok (.iload_n 1, 1) := dk_27 (dk_at dksX7_count_7 0 rfl rfl)
theorem dX7_count_165 : decode cX7_count 165 = .ok (.bipush 30, 2) := dk_16 30 (dk_at dksX7_count_7 1 rfl rfl)
theorem dX7_count_167 : decode cX7_count 167 = .ok (.isub, 1) := dk_100 (dk_at dksX7_count_7 3 rfl rfl)
theorem dX7_count_168 : decode cX7_count 168 = .ok (.invokevirtual 259, 3) := dk_182 1 3 (dk_at dksX7_count_7 4 rfl rfl)
theorem dX7_count_171 : decode cX7_count 171 = .ok (.ifCond .eq 16, 3) := dk_153 0 16 (dk_at dksX7_count_7 7 rfl rfl)
theorem dX7_count_174 : decode cX7_count 174 = .ok (.aload_n 0, 1) := dk_42 (dk_at dksX7_count_7 10 rfl rfl)
theorem dX7_count_175 : decode cX7_count 175 = .ok (.getfield 7, 3) := dk_180 0 7 (dk_at dksX7_count_7 11 rfl rfl)
theorem dX7_count_178 : decode cX7_count 178 = .ok (.bipush 60, 2) := dk_16 60 (dk_at dksX7_count_7 14 rfl rfl)
theorem dX7_count_180 : decode cX7_count 180 = .ok (.iload_n 1, 1) := dk_27 (dk_at dksX7_count_7 16 rfl rfl)
theorem dX7_count_181 : decode cX7_count 181 = .ok (.iadd, 1) := dk_96 (dk_at dksX7_count_7 17 rfl rfl)
theorem dX7_count_182 : decode cX7_count 182 = .ok (.bipush 30, 2) := dk_16 30 (dk_at dksX7_count_7 18 rfl rfl)
theorem dX7_count_184 : decode cX7_count 184 = .ok (.isub, 1) := dk_100 (dk_at dksX7_count_7 20 rfl rfl)
theorem dX7_count_185 : decode cX7_count 185 = .ok (.iaload, 1) := dk_46 (dk_at dksX7_count_7 21 rfl rfl)
theorem dX7_count_186 : decode cX7_count 186 = .ok (.ireturn, 1) := dk_172 (dk_at dksX7_count_7 22 rfl rfl)
theorem dX7_count_187 : decode cX7_count 187 = .ok (.iload_n 1, 1) := dk_27 (dk_at dksX7_count_7 23 rfl rfl)
theorem dX7_count_188 : decode cX7_count 188 = .ok (.bipush 40, 2) := dk_16 40 (dk_at dksX7_count_8 0 rfl rfl)
theorem dX7_count_190 : decode cX7_count 190 = .ok (.bipush 47, 2) := dk_16 47 (dk_at dksX7_count_8 2 rfl rfl)
theorem dX7_count_192 : decode cX7_count 192 = .ok (.invokestatic 126, 3) := dk_184 0 126 (dk_at dksX7_count_8 4 rfl rfl)
theorem dX7_count_195 : decode cX7_count 195 = .ok (.ifCond .eq 29, 3) := dk_153 0 29 (dk_at dksX7_count_8 7 rfl rfl)
theorem dX7_count_198 : decode cX7_count 198 = .ok (.aload_n 0, 1) := dk_42 (dk_at dksX7_count_8 10 rfl rfl)
theorem dX7_count_199 : decode cX7_count 199 = .ok (.iload_n 1, 1) := dk_27 (dk_at dksX7_count_8 11 rfl rfl)
theorem dX7_count_200 : decode cX7_count 200 = .ok (.bipush 40, 2) := dk_16 40 (dk_at dksX7_count_8 12 rfl rfl)
theorem dX7_count_202 : decode cX7_count 202 = .ok (.isub, 1) := dk_100 (dk_at dksX7_count_8 14 rfl rfl)
theorem dX7_count_203 : decode cX7_count 203 = .ok (.invokevirtual 259, 3) := dk_182 1 3 (dk_at dksX7_count_8 15 rfl rfl)
theorem dX7_count_206 : decode cX7_count 206 = .ok (.ifCond .eq 18, 3) := dk_153 0 18 (dk_at dksX7_count_8 18 rfl rfl)
theorem dX7_count_209 : decode cX7_count 209 = .ok (.aload_n 0, 1) := dk_42 (dk_at dksX7_count_8 21 rfl rfl)
theorem dX7_count_210 : decode cX7_count 210 = .ok (.getfield 7, 3) := dk_180 0 7 (dk_at dksX7_count_9 0 rfl rfl)
theorem dX7_count_213 : decode cX7_count 213 = .ok (.bipush 68, 2) := dk_16 68 (dk_at dksX7_count_9 3 rfl rfl)
theorem dX7_count_215 : decode cX7_count 215 = .ok (.iload_n 1, 1) := dk_27 (dk_at dksX7_count_9 5 rfl rfl)
theorem dX7_count_216 : decode cX7_count 216 = .ok (.iadd, 1) := dk_96 (dk_at dksX7_count_9 6 rfl rfl)
theorem dX7_count_217 : decode cX7_count 217 = .ok (.bipush 40, 2) := dk_16 40 (dk_at dksX7_count_9 7 rfl rfl)
theorem dX7_count_219 : decode cX7_count 219 = .ok (.isub, 1) := dk_100 (dk_at dksX7_count_9 9 rfl rfl)
theorem dX7_count_220 : decode cX7_count 220 = .ok (.iaload, 1) := dk_46 (dk_at dksX7_count_9 10 rfl rfl)
theorem dX7_count_221 : decode cX7_count 221 = .ok (.goto 4, 3) := dk_167 0 4 (dk_at dksX7_count_9 11 rfl rfl)
theorem dX7_count_224 : decode cX7_count 224 = .ok (.iconst (-1), 1) := dk_2 (dk_at dksX7_count_9 14 rfl rfl)
theorem dX7_count_225 : decode cX7_count 225 = .ok (.ireturn, 1) := dk_172 (dk_at dksX7_count_9 15 rfl rfl)
theorem q112 : (Jvm.Cond.initialized "LandingTreeModel") ∈ lw_all := lw_g (lw_at lw_m1 8 rfl) rfl
theorem q1219 : (Jvm.Cond.instantiable "LandingTreeModel" (54 : Nat)) ∈ lw_all := lw_g (lw_at lw_m5 155 rfl) rfl
theorem q1221 : (Jvm.Cond.instanceMethod ({ cls := "LandingTreeModel", name := "<init>", desc := "()V" } : Jvm.MethodName)) ∈ lw_all := lw_g (lw_at lw_m5 157 rfl) rfl
theorem q1222 : (Jvm.Cond.code ({ cls := "LandingTreeModel", name := "<init>", desc := "()V" } : Jvm.MethodName) prog_19_method_1_code (1 : Nat) (Option.none : Option Jvm.ClassFile.FieldType)) ∈ lw_all := lw_g (lw_at lw_m5 158 rfl) rfl
theorem q1223 : (Jvm.Cond.methodLink "LandingTreeModel" (1 : Nat) ({ cls := "java/lang/Object", name := "<init>", desc := "()V" } : Jvm.MethodName)) ∈ lw_all := lw_g (lw_at lw_m5 159 rfl) rfl
theorem q1224 : (Jvm.Cond.fieldLink "LandingTreeModel" (7 : Nat) "LandingTreeModel" "now" "[I") ∈ lw_all := lw_g (lw_at lw_m5 160 rfl) rfl
theorem q1225 : (Jvm.Cond.fieldLink "LandingTreeModel" (13 : Nat) "LandingTreeModel" "aside" "[I") ∈ lw_all := lw_g (lw_at lw_m5 161 rfl) rfl
theorem q1226 : (Jvm.Cond.fieldLink "LandingTreeModel" (16 : Nat) "LandingTreeModel" "kept" "[I") ∈ lw_all := lw_g (lw_at lw_m5 162 rfl) rfl
theorem q1227 : (Jvm.Cond.fieldLink "LandingTreeModel" (19 : Nat) "LandingTreeModel" "tape" "[B") ∈ lw_all := lw_g (lw_at lw_m5 163 rfl) rfl
theorem q1228 : (Jvm.Cond.fieldLink "LandingTreeModel" (137 : Nat) "LandingTreeModel" "taped" "I") ∈ lw_all := lw_g (lw_at lw_m5 164 rfl) rfl
theorem q1229 : (Jvm.Cond.fieldLink "LandingTreeModel" (144 : Nat) "LandingTreeModel" "place0" "I") ∈ lw_all := lw_g (lw_at lw_m5 165 rfl) rfl
theorem q1230 : (Jvm.Cond.fieldLink "LandingTreeModel" (147 : Nat) "LandingTreeModel" "length0" "I") ∈ lw_all := lw_g (lw_at lw_m5 166 rfl) rfl
theorem q1231 : (Jvm.Cond.fieldLink "LandingTreeModel" (154 : Nat) "LandingTreeModel" "fault" "I") ∈ lw_all := lw_g (lw_at lw_m5 167 rfl) rfl
theorem q1232 : (Jvm.Cond.fieldLink "LandingTreeModel" (160 : Nat) "LandingTreeModel" "number0" "I") ∈ lw_all := lw_g (lw_at lw_m5 168 rfl) rfl
theorem q1233 : (Jvm.Cond.fieldLink "LandingTreeModel" (171 : Nat) "LandingTreeModel" "open" "I") ∈ lw_all := lw_g (lw_at lw_m5 169 rfl) rfl
theorem q1234 : (Jvm.Cond.fieldLink "LandingTreeModel" (167 : Nat) "LandingTreeModel" "codeMany" "I") ∈ lw_all := lw_g (lw_at lw_m5 170 rfl) rfl
theorem q1235 : (Jvm.Cond.fieldLink "LandingTreeModel" (174 : Nat) "LandingTreeModel" "waiting" "I") ∈ lw_all := lw_g (lw_at lw_m5 171 rfl) rfl
theorem q1236 : (Jvm.Cond.fieldLink "LandingTreeModel" (225 : Nat) "LandingTreeModel" "saidMany" "I") ∈ lw_all := lw_g (lw_at lw_m5 172 rfl) rfl
theorem q1237 : (Jvm.Cond.fieldLink "LandingTreeModel" (23 : Nat) "LandingTreeModel" "said" "[I") ∈ lw_all := lw_g (lw_at lw_m5 173 rfl) rfl
theorem q1238 : (Jvm.Cond.fieldLink "LandingTreeModel" (26 : Nat) "LandingTreeModel" "waitsAt" "[I") ∈ lw_all := lw_g (lw_at lw_m5 174 rfl) rfl
theorem q1239 : (Jvm.Cond.fieldLink "LandingTreeModel" (29 : Nat) "LandingTreeModel" "saidLetter" "[I") ∈ lw_all := lw_g (lw_at lw_m5 175 rfl) rfl
theorem q1240 : (Jvm.Cond.fieldLink "LandingTreeModel" (32 : Nat) "LandingTreeModel" "saidFrom" "[I") ∈ lw_all := lw_g (lw_at lw_m5 176 rfl) rfl
theorem q1241 : (Jvm.Cond.fieldLink "LandingTreeModel" (35 : Nat) "LandingTreeModel" "saidHalf" "[I") ∈ lw_all := lw_g (lw_at lw_m5 177 rfl) rfl
theorem q1242 : (Jvm.Cond.fieldLink "LandingTreeModel" (38 : Nat) "LandingTreeModel" "saidTo" "[I") ∈ lw_all := lw_g (lw_at lw_m5 178 rfl) rfl
theorem q1243 : (Jvm.Cond.fieldLink "LandingTreeModel" (41 : Nat) "LandingTreeModel" "codes" "[I") ∈ lw_all := lw_g (lw_at lw_m5 179 rfl) rfl
theorem q1244 : (Jvm.Cond.fieldLink "LandingTreeModel" (44 : Nat) "LandingTreeModel" "clauseMany" "[I") ∈ lw_all := lw_g (lw_at lw_m5 180 rfl) rfl
theorem q1245 : (Jvm.Cond.fieldLink "LandingTreeModel" (47 : Nat) "LandingTreeModel" "clauseOf" "[I") ∈ lw_all := lw_g (lw_at lw_m5 181 rfl) rfl
theorem q1246 : (Jvm.Cond.fieldLink "LandingTreeModel" (50 : Nat) "LandingTreeModel" "codeFrom" "[I") ∈ lw_all := lw_g (lw_at lw_m5 182 rfl) rfl
theorem q1247 : (Jvm.Cond.fieldLink "LandingTreeModel" (53 : Nat) "LandingTreeModel" "codeHalf" "[I") ∈ lw_all := lw_g (lw_at lw_m5 183 rfl) rfl
theorem q1248 : (Jvm.Cond.fieldLink "LandingTreeModel" (56 : Nat) "LandingTreeModel" "codeTo" "[I") ∈ lw_all := lw_g (lw_at lw_m5 184 rfl) rfl
theorem q1249 : (Jvm.Cond.fieldLink "LandingTreeModel" (59 : Nat) "LandingTreeModel" "stack" "[I") ∈ lw_all := lw_g (lw_at lw_m5 185 rfl) rfl
theorem q1250 : (Jvm.Cond.fieldLink "LandingTreeModel" (62 : Nat) "LandingTreeModel" "facts" "[I") ∈ lw_all := lw_g (lw_at lw_m5 186 rfl) rfl
theorem q1251 : (Jvm.Cond.fieldLink "LandingTreeModel" (266 : Nat) "LandingTreeModel" "cupsNow" "I") ∈ lw_all := lw_g (lw_at lw_m5 187 rfl) rfl
theorem q1252 : (Jvm.Cond.fieldLink "LandingTreeModel" (269 : Nat) "LandingTreeModel" "overNow" "I") ∈ lw_all := lw_g (lw_at lw_m5 188 rfl) rfl
theorem q1253 : (Jvm.Cond.fieldLink "LandingTreeModel" (281 : Nat) "LandingTreeModel" "sunnyNow" "I") ∈ lw_all := lw_g (lw_at lw_m5 189 rfl) rfl
theorem q1254 : (Jvm.Cond.fieldLink "LandingTreeModel" (65 : Nat) "LandingTreeModel" "givenNow" "[I") ∈ lw_all := lw_g (lw_at lw_m5 190 rfl) rfl
theorem q1255 : (Jvm.Cond.fieldLink "LandingTreeModel" (108 : Nat) "LandingTreeModel" "ruleCups" "I") ∈ lw_all := lw_g (lw_at lw_m5 191 rfl) rfl
theorem q1256 : (Jvm.Cond.fieldLink "LandingTreeModel" (310 : Nat) "LandingTreeModel" "ruleBelow" "I") ∈ lw_all := lw_g (lw_at lw_m5 192 rfl) rfl
theorem q1257 : (Jvm.Cond.fieldLink "LandingTreeModel" (298 : Nat) "LandingTreeModel" "thePlant" "I") ∈ lw_all := lw_g (lw_at lw_m5 193 rfl) rfl
theorem q1258 : (Jvm.Cond.fieldLink "LandingTreeModel" (301 : Nat) "LandingTreeModel" "theSeen" "I") ∈ lw_all := lw_g (lw_at lw_m5 194 rfl) rfl
theorem q1259 : (Jvm.Cond.fieldLink "LandingTreeModel" (68 : Nat) "LandingTreeModel" "someOf" "[I") ∈ lw_all := lw_g (lw_at lw_m5 195 rfl) rfl
theorem q1260 : (Jvm.Cond.fieldLink "LandingTreeModel" (71 : Nat) "LandingTreeModel" "someTenths" "[I") ∈ lw_all := lw_g (lw_at lw_m5 196 rfl) rfl
theorem q1261 : (Jvm.Cond.fieldLink "LandingTreeModel" (74 : Nat) "LandingTreeModel" "weightOf" "[J") ∈ lw_all := lw_g (lw_at lw_m5 197 rfl) rfl
theorem q1262 : (Jvm.Cond.fieldLink "LandingTreeModel" (78 : Nat) "LandingTreeModel" "weightThen" "[J") ∈ lw_all := lw_g (lw_at lw_m5 198 rfl) rfl
theorem q1263 : (Jvm.Cond.fieldLink "LandingTreeModel" (321 : Nat) "LandingTreeModel" "deadWeight" "J") ∈ lw_all := lw_g (lw_at lw_m5 199 rfl) rfl
theorem q1264 : (Jvm.Cond.fieldLink "LandingTreeModel" (81 : Nat) "LandingTreeModel" "wetNow" "[J") ∈ lw_all := lw_g (lw_at lw_m5 200 rfl) rfl
theorem q1265 : (Jvm.Cond.fieldLink "LandingTreeModel" (84 : Nat) "LandingTreeModel" "wetThen" "[J") ∈ lw_all := lw_g (lw_at lw_m5 201 rfl) rfl
theorem q1266 : (Jvm.Cond.fieldLink "LandingTreeModel" (87 : Nat) "LandingTreeModel" "lastsBy" "[I") ∈ lw_all := lw_g (lw_at lw_m5 202 rfl) rfl
theorem q1267 : (Jvm.Cond.fieldLink "LandingTreeModel" (90 : Nat) "LandingTreeModel" "spreadNow" "[I") ∈ lw_all := lw_g (lw_at lw_m5 203 rfl) rfl
theorem q1268 : (Jvm.Cond.fieldLink "LandingTreeModel" (93 : Nat) "LandingTreeModel" "spreadBest" "[I") ∈ lw_all := lw_g (lw_at lw_m5 204 rfl) rfl
theorem q1269 : (Jvm.Cond.fieldLink "LandingTreeModel" (96 : Nat) "LandingTreeModel" "comeMany" "[J") ∈ lw_all := lw_g (lw_at lw_m5 205 rfl) rfl
theorem q1270 : (Jvm.Cond.fieldLink "LandingTreeModel" (392 : Nat) "LandingTreeModel" "rotaMany" "I") ∈ lw_all := lw_g (lw_at lw_m5 206 rfl) rfl
theorem q1271 : (Jvm.Cond.fieldLink "LandingTreeModel" (389 : Nat) "LandingTreeModel" "weeks" "I") ∈ lw_all := lw_g (lw_at lw_m5 207 rfl) rfl
theorem q1272 : (Jvm.Cond.fieldLink "LandingTreeModel" (99 : Nat) "LandingTreeModel" "rotaWho" "[I") ∈ lw_all := lw_g (lw_at lw_m5 208 rfl) rfl
theorem q1273 : (Jvm.Cond.fieldLink "LandingTreeModel" (395 : Nat) "LandingTreeModel" "rotaDead" "I") ∈ lw_all := lw_g (lw_at lw_m5 209 rfl) rfl
theorem q1274 : (Jvm.Cond.fieldLink "LandingTreeModel" (398 : Nat) "LandingTreeModel" "rotaWet" "I") ∈ lw_all := lw_g (lw_at lw_m5 210 rfl) rfl
theorem q1275 : (Jvm.Cond.fieldLink "LandingTreeModel" (102 : Nat) "LandingTreeModel" "costOf" "[I") ∈ lw_all := lw_g (lw_at lw_m5 211 rfl) rfl
theorem q1276 : (Jvm.Cond.fieldLink "LandingTreeModel" (105 : Nat) "LandingTreeModel" "worthOf" "[I") ∈ lw_all := lw_g (lw_at lw_m5 212 rfl) rfl
theorem q1277 : (Jvm.Cond.fieldLink "LandingTreeModel" (417 : Nat) "LandingTreeModel" "isKept" "Z") ∈ lw_all := lw_g (lw_at lw_m5 213 rfl) rfl
theorem q1278 : (Jvm.Cond.laysFinal "LandingTreeModel" "LandingTreeModel" "now" "[I") ∈ lw_all := lw_g (lw_at lw_m5 214 rfl) rfl
theorem q1279 : (Jvm.Cond.soleField "LandingTreeModel" "now") ∈ lw_all := lw_g (lw_at lw_m5 215 rfl) rfl
theorem q1280 : (Jvm.Cond.laysFinal "LandingTreeModel" "LandingTreeModel" "aside" "[I") ∈ lw_all := lw_g (lw_at lw_m5 216 rfl) rfl
theorem q1281 : (Jvm.Cond.soleField "LandingTreeModel" "aside") ∈ lw_all := lw_g (lw_at lw_m5 217 rfl) rfl
theorem q1282 : (Jvm.Cond.laysFinal "LandingTreeModel" "LandingTreeModel" "kept" "[I") ∈ lw_all := lw_g (lw_at lw_m5 218 rfl) rfl
theorem q1283 : (Jvm.Cond.soleField "LandingTreeModel" "kept") ∈ lw_all := lw_g (lw_at lw_m5 219 rfl) rfl
theorem q1284 : (Jvm.Cond.laysFinal "LandingTreeModel" "LandingTreeModel" "tape" "[B") ∈ lw_all := lw_g (lw_at lw_m5 220 rfl) rfl
theorem q1285 : (Jvm.Cond.soleField "LandingTreeModel" "tape") ∈ lw_all := lw_g (lw_at lw_m5 221 rfl) rfl
theorem q1286 : (Jvm.Cond.lays "LandingTreeModel" "LandingTreeModel" "taped" "I") ∈ lw_all := lw_g (lw_at lw_m5 222 rfl) rfl
theorem q1287 : (Jvm.Cond.soleField "LandingTreeModel" "taped") ∈ lw_all := lw_g (lw_at lw_m5 223 rfl) rfl
theorem q1288 : (Jvm.Cond.lays "LandingTreeModel" "LandingTreeModel" "place0" "I") ∈ lw_all := lw_g (lw_at lw_m5 224 rfl) rfl
theorem q1289 : (Jvm.Cond.soleField "LandingTreeModel" "place0") ∈ lw_all := lw_g (lw_at lw_m5 225 rfl) rfl
theorem q1290 : (Jvm.Cond.lays "LandingTreeModel" "LandingTreeModel" "length0" "I") ∈ lw_all := lw_g (lw_at lw_m5 226 rfl) rfl
theorem q1291 : (Jvm.Cond.soleField "LandingTreeModel" "length0") ∈ lw_all := lw_g (lw_at lw_m5 227 rfl) rfl
theorem q1292 : (Jvm.Cond.lays "LandingTreeModel" "LandingTreeModel" "fault" "I") ∈ lw_all := lw_g (lw_at lw_m5 228 rfl) rfl
theorem q1293 : (Jvm.Cond.soleField "LandingTreeModel" "fault") ∈ lw_all := lw_g (lw_at lw_m5 229 rfl) rfl
theorem q1294 : (Jvm.Cond.lays "LandingTreeModel" "LandingTreeModel" "number0" "I") ∈ lw_all := lw_g (lw_at lw_m5 230 rfl) rfl
theorem q1295 : (Jvm.Cond.soleField "LandingTreeModel" "number0") ∈ lw_all := lw_g (lw_at lw_m5 231 rfl) rfl
theorem q1296 : (Jvm.Cond.lays "LandingTreeModel" "LandingTreeModel" "open" "I") ∈ lw_all := lw_g (lw_at lw_m5 232 rfl) rfl
theorem q1297 : (Jvm.Cond.soleField "LandingTreeModel" "open") ∈ lw_all := lw_g (lw_at lw_m5 233 rfl) rfl
theorem q1298 : (Jvm.Cond.lays "LandingTreeModel" "LandingTreeModel" "codeMany" "I") ∈ lw_all := lw_g (lw_at lw_m5 234 rfl) rfl
theorem q1299 : (Jvm.Cond.soleField "LandingTreeModel" "codeMany") ∈ lw_all := lw_g (lw_at lw_m5 235 rfl) rfl
theorem q1300 : (Jvm.Cond.lays "LandingTreeModel" "LandingTreeModel" "waiting" "I") ∈ lw_all := lw_g (lw_at lw_m5 236 rfl) rfl
theorem q1301 : (Jvm.Cond.soleField "LandingTreeModel" "waiting") ∈ lw_all := lw_g (lw_at lw_m5 237 rfl) rfl
theorem q1302 : (Jvm.Cond.lays "LandingTreeModel" "LandingTreeModel" "saidMany" "I") ∈ lw_all := lw_g (lw_at lw_m5 238 rfl) rfl
theorem q1303 : (Jvm.Cond.soleField "LandingTreeModel" "saidMany") ∈ lw_all := lw_g (lw_at lw_m5 239 rfl) rfl
theorem q1304 : (Jvm.Cond.laysFinal "LandingTreeModel" "LandingTreeModel" "said" "[I") ∈ lw_all := lw_g (lw_at lw_m6 0 rfl) rfl
theorem q1305 : (Jvm.Cond.soleField "LandingTreeModel" "said") ∈ lw_all := lw_g (lw_at lw_m6 1 rfl) rfl
theorem q1306 : (Jvm.Cond.laysFinal "LandingTreeModel" "LandingTreeModel" "waitsAt" "[I") ∈ lw_all := lw_g (lw_at lw_m6 2 rfl) rfl
theorem q1307 : (Jvm.Cond.soleField "LandingTreeModel" "waitsAt") ∈ lw_all := lw_g (lw_at lw_m6 3 rfl) rfl
theorem q1308 : (Jvm.Cond.laysFinal "LandingTreeModel" "LandingTreeModel" "saidLetter" "[I") ∈ lw_all := lw_g (lw_at lw_m6 4 rfl) rfl
theorem q1309 : (Jvm.Cond.soleField "LandingTreeModel" "saidLetter") ∈ lw_all := lw_g (lw_at lw_m6 5 rfl) rfl
theorem q1310 : (Jvm.Cond.laysFinal "LandingTreeModel" "LandingTreeModel" "saidFrom" "[I") ∈ lw_all := lw_g (lw_at lw_m6 6 rfl) rfl
theorem q1311 : (Jvm.Cond.soleField "LandingTreeModel" "saidFrom") ∈ lw_all := lw_g (lw_at lw_m6 7 rfl) rfl
theorem q1312 : (Jvm.Cond.laysFinal "LandingTreeModel" "LandingTreeModel" "saidHalf" "[I") ∈ lw_all := lw_g (lw_at lw_m6 8 rfl) rfl
theorem q1313 : (Jvm.Cond.soleField "LandingTreeModel" "saidHalf") ∈ lw_all := lw_g (lw_at lw_m6 9 rfl) rfl
theorem q1314 : (Jvm.Cond.laysFinal "LandingTreeModel" "LandingTreeModel" "saidTo" "[I") ∈ lw_all := lw_g (lw_at lw_m6 10 rfl) rfl
theorem q1315 : (Jvm.Cond.soleField "LandingTreeModel" "saidTo") ∈ lw_all := lw_g (lw_at lw_m6 11 rfl) rfl
theorem q1316 : (Jvm.Cond.laysFinal "LandingTreeModel" "LandingTreeModel" "codes" "[I") ∈ lw_all := lw_g (lw_at lw_m6 12 rfl) rfl
theorem q1317 : (Jvm.Cond.soleField "LandingTreeModel" "codes") ∈ lw_all := lw_g (lw_at lw_m6 13 rfl) rfl
theorem q1318 : (Jvm.Cond.laysFinal "LandingTreeModel" "LandingTreeModel" "clauseMany" "[I") ∈ lw_all := lw_g (lw_at lw_m6 14 rfl) rfl
theorem q1319 : (Jvm.Cond.soleField "LandingTreeModel" "clauseMany") ∈ lw_all := lw_g (lw_at lw_m6 15 rfl) rfl
theorem q1320 : (Jvm.Cond.laysFinal "LandingTreeModel" "LandingTreeModel" "clauseOf" "[I") ∈ lw_all := lw_g (lw_at lw_m6 16 rfl) rfl
theorem q1321 : (Jvm.Cond.soleField "LandingTreeModel" "clauseOf") ∈ lw_all := lw_g (lw_at lw_m6 17 rfl) rfl
theorem q1322 : (Jvm.Cond.laysFinal "LandingTreeModel" "LandingTreeModel" "codeFrom" "[I") ∈ lw_all := lw_g (lw_at lw_m6 18 rfl) rfl
theorem q1323 : (Jvm.Cond.soleField "LandingTreeModel" "codeFrom") ∈ lw_all := lw_g (lw_at lw_m6 19 rfl) rfl
theorem q1324 : (Jvm.Cond.laysFinal "LandingTreeModel" "LandingTreeModel" "codeHalf" "[I") ∈ lw_all := lw_g (lw_at lw_m6 20 rfl) rfl
theorem q1325 : (Jvm.Cond.soleField "LandingTreeModel" "codeHalf") ∈ lw_all := lw_g (lw_at lw_m6 21 rfl) rfl
theorem q1326 : (Jvm.Cond.laysFinal "LandingTreeModel" "LandingTreeModel" "codeTo" "[I") ∈ lw_all := lw_g (lw_at lw_m6 22 rfl) rfl
theorem q1327 : (Jvm.Cond.soleField "LandingTreeModel" "codeTo") ∈ lw_all := lw_g (lw_at lw_m6 23 rfl) rfl
theorem q1328 : (Jvm.Cond.laysFinal "LandingTreeModel" "LandingTreeModel" "stack" "[I") ∈ lw_all := lw_g (lw_at lw_m6 24 rfl) rfl
theorem q1329 : (Jvm.Cond.soleField "LandingTreeModel" "stack") ∈ lw_all := lw_g (lw_at lw_m6 25 rfl) rfl
theorem q1330 : (Jvm.Cond.laysFinal "LandingTreeModel" "LandingTreeModel" "facts" "[I") ∈ lw_all := lw_g (lw_at lw_m6 26 rfl) rfl
theorem q1331 : (Jvm.Cond.soleField "LandingTreeModel" "facts") ∈ lw_all := lw_g (lw_at lw_m6 27 rfl) rfl
theorem q1332 : (Jvm.Cond.lays "LandingTreeModel" "LandingTreeModel" "cupsNow" "I") ∈ lw_all := lw_g (lw_at lw_m6 28 rfl) rfl
theorem q1333 : (Jvm.Cond.soleField "LandingTreeModel" "cupsNow") ∈ lw_all := lw_g (lw_at lw_m6 29 rfl) rfl
theorem q1334 : (Jvm.Cond.lays "LandingTreeModel" "LandingTreeModel" "overNow" "I") ∈ lw_all := lw_g (lw_at lw_m6 30 rfl) rfl
theorem q1335 : (Jvm.Cond.soleField "LandingTreeModel" "overNow") ∈ lw_all := lw_g (lw_at lw_m6 31 rfl) rfl
theorem q1336 : (Jvm.Cond.lays "LandingTreeModel" "LandingTreeModel" "sunnyNow" "I") ∈ lw_all := lw_g (lw_at lw_m6 32 rfl) rfl
theorem q1337 : (Jvm.Cond.soleField "LandingTreeModel" "sunnyNow") ∈ lw_all := lw_g (lw_at lw_m6 33 rfl) rfl
theorem q1338 : (Jvm.Cond.laysFinal "LandingTreeModel" "LandingTreeModel" "givenNow" "[I") ∈ lw_all := lw_g (lw_at lw_m6 34 rfl) rfl
theorem q1339 : (Jvm.Cond.soleField "LandingTreeModel" "givenNow") ∈ lw_all := lw_g (lw_at lw_m6 35 rfl) rfl
theorem q1340 : (Jvm.Cond.lays "LandingTreeModel" "LandingTreeModel" "ruleCups" "I") ∈ lw_all := lw_g (lw_at lw_m6 36 rfl) rfl
theorem q1341 : (Jvm.Cond.soleField "LandingTreeModel" "ruleCups") ∈ lw_all := lw_g (lw_at lw_m6 37 rfl) rfl
theorem q1342 : (Jvm.Cond.lays "LandingTreeModel" "LandingTreeModel" "ruleBelow" "I") ∈ lw_all := lw_g (lw_at lw_m6 38 rfl) rfl
theorem q1343 : (Jvm.Cond.soleField "LandingTreeModel" "ruleBelow") ∈ lw_all := lw_g (lw_at lw_m6 39 rfl) rfl
theorem q1344 : (Jvm.Cond.lays "LandingTreeModel" "LandingTreeModel" "thePlant" "I") ∈ lw_all := lw_g (lw_at lw_m6 40 rfl) rfl
theorem q1345 : (Jvm.Cond.soleField "LandingTreeModel" "thePlant") ∈ lw_all := lw_g (lw_at lw_m6 41 rfl) rfl
theorem q1346 : (Jvm.Cond.lays "LandingTreeModel" "LandingTreeModel" "theSeen" "I") ∈ lw_all := lw_g (lw_at lw_m6 42 rfl) rfl
theorem q1347 : (Jvm.Cond.soleField "LandingTreeModel" "theSeen") ∈ lw_all := lw_g (lw_at lw_m6 43 rfl) rfl
theorem q1348 : (Jvm.Cond.laysFinal "LandingTreeModel" "LandingTreeModel" "someOf" "[I") ∈ lw_all := lw_g (lw_at lw_m6 44 rfl) rfl
theorem q1349 : (Jvm.Cond.soleField "LandingTreeModel" "someOf") ∈ lw_all := lw_g (lw_at lw_m6 45 rfl) rfl
theorem q1350 : (Jvm.Cond.laysFinal "LandingTreeModel" "LandingTreeModel" "someTenths" "[I") ∈ lw_all := lw_g (lw_at lw_m6 46 rfl) rfl
theorem q1351 : (Jvm.Cond.soleField "LandingTreeModel" "someTenths") ∈ lw_all := lw_g (lw_at lw_m6 47 rfl) rfl
theorem q1352 : (Jvm.Cond.laysFinal "LandingTreeModel" "LandingTreeModel" "weightOf" "[J") ∈ lw_all := lw_g (lw_at lw_m6 48 rfl) rfl
theorem q1353 : (Jvm.Cond.soleField "LandingTreeModel" "weightOf") ∈ lw_all := lw_g (lw_at lw_m6 49 rfl) rfl
theorem q1354 : (Jvm.Cond.laysFinal "LandingTreeModel" "LandingTreeModel" "weightThen" "[J") ∈ lw_all := lw_g (lw_at lw_m6 50 rfl) rfl
theorem q1355 : (Jvm.Cond.soleField "LandingTreeModel" "weightThen") ∈ lw_all := lw_g (lw_at lw_m6 51 rfl) rfl
theorem q1356 : (Jvm.Cond.lays "LandingTreeModel" "LandingTreeModel" "deadWeight" "J") ∈ lw_all := lw_g (lw_at lw_m6 52 rfl) rfl
theorem q1357 : (Jvm.Cond.soleField "LandingTreeModel" "deadWeight") ∈ lw_all := lw_g (lw_at lw_m6 53 rfl) rfl
theorem q1358 : (Jvm.Cond.laysFinal "LandingTreeModel" "LandingTreeModel" "wetNow" "[J") ∈ lw_all := lw_g (lw_at lw_m6 54 rfl) rfl
theorem q1359 : (Jvm.Cond.soleField "LandingTreeModel" "wetNow") ∈ lw_all := lw_g (lw_at lw_m6 55 rfl) rfl
theorem q1360 : (Jvm.Cond.laysFinal "LandingTreeModel" "LandingTreeModel" "wetThen" "[J") ∈ lw_all := lw_g (lw_at lw_m6 56 rfl) rfl
theorem q1361 : (Jvm.Cond.soleField "LandingTreeModel" "wetThen") ∈ lw_all := lw_g (lw_at lw_m6 57 rfl) rfl
theorem q1362 : (Jvm.Cond.laysFinal "LandingTreeModel" "LandingTreeModel" "lastsBy" "[I") ∈ lw_all := lw_g (lw_at lw_m6 58 rfl) rfl
theorem q1363 : (Jvm.Cond.soleField "LandingTreeModel" "lastsBy") ∈ lw_all := lw_g (lw_at lw_m6 59 rfl) rfl
theorem q1364 : (Jvm.Cond.laysFinal "LandingTreeModel" "LandingTreeModel" "spreadNow" "[I") ∈ lw_all := lw_g (lw_at lw_m6 60 rfl) rfl
theorem q1365 : (Jvm.Cond.soleField "LandingTreeModel" "spreadNow") ∈ lw_all := lw_g (lw_at lw_m6 61 rfl) rfl
theorem q1366 : (Jvm.Cond.laysFinal "LandingTreeModel" "LandingTreeModel" "spreadBest" "[I") ∈ lw_all := lw_g (lw_at lw_m6 62 rfl) rfl
theorem q1367 : (Jvm.Cond.soleField "LandingTreeModel" "spreadBest") ∈ lw_all := lw_g (lw_at lw_m6 63 rfl) rfl
theorem q1368 : (Jvm.Cond.laysFinal "LandingTreeModel" "LandingTreeModel" "comeMany" "[J") ∈ lw_all := lw_g (lw_at lw_m6 64 rfl) rfl
theorem q1369 : (Jvm.Cond.soleField "LandingTreeModel" "comeMany") ∈ lw_all := lw_g (lw_at lw_m6 65 rfl) rfl
theorem q1370 : (Jvm.Cond.lays "LandingTreeModel" "LandingTreeModel" "rotaMany" "I") ∈ lw_all := lw_g (lw_at lw_m6 66 rfl) rfl
theorem q1371 : (Jvm.Cond.soleField "LandingTreeModel" "rotaMany") ∈ lw_all := lw_g (lw_at lw_m6 67 rfl) rfl
theorem q1372 : (Jvm.Cond.lays "LandingTreeModel" "LandingTreeModel" "weeks" "I") ∈ lw_all := lw_g (lw_at lw_m6 68 rfl) rfl
theorem q1373 : (Jvm.Cond.soleField "LandingTreeModel" "weeks") ∈ lw_all := lw_g (lw_at lw_m6 69 rfl) rfl
theorem q1374 : (Jvm.Cond.laysFinal "LandingTreeModel" "LandingTreeModel" "rotaWho" "[I") ∈ lw_all := lw_g (lw_at lw_m6 70 rfl) rfl
theorem q1375 : (Jvm.Cond.soleField "LandingTreeModel" "rotaWho") ∈ lw_all := lw_g (lw_at lw_m6 71 rfl) rfl
theorem q1376 : (Jvm.Cond.lays "LandingTreeModel" "LandingTreeModel" "rotaDead" "I") ∈ lw_all := lw_g (lw_at lw_m6 72 rfl) rfl
theorem q1377 : (Jvm.Cond.soleField "LandingTreeModel" "rotaDead") ∈ lw_all := lw_g (lw_at lw_m6 73 rfl) rfl
theorem q1378 : (Jvm.Cond.lays "LandingTreeModel" "LandingTreeModel" "rotaWet" "I") ∈ lw_all := lw_g (lw_at lw_m6 74 rfl) rfl
theorem q1379 : (Jvm.Cond.soleField "LandingTreeModel" "rotaWet") ∈ lw_all := lw_g (lw_at lw_m6 75 rfl) rfl
theorem q1380 : (Jvm.Cond.laysFinal "LandingTreeModel" "LandingTreeModel" "costOf" "[I") ∈ lw_all := lw_g (lw_at lw_m6 76 rfl) rfl
theorem q1381 : (Jvm.Cond.soleField "LandingTreeModel" "costOf") ∈ lw_all := lw_g (lw_at lw_m6 77 rfl) rfl
theorem q1382 : (Jvm.Cond.laysFinal "LandingTreeModel" "LandingTreeModel" "worthOf" "[I") ∈ lw_all := lw_g (lw_at lw_m6 78 rfl) rfl
theorem q1383 : (Jvm.Cond.soleField "LandingTreeModel" "worthOf") ∈ lw_all := lw_g (lw_at lw_m6 79 rfl) rfl
theorem q1384 : (Jvm.Cond.lays "LandingTreeModel" "LandingTreeModel" "isKept" "Z") ∈ lw_all := lw_g (lw_at lw_m6 80 rfl) rfl
theorem q1385 : (Jvm.Cond.soleField "LandingTreeModel" "isKept") ∈ lw_all := lw_g (lw_at lw_m6 81 rfl) rfl
theorem q1386 : (Jvm.Cond.superclass "LandingTreeModel" "java/lang/Object") ∈ lw_all := lw_g (lw_at lw_m6 82 rfl) rfl
theorem q1388 : (Jvm.Cond.instanceMethod ({ cls := "LandingTreeModel", name := "plant", desc := "(IIII)Z" } : Jvm.MethodName)) ∈ lw_all := lw_g (lw_at lw_m6 84 rfl) rfl
theorem q1389 : (Jvm.Cond.selects "LandingTreeModel" ({ cls := "LandingTreeModel", name := "plant", desc := "(IIII)Z" } : Jvm.MethodName) ({ cls := "LandingTreeModel", name := "plant", desc := "(IIII)Z" } : Jvm.MethodName)) ∈ lw_all := lw_g (lw_at lw_m6 85 rfl) rfl
theorem q1390 : (Jvm.Cond.code ({ cls := "LandingTreeModel", name := "plant", desc := "(IIII)Z" } : Jvm.MethodName) prog_19_method_14_code (6 : Nat) (Option.some Jvm.ClassFile.FieldType.boolean)) ∈ lw_all := lw_g (lw_at lw_m6 86 rfl) rfl
theorem q1391 : (Jvm.Cond.methodLink "LandingTreeModel" (126 : Nat) ({ cls := "LandingTreeModel", name := "in", desc := "(III)Z" } : Jvm.MethodName)) ∈ lw_all := lw_g (lw_at lw_m6 87 rfl) rfl
theorem q1392 : (Jvm.Cond.static ({ cls := "LandingTreeModel", name := "in", desc := "(III)Z" } : Jvm.MethodName)) ∈ lw_all := lw_g (lw_at lw_m6 88 rfl) rfl
theorem q1393 : (Jvm.Cond.code ({ cls := "LandingTreeModel", name := "in", desc := "(III)Z" } : Jvm.MethodName) prog_19_method_2_code (3 : Nat) (Option.some Jvm.ClassFile.FieldType.boolean)) ∈ lw_all := lw_g (lw_at lw_m6 89 rfl) rfl
theorem q1395 : (Jvm.Cond.instanceMethod ({ cls := "LandingTreeModel", name := "person", desc := "(III)Z" } : Jvm.MethodName)) ∈ lw_all := lw_g (lw_at lw_m6 91 rfl) rfl
theorem q1396 : (Jvm.Cond.selects "LandingTreeModel" ({ cls := "LandingTreeModel", name := "person", desc := "(III)Z" } : Jvm.MethodName) ({ cls := "LandingTreeModel", name := "person", desc := "(III)Z" } : Jvm.MethodName)) ∈ lw_all := lw_g (lw_at lw_m6 92 rfl) rfl
theorem q1397 : (Jvm.Cond.code ({ cls := "LandingTreeModel", name := "person", desc := "(III)Z" } : Jvm.MethodName) prog_19_method_15_code (4 : Nat) (Option.some Jvm.ClassFile.FieldType.boolean)) ∈ lw_all := lw_g (lw_at lw_m6 93 rfl) rfl
theorem q1399 : (Jvm.Cond.instanceMethod ({ cls := "LandingTreeModel", name := "card", desc := "(IZ)Z" } : Jvm.MethodName)) ∈ lw_all := lw_g (lw_at lw_m6 95 rfl) rfl
theorem q1400 : (Jvm.Cond.selects "LandingTreeModel" ({ cls := "LandingTreeModel", name := "card", desc := "(IZ)Z" } : Jvm.MethodName) ({ cls := "LandingTreeModel", name := "card", desc := "(IZ)Z" } : Jvm.MethodName)) ∈ lw_all := lw_g (lw_at lw_m6 96 rfl) rfl
theorem q1401 : (Jvm.Cond.code ({ cls := "LandingTreeModel", name := "card", desc := "(IZ)Z" } : Jvm.MethodName) prog_19_method_16_code (3 : Nat) (Option.some Jvm.ClassFile.FieldType.boolean)) ∈ lw_all := lw_g (lw_at lw_m6 97 rfl) rfl
theorem q1402 : (Jvm.Cond.methodLink "LandingTreeModel" (122 : Nat) ({ cls := "LandingTreeModel", name := "isPlant", desc := "(I)Z" } : Jvm.MethodName)) ∈ lw_all := lw_g (lw_at lw_m6 98 rfl) rfl
theorem q1403 : (Jvm.Cond.privateMethod ({ cls := "LandingTreeModel", name := "isPlant", desc := "(I)Z" } : Jvm.MethodName)) ∈ lw_tbl := lw_at lw_m6 99 rfl
theorem q1404 : (Jvm.Cond.instanceMethod ({ cls := "LandingTreeModel", name := "isPlant", desc := "(I)Z" } : Jvm.MethodName)) ∈ lw_all := lw_g (lw_at lw_m6 100 rfl) rfl
theorem q1405 : (Jvm.Cond.code ({ cls := "LandingTreeModel", name := "isPlant", desc := "(I)Z" } : Jvm.MethodName) prog_19_method_11_code (2 : Nat) (Option.some Jvm.ClassFile.FieldType.boolean)) ∈ lw_all := lw_g (lw_at lw_m6 101 rfl) rfl
theorem q1406 : (Jvm.Cond.methodLink "LandingTreeModel" (118 : Nat) ({ cls := "LandingTreeModel", name := "has", desc := "(II)Z" } : Jvm.MethodName)) ∈ lw_all := lw_g (lw_at lw_m6 102 rfl) rfl
theorem q1407 : (Jvm.Cond.static ({ cls := "LandingTreeModel", name := "has", desc := "(II)Z" } : Jvm.MethodName)) ∈ lw_all := lw_g (lw_at lw_m6 103 rfl) rfl
theorem q1408 : (Jvm.Cond.code ({ cls := "LandingTreeModel", name := "has", desc := "(II)Z" } : Jvm.MethodName) prog_19_method_5_code (2 : Nat) (Option.some Jvm.ClassFile.FieldType.boolean)) ∈ lw_all := lw_g (lw_at lw_m6 104 rfl) rfl
theorem q1410 : (Jvm.Cond.instanceMethod ({ cls := "LandingTreeModel", name := "pour", desc := "(II)I" } : Jvm.MethodName)) ∈ lw_all := lw_g (lw_at lw_m6 106 rfl) rfl
theorem q1411 : (Jvm.Cond.selects "LandingTreeModel" ({ cls := "LandingTreeModel", name := "pour", desc := "(II)I" } : Jvm.MethodName) ({ cls := "LandingTreeModel", name := "pour", desc := "(II)I" } : Jvm.MethodName)) ∈ lw_all := lw_g (lw_at lw_m6 107 rfl) rfl
theorem q1412 : (Jvm.Cond.code ({ cls := "LandingTreeModel", name := "pour", desc := "(II)I" } : Jvm.MethodName) prog_19_method_17_code (3 : Nat) (Option.some Jvm.ClassFile.FieldType.int)) ∈ lw_all := lw_g (lw_at lw_m6 108 rfl) rfl
theorem q1413 : (Jvm.Cond.methodLink "LandingTreeModel" (130 : Nat) ({ cls := "LandingTreeModel", name := "lives", desc := "(I)Z" } : Jvm.MethodName)) ∈ lw_all := lw_g (lw_at lw_m6 109 rfl) rfl
theorem q1414 : (Jvm.Cond.privateMethod ({ cls := "LandingTreeModel", name := "lives", desc := "(I)Z" } : Jvm.MethodName)) ∈ lw_tbl := lw_at lw_m6 110 rfl
theorem q1415 : (Jvm.Cond.instanceMethod ({ cls := "LandingTreeModel", name := "lives", desc := "(I)Z" } : Jvm.MethodName)) ∈ lw_all := lw_g (lw_at lw_m6 111 rfl) rfl
theorem q1416 : (Jvm.Cond.code ({ cls := "LandingTreeModel", name := "lives", desc := "(I)Z" } : Jvm.MethodName) prog_19_method_12_code (2 : Nat) (Option.some Jvm.ClassFile.FieldType.boolean)) ∈ lw_all := lw_g (lw_at lw_m6 112 rfl) rfl
theorem q1417 : (Jvm.Cond.methodLink "LandingTreeModel" (133 : Nat) ({ cls := "LandingTreeModel", name := "min", desc := "(II)I" } : Jvm.MethodName)) ∈ lw_all := lw_g (lw_at lw_m6 113 rfl) rfl
theorem q1418 : (Jvm.Cond.static ({ cls := "LandingTreeModel", name := "min", desc := "(II)I" } : Jvm.MethodName)) ∈ lw_all := lw_g (lw_at lw_m6 114 rfl) rfl
theorem q1419 : (Jvm.Cond.code ({ cls := "LandingTreeModel", name := "min", desc := "(II)I" } : Jvm.MethodName) prog_19_method_3_code (2 : Nat) (Option.some Jvm.ClassFile.FieldType.int)) ∈ lw_all := lw_g (lw_at lw_m6 115 rfl) rfl
theorem q1421 : (Jvm.Cond.instanceMethod ({ cls := "LandingTreeModel", name := "feed", desc := "(IIIII)I" } : Jvm.MethodName)) ∈ lw_all := lw_g (lw_at lw_m6 117 rfl) rfl
theorem q1422 : (Jvm.Cond.selects "LandingTreeModel" ({ cls := "LandingTreeModel", name := "feed", desc := "(IIIII)I" } : Jvm.MethodName) ({ cls := "LandingTreeModel", name := "feed", desc := "(IIIII)I" } : Jvm.MethodName)) ∈ lw_all := lw_g (lw_at lw_m6 118 rfl) rfl
theorem q1423 : (Jvm.Cond.code ({ cls := "LandingTreeModel", name := "feed", desc := "(IIIII)I" } : Jvm.MethodName) prog_19_method_19_code (6 : Nat) (Option.some Jvm.ClassFile.FieldType.int)) ∈ lw_all := lw_g (lw_at lw_m6 119 rfl) rfl
theorem q1424 : (Jvm.Cond.methodLink "LandingTreeModel" (140 : Nat) ({ cls := "LandingTreeModel", name := "types", desc := "(I)V" } : Jvm.MethodName)) ∈ lw_all := lw_g (lw_at lw_m6 120 rfl) rfl
theorem q1425 : (Jvm.Cond.privateMethod ({ cls := "LandingTreeModel", name := "types", desc := "(I)V" } : Jvm.MethodName)) ∈ lw_tbl := lw_at lw_m6 121 rfl
theorem q1426 : (Jvm.Cond.instanceMethod ({ cls := "LandingTreeModel", name := "types", desc := "(I)V" } : Jvm.MethodName)) ∈ lw_all := lw_g (lw_at lw_m6 122 rfl) rfl
theorem q1427 : (Jvm.Cond.code ({ cls := "LandingTreeModel", name := "types", desc := "(I)V" } : Jvm.MethodName) prog_19_method_18_code (3 : Nat) (Option.none : Option Jvm.ClassFile.FieldType)) ∈ lw_all := lw_g (lw_at lw_m6 123 rfl) rfl
theorem q1429 : (Jvm.Cond.instanceMethod ({ cls := "LandingTreeModel", name := "law", desc := "(I)I" } : Jvm.MethodName)) ∈ lw_all := lw_g (lw_at lw_m6 125 rfl) rfl
theorem q1430 : (Jvm.Cond.selects "LandingTreeModel" ({ cls := "LandingTreeModel", name := "law", desc := "(I)I" } : Jvm.MethodName) ({ cls := "LandingTreeModel", name := "law", desc := "(I)I" } : Jvm.MethodName)) ∈ lw_all := lw_g (lw_at lw_m6 126 rfl) rfl
theorem q1431 : (Jvm.Cond.code ({ cls := "LandingTreeModel", name := "law", desc := "(I)I" } : Jvm.MethodName) prog_19_method_42_code (2 : Nat) (Option.some Jvm.ClassFile.FieldType.int)) ∈ lw_all := lw_g (lw_at lw_m6 127 rfl) rfl
theorem q1432 : (Jvm.Cond.methodLink "LandingTreeModel" (237 : Nat) ({ cls := "LandingTreeModel", name := "reads", desc := "(II)I" } : Jvm.MethodName)) ∈ lw_all := lw_g (lw_at lw_m6 128 rfl) rfl
theorem q1433 : (Jvm.Cond.privateMethod ({ cls := "LandingTreeModel", name := "reads", desc := "(II)I" } : Jvm.MethodName)) ∈ lw_tbl := lw_at lw_m6 129 rfl
theorem q1434 : (Jvm.Cond.instanceMethod ({ cls := "LandingTreeModel", name := "reads", desc := "(II)I" } : Jvm.MethodName)) ∈ lw_all := lw_g (lw_at lw_m6 130 rfl) rfl
theorem q1435 : (Jvm.Cond.code ({ cls := "LandingTreeModel", name := "reads", desc := "(II)I" } : Jvm.MethodName) prog_19_method_41_code (6 : Nat) (Option.some Jvm.ClassFile.FieldType.int)) ∈ lw_all := lw_g (lw_at lw_m6 131 rfl) rfl
theorem q1436 : (Jvm.Cond.methodLink "LandingTreeModel" (231 : Nat) ({ cls := "LandingTreeModel", name := "readsClause", desc := "(I)Z" } : Jvm.MethodName)) ∈ lw_all := lw_g (lw_at lw_m6 132 rfl) rfl
theorem q1437 : (Jvm.Cond.privateMethod ({ cls := "LandingTreeModel", name := "readsClause", desc := "(I)Z" } : Jvm.MethodName)) ∈ lw_tbl := lw_at lw_m6 133 rfl
theorem q1438 : (Jvm.Cond.instanceMethod ({ cls := "LandingTreeModel", name := "readsClause", desc := "(I)Z" } : Jvm.MethodName)) ∈ lw_all := lw_g (lw_at lw_m6 134 rfl) rfl
theorem q1439 : (Jvm.Cond.code ({ cls := "LandingTreeModel", name := "readsClause", desc := "(I)Z" } : Jvm.MethodName) prog_19_method_40_code (3 : Nat) (Option.some Jvm.ClassFile.FieldType.boolean)) ∈ lw_all := lw_g (lw_at lw_m6 135 rfl) rfl
theorem q1440 : (Jvm.Cond.methodLink "LandingTreeModel" (150 : Nat) ({ cls := "LandingTreeModel", name := "here", desc := "()I" } : Jvm.MethodName)) ∈ lw_all := lw_g (lw_at lw_m6 136 rfl) rfl
theorem q1441 : (Jvm.Cond.privateMethod ({ cls := "LandingTreeModel", name := "here", desc := "()I" } : Jvm.MethodName)) ∈ lw_tbl := lw_at lw_m6 137 rfl
theorem q1442 : (Jvm.Cond.instanceMethod ({ cls := "LandingTreeModel", name := "here", desc := "()I" } : Jvm.MethodName)) ∈ lw_all := lw_g (lw_at lw_m6 138 rfl) rfl
theorem q1443 : (Jvm.Cond.code ({ cls := "LandingTreeModel", name := "here", desc := "()I" } : Jvm.MethodName) prog_19_method_20_code (1 : Nat) (Option.some Jvm.ClassFile.FieldType.int)) ∈ lw_all := lw_g (lw_at lw_m6 139 rfl) rfl
theorem q1444 : (Jvm.Cond.methodLink "LandingTreeModel" (222 : Nat) ({ cls := "LandingTreeModel", name := "isClause", desc := "(II)Z" } : Jvm.MethodName)) ∈ lw_all := lw_g (lw_at lw_m6 140 rfl) rfl
theorem q1445 : (Jvm.Cond.static ({ cls := "LandingTreeModel", name := "isClause", desc := "(II)Z" } : Jvm.MethodName)) ∈ lw_all := lw_g (lw_at lw_m6 141 rfl) rfl
theorem q1446 : (Jvm.Cond.code ({ cls := "LandingTreeModel", name := "isClause", desc := "(II)Z" } : Jvm.MethodName) prog_19_method_39_code (2 : Nat) (Option.some Jvm.ClassFile.FieldType.boolean)) ∈ lw_all := lw_g (lw_at lw_m6 142 rfl) rfl
theorem q1447 : (Jvm.Cond.methodLink "LandingTreeModel" (157 : Nat) ({ cls := "LandingTreeModel", name := "wrongAt", desc := "(II)Z" } : Jvm.MethodName)) ∈ lw_all := lw_g (lw_at lw_m6 143 rfl) rfl
theorem q1448 : (Jvm.Cond.privateMethod ({ cls := "LandingTreeModel", name := "wrongAt", desc := "(II)Z" } : Jvm.MethodName)) ∈ lw_tbl := lw_at lw_m6 144 rfl
theorem q1449 : (Jvm.Cond.instanceMethod ({ cls := "LandingTreeModel", name := "wrongAt", desc := "(II)Z" } : Jvm.MethodName)) ∈ lw_all := lw_g (lw_at lw_m6 145 rfl) rfl
theorem q1450 : (Jvm.Cond.code ({ cls := "LandingTreeModel", name := "wrongAt", desc := "(II)Z" } : Jvm.MethodName) prog_19_method_22_code (3 : Nat) (Option.some Jvm.ClassFile.FieldType.boolean)) ∈ lw_all := lw_g (lw_at lw_m6 146 rfl) rfl
theorem q1451 : (Jvm.Cond.methodLink "LandingTreeModel" (207 : Nat) ({ cls := "LandingTreeModel", name := "readsSum", desc := "()Z" } : Jvm.MethodName)) ∈ lw_all := lw_g (lw_at lw_m6 147 rfl) rfl
theorem q1452 : (Jvm.Cond.privateMethod ({ cls := "LandingTreeModel", name := "readsSum", desc := "()Z" } : Jvm.MethodName)) ∈ lw_tbl := lw_at lw_m6 148 rfl
theorem q1453 : (Jvm.Cond.instanceMethod ({ cls := "LandingTreeModel", name := "readsSum", desc := "()Z" } : Jvm.MethodName)) ∈ lw_all := lw_g (lw_at lw_m6 149 rfl) rfl
theorem q1454 : (Jvm.Cond.code ({ cls := "LandingTreeModel", name := "readsSum", desc := "()Z" } : Jvm.MethodName) prog_19_method_33_code (3 : Nat) (Option.some Jvm.ClassFile.FieldType.boolean)) ∈ lw_all := lw_g (lw_at lw_m6 150 rfl) rfl
theorem q1455 : (Jvm.Cond.methodLink "LandingTreeModel" (194 : Nat) ({ cls := "LandingTreeModel", name := "readsFactor", desc := "()Z" } : Jvm.MethodName)) ∈ lw_all := lw_g (lw_at lw_m6 151 rfl) rfl
theorem q1456 : (Jvm.Cond.privateMethod ({ cls := "LandingTreeModel", name := "readsFactor", desc := "()Z" } : Jvm.MethodName)) ∈ lw_tbl := lw_at lw_m6 152 rfl
theorem q1457 : (Jvm.Cond.instanceMethod ({ cls := "LandingTreeModel", name := "readsFactor", desc := "()Z" } : Jvm.MethodName)) ∈ lw_all := lw_g (lw_at lw_m6 153 rfl) rfl
theorem q1458 : (Jvm.Cond.code ({ cls := "LandingTreeModel", name := "readsFactor", desc := "()Z" } : Jvm.MethodName) prog_19_method_31_code (2 : Nat) (Option.some Jvm.ClassFile.FieldType.boolean)) ∈ lw_all := lw_g (lw_at lw_m6 154 rfl) rfl
theorem q1459 : (Jvm.Cond.methodLink "LandingTreeModel" (184 : Nat) ({ cls := "LandingTreeModel", name := "opens", desc := "(I)Z" } : Jvm.MethodName)) ∈ lw_all := lw_g (lw_at lw_m6 155 rfl) rfl
theorem q1460 : (Jvm.Cond.privateMethod ({ cls := "LandingTreeModel", name := "opens", desc := "(I)Z" } : Jvm.MethodName)) ∈ lw_tbl := lw_at lw_m6 156 rfl
theorem q1461 : (Jvm.Cond.instanceMethod ({ cls := "LandingTreeModel", name := "opens", desc := "(I)Z" } : Jvm.MethodName)) ∈ lw_all := lw_g (lw_at lw_m6 157 rfl) rfl
theorem q1462 : (Jvm.Cond.code ({ cls := "LandingTreeModel", name := "opens", desc := "(I)Z" } : Jvm.MethodName) prog_19_method_26_code (2 : Nat) (Option.some Jvm.ClassFile.FieldType.boolean)) ∈ lw_all := lw_g (lw_at lw_m6 158 rfl) rfl
theorem q1463 : (Jvm.Cond.constant "LandingTreeModel" (170 : Nat) (1048576 : Int32)) ∈ lw_all := lw_g (lw_at lw_m6 159 rfl) rfl
theorem q1464 : (Jvm.Cond.methodLink "LandingTreeModel" (163 : Nat) ({ cls := "LandingTreeModel", name := "isDigit", desc := "()Z" } : Jvm.MethodName)) ∈ lw_all := lw_g (lw_at lw_m6 160 rfl) rfl
theorem q1465 : (Jvm.Cond.privateMethod ({ cls := "LandingTreeModel", name := "isDigit", desc := "()Z" } : Jvm.MethodName)) ∈ lw_tbl := lw_at lw_m6 161 rfl
theorem q1466 : (Jvm.Cond.instanceMethod ({ cls := "LandingTreeModel", name := "isDigit", desc := "()Z" } : Jvm.MethodName)) ∈ lw_all := lw_g (lw_at lw_m6 162 rfl) rfl
theorem q1467 : (Jvm.Cond.code ({ cls := "LandingTreeModel", name := "isDigit", desc := "()Z" } : Jvm.MethodName) prog_19_method_21_code (1 : Nat) (Option.some Jvm.ClassFile.FieldType.boolean)) ∈ lw_all := lw_g (lw_at lw_m6 163 rfl) rfl
theorem q1468 : (Jvm.Cond.methodLink "LandingTreeModel" (187 : Nat) ({ cls := "LandingTreeModel", name := "readsNumber", desc := "()Z" } : Jvm.MethodName)) ∈ lw_all := lw_g (lw_at lw_m6 164 rfl) rfl
theorem q1469 : (Jvm.Cond.privateMethod ({ cls := "LandingTreeModel", name := "readsNumber", desc := "()Z" } : Jvm.MethodName)) ∈ lw_tbl := lw_at lw_m6 165 rfl
theorem q1470 : (Jvm.Cond.instanceMethod ({ cls := "LandingTreeModel", name := "readsNumber", desc := "()Z" } : Jvm.MethodName)) ∈ lw_all := lw_g (lw_at lw_m6 166 rfl) rfl
theorem q1471 : (Jvm.Cond.code ({ cls := "LandingTreeModel", name := "readsNumber", desc := "()Z" } : Jvm.MethodName) prog_19_method_24_code (2 : Nat) (Option.some Jvm.ClassFile.FieldType.boolean)) ∈ lw_all := lw_g (lw_at lw_m6 167 rfl) rfl
theorem q1472 : (Jvm.Cond.methodLink "LandingTreeModel" (180 : Nat) ({ cls := "LandingTreeModel", name := "notes", desc := "(II)V" } : Jvm.MethodName)) ∈ lw_all := lw_g (lw_at lw_m6 168 rfl) rfl
theorem q1473 : (Jvm.Cond.privateMethod ({ cls := "LandingTreeModel", name := "notes", desc := "(II)V" } : Jvm.MethodName)) ∈ lw_tbl := lw_at lw_m6 169 rfl
theorem q1474 : (Jvm.Cond.instanceMethod ({ cls := "LandingTreeModel", name := "notes", desc := "(II)V" } : Jvm.MethodName)) ∈ lw_all := lw_g (lw_at lw_m6 170 rfl) rfl
theorem q1475 : (Jvm.Cond.code ({ cls := "LandingTreeModel", name := "notes", desc := "(II)V" } : Jvm.MethodName) prog_19_method_25_code (3 : Nat) (Option.none : Option Jvm.ClassFile.FieldType)) ∈ lw_all := lw_g (lw_at lw_m6 171 rfl) rfl
theorem q1476 : (Jvm.Cond.methodLink "LandingTreeModel" (190 : Nat) ({ cls := "LandingTreeModel", name := "factOf", desc := "(I)I" } : Jvm.MethodName)) ∈ lw_all := lw_g (lw_at lw_m6 172 rfl) rfl
theorem q1477 : (Jvm.Cond.static ({ cls := "LandingTreeModel", name := "factOf", desc := "(I)I" } : Jvm.MethodName)) ∈ lw_all := lw_g (lw_at lw_m6 173 rfl) rfl
theorem q1478 : (Jvm.Cond.code ({ cls := "LandingTreeModel", name := "factOf", desc := "(I)I" } : Jvm.MethodName) prog_19_method_28_code (1 : Nat) (Option.some Jvm.ClassFile.FieldType.int)) ∈ lw_all := lw_g (lw_at lw_m6 174 rfl) rfl
theorem q1479 : (Jvm.Cond.methodLink "LandingTreeModel" (197 : Nat) ({ cls := "LandingTreeModel", name := "sumSign", desc := "(I)I" } : Jvm.MethodName)) ∈ lw_all := lw_g (lw_at lw_m6 175 rfl) rfl
theorem q1480 : (Jvm.Cond.static ({ cls := "LandingTreeModel", name := "sumSign", desc := "(I)I" } : Jvm.MethodName)) ∈ lw_all := lw_g (lw_at lw_m6 176 rfl) rfl
theorem q1481 : (Jvm.Cond.code ({ cls := "LandingTreeModel", name := "sumSign", desc := "(I)I" } : Jvm.MethodName) prog_19_method_29_code (1 : Nat) (Option.some Jvm.ClassFile.FieldType.int)) ∈ lw_all := lw_g (lw_at lw_m6 177 rfl) rfl
theorem q1482 : (Jvm.Cond.methodLink "LandingTreeModel" (200 : Nat) ({ cls := "LandingTreeModel", name := "closesSums", desc := "(Z)V" } : Jvm.MethodName)) ∈ lw_all := lw_g (lw_at lw_m6 178 rfl) rfl
theorem q1483 : (Jvm.Cond.privateMethod ({ cls := "LandingTreeModel", name := "closesSums", desc := "(Z)V" } : Jvm.MethodName)) ∈ lw_tbl := lw_at lw_m6 179 rfl
theorem q1484 : (Jvm.Cond.instanceMethod ({ cls := "LandingTreeModel", name := "closesSums", desc := "(Z)V" } : Jvm.MethodName)) ∈ lw_all := lw_g (lw_at lw_m6 180 rfl) rfl
theorem q1485 : (Jvm.Cond.code ({ cls := "LandingTreeModel", name := "closesSums", desc := "(Z)V" } : Jvm.MethodName) prog_19_method_30_code (2 : Nat) (Option.none : Option Jvm.ClassFile.FieldType)) ∈ lw_all := lw_g (lw_at lw_m6 181 rfl) rfl
theorem q1486 : (Jvm.Cond.methodLink "LandingTreeModel" (177 : Nat) ({ cls := "LandingTreeModel", name := "waitTop", desc := "()I" } : Jvm.MethodName)) ∈ lw_all := lw_g (lw_at lw_m6 182 rfl) rfl
theorem q1487 : (Jvm.Cond.privateMethod ({ cls := "LandingTreeModel", name := "waitTop", desc := "()I" } : Jvm.MethodName)) ∈ lw_tbl := lw_at lw_m6 183 rfl
theorem q1488 : (Jvm.Cond.instanceMethod ({ cls := "LandingTreeModel", name := "waitTop", desc := "()I" } : Jvm.MethodName)) ∈ lw_all := lw_g (lw_at lw_m6 184 rfl) rfl
theorem q1489 : (Jvm.Cond.code ({ cls := "LandingTreeModel", name := "waitTop", desc := "()I" } : Jvm.MethodName) prog_19_method_27_code (1 : Nat) (Option.some Jvm.ClassFile.FieldType.int)) ∈ lw_all := lw_g (lw_at lw_m6 185 rfl) rfl
theorem q1490 : (Jvm.Cond.methodLink "LandingTreeModel" (204 : Nat) ({ cls := "LandingTreeModel", name := "hasOpenSum", desc := "(I)Z" } : Jvm.MethodName)) ∈ lw_all := lw_g (lw_at lw_m6 186 rfl) rfl
theorem q1491 : (Jvm.Cond.privateMethod ({ cls := "LandingTreeModel", name := "hasOpenSum", desc := "(I)Z" } : Jvm.MethodName)) ∈ lw_tbl := lw_at lw_m6 187 rfl
theorem q1492 : (Jvm.Cond.instanceMethod ({ cls := "LandingTreeModel", name := "hasOpenSum", desc := "(I)Z" } : Jvm.MethodName)) ∈ lw_all := lw_g (lw_at lw_m6 188 rfl) rfl
theorem q1493 : (Jvm.Cond.code ({ cls := "LandingTreeModel", name := "hasOpenSum", desc := "(I)Z" } : Jvm.MethodName) prog_19_method_32_code (3 : Nat) (Option.some Jvm.ClassFile.FieldType.boolean)) ∈ lw_all := lw_g (lw_at lw_m6 189 rfl) rfl
theorem q1494 : (Jvm.Cond.methodLink "LandingTreeModel" (228 : Nat) ({ cls := "LandingTreeModel", name := "readsCondition", desc := "()Z" } : Jvm.MethodName)) ∈ lw_all := lw_g (lw_at lw_m6 190 rfl) rfl
theorem q1495 : (Jvm.Cond.privateMethod ({ cls := "LandingTreeModel", name := "readsCondition", desc := "()Z" } : Jvm.MethodName)) ∈ lw_tbl := lw_at lw_m6 191 rfl
theorem q1496 : (Jvm.Cond.instanceMethod ({ cls := "LandingTreeModel", name := "readsCondition", desc := "()Z" } : Jvm.MethodName)) ∈ lw_all := lw_g (lw_at lw_m6 192 rfl) rfl
theorem q1497 : (Jvm.Cond.code ({ cls := "LandingTreeModel", name := "readsCondition", desc := "()Z" } : Jvm.MethodName) prog_19_method_38_code (1 : Nat) (Option.some Jvm.ClassFile.FieldType.boolean)) ∈ lw_all := lw_g (lw_at lw_m6 193 rfl) rfl
theorem q1498 : (Jvm.Cond.methodLink "LandingTreeModel" (213 : Nat) ({ cls := "LandingTreeModel", name := "readsCompared", desc := "()Z" } : Jvm.MethodName)) ∈ lw_all := lw_g (lw_at lw_m6 194 rfl) rfl
theorem q1499 : (Jvm.Cond.privateMethod ({ cls := "LandingTreeModel", name := "readsCompared", desc := "()Z" } : Jvm.MethodName)) ∈ lw_tbl := lw_at lw_m6 195 rfl
theorem q1500 : (Jvm.Cond.instanceMethod ({ cls := "LandingTreeModel", name := "readsCompared", desc := "()Z" } : Jvm.MethodName)) ∈ lw_all := lw_g (lw_at lw_m6 196 rfl) rfl
theorem q1501 : (Jvm.Cond.code ({ cls := "LandingTreeModel", name := "readsCompared", desc := "()Z" } : Jvm.MethodName) prog_19_method_37_code (2 : Nat) (Option.some Jvm.ClassFile.FieldType.boolean)) ∈ lw_all := lw_g (lw_at lw_m6 197 rfl) rfl
theorem q1502 : (Jvm.Cond.methodLink "LandingTreeModel" (210 : Nat) ({ cls := "LandingTreeModel", name := "endsPiece", desc := "()V" } : Jvm.MethodName)) ∈ lw_all := lw_g (lw_at lw_m6 198 rfl) rfl
theorem q1503 : (Jvm.Cond.privateMethod ({ cls := "LandingTreeModel", name := "endsPiece", desc := "()V" } : Jvm.MethodName)) ∈ lw_tbl := lw_at lw_m6 199 rfl
theorem q1504 : (Jvm.Cond.instanceMethod ({ cls := "LandingTreeModel", name := "endsPiece", desc := "()V" } : Jvm.MethodName)) ∈ lw_all := lw_g (lw_at lw_m6 200 rfl) rfl
theorem q1505 : (Jvm.Cond.code ({ cls := "LandingTreeModel", name := "endsPiece", desc := "()V" } : Jvm.MethodName) prog_19_method_34_code (1 : Nat) (Option.none : Option Jvm.ClassFile.FieldType)) ∈ lw_all := lw_g (lw_at lw_m6 201 rfl) rfl
theorem q1506 : (Jvm.Cond.methodLink "LandingTreeModel" (216 : Nat) ({ cls := "LandingTreeModel", name := "lands", desc := "(Z)V" } : Jvm.MethodName)) ∈ lw_all := lw_g (lw_at lw_m6 202 rfl) rfl
theorem q1507 : (Jvm.Cond.privateMethod ({ cls := "LandingTreeModel", name := "lands", desc := "(Z)V" } : Jvm.MethodName)) ∈ lw_tbl := lw_at lw_m6 203 rfl
theorem q1508 : (Jvm.Cond.instanceMethod ({ cls := "LandingTreeModel", name := "lands", desc := "(Z)V" } : Jvm.MethodName)) ∈ lw_all := lw_g (lw_at lw_m6 204 rfl) rfl
theorem q1509 : (Jvm.Cond.code ({ cls := "LandingTreeModel", name := "lands", desc := "(Z)V" } : Jvm.MethodName) prog_19_method_35_code (3 : Nat) (Option.none : Option Jvm.ClassFile.FieldType)) ∈ lw_all := lw_g (lw_at lw_m6 205 rfl) rfl
theorem q1510 : (Jvm.Cond.methodLink "LandingTreeModel" (219 : Nat) ({ cls := "LandingTreeModel", name := "jumps", desc := "(I)V" } : Jvm.MethodName)) ∈ lw_all := lw_g (lw_at lw_m6 206 rfl) rfl
theorem q1511 : (Jvm.Cond.privateMethod ({ cls := "LandingTreeModel", name := "jumps", desc := "(I)V" } : Jvm.MethodName)) ∈ lw_tbl := lw_at lw_m6 207 rfl
theorem q1512 : (Jvm.Cond.instanceMethod ({ cls := "LandingTreeModel", name := "jumps", desc := "(I)V" } : Jvm.MethodName)) ∈ lw_all := lw_g (lw_at lw_m6 208 rfl) rfl
theorem q1513 : (Jvm.Cond.code ({ cls := "LandingTreeModel", name := "jumps", desc := "(I)V" } : Jvm.MethodName) prog_19_method_36_code (2 : Nat) (Option.none : Option Jvm.ClassFile.FieldType)) ∈ lw_all := lw_g (lw_at lw_m6 209 rfl) rfl
theorem q1514 : (Jvm.Cond.methodLink "LandingTreeModel" (234 : Nat) ({ cls := "LandingTreeModel", name := "takes", desc := "(I)Z" } : Jvm.MethodName)) ∈ lw_all := lw_g (lw_at lw_m6 210 rfl) rfl
theorem q1515 : (Jvm.Cond.privateMethod ({ cls := "LandingTreeModel", name := "takes", desc := "(I)Z" } : Jvm.MethodName)) ∈ lw_tbl := lw_at lw_m6 211 rfl
theorem q1516 : (Jvm.Cond.instanceMethod ({ cls := "LandingTreeModel", name := "takes", desc := "(I)Z" } : Jvm.MethodName)) ∈ lw_all := lw_g (lw_at lw_m6 212 rfl) rfl
theorem q1517 : (Jvm.Cond.code ({ cls := "LandingTreeModel", name := "takes", desc := "(I)Z" } : Jvm.MethodName) prog_19_method_23_code (2 : Nat) (Option.some Jvm.ClassFile.FieldType.boolean)) ∈ lw_all := lw_g (lw_at lw_m6 213 rfl) rfl
theorem q1519 : (Jvm.Cond.instanceMethod ({ cls := "LandingTreeModel", name := "rule", desc := "(II)I" } : Jvm.MethodName)) ∈ lw_all := lw_g (lw_at lw_m6 215 rfl) rfl
theorem q1520 : (Jvm.Cond.selects "LandingTreeModel" ({ cls := "LandingTreeModel", name := "rule", desc := "(II)I" } : Jvm.MethodName) ({ cls := "LandingTreeModel", name := "rule", desc := "(II)I" } : Jvm.MethodName)) ∈ lw_all := lw_g (lw_at lw_m6 216 rfl) rfl
theorem q1521 : (Jvm.Cond.code ({ cls := "LandingTreeModel", name := "rule", desc := "(II)I" } : Jvm.MethodName) prog_19_method_43_code (3 : Nat) (Option.some Jvm.ClassFile.FieldType.int)) ∈ lw_all := lw_g (lw_at lw_m6 217 rfl) rfl
theorem q1523 : (Jvm.Cond.instanceMethod ({ cls := "LandingTreeModel", name := "gives", desc := "(II)I" } : Jvm.MethodName)) ∈ lw_all := lw_g (lw_at lw_m6 219 rfl) rfl
theorem q1524 : (Jvm.Cond.selects "LandingTreeModel" ({ cls := "LandingTreeModel", name := "gives", desc := "(II)I" } : Jvm.MethodName) ({ cls := "LandingTreeModel", name := "gives", desc := "(II)I" } : Jvm.MethodName)) ∈ lw_all := lw_g (lw_at lw_m6 220 rfl) rfl
theorem q1525 : (Jvm.Cond.code ({ cls := "LandingTreeModel", name := "gives", desc := "(II)I" } : Jvm.MethodName) prog_19_method_50_code (3 : Nat) (Option.some Jvm.ClassFile.FieldType.int)) ∈ lw_all := lw_g (lw_at lw_m6 221 rfl) rfl
theorem q1526 : (Jvm.Cond.methodLink "LandingTreeModel" (259 : Nat) ({ cls := "LandingTreeModel", name := "isPerson", desc := "(I)Z" } : Jvm.MethodName)) ∈ lw_all := lw_g (lw_at lw_m6 222 rfl) rfl
theorem q1527 : (Jvm.Cond.privateMethod ({ cls := "LandingTreeModel", name := "isPerson", desc := "(I)Z" } : Jvm.MethodName)) ∈ lw_tbl := lw_at lw_m6 223 rfl
theorem q1528 : (Jvm.Cond.instanceMethod ({ cls := "LandingTreeModel", name := "isPerson", desc := "(I)Z" } : Jvm.MethodName)) ∈ lw_all := lw_g (lw_at lw_m6 224 rfl) rfl
theorem q1529 : (Jvm.Cond.code ({ cls := "LandingTreeModel", name := "isPerson", desc := "(I)Z" } : Jvm.MethodName) prog_19_method_13_code (2 : Nat) (Option.some Jvm.ClassFile.FieldType.boolean)) ∈ lw_all := lw_g (lw_at lw_m6 225 rfl) rfl
theorem q1530 : (Jvm.Cond.methodLink "LandingTreeModel" (262 : Nat) ({ cls := "LandingTreeModel", name := "cupsOf", desc := "(II)I" } : Jvm.MethodName)) ∈ lw_all := lw_g (lw_at lw_m6 226 rfl) rfl
theorem q1531 : (Jvm.Cond.privateMethod ({ cls := "LandingTreeModel", name := "cupsOf", desc := "(II)I" } : Jvm.MethodName)) ∈ lw_tbl := lw_at lw_m6 227 rfl
theorem q1532 : (Jvm.Cond.instanceMethod ({ cls := "LandingTreeModel", name := "cupsOf", desc := "(II)I" } : Jvm.MethodName)) ∈ lw_all := lw_g (lw_at lw_m6 228 rfl) rfl
theorem q1533 : (Jvm.Cond.code ({ cls := "LandingTreeModel", name := "cupsOf", desc := "(II)I" } : Jvm.MethodName) prog_19_method_49_code (3 : Nat) (Option.some Jvm.ClassFile.FieldType.int)) ∈ lw_all := lw_g (lw_at lw_m6 229 rfl) rfl
theorem q1534 : (Jvm.Cond.methodLink "LandingTreeModel" (253 : Nat) ({ cls := "LandingTreeModel", name := "feelsPlant", desc := "(I)V" } : Jvm.MethodName)) ∈ lw_all := lw_g (lw_at lw_m6 230 rfl) rfl
theorem q1535 : (Jvm.Cond.privateMethod ({ cls := "LandingTreeModel", name := "feelsPlant", desc := "(I)V" } : Jvm.MethodName)) ∈ lw_tbl := lw_at lw_m6 231 rfl
theorem q1536 : (Jvm.Cond.instanceMethod ({ cls := "LandingTreeModel", name := "feelsPlant", desc := "(I)V" } : Jvm.MethodName)) ∈ lw_all := lw_g (lw_at lw_m6 232 rfl) rfl
theorem q1537 : (Jvm.Cond.code ({ cls := "LandingTreeModel", name := "feelsPlant", desc := "(I)V" } : Jvm.MethodName) prog_19_method_48_code (2 : Nat) (Option.none : Option Jvm.ClassFile.FieldType)) ∈ lw_all := lw_g (lw_at lw_m6 233 rfl) rfl
theorem q1538 : (Jvm.Cond.methodLink "LandingTreeModel" (250 : Nat) ({ cls := "LandingTreeModel", name := "feels", desc := "()V" } : Jvm.MethodName)) ∈ lw_all := lw_g (lw_at lw_m6 234 rfl) rfl
theorem q1539 : (Jvm.Cond.privateMethod ({ cls := "LandingTreeModel", name := "feels", desc := "()V" } : Jvm.MethodName)) ∈ lw_tbl := lw_at lw_m6 235 rfl
theorem q1540 : (Jvm.Cond.instanceMethod ({ cls := "LandingTreeModel", name := "feels", desc := "()V" } : Jvm.MethodName)) ∈ lw_all := lw_g (lw_at lw_m6 236 rfl) rfl
theorem q1541 : (Jvm.Cond.code ({ cls := "LandingTreeModel", name := "feels", desc := "()V" } : Jvm.MethodName) prog_19_method_47_code (2 : Nat) (Option.none : Option Jvm.ClassFile.FieldType)) ∈ lw_all := lw_g (lw_at lw_m6 237 rfl) rfl
theorem q1542 : (Jvm.Cond.methodLink "LandingTreeModel" (247 : Nat) ({ cls := "LandingTreeModel", name := "bits", desc := "(I)I" } : Jvm.MethodName)) ∈ lw_all := lw_g (lw_at lw_m6 238 rfl) rfl
theorem q1543 : (Jvm.Cond.static ({ cls := "LandingTreeModel", name := "bits", desc := "(I)I" } : Jvm.MethodName)) ∈ lw_all := lw_g (lw_at lw_m6 239 rfl) rfl
theorem q1544 : (Jvm.Cond.code ({ cls := "LandingTreeModel", name := "bits", desc := "(I)I" } : Jvm.MethodName) prog_19_method_6_code (3 : Nat) (Option.some Jvm.ClassFile.FieldType.int)) ∈ lw_all := lw_g (lw_at lw_m7 0 rfl) rfl
theorem q1545 : (Jvm.Cond.methodLink "LandingTreeModel" (256 : Nat) ({ cls := "LandingTreeModel", name := "byText", desc := "(III)I" } : Jvm.MethodName)) ∈ lw_all := lw_g (lw_at lw_m7 1 rfl) rfl
theorem q1546 : (Jvm.Cond.privateMethod ({ cls := "LandingTreeModel", name := "byText", desc := "(III)I" } : Jvm.MethodName)) ∈ lw_tbl := lw_at lw_m7 2 rfl
theorem q1547 : (Jvm.Cond.instanceMethod ({ cls := "LandingTreeModel", name := "byText", desc := "(III)I" } : Jvm.MethodName)) ∈ lw_all := lw_g (lw_at lw_m7 3 rfl) rfl
theorem q1548 : (Jvm.Cond.code ({ cls := "LandingTreeModel", name := "byText", desc := "(III)I" } : Jvm.MethodName) prog_19_method_46_code (6 : Nat) (Option.some Jvm.ClassFile.FieldType.int)) ∈ lw_all := lw_g (lw_at lw_m7 4 rfl) rfl
theorem q1549 : (Jvm.Cond.methodLink "LandingTreeModel" (244 : Nat) ({ cls := "LandingTreeModel", name := "comesTo", desc := "(II)I" } : Jvm.MethodName)) ∈ lw_all := lw_g (lw_at lw_m7 5 rfl) rfl
theorem q1550 : (Jvm.Cond.privateMethod ({ cls := "LandingTreeModel", name := "comesTo", desc := "(II)I" } : Jvm.MethodName)) ∈ lw_tbl := lw_at lw_m7 6 rfl
theorem q1551 : (Jvm.Cond.instanceMethod ({ cls := "LandingTreeModel", name := "comesTo", desc := "(II)I" } : Jvm.MethodName)) ∈ lw_all := lw_g (lw_at lw_m7 7 rfl) rfl
theorem q1552 : (Jvm.Cond.code ({ cls := "LandingTreeModel", name := "comesTo", desc := "(II)I" } : Jvm.MethodName) prog_19_method_45_code (8 : Nat) (Option.some Jvm.ClassFile.FieldType.int)) ∈ lw_all := lw_g (lw_at lw_m7 8 rfl) rfl
theorem q1553 : (Jvm.Cond.methodLink "LandingTreeModel" (240 : Nat) ({ cls := "LandingTreeModel", name := "reckon", desc := "(III)I" } : Jvm.MethodName)) ∈ lw_all := lw_g (lw_at lw_m7 9 rfl) rfl
theorem q1554 : (Jvm.Cond.static ({ cls := "LandingTreeModel", name := "reckon", desc := "(III)I" } : Jvm.MethodName)) ∈ lw_all := lw_g (lw_at lw_m7 10 rfl) rfl
theorem q1555 : (Jvm.Cond.code ({ cls := "LandingTreeModel", name := "reckon", desc := "(III)I" } : Jvm.MethodName) prog_19_method_44_code (3 : Nat) (Option.some Jvm.ClassFile.FieldType.int)) ∈ lw_all := lw_g (lw_at lw_m7 11 rfl) rfl
theorem q1557 : (Jvm.Cond.instanceMethod ({ cls := "LandingTreeModel", name := "days", desc := "(I)I" } : Jvm.MethodName)) ∈ lw_all := lw_g (lw_at lw_m7 13 rfl) rfl
theorem q1558 : (Jvm.Cond.selects "LandingTreeModel" ({ cls := "LandingTreeModel", name := "days", desc := "(I)I" } : Jvm.MethodName) ({ cls := "LandingTreeModel", name := "days", desc := "(I)I" } : Jvm.MethodName)) ∈ lw_all := lw_g (lw_at lw_m7 14 rfl) rfl
theorem q1559 : (Jvm.Cond.code ({ cls := "LandingTreeModel", name := "days", desc := "(I)I" } : Jvm.MethodName) prog_19_method_56_code (2 : Nat) (Option.some Jvm.ClassFile.FieldType.int)) ∈ lw_all := lw_g (lw_at lw_m7 15 rfl) rfl
theorem q1560 : (Jvm.Cond.methodLink "LandingTreeModel" (291 : Nat) ({ cls := "LandingTreeModel", name := "daysGo", desc := "(I)V" } : Jvm.MethodName)) ∈ lw_all := lw_g (lw_at lw_m7 16 rfl) rfl
theorem q1561 : (Jvm.Cond.privateMethod ({ cls := "LandingTreeModel", name := "daysGo", desc := "(I)V" } : Jvm.MethodName)) ∈ lw_tbl := lw_at lw_m7 17 rfl
theorem q1562 : (Jvm.Cond.instanceMethod ({ cls := "LandingTreeModel", name := "daysGo", desc := "(I)V" } : Jvm.MethodName)) ∈ lw_all := lw_g (lw_at lw_m7 18 rfl) rfl
theorem q1563 : (Jvm.Cond.code ({ cls := "LandingTreeModel", name := "daysGo", desc := "(I)V" } : Jvm.MethodName) prog_19_method_55_code (3 : Nat) (Option.none : Option Jvm.ClassFile.FieldType)) ∈ lw_all := lw_g (lw_at lw_m7 19 rfl) rfl
theorem q1564 : (Jvm.Cond.methodLink "LandingTreeModel" (288 : Nat) ({ cls := "LandingTreeModel", name := "dayGoes", desc := "()V" } : Jvm.MethodName)) ∈ lw_all := lw_g (lw_at lw_m7 20 rfl) rfl
theorem q1565 : (Jvm.Cond.privateMethod ({ cls := "LandingTreeModel", name := "dayGoes", desc := "()V" } : Jvm.MethodName)) ∈ lw_tbl := lw_at lw_m7 21 rfl
theorem q1566 : (Jvm.Cond.instanceMethod ({ cls := "LandingTreeModel", name := "dayGoes", desc := "()V" } : Jvm.MethodName)) ∈ lw_all := lw_g (lw_at lw_m7 22 rfl) rfl
theorem q1567 : (Jvm.Cond.code ({ cls := "LandingTreeModel", name := "dayGoes", desc := "()V" } : Jvm.MethodName) prog_19_method_54_code (3 : Nat) (Option.none : Option Jvm.ClassFile.FieldType)) ∈ lw_all := lw_g (lw_at lw_m7 23 rfl) rfl
theorem q1568 : (Jvm.Cond.methodLink "LandingTreeModel" (275 : Nat) ({ cls := "LandingTreeModel", name := "draws", desc := "()I" } : Jvm.MethodName)) ∈ lw_all := lw_g (lw_at lw_m7 24 rfl) rfl
theorem q1569 : (Jvm.Cond.privateMethod ({ cls := "LandingTreeModel", name := "draws", desc := "()I" } : Jvm.MethodName)) ∈ lw_tbl := lw_at lw_m7 25 rfl
theorem q1570 : (Jvm.Cond.instanceMethod ({ cls := "LandingTreeModel", name := "draws", desc := "()I" } : Jvm.MethodName)) ∈ lw_all := lw_g (lw_at lw_m7 26 rfl) rfl
theorem q1571 : (Jvm.Cond.code ({ cls := "LandingTreeModel", name := "draws", desc := "()I" } : Jvm.MethodName) prog_19_method_51_code (1 : Nat) (Option.some Jvm.ClassFile.FieldType.int)) ∈ lw_all := lw_g (lw_at lw_m7 27 rfl) rfl
theorem q1572 : (Jvm.Cond.constant "LandingTreeModel" (265 : Nat) (65536 : Int32)) ∈ lw_all := lw_g (lw_at lw_m7 28 rfl) rfl
theorem q1573 : (Jvm.Cond.methodLink "LandingTreeModel" (278 : Nat) ({ cls := "LandingTreeModel", name := "waters", desc := "(II)V" } : Jvm.MethodName)) ∈ lw_all := lw_g (lw_at lw_m7 29 rfl) rfl
theorem q1574 : (Jvm.Cond.privateMethod ({ cls := "LandingTreeModel", name := "waters", desc := "(II)V" } : Jvm.MethodName)) ∈ lw_tbl := lw_at lw_m7 30 rfl
theorem q1575 : (Jvm.Cond.instanceMethod ({ cls := "LandingTreeModel", name := "waters", desc := "(II)V" } : Jvm.MethodName)) ∈ lw_all := lw_g (lw_at lw_m7 31 rfl) rfl
theorem q1576 : (Jvm.Cond.code ({ cls := "LandingTreeModel", name := "waters", desc := "(II)V" } : Jvm.MethodName) prog_19_method_52_code (5 : Nat) (Option.none : Option Jvm.ClassFile.FieldType)) ∈ lw_all := lw_g (lw_at lw_m7 32 rfl) rfl
theorem q1577 : (Jvm.Cond.methodLink "LandingTreeModel" (284 : Nat) ({ cls := "LandingTreeModel", name := "dries", desc := "(IZ)V" } : Jvm.MethodName)) ∈ lw_all := lw_g (lw_at lw_m7 33 rfl) rfl
theorem q1578 : (Jvm.Cond.privateMethod ({ cls := "LandingTreeModel", name := "dries", desc := "(IZ)V" } : Jvm.MethodName)) ∈ lw_tbl := lw_at lw_m7 34 rfl
theorem q1579 : (Jvm.Cond.instanceMethod ({ cls := "LandingTreeModel", name := "dries", desc := "(IZ)V" } : Jvm.MethodName)) ∈ lw_all := lw_g (lw_at lw_m7 35 rfl) rfl
theorem q1580 : (Jvm.Cond.code ({ cls := "LandingTreeModel", name := "dries", desc := "(IZ)V" } : Jvm.MethodName) prog_19_method_53_code (6 : Nat) (Option.none : Option Jvm.ClassFile.FieldType)) ∈ lw_all := lw_g (lw_at lw_m7 36 rfl) rfl
theorem q1581 : (Jvm.Cond.methodLink "LandingTreeModel" (272 : Nat) ({ cls := "LandingTreeModel", name := "max", desc := "(II)I" } : Jvm.MethodName)) ∈ lw_all := lw_g (lw_at lw_m7 37 rfl) rfl
theorem q1582 : (Jvm.Cond.static ({ cls := "LandingTreeModel", name := "max", desc := "(II)I" } : Jvm.MethodName)) ∈ lw_all := lw_g (lw_at lw_m7 38 rfl) rfl
theorem q1583 : (Jvm.Cond.code ({ cls := "LandingTreeModel", name := "max", desc := "(II)I" } : Jvm.MethodName) prog_19_method_4_code (2 : Nat) (Option.some Jvm.ClassFile.FieldType.int)) ∈ lw_all := lw_g (lw_at lw_m7 39 rfl) rfl
theorem q1585 : (Jvm.Cond.instanceMethod ({ cls := "LandingTreeModel", name := "tried", desc := "(II)I" } : Jvm.MethodName)) ∈ lw_all := lw_g (lw_at lw_m7 41 rfl) rfl
theorem q1586 : (Jvm.Cond.selects "LandingTreeModel" ({ cls := "LandingTreeModel", name := "tried", desc := "(II)I" } : Jvm.MethodName) ({ cls := "LandingTreeModel", name := "tried", desc := "(II)I" } : Jvm.MethodName)) ∈ lw_all := lw_g (lw_at lw_m7 42 rfl) rfl
theorem q1587 : (Jvm.Cond.code ({ cls := "LandingTreeModel", name := "tried", desc := "(II)I" } : Jvm.MethodName) prog_19_method_57_code (5 : Nat) (Option.some Jvm.ClassFile.FieldType.int)) ∈ lw_all := lw_g (lw_at lw_m7 43 rfl) rfl
theorem q1588 : (Jvm.Cond.methodLink "LandingTreeModel" (294 : Nat) ({ cls := "LandingTreeModel", name := "copies", desc := "([I[I)V" } : Jvm.MethodName)) ∈ lw_all := lw_g (lw_at lw_m7 44 rfl) rfl
theorem q1589 : (Jvm.Cond.static ({ cls := "LandingTreeModel", name := "copies", desc := "([I[I)V" } : Jvm.MethodName)) ∈ lw_all := lw_g (lw_at lw_m7 45 rfl) rfl
theorem q1590 : (Jvm.Cond.code ({ cls := "LandingTreeModel", name := "copies", desc := "([I[I)V" } : Jvm.MethodName) prog_19_method_7_code (3 : Nat) (Option.none : Option Jvm.ClassFile.FieldType)) ∈ lw_all := lw_g (lw_at lw_m7 46 rfl) rfl
theorem q1592 : (Jvm.Cond.instanceMethod ({ cls := "LandingTreeModel", name := "plantIs", desc := "(II)I" } : Jvm.MethodName)) ∈ lw_all := lw_g (lw_at lw_m7 48 rfl) rfl
theorem q1593 : (Jvm.Cond.selects "LandingTreeModel" ({ cls := "LandingTreeModel", name := "plantIs", desc := "(II)I" } : Jvm.MethodName) ({ cls := "LandingTreeModel", name := "plantIs", desc := "(II)I" } : Jvm.MethodName)) ∈ lw_all := lw_g (lw_at lw_m7 49 rfl) rfl
theorem q1594 : (Jvm.Cond.code ({ cls := "LandingTreeModel", name := "plantIs", desc := "(II)I" } : Jvm.MethodName) prog_19_method_58_code (3 : Nat) (Option.some Jvm.ClassFile.FieldType.int)) ∈ lw_all := lw_g (lw_at lw_m7 50 rfl) rfl
theorem q1596 : (Jvm.Cond.instanceMethod ({ cls := "LandingTreeModel", name := "exactly", desc := "(IIII)J" } : Jvm.MethodName)) ∈ lw_all := lw_g (lw_at lw_m7 52 rfl) rfl
theorem q1597 : (Jvm.Cond.selects "LandingTreeModel" ({ cls := "LandingTreeModel", name := "exactly", desc := "(IIII)J" } : Jvm.MethodName) ({ cls := "LandingTreeModel", name := "exactly", desc := "(IIII)J" } : Jvm.MethodName)) ∈ lw_all := lw_g (lw_at lw_m7 53 rfl) rfl
theorem q1598 : (Jvm.Cond.code ({ cls := "LandingTreeModel", name := "exactly", desc := "(IIII)J" } : Jvm.MethodName) prog_19_method_69_code (8 : Nat) (Option.some Jvm.ClassFile.FieldType.long)) ∈ lw_all := lw_g (lw_at lw_m7 54 rfl) rfl
theorem q1599 : (Jvm.Cond.methodLink "LandingTreeModel" (342 : Nat) ({ cls := "LandingTreeModel", name := "canGo", desc := "(III)Z" } : Jvm.MethodName)) ∈ lw_all := lw_g (lw_at lw_m7 55 rfl) rfl
theorem q1600 : (Jvm.Cond.privateMethod ({ cls := "LandingTreeModel", name := "canGo", desc := "(III)Z" } : Jvm.MethodName)) ∈ lw_tbl := lw_at lw_m7 56 rfl
theorem q1601 : (Jvm.Cond.instanceMethod ({ cls := "LandingTreeModel", name := "canGo", desc := "(III)Z" } : Jvm.MethodName)) ∈ lw_all := lw_g (lw_at lw_m7 57 rfl) rfl
theorem q1602 : (Jvm.Cond.code ({ cls := "LandingTreeModel", name := "canGo", desc := "(III)Z" } : Jvm.MethodName) prog_19_method_68_code (4 : Nat) (Option.some Jvm.ClassFile.FieldType.boolean)) ∈ lw_all := lw_g (lw_at lw_m7 58 rfl) rfl
theorem q1603 : (Jvm.Cond.methodLink "LandingTreeModel" (339 : Nat) ({ cls := "LandingTreeModel", name := "laysSome", desc := "(I)Z" } : Jvm.MethodName)) ∈ lw_all := lw_g (lw_at lw_m7 59 rfl) rfl
theorem q1604 : (Jvm.Cond.privateMethod ({ cls := "LandingTreeModel", name := "laysSome", desc := "(I)Z" } : Jvm.MethodName)) ∈ lw_tbl := lw_at lw_m7 60 rfl
theorem q1605 : (Jvm.Cond.instanceMethod ({ cls := "LandingTreeModel", name := "laysSome", desc := "(I)Z" } : Jvm.MethodName)) ∈ lw_all := lw_g (lw_at lw_m7 61 rfl) rfl
theorem q1606 : (Jvm.Cond.code ({ cls := "LandingTreeModel", name := "laysSome", desc := "(I)Z" } : Jvm.MethodName) prog_19_method_59_code (4 : Nat) (Option.some Jvm.ClassFile.FieldType.boolean)) ∈ lw_all := lw_g (lw_at lw_m7 62 rfl) rfl
theorem q1607 : (Jvm.Cond.constantLong "LandingTreeModel" (345 : Nat) (-1 : Int64)) ∈ lw_all := lw_g (lw_at lw_m7 63 rfl) rfl
theorem q1608 : (Jvm.Cond.methodLink "LandingTreeModel" (347 : Nat) ({ cls := "LandingTreeModel", name := "goesThrough", desc := "(II)J" } : Jvm.MethodName)) ∈ lw_all := lw_g (lw_at lw_m7 64 rfl) rfl
theorem q1609 : (Jvm.Cond.privateMethod ({ cls := "LandingTreeModel", name := "goesThrough", desc := "(II)J" } : Jvm.MethodName)) ∈ lw_tbl := lw_at lw_m7 65 rfl
theorem q1610 : (Jvm.Cond.instanceMethod ({ cls := "LandingTreeModel", name := "goesThrough", desc := "(II)J" } : Jvm.MethodName)) ∈ lw_all := lw_g (lw_at lw_m7 66 rfl) rfl
theorem q1611 : (Jvm.Cond.code ({ cls := "LandingTreeModel", name := "goesThrough", desc := "(II)J" } : Jvm.MethodName) prog_19_method_67_code (7 : Nat) (Option.some Jvm.ClassFile.FieldType.long)) ∈ lw_all := lw_g (lw_at lw_m7 67 rfl) rfl
theorem q1612 : (Jvm.Cond.methodLink "LandingTreeModel" (325 : Nat) ({ cls := "LandingTreeModel", name := "stateOf", desc := "(III)I" } : Jvm.MethodName)) ∈ lw_all := lw_g (lw_at lw_m7 68 rfl) rfl
theorem q1613 : (Jvm.Cond.static ({ cls := "LandingTreeModel", name := "stateOf", desc := "(III)I" } : Jvm.MethodName)) ∈ lw_all := lw_g (lw_at lw_m7 69 rfl) rfl
theorem q1614 : (Jvm.Cond.code ({ cls := "LandingTreeModel", name := "stateOf", desc := "(III)I" } : Jvm.MethodName) prog_19_method_60_code (3 : Nat) (Option.some Jvm.ClassFile.FieldType.int)) ∈ lw_all := lw_g (lw_at lw_m7 70 rfl) rfl
theorem q1615 : (Jvm.Cond.methodLink "LandingTreeModel" (328 : Nat) ({ cls := "LandingTreeModel", name := "tens", desc := "(I)J" } : Jvm.MethodName)) ∈ lw_all := lw_g (lw_at lw_m7 71 rfl) rfl
theorem q1616 : (Jvm.Cond.static ({ cls := "LandingTreeModel", name := "tens", desc := "(I)J" } : Jvm.MethodName)) ∈ lw_all := lw_g (lw_at lw_m7 72 rfl) rfl
theorem q1617 : (Jvm.Cond.code ({ cls := "LandingTreeModel", name := "tens", desc := "(I)J" } : Jvm.MethodName) prog_19_method_8_code (4 : Nat) (Option.some Jvm.ClassFile.FieldType.long)) ∈ lw_all := lw_g (lw_at lw_m7 73 rfl) rfl
theorem q1618 : (Jvm.Cond.constantLong "LandingTreeModel" (112 : Nat) (10 : Int64)) ∈ lw_all := lw_g (lw_at lw_m7 74 rfl) rfl
theorem q1619 : (Jvm.Cond.methodLink "LandingTreeModel" (332 : Nat) ({ cls := "LandingTreeModel", name := "comesBy", desc := "(II)V" } : Jvm.MethodName)) ∈ lw_all := lw_g (lw_at lw_m7 75 rfl) rfl
theorem q1620 : (Jvm.Cond.privateMethod ({ cls := "LandingTreeModel", name := "comesBy", desc := "(II)V" } : Jvm.MethodName)) ∈ lw_tbl := lw_at lw_m7 76 rfl
theorem q1621 : (Jvm.Cond.instanceMethod ({ cls := "LandingTreeModel", name := "comesBy", desc := "(II)V" } : Jvm.MethodName)) ∈ lw_all := lw_g (lw_at lw_m7 77 rfl) rfl
theorem q1622 : (Jvm.Cond.code ({ cls := "LandingTreeModel", name := "comesBy", desc := "(II)V" } : Jvm.MethodName) prog_19_method_65_code (6 : Nat) (Option.none : Option Jvm.ClassFile.FieldType)) ∈ lw_all := lw_g (lw_at lw_m7 78 rfl) rfl
theorem q1623 : (Jvm.Cond.methodLink "LandingTreeModel" (316 : Nat) ({ cls := "LandingTreeModel", name := "cupsIn", desc := "(III)I" } : Jvm.MethodName)) ∈ lw_all := lw_g (lw_at lw_m7 79 rfl) rfl
theorem q1624 : (Jvm.Cond.privateMethod ({ cls := "LandingTreeModel", name := "cupsIn", desc := "(III)I" } : Jvm.MethodName)) ∈ lw_tbl := lw_at lw_m7 80 rfl
theorem q1625 : (Jvm.Cond.instanceMethod ({ cls := "LandingTreeModel", name := "cupsIn", desc := "(III)I" } : Jvm.MethodName)) ∈ lw_all := lw_g (lw_at lw_m7 81 rfl) rfl
theorem q1626 : (Jvm.Cond.code ({ cls := "LandingTreeModel", name := "cupsIn", desc := "(III)I" } : Jvm.MethodName) prog_19_method_64_code (4 : Nat) (Option.some Jvm.ClassFile.FieldType.int)) ∈ lw_all := lw_g (lw_at lw_m7 82 rfl) rfl
theorem q1627 : (Jvm.Cond.methodLink "LandingTreeModel" (313 : Nat) ({ cls := "LandingTreeModel", name := "feelsState", desc := "(II)V" } : Jvm.MethodName)) ∈ lw_all := lw_g (lw_at lw_m7 83 rfl) rfl
theorem q1628 : (Jvm.Cond.privateMethod ({ cls := "LandingTreeModel", name := "feelsState", desc := "(II)V" } : Jvm.MethodName)) ∈ lw_tbl := lw_at lw_m7 84 rfl
theorem q1629 : (Jvm.Cond.instanceMethod ({ cls := "LandingTreeModel", name := "feelsState", desc := "(II)V" } : Jvm.MethodName)) ∈ lw_all := lw_g (lw_at lw_m7 85 rfl) rfl
theorem q1630 : (Jvm.Cond.code ({ cls := "LandingTreeModel", name := "feelsState", desc := "(II)V" } : Jvm.MethodName) prog_19_method_63_code (3 : Nat) (Option.none : Option Jvm.ClassFile.FieldType)) ∈ lw_all := lw_g (lw_at lw_m7 86 rfl) rfl
theorem q1631 : (Jvm.Cond.methodLink "LandingTreeModel" (304 : Nat) ({ cls := "LandingTreeModel", name := "dryIn", desc := "(I)I" } : Jvm.MethodName)) ∈ lw_all := lw_g (lw_at lw_m7 87 rfl) rfl
theorem q1632 : (Jvm.Cond.static ({ cls := "LandingTreeModel", name := "dryIn", desc := "(I)I" } : Jvm.MethodName)) ∈ lw_all := lw_g (lw_at lw_m7 88 rfl) rfl
theorem q1633 : (Jvm.Cond.code ({ cls := "LandingTreeModel", name := "dryIn", desc := "(I)I" } : Jvm.MethodName) prog_19_method_61_code (1 : Nat) (Option.some Jvm.ClassFile.FieldType.int)) ∈ lw_all := lw_g (lw_at lw_m7 89 rfl) rfl
theorem q1634 : (Jvm.Cond.methodLink "LandingTreeModel" (307 : Nat) ({ cls := "LandingTreeModel", name := "drownedIn", desc := "(I)I" } : Jvm.MethodName)) ∈ lw_all := lw_g (lw_at lw_m7 90 rfl) rfl
theorem q1635 : (Jvm.Cond.static ({ cls := "LandingTreeModel", name := "drownedIn", desc := "(I)I" } : Jvm.MethodName)) ∈ lw_all := lw_g (lw_at lw_m7 91 rfl) rfl
theorem q1636 : (Jvm.Cond.code ({ cls := "LandingTreeModel", name := "drownedIn", desc := "(I)I" } : Jvm.MethodName) prog_19_method_62_code (1 : Nat) (Option.some Jvm.ClassFile.FieldType.int)) ∈ lw_all := lw_g (lw_at lw_m7 92 rfl) rfl
theorem q1637 : (Jvm.Cond.methodLink "LandingTreeModel" (335 : Nat) ({ cls := "LandingTreeModel", name := "sunBy", desc := "(IIZ)V" } : Jvm.MethodName)) ∈ lw_all := lw_g (lw_at lw_m7 93 rfl) rfl
theorem q1638 : (Jvm.Cond.privateMethod ({ cls := "LandingTreeModel", name := "sunBy", desc := "(IIZ)V" } : Jvm.MethodName)) ∈ lw_tbl := lw_at lw_m7 94 rfl
theorem q1639 : (Jvm.Cond.instanceMethod ({ cls := "LandingTreeModel", name := "sunBy", desc := "(IIZ)V" } : Jvm.MethodName)) ∈ lw_all := lw_g (lw_at lw_m7 95 rfl) rfl
theorem q1640 : (Jvm.Cond.code ({ cls := "LandingTreeModel", name := "sunBy", desc := "(IIZ)V" } : Jvm.MethodName) prog_19_method_66_code (10 : Nat) (Option.none : Option Jvm.ClassFile.FieldType)) ∈ lw_all := lw_g (lw_at lw_m7 96 rfl) rfl
theorem q1641 : (Jvm.Cond.constantLong "LandingTreeModel" (319 : Nat) (5 : Int64)) ∈ lw_all := lw_g (lw_at lw_m7 97 rfl) rfl
theorem q1643 : (Jvm.Cond.instanceMethod ({ cls := "LandingTreeModel", name := "chance", desc := "(IIII)J" } : Jvm.MethodName)) ∈ lw_all := lw_g (lw_at lw_m7 99 rfl) rfl
theorem q1644 : (Jvm.Cond.selects "LandingTreeModel" ({ cls := "LandingTreeModel", name := "chance", desc := "(IIII)J" } : Jvm.MethodName) ({ cls := "LandingTreeModel", name := "chance", desc := "(IIII)J" } : Jvm.MethodName)) ∈ lw_all := lw_g (lw_at lw_m7 100 rfl) rfl
theorem q1645 : (Jvm.Cond.code ({ cls := "LandingTreeModel", name := "chance", desc := "(IIII)J" } : Jvm.MethodName) prog_19_method_70_code (11 : Nat) (Option.some Jvm.ClassFile.FieldType.long)) ∈ lw_all := lw_g (lw_at lw_m7 101 rfl) rfl
theorem q1647 : (Jvm.Cond.instanceMethod ({ cls := "LandingTreeModel", name := "toAsk", desc := "(IIII)J" } : Jvm.MethodName)) ∈ lw_all := lw_g (lw_at lw_m7 103 rfl) rfl
theorem q1648 : (Jvm.Cond.selects "LandingTreeModel" ({ cls := "LandingTreeModel", name := "toAsk", desc := "(IIII)J" } : Jvm.MethodName) ({ cls := "LandingTreeModel", name := "toAsk", desc := "(IIII)J" } : Jvm.MethodName)) ∈ lw_all := lw_g (lw_at lw_m7 104 rfl) rfl
theorem q1649 : (Jvm.Cond.code ({ cls := "LandingTreeModel", name := "toAsk", desc := "(IIII)J" } : Jvm.MethodName) prog_19_method_71_code (11 : Nat) (Option.some Jvm.ClassFile.FieldType.long)) ∈ lw_all := lw_g (lw_at lw_m7 105 rfl) rfl
theorem q1651 : (Jvm.Cond.instanceMethod ({ cls := "LandingTreeModel", name := "few", desc := "(IIII)I" } : Jvm.MethodName)) ∈ lw_all := lw_g (lw_at lw_m7 107 rfl) rfl
theorem q1652 : (Jvm.Cond.selects "LandingTreeModel" ({ cls := "LandingTreeModel", name := "few", desc := "(IIII)I" } : Jvm.MethodName) ({ cls := "LandingTreeModel", name := "few", desc := "(IIII)I" } : Jvm.MethodName)) ∈ lw_all := lw_g (lw_at lw_m7 108 rfl) rfl
theorem q1653 : (Jvm.Cond.code ({ cls := "LandingTreeModel", name := "few", desc := "(IIII)I" } : Jvm.MethodName) prog_19_method_72_code (8 : Nat) (Option.some Jvm.ClassFile.FieldType.int)) ∈ lw_all := lw_g (lw_at lw_m7 109 rfl) rfl
theorem q1655 : (Jvm.Cond.instanceMethod ({ cls := "LandingTreeModel", name := "pot", desc := "(IIII)J" } : Jvm.MethodName)) ∈ lw_all := lw_g (lw_at lw_m7 111 rfl) rfl
theorem q1656 : (Jvm.Cond.selects "LandingTreeModel" ({ cls := "LandingTreeModel", name := "pot", desc := "(IIII)J" } : Jvm.MethodName) ({ cls := "LandingTreeModel", name := "pot", desc := "(IIII)J" } : Jvm.MethodName)) ∈ lw_all := lw_g (lw_at lw_m7 112 rfl) rfl
theorem q1657 : (Jvm.Cond.code ({ cls := "LandingTreeModel", name := "pot", desc := "(IIII)J" } : Jvm.MethodName) prog_19_method_73_code (11 : Nat) (Option.some Jvm.ClassFile.FieldType.long)) ∈ lw_all := lw_g (lw_at lw_m7 113 rfl) rfl
theorem q1658 : (Jvm.Cond.constantLong "LandingTreeModel" (351 : Nat) (-1000000000000 : Int64)) ∈ lw_all := lw_g (lw_at lw_m7 114 rfl) rfl
theorem q1660 : (Jvm.Cond.instanceMethod ({ cls := "LandingTreeModel", name := "ruleFor", desc := "(IIIII)J" } : Jvm.MethodName)) ∈ lw_all := lw_g (lw_at lw_m7 116 rfl) rfl
theorem q1661 : (Jvm.Cond.selects "LandingTreeModel" ({ cls := "LandingTreeModel", name := "ruleFor", desc := "(IIIII)J" } : Jvm.MethodName) ({ cls := "LandingTreeModel", name := "ruleFor", desc := "(IIIII)J" } : Jvm.MethodName)) ∈ lw_all := lw_g (lw_at lw_m7 117 rfl) rfl
theorem q1662 : (Jvm.Cond.code ({ cls := "LandingTreeModel", name := "ruleFor", desc := "(IIIII)J" } : Jvm.MethodName) prog_19_method_74_code (12 : Nat) (Option.some Jvm.ClassFile.FieldType.long)) ∈ lw_all := lw_g (lw_at lw_m7 118 rfl) rfl
theorem q1664 : (Jvm.Cond.instanceMethod ({ cls := "LandingTreeModel", name := "lasts", desc := "(II)I" } : Jvm.MethodName)) ∈ lw_all := lw_g (lw_at lw_m7 120 rfl) rfl
theorem q1665 : (Jvm.Cond.selects "LandingTreeModel" ({ cls := "LandingTreeModel", name := "lasts", desc := "(II)I" } : Jvm.MethodName) ({ cls := "LandingTreeModel", name := "lasts", desc := "(II)I" } : Jvm.MethodName)) ∈ lw_all := lw_g (lw_at lw_m7 121 rfl) rfl
theorem q1666 : (Jvm.Cond.code ({ cls := "LandingTreeModel", name := "lasts", desc := "(II)I" } : Jvm.MethodName) prog_19_method_76_code (3 : Nat) (Option.some Jvm.ClassFile.FieldType.int)) ∈ lw_all := lw_g (lw_at lw_m7 122 rfl) rfl
theorem q1667 : (Jvm.Cond.methodLink "LandingTreeModel" (353 : Nat) ({ cls := "LandingTreeModel", name := "lastsWith", desc := "(II)I" } : Jvm.MethodName)) ∈ lw_all := lw_g (lw_at lw_m7 123 rfl) rfl
theorem q1668 : (Jvm.Cond.privateMethod ({ cls := "LandingTreeModel", name := "lastsWith", desc := "(II)I" } : Jvm.MethodName)) ∈ lw_tbl := lw_at lw_m7 124 rfl
theorem q1669 : (Jvm.Cond.instanceMethod ({ cls := "LandingTreeModel", name := "lastsWith", desc := "(II)I" } : Jvm.MethodName)) ∈ lw_all := lw_g (lw_at lw_m7 125 rfl) rfl
theorem q1670 : (Jvm.Cond.code ({ cls := "LandingTreeModel", name := "lastsWith", desc := "(II)I" } : Jvm.MethodName) prog_19_method_75_code (4 : Nat) (Option.some Jvm.ClassFile.FieldType.int)) ∈ lw_all := lw_g (lw_at lw_m7 126 rfl) rfl
theorem q1672 : (Jvm.Cond.instanceMethod ({ cls := "LandingTreeModel", name := "spread", desc := "(II)I" } : Jvm.MethodName)) ∈ lw_all := lw_g (lw_at lw_m7 128 rfl) rfl
theorem q1673 : (Jvm.Cond.selects "LandingTreeModel" ({ cls := "LandingTreeModel", name := "spread", desc := "(II)I" } : Jvm.MethodName) ({ cls := "LandingTreeModel", name := "spread", desc := "(II)I" } : Jvm.MethodName)) ∈ lw_all := lw_g (lw_at lw_m7 129 rfl) rfl
theorem q1674 : (Jvm.Cond.code ({ cls := "LandingTreeModel", name := "spread", desc := "(II)I" } : Jvm.MethodName) prog_19_method_80_code (4 : Nat) (Option.some Jvm.ClassFile.FieldType.int)) ∈ lw_all := lw_g (lw_at lw_m7 130 rfl) rfl
theorem q1675 : (Jvm.Cond.methodLink "LandingTreeModel" (362 : Nat) ({ cls := "LandingTreeModel", name := "laysSpread", desc := "(I)I" } : Jvm.MethodName)) ∈ lw_all := lw_g (lw_at lw_m7 131 rfl) rfl
theorem q1676 : (Jvm.Cond.privateMethod ({ cls := "LandingTreeModel", name := "laysSpread", desc := "(I)I" } : Jvm.MethodName)) ∈ lw_tbl := lw_at lw_m7 132 rfl
theorem q1677 : (Jvm.Cond.instanceMethod ({ cls := "LandingTreeModel", name := "laysSpread", desc := "(I)I" } : Jvm.MethodName)) ∈ lw_all := lw_g (lw_at lw_m7 133 rfl) rfl
theorem q1678 : (Jvm.Cond.code ({ cls := "LandingTreeModel", name := "laysSpread", desc := "(I)I" } : Jvm.MethodName) prog_19_method_79_code (7 : Nat) (Option.some Jvm.ClassFile.FieldType.int)) ∈ lw_all := lw_g (lw_at lw_m7 134 rfl) rfl
theorem q1679 : (Jvm.Cond.methodLink "LandingTreeModel" (356 : Nat) ({ cls := "LandingTreeModel", name := "mayBe", desc := "(I)Z" } : Jvm.MethodName)) ∈ lw_all := lw_g (lw_at lw_m7 135 rfl) rfl
theorem q1680 : (Jvm.Cond.privateMethod ({ cls := "LandingTreeModel", name := "mayBe", desc := "(I)Z" } : Jvm.MethodName)) ∈ lw_tbl := lw_at lw_m7 136 rfl
theorem q1681 : (Jvm.Cond.instanceMethod ({ cls := "LandingTreeModel", name := "mayBe", desc := "(I)Z" } : Jvm.MethodName)) ∈ lw_all := lw_g (lw_at lw_m7 137 rfl) rfl
theorem q1682 : (Jvm.Cond.code ({ cls := "LandingTreeModel", name := "mayBe", desc := "(I)Z" } : Jvm.MethodName) prog_19_method_78_code (4 : Nat) (Option.some Jvm.ClassFile.FieldType.boolean)) ∈ lw_all := lw_g (lw_at lw_m7 138 rfl) rfl
theorem q1683 : (Jvm.Cond.methodLink "LandingTreeModel" (359 : Nat) ({ cls := "LandingTreeModel", name := "leastBy", desc := "()I" } : Jvm.MethodName)) ∈ lw_all := lw_g (lw_at lw_m7 139 rfl) rfl
theorem q1684 : (Jvm.Cond.privateMethod ({ cls := "LandingTreeModel", name := "leastBy", desc := "()I" } : Jvm.MethodName)) ∈ lw_tbl := lw_at lw_m7 140 rfl
theorem q1685 : (Jvm.Cond.instanceMethod ({ cls := "LandingTreeModel", name := "leastBy", desc := "()I" } : Jvm.MethodName)) ∈ lw_all := lw_g (lw_at lw_m7 141 rfl) rfl
theorem q1686 : (Jvm.Cond.code ({ cls := "LandingTreeModel", name := "leastBy", desc := "()I" } : Jvm.MethodName) prog_19_method_77_code (3 : Nat) (Option.some Jvm.ClassFile.FieldType.int)) ∈ lw_all := lw_g (lw_at lw_m7 142 rfl) rfl
theorem q1688 : (Jvm.Cond.instanceMethod ({ cls := "LandingTreeModel", name := "needs", desc := "(II)I" } : Jvm.MethodName)) ∈ lw_all := lw_g (lw_at lw_m7 144 rfl) rfl
theorem q1689 : (Jvm.Cond.selects "LandingTreeModel" ({ cls := "LandingTreeModel", name := "needs", desc := "(II)I" } : Jvm.MethodName) ({ cls := "LandingTreeModel", name := "needs", desc := "(II)I" } : Jvm.MethodName)) ∈ lw_all := lw_g (lw_at lw_m7 145 rfl) rfl
theorem q1690 : (Jvm.Cond.code ({ cls := "LandingTreeModel", name := "needs", desc := "(II)I" } : Jvm.MethodName) prog_19_method_81_code (4 : Nat) (Option.some Jvm.ClassFile.FieldType.int)) ∈ lw_all := lw_g (lw_at lw_m7 146 rfl) rfl
theorem q1692 : (Jvm.Cond.instanceMethod ({ cls := "LandingTreeModel", name := "movesOut", desc := "(IIII)J" } : Jvm.MethodName)) ∈ lw_all := lw_g (lw_at lw_m7 148 rfl) rfl
theorem q1693 : (Jvm.Cond.selects "LandingTreeModel" ({ cls := "LandingTreeModel", name := "movesOut", desc := "(IIII)J" } : Jvm.MethodName) ({ cls := "LandingTreeModel", name := "movesOut", desc := "(IIII)J" } : Jvm.MethodName)) ∈ lw_all := lw_g (lw_at lw_m7 149 rfl) rfl
theorem q1694 : (Jvm.Cond.code ({ cls := "LandingTreeModel", name := "movesOut", desc := "(IIII)J" } : Jvm.MethodName) prog_19_method_82_code (11 : Nat) (Option.some Jvm.ClassFile.FieldType.long)) ∈ lw_all := lw_g (lw_at lw_m7 150 rfl) rfl
theorem q1696 : (Jvm.Cond.instanceMethod ({ cls := "LandingTreeModel", name := "week", desc := "(III)I" } : Jvm.MethodName)) ∈ lw_all := lw_g (lw_at lw_m7 152 rfl) rfl
theorem q1697 : (Jvm.Cond.selects "LandingTreeModel" ({ cls := "LandingTreeModel", name := "week", desc := "(III)I" } : Jvm.MethodName) ({ cls := "LandingTreeModel", name := "week", desc := "(III)I" } : Jvm.MethodName)) ∈ lw_all := lw_g (lw_at lw_m7 153 rfl) rfl
theorem q1698 : (Jvm.Cond.code ({ cls := "LandingTreeModel", name := "week", desc := "(III)I" } : Jvm.MethodName) prog_19_method_86_code (7 : Nat) (Option.some Jvm.ClassFile.FieldType.int)) ∈ lw_all := lw_g (lw_at lw_m7 154 rfl) rfl
theorem q1699 : (Jvm.Cond.methodLink "LandingTreeModel" (368 : Nat) ({ cls := "LandingTreeModel", name := "comings", desc := "(II)I" } : Jvm.MethodName)) ∈ lw_all := lw_g (lw_at lw_m7 155 rfl) rfl
theorem q1700 : (Jvm.Cond.static ({ cls := "LandingTreeModel", name := "comings", desc := "(II)I" } : Jvm.MethodName)) ∈ lw_all := lw_g (lw_at lw_m7 156 rfl) rfl
theorem q1701 : (Jvm.Cond.code ({ cls := "LandingTreeModel", name := "comings", desc := "(II)I" } : Jvm.MethodName) prog_19_method_84_code (4 : Nat) (Option.some Jvm.ClassFile.FieldType.int)) ∈ lw_all := lw_g (lw_at lw_m7 157 rfl) rfl
theorem q1702 : (Jvm.Cond.methodLink "LandingTreeModel" (365 : Nat) ({ cls := "LandingTreeModel", name := "comingIn", desc := "(III)I" } : Jvm.MethodName)) ∈ lw_all := lw_g (lw_at lw_m7 158 rfl) rfl
theorem q1703 : (Jvm.Cond.static ({ cls := "LandingTreeModel", name := "comingIn", desc := "(III)I" } : Jvm.MethodName)) ∈ lw_all := lw_g (lw_at lw_m7 159 rfl) rfl
theorem q1704 : (Jvm.Cond.code ({ cls := "LandingTreeModel", name := "comingIn", desc := "(III)I" } : Jvm.MethodName) prog_19_method_83_code (5 : Nat) (Option.some Jvm.ClassFile.FieldType.int)) ∈ lw_all := lw_g (lw_at lw_m7 160 rfl) rfl
theorem q1705 : (Jvm.Cond.methodLink "LandingTreeModel" (371 : Nat) ({ cls := "LandingTreeModel", name := "wetBehind", desc := "(III)I" } : Jvm.MethodName)) ∈ lw_all := lw_g (lw_at lw_m7 161 rfl) rfl
theorem q1706 : (Jvm.Cond.privateMethod ({ cls := "LandingTreeModel", name := "wetBehind", desc := "(III)I" } : Jvm.MethodName)) ∈ lw_tbl := lw_at lw_m7 162 rfl
theorem q1707 : (Jvm.Cond.instanceMethod ({ cls := "LandingTreeModel", name := "wetBehind", desc := "(III)I" } : Jvm.MethodName)) ∈ lw_all := lw_g (lw_at lw_m7 163 rfl) rfl
theorem q1708 : (Jvm.Cond.code ({ cls := "LandingTreeModel", name := "wetBehind", desc := "(III)I" } : Jvm.MethodName) prog_19_method_85_code (6 : Nat) (Option.some Jvm.ClassFile.FieldType.int)) ∈ lw_all := lw_g (lw_at lw_m7 164 rfl) rfl
theorem q1710 : (Jvm.Cond.instanceMethod ({ cls := "LandingTreeModel", name := "comes", desc := "(III)J" } : Jvm.MethodName)) ∈ lw_all := lw_g (lw_at lw_m7 166 rfl) rfl
theorem q1711 : (Jvm.Cond.selects "LandingTreeModel" ({ cls := "LandingTreeModel", name := "comes", desc := "(III)J" } : Jvm.MethodName) ({ cls := "LandingTreeModel", name := "comes", desc := "(III)J" } : Jvm.MethodName)) ∈ lw_all := lw_g (lw_at lw_m7 167 rfl) rfl
theorem q1712 : (Jvm.Cond.code ({ cls := "LandingTreeModel", name := "comes", desc := "(III)J" } : Jvm.MethodName) prog_19_method_89_code (4 : Nat) (Option.some Jvm.ClassFile.FieldType.long)) ∈ lw_all := lw_g (lw_at lw_m7 168 rfl) rfl
theorem q1713 : (Jvm.Cond.methodLink "LandingTreeModel" (374 : Nat) ({ cls := "LandingTreeModel", name := "areTenths", desc := "(I)Z" } : Jvm.MethodName)) ∈ lw_all := lw_g (lw_at lw_m7 169 rfl) rfl
theorem q1714 : (Jvm.Cond.privateMethod ({ cls := "LandingTreeModel", name := "areTenths", desc := "(I)Z" } : Jvm.MethodName)) ∈ lw_tbl := lw_at lw_m7 170 rfl
theorem q1715 : (Jvm.Cond.instanceMethod ({ cls := "LandingTreeModel", name := "areTenths", desc := "(I)Z" } : Jvm.MethodName)) ∈ lw_all := lw_g (lw_at lw_m7 171 rfl) rfl
theorem q1716 : (Jvm.Cond.code ({ cls := "LandingTreeModel", name := "areTenths", desc := "(I)Z" } : Jvm.MethodName) prog_19_method_87_code (3 : Nat) (Option.some Jvm.ClassFile.FieldType.boolean)) ∈ lw_all := lw_g (lw_at lw_m7 172 rfl) rfl
theorem q1717 : (Jvm.Cond.constantLong "LandingTreeModel" (377 : Nat) (-2 : Int64)) ∈ lw_all := lw_g (lw_at lw_m7 173 rfl) rfl
theorem q1718 : (Jvm.Cond.methodLink "LandingTreeModel" (379 : Nat) ({ cls := "LandingTreeModel", name := "laysComes", desc := "(I)V" } : Jvm.MethodName)) ∈ lw_all := lw_g (lw_at lw_m7 174 rfl) rfl
theorem q1719 : (Jvm.Cond.privateMethod ({ cls := "LandingTreeModel", name := "laysComes", desc := "(I)V" } : Jvm.MethodName)) ∈ lw_tbl := lw_at lw_m7 175 rfl
theorem q1720 : (Jvm.Cond.instanceMethod ({ cls := "LandingTreeModel", name := "laysComes", desc := "(I)V" } : Jvm.MethodName)) ∈ lw_all := lw_g (lw_at lw_m7 176 rfl) rfl
theorem q1721 : (Jvm.Cond.code ({ cls := "LandingTreeModel", name := "laysComes", desc := "(I)V" } : Jvm.MethodName) prog_19_method_88_code (4 : Nat) (Option.none : Option Jvm.ClassFile.FieldType)) ∈ lw_all := lw_g (lw_at lw_m7 177 rfl) rfl
theorem q1722 : (Jvm.Cond.methodLink "LandingTreeModel" (382 : Nat) ({ cls := "LandingTreeModel", name := "through", desc := "(JJI)J" } : Jvm.MethodName)) ∈ lw_all := lw_g (lw_at lw_m7 178 rfl) rfl
theorem q1723 : (Jvm.Cond.static ({ cls := "LandingTreeModel", name := "through", desc := "(JJI)J" } : Jvm.MethodName)) ∈ lw_all := lw_g (lw_at lw_m7 179 rfl) rfl
theorem q1724 : (Jvm.Cond.code ({ cls := "LandingTreeModel", name := "through", desc := "(JJI)J" } : Jvm.MethodName) prog_19_method_10_code (7 : Nat) (Option.some Jvm.ClassFile.FieldType.long)) ∈ lw_all := lw_g (lw_at lw_m7 180 rfl) rfl
theorem q1725 : (Jvm.Cond.methodLink "LandingTreeModel" (114 : Nat) ({ cls := "LandingTreeModel", name := "gcd", desc := "(JJ)J" } : Jvm.MethodName)) ∈ lw_all := lw_g (lw_at lw_m7 181 rfl) rfl
theorem q1726 : (Jvm.Cond.static ({ cls := "LandingTreeModel", name := "gcd", desc := "(JJ)J" } : Jvm.MethodName)) ∈ lw_all := lw_g (lw_at lw_m7 182 rfl) rfl
theorem q1727 : (Jvm.Cond.code ({ cls := "LandingTreeModel", name := "gcd", desc := "(JJ)J" } : Jvm.MethodName) prog_19_method_9_code (10 : Nat) (Option.some Jvm.ClassFile.FieldType.long)) ∈ lw_all := lw_g (lw_at lw_m7 183 rfl) rfl
theorem q1729 : (Jvm.Cond.instanceMethod ({ cls := "LandingTreeModel", name := "share", desc := "(II)I" } : Jvm.MethodName)) ∈ lw_all := lw_g (lw_at lw_m7 185 rfl) rfl
theorem q1730 : (Jvm.Cond.selects "LandingTreeModel" ({ cls := "LandingTreeModel", name := "share", desc := "(II)I" } : Jvm.MethodName) ({ cls := "LandingTreeModel", name := "share", desc := "(II)I" } : Jvm.MethodName)) ∈ lw_all := lw_g (lw_at lw_m7 186 rfl) rfl
theorem q1731 : (Jvm.Cond.code ({ cls := "LandingTreeModel", name := "share", desc := "(II)I" } : Jvm.MethodName) prog_19_method_90_code (6 : Nat) (Option.some Jvm.ClassFile.FieldType.int)) ∈ lw_all := lw_g (lw_at lw_m7 187 rfl) rfl
theorem q1733 : (Jvm.Cond.instanceMethod ({ cls := "LandingTreeModel", name := "rota", desc := "(III)I" } : Jvm.MethodName)) ∈ lw_all := lw_g (lw_at lw_m7 189 rfl) rfl
theorem q1734 : (Jvm.Cond.selects "LandingTreeModel" ({ cls := "LandingTreeModel", name := "rota", desc := "(III)I" } : Jvm.MethodName) ({ cls := "LandingTreeModel", name := "rota", desc := "(III)I" } : Jvm.MethodName)) ∈ lw_all := lw_g (lw_at lw_m7 190 rfl) rfl
theorem q1735 : (Jvm.Cond.code ({ cls := "LandingTreeModel", name := "rota", desc := "(III)I" } : Jvm.MethodName) prog_19_method_94_code (7 : Nat) (Option.some Jvm.ClassFile.FieldType.int)) ∈ lw_all := lw_g (lw_at lw_m7 191 rfl) rfl
theorem q1736 : (Jvm.Cond.methodLink "LandingTreeModel" (401 : Nat) ({ cls := "LandingTreeModel", name := "readsWeek", desc := "()Z" } : Jvm.MethodName)) ∈ lw_all := lw_g (lw_at lw_m7 192 rfl) rfl
theorem q1737 : (Jvm.Cond.privateMethod ({ cls := "LandingTreeModel", name := "readsWeek", desc := "()Z" } : Jvm.MethodName)) ∈ lw_tbl := lw_at lw_m7 193 rfl
theorem q1738 : (Jvm.Cond.instanceMethod ({ cls := "LandingTreeModel", name := "readsWeek", desc := "()Z" } : Jvm.MethodName)) ∈ lw_all := lw_g (lw_at lw_m7 194 rfl) rfl
theorem q1739 : (Jvm.Cond.code ({ cls := "LandingTreeModel", name := "readsWeek", desc := "()Z" } : Jvm.MethodName) prog_19_method_92_code (5 : Nat) (Option.some Jvm.ClassFile.FieldType.boolean)) ∈ lw_all := lw_g (lw_at lw_m7 195 rfl) rfl
theorem q1740 : (Jvm.Cond.methodLink "LandingTreeModel" (386 : Nat) ({ cls := "LandingTreeModel", name := "isDayAt", desc := "(I)Z" } : Jvm.MethodName)) ∈ lw_all := lw_g (lw_at lw_m7 196 rfl) rfl
theorem q1741 : (Jvm.Cond.static ({ cls := "LandingTreeModel", name := "isDayAt", desc := "(I)Z" } : Jvm.MethodName)) ∈ lw_all := lw_g (lw_at lw_m7 197 rfl) rfl
theorem q1742 : (Jvm.Cond.code ({ cls := "LandingTreeModel", name := "isDayAt", desc := "(I)Z" } : Jvm.MethodName) prog_19_method_91_code (1 : Nat) (Option.some Jvm.ClassFile.FieldType.boolean)) ∈ lw_all := lw_g (lw_at lw_m7 198 rfl) rfl
theorem q1743 : (Jvm.Cond.methodLink "LandingTreeModel" (404 : Nat) ({ cls := "LandingTreeModel", name := "goesByRota", desc := "(I)V" } : Jvm.MethodName)) ∈ lw_all := lw_g (lw_at lw_m7 199 rfl) rfl
theorem q1744 : (Jvm.Cond.privateMethod ({ cls := "LandingTreeModel", name := "goesByRota", desc := "(I)V" } : Jvm.MethodName)) ∈ lw_tbl := lw_at lw_m7 200 rfl
theorem q1745 : (Jvm.Cond.instanceMethod ({ cls := "LandingTreeModel", name := "goesByRota", desc := "(I)V" } : Jvm.MethodName)) ∈ lw_all := lw_g (lw_at lw_m7 201 rfl) rfl
theorem q1746 : (Jvm.Cond.code ({ cls := "LandingTreeModel", name := "goesByRota", desc := "(I)V" } : Jvm.MethodName) prog_19_method_93_code (3 : Nat) (Option.none : Option Jvm.ClassFile.FieldType)) ∈ lw_all := lw_g (lw_at lw_m7 202 rfl) rfl
theorem q1748 : (Jvm.Cond.instanceMethod ({ cls := "LandingTreeModel", name := "alone", desc := "(II)I" } : Jvm.MethodName)) ∈ lw_all := lw_g (lw_at lw_m7 204 rfl) rfl
theorem q1749 : (Jvm.Cond.selects "LandingTreeModel" ({ cls := "LandingTreeModel", name := "alone", desc := "(II)I" } : Jvm.MethodName) ({ cls := "LandingTreeModel", name := "alone", desc := "(II)I" } : Jvm.MethodName)) ∈ lw_all := lw_g (lw_at lw_m7 205 rfl) rfl
theorem q1750 : (Jvm.Cond.code ({ cls := "LandingTreeModel", name := "alone", desc := "(II)I" } : Jvm.MethodName) prog_19_method_98_code (8 : Nat) (Option.some Jvm.ClassFile.FieldType.int)) ∈ lw_all := lw_g (lw_at lw_m7 206 rfl) rfl
theorem q1751 : (Jvm.Cond.methodLink "LandingTreeModel" (407 : Nat) ({ cls := "LandingTreeModel", name := "laysAlone", desc := "(I)V" } : Jvm.MethodName)) ∈ lw_all := lw_g (lw_at lw_m7 207 rfl) rfl
theorem q1752 : (Jvm.Cond.privateMethod ({ cls := "LandingTreeModel", name := "laysAlone", desc := "(I)V" } : Jvm.MethodName)) ∈ lw_tbl := lw_at lw_m7 208 rfl
theorem q1753 : (Jvm.Cond.instanceMethod ({ cls := "LandingTreeModel", name := "laysAlone", desc := "(I)V" } : Jvm.MethodName)) ∈ lw_all := lw_g (lw_at lw_m7 209 rfl) rfl
theorem q1754 : (Jvm.Cond.code ({ cls := "LandingTreeModel", name := "laysAlone", desc := "(I)V" } : Jvm.MethodName) prog_19_method_95_code (3 : Nat) (Option.none : Option Jvm.ClassFile.FieldType)) ∈ lw_all := lw_g (lw_at lw_m7 210 rfl) rfl
theorem q1755 : (Jvm.Cond.methodLink "LandingTreeModel" (410 : Nat) ({ cls := "LandingTreeModel", name := "waterBy", desc := "(II)Z" } : Jvm.MethodName)) ∈ lw_all := lw_g (lw_at lw_m7 211 rfl) rfl
theorem q1756 : (Jvm.Cond.privateMethod ({ cls := "LandingTreeModel", name := "waterBy", desc := "(II)Z" } : Jvm.MethodName)) ∈ lw_tbl := lw_at lw_m7 212 rfl
theorem q1757 : (Jvm.Cond.instanceMethod ({ cls := "LandingTreeModel", name := "waterBy", desc := "(II)Z" } : Jvm.MethodName)) ∈ lw_all := lw_g (lw_at lw_m7 213 rfl) rfl
theorem q1758 : (Jvm.Cond.code ({ cls := "LandingTreeModel", name := "waterBy", desc := "(II)Z" } : Jvm.MethodName) prog_19_method_97_code (6 : Nat) (Option.some Jvm.ClassFile.FieldType.boolean)) ∈ lw_all := lw_g (lw_at lw_m7 214 rfl) rfl
theorem q1759 : (Jvm.Cond.methodLink "LandingTreeModel" (413 : Nat) ({ cls := "LandingTreeModel", name := "gainOf", desc := "(II)I" } : Jvm.MethodName)) ∈ lw_all := lw_g (lw_at lw_m7 215 rfl) rfl
theorem q1760 : (Jvm.Cond.privateMethod ({ cls := "LandingTreeModel", name := "gainOf", desc := "(II)I" } : Jvm.MethodName)) ∈ lw_tbl := lw_at lw_m7 216 rfl
theorem q1761 : (Jvm.Cond.instanceMethod ({ cls := "LandingTreeModel", name := "gainOf", desc := "(II)I" } : Jvm.MethodName)) ∈ lw_all := lw_g (lw_at lw_m7 217 rfl) rfl
theorem q1762 : (Jvm.Cond.code ({ cls := "LandingTreeModel", name := "gainOf", desc := "(II)I" } : Jvm.MethodName) prog_19_method_96_code (3 : Nat) (Option.some Jvm.ClassFile.FieldType.int)) ∈ lw_all := lw_g (lw_at lw_m7 218 rfl) rfl
theorem q1764 : (Jvm.Cond.instanceMethod ({ cls := "LandingTreeModel", name := "whoDid", desc := "(IIIII)J" } : Jvm.MethodName)) ∈ lw_all := lw_g (lw_at lw_m7 220 rfl) rfl
theorem q1765 : (Jvm.Cond.selects "LandingTreeModel" ({ cls := "LandingTreeModel", name := "whoDid", desc := "(IIIII)J" } : Jvm.MethodName) ({ cls := "LandingTreeModel", name := "whoDid", desc := "(IIIII)J" } : Jvm.MethodName)) ∈ lw_all := lw_g (lw_at lw_m7 221 rfl) rfl
theorem q1766 : (Jvm.Cond.code ({ cls := "LandingTreeModel", name := "whoDid", desc := "(IIIII)J" } : Jvm.MethodName) prog_19_method_99_code (14 : Nat) (Option.some Jvm.ClassFile.FieldType.long)) ∈ lw_all := lw_g (lw_at lw_m7 222 rfl) rfl
theorem q1768 : (Jvm.Cond.instanceMethod ({ cls := "LandingTreeModel", name := "can", desc := "(IIII)J" } : Jvm.MethodName)) ∈ lw_all := lw_g (lw_at lw_m7 224 rfl) rfl
theorem q1769 : (Jvm.Cond.selects "LandingTreeModel" ({ cls := "LandingTreeModel", name := "can", desc := "(IIII)J" } : Jvm.MethodName) ({ cls := "LandingTreeModel", name := "can", desc := "(IIII)J" } : Jvm.MethodName)) ∈ lw_all := lw_g (lw_at lw_m7 225 rfl) rfl
theorem q1770 : (Jvm.Cond.code ({ cls := "LandingTreeModel", name := "can", desc := "(IIII)J" } : Jvm.MethodName) prog_19_method_100_code (8 : Nat) (Option.some Jvm.ClassFile.FieldType.long)) ∈ lw_all := lw_g (lw_at lw_m7 226 rfl) rfl
theorem q1772 : (Jvm.Cond.instanceMethod ({ cls := "LandingTreeModel", name := "seed", desc := "(I)Z" } : Jvm.MethodName)) ∈ lw_all := lw_g (lw_at lw_m7 228 rfl) rfl
theorem q1773 : (Jvm.Cond.selects "LandingTreeModel" ({ cls := "LandingTreeModel", name := "seed", desc := "(I)Z" } : Jvm.MethodName) ({ cls := "LandingTreeModel", name := "seed", desc := "(I)Z" } : Jvm.MethodName)) ∈ lw_all := lw_g (lw_at lw_m7 229 rfl) rfl
theorem q1774 : (Jvm.Cond.code ({ cls := "LandingTreeModel", name := "seed", desc := "(I)Z" } : Jvm.MethodName) prog_19_method_101_code (2 : Nat) (Option.some Jvm.ClassFile.FieldType.boolean)) ∈ lw_all := lw_g (lw_at lw_m7 230 rfl) rfl
theorem q1775 : (Jvm.Cond.constant "LandingTreeModel" (416 : Nat) (65535 : Int32)) ∈ lw_all := lw_g (lw_at lw_m7 231 rfl) rfl
theorem q1777 : (Jvm.Cond.instanceMethod ({ cls := "LandingTreeModel", name := "keep", desc := "()I" } : Jvm.MethodName)) ∈ lw_all := lw_g (lw_at lw_m7 233 rfl) rfl
theorem q1778 : (Jvm.Cond.selects "LandingTreeModel" ({ cls := "LandingTreeModel", name := "keep", desc := "()I" } : Jvm.MethodName) ({ cls := "LandingTreeModel", name := "keep", desc := "()I" } : Jvm.MethodName)) ∈ lw_all := lw_g (lw_at lw_m7 234 rfl) rfl
theorem q1779 : (Jvm.Cond.code ({ cls := "LandingTreeModel", name := "keep", desc := "()I" } : Jvm.MethodName) prog_19_method_102_code (3 : Nat) (Option.some Jvm.ClassFile.FieldType.int)) ∈ lw_all := lw_g (lw_at lw_m7 235 rfl) rfl
theorem q1781 : (Jvm.Cond.instanceMethod ({ cls := "LandingTreeModel", name := "undo", desc := "()Z" } : Jvm.MethodName)) ∈ lw_all := lw_g (lw_at lw_m7 237 rfl) rfl
theorem q1782 : (Jvm.Cond.selects "LandingTreeModel" ({ cls := "LandingTreeModel", name := "undo", desc := "()Z" } : Jvm.MethodName) ({ cls := "LandingTreeModel", name := "undo", desc := "()Z" } : Jvm.MethodName)) ∈ lw_all := lw_g (lw_at lw_m7 238 rfl) rfl
theorem q1783 : (Jvm.Cond.code ({ cls := "LandingTreeModel", name := "undo", desc := "()Z" } : Jvm.MethodName) prog_19_method_103_code (1 : Nat) (Option.some Jvm.ClassFile.FieldType.boolean)) ∈ lw_all := lw_g (lw_at lw_m7 239 rfl) rfl
theorem q1785 : (Jvm.Cond.instanceMethod ({ cls := "LandingTreeModel", name := "check", desc := "(II)I" } : Jvm.MethodName)) ∈ lw_all := lw_g (lw_at lw_m8 1 rfl) rfl
theorem q1786 : (Jvm.Cond.selects "LandingTreeModel" ({ cls := "LandingTreeModel", name := "check", desc := "(II)I" } : Jvm.MethodName) ({ cls := "LandingTreeModel", name := "check", desc := "(II)I" } : Jvm.MethodName)) ∈ lw_all := lw_g (lw_at lw_m8 2 rfl) rfl
theorem q1787 : (Jvm.Cond.code ({ cls := "LandingTreeModel", name := "check", desc := "(II)I" } : Jvm.MethodName) prog_19_method_105_code (4 : Nat) (Option.some Jvm.ClassFile.FieldType.int)) ∈ lw_all := lw_g (lw_at lw_m8 3 rfl) rfl
theorem q1788 : (Jvm.Cond.methodLink "LandingTreeModel" (421 : Nat) ({ cls := "LandingTreeModel", name := "tapeNumber", desc := "(I)I" } : Jvm.MethodName)) ∈ lw_all := lw_g (lw_at lw_m8 4 rfl) rfl
theorem q1789 : (Jvm.Cond.privateMethod ({ cls := "LandingTreeModel", name := "tapeNumber", desc := "(I)I" } : Jvm.MethodName)) ∈ lw_tbl := lw_at lw_m8 5 rfl
theorem q1790 : (Jvm.Cond.instanceMethod ({ cls := "LandingTreeModel", name := "tapeNumber", desc := "(I)I" } : Jvm.MethodName)) ∈ lw_all := lw_g (lw_at lw_m8 6 rfl) rfl
theorem q1791 : (Jvm.Cond.code ({ cls := "LandingTreeModel", name := "tapeNumber", desc := "(I)I" } : Jvm.MethodName) prog_19_method_104_code (4 : Nat) (Option.some Jvm.ClassFile.FieldType.int)) ∈ lw_all := lw_g (lw_at lw_m8 7 rfl) rfl
theorem q1793 : (Jvm.Cond.instanceMethod ({ cls := "LandingTreeModel", name := "count", desc := "(I)I" } : Jvm.MethodName)) ∈ lw_all := lw_g (lw_at lw_m8 9 rfl) rfl
theorem q1794 : (Jvm.Cond.selects "LandingTreeModel" ({ cls := "LandingTreeModel", name := "count", desc := "(I)I" } : Jvm.MethodName) ({ cls := "LandingTreeModel", name := "count", desc := "(I)I" } : Jvm.MethodName)) ∈ lw_all := lw_g (lw_at lw_m8 10 rfl) rfl
theorem q1795 : (Jvm.Cond.code ({ cls := "LandingTreeModel", name := "count", desc := "(I)I" } : Jvm.MethodName) prog_19_method_106_code (2 : Nat) (Option.some Jvm.ClassFile.FieldType.int)) ∈ lw_all := lw_g (lw_at lw_m8 11 rfl) rfl
theorem in_X7 : ∀ w ∈ wsX70, w ∈ lw_all := lw_in wsX70 [1278, 1280, 1282, 1284, 1286, 1288, 1290, 1292, 1294, 1296, 1298, 1300, 1302, 1304, 1306, 1308, 1310, 1312, 1314, 1316, 1318, 1320, 1322, 1324, 1326, 1328, 1330, 1332, 1334, 1336, 1338, 1340, 1342, 1344, 1346, 1348, 1350, 1352, 1354, 1356, 1358, 1360, 1362, 1364, 1366, 1368, 1370, 1372, 1374, 1376, 1378, 1380, 1382, 1384] (by decide +kernel) (by decide +kernel)
