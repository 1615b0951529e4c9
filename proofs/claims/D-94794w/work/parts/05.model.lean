/-! SnowForSummerModel -/
set_option maxRecDepth 100000
def RX3 : String := "SnowForSummerModel"
def TX3 : u_T := fun k => match k with
  | 0 => ("SnowForSummerModel", "now", "[I", true)
  | 1 => ("SnowForSummerModel", "houses", "I", false)
  | 2 => ("SnowForSummerModel", "hold", "[I", true)
  | 3 => ("SnowForSummerModel", "below", "[I", true)
  | 4 => ("SnowForSummerModel", "hay", "[I", true)
  | 5 => ("SnowForSummerModel", "weather", "[I", true)
  | 6 => ("SnowForSummerModel", "weatherMany", "I", false)
  | 7 => ("SnowForSummerModel", "text", "[B", true)
  | 8 => ("SnowForSummerModel", "typed", "I", false)
  | 9 => ("SnowForSummerModel", "row", "[I", true)
  | 10 => ("SnowForSummerModel", "rowMany", "I", false)
  | 11 => ("SnowForSummerModel", "thrown", "I", false)
  | 12 => ("SnowForSummerModel", "read", "[B", false)
  | 13 => ("SnowForSummerModel", "length", "I", false)
  | 14 => ("SnowForSummerModel", "top", "I", false)
  | 15 => ("SnowForSummerModel", "at", "I", false)
  | 16 => ("SnowForSummerModel", "wrong", "I", false)
  | 17 => ("SnowForSummerModel", "comes", "[I", true)
  | 18 => ("SnowForSummerModel", "rule", "[B", true)
  | 19 => ("SnowForSummerModel", "ruleSize", "I", false)
  | 20 => ("SnowForSummerModel", "isAsked", "Z", false)
  | 21 => ("SnowForSummerModel", "askedInches", "I", false)
  | 22 => ("SnowForSummerModel", "askedPath", "I", false)
  | 23 => ("SnowForSummerModel", "askedDay", "I", false)
  | 24 => ("SnowForSummerModel", "askedRoof", "I", false)
  | 25 => ("SnowForSummerModel", "askedBelow", "I", false)
  | 26 => ("SnowForSummerModel", "askedLoose", "I", false)
  | 27 => ("SnowForSummerModel", "slidesMany", "I", false)
  | 28 => ("SnowForSummerModel", "owedNow", "I", false)
  | 29 => ("SnowForSummerModel", "owedBy", "[I", true)
  | 30 => ("SnowForSummerModel", "slidInto", "I", false)
  | 31 => ("SnowForSummerModel", "undos", "[I", true)
  | 32 => ("SnowForSummerModel", "undoMany", "I", false)
  | 33 => ("SnowForSummerModel", "aside", "[I", true)
  | 34 => ("SnowForSummerModel", "acts", "[I", true)
  | 35 => ("SnowForSummerModel", "ring", "[I", true)
  | 36 => ("SnowForSummerModel", "bestRing", "[I", true)
  | 37 => ("SnowForSummerModel", "bestLength", "I", false)
  | 38 => ("SnowForSummerModel", "nets", "[I", true)
  | 39 => ("SnowForSummerModel", "worked", "[I", true)
  | 40 => ("SnowForSummerModel", "then", "[I", true)
  | 41 => ("SnowForSummerModel", "plan", "[I", true)
  | 42 => ("SnowForSummerModel", "bestPlan", "[I", true)
  | 43 => ("SnowForSummerModel", "tried", "[I", true)
  | 44 => ("SnowForSummerModel", "setOff", "I", false)
  | 45 => ("SnowForSummerModel", "letLie", "I", false)
  | 46 => ("SnowForSummerModel", "tracks", "[I", true)
  | 47 => ("SnowForSummerModel", "trackMany", "I", false)
  | 48 => ("SnowForSummerModel", "came", "I", false)
  | 49 => ("SnowForSummerModel", "kept", "[I", true)
  | 50 => ("SnowForSummerModel", "isKept", "[Z", true)
  | _ => ("SnowForSummerModel", "keptCame", "[I", true)
def tyX3 : Nat → FieldType := fun k => match k with
  | 0 => .array .int
  | 1 => .int
  | 2 => .array .int
  | 3 => .array .int
  | 4 => .array .int
  | 5 => .array .int
  | 6 => .int
  | 7 => .array .byte
  | 8 => .int
  | 9 => .array .int
  | 10 => .int
  | 11 => .int
  | 12 => .array .byte
  | 13 => .int
  | 14 => .int
  | 15 => .int
  | 16 => .int
  | 17 => .array .int
  | 18 => .array .byte
  | 19 => .int
  | 20 => .boolean
  | 21 => .int
  | 22 => .int
  | 23 => .int
  | 24 => .int
  | 25 => .int
  | 26 => .int
  | 27 => .int
  | 28 => .int
  | 29 => .array .int
  | 30 => .int
  | 31 => .array .int
  | 32 => .int
  | 33 => .array .int
  | 34 => .array .int
  | 35 => .array .int
  | 36 => .array .int
  | 37 => .int
  | 38 => .array .int
  | 39 => .array .int
  | 40 => .array .int
  | 41 => .array .int
  | 42 => .array .int
  | 43 => .array .int
  | 44 => .int
  | 45 => .int
  | 46 => .array .int
  | 47 => .int
  | 48 => .int
  | 49 => .array .int
  | 50 => .array .boolean
  | _ => .array .int
abbrev wsX30 : List Cond := u_ws RX3 TX3 52
set_option maxRecDepth 100000 in
theorem nmX3 : ∀ a, a < 52 → ∀ b, b < 52 → a ≠ b → (TX3 a).2.1 ≠ (TX3 b).2.1 := by decide +kernel
set_option maxRecDepth 100000 in
theorem tyX3_ok : ∀ k, k < 52 → parseFieldDescriptor (TX3 k).2.2.1 = some (tyX3 k) := by decide +kernel
abbrev cX3_init : ByteArray := prog_9_method_1_code
def yX3_init : MethodName := ⟨RX3, "<init>", "()V"⟩
def dkwX3_init_8 : List UInt8 := [42, 5, 188, 4, 181, 0, 80, 42, 5, 188, 10, 181, 0, 84, 177]
abbrev dktX3_init_8 : List UInt8 := dkwX3_init_8 ++ []
def dkwX3_init_7 : List UInt8 := [16, 71, 188, 10, 181, 0, 71, 42, 16, 40, 188, 10, 181, 0, 74, 42, 17, 0, 142, 188, 10, 181, 0, 77]
abbrev dktX3_init_7 : List UInt8 := dkwX3_init_7 ++ dktX3_init_8
def dkwX3_init_6 : List UInt8 := [42, 16, 71, 188, 10, 181, 0, 62, 42, 6, 188, 10, 181, 0, 65, 42, 6, 188, 10, 181, 0, 68, 42]
abbrev dktX3_init_6 : List UInt8 := dkwX3_init_6 ++ dktX3_init_7
def dkwX3_init_5 : List UInt8 := [42, 16, 7, 188, 10, 181, 0, 53, 42, 16, 7, 188, 10, 181, 0, 56, 42, 16, 7, 188, 10, 181, 0, 59]
abbrev dktX3_init_5 : List UInt8 := dkwX3_init_5 ++ dktX3_init_6
def dkwX3_init_4 : List UInt8 := [16, 71, 188, 10, 181, 0, 44, 42, 17, 1, 64, 188, 10, 181, 0, 47, 42, 16, 7, 188, 10, 181, 0, 50]
abbrev dktX3_init_4 : List UInt8 := dkwX3_init_4 ++ dktX3_init_5
def dkwX3_init_3 : List UInt8 := [188, 8, 181, 0, 35, 42, 16, 7, 188, 10, 181, 0, 38, 42, 17, 3, 84, 188, 10, 181, 0, 41, 42]
abbrev dktX3_init_3 : List UInt8 := dkwX3_init_3 ++ dktX3_init_4
def dkwX3_init_2 : List UInt8 := [188, 8, 181, 0, 25, 42, 16, 16, 188, 10, 181, 0, 29, 42, 16, 28, 188, 10, 181, 0, 32, 42, 16, 40]
abbrev dktX3_init_2 : List UInt8 := dkwX3_init_2 ++ dktX3_init_3
def dkwX3_init_1 : List UInt8 := [188, 10, 181, 0, 16, 42, 16, 7, 188, 10, 181, 0, 19, 42, 16, 40, 188, 10, 181, 0, 22, 42, 16, 80]
abbrev dktX3_init_1 : List UInt8 := dkwX3_init_1 ++ dktX3_init_2
def dkwX3_init_0 : List UInt8 := [42, 183, 0, 3, 42, 16, 71, 188, 10, 181, 0, 9, 42, 16, 7, 188, 10, 181, 0, 13, 42, 16, 14]
abbrev dktX3_init_0 : List UInt8 := dkwX3_init_0 ++ dktX3_init_1
theorem dksX3_init_0 : cX3_init.data.toList.drop 0 = dktX3_init_0 := by decide +kernel
theorem dksX3_init_1 : cX3_init.data.toList.drop 23 = dktX3_init_1 := dk_seg dksX3_init_0 23 rfl rfl
theorem dksX3_init_2 : cX3_init.data.toList.drop 47 = dktX3_init_2 := dk_seg dksX3_init_1 24 rfl rfl
theorem dksX3_init_3 : cX3_init.data.toList.drop 71 = dktX3_init_3 := dk_seg dksX3_init_2 24 rfl rfl
theorem dksX3_init_4 : cX3_init.data.toList.drop 94 = dktX3_init_4 := dk_seg dksX3_init_3 23 rfl rfl
theorem dksX3_init_5 : cX3_init.data.toList.drop 118 = dktX3_init_5 := dk_seg dksX3_init_4 24 rfl rfl
theorem dksX3_init_6 : cX3_init.data.toList.drop 142 = dktX3_init_6 := dk_seg dksX3_init_5 24 rfl rfl
theorem dksX3_init_7 : cX3_init.data.toList.drop 165 = dktX3_init_7 := dk_seg dksX3_init_6 23 rfl rfl
theorem dksX3_init_8 : cX3_init.data.toList.drop 189 = dktX3_init_8 := dk_seg dksX3_init_7 24 rfl rfl
theorem dX3_init_0 : decode cX3_init 0 = .ok (.aload_n 0, 1) := dk_42 (dk_at dksX3_init_0 0 rfl rfl)
theorem dX3_init_1 : decode cX3_init 1 = .ok (.invokespecial 3, 3) := dk_183 0 3 (dk_at dksX3_init_0 1 rfl rfl)
theorem dX3_init_4 : decode cX3_init 4 = .ok (.aload_n 0, 1) := dk_42 (dk_at dksX3_init_0 4 rfl rfl)
theorem dX3_init_5 : decode cX3_init 5 = .ok (.bipush 71, 2) := dk_16 71 (dk_at dksX3_init_0 5 rfl rfl)
theorem dX3_init_7 : decode cX3_init 7 = .ok (.newarray .int, 2) := dk_188_10 (dk_at dksX3_init_0 7 rfl rfl)
theorem dX3_init_9 : decode cX3_init 9 = .ok (.putfield 9, 3) := dk_181 0 9 (dk_at dksX3_init_0 9 rfl rfl)
theorem dX3_init_12 : decode cX3_init 12 = .ok (.aload_n 0, 1) := dk_42 (dk_at dksX3_init_0 12 rfl rfl)
theorem dX3_init_13 : decode cX3_init 13 = .ok (.bipush 7, 2) := dk_16 7 (dk_at dksX3_init_0 13 rfl rfl)
theorem dX3_init_15 : decode cX3_init 15 = .ok (.newarray .int, 2) := dk_188_10 (dk_at dksX3_init_0 15 rfl rfl)
theorem dX3_init_17 : decode cX3_init 17 = .ok (.putfield 13, 3) := dk_181 0 13 (dk_at dksX3_init_0 17 rfl rfl)
theorem dX3_init_20 : decode cX3_init 20 = .ok (.aload_n 0, 1) := dk_42 (dk_at dksX3_init_0 20 rfl rfl)
theorem dX3_init_21 : decode cX3_init 21 = .ok (.bipush 14, 2) := dk_16 14 (dk_at dksX3_init_0 21 rfl rfl)
theorem dX3_init_23 : decode cX3_init 23 = .ok (.newarray .int, 2) := dk_188_10 (dk_at dksX3_init_1 0 rfl rfl)
theorem dX3_init_25 : decode cX3_init 25 = .ok (.putfield 16, 3) := dk_181 0 16 (dk_at dksX3_init_1 2 rfl rfl)
theorem dX3_init_28 : decode cX3_init 28 = .ok (.aload_n 0, 1) := dk_42 (dk_at dksX3_init_1 5 rfl rfl)
theorem dX3_init_29 : decode cX3_init 29 = .ok (.bipush 7, 2) := dk_16 7 (dk_at dksX3_init_1 6 rfl rfl)
theorem dX3_init_31 : decode cX3_init 31 = .ok (.newarray .int, 2) := dk_188_10 (dk_at dksX3_init_1 8 rfl rfl)
theorem dX3_init_33 : decode cX3_init 33 = .ok (.putfield 19, 3) := dk_181 0 19 (dk_at dksX3_init_1 10 rfl rfl)
theorem dX3_init_36 : decode cX3_init 36 = .ok (.aload_n 0, 1) := dk_42 (dk_at dksX3_init_1 13 rfl rfl)
theorem dX3_init_37 : decode cX3_init 37 = .ok (.bipush 40, 2) := dk_16 40 (dk_at dksX3_init_1 14 rfl rfl)
theorem dX3_init_39 : decode cX3_init 39 = .ok (.newarray .int, 2) := dk_188_10 (dk_at dksX3_init_1 16 rfl rfl)
theorem dX3_init_41 : decode cX3_init 41 = .ok (.putfield 22, 3) := dk_181 0 22 (dk_at dksX3_init_1 18 rfl rfl)
theorem dX3_init_44 : decode cX3_init 44 = .ok (.aload_n 0, 1) := dk_42 (dk_at dksX3_init_1 21 rfl rfl)
theorem dX3_init_45 : decode cX3_init 45 = .ok (.bipush 80, 2) := dk_16 80 (dk_at dksX3_init_1 22 rfl rfl)
theorem dX3_init_47 : decode cX3_init 47 = .ok (.newarray .byte, 2) := dk_188_8 (dk_at dksX3_init_2 0 rfl rfl)
theorem dX3_init_49 : decode cX3_init 49 = .ok (.putfield 25, 3) := dk_181 0 25 (dk_at dksX3_init_2 2 rfl rfl)
theorem dX3_init_52 : decode cX3_init 52 = .ok (.aload_n 0, 1) := dk_42 (dk_at dksX3_init_2 5 rfl rfl)
theorem dX3_init_53 : decode cX3_init 53 = .ok (.bipush 16, 2) := dk_16 16 (dk_at dksX3_init_2 6 rfl rfl)
theorem dX3_init_55 : decode cX3_init 55 = .ok (.newarray .int, 2) := dk_188_10 (dk_at dksX3_init_2 8 rfl rfl)
theorem dX3_init_57 : decode cX3_init 57 = .ok (.putfield 29, 3) := dk_181 0 29 (dk_at dksX3_init_2 10 rfl rfl)
theorem dX3_init_60 : decode cX3_init 60 = .ok (.aload_n 0, 1) := dk_42 (dk_at dksX3_init_2 13 rfl rfl)
theorem dX3_init_61 : decode cX3_init 61 = .ok (.bipush 28, 2) := dk_16 28 (dk_at dksX3_init_2 14 rfl rfl)
theorem dX3_init_63 : decode cX3_init 63 = .ok (.newarray .int, 2) := dk_188_10 (dk_at dksX3_init_2 16 rfl rfl)
theorem dX3_init_65 : decode cX3_init 65 = .ok (.putfield 32, 3) := dk_181 0 32 (dk_at dksX3_init_2 18 rfl rfl)
theorem dX3_init_68 : decode cX3_init 68 = .ok (.aload_n 0, 1) := dk_42 (dk_at dksX3_init_2 21 rfl rfl)
theorem dX3_init_69 : decode cX3_init 69 = .ok (.bipush 40, 2) := dk_16 40 (dk_at dksX3_init_2 22 rfl rfl)
theorem dX3_init_71 : decode cX3_init 71 = .ok (.newarray .byte, 2) := dk_188_8 (dk_at dksX3_init_3 0 rfl rfl)
theorem dX3_init_73 : decode cX3_init 73 = .ok (.putfield 35, 3) := dk_181 0 35 (dk_at dksX3_init_3 2 rfl rfl)
theorem dX3_init_76 : decode cX3_init 76 = .ok (.aload_n 0, 1) := dk_42 (dk_at dksX3_init_3 5 rfl rfl)
theorem dX3_init_77 : decode cX3_init 77 = .ok (.bipush 7, 2) := dk_16 7 (dk_at dksX3_init_3 6 rfl rfl)
theorem dX3_init_79 : decode cX3_init 79 = .ok (.newarray .int, 2) := dk_188_10 (dk_at dksX3_init_3 8 rfl rfl)
theorem dX3_init_81 : decode cX3_init 81 = .ok (.putfield 38, 3) := dk_181 0 38 (dk_at dksX3_init_3 10 rfl rfl)
theorem dX3_init_84 : decode cX3_init 84 = .ok (.aload_n 0, 1) := dk_42 (dk_at dksX3_init_3 13 rfl rfl)
theorem dX3_init_85 : decode cX3_init 85 = .ok (.sipush 852, 3) := dk_17 3 84 (dk_at dksX3_init_3 14 rfl rfl)
theorem dX3_init_88 : decode cX3_init 88 = .ok (.newarray .int, 2) := dk_188_10 (dk_at dksX3_init_3 17 rfl rfl)
theorem dX3_init_90 : decode cX3_init 90 = .ok (.putfield 41, 3) := dk_181 0 41 (dk_at dksX3_init_3 19 rfl rfl)
theorem dX3_init_93 : decode cX3_init 93 = .ok (.aload_n 0, 1) := dk_42 (dk_at dksX3_init_3 22 rfl rfl)
theorem dX3_init_94 : decode cX3_init 94 = .ok (.bipush 71, 2) := dk_16 71 (dk_at dksX3_init_4 0 rfl rfl)
theorem dX3_init_96 : decode cX3_init 96 = .ok (.newarray .int, 2) := dk_188_10 (dk_at dksX3_init_4 2 rfl rfl)
theorem dX3_init_98 : decode cX3_init 98 = .ok (.putfield 44, 3) := dk_181 0 44 (dk_at dksX3_init_4 4 rfl rfl)
theorem dX3_init_101 : decode cX3_init 101 = .ok (.aload_n 0, 1) := dk_42 (dk_at dksX3_init_4 7 rfl rfl)
theorem dX3_init_102 : decode cX3_init 102 = .ok (.sipush 320, 3) := dk_17 1 64 (dk_at dksX3_init_4 8 rfl rfl)
theorem dX3_init_105 : decode cX3_init 105 = .ok (.newarray .int, 2) := dk_188_10 (dk_at dksX3_init_4 11 rfl rfl)
theorem dX3_init_107 : decode cX3_init 107 = .ok (.putfield 47, 3) := dk_181 0 47 (dk_at dksX3_init_4 13 rfl rfl)
theorem dX3_init_110 : decode cX3_init 110 = .ok (.aload_n 0, 1) := dk_42 (dk_at dksX3_init_4 16 rfl rfl)
theorem dX3_init_111 : decode cX3_init 111 = .ok (.bipush 7, 2) := dk_16 7 (dk_at dksX3_init_4 17 rfl rfl)
theorem dX3_init_113 : decode cX3_init 113 = .ok (.newarray .int, 2) := dk_188_10 (dk_at dksX3_init_4 19 rfl rfl)
theorem dX3_init_115 : decode cX3_init 115 = .ok (.putfield 50, 3) := dk_181 0 50 (dk_at dksX3_init_4 21 rfl rfl)
theorem dX3_init_118 : decode cX3_init 118 = .ok (.aload_n 0, 1) := dk_42 (dk_at dksX3_init_5 0 rfl rfl)
theorem dX3_init_119 : decode cX3_init 119 = .ok (.bipush 7, 2) := dk_16 7 (dk_at dksX3_init_5 1 rfl rfl)
theorem dX3_init_121 : decode cX3_init 121 = .ok (.newarray .int, 2) := dk_188_10 (dk_at dksX3_init_5 3 rfl rfl)
theorem dX3_init_123 : decode cX3_init 123 = .ok (.putfield 53, 3) := dk_181 0 53 (dk_at dksX3_init_5 5 rfl rfl)
theorem dX3_init_126 : decode cX3_init 126 = .ok (.aload_n 0, 1) := dk_42 (dk_at dksX3_init_5 8 rfl rfl)
theorem dX3_init_127 : decode cX3_init 127 = .ok (.bipush 7, 2) := dk_16 7 (dk_at dksX3_init_5 9 rfl rfl)
theorem dX3_init_129 : decode cX3_init 129 = .ok (.newarray .int, 2) := dk_188_10 (dk_at dksX3_init_5 11 rfl rfl)
theorem dX3_init_131 : decode cX3_init 131 = .ok (.putfield 56, 3) := dk_181 0 56 (dk_at dksX3_init_5 13 rfl rfl)
theorem dX3_init_134 : decode cX3_init 134 = .ok (.aload_n 0, 1) := dk_42 (dk_at dksX3_init_5 16 rfl rfl)
theorem dX3_init_135 : decode cX3_init 135 = .ok (.bipush 7, 2) := dk_16 7 (dk_at dksX3_init_5 17 rfl rfl)
theorem dX3_init_137 : decode cX3_init 137 = .ok (.newarray .int, 2) := dk_188_10 (dk_at dksX3_init_5 19 rfl rfl)
theorem dX3_init_139 : decode cX3_init 139 = .ok (.putfield 59, 3) := dk_181 0 59 (dk_at dksX3_init_5 21 rfl rfl)
theorem dX3_init_142 : decode cX3_init 142 = .ok (.aload_n 0, 1) := dk_42 (dk_at dksX3_init_6 0 rfl rfl)
theorem dX3_init_143 : decode cX3_init 143 = .ok (.bipush 71, 2) := dk_16 71 (dk_at dksX3_init_6 1 rfl rfl)
theorem dX3_init_145 : decode cX3_init 145 = .ok (.newarray .int, 2) := dk_188_10 (dk_at dksX3_init_6 3 rfl rfl)
theorem dX3_init_147 : decode cX3_init 147 = .ok (.putfield 62, 3) := dk_181 0 62 (dk_at dksX3_init_6 5 rfl rfl)
theorem dX3_init_150 : decode cX3_init 150 = .ok (.aload_n 0, 1) := dk_42 (dk_at dksX3_init_6 8 rfl rfl)
theorem dX3_init_151 : decode cX3_init 151 = .ok (.iconst 3, 1) := dk_6 (dk_at dksX3_init_6 9 rfl rfl)
theorem dX3_init_152 : decode cX3_init 152 = .ok (.newarray .int, 2) := dk_188_10 (dk_at dksX3_init_6 10 rfl rfl)
theorem dX3_init_154 : decode cX3_init 154 = .ok (.putfield 65, 3) := dk_181 0 65 (dk_at dksX3_init_6 12 rfl rfl)
theorem dX3_init_157 : decode cX3_init 157 = .ok (.aload_n 0, 1) := dk_42 (dk_at dksX3_init_6 15 rfl rfl)
theorem dX3_init_158 : decode cX3_init 158 = .ok (.iconst 3, 1) := dk_6 (dk_at dksX3_init_6 16 rfl rfl)
theorem dX3_init_159 : decode cX3_init 159 = .ok (.newarray .int, 2) := dk_188_10 (dk_at dksX3_init_6 17 rfl rfl)
theorem dX3_init_161 : decode cX3_init 161 = .ok (.putfield 68, 3) := dk_181 0 68 (dk_at dksX3_init_6 19 rfl rfl)
theorem dX3_init_164 : decode cX3_init 164 = .ok (.aload_n 0, 1) := dk_42 (dk_at dksX3_init_6 22 rfl rfl)
theorem dX3_init_165 : decode cX3_init 165 = .ok (.bipush 71, 2) := dk_16 71 (dk_at dksX3_init_7 0 rfl rfl)
theorem dX3_init_167 : decode cX3_init 167 = .ok (.newarray .int, 2) := dk_188_10 (dk_at dksX3_init_7 2 rfl rfl)
theorem dX3_init_169 : decode cX3_init 169 = .ok (.putfield 71, 3) := dk_181 0 71 (dk_at dksX3_init_7 4 rfl rfl)
theorem dX3_init_172 : decode cX3_init 172 = .ok (.aload_n 0, 1) := dk_42 (dk_at dksX3_init_7 7 rfl rfl)
theorem dX3_init_173 : decode cX3_init 173 = .ok (.bipush 40, 2) := dk_16 40 (dk_at dksX3_init_7 8 rfl rfl)
theorem dX3_init_175 : decode cX3_init 175 = .ok (.newarray .int, 2) := dk_188_10 (dk_at dksX3_init_7 10 rfl rfl)
theorem dX3_init_177 : decode cX3_init 177 = .ok (.putfield 74, 3) := dk_181 0 74 (dk_at dksX3_init_7 12 rfl rfl)
theorem dX3_init_180 : decode cX3_init 180 = .ok (.aload_n 0, 1) := dk_42 (dk_at dksX3_init_7 15 rfl rfl)
theorem dX3_init_181 : decode cX3_init 181 = .ok (.sipush 142, 3) := dk_17 0 142 (dk_at dksX3_init_7 16 rfl rfl)
theorem dX3_init_184 : decode cX3_init 184 = .ok (.newarray .int, 2) := dk_188_10 (dk_at dksX3_init_7 19 rfl rfl)
theorem dX3_init_186 : decode cX3_init 186 = .ok (.putfield 77, 3) := dk_181 0 77 (dk_at dksX3_init_7 21 rfl rfl)
theorem dX3_init_189 : decode cX3_init 189 = .ok (.aload_n 0, 1) := dk_42 (dk_at dksX3_init_8 0 rfl rfl)
theorem dX3_init_190 : decode cX3_init 190 = .ok (.iconst 2, 1) := dk_5 (dk_at dksX3_init_8 1 rfl rfl)
theorem dX3_init_191 : decode cX3_init 191 = .ok (.newarray .boolean, 2) := dk_188_4 (dk_at dksX3_init_8 2 rfl rfl)
theorem dX3_init_193 : decode cX3_init 193 = .ok (.putfield 80, 3) := dk_181 0 80 (dk_at dksX3_init_8 4 rfl rfl)
theorem dX3_init_196 : decode cX3_init 196 = .ok (.aload_n 0, 1) := dk_42 (dk_at dksX3_init_8 7 rfl rfl)
theorem dX3_init_197 : decode cX3_init 197 = .ok (.iconst 2, 1) := dk_5 (dk_at dksX3_init_8 8 rfl rfl)
theorem dX3_init_198 : decode cX3_init 198 = .ok (.newarray .int, 2) := dk_188_10 (dk_at dksX3_init_8 9 rfl rfl)
theorem dX3_init_200 : decode cX3_init 200 = .ok (.putfield 84, 3) := dk_181 0 84 (dk_at dksX3_init_8 11 rfl rfl)
theorem dX3_init_203 : decode cX3_init 203 = .ok (.return_, 1) := dk_177 (dk_at dksX3_init_8 14 rfl rfl)
abbrev cX3_thrown : ByteArray := prog_9_method_2_code
def yX3_thrown : MethodName := ⟨RX3, "thrown", "()I"⟩
theorem dX3_thrown_0 : decode cX3_thrown 0 = .ok (.aload_n 0, 1) := by decide +kernel
theorem dX3_thrown_1 : decode cX3_thrown 1 = .ok (.getfield 87, 3) := by decide +kernel
theorem dX3_thrown_4 : decode cX3_thrown 4 = .ok (.ireturn, 1) := by decide +kernel
abbrev cX3_sign : ByteArray := prog_9_method_10_code
def yX3_sign : MethodName := ⟨RX3, "sign", "(I)I"⟩
def dkwX3_sign_2 : List UInt8 := [132, 2, 255, 167, 255, 226, 42, 180, 0, 105, 172]
abbrev dktX3_sign_2 : List UInt8 := dkwX3_sign_2 ++ []
def dkwX3_sign_1 : List UInt8 := [42, 180, 0, 25, 42, 89, 180, 0, 105, 90, 4, 96, 181, 0, 105, 27, 16, 8, 28, 104, 122, 145, 84]
abbrev dktX3_sign_1 : List UInt8 := dkwX3_sign_1 ++ dktX3_sign_2
def dkwX3_sign_0 : List UInt8 := [42, 3, 181, 0, 87, 42, 180, 0, 105, 7, 96, 16, 80, 164, 0, 5, 2, 172, 6, 61, 28, 155, 0, 32]
abbrev dktX3_sign_0 : List UInt8 := dkwX3_sign_0 ++ dktX3_sign_1
theorem dksX3_sign_0 : cX3_sign.data.toList.drop 0 = dktX3_sign_0 := by decide +kernel
theorem dksX3_sign_1 : cX3_sign.data.toList.drop 24 = dktX3_sign_1 := dk_seg dksX3_sign_0 24 rfl rfl
theorem dksX3_sign_2 : cX3_sign.data.toList.drop 47 = dktX3_sign_2 := dk_seg dksX3_sign_1 23 rfl rfl
theorem dX3_sign_0 : decode cX3_sign 0 = .ok (.aload_n 0, 1) := dk_42 (dk_at dksX3_sign_0 0 rfl rfl)
theorem dX3_sign_1 : decode cX3_sign 1 = .ok (.iconst 0, 1) := dk_3 (dk_at dksX3_sign_0 1 rfl rfl)
theorem dX3_sign_2 : decode cX3_sign 2 = .ok (.putfield 87, 3) := dk_181 0 87 (dk_at dksX3_sign_0 2 rfl rfl)
theorem dX3_sign_5 : decode cX3_sign 5 = .ok (.aload_n 0, 1) := dk_42 (dk_at dksX3_sign_0 5 rfl rfl)
theorem dX3_sign_6 : decode cX3_sign 6 = .ok (.getfield 105, 3) := dk_180 0 105 (dk_at dksX3_sign_0 6 rfl rfl)
theorem dX3_sign_9 : decode cX3_sign 9 = .ok (.iconst 4, 1) := dk_7 (dk_at dksX3_sign_0 9 rfl rfl)
theorem dX3_sign_10 : decode cX3_sign 10 = .ok (.iadd, 1) := dk_96 (dk_at dksX3_sign_0 10 rfl rfl)
theorem dX3_sign_11 : decode cX3_sign 11 = .ok (.bipush 80, 2) := dk_16 80 (dk_at dksX3_sign_0 11 rfl rfl)
theorem dX3_sign_13 : decode cX3_sign 13 = .ok (.if_icmp .le 5, 3) := dk_164 0 5 (dk_at dksX3_sign_0 13 rfl rfl)
theorem dX3_sign_16 : decode cX3_sign 16 = .ok (.iconst (-1), 1) := dk_2 (dk_at dksX3_sign_0 16 rfl rfl)
theorem dX3_sign_17 : decode cX3_sign 17 = .ok (.ireturn, 1) := dk_172 (dk_at dksX3_sign_0 17 rfl rfl)
theorem dX3_sign_18 : decode cX3_sign 18 = .ok (.iconst 3, 1) := dk_6 (dk_at dksX3_sign_0 18 rfl rfl)
theorem dX3_sign_19 : decode cX3_sign 19 = .ok (.istore_n 2, 1) := dk_61 (dk_at dksX3_sign_0 19 rfl rfl)
theorem dX3_sign_20 : decode cX3_sign 20 = .ok (.iload_n 2, 1) := dk_28 (dk_at dksX3_sign_0 20 rfl rfl)
theorem dX3_sign_21 : decode cX3_sign 21 = .ok (.ifCond .lt 32, 3) := dk_155 0 32 (dk_at dksX3_sign_0 21 rfl rfl)
theorem dX3_sign_24 : decode cX3_sign 24 = .ok (.aload_n 0, 1) := dk_42 (dk_at dksX3_sign_1 0 rfl rfl)
theorem dX3_sign_25 : decode cX3_sign 25 = .ok (.getfield 25, 3) := dk_180 0 25 (dk_at dksX3_sign_1 1 rfl rfl)
theorem dX3_sign_28 : decode cX3_sign 28 = .ok (.aload_n 0, 1) := dk_42 (dk_at dksX3_sign_1 4 rfl rfl)
theorem dX3_sign_29 : decode cX3_sign 29 = .ok (.dup, 1) := dk_89 (dk_at dksX3_sign_1 5 rfl rfl)
theorem dX3_sign_30 : decode cX3_sign 30 = .ok (.getfield 105, 3) := dk_180 0 105 (dk_at dksX3_sign_1 6 rfl rfl)
theorem dX3_sign_33 : decode cX3_sign 33 = .ok (.dup_x1, 1) := dk_90 (dk_at dksX3_sign_1 9 rfl rfl)
theorem dX3_sign_34 : decode cX3_sign 34 = .ok (.iconst 1, 1) := dk_4 (dk_at dksX3_sign_1 10 rfl rfl)
theorem dX3_sign_35 : decode cX3_sign 35 = .ok (.iadd, 1) := dk_96 (dk_at dksX3_sign_1 11 rfl rfl)
theorem dX3_sign_36 : decode cX3_sign 36 = .ok (.putfield 105, 3) := dk_181 0 105 (dk_at dksX3_sign_1 12 rfl rfl)
theorem dX3_sign_39 : decode cX3_sign 39 = .ok (.iload_n 1, 1) := dk_27 (dk_at dksX3_sign_1 15 rfl rfl)
theorem dX3_sign_40 : decode cX3_sign 40 = .ok (.bipush 8, 2) := dk_16 8 (dk_at dksX3_sign_1 16 rfl rfl)
theorem dX3_sign_42 : decode cX3_sign 42 = .ok (.iload_n 2, 1) := dk_28 (dk_at dksX3_sign_1 18 rfl rfl)
theorem dX3_sign_43 : decode cX3_sign 43 = .ok (.imul, 1) := dk_104 (dk_at dksX3_sign_1 19 rfl rfl)
theorem dX3_sign_44 : decode cX3_sign 44 = .ok (.ishr, 1) := dk_122 (dk_at dksX3_sign_1 20 rfl rfl)
theorem dX3_sign_45 : decode cX3_sign 45 = .ok (.i2b, 1) := dk_145 (dk_at dksX3_sign_1 21 rfl rfl)
theorem dX3_sign_46 : decode cX3_sign 46 = .ok (.bastore, 1) := dk_84 (dk_at dksX3_sign_1 22 rfl rfl)
theorem dX3_sign_47 : decode cX3_sign 47 = .ok (.iinc 2 (-1), 3) := dk_132 2 255 (dk_at dksX3_sign_2 0 rfl rfl)
theorem dX3_sign_50 : decode cX3_sign 50 = .ok (.goto (-30), 3) := dk_167 255 226 (dk_at dksX3_sign_2 3 rfl rfl)
theorem dX3_sign_53 : decode cX3_sign 53 = .ok (.aload_n 0, 1) := dk_42 (dk_at dksX3_sign_2 6 rfl rfl)
theorem dX3_sign_54 : decode cX3_sign 54 = .ok (.getfield 105, 3) := dk_180 0 105 (dk_at dksX3_sign_2 7 rfl rfl)
theorem dX3_sign_57 : decode cX3_sign 57 = .ok (.ireturn, 1) := dk_172 (dk_at dksX3_sign_2 10 rfl rfl)
abbrev cX3_end : ByteArray := prog_9_method_11_code
def yX3_end : MethodName := ⟨RX3, "end", "(I)Z"⟩
def dkwX3_end_1 : List UInt8 := [4, 172]
abbrev dktX3_end_1 : List UInt8 := dkwX3_end_1 ++ []
def dkwX3_end_0 : List UInt8 := [42, 3, 181, 0, 87, 27, 3, 42, 180, 0, 105, 184, 0, 97, 154, 0, 5, 3, 172, 42, 27, 181, 0, 105]
abbrev dktX3_end_0 : List UInt8 := dkwX3_end_0 ++ dktX3_end_1
theorem dksX3_end_0 : cX3_end.data.toList.drop 0 = dktX3_end_0 := by decide +kernel
theorem dksX3_end_1 : cX3_end.data.toList.drop 24 = dktX3_end_1 := dk_seg dksX3_end_0 24 rfl rfl
theorem dX3_end_0 : decode cX3_end 0 = .ok (.aload_n 0, 1) := dk_42 (dk_at dksX3_end_0 0 rfl rfl)
theorem dX3_end_1 : decode cX3_end 1 = .ok (.iconst 0, 1) := dk_3 (dk_at dksX3_end_0 1 rfl rfl)
theorem dX3_end_2 : decode cX3_end 2 = .ok (.putfield 87, 3) := dk_181 0 87 (dk_at dksX3_end_0 2 rfl rfl)
theorem dX3_end_5 : decode cX3_end 5 = .ok (.iload_n 1, 1) := dk_27 (dk_at dksX3_end_0 5 rfl rfl)
theorem dX3_end_6 : decode cX3_end 6 = .ok (.iconst 0, 1) := dk_3 (dk_at dksX3_end_0 6 rfl rfl)
theorem dX3_end_7 : decode cX3_end 7 = .ok (.aload_n 0, 1) := dk_42 (dk_at dksX3_end_0 7 rfl rfl)
theorem dX3_end_8 : decode cX3_end 8 = .ok (.getfield 105, 3) := dk_180 0 105 (dk_at dksX3_end_0 8 rfl rfl)
theorem dX3_end_11 : decode cX3_end 11 = .ok (.invokestatic 97, 3) := dk_184 0 97 (dk_at dksX3_end_0 11 rfl rfl)
theorem dX3_end_14 : decode cX3_end 14 = .ok (.ifCond .ne 5, 3) := dk_154 0 5 (dk_at dksX3_end_0 14 rfl rfl)
theorem dX3_end_17 : decode cX3_end 17 = .ok (.iconst 0, 1) := dk_3 (dk_at dksX3_end_0 17 rfl rfl)
theorem dX3_end_18 : decode cX3_end 18 = .ok (.ireturn, 1) := dk_172 (dk_at dksX3_end_0 18 rfl rfl)
theorem dX3_end_19 : decode cX3_end 19 = .ok (.aload_n 0, 1) := dk_42 (dk_at dksX3_end_0 19 rfl rfl)
theorem dX3_end_20 : decode cX3_end 20 = .ok (.iload_n 1, 1) := dk_27 (dk_at dksX3_end_0 20 rfl rfl)
theorem dX3_end_21 : decode cX3_end 21 = .ok (.putfield 105, 3) := dk_181 0 105 (dk_at dksX3_end_0 21 rfl rfl)
theorem dX3_end_24 : decode cX3_end 24 = .ok (.iconst 1, 1) := dk_4 (dk_at dksX3_end_1 0 rfl rfl)
theorem dX3_end_25 : decode cX3_end 25 = .ok (.ireturn, 1) := dk_172 (dk_at dksX3_end_1 1 rfl rfl)
abbrev cX3_in : ByteArray := prog_9_method_3_code
def yX3_in : MethodName := ⟨RX3, "in", "(III)Z"⟩
def dkwX3_in_0 : List UInt8 := [26, 27, 161, 0, 12, 26, 28, 163, 0, 7, 4, 167, 0, 4, 3, 172]
abbrev dktX3_in_0 : List UInt8 := dkwX3_in_0 ++ []
theorem dksX3_in_0 : cX3_in.data.toList.drop 0 = dktX3_in_0 := by decide +kernel
theorem dX3_in_0 : decode cX3_in 0 = .ok (.iload_n 0, 1) := dk_26 (dk_at dksX3_in_0 0 rfl rfl)
theorem dX3_in_1 : decode cX3_in 1 = .ok (.iload_n 1, 1) := dk_27 (dk_at dksX3_in_0 1 rfl rfl)
theorem dX3_in_2 : decode cX3_in 2 = .ok (.if_icmp .lt 12, 3) := dk_161 0 12 (dk_at dksX3_in_0 2 rfl rfl)
theorem dX3_in_5 : decode cX3_in 5 = .ok (.iload_n 0, 1) := dk_26 (dk_at dksX3_in_0 5 rfl rfl)
theorem dX3_in_6 : decode cX3_in 6 = .ok (.iload_n 2, 1) := dk_28 (dk_at dksX3_in_0 6 rfl rfl)
theorem dX3_in_7 : decode cX3_in 7 = .ok (.if_icmp .gt 7, 3) := dk_163 0 7 (dk_at dksX3_in_0 7 rfl rfl)
theorem dX3_in_10 : decode cX3_in 10 = .ok (.iconst 1, 1) := dk_4 (dk_at dksX3_in_0 10 rfl rfl)
theorem dX3_in_11 : decode cX3_in 11 = .ok (.goto 4, 3) := dk_167 0 4 (dk_at dksX3_in_0 11 rfl rfl)
theorem dX3_in_14 : decode cX3_in 14 = .ok (.iconst 0, 1) := dk_3 (dk_at dksX3_in_0 14 rfl rfl)
theorem dX3_in_15 : decode cX3_in 15 = .ok (.ireturn, 1) := dk_172 (dk_at dksX3_in_0 15 rfl rfl)
abbrev cX3_town : ByteArray := prog_9_method_19_code
def yX3_town : MethodName := ⟨RX3, "town", "()I"⟩
def dkwX3_town_13 : List UInt8 := [132, 3, 1, 167, 255, 158, 42, 3, 181, 0, 151, 42, 89, 180, 0, 154, 4, 96, 181, 0, 154, 27, 172]
abbrev dktX3_town_13 : List UInt8 := dkwX3_town_13 ++ []
def dkwX3_town_12 : List UInt8 := [180, 0, 94, 42, 180, 0, 32, 7, 29, 104, 6, 96, 46, 79, 42, 89, 180, 0, 94, 4, 96, 181, 0, 94]
abbrev dktX3_town_12 : List UInt8 := dkwX3_town_12 ++ dktX3_town_13
def dkwX3_town_11 : List UInt8 := [180, 0, 94, 104, 4, 96, 42, 180, 0, 32, 7, 29, 104, 5, 96, 46, 79, 42, 180, 0, 19, 42]
abbrev dktX3_town_11 : List UInt8 := dkwX3_town_11 ++ dktX3_town_12
def dkwX3_town_10 : List UInt8 := [5, 42, 180, 0, 94, 104, 42, 180, 0, 32, 7, 29, 104, 4, 96, 46, 79, 42, 180, 0, 16, 5, 42]
abbrev dktX3_town_10 : List UInt8 := dkwX3_town_10 ++ dktX3_town_11
def dkwX3_town_9 : List UInt8 := [162, 0, 99, 42, 180, 0, 13, 42, 180, 0, 94, 42, 180, 0, 32, 7, 29, 104, 46, 79, 42, 180, 0, 16]
abbrev dktX3_town_9 : List UInt8 := dkwX3_town_9 ++ dktX3_town_10
def dkwX3_town_8 : List UInt8 := [180, 0, 117, 182, 0, 135, 42, 182, 0, 123, 154, 0, 10, 2, 42, 180, 0, 120, 100, 172, 3, 62, 29, 27]
abbrev dktX3_town_8 : List UInt8 := dkwX3_town_8 ++ dktX3_town_9
def dkwX3_town_7 : List UInt8 := [16, 59, 182, 0, 131, 61, 167, 255, 124, 42, 180, 0, 117, 42, 180, 0, 111, 162, 0, 11, 42, 42]
abbrev dktX3_town_7 : List UInt8 := dkwX3_town_7 ++ dktX3_town_8
def dkwX3_town_6 : List UInt8 := [182, 0, 131, 153, 0, 14, 42, 5, 3, 16, 30, 182, 0, 143, 167, 0, 4, 3, 79, 132, 1, 1, 42]
abbrev dktX3_town_6 : List UInt8 := dkwX3_town_6 ++ dktX3_town_7
def dkwX3_town_5 : List UInt8 := [5, 96, 42, 4, 3, 16, 6, 182, 0, 143, 79, 42, 180, 0, 32, 7, 27, 104, 6, 96, 42, 16, 42]
abbrev dktX3_town_5 : List UInt8 := dkwX3_town_5 ++ dktX3_town_6
def dkwX3_town_4 : List UInt8 := [180, 0, 32, 7, 27, 104, 4, 96, 42, 4, 3, 16, 6, 182, 0, 143, 79, 42, 180, 0, 32, 7, 27, 104]
abbrev dktX3_town_4 : List UInt8 := dkwX3_town_4 ++ dktX3_town_5
def dkwX3_town_3 : List UInt8 := [180, 0, 32, 7, 27, 104, 42, 5, 4, 16, 99, 182, 0, 143, 79, 42, 16, 44, 182, 0, 147, 42]
abbrev dktX3_town_3 : List UInt8 := dkwX3_town_3 ++ dktX3_town_4
def dkwX3_town_2 : List UInt8 := [42, 180, 0, 94, 27, 96, 16, 7, 160, 0, 14, 42, 42, 180, 0, 117, 182, 0, 135, 167, 0, 92, 42]
abbrev dktX3_town_2 : List UInt8 := dkwX3_town_2 ++ dktX3_town_3
def dkwX3_town_1 : List UInt8 := [42, 180, 0, 111, 154, 0, 5, 3, 172, 3, 60, 4, 61, 28, 153, 0, 134, 42, 182, 0, 123, 153, 0, 127]
abbrev dktX3_town_1 : List UInt8 := dkwX3_town_1 ++ dktX3_town_2
def dkwX3_town_0 : List UInt8 := [42, 3, 181, 0, 87, 42, 42, 180, 0, 25, 42, 180, 0, 105, 16, 76, 182, 0, 139, 42, 3, 181, 0, 105]
abbrev dktX3_town_0 : List UInt8 := dkwX3_town_0 ++ dktX3_town_1
theorem dksX3_town_0 : cX3_town.data.toList.drop 0 = dktX3_town_0 := by decide +kernel
theorem dksX3_town_1 : cX3_town.data.toList.drop 24 = dktX3_town_1 := dk_seg dksX3_town_0 24 rfl rfl
theorem dksX3_town_2 : cX3_town.data.toList.drop 48 = dktX3_town_2 := dk_seg dksX3_town_1 24 rfl rfl
theorem dksX3_town_3 : cX3_town.data.toList.drop 71 = dktX3_town_3 := dk_seg dksX3_town_2 23 rfl rfl
theorem dksX3_town_4 : cX3_town.data.toList.drop 93 = dktX3_town_4 := dk_seg dksX3_town_3 22 rfl rfl
theorem dksX3_town_5 : cX3_town.data.toList.drop 117 = dktX3_town_5 := dk_seg dksX3_town_4 24 rfl rfl
theorem dksX3_town_6 : cX3_town.data.toList.drop 140 = dktX3_town_6 := dk_seg dksX3_town_5 23 rfl rfl
theorem dksX3_town_7 : cX3_town.data.toList.drop 163 = dktX3_town_7 := dk_seg dksX3_town_6 23 rfl rfl
theorem dksX3_town_8 : cX3_town.data.toList.drop 185 = dktX3_town_8 := dk_seg dksX3_town_7 22 rfl rfl
theorem dksX3_town_9 : cX3_town.data.toList.drop 209 = dktX3_town_9 := dk_seg dksX3_town_8 24 rfl rfl
theorem dksX3_town_10 : cX3_town.data.toList.drop 233 = dktX3_town_10 := dk_seg dksX3_town_9 24 rfl rfl
theorem dksX3_town_11 : cX3_town.data.toList.drop 256 = dktX3_town_11 := dk_seg dksX3_town_10 23 rfl rfl
theorem dksX3_town_12 : cX3_town.data.toList.drop 278 = dktX3_town_12 := dk_seg dksX3_town_11 22 rfl rfl
theorem dksX3_town_13 : cX3_town.data.toList.drop 302 = dktX3_town_13 := dk_seg dksX3_town_12 24 rfl rfl
theorem dX3_town_0 : decode cX3_town 0 = .ok (.aload_n 0, 1) := dk_42 (dk_at dksX3_town_0 0 rfl rfl)
theorem dX3_town_1 : decode cX3_town 1 = .ok (.iconst 0, 1) := dk_3 (dk_at dksX3_town_0 1 rfl rfl)
theorem dX3_town_2 : decode cX3_town 2 = .ok (.putfield 87, 3) := dk_181 0 87 (dk_at dksX3_town_0 2 rfl rfl)
theorem dX3_town_5 : decode cX3_town 5 = .ok (.aload_n 0, 1) := dk_42 (dk_at dksX3_town_0 5 rfl rfl)
theorem dX3_town_6 : decode cX3_town 6 = .ok (.aload_n 0, 1) := dk_42 (dk_at dksX3_town_0 6 rfl rfl)
theorem dX3_town_7 : decode cX3_town 7 = .ok (.getfield 25, 3) := dk_180 0 25 (dk_at dksX3_town_0 7 rfl rfl)
theorem dX3_town_10 : decode cX3_town 10 = .ok (.aload_n 0, 1) := dk_42 (dk_at dksX3_town_0 10 rfl rfl)
theorem dX3_town_11 : decode cX3_town 11 = .ok (.getfield 105, 3) := dk_180 0 105 (dk_at dksX3_town_0 11 rfl rfl)
theorem dX3_town_14 : decode cX3_town 14 = .ok (.bipush 76, 2) := dk_16 76 (dk_at dksX3_town_0 14 rfl rfl)
theorem dX3_town_16 : decode cX3_town 16 = .ok (.invokevirtual 139, 3) := dk_182 0 139 (dk_at dksX3_town_0 16 rfl rfl)
theorem dX3_town_19 : decode cX3_town 19 = .ok (.aload_n 0, 1) := dk_42 (dk_at dksX3_town_0 19 rfl rfl)
theorem dX3_town_20 : decode cX3_town 20 = .ok (.iconst 0, 1) := dk_3 (dk_at dksX3_town_0 20 rfl rfl)
theorem dX3_town_21 : decode cX3_town 21 = .ok (.putfield 105, 3) := dk_181 0 105 (dk_at dksX3_town_0 21 rfl rfl)
theorem dX3_town_24 : decode cX3_town 24 = .ok (.aload_n 0, 1) := dk_42 (dk_at dksX3_town_1 0 rfl rfl)
theorem dX3_town_25 : decode cX3_town 25 = .ok (.getfield 111, 3) := dk_180 0 111 (dk_at dksX3_town_1 1 rfl rfl)
theorem dX3_town_28 : decode cX3_town 28 = .ok (.ifCond .ne 5, 3) := dk_154 0 5 (dk_at dksX3_town_1 4 rfl rfl)
theorem dX3_town_31 : decode cX3_town 31 = .ok (.iconst 0, 1) := dk_3 (dk_at dksX3_town_1 7 rfl rfl)
theorem dX3_town_32 : decode cX3_town 32 = .ok (.ireturn, 1) := dk_172 (dk_at dksX3_town_1 8 rfl rfl)
theorem dX3_town_33 : decode cX3_town 33 = .ok (.iconst 0, 1) := dk_3 (dk_at dksX3_town_1 9 rfl rfl)
theorem dX3_town_34 : decode cX3_town 34 = .ok (.istore_n 1, 1) := dk_60 (dk_at dksX3_town_1 10 rfl rfl)
theorem dX3_town_35 : decode cX3_town 35 = .ok (.iconst 1, 1) := dk_4 (dk_at dksX3_town_1 11 rfl rfl)
theorem dX3_town_36 : decode cX3_town 36 = .ok (.istore_n 2, 1) := dk_61 (dk_at dksX3_town_1 12 rfl rfl)
theorem dX3_town_37 : decode cX3_town 37 = .ok (.iload_n 2, 1) := dk_28 (dk_at dksX3_town_1 13 rfl rfl)
theorem dX3_town_38 : decode cX3_town 38 = .ok (.ifCond .eq 134, 3) := dk_153 0 134 (dk_at dksX3_town_1 14 rfl rfl)
theorem dX3_town_41 : decode cX3_town 41 = .ok (.aload_n 0, 1) := dk_42 (dk_at dksX3_town_1 17 rfl rfl)
theorem dX3_town_42 : decode cX3_town 42 = .ok (.invokevirtual 123, 3) := dk_182 0 123 (dk_at dksX3_town_1 18 rfl rfl)
theorem dX3_town_45 : decode cX3_town 45 = .ok (.ifCond .eq 127, 3) := dk_153 0 127 (dk_at dksX3_town_1 21 rfl rfl)
theorem dX3_town_48 : decode cX3_town 48 = .ok (.aload_n 0, 1) := dk_42 (dk_at dksX3_town_2 0 rfl rfl)
theorem dX3_town_49 : decode cX3_town 49 = .ok (.getfield 94, 3) := dk_180 0 94 (dk_at dksX3_town_2 1 rfl rfl)
theorem dX3_town_52 : decode cX3_town 52 = .ok (.iload_n 1, 1) := dk_27 (dk_at dksX3_town_2 4 rfl rfl)
theorem dX3_town_53 : decode cX3_town 53 = .ok (.iadd, 1) := dk_96 (dk_at dksX3_town_2 5 rfl rfl)
theorem dX3_town_54 : decode cX3_town 54 = .ok (.bipush 7, 2) := dk_16 7 (dk_at dksX3_town_2 6 rfl rfl)
theorem dX3_town_56 : decode cX3_town 56 = .ok (.if_icmp .ne 14, 3) := dk_160 0 14 (dk_at dksX3_town_2 8 rfl rfl)
theorem dX3_town_59 : decode cX3_town 59 = .ok (.aload_n 0, 1) := dk_42 (dk_at dksX3_town_2 11 rfl rfl)
theorem dX3_town_60 : decode cX3_town 60 = .ok (.aload_n 0, 1) := dk_42 (dk_at dksX3_town_2 12 rfl rfl)
theorem dX3_town_61 : decode cX3_town 61 = .ok (.getfield 117, 3) := dk_180 0 117 (dk_at dksX3_town_2 13 rfl rfl)
theorem dX3_town_64 : decode cX3_town 64 = .ok (.invokevirtual 135, 3) := dk_182 0 135 (dk_at dksX3_town_2 16 rfl rfl)
theorem dX3_town_67 : decode cX3_town 67 = .ok (.goto 92, 3) := dk_167 0 92 (dk_at dksX3_town_2 19 rfl rfl)
theorem dX3_town_70 : decode cX3_town 70 = .ok (.aload_n 0, 1) := dk_42 (dk_at dksX3_town_2 22 rfl rfl)
theorem dX3_town_71 : decode cX3_town 71 = .ok (.getfield 32, 3) := dk_180 0 32 (dk_at dksX3_town_3 0 rfl rfl)
theorem dX3_town_74 : decode cX3_town 74 = .ok (.iconst 4, 1) := dk_7 (dk_at dksX3_town_3 3 rfl rfl)
theorem dX3_town_75 : decode cX3_town 75 = .ok (.iload_n 1, 1) := dk_27 (dk_at dksX3_town_3 4 rfl rfl)
theorem dX3_town_76 : decode cX3_town 76 = .ok (.imul, 1) := dk_104 (dk_at dksX3_town_3 5 rfl rfl)
theorem dX3_town_77 : decode cX3_town 77 = .ok (.aload_n 0, 1) := dk_42 (dk_at dksX3_town_3 6 rfl rfl)
theorem dX3_town_78 : decode cX3_town 78 = .ok (.iconst 2, 1) := dk_5 (dk_at dksX3_town_3 7 rfl rfl)
theorem dX3_town_79 : decode cX3_town 79 = .ok (.iconst 1, 1) := dk_4 (dk_at dksX3_town_3 8 rfl rfl)
theorem dX3_town_80 : decode cX3_town 80 = .ok (.bipush 99, 2) := dk_16 99 (dk_at dksX3_town_3 9 rfl rfl)
theorem dX3_town_82 : decode cX3_town 82 = .ok (.invokevirtual 143, 3) := dk_182 0 143 (dk_at dksX3_town_3 11 rfl rfl)
theorem dX3_town_85 : decode cX3_town 85 = .ok (.iastore, 1) := dk_79 (dk_at dksX3_town_3 14 rfl rfl)
theorem dX3_town_86 : decode cX3_town 86 = .ok (.aload_n 0, 1) := dk_42 (dk_at dksX3_town_3 15 rfl rfl)
theorem dX3_town_87 : decode cX3_town 87 = .ok (.bipush 44, 2) := dk_16 44 (dk_at dksX3_town_3 16 rfl rfl)
theorem dX3_town_89 : decode cX3_town 89 = .ok (.invokevirtual 147, 3) := dk_182 0 147 (dk_at dksX3_town_3 18 rfl rfl)
theorem dX3_town_92 : decode cX3_town 92 = .ok (.aload_n 0, 1) := dk_42 (dk_at dksX3_town_3 21 rfl rfl)
theorem dX3_town_93 : decode cX3_town 93 = .ok (.getfield 32, 3) := dk_180 0 32 (dk_at dksX3_town_4 0 rfl rfl)
theorem dX3_town_96 : decode cX3_town 96 = .ok (.iconst 4, 1) := dk_7 (dk_at dksX3_town_4 3 rfl rfl)
theorem dX3_town_97 : decode cX3_town 97 = .ok (.iload_n 1, 1) := dk_27 (dk_at dksX3_town_4 4 rfl rfl)
theorem dX3_town_98 : decode cX3_town 98 = .ok (.imul, 1) := dk_104 (dk_at dksX3_town_4 5 rfl rfl)
theorem dX3_town_99 : decode cX3_town 99 = .ok (.iconst 1, 1) := dk_4 (dk_at dksX3_town_4 6 rfl rfl)
theorem dX3_town_100 : decode cX3_town 100 = .ok (.iadd, 1) := dk_96 (dk_at dksX3_town_4 7 rfl rfl)
theorem dX3_town_101 : decode cX3_town 101 = .ok (.aload_n 0, 1) := dk_42 (dk_at dksX3_town_4 8 rfl rfl)
theorem dX3_town_102 : decode cX3_town 102 = .ok (.iconst 1, 1) := dk_4 (dk_at dksX3_town_4 9 rfl rfl)
theorem dX3_town_103 : decode cX3_town 103 = .ok (.iconst 0, 1) := dk_3 (dk_at dksX3_town_4 10 rfl rfl)
theorem dX3_town_104 : decode cX3_town 104 = .ok (.bipush 6, 2) := dk_16 6 (dk_at dksX3_town_4 11 rfl rfl)
theorem dX3_town_106 : decode cX3_town 106 = .ok (.invokevirtual 143, 3) := dk_182 0 143 (dk_at dksX3_town_4 13 rfl rfl)
theorem dX3_town_109 : decode cX3_town 109 = .ok (.iastore, 1) := dk_79 (dk_at dksX3_town_4 16 rfl rfl)
theorem dX3_town_110 : decode cX3_town 110 = .ok (.aload_n 0, 1) := dk_42 (dk_at dksX3_town_4 17 rfl rfl)
theorem dX3_town_111 : decode cX3_town 111 = .ok (.getfield 32, 3) := dk_180 0 32 (dk_at dksX3_town_4 18 rfl rfl)
theorem dX3_town_114 : decode cX3_town 114 = .ok (.iconst 4, 1) := dk_7 (dk_at dksX3_town_4 21 rfl rfl)
theorem dX3_town_115 : decode cX3_town 115 = .ok (.iload_n 1, 1) := dk_27 (dk_at dksX3_town_4 22 rfl rfl)
theorem dX3_town_116 : decode cX3_town 116 = .ok (.imul, 1) := dk_104 (dk_at dksX3_town_4 23 rfl rfl)
theorem dX3_town_117 : decode cX3_town 117 = .ok (.iconst 2, 1) := dk_5 (dk_at dksX3_town_5 0 rfl rfl)
theorem dX3_town_118 : decode cX3_town 118 = .ok (.iadd, 1) := dk_96 (dk_at dksX3_town_5 1 rfl rfl)
theorem dX3_town_119 : decode cX3_town 119 = .ok (.aload_n 0, 1) := dk_42 (dk_at dksX3_town_5 2 rfl rfl)
theorem dX3_town_120 : decode cX3_town 120 = .ok (.iconst 1, 1) := dk_4 (dk_at dksX3_town_5 3 rfl rfl)
theorem dX3_town_121 : decode cX3_town 121 = .ok (.iconst 0, 1) := dk_3 (dk_at dksX3_town_5 4 rfl rfl)
theorem dX3_town_122 : decode cX3_town 122 = .ok (.bipush 6, 2) := dk_16 6 (dk_at dksX3_town_5 5 rfl rfl)
theorem dX3_town_124 : decode cX3_town 124 = .ok (.invokevirtual 143, 3) := dk_182 0 143 (dk_at dksX3_town_5 7 rfl rfl)
theorem dX3_town_127 : decode cX3_town 127 = .ok (.iastore, 1) := dk_79 (dk_at dksX3_town_5 10 rfl rfl)
theorem dX3_town_128 : decode cX3_town 128 = .ok (.aload_n 0, 1) := dk_42 (dk_at dksX3_town_5 11 rfl rfl)
theorem dX3_town_129 : decode cX3_town 129 = .ok (.getfield 32, 3) := dk_180 0 32 (dk_at dksX3_town_5 12 rfl rfl)
theorem dX3_town_132 : decode cX3_town 132 = .ok (.iconst 4, 1) := dk_7 (dk_at dksX3_town_5 15 rfl rfl)
theorem dX3_town_133 : decode cX3_town 133 = .ok (.iload_n 1, 1) := dk_27 (dk_at dksX3_town_5 16 rfl rfl)
theorem dX3_town_134 : decode cX3_town 134 = .ok (.imul, 1) := dk_104 (dk_at dksX3_town_5 17 rfl rfl)
theorem dX3_town_135 : decode cX3_town 135 = .ok (.iconst 3, 1) := dk_6 (dk_at dksX3_town_5 18 rfl rfl)
theorem dX3_town_136 : decode cX3_town 136 = .ok (.iadd, 1) := dk_96 (dk_at dksX3_town_5 19 rfl rfl)
theorem dX3_town_137 : decode cX3_town 137 = .ok (.aload_n 0, 1) := dk_42 (dk_at dksX3_town_5 20 rfl rfl)
theorem dX3_town_138 : decode cX3_town 138 = .ok (.bipush 42, 2) := dk_16 42 (dk_at dksX3_town_5 21 rfl rfl)
theorem dX3_town_140 : decode cX3_town 140 = .ok (.invokevirtual 131, 3) := dk_182 0 131 (dk_at dksX3_town_6 0 rfl rfl)
theorem dX3_town_143 : decode cX3_town 143 = .ok (.ifCond .eq 14, 3) := dk_153 0 14 (dk_at dksX3_town_6 3 rfl rfl)
theorem dX3_town_146 : decode cX3_town 146 = .ok (.aload_n 0, 1) := dk_42 (dk_at dksX3_town_6 6 rfl rfl)
theorem dX3_town_147 : decode cX3_town 147 = .ok (.iconst 2, 1) := dk_5 (dk_at dksX3_town_6 7 rfl rfl)
theorem dX3_town_148 : decode cX3_town 148 = .ok (.iconst 0, 1) := dk_3 (dk_at dksX3_town_6 8 rfl rfl)
theorem dX3_town_149 : decode cX3_town 149 = .ok (.bipush 30, 2) := dk_16 30 (dk_at dksX3_town_6 9 rfl rfl)
theorem dX3_town_151 : decode cX3_town 151 = .ok (.invokevirtual 143, 3) := dk_182 0 143 (dk_at dksX3_town_6 11 rfl rfl)
theorem dX3_town_154 : decode cX3_town 154 = .ok (.goto 4, 3) := dk_167 0 4 (dk_at dksX3_town_6 14 rfl rfl)
theorem dX3_town_157 : decode cX3_town 157 = .ok (.iconst 0, 1) := dk_3 (dk_at dksX3_town_6 17 rfl rfl)
theorem dX3_town_158 : decode cX3_town 158 = .ok (.iastore, 1) := dk_79 (dk_at dksX3_town_6 18 rfl rfl)
theorem dX3_town_159 : decode cX3_town 159 = .ok (.iinc 1 1, 3) := dk_132 1 1 (dk_at dksX3_town_6 19 rfl rfl)
theorem dX3_town_162 : decode cX3_town 162 = .ok (.aload_n 0, 1) := dk_42 (dk_at dksX3_town_6 22 rfl rfl)
theorem dX3_town_163 : decode cX3_town 163 = .ok (.bipush 59, 2) := dk_16 59 (dk_at dksX3_town_7 0 rfl rfl)
theorem dX3_town_165 : decode cX3_town 165 = .ok (.invokevirtual 131, 3) := dk_182 0 131 (dk_at dksX3_town_7 2 rfl rfl)
theorem dX3_town_168 : decode cX3_town 168 = .ok (.istore_n 2, 1) := dk_61 (dk_at dksX3_town_7 5 rfl rfl)
theorem dX3_town_169 : decode cX3_town 169 = .ok (.goto (-132), 3) := dk_167 255 124 (dk_at dksX3_town_7 6 rfl rfl)
theorem dX3_town_172 : decode cX3_town 172 = .ok (.aload_n 0, 1) := dk_42 (dk_at dksX3_town_7 9 rfl rfl)
theorem dX3_town_173 : decode cX3_town 173 = .ok (.getfield 117, 3) := dk_180 0 117 (dk_at dksX3_town_7 10 rfl rfl)
theorem dX3_town_176 : decode cX3_town 176 = .ok (.aload_n 0, 1) := dk_42 (dk_at dksX3_town_7 13 rfl rfl)
theorem dX3_town_177 : decode cX3_town 177 = .ok (.getfield 111, 3) := dk_180 0 111 (dk_at dksX3_town_7 14 rfl rfl)
theorem dX3_town_180 : decode cX3_town 180 = .ok (.if_icmp .ge 11, 3) := dk_162 0 11 (dk_at dksX3_town_7 17 rfl rfl)
theorem dX3_town_183 : decode cX3_town 183 = .ok (.aload_n 0, 1) := dk_42 (dk_at dksX3_town_7 20 rfl rfl)
theorem dX3_town_184 : decode cX3_town 184 = .ok (.aload_n 0, 1) := dk_42 (dk_at dksX3_town_7 21 rfl rfl)
theorem dX3_town_185 : decode cX3_town 185 = .ok (.getfield 117, 3) := dk_180 0 117 (dk_at dksX3_town_8 0 rfl rfl)
theorem dX3_town_188 : decode cX3_town 188 = .ok (.invokevirtual 135, 3) := dk_182 0 135 (dk_at dksX3_town_8 3 rfl rfl)
theorem dX3_town_191 : decode cX3_town 191 = .ok (.aload_n 0, 1) := dk_42 (dk_at dksX3_town_8 6 rfl rfl)
theorem dX3_town_192 : decode cX3_town 192 = .ok (.invokevirtual 123, 3) := dk_182 0 123 (dk_at dksX3_town_8 7 rfl rfl)
theorem dX3_town_195 : decode cX3_town 195 = .ok (.ifCond .ne 10, 3) := dk_154 0 10 (dk_at dksX3_town_8 10 rfl rfl)
theorem dX3_town_198 : decode cX3_town 198 = .ok (.iconst (-1), 1) := dk_2 (dk_at dksX3_town_8 13 rfl rfl)
theorem dX3_town_199 : decode cX3_town 199 = .ok (.aload_n 0, 1) := dk_42 (dk_at dksX3_town_8 14 rfl rfl)
theorem dX3_town_200 : decode cX3_town 200 = .ok (.getfield 120, 3) := dk_180 0 120 (dk_at dksX3_town_8 15 rfl rfl)
theorem dX3_town_203 : decode cX3_town 203 = .ok (.isub, 1) := dk_100 (dk_at dksX3_town_8 18 rfl rfl)
theorem dX3_town_204 : decode cX3_town 204 = .ok (.ireturn, 1) := dk_172 (dk_at dksX3_town_8 19 rfl rfl)
theorem dX3_town_205 : decode cX3_town 205 = .ok (.iconst 0, 1) := dk_3 (dk_at dksX3_town_8 20 rfl rfl)
theorem dX3_town_206 : decode cX3_town 206 = .ok (.istore_n 3, 1) := dk_62 (dk_at dksX3_town_8 21 rfl rfl)
theorem dX3_town_207 : decode cX3_town 207 = .ok (.iload_n 3, 1) := dk_29 (dk_at dksX3_town_8 22 rfl rfl)
theorem dX3_town_208 : decode cX3_town 208 = .ok (.iload_n 1, 1) := dk_27 (dk_at dksX3_town_8 23 rfl rfl)
theorem dX3_town_209 : decode cX3_town 209 = .ok (.if_icmp .ge 99, 3) := dk_162 0 99 (dk_at dksX3_town_9 0 rfl rfl)
theorem dX3_town_212 : decode cX3_town 212 = .ok (.aload_n 0, 1) := dk_42 (dk_at dksX3_town_9 3 rfl rfl)
theorem dX3_town_213 : decode cX3_town 213 = .ok (.getfield 13, 3) := dk_180 0 13 (dk_at dksX3_town_9 4 rfl rfl)
theorem dX3_town_216 : decode cX3_town 216 = .ok (.aload_n 0, 1) := dk_42 (dk_at dksX3_town_9 7 rfl rfl)
theorem dX3_town_217 : decode cX3_town 217 = .ok (.getfield 94, 3) := dk_180 0 94 (dk_at dksX3_town_9 8 rfl rfl)
theorem dX3_town_220 : decode cX3_town 220 = .ok (.aload_n 0, 1) := dk_42 (dk_at dksX3_town_9 11 rfl rfl)
theorem dX3_town_221 : decode cX3_town 221 = .ok (.getfield 32, 3) := dk_180 0 32 (dk_at dksX3_town_9 12 rfl rfl)
theorem dX3_town_224 : decode cX3_town 224 = .ok (.iconst 4, 1) := dk_7 (dk_at dksX3_town_9 15 rfl rfl)
theorem dX3_town_225 : decode cX3_town 225 = .ok (.iload_n 3, 1) := dk_29 (dk_at dksX3_town_9 16 rfl rfl)
theorem dX3_town_226 : decode cX3_town 226 = .ok (.imul, 1) := dk_104 (dk_at dksX3_town_9 17 rfl rfl)
theorem dX3_town_227 : decode cX3_town 227 = .ok (.iaload, 1) := dk_46 (dk_at dksX3_town_9 18 rfl rfl)
theorem dX3_town_228 : decode cX3_town 228 = .ok (.iastore, 1) := dk_79 (dk_at dksX3_town_9 19 rfl rfl)
theorem dX3_town_229 : decode cX3_town 229 = .ok (.aload_n 0, 1) := dk_42 (dk_at dksX3_town_9 20 rfl rfl)
theorem dX3_town_230 : decode cX3_town 230 = .ok (.getfield 16, 3) := dk_180 0 16 (dk_at dksX3_town_9 21 rfl rfl)
theorem dX3_town_233 : decode cX3_town 233 = .ok (.iconst 2, 1) := dk_5 (dk_at dksX3_town_10 0 rfl rfl)
theorem dX3_town_234 : decode cX3_town 234 = .ok (.aload_n 0, 1) := dk_42 (dk_at dksX3_town_10 1 rfl rfl)
theorem dX3_town_235 : decode cX3_town 235 = .ok (.getfield 94, 3) := dk_180 0 94 (dk_at dksX3_town_10 2 rfl rfl)
theorem dX3_town_238 : decode cX3_town 238 = .ok (.imul, 1) := dk_104 (dk_at dksX3_town_10 5 rfl rfl)
theorem dX3_town_239 : decode cX3_town 239 = .ok (.aload_n 0, 1) := dk_42 (dk_at dksX3_town_10 6 rfl rfl)
theorem dX3_town_240 : decode cX3_town 240 = .ok (.getfield 32, 3) := dk_180 0 32 (dk_at dksX3_town_10 7 rfl rfl)
theorem dX3_town_243 : decode cX3_town 243 = .ok (.iconst 4, 1) := dk_7 (dk_at dksX3_town_10 10 rfl rfl)
theorem dX3_town_244 : decode cX3_town 244 = .ok (.iload_n 3, 1) := dk_29 (dk_at dksX3_town_10 11 rfl rfl)
theorem dX3_town_245 : decode cX3_town 245 = .ok (.imul, 1) := dk_104 (dk_at dksX3_town_10 12 rfl rfl)
theorem dX3_town_246 : decode cX3_town 246 = .ok (.iconst 1, 1) := dk_4 (dk_at dksX3_town_10 13 rfl rfl)
theorem dX3_town_247 : decode cX3_town 247 = .ok (.iadd, 1) := dk_96 (dk_at dksX3_town_10 14 rfl rfl)
theorem dX3_town_248 : decode cX3_town 248 = .ok (.iaload, 1) := dk_46 (dk_at dksX3_town_10 15 rfl rfl)
theorem dX3_town_249 : decode cX3_town 249 = .ok (.iastore, 1) := dk_79 (dk_at dksX3_town_10 16 rfl rfl)
theorem dX3_town_250 : decode cX3_town 250 = .ok (.aload_n 0, 1) := dk_42 (dk_at dksX3_town_10 17 rfl rfl)
theorem dX3_town_251 : decode cX3_town 251 = .ok (.getfield 16, 3) := dk_180 0 16 (dk_at dksX3_town_10 18 rfl rfl)
theorem dX3_town_254 : decode cX3_town 254 = .ok (.iconst 2, 1) := dk_5 (dk_at dksX3_town_10 21 rfl rfl)
theorem dX3_town_255 : decode cX3_town 255 = .ok (.aload_n 0, 1) := dk_42 (dk_at dksX3_town_10 22 rfl rfl)
theorem dX3_town_256 : decode cX3_town 256 = .ok (.getfield 94, 3) := dk_180 0 94 (dk_at dksX3_town_11 0 rfl rfl)
theorem dX3_town_259 : decode cX3_town 259 = .ok (.imul, 1) := dk_104 (dk_at dksX3_town_11 3 rfl rfl)
theorem dX3_town_260 : decode cX3_town 260 = .ok (.iconst 1, 1) := dk_4 (dk_at dksX3_town_11 4 rfl rfl)
theorem dX3_town_261 : decode cX3_town 261 = .ok (.iadd, 1) := dk_96 (dk_at dksX3_town_11 5 rfl rfl)
theorem dX3_town_262 : decode cX3_town 262 = .ok (.aload_n 0, 1) := dk_42 (dk_at dksX3_town_11 6 rfl rfl)
theorem dX3_town_263 : decode cX3_town 263 = .ok (.getfield 32, 3) := dk_180 0 32 (dk_at dksX3_town_11 7 rfl rfl)
theorem dX3_town_266 : decode cX3_town 266 = .ok (.iconst 4, 1) := dk_7 (dk_at dksX3_town_11 10 rfl rfl)
theorem dX3_town_267 : decode cX3_town 267 = .ok (.iload_n 3, 1) := dk_29 (dk_at dksX3_town_11 11 rfl rfl)
theorem dX3_town_268 : decode cX3_town 268 = .ok (.imul, 1) := dk_104 (dk_at dksX3_town_11 12 rfl rfl)
theorem dX3_town_269 : decode cX3_town 269 = .ok (.iconst 2, 1) := dk_5 (dk_at dksX3_town_11 13 rfl rfl)
theorem dX3_town_270 : decode cX3_town 270 = .ok (.iadd, 1) := dk_96 (dk_at dksX3_town_11 14 rfl rfl)
theorem dX3_town_271 : decode cX3_town 271 = .ok (.iaload, 1) := dk_46 (dk_at dksX3_town_11 15 rfl rfl)
theorem dX3_town_272 : decode cX3_town 272 = .ok (.iastore, 1) := dk_79 (dk_at dksX3_town_11 16 rfl rfl)
theorem dX3_town_273 : decode cX3_town 273 = .ok (.aload_n 0, 1) := dk_42 (dk_at dksX3_town_11 17 rfl rfl)
theorem dX3_town_274 : decode cX3_town 274 = .ok (.getfield 19, 3) := dk_180 0 19 (dk_at dksX3_town_11 18 rfl rfl)
theorem dX3_town_277 : decode cX3_town 277 = .ok (.aload_n 0, 1) := dk_42 (dk_at dksX3_town_11 21 rfl rfl)
theorem dX3_town_278 : decode cX3_town 278 = .ok (.getfield 94, 3) := dk_180 0 94 (dk_at dksX3_town_12 0 rfl rfl)
theorem dX3_town_281 : decode cX3_town 281 = .ok (.aload_n 0, 1) := dk_42 (dk_at dksX3_town_12 3 rfl rfl)
theorem dX3_town_282 : decode cX3_town 282 = .ok (.getfield 32, 3) := dk_180 0 32 (dk_at dksX3_town_12 4 rfl rfl)
theorem dX3_town_285 : decode cX3_town 285 = .ok (.iconst 4, 1) := dk_7 (dk_at dksX3_town_12 7 rfl rfl)
theorem dX3_town_286 : decode cX3_town 286 = .ok (.iload_n 3, 1) := dk_29 (dk_at dksX3_town_12 8 rfl rfl)
theorem dX3_town_287 : decode cX3_town 287 = .ok (.imul, 1) := dk_104 (dk_at dksX3_town_12 9 rfl rfl)
theorem dX3_town_288 : decode cX3_town 288 = .ok (.iconst 3, 1) := dk_6 (dk_at dksX3_town_12 10 rfl rfl)
theorem dX3_town_289 : decode cX3_town 289 = .ok (.iadd, 1) := dk_96 (dk_at dksX3_town_12 11 rfl rfl)
theorem dX3_town_290 : decode cX3_town 290 = .ok (.iaload, 1) := dk_46 (dk_at dksX3_town_12 12 rfl rfl)
theorem dX3_town_291 : decode cX3_town 291 = .ok (.iastore, 1) := dk_79 (dk_at dksX3_town_12 13 rfl rfl)
theorem dX3_town_292 : decode cX3_town 292 = .ok (.aload_n 0, 1) := dk_42 (dk_at dksX3_town_12 14 rfl rfl)
theorem dX3_town_293 : decode cX3_town 293 = .ok (.dup, 1) := dk_89 (dk_at dksX3_town_12 15 rfl rfl)
theorem dX3_town_294 : decode cX3_town 294 = .ok (.getfield 94, 3) := dk_180 0 94 (dk_at dksX3_town_12 16 rfl rfl)
theorem dX3_town_297 : decode cX3_town 297 = .ok (.iconst 1, 1) := dk_4 (dk_at dksX3_town_12 19 rfl rfl)
theorem dX3_town_298 : decode cX3_town 298 = .ok (.iadd, 1) := dk_96 (dk_at dksX3_town_12 20 rfl rfl)
theorem dX3_town_299 : decode cX3_town 299 = .ok (.putfield 94, 3) := dk_181 0 94 (dk_at dksX3_town_12 21 rfl rfl)
theorem dX3_town_302 : decode cX3_town 302 = .ok (.iinc 3 1, 3) := dk_132 3 1 (dk_at dksX3_town_13 0 rfl rfl)
theorem dX3_town_305 : decode cX3_town 305 = .ok (.goto (-98), 3) := dk_167 255 158 (dk_at dksX3_town_13 3 rfl rfl)
theorem dX3_town_308 : decode cX3_town 308 = .ok (.aload_n 0, 1) := dk_42 (dk_at dksX3_town_13 6 rfl rfl)
theorem dX3_town_309 : decode cX3_town 309 = .ok (.iconst 0, 1) := dk_3 (dk_at dksX3_town_13 7 rfl rfl)
theorem dX3_town_310 : decode cX3_town 310 = .ok (.putfield 151, 3) := dk_181 0 151 (dk_at dksX3_town_13 8 rfl rfl)
theorem dX3_town_313 : decode cX3_town 313 = .ok (.aload_n 0, 1) := dk_42 (dk_at dksX3_town_13 11 rfl rfl)
theorem dX3_town_314 : decode cX3_town 314 = .ok (.dup, 1) := dk_89 (dk_at dksX3_town_13 12 rfl rfl)
theorem dX3_town_315 : decode cX3_town 315 = .ok (.getfield 154, 3) := dk_180 0 154 (dk_at dksX3_town_13 13 rfl rfl)
theorem dX3_town_318 : decode cX3_town 318 = .ok (.iconst 1, 1) := dk_4 (dk_at dksX3_town_13 16 rfl rfl)
theorem dX3_town_319 : decode cX3_town 319 = .ok (.iadd, 1) := dk_96 (dk_at dksX3_town_13 17 rfl rfl)
theorem dX3_town_320 : decode cX3_town 320 = .ok (.putfield 154, 3) := dk_181 0 154 (dk_at dksX3_town_13 18 rfl rfl)
theorem dX3_town_323 : decode cX3_town 323 = .ok (.iload_n 1, 1) := dk_27 (dk_at dksX3_town_13 21 rfl rfl)
theorem dX3_town_324 : decode cX3_town 324 = .ok (.ireturn, 1) := dk_172 (dk_at dksX3_town_13 22 rfl rfl)
abbrev cX3_begin : ByteArray := prog_9_method_12_code
def yX3_begin : MethodName := ⟨RX3, "begin", "([BII)V"⟩
def dkwX3_begin_1 : List UInt8 := [181, 0, 120, 177]
abbrev dktX3_begin_1 : List UInt8 := dkwX3_begin_1 ++ []
def dkwX3_begin_0 : List UInt8 := [42, 43, 181, 0, 108, 42, 28, 181, 0, 111, 42, 29, 181, 0, 114, 42, 3, 181, 0, 117, 42, 2]
abbrev dktX3_begin_0 : List UInt8 := dkwX3_begin_0 ++ dktX3_begin_1
theorem dksX3_begin_0 : cX3_begin.data.toList.drop 0 = dktX3_begin_0 := by decide +kernel
theorem dksX3_begin_1 : cX3_begin.data.toList.drop 22 = dktX3_begin_1 := dk_seg dksX3_begin_0 22 rfl rfl
theorem dX3_begin_0 : decode cX3_begin 0 = .ok (.aload_n 0, 1) := dk_42 (dk_at dksX3_begin_0 0 rfl rfl)
theorem dX3_begin_1 : decode cX3_begin 1 = .ok (.aload_n 1, 1) := dk_43 (dk_at dksX3_begin_0 1 rfl rfl)
theorem dX3_begin_2 : decode cX3_begin 2 = .ok (.putfield 108, 3) := dk_181 0 108 (dk_at dksX3_begin_0 2 rfl rfl)
theorem dX3_begin_5 : decode cX3_begin 5 = .ok (.aload_n 0, 1) := dk_42 (dk_at dksX3_begin_0 5 rfl rfl)
theorem dX3_begin_6 : decode cX3_begin 6 = .ok (.iload_n 2, 1) := dk_28 (dk_at dksX3_begin_0 6 rfl rfl)
theorem dX3_begin_7 : decode cX3_begin 7 = .ok (.putfield 111, 3) := dk_181 0 111 (dk_at dksX3_begin_0 7 rfl rfl)
theorem dX3_begin_10 : decode cX3_begin 10 = .ok (.aload_n 0, 1) := dk_42 (dk_at dksX3_begin_0 10 rfl rfl)
theorem dX3_begin_11 : decode cX3_begin 11 = .ok (.iload_n 3, 1) := dk_29 (dk_at dksX3_begin_0 11 rfl rfl)
theorem dX3_begin_12 : decode cX3_begin 12 = .ok (.putfield 114, 3) := dk_181 0 114 (dk_at dksX3_begin_0 12 rfl rfl)
theorem dX3_begin_15 : decode cX3_begin 15 = .ok (.aload_n 0, 1) := dk_42 (dk_at dksX3_begin_0 15 rfl rfl)
theorem dX3_begin_16 : decode cX3_begin 16 = .ok (.iconst 0, 1) := dk_3 (dk_at dksX3_begin_0 16 rfl rfl)
theorem dX3_begin_17 : decode cX3_begin 17 = .ok (.putfield 117, 3) := dk_181 0 117 (dk_at dksX3_begin_0 17 rfl rfl)
theorem dX3_begin_20 : decode cX3_begin 20 = .ok (.aload_n 0, 1) := dk_42 (dk_at dksX3_begin_0 20 rfl rfl)
theorem dX3_begin_21 : decode cX3_begin 21 = .ok (.iconst (-1), 1) := dk_2 (dk_at dksX3_begin_0 21 rfl rfl)
theorem dX3_begin_22 : decode cX3_begin 22 = .ok (.putfield 120, 3) := dk_181 0 120 (dk_at dksX3_begin_1 0 rfl rfl)
theorem dX3_begin_25 : decode cX3_begin 25 = .ok (.return_, 1) := dk_177 (dk_at dksX3_begin_1 3 rfl rfl)
abbrev cX3_fine : ByteArray := prog_9_method_14_code
def yX3_fine : MethodName := ⟨RX3, "fine", "()Z"⟩
def dkwX3_fine_0 : List UInt8 := [42, 180, 0, 120, 2, 160, 0, 7, 4, 167, 0, 4, 3, 172]
abbrev dktX3_fine_0 : List UInt8 := dkwX3_fine_0 ++ []
theorem dksX3_fine_0 : cX3_fine.data.toList.drop 0 = dktX3_fine_0 := by decide +kernel
theorem dX3_fine_0 : decode cX3_fine 0 = .ok (.aload_n 0, 1) := dk_42 (dk_at dksX3_fine_0 0 rfl rfl)
theorem dX3_fine_1 : decode cX3_fine 1 = .ok (.getfield 120, 3) := dk_180 0 120 (dk_at dksX3_fine_0 1 rfl rfl)
theorem dX3_fine_4 : decode cX3_fine 4 = .ok (.iconst (-1), 1) := dk_2 (dk_at dksX3_fine_0 4 rfl rfl)
theorem dX3_fine_5 : decode cX3_fine 5 = .ok (.if_icmp .ne 7, 3) := dk_160 0 7 (dk_at dksX3_fine_0 5 rfl rfl)
theorem dX3_fine_8 : decode cX3_fine 8 = .ok (.iconst 1, 1) := dk_4 (dk_at dksX3_fine_0 8 rfl rfl)
theorem dX3_fine_9 : decode cX3_fine 9 = .ok (.goto 4, 3) := dk_167 0 4 (dk_at dksX3_fine_0 9 rfl rfl)
theorem dX3_fine_12 : decode cX3_fine 12 = .ok (.iconst 0, 1) := dk_3 (dk_at dksX3_fine_0 12 rfl rfl)
theorem dX3_fine_13 : decode cX3_fine 13 = .ok (.ireturn, 1) := dk_172 (dk_at dksX3_fine_0 13 rfl rfl)
abbrev cX3_fault : ByteArray := prog_9_method_15_code
def yX3_fault : MethodName := ⟨RX3, "fault", "(I)V"⟩
def dkwX3_fault_0 : List UInt8 := [42, 182, 0, 123, 153, 0, 8, 42, 27, 181, 0, 120, 177]
abbrev dktX3_fault_0 : List UInt8 := dkwX3_fault_0 ++ []
theorem dksX3_fault_0 : cX3_fault.data.toList.drop 0 = dktX3_fault_0 := by decide +kernel
theorem dX3_fault_0 : decode cX3_fault 0 = .ok (.aload_n 0, 1) := dk_42 (dk_at dksX3_fault_0 0 rfl rfl)
theorem dX3_fault_1 : decode cX3_fault 1 = .ok (.invokevirtual 123, 3) := dk_182 0 123 (dk_at dksX3_fault_0 1 rfl rfl)
theorem dX3_fault_4 : decode cX3_fault 4 = .ok (.ifCond .eq 8, 3) := dk_153 0 8 (dk_at dksX3_fault_0 4 rfl rfl)
theorem dX3_fault_7 : decode cX3_fault 7 = .ok (.aload_n 0, 1) := dk_42 (dk_at dksX3_fault_0 7 rfl rfl)
theorem dX3_fault_8 : decode cX3_fault 8 = .ok (.iload_n 1, 1) := dk_27 (dk_at dksX3_fault_0 8 rfl rfl)
theorem dX3_fault_9 : decode cX3_fault 9 = .ok (.putfield 120, 3) := dk_181 0 120 (dk_at dksX3_fault_0 9 rfl rfl)
theorem dX3_fault_12 : decode cX3_fault 12 = .ok (.return_, 1) := dk_177 (dk_at dksX3_fault_0 12 rfl rfl)
abbrev cX3_number : ByteArray := prog_9_method_18_code
def yX3_number : MethodName := ⟨RX3, "number", "(III)I"⟩
def dkwX3_number_5 : List UInt8 := [21, 5, 167, 0, 4, 3, 172]
abbrev dktX3_number_5 : List UInt8 := dkwX3_number_5 ++ []
def dkwX3_number_4 : List UInt8 := [184, 0, 97, 154, 0, 13, 42, 42, 180, 0, 117, 4, 100, 182, 0, 135, 42, 182, 0, 123, 153, 0, 8]
abbrev dktX3_number_4 : List UInt8 := dkwX3_number_4 ++ dktX3_number_5
def dkwX3_number_3 : List UInt8 := [180, 0, 117, 21, 4, 160, 0, 14, 42, 42, 180, 0, 117, 182, 0, 135, 167, 0, 23, 21, 5, 28, 29]
abbrev dktX3_number_3 : List UInt8 := dkwX3_number_3 ++ dktX3_number_4
def dkwX3_number_2 : List UInt8 := [42, 182, 0, 127, 96, 16, 48, 100, 54, 5, 42, 89, 180, 0, 117, 4, 96, 181, 0, 117, 167, 255, 206, 42]
abbrev dktX3_number_2 : List UInt8 := dkwX3_number_2 ++ dktX3_number_3
def dkwX3_number_1 : List UInt8 := [27, 96, 162, 0, 45, 42, 182, 0, 127, 16, 48, 16, 57, 184, 0, 97, 153, 0, 31, 16, 10, 21, 5, 104]
abbrev dktX3_number_1 : List UInt8 := dkwX3_number_1 ++ dktX3_number_2
def dkwX3_number_0 : List UInt8 := [42, 182, 0, 123, 154, 0, 5, 3, 172, 42, 180, 0, 117, 54, 4, 3, 54, 5, 42, 180, 0, 117, 21, 4]
abbrev dktX3_number_0 : List UInt8 := dkwX3_number_0 ++ dktX3_number_1
theorem dksX3_number_0 : cX3_number.data.toList.drop 0 = dktX3_number_0 := by decide +kernel
theorem dksX3_number_1 : cX3_number.data.toList.drop 24 = dktX3_number_1 := dk_seg dksX3_number_0 24 rfl rfl
theorem dksX3_number_2 : cX3_number.data.toList.drop 48 = dktX3_number_2 := dk_seg dksX3_number_1 24 rfl rfl
theorem dksX3_number_3 : cX3_number.data.toList.drop 72 = dktX3_number_3 := dk_seg dksX3_number_2 24 rfl rfl
theorem dksX3_number_4 : cX3_number.data.toList.drop 95 = dktX3_number_4 := dk_seg dksX3_number_3 23 rfl rfl
theorem dksX3_number_5 : cX3_number.data.toList.drop 118 = dktX3_number_5 := dk_seg dksX3_number_4 23 rfl rfl
theorem dX3_number_0 : decode cX3_number 0 = .ok (.aload_n 0, 1) := dk_42 (dk_at dksX3_number_0 0 rfl rfl)
theorem dX3_number_1 : decode cX3_number 1 = .ok (.invokevirtual 123, 3) := dk_182 0 123 (dk_at dksX3_number_0 1 rfl rfl)
theorem dX3_number_4 : decode cX3_number 4 = .ok (.ifCond .ne 5, 3) := dk_154 0 5 (dk_at dksX3_number_0 4 rfl rfl)
theorem dX3_number_7 : decode cX3_number 7 = .ok (.iconst 0, 1) := dk_3 (dk_at dksX3_number_0 7 rfl rfl)
theorem dX3_number_8 : decode cX3_number 8 = .ok (.ireturn, 1) := dk_172 (dk_at dksX3_number_0 8 rfl rfl)
theorem dX3_number_9 : decode cX3_number 9 = .ok (.aload_n 0, 1) := dk_42 (dk_at dksX3_number_0 9 rfl rfl)
theorem dX3_number_10 : decode cX3_number 10 = .ok (.getfield 117, 3) := dk_180 0 117 (dk_at dksX3_number_0 10 rfl rfl)
theorem dX3_number_13 : decode cX3_number 13 = .ok (.istore 4, 2) := dk_54 4 (dk_at dksX3_number_0 13 rfl rfl)
theorem dX3_number_15 : decode cX3_number 15 = .ok (.iconst 0, 1) := dk_3 (dk_at dksX3_number_0 15 rfl rfl)
theorem dX3_number_16 : decode cX3_number 16 = .ok (.istore 5, 2) := dk_54 5 (dk_at dksX3_number_0 16 rfl rfl)
theorem dX3_number_18 : decode cX3_number 18 = .ok (.aload_n 0, 1) := dk_42 (dk_at dksX3_number_0 18 rfl rfl)
theorem dX3_number_19 : decode cX3_number 19 = .ok (.getfield 117, 3) := dk_180 0 117 (dk_at dksX3_number_0 19 rfl rfl)
theorem dX3_number_22 : decode cX3_number 22 = .ok (.iload 4, 2) := dk_21 4 (dk_at dksX3_number_0 22 rfl rfl)
theorem dX3_number_24 : decode cX3_number 24 = .ok (.iload_n 1, 1) := dk_27 (dk_at dksX3_number_1 0 rfl rfl)
theorem dX3_number_25 : decode cX3_number 25 = .ok (.iadd, 1) := dk_96 (dk_at dksX3_number_1 1 rfl rfl)
theorem dX3_number_26 : decode cX3_number 26 = .ok (.if_icmp .ge 45, 3) := dk_162 0 45 (dk_at dksX3_number_1 2 rfl rfl)
theorem dX3_number_29 : decode cX3_number 29 = .ok (.aload_n 0, 1) := dk_42 (dk_at dksX3_number_1 5 rfl rfl)
theorem dX3_number_30 : decode cX3_number 30 = .ok (.invokevirtual 127, 3) := dk_182 0 127 (dk_at dksX3_number_1 6 rfl rfl)
theorem dX3_number_33 : decode cX3_number 33 = .ok (.bipush 48, 2) := dk_16 48 (dk_at dksX3_number_1 9 rfl rfl)
theorem dX3_number_35 : decode cX3_number 35 = .ok (.bipush 57, 2) := dk_16 57 (dk_at dksX3_number_1 11 rfl rfl)
theorem dX3_number_37 : decode cX3_number 37 = .ok (.invokestatic 97, 3) := dk_184 0 97 (dk_at dksX3_number_1 13 rfl rfl)
theorem dX3_number_40 : decode cX3_number 40 = .ok (.ifCond .eq 31, 3) := dk_153 0 31 (dk_at dksX3_number_1 16 rfl rfl)
theorem dX3_number_43 : decode cX3_number 43 = .ok (.bipush 10, 2) := dk_16 10 (dk_at dksX3_number_1 19 rfl rfl)
theorem dX3_number_45 : decode cX3_number 45 = .ok (.iload 5, 2) := dk_21 5 (dk_at dksX3_number_1 21 rfl rfl)
theorem dX3_number_47 : decode cX3_number 47 = .ok (.imul, 1) := dk_104 (dk_at dksX3_number_1 23 rfl rfl)
theorem dX3_number_48 : decode cX3_number 48 = .ok (.aload_n 0, 1) := dk_42 (dk_at dksX3_number_2 0 rfl rfl)
theorem dX3_number_49 : decode cX3_number 49 = .ok (.invokevirtual 127, 3) := dk_182 0 127 (dk_at dksX3_number_2 1 rfl rfl)
theorem dX3_number_52 : decode cX3_number 52 = .ok (.iadd, 1) := dk_96 (dk_at dksX3_number_2 4 rfl rfl)
theorem dX3_number_53 : decode cX3_number 53 = .ok (.bipush 48, 2) := dk_16 48 (dk_at dksX3_number_2 5 rfl rfl)
theorem dX3_number_55 : decode cX3_number 55 = .ok (.isub, 1) := dk_100 (dk_at dksX3_number_2 7 rfl rfl)
theorem dX3_number_56 : decode cX3_number 56 = .ok (.istore 5, 2) := dk_54 5 (dk_at dksX3_number_2 8 rfl rfl)
theorem dX3_number_58 : decode cX3_number 58 = .ok (.aload_n 0, 1) := dk_42 (dk_at dksX3_number_2 10 rfl rfl)
theorem dX3_number_59 : decode cX3_number 59 = .ok (.dup, 1) := dk_89 (dk_at dksX3_number_2 11 rfl rfl)
theorem dX3_number_60 : decode cX3_number 60 = .ok (.getfield 117, 3) := dk_180 0 117 (dk_at dksX3_number_2 12 rfl rfl)
theorem dX3_number_63 : decode cX3_number 63 = .ok (.iconst 1, 1) := dk_4 (dk_at dksX3_number_2 15 rfl rfl)
theorem dX3_number_64 : decode cX3_number 64 = .ok (.iadd, 1) := dk_96 (dk_at dksX3_number_2 16 rfl rfl)
theorem dX3_number_65 : decode cX3_number 65 = .ok (.putfield 117, 3) := dk_181 0 117 (dk_at dksX3_number_2 17 rfl rfl)
theorem dX3_number_68 : decode cX3_number 68 = .ok (.goto (-50), 3) := dk_167 255 206 (dk_at dksX3_number_2 20 rfl rfl)
theorem dX3_number_71 : decode cX3_number 71 = .ok (.aload_n 0, 1) := dk_42 (dk_at dksX3_number_2 23 rfl rfl)
theorem dX3_number_72 : decode cX3_number 72 = .ok (.getfield 117, 3) := dk_180 0 117 (dk_at dksX3_number_3 0 rfl rfl)
theorem dX3_number_75 : decode cX3_number 75 = .ok (.iload 4, 2) := dk_21 4 (dk_at dksX3_number_3 3 rfl rfl)
theorem dX3_number_77 : decode cX3_number 77 = .ok (.if_icmp .ne 14, 3) := dk_160 0 14 (dk_at dksX3_number_3 5 rfl rfl)
theorem dX3_number_80 : decode cX3_number 80 = .ok (.aload_n 0, 1) := dk_42 (dk_at dksX3_number_3 8 rfl rfl)
theorem dX3_number_81 : decode cX3_number 81 = .ok (.aload_n 0, 1) := dk_42 (dk_at dksX3_number_3 9 rfl rfl)
theorem dX3_number_82 : decode cX3_number 82 = .ok (.getfield 117, 3) := dk_180 0 117 (dk_at dksX3_number_3 10 rfl rfl)
theorem dX3_number_85 : decode cX3_number 85 = .ok (.invokevirtual 135, 3) := dk_182 0 135 (dk_at dksX3_number_3 13 rfl rfl)
theorem dX3_number_88 : decode cX3_number 88 = .ok (.goto 23, 3) := dk_167 0 23 (dk_at dksX3_number_3 16 rfl rfl)
theorem dX3_number_91 : decode cX3_number 91 = .ok (.iload 5, 2) := dk_21 5 (dk_at dksX3_number_3 19 rfl rfl)
theorem dX3_number_93 : decode cX3_number 93 = .ok (.iload_n 2, 1) := dk_28 (dk_at dksX3_number_3 21 rfl rfl)
theorem dX3_number_94 : decode cX3_number 94 = .ok (.iload_n 3, 1) := dk_29 (dk_at dksX3_number_3 22 rfl rfl)
theorem dX3_number_95 : decode cX3_number 95 = .ok (.invokestatic 97, 3) := dk_184 0 97 (dk_at dksX3_number_4 0 rfl rfl)
theorem dX3_number_98 : decode cX3_number 98 = .ok (.ifCond .ne 13, 3) := dk_154 0 13 (dk_at dksX3_number_4 3 rfl rfl)
theorem dX3_number_101 : decode cX3_number 101 = .ok (.aload_n 0, 1) := dk_42 (dk_at dksX3_number_4 6 rfl rfl)
theorem dX3_number_102 : decode cX3_number 102 = .ok (.aload_n 0, 1) := dk_42 (dk_at dksX3_number_4 7 rfl rfl)
theorem dX3_number_103 : decode cX3_number 103 = .ok (.getfield 117, 3) := dk_180 0 117 (dk_at dksX3_number_4 8 rfl rfl)
theorem dX3_number_106 : decode cX3_number 106 = .ok (.iconst 1, 1) := dk_4 (dk_at dksX3_number_4 11 rfl rfl)
theorem dX3_number_107 : decode cX3_number 107 = .ok (.isub, 1) := dk_100 (dk_at dksX3_number_4 12 rfl rfl)
theorem dX3_number_108 : decode cX3_number 108 = .ok (.invokevirtual 135, 3) := dk_182 0 135 (dk_at dksX3_number_4 13 rfl rfl)
theorem dX3_number_111 : decode cX3_number 111 = .ok (.aload_n 0, 1) := dk_42 (dk_at dksX3_number_4 16 rfl rfl)
theorem dX3_number_112 : decode cX3_number 112 = .ok (.invokevirtual 123, 3) := dk_182 0 123 (dk_at dksX3_number_4 17 rfl rfl)
theorem dX3_number_115 : decode cX3_number 115 = .ok (.ifCond .eq 8, 3) := dk_153 0 8 (dk_at dksX3_number_4 20 rfl rfl)
theorem dX3_number_118 : decode cX3_number 118 = .ok (.iload 5, 2) := dk_21 5 (dk_at dksX3_number_5 0 rfl rfl)
theorem dX3_number_120 : decode cX3_number 120 = .ok (.goto 4, 3) := dk_167 0 4 (dk_at dksX3_number_5 2 rfl rfl)
theorem dX3_number_123 : decode cX3_number 123 = .ok (.iconst 0, 1) := dk_3 (dk_at dksX3_number_5 5 rfl rfl)
theorem dX3_number_124 : decode cX3_number 124 = .ok (.ireturn, 1) := dk_172 (dk_at dksX3_number_5 6 rfl rfl)
abbrev cX3_here : ByteArray := prog_9_method_13_code
def yX3_here : MethodName := ⟨RX3, "here", "()I"⟩
def dkwX3_here_1 : List UInt8 := [180, 0, 108, 42, 180, 0, 117, 51, 167, 0, 4, 2, 172]
abbrev dktX3_here_1 : List UInt8 := dkwX3_here_1 ++ []
def dkwX3_here_0 : List UInt8 := [42, 180, 0, 117, 42, 180, 0, 111, 162, 0, 26, 42, 180, 0, 117, 42, 180, 0, 114, 162, 0, 15, 42]
abbrev dktX3_here_0 : List UInt8 := dkwX3_here_0 ++ dktX3_here_1
theorem dksX3_here_0 : cX3_here.data.toList.drop 0 = dktX3_here_0 := by decide +kernel
theorem dksX3_here_1 : cX3_here.data.toList.drop 23 = dktX3_here_1 := dk_seg dksX3_here_0 23 rfl rfl
theorem dX3_here_0 : decode cX3_here 0 = .ok (.aload_n 0, 1) := dk_42 (dk_at dksX3_here_0 0 rfl rfl)
theorem dX3_here_1 : decode cX3_here 1 = .ok (.getfield 117, 3) := dk_180 0 117 (dk_at dksX3_here_0 1 rfl rfl)
theorem dX3_here_4 : decode cX3_here 4 = .ok (.aload_n 0, 1) := dk_42 (dk_at dksX3_here_0 4 rfl rfl)
theorem dX3_here_5 : decode cX3_here 5 = .ok (.getfield 111, 3) := dk_180 0 111 (dk_at dksX3_here_0 5 rfl rfl)
theorem dX3_here_8 : decode cX3_here 8 = .ok (.if_icmp .ge 26, 3) := dk_162 0 26 (dk_at dksX3_here_0 8 rfl rfl)
theorem dX3_here_11 : decode cX3_here 11 = .ok (.aload_n 0, 1) := dk_42 (dk_at dksX3_here_0 11 rfl rfl)
theorem dX3_here_12 : decode cX3_here 12 = .ok (.getfield 117, 3) := dk_180 0 117 (dk_at dksX3_here_0 12 rfl rfl)
theorem dX3_here_15 : decode cX3_here 15 = .ok (.aload_n 0, 1) := dk_42 (dk_at dksX3_here_0 15 rfl rfl)
theorem dX3_here_16 : decode cX3_here 16 = .ok (.getfield 114, 3) := dk_180 0 114 (dk_at dksX3_here_0 16 rfl rfl)
theorem dX3_here_19 : decode cX3_here 19 = .ok (.if_icmp .ge 15, 3) := dk_162 0 15 (dk_at dksX3_here_0 19 rfl rfl)
theorem dX3_here_22 : decode cX3_here 22 = .ok (.aload_n 0, 1) := dk_42 (dk_at dksX3_here_0 22 rfl rfl)
theorem dX3_here_23 : decode cX3_here 23 = .ok (.getfield 108, 3) := dk_180 0 108 (dk_at dksX3_here_1 0 rfl rfl)
theorem dX3_here_26 : decode cX3_here 26 = .ok (.aload_n 0, 1) := dk_42 (dk_at dksX3_here_1 3 rfl rfl)
theorem dX3_here_27 : decode cX3_here 27 = .ok (.getfield 117, 3) := dk_180 0 117 (dk_at dksX3_here_1 4 rfl rfl)
theorem dX3_here_30 : decode cX3_here 30 = .ok (.baload, 1) := dk_51 (dk_at dksX3_here_1 7 rfl rfl)
theorem dX3_here_31 : decode cX3_here 31 = .ok (.goto 4, 3) := dk_167 0 4 (dk_at dksX3_here_1 8 rfl rfl)
theorem dX3_here_34 : decode cX3_here 34 = .ok (.iconst (-1), 1) := dk_2 (dk_at dksX3_here_1 11 rfl rfl)
theorem dX3_here_35 : decode cX3_here 35 = .ok (.ireturn, 1) := dk_172 (dk_at dksX3_here_1 12 rfl rfl)
abbrev cX3_need : ByteArray := prog_9_method_17_code
def yX3_need : MethodName := ⟨RX3, "need", "(C)V"⟩
def dkwX3_need_0 : List UInt8 := [42, 27, 182, 0, 131, 154, 0, 11, 42, 42, 180, 0, 117, 182, 0, 135, 177]
abbrev dktX3_need_0 : List UInt8 := dkwX3_need_0 ++ []
theorem dksX3_need_0 : cX3_need.data.toList.drop 0 = dktX3_need_0 := by decide +kernel
theorem dX3_need_0 : decode cX3_need 0 = .ok (.aload_n 0, 1) := dk_42 (dk_at dksX3_need_0 0 rfl rfl)
theorem dX3_need_1 : decode cX3_need 1 = .ok (.iload_n 1, 1) := dk_27 (dk_at dksX3_need_0 1 rfl rfl)
theorem dX3_need_2 : decode cX3_need 2 = .ok (.invokevirtual 131, 3) := dk_182 0 131 (dk_at dksX3_need_0 2 rfl rfl)
theorem dX3_need_5 : decode cX3_need 5 = .ok (.ifCond .ne 11, 3) := dk_154 0 11 (dk_at dksX3_need_0 5 rfl rfl)
theorem dX3_need_8 : decode cX3_need 8 = .ok (.aload_n 0, 1) := dk_42 (dk_at dksX3_need_0 8 rfl rfl)
theorem dX3_need_9 : decode cX3_need 9 = .ok (.aload_n 0, 1) := dk_42 (dk_at dksX3_need_0 9 rfl rfl)
theorem dX3_need_10 : decode cX3_need 10 = .ok (.getfield 117, 3) := dk_180 0 117 (dk_at dksX3_need_0 10 rfl rfl)
theorem dX3_need_13 : decode cX3_need 13 = .ok (.invokevirtual 135, 3) := dk_182 0 135 (dk_at dksX3_need_0 13 rfl rfl)
theorem dX3_need_16 : decode cX3_need 16 = .ok (.return_, 1) := dk_177 (dk_at dksX3_need_0 16 rfl rfl)
abbrev cX3_passes : ByteArray := prog_9_method_16_code
def yX3_passes : MethodName := ⟨RX3, "passes", "(C)Z"⟩
def dkwX3_passes_1 : List UInt8 := [181, 0, 117, 4, 172]
abbrev dktX3_passes_1 : List UInt8 := dkwX3_passes_1 ++ []
def dkwX3_passes_0 : List UInt8 := [42, 182, 0, 123, 153, 0, 11, 42, 182, 0, 127, 27, 159, 0, 5, 3, 172, 42, 89, 180, 0, 117, 4, 96]
abbrev dktX3_passes_0 : List UInt8 := dkwX3_passes_0 ++ dktX3_passes_1
theorem dksX3_passes_0 : cX3_passes.data.toList.drop 0 = dktX3_passes_0 := by decide +kernel
theorem dksX3_passes_1 : cX3_passes.data.toList.drop 24 = dktX3_passes_1 := dk_seg dksX3_passes_0 24 rfl rfl
theorem dX3_passes_0 : decode cX3_passes 0 = .ok (.aload_n 0, 1) := dk_42 (dk_at dksX3_passes_0 0 rfl rfl)
theorem dX3_passes_1 : decode cX3_passes 1 = .ok (.invokevirtual 123, 3) := dk_182 0 123 (dk_at dksX3_passes_0 1 rfl rfl)
theorem dX3_passes_4 : decode cX3_passes 4 = .ok (.ifCond .eq 11, 3) := dk_153 0 11 (dk_at dksX3_passes_0 4 rfl rfl)
theorem dX3_passes_7 : decode cX3_passes 7 = .ok (.aload_n 0, 1) := dk_42 (dk_at dksX3_passes_0 7 rfl rfl)
theorem dX3_passes_8 : decode cX3_passes 8 = .ok (.invokevirtual 127, 3) := dk_182 0 127 (dk_at dksX3_passes_0 8 rfl rfl)
theorem dX3_passes_11 : decode cX3_passes 11 = .ok (.iload_n 1, 1) := dk_27 (dk_at dksX3_passes_0 11 rfl rfl)
theorem dX3_passes_12 : decode cX3_passes 12 = .ok (.if_icmp .eq 5, 3) := dk_159 0 5 (dk_at dksX3_passes_0 12 rfl rfl)
theorem dX3_passes_15 : decode cX3_passes 15 = .ok (.iconst 0, 1) := dk_3 (dk_at dksX3_passes_0 15 rfl rfl)
theorem dX3_passes_16 : decode cX3_passes 16 = .ok (.ireturn, 1) := dk_172 (dk_at dksX3_passes_0 16 rfl rfl)
theorem dX3_passes_17 : decode cX3_passes 17 = .ok (.aload_n 0, 1) := dk_42 (dk_at dksX3_passes_0 17 rfl rfl)
theorem dX3_passes_18 : decode cX3_passes 18 = .ok (.dup, 1) := dk_89 (dk_at dksX3_passes_0 18 rfl rfl)
theorem dX3_passes_19 : decode cX3_passes 19 = .ok (.getfield 117, 3) := dk_180 0 117 (dk_at dksX3_passes_0 19 rfl rfl)
theorem dX3_passes_22 : decode cX3_passes 22 = .ok (.iconst 1, 1) := dk_4 (dk_at dksX3_passes_0 22 rfl rfl)
theorem dX3_passes_23 : decode cX3_passes 23 = .ok (.iadd, 1) := dk_96 (dk_at dksX3_passes_0 23 rfl rfl)
theorem dX3_passes_24 : decode cX3_passes 24 = .ok (.putfield 117, 3) := dk_181 0 117 (dk_at dksX3_passes_1 0 rfl rfl)
theorem dX3_passes_27 : decode cX3_passes 27 = .ok (.iconst 1, 1) := dk_4 (dk_at dksX3_passes_1 3 rfl rfl)
theorem dX3_passes_28 : decode cX3_passes 28 = .ok (.ireturn, 1) := dk_172 (dk_at dksX3_passes_1 4 rfl rfl)
abbrev cX3_weather : ByteArray := prog_9_method_20_code
def yX3_weather : MethodName := ⟨RX3, "weather", "()I"⟩
def dkwX3_weather_5 : List UInt8 := [28, 51, 16, 97, 100, 4, 96, 116, 79, 132, 2, 1, 167, 255, 202, 42, 27, 181, 0, 157, 27, 172]
abbrev dktX3_weather_5 : List UInt8 := dkwX3_weather_5 ++ []
def dkwX3_weather_4 : List UInt8 := [16, 57, 184, 0, 97, 153, 0, 15, 42, 180, 0, 25, 28, 51, 16, 48, 100, 167, 0, 15, 42, 180, 0, 25]
abbrev dktX3_weather_4 : List UInt8 := dkwX3_weather_4 ++ dktX3_weather_5
def dkwX3_weather_3 : List UInt8 := [167, 255, 206, 3, 61, 28, 27, 162, 0, 55, 42, 180, 0, 22, 28, 42, 180, 0, 25, 28, 51, 16, 48]
abbrev dktX3_weather_3 : List UInt8 := dkwX3_weather_3 ++ dktX3_weather_4
def dkwX3_weather_2 : List UInt8 := [180, 0, 25, 28, 51, 16, 97, 16, 105, 184, 0, 97, 154, 0, 7, 2, 28, 100, 172, 132, 2, 1]
abbrev dktX3_weather_2 : List UInt8 := dkwX3_weather_2 ++ dktX3_weather_3
def dkwX3_weather_1 : List UInt8 := [16, 40, 159, 0, 35, 42, 180, 0, 25, 28, 51, 16, 48, 16, 57, 184, 0, 97, 154, 0, 23, 42]
abbrev dktX3_weather_1 : List UInt8 := dkwX3_weather_1 ++ dktX3_weather_2
def dkwX3_weather_0 : List UInt8 := [42, 3, 181, 0, 87, 42, 180, 0, 105, 60, 42, 3, 181, 0, 105, 3, 61, 28, 27, 162, 0, 51, 28]
abbrev dktX3_weather_0 : List UInt8 := dkwX3_weather_0 ++ dktX3_weather_1
theorem dksX3_weather_0 : cX3_weather.data.toList.drop 0 = dktX3_weather_0 := by decide +kernel
theorem dksX3_weather_1 : cX3_weather.data.toList.drop 23 = dktX3_weather_1 := dk_seg dksX3_weather_0 23 rfl rfl
theorem dksX3_weather_2 : cX3_weather.data.toList.drop 45 = dktX3_weather_2 := dk_seg dksX3_weather_1 22 rfl rfl
theorem dksX3_weather_3 : cX3_weather.data.toList.drop 67 = dktX3_weather_3 := dk_seg dksX3_weather_2 22 rfl rfl
theorem dksX3_weather_4 : cX3_weather.data.toList.drop 90 = dktX3_weather_4 := dk_seg dksX3_weather_3 23 rfl rfl
theorem dksX3_weather_5 : cX3_weather.data.toList.drop 114 = dktX3_weather_5 := dk_seg dksX3_weather_4 24 rfl rfl
theorem dX3_weather_0 : decode cX3_weather 0 = .ok (.aload_n 0, 1) := dk_42 (dk_at dksX3_weather_0 0 rfl rfl)
theorem dX3_weather_1 : decode cX3_weather 1 = .ok (.iconst 0, 1) := dk_3 (dk_at dksX3_weather_0 1 rfl rfl)
theorem dX3_weather_2 : decode cX3_weather 2 = .ok (.putfield 87, 3) := dk_181 0 87 (dk_at dksX3_weather_0 2 rfl rfl)
theorem dX3_weather_5 : decode cX3_weather 5 = .ok (.aload_n 0, 1) := dk_42 (dk_at dksX3_weather_0 5 rfl rfl)
theorem dX3_weather_6 : decode cX3_weather 6 = .ok (.getfield 105, 3) := dk_180 0 105 (dk_at dksX3_weather_0 6 rfl rfl)
theorem dX3_weather_9 : decode cX3_weather 9 = .ok (.istore_n 1, 1) := dk_60 (dk_at dksX3_weather_0 9 rfl rfl)
theorem dX3_weather_10 : decode cX3_weather 10 = .ok (.aload_n 0, 1) := dk_42 (dk_at dksX3_weather_0 10 rfl rfl)
theorem dX3_weather_11 : decode cX3_weather 11 = .ok (.iconst 0, 1) := dk_3 (dk_at dksX3_weather_0 11 rfl rfl)
theorem dX3_weather_12 : decode cX3_weather 12 = .ok (.putfield 105, 3) := dk_181 0 105 (dk_at dksX3_weather_0 12 rfl rfl)
theorem dX3_weather_15 : decode cX3_weather 15 = .ok (.iconst 0, 1) := dk_3 (dk_at dksX3_weather_0 15 rfl rfl)
theorem dX3_weather_16 : decode cX3_weather 16 = .ok (.istore_n 2, 1) := dk_61 (dk_at dksX3_weather_0 16 rfl rfl)
theorem dX3_weather_17 : decode cX3_weather 17 = .ok (.iload_n 2, 1) := dk_28 (dk_at dksX3_weather_0 17 rfl rfl)
theorem dX3_weather_18 : decode cX3_weather 18 = .ok (.iload_n 1, 1) := dk_27 (dk_at dksX3_weather_0 18 rfl rfl)
theorem dX3_weather_19 : decode cX3_weather 19 = .ok (.if_icmp .ge 51, 3) := dk_162 0 51 (dk_at dksX3_weather_0 19 rfl rfl)
theorem dX3_weather_22 : decode cX3_weather 22 = .ok (.iload_n 2, 1) := dk_28 (dk_at dksX3_weather_0 22 rfl rfl)
theorem dX3_weather_23 : decode cX3_weather 23 = .ok (.bipush 40, 2) := dk_16 40 (dk_at dksX3_weather_1 0 rfl rfl)
theorem dX3_weather_25 : decode cX3_weather 25 = .ok (.if_icmp .eq 35, 3) := dk_159 0 35 (dk_at dksX3_weather_1 2 rfl rfl)
theorem dX3_weather_28 : decode cX3_weather 28 = .ok (.aload_n 0, 1) := dk_42 (dk_at dksX3_weather_1 5 rfl rfl)
theorem dX3_weather_29 : decode cX3_weather 29 = .ok (.getfield 25, 3) := dk_180 0 25 (dk_at dksX3_weather_1 6 rfl rfl)
theorem dX3_weather_32 : decode cX3_weather 32 = .ok (.iload_n 2, 1) := dk_28 (dk_at dksX3_weather_1 9 rfl rfl)
theorem dX3_weather_33 : decode cX3_weather 33 = .ok (.baload, 1) := dk_51 (dk_at dksX3_weather_1 10 rfl rfl)
theorem dX3_weather_34 : decode cX3_weather 34 = .ok (.bipush 48, 2) := dk_16 48 (dk_at dksX3_weather_1 11 rfl rfl)
theorem dX3_weather_36 : decode cX3_weather 36 = .ok (.bipush 57, 2) := dk_16 57 (dk_at dksX3_weather_1 13 rfl rfl)
theorem dX3_weather_38 : decode cX3_weather 38 = .ok (.invokestatic 97, 3) := dk_184 0 97 (dk_at dksX3_weather_1 15 rfl rfl)
theorem dX3_weather_41 : decode cX3_weather 41 = .ok (.ifCond .ne 23, 3) := dk_154 0 23 (dk_at dksX3_weather_1 18 rfl rfl)
theorem dX3_weather_44 : decode cX3_weather 44 = .ok (.aload_n 0, 1) := dk_42 (dk_at dksX3_weather_1 21 rfl rfl)
theorem dX3_weather_45 : decode cX3_weather 45 = .ok (.getfield 25, 3) := dk_180 0 25 (dk_at dksX3_weather_2 0 rfl rfl)
theorem dX3_weather_48 : decode cX3_weather 48 = .ok (.iload_n 2, 1) := dk_28 (dk_at dksX3_weather_2 3 rfl rfl)
theorem dX3_weather_49 : decode cX3_weather 49 = .ok (.baload, 1) := dk_51 (dk_at dksX3_weather_2 4 rfl rfl)
theorem dX3_weather_50 : decode cX3_weather 50 = .ok (.bipush 97, 2) := dk_16 97 (dk_at dksX3_weather_2 5 rfl rfl)
theorem dX3_weather_52 : decode cX3_weather 52 = .ok (.bipush 105, 2) := dk_16 105 (dk_at dksX3_weather_2 7 rfl rfl)
theorem dX3_weather_54 : decode cX3_weather 54 = .ok (.invokestatic 97, 3) := dk_184 0 97 (dk_at dksX3_weather_2 9 rfl rfl)
theorem dX3_weather_57 : decode cX3_weather 57 = .ok (.ifCond .ne 7, 3) := dk_154 0 7 (dk_at dksX3_weather_2 12 rfl rfl)
theorem dX3_weather_60 : decode cX3_weather 60 = .ok (.iconst (-1), 1) := dk_2 (dk_at dksX3_weather_2 15 rfl rfl)
theorem dX3_weather_61 : decode cX3_weather 61 = .ok (.iload_n 2, 1) := dk_28 (dk_at dksX3_weather_2 16 rfl rfl)
theorem dX3_weather_62 : decode cX3_weather 62 = .ok (.isub, 1) := dk_100 (dk_at dksX3_weather_2 17 rfl rfl)
theorem dX3_weather_63 : decode cX3_weather 63 = .ok (.ireturn, 1) := dk_172 (dk_at dksX3_weather_2 18 rfl rfl)
theorem dX3_weather_64 : decode cX3_weather 64 = .ok (.iinc 2 1, 3) := dk_132 2 1 (dk_at dksX3_weather_2 19 rfl rfl)
theorem dX3_weather_67 : decode cX3_weather 67 = .ok (.goto (-50), 3) := dk_167 255 206 (dk_at dksX3_weather_3 0 rfl rfl)
theorem dX3_weather_70 : decode cX3_weather 70 = .ok (.iconst 0, 1) := dk_3 (dk_at dksX3_weather_3 3 rfl rfl)
theorem dX3_weather_71 : decode cX3_weather 71 = .ok (.istore_n 2, 1) := dk_61 (dk_at dksX3_weather_3 4 rfl rfl)
theorem dX3_weather_72 : decode cX3_weather 72 = .ok (.iload_n 2, 1) := dk_28 (dk_at dksX3_weather_3 5 rfl rfl)
theorem dX3_weather_73 : decode cX3_weather 73 = .ok (.iload_n 1, 1) := dk_27 (dk_at dksX3_weather_3 6 rfl rfl)
theorem dX3_weather_74 : decode cX3_weather 74 = .ok (.if_icmp .ge 55, 3) := dk_162 0 55 (dk_at dksX3_weather_3 7 rfl rfl)
theorem dX3_weather_77 : decode cX3_weather 77 = .ok (.aload_n 0, 1) := dk_42 (dk_at dksX3_weather_3 10 rfl rfl)
theorem dX3_weather_78 : decode cX3_weather 78 = .ok (.getfield 22, 3) := dk_180 0 22 (dk_at dksX3_weather_3 11 rfl rfl)
theorem dX3_weather_81 : decode cX3_weather 81 = .ok (.iload_n 2, 1) := dk_28 (dk_at dksX3_weather_3 14 rfl rfl)
theorem dX3_weather_82 : decode cX3_weather 82 = .ok (.aload_n 0, 1) := dk_42 (dk_at dksX3_weather_3 15 rfl rfl)
theorem dX3_weather_83 : decode cX3_weather 83 = .ok (.getfield 25, 3) := dk_180 0 25 (dk_at dksX3_weather_3 16 rfl rfl)
theorem dX3_weather_86 : decode cX3_weather 86 = .ok (.iload_n 2, 1) := dk_28 (dk_at dksX3_weather_3 19 rfl rfl)
theorem dX3_weather_87 : decode cX3_weather 87 = .ok (.baload, 1) := dk_51 (dk_at dksX3_weather_3 20 rfl rfl)
theorem dX3_weather_88 : decode cX3_weather 88 = .ok (.bipush 48, 2) := dk_16 48 (dk_at dksX3_weather_3 21 rfl rfl)
theorem dX3_weather_90 : decode cX3_weather 90 = .ok (.bipush 57, 2) := dk_16 57 (dk_at dksX3_weather_4 0 rfl rfl)
theorem dX3_weather_92 : decode cX3_weather 92 = .ok (.invokestatic 97, 3) := dk_184 0 97 (dk_at dksX3_weather_4 2 rfl rfl)
theorem dX3_weather_95 : decode cX3_weather 95 = .ok (.ifCond .eq 15, 3) := dk_153 0 15 (dk_at dksX3_weather_4 5 rfl rfl)
theorem dX3_weather_98 : decode cX3_weather 98 = .ok (.aload_n 0, 1) := dk_42 (dk_at dksX3_weather_4 8 rfl rfl)
theorem dX3_weather_99 : decode cX3_weather 99 = .ok (.getfield 25, 3) := dk_180 0 25 (dk_at dksX3_weather_4 9 rfl rfl)
theorem dX3_weather_102 : decode cX3_weather 102 = .ok (.iload_n 2, 1) := dk_28 (dk_at dksX3_weather_4 12 rfl rfl)
theorem dX3_weather_103 : decode cX3_weather 103 = .ok (.baload, 1) := dk_51 (dk_at dksX3_weather_4 13 rfl rfl)
theorem dX3_weather_104 : decode cX3_weather 104 = .ok (.bipush 48, 2) := dk_16 48 (dk_at dksX3_weather_4 14 rfl rfl)
theorem dX3_weather_106 : decode cX3_weather 106 = .ok (.isub, 1) := dk_100 (dk_at dksX3_weather_4 16 rfl rfl)
theorem dX3_weather_107 : decode cX3_weather 107 = .ok (.goto 15, 3) := dk_167 0 15 (dk_at dksX3_weather_4 17 rfl rfl)
theorem dX3_weather_110 : decode cX3_weather 110 = .ok (.aload_n 0, 1) := dk_42 (dk_at dksX3_weather_4 20 rfl rfl)
theorem dX3_weather_111 : decode cX3_weather 111 = .ok (.getfield 25, 3) := dk_180 0 25 (dk_at dksX3_weather_4 21 rfl rfl)
theorem dX3_weather_114 : decode cX3_weather 114 = .ok (.iload_n 2, 1) := dk_28 (dk_at dksX3_weather_5 0 rfl rfl)
theorem dX3_weather_115 : decode cX3_weather 115 = .ok (.baload, 1) := dk_51 (dk_at dksX3_weather_5 1 rfl rfl)
theorem dX3_weather_116 : decode cX3_weather 116 = .ok (.bipush 97, 2) := dk_16 97 (dk_at dksX3_weather_5 2 rfl rfl)
theorem dX3_weather_118 : decode cX3_weather 118 = .ok (.isub, 1) := dk_100 (dk_at dksX3_weather_5 4 rfl rfl)
theorem dX3_weather_119 : decode cX3_weather 119 = .ok (.iconst 1, 1) := dk_4 (dk_at dksX3_weather_5 5 rfl rfl)
theorem dX3_weather_120 : decode cX3_weather 120 = .ok (.iadd, 1) := dk_96 (dk_at dksX3_weather_5 6 rfl rfl)
theorem dX3_weather_121 : decode cX3_weather 121 = .ok (.ineg, 1) := dk_116 (dk_at dksX3_weather_5 7 rfl rfl)
theorem dX3_weather_122 : decode cX3_weather 122 = .ok (.iastore, 1) := dk_79 (dk_at dksX3_weather_5 8 rfl rfl)
theorem dX3_weather_123 : decode cX3_weather 123 = .ok (.iinc 2 1, 3) := dk_132 2 1 (dk_at dksX3_weather_5 9 rfl rfl)
theorem dX3_weather_126 : decode cX3_weather 126 = .ok (.goto (-54), 3) := dk_167 255 202 (dk_at dksX3_weather_5 12 rfl rfl)
theorem dX3_weather_129 : decode cX3_weather 129 = .ok (.aload_n 0, 1) := dk_42 (dk_at dksX3_weather_5 15 rfl rfl)
theorem dX3_weather_130 : decode cX3_weather 130 = .ok (.iload_n 1, 1) := dk_27 (dk_at dksX3_weather_5 16 rfl rfl)
theorem dX3_weather_131 : decode cX3_weather 131 = .ok (.putfield 157, 3) := dk_181 0 157 (dk_at dksX3_weather_5 17 rfl rfl)
theorem dX3_weather_134 : decode cX3_weather 134 = .ok (.iload_n 1, 1) := dk_27 (dk_at dksX3_weather_5 20 rfl rfl)
theorem dX3_weather_135 : decode cX3_weather 135 = .ok (.ireturn, 1) := dk_172 (dk_at dksX3_weather_5 21 rfl rfl)
abbrev cX3_winter : ByteArray := prog_9_method_21_code
def yX3_winter : MethodName := ⟨RX3, "winter", "(II)I"⟩
def dkwX3_winter_4 : List UInt8 := [132, 5, 1, 167, 255, 185, 42, 28, 181, 0, 157, 21, 4, 172]
abbrev dktX3_winter_4 : List UInt8 := dkwX3_winter_4 ++ []
def dkwX3_winter_3 : List UInt8 := [100, 79, 21, 4, 42, 180, 0, 22, 21, 5, 46, 158, 0, 7, 4, 167, 0, 4, 3, 96, 54, 4]
abbrev dktX3_winter_3 : List UInt8 := dkwX3_winter_3 ++ dktX3_winter_4
def dkwX3_winter_2 : List UInt8 := [54, 6, 42, 180, 0, 22, 21, 5, 21, 6, 16, 10, 162, 0, 8, 21, 6, 167, 0, 8, 16, 9, 21, 6]
abbrev dktX3_winter_2 : List UInt8 := dkwX3_winter_2 ++ dktX3_winter_3
def dkwX3_winter_1 : List UInt8 := [54, 5, 21, 5, 28, 162, 0, 71, 29, 18, 160, 104, 17, 48, 57, 96, 62, 29, 16, 16, 124, 16, 16, 112]
abbrev dktX3_winter_1 : List UInt8 := dkwX3_winter_1 ++ dktX3_winter_2
def dkwX3_winter_0 : List UInt8 := [42, 3, 181, 0, 87, 28, 4, 16, 40, 184, 0, 97, 154, 0, 5, 2, 172, 27, 62, 3, 54, 4, 3]
abbrev dktX3_winter_0 : List UInt8 := dkwX3_winter_0 ++ dktX3_winter_1
theorem dksX3_winter_0 : cX3_winter.data.toList.drop 0 = dktX3_winter_0 := by decide +kernel
theorem dksX3_winter_1 : cX3_winter.data.toList.drop 23 = dktX3_winter_1 := dk_seg dksX3_winter_0 23 rfl rfl
theorem dksX3_winter_2 : cX3_winter.data.toList.drop 47 = dktX3_winter_2 := dk_seg dksX3_winter_1 24 rfl rfl
theorem dksX3_winter_3 : cX3_winter.data.toList.drop 71 = dktX3_winter_3 := dk_seg dksX3_winter_2 24 rfl rfl
theorem dksX3_winter_4 : cX3_winter.data.toList.drop 93 = dktX3_winter_4 := dk_seg dksX3_winter_3 22 rfl rfl
theorem dX3_winter_0 : decode cX3_winter 0 = .ok (.aload_n 0, 1) := dk_42 (dk_at dksX3_winter_0 0 rfl rfl)
theorem dX3_winter_1 : decode cX3_winter 1 = .ok (.iconst 0, 1) := dk_3 (dk_at dksX3_winter_0 1 rfl rfl)
theorem dX3_winter_2 : decode cX3_winter 2 = .ok (.putfield 87, 3) := dk_181 0 87 (dk_at dksX3_winter_0 2 rfl rfl)
theorem dX3_winter_5 : decode cX3_winter 5 = .ok (.iload_n 2, 1) := dk_28 (dk_at dksX3_winter_0 5 rfl rfl)
theorem dX3_winter_6 : decode cX3_winter 6 = .ok (.iconst 1, 1) := dk_4 (dk_at dksX3_winter_0 6 rfl rfl)
theorem dX3_winter_7 : decode cX3_winter 7 = .ok (.bipush 40, 2) := dk_16 40 (dk_at dksX3_winter_0 7 rfl rfl)
theorem dX3_winter_9 : decode cX3_winter 9 = .ok (.invokestatic 97, 3) := dk_184 0 97 (dk_at dksX3_winter_0 9 rfl rfl)
theorem dX3_winter_12 : decode cX3_winter 12 = .ok (.ifCond .ne 5, 3) := dk_154 0 5 (dk_at dksX3_winter_0 12 rfl rfl)
theorem dX3_winter_15 : decode cX3_winter 15 = .ok (.iconst (-1), 1) := dk_2 (dk_at dksX3_winter_0 15 rfl rfl)
theorem dX3_winter_16 : decode cX3_winter 16 = .ok (.ireturn, 1) := dk_172 (dk_at dksX3_winter_0 16 rfl rfl)
theorem dX3_winter_17 : decode cX3_winter 17 = .ok (.iload_n 1, 1) := dk_27 (dk_at dksX3_winter_0 17 rfl rfl)
theorem dX3_winter_18 : decode cX3_winter 18 = .ok (.istore_n 3, 1) := dk_62 (dk_at dksX3_winter_0 18 rfl rfl)
theorem dX3_winter_19 : decode cX3_winter 19 = .ok (.iconst 0, 1) := dk_3 (dk_at dksX3_winter_0 19 rfl rfl)
theorem dX3_winter_20 : decode cX3_winter 20 = .ok (.istore 4, 2) := dk_54 4 (dk_at dksX3_winter_0 20 rfl rfl)
theorem dX3_winter_22 : decode cX3_winter 22 = .ok (.iconst 0, 1) := dk_3 (dk_at dksX3_winter_0 22 rfl rfl)
theorem dX3_winter_23 : decode cX3_winter 23 = .ok (.istore 5, 2) := dk_54 5 (dk_at dksX3_winter_1 0 rfl rfl)
theorem dX3_winter_25 : decode cX3_winter 25 = .ok (.iload 5, 2) := dk_21 5 (dk_at dksX3_winter_1 2 rfl rfl)
theorem dX3_winter_27 : decode cX3_winter 27 = .ok (.iload_n 2, 1) := dk_28 (dk_at dksX3_winter_1 4 rfl rfl)
theorem dX3_winter_28 : decode cX3_winter 28 = .ok (.if_icmp .ge 71, 3) := dk_162 0 71 (dk_at dksX3_winter_1 5 rfl rfl)
theorem dX3_winter_31 : decode cX3_winter 31 = .ok (.iload_n 3, 1) := dk_29 (dk_at dksX3_winter_1 8 rfl rfl)
theorem dX3_winter_32 : decode cX3_winter 32 = .ok (.ldc 160, 2) := dk_18 160 (dk_at dksX3_winter_1 9 rfl rfl)
theorem dX3_winter_34 : decode cX3_winter 34 = .ok (.imul, 1) := dk_104 (dk_at dksX3_winter_1 11 rfl rfl)
theorem dX3_winter_35 : decode cX3_winter 35 = .ok (.sipush 12345, 3) := dk_17 48 57 (dk_at dksX3_winter_1 12 rfl rfl)
theorem dX3_winter_38 : decode cX3_winter 38 = .ok (.iadd, 1) := dk_96 (dk_at dksX3_winter_1 15 rfl rfl)
theorem dX3_winter_39 : decode cX3_winter 39 = .ok (.istore_n 3, 1) := dk_62 (dk_at dksX3_winter_1 16 rfl rfl)
theorem dX3_winter_40 : decode cX3_winter 40 = .ok (.iload_n 3, 1) := dk_29 (dk_at dksX3_winter_1 17 rfl rfl)
theorem dX3_winter_41 : decode cX3_winter 41 = .ok (.bipush 16, 2) := dk_16 16 (dk_at dksX3_winter_1 18 rfl rfl)
theorem dX3_winter_43 : decode cX3_winter 43 = .ok (.iushr, 1) := dk_124 (dk_at dksX3_winter_1 20 rfl rfl)
theorem dX3_winter_44 : decode cX3_winter 44 = .ok (.bipush 16, 2) := dk_16 16 (dk_at dksX3_winter_1 21 rfl rfl)
theorem dX3_winter_46 : decode cX3_winter 46 = .ok (.irem, 1) := dk_112 (dk_at dksX3_winter_1 23 rfl rfl)
theorem dX3_winter_47 : decode cX3_winter 47 = .ok (.istore 6, 2) := dk_54 6 (dk_at dksX3_winter_2 0 rfl rfl)
theorem dX3_winter_49 : decode cX3_winter 49 = .ok (.aload_n 0, 1) := dk_42 (dk_at dksX3_winter_2 2 rfl rfl)
theorem dX3_winter_50 : decode cX3_winter 50 = .ok (.getfield 22, 3) := dk_180 0 22 (dk_at dksX3_winter_2 3 rfl rfl)
theorem dX3_winter_53 : decode cX3_winter 53 = .ok (.iload 5, 2) := dk_21 5 (dk_at dksX3_winter_2 6 rfl rfl)
theorem dX3_winter_55 : decode cX3_winter 55 = .ok (.iload 6, 2) := dk_21 6 (dk_at dksX3_winter_2 8 rfl rfl)
theorem dX3_winter_57 : decode cX3_winter 57 = .ok (.bipush 10, 2) := dk_16 10 (dk_at dksX3_winter_2 10 rfl rfl)
theorem dX3_winter_59 : decode cX3_winter 59 = .ok (.if_icmp .ge 8, 3) := dk_162 0 8 (dk_at dksX3_winter_2 12 rfl rfl)
theorem dX3_winter_62 : decode cX3_winter 62 = .ok (.iload 6, 2) := dk_21 6 (dk_at dksX3_winter_2 15 rfl rfl)
theorem dX3_winter_64 : decode cX3_winter 64 = .ok (.goto 8, 3) := dk_167 0 8 (dk_at dksX3_winter_2 17 rfl rfl)
theorem dX3_winter_67 : decode cX3_winter 67 = .ok (.bipush 9, 2) := dk_16 9 (dk_at dksX3_winter_2 20 rfl rfl)
theorem dX3_winter_69 : decode cX3_winter 69 = .ok (.iload 6, 2) := dk_21 6 (dk_at dksX3_winter_2 22 rfl rfl)
theorem dX3_winter_71 : decode cX3_winter 71 = .ok (.isub, 1) := dk_100 (dk_at dksX3_winter_3 0 rfl rfl)
theorem dX3_winter_72 : decode cX3_winter 72 = .ok (.iastore, 1) := dk_79 (dk_at dksX3_winter_3 1 rfl rfl)
theorem dX3_winter_73 : decode cX3_winter 73 = .ok (.iload 4, 2) := dk_21 4 (dk_at dksX3_winter_3 2 rfl rfl)
theorem dX3_winter_75 : decode cX3_winter 75 = .ok (.aload_n 0, 1) := dk_42 (dk_at dksX3_winter_3 4 rfl rfl)
theorem dX3_winter_76 : decode cX3_winter 76 = .ok (.getfield 22, 3) := dk_180 0 22 (dk_at dksX3_winter_3 5 rfl rfl)
theorem dX3_winter_79 : decode cX3_winter 79 = .ok (.iload 5, 2) := dk_21 5 (dk_at dksX3_winter_3 8 rfl rfl)
theorem dX3_winter_81 : decode cX3_winter 81 = .ok (.iaload, 1) := dk_46 (dk_at dksX3_winter_3 10 rfl rfl)
theorem dX3_winter_82 : decode cX3_winter 82 = .ok (.ifCond .le 7, 3) := dk_158 0 7 (dk_at dksX3_winter_3 11 rfl rfl)
theorem dX3_winter_85 : decode cX3_winter 85 = .ok (.iconst 1, 1) := dk_4 (dk_at dksX3_winter_3 14 rfl rfl)
theorem dX3_winter_86 : decode cX3_winter 86 = .ok (.goto 4, 3) := dk_167 0 4 (dk_at dksX3_winter_3 15 rfl rfl)
theorem dX3_winter_89 : decode cX3_winter 89 = .ok (.iconst 0, 1) := dk_3 (dk_at dksX3_winter_3 18 rfl rfl)
theorem dX3_winter_90 : decode cX3_winter 90 = .ok (.iadd, 1) := dk_96 (dk_at dksX3_winter_3 19 rfl rfl)
theorem dX3_winter_91 : decode cX3_winter 91 = .ok (.istore 4, 2) := dk_54 4 (dk_at dksX3_winter_3 20 rfl rfl)
theorem dX3_winter_93 : decode cX3_winter 93 = .ok (.iinc 5 1, 3) := dk_132 5 1 (dk_at dksX3_winter_4 0 rfl rfl)
theorem dX3_winter_96 : decode cX3_winter 96 = .ok (.goto (-71), 3) := dk_167 255 185 (dk_at dksX3_winter_4 3 rfl rfl)
theorem dX3_winter_99 : decode cX3_winter 99 = .ok (.aload_n 0, 1) := dk_42 (dk_at dksX3_winter_4 6 rfl rfl)
theorem dX3_winter_100 : decode cX3_winter 100 = .ok (.iload_n 2, 1) := dk_28 (dk_at dksX3_winter_4 7 rfl rfl)
theorem dX3_winter_101 : decode cX3_winter 101 = .ok (.putfield 157, 3) := dk_181 0 157 (dk_at dksX3_winter_4 8 rfl rfl)
theorem dX3_winter_104 : decode cX3_winter 104 = .ok (.iload 4, 2) := dk_21 4 (dk_at dksX3_winter_4 11 rfl rfl)
theorem dX3_winter_106 : decode cX3_winter 106 = .ok (.ireturn, 1) := dk_172 (dk_at dksX3_winter_4 13 rfl rfl)
abbrev cX3_falls : ByteArray := prog_9_method_24_code
def yX3_falls : MethodName := ⟨RX3, "falls", "(I)I"⟩
def dkwX3_falls_1 : List UInt8 := [16, 246, 172]
abbrev dktX3_falls_1 : List UInt8 := dkwX3_falls_1 ++ []
def dkwX3_falls_0 : List UInt8 := [42, 3, 181, 0, 87, 27, 3, 17, 39, 15, 184, 0, 97, 153, 0, 11, 42, 27, 182, 0, 161, 167, 0, 5]
abbrev dktX3_falls_0 : List UInt8 := dkwX3_falls_0 ++ dktX3_falls_1
theorem dksX3_falls_0 : cX3_falls.data.toList.drop 0 = dktX3_falls_0 := by decide +kernel
theorem dksX3_falls_1 : cX3_falls.data.toList.drop 24 = dktX3_falls_1 := dk_seg dksX3_falls_0 24 rfl rfl
theorem dX3_falls_0 : decode cX3_falls 0 = .ok (.aload_n 0, 1) := dk_42 (dk_at dksX3_falls_0 0 rfl rfl)
theorem dX3_falls_1 : decode cX3_falls 1 = .ok (.iconst 0, 1) := dk_3 (dk_at dksX3_falls_0 1 rfl rfl)
theorem dX3_falls_2 : decode cX3_falls 2 = .ok (.putfield 87, 3) := dk_181 0 87 (dk_at dksX3_falls_0 2 rfl rfl)
theorem dX3_falls_5 : decode cX3_falls 5 = .ok (.iload_n 1, 1) := dk_27 (dk_at dksX3_falls_0 5 rfl rfl)
theorem dX3_falls_6 : decode cX3_falls 6 = .ok (.iconst 0, 1) := dk_3 (dk_at dksX3_falls_0 6 rfl rfl)
theorem dX3_falls_7 : decode cX3_falls 7 = .ok (.sipush 9999, 3) := dk_17 39 15 (dk_at dksX3_falls_0 7 rfl rfl)
theorem dX3_falls_10 : decode cX3_falls 10 = .ok (.invokestatic 97, 3) := dk_184 0 97 (dk_at dksX3_falls_0 10 rfl rfl)
theorem dX3_falls_13 : decode cX3_falls 13 = .ok (.ifCond .eq 11, 3) := dk_153 0 11 (dk_at dksX3_falls_0 13 rfl rfl)
theorem dX3_falls_16 : decode cX3_falls 16 = .ok (.aload_n 0, 1) := dk_42 (dk_at dksX3_falls_0 16 rfl rfl)
theorem dX3_falls_17 : decode cX3_falls 17 = .ok (.iload_n 1, 1) := dk_27 (dk_at dksX3_falls_0 17 rfl rfl)
theorem dX3_falls_18 : decode cX3_falls 18 = .ok (.invokevirtual 161, 3) := dk_182 0 161 (dk_at dksX3_falls_0 18 rfl rfl)
theorem dX3_falls_21 : decode cX3_falls 21 = .ok (.goto 5, 3) := dk_167 0 5 (dk_at dksX3_falls_0 21 rfl rfl)
theorem dX3_falls_24 : decode cX3_falls 24 = .ok (.bipush (-10), 2) := dk_16 246 (dk_at dksX3_falls_1 0 rfl rfl)
theorem dX3_falls_26 : decode cX3_falls 26 = .ok (.ireturn, 1) := dk_172 (dk_at dksX3_falls_1 2 rfl rfl)
abbrev cX3_weatherOf : ByteArray := prog_9_method_22_code
def yX3_weatherOf : MethodName := ⟨RX3, "weatherOf", "(I)I"⟩
def dkwX3_weatherOf_0 : List UInt8 := [42, 180, 0, 157, 154, 0, 7, 3, 167, 0, 14, 42, 180, 0, 22, 27, 42, 180, 0, 157, 112, 46, 172]
abbrev dktX3_weatherOf_0 : List UInt8 := dkwX3_weatherOf_0 ++ []
theorem dksX3_weatherOf_0 : cX3_weatherOf.data.toList.drop 0 = dktX3_weatherOf_0 := by decide +kernel
theorem dX3_weatherOf_0 : decode cX3_weatherOf 0 = .ok (.aload_n 0, 1) := dk_42 (dk_at dksX3_weatherOf_0 0 rfl rfl)
theorem dX3_weatherOf_1 : decode cX3_weatherOf 1 = .ok (.getfield 157, 3) := dk_180 0 157 (dk_at dksX3_weatherOf_0 1 rfl rfl)
theorem dX3_weatherOf_4 : decode cX3_weatherOf 4 = .ok (.ifCond .ne 7, 3) := dk_154 0 7 (dk_at dksX3_weatherOf_0 4 rfl rfl)
theorem dX3_weatherOf_7 : decode cX3_weatherOf 7 = .ok (.iconst 0, 1) := dk_3 (dk_at dksX3_weatherOf_0 7 rfl rfl)
theorem dX3_weatherOf_8 : decode cX3_weatherOf 8 = .ok (.goto 14, 3) := dk_167 0 14 (dk_at dksX3_weatherOf_0 8 rfl rfl)
theorem dX3_weatherOf_11 : decode cX3_weatherOf 11 = .ok (.aload_n 0, 1) := dk_42 (dk_at dksX3_weatherOf_0 11 rfl rfl)
theorem dX3_weatherOf_12 : decode cX3_weatherOf 12 = .ok (.getfield 22, 3) := dk_180 0 22 (dk_at dksX3_weatherOf_0 12 rfl rfl)
theorem dX3_weatherOf_15 : decode cX3_weatherOf 15 = .ok (.iload_n 1, 1) := dk_27 (dk_at dksX3_weatherOf_0 15 rfl rfl)
theorem dX3_weatherOf_16 : decode cX3_weatherOf 16 = .ok (.aload_n 0, 1) := dk_42 (dk_at dksX3_weatherOf_0 16 rfl rfl)
theorem dX3_weatherOf_17 : decode cX3_weatherOf 17 = .ok (.getfield 157, 3) := dk_180 0 157 (dk_at dksX3_weatherOf_0 17 rfl rfl)
theorem dX3_weatherOf_20 : decode cX3_weatherOf 20 = .ok (.irem, 1) := dk_112 (dk_at dksX3_weatherOf_0 20 rfl rfl)
theorem dX3_weatherOf_21 : decode cX3_weatherOf 21 = .ok (.iaload, 1) := dk_46 (dk_at dksX3_weatherOf_0 21 rfl rfl)
theorem dX3_weatherOf_22 : decode cX3_weatherOf 22 = .ok (.ireturn, 1) := dk_172 (dk_at dksX3_weatherOf_0 22 rfl rfl)
abbrev cX3_rule : ByteArray := prog_9_method_30_code
def yX3_rule : MethodName := ⟨RX3, "rule", "()I"⟩
def dkwX3_rule_4 : List UInt8 := [167, 255, 236, 42, 27, 181, 0, 211, 3, 172]
abbrev dktX3_rule_4 : List UInt8 := dkwX3_rule_4 ++ []
def dkwX3_rule_3 : List UInt8 := [172, 3, 61, 28, 27, 162, 0, 21, 42, 180, 0, 35, 28, 42, 180, 0, 25, 28, 51, 84, 132, 2, 1]
abbrev dktX3_rule_3 : List UInt8 := dkwX3_rule_3 ++ dktX3_rule_4
def dkwX3_rule_2 : List UInt8 := [162, 0, 11, 42, 42, 180, 0, 117, 182, 0, 135, 42, 182, 0, 123, 154, 0, 10, 2, 42, 180, 0, 120, 100]
abbrev dktX3_rule_2 : List UInt8 := dkwX3_rule_2 ++ dktX3_rule_3
def dkwX3_rule_1 : List UInt8 := [181, 0, 105, 42, 3, 181, 0, 183, 27, 158, 0, 39, 42, 3, 182, 0, 180, 87, 42, 180, 0, 117, 27]
abbrev dktX3_rule_1 : List UInt8 := dkwX3_rule_1 ++ dktX3_rule_2
def dkwX3_rule_0 : List UInt8 := [42, 3, 181, 0, 87, 42, 180, 0, 105, 60, 42, 42, 180, 0, 25, 27, 16, 40, 182, 0, 139, 42, 3]
abbrev dktX3_rule_0 : List UInt8 := dkwX3_rule_0 ++ dktX3_rule_1
theorem dksX3_rule_0 : cX3_rule.data.toList.drop 0 = dktX3_rule_0 := by decide +kernel
theorem dksX3_rule_1 : cX3_rule.data.toList.drop 23 = dktX3_rule_1 := dk_seg dksX3_rule_0 23 rfl rfl
theorem dksX3_rule_2 : cX3_rule.data.toList.drop 46 = dktX3_rule_2 := dk_seg dksX3_rule_1 23 rfl rfl
theorem dksX3_rule_3 : cX3_rule.data.toList.drop 70 = dktX3_rule_3 := dk_seg dksX3_rule_2 24 rfl rfl
theorem dksX3_rule_4 : cX3_rule.data.toList.drop 93 = dktX3_rule_4 := dk_seg dksX3_rule_3 23 rfl rfl
theorem dX3_rule_0 : decode cX3_rule 0 = .ok (.aload_n 0, 1) := dk_42 (dk_at dksX3_rule_0 0 rfl rfl)
theorem dX3_rule_1 : decode cX3_rule 1 = .ok (.iconst 0, 1) := dk_3 (dk_at dksX3_rule_0 1 rfl rfl)
theorem dX3_rule_2 : decode cX3_rule 2 = .ok (.putfield 87, 3) := dk_181 0 87 (dk_at dksX3_rule_0 2 rfl rfl)
theorem dX3_rule_5 : decode cX3_rule 5 = .ok (.aload_n 0, 1) := dk_42 (dk_at dksX3_rule_0 5 rfl rfl)
theorem dX3_rule_6 : decode cX3_rule 6 = .ok (.getfield 105, 3) := dk_180 0 105 (dk_at dksX3_rule_0 6 rfl rfl)
theorem dX3_rule_9 : decode cX3_rule 9 = .ok (.istore_n 1, 1) := dk_60 (dk_at dksX3_rule_0 9 rfl rfl)
theorem dX3_rule_10 : decode cX3_rule 10 = .ok (.aload_n 0, 1) := dk_42 (dk_at dksX3_rule_0 10 rfl rfl)
theorem dX3_rule_11 : decode cX3_rule 11 = .ok (.aload_n 0, 1) := dk_42 (dk_at dksX3_rule_0 11 rfl rfl)
theorem dX3_rule_12 : decode cX3_rule 12 = .ok (.getfield 25, 3) := dk_180 0 25 (dk_at dksX3_rule_0 12 rfl rfl)
theorem dX3_rule_15 : decode cX3_rule 15 = .ok (.iload_n 1, 1) := dk_27 (dk_at dksX3_rule_0 15 rfl rfl)
theorem dX3_rule_16 : decode cX3_rule 16 = .ok (.bipush 40, 2) := dk_16 40 (dk_at dksX3_rule_0 16 rfl rfl)
theorem dX3_rule_18 : decode cX3_rule 18 = .ok (.invokevirtual 139, 3) := dk_182 0 139 (dk_at dksX3_rule_0 18 rfl rfl)
theorem dX3_rule_21 : decode cX3_rule 21 = .ok (.aload_n 0, 1) := dk_42 (dk_at dksX3_rule_0 21 rfl rfl)
theorem dX3_rule_22 : decode cX3_rule 22 = .ok (.iconst 0, 1) := dk_3 (dk_at dksX3_rule_0 22 rfl rfl)
theorem dX3_rule_23 : decode cX3_rule 23 = .ok (.putfield 105, 3) := dk_181 0 105 (dk_at dksX3_rule_1 0 rfl rfl)
theorem dX3_rule_26 : decode cX3_rule 26 = .ok (.aload_n 0, 1) := dk_42 (dk_at dksX3_rule_1 3 rfl rfl)
theorem dX3_rule_27 : decode cX3_rule 27 = .ok (.iconst 0, 1) := dk_3 (dk_at dksX3_rule_1 4 rfl rfl)
theorem dX3_rule_28 : decode cX3_rule 28 = .ok (.putfield 183, 3) := dk_181 0 183 (dk_at dksX3_rule_1 5 rfl rfl)
theorem dX3_rule_31 : decode cX3_rule 31 = .ok (.iload_n 1, 1) := dk_27 (dk_at dksX3_rule_1 8 rfl rfl)
theorem dX3_rule_32 : decode cX3_rule 32 = .ok (.ifCond .le 39, 3) := dk_158 0 39 (dk_at dksX3_rule_1 9 rfl rfl)
theorem dX3_rule_35 : decode cX3_rule 35 = .ok (.aload_n 0, 1) := dk_42 (dk_at dksX3_rule_1 12 rfl rfl)
theorem dX3_rule_36 : decode cX3_rule 36 = .ok (.iconst 0, 1) := dk_3 (dk_at dksX3_rule_1 13 rfl rfl)
theorem dX3_rule_37 : decode cX3_rule 37 = .ok (.invokevirtual 180, 3) := dk_182 0 180 (dk_at dksX3_rule_1 14 rfl rfl)
theorem dX3_rule_40 : decode cX3_rule 40 = .ok (.pop, 1) := dk_87 (dk_at dksX3_rule_1 17 rfl rfl)
theorem dX3_rule_41 : decode cX3_rule 41 = .ok (.aload_n 0, 1) := dk_42 (dk_at dksX3_rule_1 18 rfl rfl)
theorem dX3_rule_42 : decode cX3_rule 42 = .ok (.getfield 117, 3) := dk_180 0 117 (dk_at dksX3_rule_1 19 rfl rfl)
theorem dX3_rule_45 : decode cX3_rule 45 = .ok (.iload_n 1, 1) := dk_27 (dk_at dksX3_rule_1 22 rfl rfl)
theorem dX3_rule_46 : decode cX3_rule 46 = .ok (.if_icmp .ge 11, 3) := dk_162 0 11 (dk_at dksX3_rule_2 0 rfl rfl)
theorem dX3_rule_49 : decode cX3_rule 49 = .ok (.aload_n 0, 1) := dk_42 (dk_at dksX3_rule_2 3 rfl rfl)
theorem dX3_rule_50 : decode cX3_rule 50 = .ok (.aload_n 0, 1) := dk_42 (dk_at dksX3_rule_2 4 rfl rfl)
theorem dX3_rule_51 : decode cX3_rule 51 = .ok (.getfield 117, 3) := dk_180 0 117 (dk_at dksX3_rule_2 5 rfl rfl)
theorem dX3_rule_54 : decode cX3_rule 54 = .ok (.invokevirtual 135, 3) := dk_182 0 135 (dk_at dksX3_rule_2 8 rfl rfl)
theorem dX3_rule_57 : decode cX3_rule 57 = .ok (.aload_n 0, 1) := dk_42 (dk_at dksX3_rule_2 11 rfl rfl)
theorem dX3_rule_58 : decode cX3_rule 58 = .ok (.invokevirtual 123, 3) := dk_182 0 123 (dk_at dksX3_rule_2 12 rfl rfl)
theorem dX3_rule_61 : decode cX3_rule 61 = .ok (.ifCond .ne 10, 3) := dk_154 0 10 (dk_at dksX3_rule_2 15 rfl rfl)
theorem dX3_rule_64 : decode cX3_rule 64 = .ok (.iconst (-1), 1) := dk_2 (dk_at dksX3_rule_2 18 rfl rfl)
theorem dX3_rule_65 : decode cX3_rule 65 = .ok (.aload_n 0, 1) := dk_42 (dk_at dksX3_rule_2 19 rfl rfl)
theorem dX3_rule_66 : decode cX3_rule 66 = .ok (.getfield 120, 3) := dk_180 0 120 (dk_at dksX3_rule_2 20 rfl rfl)
theorem dX3_rule_69 : decode cX3_rule 69 = .ok (.isub, 1) := dk_100 (dk_at dksX3_rule_2 23 rfl rfl)
theorem dX3_rule_70 : decode cX3_rule 70 = .ok (.ireturn, 1) := dk_172 (dk_at dksX3_rule_3 0 rfl rfl)
theorem dX3_rule_71 : decode cX3_rule 71 = .ok (.iconst 0, 1) := dk_3 (dk_at dksX3_rule_3 1 rfl rfl)
theorem dX3_rule_72 : decode cX3_rule 72 = .ok (.istore_n 2, 1) := dk_61 (dk_at dksX3_rule_3 2 rfl rfl)
theorem dX3_rule_73 : decode cX3_rule 73 = .ok (.iload_n 2, 1) := dk_28 (dk_at dksX3_rule_3 3 rfl rfl)
theorem dX3_rule_74 : decode cX3_rule 74 = .ok (.iload_n 1, 1) := dk_27 (dk_at dksX3_rule_3 4 rfl rfl)
theorem dX3_rule_75 : decode cX3_rule 75 = .ok (.if_icmp .ge 21, 3) := dk_162 0 21 (dk_at dksX3_rule_3 5 rfl rfl)
theorem dX3_rule_78 : decode cX3_rule 78 = .ok (.aload_n 0, 1) := dk_42 (dk_at dksX3_rule_3 8 rfl rfl)
theorem dX3_rule_79 : decode cX3_rule 79 = .ok (.getfield 35, 3) := dk_180 0 35 (dk_at dksX3_rule_3 9 rfl rfl)
theorem dX3_rule_82 : decode cX3_rule 82 = .ok (.iload_n 2, 1) := dk_28 (dk_at dksX3_rule_3 12 rfl rfl)
theorem dX3_rule_83 : decode cX3_rule 83 = .ok (.aload_n 0, 1) := dk_42 (dk_at dksX3_rule_3 13 rfl rfl)
theorem dX3_rule_84 : decode cX3_rule 84 = .ok (.getfield 25, 3) := dk_180 0 25 (dk_at dksX3_rule_3 14 rfl rfl)
theorem dX3_rule_87 : decode cX3_rule 87 = .ok (.iload_n 2, 1) := dk_28 (dk_at dksX3_rule_3 17 rfl rfl)
theorem dX3_rule_88 : decode cX3_rule 88 = .ok (.baload, 1) := dk_51 (dk_at dksX3_rule_3 18 rfl rfl)
theorem dX3_rule_89 : decode cX3_rule 89 = .ok (.bastore, 1) := dk_84 (dk_at dksX3_rule_3 19 rfl rfl)
theorem dX3_rule_90 : decode cX3_rule 90 = .ok (.iinc 2 1, 3) := dk_132 2 1 (dk_at dksX3_rule_3 20 rfl rfl)
theorem dX3_rule_93 : decode cX3_rule 93 = .ok (.goto (-20), 3) := dk_167 255 236 (dk_at dksX3_rule_4 0 rfl rfl)
theorem dX3_rule_96 : decode cX3_rule 96 = .ok (.aload_n 0, 1) := dk_42 (dk_at dksX3_rule_4 3 rfl rfl)
theorem dX3_rule_97 : decode cX3_rule 97 = .ok (.iload_n 1, 1) := dk_27 (dk_at dksX3_rule_4 4 rfl rfl)
theorem dX3_rule_98 : decode cX3_rule 98 = .ok (.putfield 211, 3) := dk_181 0 211 (dk_at dksX3_rule_4 5 rfl rfl)
theorem dX3_rule_101 : decode cX3_rule 101 = .ok (.iconst 0, 1) := dk_3 (dk_at dksX3_rule_4 8 rfl rfl)
theorem dX3_rule_102 : decode cX3_rule 102 = .ok (.ireturn, 1) := dk_172 (dk_at dksX3_rule_4 9 rfl rfl)
abbrev cX3_held : ByteArray := prog_9_method_25_code
def yX3_held : MethodName := ⟨RX3, "held", "(I)I"⟩
def dkwX3_held_3 : List UInt8 := [4, 167, 0, 4, 3, 172, 28, 172]
abbrev dktX3_held_3 : List UInt8 := dkwX3_held_3 ++ []
def dkwX3_held_2 : List UInt8 := [4, 167, 0, 4, 3, 172, 42, 16, 61, 182, 0, 131, 153, 0, 18, 28, 42, 27, 182, 0, 171, 160, 0, 7]
abbrev dktX3_held_2 : List UInt8 := dkwX3_held_2 ++ dktX3_held_3
def dkwX3_held_1 : List UInt8 := [4, 167, 0, 4, 3, 172, 42, 16, 62, 182, 0, 131, 153, 0, 18, 28, 42, 27, 182, 0, 171, 164, 0, 7]
abbrev dktX3_held_1 : List UInt8 := dkwX3_held_1 ++ dktX3_held_2
def dkwX3_held_0 : List UInt8 := [42, 27, 182, 0, 171, 61, 42, 16, 60, 182, 0, 131, 153, 0, 18, 28, 42, 27, 182, 0, 171, 162, 0, 7]
abbrev dktX3_held_0 : List UInt8 := dkwX3_held_0 ++ dktX3_held_1
theorem dksX3_held_0 : cX3_held.data.toList.drop 0 = dktX3_held_0 := by decide +kernel
theorem dksX3_held_1 : cX3_held.data.toList.drop 24 = dktX3_held_1 := dk_seg dksX3_held_0 24 rfl rfl
theorem dksX3_held_2 : cX3_held.data.toList.drop 48 = dktX3_held_2 := dk_seg dksX3_held_1 24 rfl rfl
theorem dksX3_held_3 : cX3_held.data.toList.drop 72 = dktX3_held_3 := dk_seg dksX3_held_2 24 rfl rfl
theorem dX3_held_0 : decode cX3_held 0 = .ok (.aload_n 0, 1) := dk_42 (dk_at dksX3_held_0 0 rfl rfl)
theorem dX3_held_1 : decode cX3_held 1 = .ok (.iload_n 1, 1) := dk_27 (dk_at dksX3_held_0 1 rfl rfl)
theorem dX3_held_2 : decode cX3_held 2 = .ok (.invokevirtual 171, 3) := dk_182 0 171 (dk_at dksX3_held_0 2 rfl rfl)
theorem dX3_held_5 : decode cX3_held 5 = .ok (.istore_n 2, 1) := dk_61 (dk_at dksX3_held_0 5 rfl rfl)
theorem dX3_held_6 : decode cX3_held 6 = .ok (.aload_n 0, 1) := dk_42 (dk_at dksX3_held_0 6 rfl rfl)
theorem dX3_held_7 : decode cX3_held 7 = .ok (.bipush 60, 2) := dk_16 60 (dk_at dksX3_held_0 7 rfl rfl)
theorem dX3_held_9 : decode cX3_held 9 = .ok (.invokevirtual 131, 3) := dk_182 0 131 (dk_at dksX3_held_0 9 rfl rfl)
theorem dX3_held_12 : decode cX3_held 12 = .ok (.ifCond .eq 18, 3) := dk_153 0 18 (dk_at dksX3_held_0 12 rfl rfl)
theorem dX3_held_15 : decode cX3_held 15 = .ok (.iload_n 2, 1) := dk_28 (dk_at dksX3_held_0 15 rfl rfl)
theorem dX3_held_16 : decode cX3_held 16 = .ok (.aload_n 0, 1) := dk_42 (dk_at dksX3_held_0 16 rfl rfl)
theorem dX3_held_17 : decode cX3_held 17 = .ok (.iload_n 1, 1) := dk_27 (dk_at dksX3_held_0 17 rfl rfl)
theorem dX3_held_18 : decode cX3_held 18 = .ok (.invokevirtual 171, 3) := dk_182 0 171 (dk_at dksX3_held_0 18 rfl rfl)
theorem dX3_held_21 : decode cX3_held 21 = .ok (.if_icmp .ge 7, 3) := dk_162 0 7 (dk_at dksX3_held_0 21 rfl rfl)
theorem dX3_held_24 : decode cX3_held 24 = .ok (.iconst 1, 1) := dk_4 (dk_at dksX3_held_1 0 rfl rfl)
theorem dX3_held_25 : decode cX3_held 25 = .ok (.goto 4, 3) := dk_167 0 4 (dk_at dksX3_held_1 1 rfl rfl)
theorem dX3_held_28 : decode cX3_held 28 = .ok (.iconst 0, 1) := dk_3 (dk_at dksX3_held_1 4 rfl rfl)
theorem dX3_held_29 : decode cX3_held 29 = .ok (.ireturn, 1) := dk_172 (dk_at dksX3_held_1 5 rfl rfl)
theorem dX3_held_30 : decode cX3_held 30 = .ok (.aload_n 0, 1) := dk_42 (dk_at dksX3_held_1 6 rfl rfl)
theorem dX3_held_31 : decode cX3_held 31 = .ok (.bipush 62, 2) := dk_16 62 (dk_at dksX3_held_1 7 rfl rfl)
theorem dX3_held_33 : decode cX3_held 33 = .ok (.invokevirtual 131, 3) := dk_182 0 131 (dk_at dksX3_held_1 9 rfl rfl)
theorem dX3_held_36 : decode cX3_held 36 = .ok (.ifCond .eq 18, 3) := dk_153 0 18 (dk_at dksX3_held_1 12 rfl rfl)
theorem dX3_held_39 : decode cX3_held 39 = .ok (.iload_n 2, 1) := dk_28 (dk_at dksX3_held_1 15 rfl rfl)
theorem dX3_held_40 : decode cX3_held 40 = .ok (.aload_n 0, 1) := dk_42 (dk_at dksX3_held_1 16 rfl rfl)
theorem dX3_held_41 : decode cX3_held 41 = .ok (.iload_n 1, 1) := dk_27 (dk_at dksX3_held_1 17 rfl rfl)
theorem dX3_held_42 : decode cX3_held 42 = .ok (.invokevirtual 171, 3) := dk_182 0 171 (dk_at dksX3_held_1 18 rfl rfl)
theorem dX3_held_45 : decode cX3_held 45 = .ok (.if_icmp .le 7, 3) := dk_164 0 7 (dk_at dksX3_held_1 21 rfl rfl)
theorem dX3_held_48 : decode cX3_held 48 = .ok (.iconst 1, 1) := dk_4 (dk_at dksX3_held_2 0 rfl rfl)
theorem dX3_held_49 : decode cX3_held 49 = .ok (.goto 4, 3) := dk_167 0 4 (dk_at dksX3_held_2 1 rfl rfl)
theorem dX3_held_52 : decode cX3_held 52 = .ok (.iconst 0, 1) := dk_3 (dk_at dksX3_held_2 4 rfl rfl)
theorem dX3_held_53 : decode cX3_held 53 = .ok (.ireturn, 1) := dk_172 (dk_at dksX3_held_2 5 rfl rfl)
theorem dX3_held_54 : decode cX3_held 54 = .ok (.aload_n 0, 1) := dk_42 (dk_at dksX3_held_2 6 rfl rfl)
theorem dX3_held_55 : decode cX3_held 55 = .ok (.bipush 61, 2) := dk_16 61 (dk_at dksX3_held_2 7 rfl rfl)
theorem dX3_held_57 : decode cX3_held 57 = .ok (.invokevirtual 131, 3) := dk_182 0 131 (dk_at dksX3_held_2 9 rfl rfl)
theorem dX3_held_60 : decode cX3_held 60 = .ok (.ifCond .eq 18, 3) := dk_153 0 18 (dk_at dksX3_held_2 12 rfl rfl)
theorem dX3_held_63 : decode cX3_held 63 = .ok (.iload_n 2, 1) := dk_28 (dk_at dksX3_held_2 15 rfl rfl)
theorem dX3_held_64 : decode cX3_held 64 = .ok (.aload_n 0, 1) := dk_42 (dk_at dksX3_held_2 16 rfl rfl)
theorem dX3_held_65 : decode cX3_held 65 = .ok (.iload_n 1, 1) := dk_27 (dk_at dksX3_held_2 17 rfl rfl)
theorem dX3_held_66 : decode cX3_held 66 = .ok (.invokevirtual 171, 3) := dk_182 0 171 (dk_at dksX3_held_2 18 rfl rfl)
theorem dX3_held_69 : decode cX3_held 69 = .ok (.if_icmp .ne 7, 3) := dk_160 0 7 (dk_at dksX3_held_2 21 rfl rfl)
theorem dX3_held_72 : decode cX3_held 72 = .ok (.iconst 1, 1) := dk_4 (dk_at dksX3_held_3 0 rfl rfl)
theorem dX3_held_73 : decode cX3_held 73 = .ok (.goto 4, 3) := dk_167 0 4 (dk_at dksX3_held_3 1 rfl rfl)
theorem dX3_held_76 : decode cX3_held 76 = .ok (.iconst 0, 1) := dk_3 (dk_at dksX3_held_3 4 rfl rfl)
theorem dX3_held_77 : decode cX3_held 77 = .ok (.ireturn, 1) := dk_172 (dk_at dksX3_held_3 5 rfl rfl)
theorem dX3_held_78 : decode cX3_held 78 = .ok (.iload_n 2, 1) := dk_28 (dk_at dksX3_held_3 6 rfl rfl)
theorem dX3_held_79 : decode cX3_held 79 = .ok (.ireturn, 1) := dk_172 (dk_at dksX3_held_3 7 rfl rfl)
abbrev cX3_sum : ByteArray := prog_9_method_26_code
def yX3_sum : MethodName := ⟨RX3, "sum", "(I)I"⟩
def dkwX3_sum_3 : List UInt8 := [167, 0, 7, 28, 21, 4, 100, 61, 167, 255, 183, 28, 172]
abbrev dktX3_sum_3 : List UInt8 := dkwX3_sum_3 ++ []
def dkwX3_sum_2 : List UInt8 := [89, 180, 0, 117, 4, 96, 181, 0, 117, 42, 27, 182, 0, 174, 54, 4, 29, 153, 0, 10, 28, 21, 4, 96]
abbrev dktX3_sum_2 : List UInt8 := dkwX3_sum_2 ++ dktX3_sum_3
def dkwX3_sum_1 : List UInt8 := [182, 0, 127, 16, 45, 160, 0, 54, 42, 182, 0, 127, 16, 43, 160, 0, 7, 4, 167, 0, 4, 3, 62, 42]
abbrev dktX3_sum_1 : List UInt8 := dkwX3_sum_1 ++ dktX3_sum_2
def dkwX3_sum_0 : List UInt8 := [42, 27, 182, 0, 174, 61, 42, 182, 0, 123, 153, 0, 72, 42, 182, 0, 127, 16, 43, 159, 0, 12, 42]
abbrev dktX3_sum_0 : List UInt8 := dkwX3_sum_0 ++ dktX3_sum_1
theorem dksX3_sum_0 : cX3_sum.data.toList.drop 0 = dktX3_sum_0 := by decide +kernel
theorem dksX3_sum_1 : cX3_sum.data.toList.drop 23 = dktX3_sum_1 := dk_seg dksX3_sum_0 23 rfl rfl
theorem dksX3_sum_2 : cX3_sum.data.toList.drop 47 = dktX3_sum_2 := dk_seg dksX3_sum_1 24 rfl rfl
theorem dksX3_sum_3 : cX3_sum.data.toList.drop 71 = dktX3_sum_3 := dk_seg dksX3_sum_2 24 rfl rfl
theorem dX3_sum_0 : decode cX3_sum 0 = .ok (.aload_n 0, 1) := dk_42 (dk_at dksX3_sum_0 0 rfl rfl)
theorem dX3_sum_1 : decode cX3_sum 1 = .ok (.iload_n 1, 1) := dk_27 (dk_at dksX3_sum_0 1 rfl rfl)
theorem dX3_sum_2 : decode cX3_sum 2 = .ok (.invokevirtual 174, 3) := dk_182 0 174 (dk_at dksX3_sum_0 2 rfl rfl)
theorem dX3_sum_5 : decode cX3_sum 5 = .ok (.istore_n 2, 1) := dk_61 (dk_at dksX3_sum_0 5 rfl rfl)
theorem dX3_sum_6 : decode cX3_sum 6 = .ok (.aload_n 0, 1) := dk_42 (dk_at dksX3_sum_0 6 rfl rfl)
theorem dX3_sum_7 : decode cX3_sum 7 = .ok (.invokevirtual 123, 3) := dk_182 0 123 (dk_at dksX3_sum_0 7 rfl rfl)
theorem dX3_sum_10 : decode cX3_sum 10 = .ok (.ifCond .eq 72, 3) := dk_153 0 72 (dk_at dksX3_sum_0 10 rfl rfl)
theorem dX3_sum_13 : decode cX3_sum 13 = .ok (.aload_n 0, 1) := dk_42 (dk_at dksX3_sum_0 13 rfl rfl)
theorem dX3_sum_14 : decode cX3_sum 14 = .ok (.invokevirtual 127, 3) := dk_182 0 127 (dk_at dksX3_sum_0 14 rfl rfl)
theorem dX3_sum_17 : decode cX3_sum 17 = .ok (.bipush 43, 2) := dk_16 43 (dk_at dksX3_sum_0 17 rfl rfl)
theorem dX3_sum_19 : decode cX3_sum 19 = .ok (.if_icmp .eq 12, 3) := dk_159 0 12 (dk_at dksX3_sum_0 19 rfl rfl)
theorem dX3_sum_22 : decode cX3_sum 22 = .ok (.aload_n 0, 1) := dk_42 (dk_at dksX3_sum_0 22 rfl rfl)
theorem dX3_sum_23 : decode cX3_sum 23 = .ok (.invokevirtual 127, 3) := dk_182 0 127 (dk_at dksX3_sum_1 0 rfl rfl)
theorem dX3_sum_26 : decode cX3_sum 26 = .ok (.bipush 45, 2) := dk_16 45 (dk_at dksX3_sum_1 3 rfl rfl)
theorem dX3_sum_28 : decode cX3_sum 28 = .ok (.if_icmp .ne 54, 3) := dk_160 0 54 (dk_at dksX3_sum_1 5 rfl rfl)
theorem dX3_sum_31 : decode cX3_sum 31 = .ok (.aload_n 0, 1) := dk_42 (dk_at dksX3_sum_1 8 rfl rfl)
theorem dX3_sum_32 : decode cX3_sum 32 = .ok (.invokevirtual 127, 3) := dk_182 0 127 (dk_at dksX3_sum_1 9 rfl rfl)
theorem dX3_sum_35 : decode cX3_sum 35 = .ok (.bipush 43, 2) := dk_16 43 (dk_at dksX3_sum_1 12 rfl rfl)
theorem dX3_sum_37 : decode cX3_sum 37 = .ok (.if_icmp .ne 7, 3) := dk_160 0 7 (dk_at dksX3_sum_1 14 rfl rfl)
theorem dX3_sum_40 : decode cX3_sum 40 = .ok (.iconst 1, 1) := dk_4 (dk_at dksX3_sum_1 17 rfl rfl)
theorem dX3_sum_41 : decode cX3_sum 41 = .ok (.goto 4, 3) := dk_167 0 4 (dk_at dksX3_sum_1 18 rfl rfl)
theorem dX3_sum_44 : decode cX3_sum 44 = .ok (.iconst 0, 1) := dk_3 (dk_at dksX3_sum_1 21 rfl rfl)
theorem dX3_sum_45 : decode cX3_sum 45 = .ok (.istore_n 3, 1) := dk_62 (dk_at dksX3_sum_1 22 rfl rfl)
theorem dX3_sum_46 : decode cX3_sum 46 = .ok (.aload_n 0, 1) := dk_42 (dk_at dksX3_sum_1 23 rfl rfl)
theorem dX3_sum_47 : decode cX3_sum 47 = .ok (.dup, 1) := dk_89 (dk_at dksX3_sum_2 0 rfl rfl)
theorem dX3_sum_48 : decode cX3_sum 48 = .ok (.getfield 117, 3) := dk_180 0 117 (dk_at dksX3_sum_2 1 rfl rfl)
theorem dX3_sum_51 : decode cX3_sum 51 = .ok (.iconst 1, 1) := dk_4 (dk_at dksX3_sum_2 4 rfl rfl)
theorem dX3_sum_52 : decode cX3_sum 52 = .ok (.iadd, 1) := dk_96 (dk_at dksX3_sum_2 5 rfl rfl)
theorem dX3_sum_53 : decode cX3_sum 53 = .ok (.putfield 117, 3) := dk_181 0 117 (dk_at dksX3_sum_2 6 rfl rfl)
theorem dX3_sum_56 : decode cX3_sum 56 = .ok (.aload_n 0, 1) := dk_42 (dk_at dksX3_sum_2 9 rfl rfl)
theorem dX3_sum_57 : decode cX3_sum 57 = .ok (.iload_n 1, 1) := dk_27 (dk_at dksX3_sum_2 10 rfl rfl)
theorem dX3_sum_58 : decode cX3_sum 58 = .ok (.invokevirtual 174, 3) := dk_182 0 174 (dk_at dksX3_sum_2 11 rfl rfl)
theorem dX3_sum_61 : decode cX3_sum 61 = .ok (.istore 4, 2) := dk_54 4 (dk_at dksX3_sum_2 14 rfl rfl)
theorem dX3_sum_63 : decode cX3_sum 63 = .ok (.iload_n 3, 1) := dk_29 (dk_at dksX3_sum_2 16 rfl rfl)
theorem dX3_sum_64 : decode cX3_sum 64 = .ok (.ifCond .eq 10, 3) := dk_153 0 10 (dk_at dksX3_sum_2 17 rfl rfl)
theorem dX3_sum_67 : decode cX3_sum 67 = .ok (.iload_n 2, 1) := dk_28 (dk_at dksX3_sum_2 20 rfl rfl)
theorem dX3_sum_68 : decode cX3_sum 68 = .ok (.iload 4, 2) := dk_21 4 (dk_at dksX3_sum_2 21 rfl rfl)
theorem dX3_sum_70 : decode cX3_sum 70 = .ok (.iadd, 1) := dk_96 (dk_at dksX3_sum_2 23 rfl rfl)
theorem dX3_sum_71 : decode cX3_sum 71 = .ok (.goto 7, 3) := dk_167 0 7 (dk_at dksX3_sum_3 0 rfl rfl)
theorem dX3_sum_74 : decode cX3_sum 74 = .ok (.iload_n 2, 1) := dk_28 (dk_at dksX3_sum_3 3 rfl rfl)
theorem dX3_sum_75 : decode cX3_sum 75 = .ok (.iload 4, 2) := dk_21 4 (dk_at dksX3_sum_3 4 rfl rfl)
theorem dX3_sum_77 : decode cX3_sum 77 = .ok (.isub, 1) := dk_100 (dk_at dksX3_sum_3 6 rfl rfl)
theorem dX3_sum_78 : decode cX3_sum 78 = .ok (.istore_n 2, 1) := dk_61 (dk_at dksX3_sum_3 7 rfl rfl)
theorem dX3_sum_79 : decode cX3_sum 79 = .ok (.goto (-73), 3) := dk_167 255 183 (dk_at dksX3_sum_3 8 rfl rfl)
theorem dX3_sum_82 : decode cX3_sum 82 = .ok (.iload_n 2, 1) := dk_28 (dk_at dksX3_sum_3 11 rfl rfl)
theorem dX3_sum_83 : decode cX3_sum 83 = .ok (.ireturn, 1) := dk_172 (dk_at dksX3_sum_3 12 rfl rfl)
abbrev cX3_product : ByteArray := prog_9_method_27_code
def yX3_product : MethodName := ⟨RX3, "product", "(I)I"⟩
def dkwX3_product_3 : List UInt8 := [167, 0, 16, 21, 4, 154, 0, 7, 3, 167, 0, 7, 28, 21, 4, 108, 61, 167, 255, 174, 28, 172]
abbrev dktX3_product_3 : List UInt8 := dkwX3_product_3 ++ []
def dkwX3_product_2 : List UInt8 := [89, 180, 0, 117, 4, 96, 181, 0, 117, 42, 27, 182, 0, 177, 54, 4, 29, 153, 0, 10, 28, 21, 4, 104]
abbrev dktX3_product_2 : List UInt8 := dkwX3_product_2 ++ dktX3_product_3
def dkwX3_product_1 : List UInt8 := [182, 0, 127, 16, 47, 160, 0, 63, 42, 182, 0, 127, 16, 42, 160, 0, 7, 4, 167, 0, 4, 3, 62, 42]
abbrev dktX3_product_1 : List UInt8 := dkwX3_product_1 ++ dktX3_product_2
def dkwX3_product_0 : List UInt8 := [42, 27, 182, 0, 177, 61, 42, 182, 0, 123, 153, 0, 81, 42, 182, 0, 127, 16, 42, 159, 0, 12, 42]
abbrev dktX3_product_0 : List UInt8 := dkwX3_product_0 ++ dktX3_product_1
theorem dksX3_product_0 : cX3_product.data.toList.drop 0 = dktX3_product_0 := by decide +kernel
theorem dksX3_product_1 : cX3_product.data.toList.drop 23 = dktX3_product_1 := dk_seg dksX3_product_0 23 rfl rfl
theorem dksX3_product_2 : cX3_product.data.toList.drop 47 = dktX3_product_2 := dk_seg dksX3_product_1 24 rfl rfl
theorem dksX3_product_3 : cX3_product.data.toList.drop 71 = dktX3_product_3 := dk_seg dksX3_product_2 24 rfl rfl
theorem dX3_product_0 : decode cX3_product 0 = .ok (.aload_n 0, 1) := dk_42 (dk_at dksX3_product_0 0 rfl rfl)
theorem dX3_product_1 : decode cX3_product 1 = .ok (.iload_n 1, 1) := dk_27 (dk_at dksX3_product_0 1 rfl rfl)
theorem dX3_product_2 : decode cX3_product 2 = .ok (.invokevirtual 177, 3) := dk_182 0 177 (dk_at dksX3_product_0 2 rfl rfl)
theorem dX3_product_5 : decode cX3_product 5 = .ok (.istore_n 2, 1) := dk_61 (dk_at dksX3_product_0 5 rfl rfl)
theorem dX3_product_6 : decode cX3_product 6 = .ok (.aload_n 0, 1) := dk_42 (dk_at dksX3_product_0 6 rfl rfl)
theorem dX3_product_7 : decode cX3_product 7 = .ok (.invokevirtual 123, 3) := dk_182 0 123 (dk_at dksX3_product_0 7 rfl rfl)
theorem dX3_product_10 : decode cX3_product 10 = .ok (.ifCond .eq 81, 3) := dk_153 0 81 (dk_at dksX3_product_0 10 rfl rfl)
theorem dX3_product_13 : decode cX3_product 13 = .ok (.aload_n 0, 1) := dk_42 (dk_at dksX3_product_0 13 rfl rfl)
theorem dX3_product_14 : decode cX3_product 14 = .ok (.invokevirtual 127, 3) := dk_182 0 127 (dk_at dksX3_product_0 14 rfl rfl)
theorem dX3_product_17 : decode cX3_product 17 = .ok (.bipush 42, 2) := dk_16 42 (dk_at dksX3_product_0 17 rfl rfl)
theorem dX3_product_19 : decode cX3_product 19 = .ok (.if_icmp .eq 12, 3) := dk_159 0 12 (dk_at dksX3_product_0 19 rfl rfl)
theorem dX3_product_22 : decode cX3_product 22 = .ok (.aload_n 0, 1) := dk_42 (dk_at dksX3_product_0 22 rfl rfl)
theorem dX3_product_23 : decode cX3_product 23 = .ok (.invokevirtual 127, 3) := dk_182 0 127 (dk_at dksX3_product_1 0 rfl rfl)
theorem dX3_product_26 : decode cX3_product 26 = .ok (.bipush 47, 2) := dk_16 47 (dk_at dksX3_product_1 3 rfl rfl)
theorem dX3_product_28 : decode cX3_product 28 = .ok (.if_icmp .ne 63, 3) := dk_160 0 63 (dk_at dksX3_product_1 5 rfl rfl)
theorem dX3_product_31 : decode cX3_product 31 = .ok (.aload_n 0, 1) := dk_42 (dk_at dksX3_product_1 8 rfl rfl)
theorem dX3_product_32 : decode cX3_product 32 = .ok (.invokevirtual 127, 3) := dk_182 0 127 (dk_at dksX3_product_1 9 rfl rfl)
theorem dX3_product_35 : decode cX3_product 35 = .ok (.bipush 42, 2) := dk_16 42 (dk_at dksX3_product_1 12 rfl rfl)
theorem dX3_product_37 : decode cX3_product 37 = .ok (.if_icmp .ne 7, 3) := dk_160 0 7 (dk_at dksX3_product_1 14 rfl rfl)
theorem dX3_product_40 : decode cX3_product 40 = .ok (.iconst 1, 1) := dk_4 (dk_at dksX3_product_1 17 rfl rfl)
theorem dX3_product_41 : decode cX3_product 41 = .ok (.goto 4, 3) := dk_167 0 4 (dk_at dksX3_product_1 18 rfl rfl)
theorem dX3_product_44 : decode cX3_product 44 = .ok (.iconst 0, 1) := dk_3 (dk_at dksX3_product_1 21 rfl rfl)
theorem dX3_product_45 : decode cX3_product 45 = .ok (.istore_n 3, 1) := dk_62 (dk_at dksX3_product_1 22 rfl rfl)
theorem dX3_product_46 : decode cX3_product 46 = .ok (.aload_n 0, 1) := dk_42 (dk_at dksX3_product_1 23 rfl rfl)
theorem dX3_product_47 : decode cX3_product 47 = .ok (.dup, 1) := dk_89 (dk_at dksX3_product_2 0 rfl rfl)
theorem dX3_product_48 : decode cX3_product 48 = .ok (.getfield 117, 3) := dk_180 0 117 (dk_at dksX3_product_2 1 rfl rfl)
theorem dX3_product_51 : decode cX3_product 51 = .ok (.iconst 1, 1) := dk_4 (dk_at dksX3_product_2 4 rfl rfl)
theorem dX3_product_52 : decode cX3_product 52 = .ok (.iadd, 1) := dk_96 (dk_at dksX3_product_2 5 rfl rfl)
theorem dX3_product_53 : decode cX3_product 53 = .ok (.putfield 117, 3) := dk_181 0 117 (dk_at dksX3_product_2 6 rfl rfl)
theorem dX3_product_56 : decode cX3_product 56 = .ok (.aload_n 0, 1) := dk_42 (dk_at dksX3_product_2 9 rfl rfl)
theorem dX3_product_57 : decode cX3_product 57 = .ok (.iload_n 1, 1) := dk_27 (dk_at dksX3_product_2 10 rfl rfl)
theorem dX3_product_58 : decode cX3_product 58 = .ok (.invokevirtual 177, 3) := dk_182 0 177 (dk_at dksX3_product_2 11 rfl rfl)
theorem dX3_product_61 : decode cX3_product 61 = .ok (.istore 4, 2) := dk_54 4 (dk_at dksX3_product_2 14 rfl rfl)
theorem dX3_product_63 : decode cX3_product 63 = .ok (.iload_n 3, 1) := dk_29 (dk_at dksX3_product_2 16 rfl rfl)
theorem dX3_product_64 : decode cX3_product 64 = .ok (.ifCond .eq 10, 3) := dk_153 0 10 (dk_at dksX3_product_2 17 rfl rfl)
theorem dX3_product_67 : decode cX3_product 67 = .ok (.iload_n 2, 1) := dk_28 (dk_at dksX3_product_2 20 rfl rfl)
theorem dX3_product_68 : decode cX3_product 68 = .ok (.iload 4, 2) := dk_21 4 (dk_at dksX3_product_2 21 rfl rfl)
theorem dX3_product_70 : decode cX3_product 70 = .ok (.imul, 1) := dk_104 (dk_at dksX3_product_2 23 rfl rfl)
theorem dX3_product_71 : decode cX3_product 71 = .ok (.goto 16, 3) := dk_167 0 16 (dk_at dksX3_product_3 0 rfl rfl)
theorem dX3_product_74 : decode cX3_product 74 = .ok (.iload 4, 2) := dk_21 4 (dk_at dksX3_product_3 3 rfl rfl)
theorem dX3_product_76 : decode cX3_product 76 = .ok (.ifCond .ne 7, 3) := dk_154 0 7 (dk_at dksX3_product_3 5 rfl rfl)
theorem dX3_product_79 : decode cX3_product 79 = .ok (.iconst 0, 1) := dk_3 (dk_at dksX3_product_3 8 rfl rfl)
theorem dX3_product_80 : decode cX3_product 80 = .ok (.goto 7, 3) := dk_167 0 7 (dk_at dksX3_product_3 9 rfl rfl)
theorem dX3_product_83 : decode cX3_product 83 = .ok (.iload_n 2, 1) := dk_28 (dk_at dksX3_product_3 12 rfl rfl)
theorem dX3_product_84 : decode cX3_product 84 = .ok (.iload 4, 2) := dk_21 4 (dk_at dksX3_product_3 13 rfl rfl)
theorem dX3_product_86 : decode cX3_product 86 = .ok (.idiv, 1) := dk_108 (dk_at dksX3_product_3 15 rfl rfl)
theorem dX3_product_87 : decode cX3_product 87 = .ok (.istore_n 2, 1) := dk_61 (dk_at dksX3_product_3 16 rfl rfl)
theorem dX3_product_88 : decode cX3_product 88 = .ok (.goto (-82), 3) := dk_167 255 174 (dk_at dksX3_product_3 17 rfl rfl)
theorem dX3_product_91 : decode cX3_product 91 = .ok (.iload_n 2, 1) := dk_28 (dk_at dksX3_product_3 20 rfl rfl)
theorem dX3_product_92 : decode cX3_product 92 = .ok (.ireturn, 1) := dk_172 (dk_at dksX3_product_3 21 rfl rfl)
abbrev cX3_thing : ByteArray := prog_9_method_28_code
def yX3_thing : MethodName := ⟨RX3, "thing", "(I)I"⟩
def dkwX3_thing_7 : List UInt8 := [182, 0, 187, 167, 0, 4, 3, 172]
abbrev dktX3_thing_7 : List UInt8 := dkwX3_thing_7 ++ []
def dkwX3_thing_6 : List UInt8 := [182, 0, 135, 3, 172, 42, 89, 180, 0, 117, 4, 96, 181, 0, 117, 42, 180, 0, 183, 153, 0, 11, 42, 28]
abbrev dktX3_thing_6 : List UInt8 := dkwX3_thing_6 ++ dktX3_thing_7
def dkwX3_thing_5 : List UInt8 := [16, 120, 159, 0, 25, 28, 16, 104, 159, 0, 19, 28, 16, 98, 159, 0, 13, 42, 42, 180, 0, 117]
abbrev dktX3_thing_5 : List UInt8 := dkwX3_thing_5 ++ dktX3_thing_6
def dkwX3_thing_4 : List UInt8 := [16, 112, 159, 0, 49, 28, 16, 116, 159, 0, 43, 28, 16, 111, 159, 0, 37, 28, 16, 110, 159, 0, 31, 28]
abbrev dktX3_thing_4 : List UInt8 := dkwX3_thing_4 ++ dktX3_thing_5
def dkwX3_thing_3 : List UInt8 := [184, 0, 97, 153, 0, 13, 42, 6, 3, 17, 3, 231, 182, 0, 143, 172, 28, 16, 100, 159, 0, 55, 28]
abbrev dktX3_thing_3 : List UInt8 := dkwX3_thing_3 ++ dktX3_thing_4
def dkwX3_thing_2 : List UInt8 := [181, 0, 117, 42, 27, 4, 96, 182, 0, 180, 62, 42, 16, 41, 182, 0, 147, 29, 172, 28, 16, 48, 16, 57]
abbrev dktX3_thing_2 : List UInt8 := dkwX3_thing_2 ++ dktX3_thing_3
def dkwX3_thing_1 : List UInt8 := [172, 42, 182, 0, 127, 61, 28, 16, 40, 160, 0, 34, 27, 7, 162, 0, 29, 42, 89, 180, 0, 117, 4, 96]
abbrev dktX3_thing_1 : List UInt8 := dkwX3_thing_1 ++ dktX3_thing_2
def dkwX3_thing_0 : List UInt8 := [42, 16, 45, 182, 0, 131, 153, 0, 10, 42, 27, 182, 0, 177, 116, 172, 42, 182, 0, 123, 154, 0, 5, 3]
abbrev dktX3_thing_0 : List UInt8 := dkwX3_thing_0 ++ dktX3_thing_1
theorem dksX3_thing_0 : cX3_thing.data.toList.drop 0 = dktX3_thing_0 := by decide +kernel
theorem dksX3_thing_1 : cX3_thing.data.toList.drop 24 = dktX3_thing_1 := dk_seg dksX3_thing_0 24 rfl rfl
theorem dksX3_thing_2 : cX3_thing.data.toList.drop 48 = dktX3_thing_2 := dk_seg dksX3_thing_1 24 rfl rfl
theorem dksX3_thing_3 : cX3_thing.data.toList.drop 72 = dktX3_thing_3 := dk_seg dksX3_thing_2 24 rfl rfl
theorem dksX3_thing_4 : cX3_thing.data.toList.drop 95 = dktX3_thing_4 := dk_seg dksX3_thing_3 23 rfl rfl
theorem dksX3_thing_5 : cX3_thing.data.toList.drop 119 = dktX3_thing_5 := dk_seg dksX3_thing_4 24 rfl rfl
theorem dksX3_thing_6 : cX3_thing.data.toList.drop 141 = dktX3_thing_6 := dk_seg dksX3_thing_5 22 rfl rfl
theorem dksX3_thing_7 : cX3_thing.data.toList.drop 165 = dktX3_thing_7 := dk_seg dksX3_thing_6 24 rfl rfl
theorem dX3_thing_0 : decode cX3_thing 0 = .ok (.aload_n 0, 1) := dk_42 (dk_at dksX3_thing_0 0 rfl rfl)
theorem dX3_thing_1 : decode cX3_thing 1 = .ok (.bipush 45, 2) := dk_16 45 (dk_at dksX3_thing_0 1 rfl rfl)
theorem dX3_thing_3 : decode cX3_thing 3 = .ok (.invokevirtual 131, 3) := dk_182 0 131 (dk_at dksX3_thing_0 3 rfl rfl)
theorem dX3_thing_6 : decode cX3_thing 6 = .ok (.ifCond .eq 10, 3) := dk_153 0 10 (dk_at dksX3_thing_0 6 rfl rfl)
theorem dX3_thing_9 : decode cX3_thing 9 = .ok (.aload_n 0, 1) := dk_42 (dk_at dksX3_thing_0 9 rfl rfl)
theorem dX3_thing_10 : decode cX3_thing 10 = .ok (.iload_n 1, 1) := dk_27 (dk_at dksX3_thing_0 10 rfl rfl)
theorem dX3_thing_11 : decode cX3_thing 11 = .ok (.invokevirtual 177, 3) := dk_182 0 177 (dk_at dksX3_thing_0 11 rfl rfl)
theorem dX3_thing_14 : decode cX3_thing 14 = .ok (.ineg, 1) := dk_116 (dk_at dksX3_thing_0 14 rfl rfl)
theorem dX3_thing_15 : decode cX3_thing 15 = .ok (.ireturn, 1) := dk_172 (dk_at dksX3_thing_0 15 rfl rfl)
theorem dX3_thing_16 : decode cX3_thing 16 = .ok (.aload_n 0, 1) := dk_42 (dk_at dksX3_thing_0 16 rfl rfl)
theorem dX3_thing_17 : decode cX3_thing 17 = .ok (.invokevirtual 123, 3) := dk_182 0 123 (dk_at dksX3_thing_0 17 rfl rfl)
theorem dX3_thing_20 : decode cX3_thing 20 = .ok (.ifCond .ne 5, 3) := dk_154 0 5 (dk_at dksX3_thing_0 20 rfl rfl)
theorem dX3_thing_23 : decode cX3_thing 23 = .ok (.iconst 0, 1) := dk_3 (dk_at dksX3_thing_0 23 rfl rfl)
theorem dX3_thing_24 : decode cX3_thing 24 = .ok (.ireturn, 1) := dk_172 (dk_at dksX3_thing_1 0 rfl rfl)
theorem dX3_thing_25 : decode cX3_thing 25 = .ok (.aload_n 0, 1) := dk_42 (dk_at dksX3_thing_1 1 rfl rfl)
theorem dX3_thing_26 : decode cX3_thing 26 = .ok (.invokevirtual 127, 3) := dk_182 0 127 (dk_at dksX3_thing_1 2 rfl rfl)
theorem dX3_thing_29 : decode cX3_thing 29 = .ok (.istore_n 2, 1) := dk_61 (dk_at dksX3_thing_1 5 rfl rfl)
theorem dX3_thing_30 : decode cX3_thing 30 = .ok (.iload_n 2, 1) := dk_28 (dk_at dksX3_thing_1 6 rfl rfl)
theorem dX3_thing_31 : decode cX3_thing 31 = .ok (.bipush 40, 2) := dk_16 40 (dk_at dksX3_thing_1 7 rfl rfl)
theorem dX3_thing_33 : decode cX3_thing 33 = .ok (.if_icmp .ne 34, 3) := dk_160 0 34 (dk_at dksX3_thing_1 9 rfl rfl)
theorem dX3_thing_36 : decode cX3_thing 36 = .ok (.iload_n 1, 1) := dk_27 (dk_at dksX3_thing_1 12 rfl rfl)
theorem dX3_thing_37 : decode cX3_thing 37 = .ok (.iconst 4, 1) := dk_7 (dk_at dksX3_thing_1 13 rfl rfl)
theorem dX3_thing_38 : decode cX3_thing 38 = .ok (.if_icmp .ge 29, 3) := dk_162 0 29 (dk_at dksX3_thing_1 14 rfl rfl)
theorem dX3_thing_41 : decode cX3_thing 41 = .ok (.aload_n 0, 1) := dk_42 (dk_at dksX3_thing_1 17 rfl rfl)
theorem dX3_thing_42 : decode cX3_thing 42 = .ok (.dup, 1) := dk_89 (dk_at dksX3_thing_1 18 rfl rfl)
theorem dX3_thing_43 : decode cX3_thing 43 = .ok (.getfield 117, 3) := dk_180 0 117 (dk_at dksX3_thing_1 19 rfl rfl)
theorem dX3_thing_46 : decode cX3_thing 46 = .ok (.iconst 1, 1) := dk_4 (dk_at dksX3_thing_1 22 rfl rfl)
theorem dX3_thing_47 : decode cX3_thing 47 = .ok (.iadd, 1) := dk_96 (dk_at dksX3_thing_1 23 rfl rfl)
theorem dX3_thing_48 : decode cX3_thing 48 = .ok (.putfield 117, 3) := dk_181 0 117 (dk_at dksX3_thing_2 0 rfl rfl)
theorem dX3_thing_51 : decode cX3_thing 51 = .ok (.aload_n 0, 1) := dk_42 (dk_at dksX3_thing_2 3 rfl rfl)
theorem dX3_thing_52 : decode cX3_thing 52 = .ok (.iload_n 1, 1) := dk_27 (dk_at dksX3_thing_2 4 rfl rfl)
theorem dX3_thing_53 : decode cX3_thing 53 = .ok (.iconst 1, 1) := dk_4 (dk_at dksX3_thing_2 5 rfl rfl)
theorem dX3_thing_54 : decode cX3_thing 54 = .ok (.iadd, 1) := dk_96 (dk_at dksX3_thing_2 6 rfl rfl)
theorem dX3_thing_55 : decode cX3_thing 55 = .ok (.invokevirtual 180, 3) := dk_182 0 180 (dk_at dksX3_thing_2 7 rfl rfl)
theorem dX3_thing_58 : decode cX3_thing 58 = .ok (.istore_n 3, 1) := dk_62 (dk_at dksX3_thing_2 10 rfl rfl)
theorem dX3_thing_59 : decode cX3_thing 59 = .ok (.aload_n 0, 1) := dk_42 (dk_at dksX3_thing_2 11 rfl rfl)
theorem dX3_thing_60 : decode cX3_thing 60 = .ok (.bipush 41, 2) := dk_16 41 (dk_at dksX3_thing_2 12 rfl rfl)
theorem dX3_thing_62 : decode cX3_thing 62 = .ok (.invokevirtual 147, 3) := dk_182 0 147 (dk_at dksX3_thing_2 14 rfl rfl)
theorem dX3_thing_65 : decode cX3_thing 65 = .ok (.iload_n 3, 1) := dk_29 (dk_at dksX3_thing_2 17 rfl rfl)
theorem dX3_thing_66 : decode cX3_thing 66 = .ok (.ireturn, 1) := dk_172 (dk_at dksX3_thing_2 18 rfl rfl)
theorem dX3_thing_67 : decode cX3_thing 67 = .ok (.iload_n 2, 1) := dk_28 (dk_at dksX3_thing_2 19 rfl rfl)
theorem dX3_thing_68 : decode cX3_thing 68 = .ok (.bipush 48, 2) := dk_16 48 (dk_at dksX3_thing_2 20 rfl rfl)
theorem dX3_thing_70 : decode cX3_thing 70 = .ok (.bipush 57, 2) := dk_16 57 (dk_at dksX3_thing_2 22 rfl rfl)
theorem dX3_thing_72 : decode cX3_thing 72 = .ok (.invokestatic 97, 3) := dk_184 0 97 (dk_at dksX3_thing_3 0 rfl rfl)
theorem dX3_thing_75 : decode cX3_thing 75 = .ok (.ifCond .eq 13, 3) := dk_153 0 13 (dk_at dksX3_thing_3 3 rfl rfl)
theorem dX3_thing_78 : decode cX3_thing 78 = .ok (.aload_n 0, 1) := dk_42 (dk_at dksX3_thing_3 6 rfl rfl)
theorem dX3_thing_79 : decode cX3_thing 79 = .ok (.iconst 3, 1) := dk_6 (dk_at dksX3_thing_3 7 rfl rfl)
theorem dX3_thing_80 : decode cX3_thing 80 = .ok (.iconst 0, 1) := dk_3 (dk_at dksX3_thing_3 8 rfl rfl)
theorem dX3_thing_81 : decode cX3_thing 81 = .ok (.sipush 999, 3) := dk_17 3 231 (dk_at dksX3_thing_3 9 rfl rfl)
theorem dX3_thing_84 : decode cX3_thing 84 = .ok (.invokevirtual 143, 3) := dk_182 0 143 (dk_at dksX3_thing_3 12 rfl rfl)
theorem dX3_thing_87 : decode cX3_thing 87 = .ok (.ireturn, 1) := dk_172 (dk_at dksX3_thing_3 15 rfl rfl)
theorem dX3_thing_88 : decode cX3_thing 88 = .ok (.iload_n 2, 1) := dk_28 (dk_at dksX3_thing_3 16 rfl rfl)
theorem dX3_thing_89 : decode cX3_thing 89 = .ok (.bipush 100, 2) := dk_16 100 (dk_at dksX3_thing_3 17 rfl rfl)
theorem dX3_thing_91 : decode cX3_thing 91 = .ok (.if_icmp .eq 55, 3) := dk_159 0 55 (dk_at dksX3_thing_3 19 rfl rfl)
theorem dX3_thing_94 : decode cX3_thing 94 = .ok (.iload_n 2, 1) := dk_28 (dk_at dksX3_thing_3 22 rfl rfl)
theorem dX3_thing_95 : decode cX3_thing 95 = .ok (.bipush 112, 2) := dk_16 112 (dk_at dksX3_thing_4 0 rfl rfl)
theorem dX3_thing_97 : decode cX3_thing 97 = .ok (.if_icmp .eq 49, 3) := dk_159 0 49 (dk_at dksX3_thing_4 2 rfl rfl)
theorem dX3_thing_100 : decode cX3_thing 100 = .ok (.iload_n 2, 1) := dk_28 (dk_at dksX3_thing_4 5 rfl rfl)
theorem dX3_thing_101 : decode cX3_thing 101 = .ok (.bipush 116, 2) := dk_16 116 (dk_at dksX3_thing_4 6 rfl rfl)
theorem dX3_thing_103 : decode cX3_thing 103 = .ok (.if_icmp .eq 43, 3) := dk_159 0 43 (dk_at dksX3_thing_4 8 rfl rfl)
theorem dX3_thing_106 : decode cX3_thing 106 = .ok (.iload_n 2, 1) := dk_28 (dk_at dksX3_thing_4 11 rfl rfl)
theorem dX3_thing_107 : decode cX3_thing 107 = .ok (.bipush 111, 2) := dk_16 111 (dk_at dksX3_thing_4 12 rfl rfl)
theorem dX3_thing_109 : decode cX3_thing 109 = .ok (.if_icmp .eq 37, 3) := dk_159 0 37 (dk_at dksX3_thing_4 14 rfl rfl)
theorem dX3_thing_112 : decode cX3_thing 112 = .ok (.iload_n 2, 1) := dk_28 (dk_at dksX3_thing_4 17 rfl rfl)
theorem dX3_thing_113 : decode cX3_thing 113 = .ok (.bipush 110, 2) := dk_16 110 (dk_at dksX3_thing_4 18 rfl rfl)
theorem dX3_thing_115 : decode cX3_thing 115 = .ok (.if_icmp .eq 31, 3) := dk_159 0 31 (dk_at dksX3_thing_4 20 rfl rfl)
theorem dX3_thing_118 : decode cX3_thing 118 = .ok (.iload_n 2, 1) := dk_28 (dk_at dksX3_thing_4 23 rfl rfl)
theorem dX3_thing_119 : decode cX3_thing 119 = .ok (.bipush 120, 2) := dk_16 120 (dk_at dksX3_thing_5 0 rfl rfl)
theorem dX3_thing_121 : decode cX3_thing 121 = .ok (.if_icmp .eq 25, 3) := dk_159 0 25 (dk_at dksX3_thing_5 2 rfl rfl)
theorem dX3_thing_124 : decode cX3_thing 124 = .ok (.iload_n 2, 1) := dk_28 (dk_at dksX3_thing_5 5 rfl rfl)
theorem dX3_thing_125 : decode cX3_thing 125 = .ok (.bipush 104, 2) := dk_16 104 (dk_at dksX3_thing_5 6 rfl rfl)
theorem dX3_thing_127 : decode cX3_thing 127 = .ok (.if_icmp .eq 19, 3) := dk_159 0 19 (dk_at dksX3_thing_5 8 rfl rfl)
theorem dX3_thing_130 : decode cX3_thing 130 = .ok (.iload_n 2, 1) := dk_28 (dk_at dksX3_thing_5 11 rfl rfl)
theorem dX3_thing_131 : decode cX3_thing 131 = .ok (.bipush 98, 2) := dk_16 98 (dk_at dksX3_thing_5 12 rfl rfl)
theorem dX3_thing_133 : decode cX3_thing 133 = .ok (.if_icmp .eq 13, 3) := dk_159 0 13 (dk_at dksX3_thing_5 14 rfl rfl)
theorem dX3_thing_136 : decode cX3_thing 136 = .ok (.aload_n 0, 1) := dk_42 (dk_at dksX3_thing_5 17 rfl rfl)
theorem dX3_thing_137 : decode cX3_thing 137 = .ok (.aload_n 0, 1) := dk_42 (dk_at dksX3_thing_5 18 rfl rfl)
theorem dX3_thing_138 : decode cX3_thing 138 = .ok (.getfield 117, 3) := dk_180 0 117 (dk_at dksX3_thing_5 19 rfl rfl)
theorem dX3_thing_141 : decode cX3_thing 141 = .ok (.invokevirtual 135, 3) := dk_182 0 135 (dk_at dksX3_thing_6 0 rfl rfl)
theorem dX3_thing_144 : decode cX3_thing 144 = .ok (.iconst 0, 1) := dk_3 (dk_at dksX3_thing_6 3 rfl rfl)
theorem dX3_thing_145 : decode cX3_thing 145 = .ok (.ireturn, 1) := dk_172 (dk_at dksX3_thing_6 4 rfl rfl)
theorem dX3_thing_146 : decode cX3_thing 146 = .ok (.aload_n 0, 1) := dk_42 (dk_at dksX3_thing_6 5 rfl rfl)
theorem dX3_thing_147 : decode cX3_thing 147 = .ok (.dup, 1) := dk_89 (dk_at dksX3_thing_6 6 rfl rfl)
theorem dX3_thing_148 : decode cX3_thing 148 = .ok (.getfield 117, 3) := dk_180 0 117 (dk_at dksX3_thing_6 7 rfl rfl)
theorem dX3_thing_151 : decode cX3_thing 151 = .ok (.iconst 1, 1) := dk_4 (dk_at dksX3_thing_6 10 rfl rfl)
theorem dX3_thing_152 : decode cX3_thing 152 = .ok (.iadd, 1) := dk_96 (dk_at dksX3_thing_6 11 rfl rfl)
theorem dX3_thing_153 : decode cX3_thing 153 = .ok (.putfield 117, 3) := dk_181 0 117 (dk_at dksX3_thing_6 12 rfl rfl)
theorem dX3_thing_156 : decode cX3_thing 156 = .ok (.aload_n 0, 1) := dk_42 (dk_at dksX3_thing_6 15 rfl rfl)
theorem dX3_thing_157 : decode cX3_thing 157 = .ok (.getfield 183, 3) := dk_180 0 183 (dk_at dksX3_thing_6 16 rfl rfl)
theorem dX3_thing_160 : decode cX3_thing 160 = .ok (.ifCond .eq 11, 3) := dk_153 0 11 (dk_at dksX3_thing_6 19 rfl rfl)
theorem dX3_thing_163 : decode cX3_thing 163 = .ok (.aload_n 0, 1) := dk_42 (dk_at dksX3_thing_6 22 rfl rfl)
theorem dX3_thing_164 : decode cX3_thing 164 = .ok (.iload_n 2, 1) := dk_28 (dk_at dksX3_thing_6 23 rfl rfl)
theorem dX3_thing_165 : decode cX3_thing 165 = .ok (.invokevirtual 187, 3) := dk_182 0 187 (dk_at dksX3_thing_7 0 rfl rfl)
theorem dX3_thing_168 : decode cX3_thing 168 = .ok (.goto 4, 3) := dk_167 0 4 (dk_at dksX3_thing_7 3 rfl rfl)
theorem dX3_thing_171 : decode cX3_thing 171 = .ok (.iconst 0, 1) := dk_3 (dk_at dksX3_thing_7 6 rfl rfl)
theorem dX3_thing_172 : decode cX3_thing 172 = .ok (.ireturn, 1) := dk_172 (dk_at dksX3_thing_7 7 rfl rfl)
abbrev cX3_letter : ByteArray := prog_9_method_29_code
def yX3_letter : MethodName := ⟨RX3, "letter", "(I)I"⟩
def dkwX3_letter_4 : List UInt8 := [172]
abbrev dktX3_letter_4 : List UInt8 := dkwX3_letter_4 ++ []
def dkwX3_letter_3 : List UInt8 := [180, 0, 202, 46, 172, 42, 180, 0, 196, 172, 42, 180, 0, 205, 172, 42, 180, 0, 202, 172, 42, 180, 0, 208]
abbrev dktX3_letter_3 : List UInt8 := dkwX3_letter_3 ++ dktX3_letter_4
def dkwX3_letter_2 : List UInt8 := [42, 180, 0, 190, 172, 42, 180, 0, 193, 172, 42, 42, 180, 0, 196, 182, 0, 199, 172, 42, 180, 0, 13, 42]
abbrev dktX3_letter_2 : List UInt8 := dkwX3_letter_2 ++ dktX3_letter_3
def dkwX3_letter_1 : List UInt8 := [170, 0, 0, 0, 0, 0, 143, 0, 0, 0, 100, 0, 0, 0, 120, 0, 0, 0, 99, 0, 0, 0, 143, 0, 0, 0, 143, 0, 0, 0, 143, 0, 0, 0, 138, 0, 0, 0, 143, 0, 0, 0, 143, 0, 0, 0, 143, 0, 0, 0, 143, 0, 0, 0, 143, 0, 0, 0, 128, 0, 0, 0, 118, 0, 0, 0, 104, 0, 0, 0, 143, 0, 0, 0, 143, 0, 0, 0, 143, 0, 0, 0, 109, 0, 0, 0, 143, 0, 0, 0, 143, 0, 0, 0, 143, 0, 0, 0, 133]
abbrev dktX3_letter_1 : List UInt8 := dkwX3_letter_1 ++ dktX3_letter_2
def dkwX3_letter_0 : List UInt8 := [27]
abbrev dktX3_letter_0 : List UInt8 := dkwX3_letter_0 ++ dktX3_letter_1
theorem dksX3_letter_0 : cX3_letter.data.toList.drop 0 = dktX3_letter_0 := by decide +kernel
theorem dksX3_letter_1 : cX3_letter.data.toList.drop 1 = dktX3_letter_1 := dk_seg dksX3_letter_0 1 rfl rfl
theorem dksX3_letter_2 : cX3_letter.data.toList.drop 100 = dktX3_letter_2 := dk_seg dksX3_letter_1 99 rfl rfl
theorem dksX3_letter_3 : cX3_letter.data.toList.drop 124 = dktX3_letter_3 := dk_seg dksX3_letter_2 24 rfl rfl
theorem dksX3_letter_4 : cX3_letter.data.toList.drop 148 = dktX3_letter_4 := dk_seg dksX3_letter_3 24 rfl rfl
theorem dX3_letter_0 : decode cX3_letter 0 = .ok (.iload_n 1, 1) := dk_27 (dk_at dksX3_letter_0 0 rfl rfl)
theorem dX3_letter_1 : decode cX3_letter 1 = .ok (.tableswitch 143 100 120 #[99, 143, 143, 143, 138, 143, 143, 143, 143, 143, 128, 118, 104, 143, 143, 143, 109, 143, 143, 143, 133], 99) := by decide +kernel
theorem dX3_letter_100 : decode cX3_letter 100 = .ok (.aload_n 0, 1) := dk_42 (dk_at dksX3_letter_2 0 rfl rfl)
theorem dX3_letter_101 : decode cX3_letter 101 = .ok (.getfield 190, 3) := dk_180 0 190 (dk_at dksX3_letter_2 1 rfl rfl)
theorem dX3_letter_104 : decode cX3_letter 104 = .ok (.ireturn, 1) := dk_172 (dk_at dksX3_letter_2 4 rfl rfl)
theorem dX3_letter_105 : decode cX3_letter 105 = .ok (.aload_n 0, 1) := dk_42 (dk_at dksX3_letter_2 5 rfl rfl)
theorem dX3_letter_106 : decode cX3_letter 106 = .ok (.getfield 193, 3) := dk_180 0 193 (dk_at dksX3_letter_2 6 rfl rfl)
theorem dX3_letter_109 : decode cX3_letter 109 = .ok (.ireturn, 1) := dk_172 (dk_at dksX3_letter_2 9 rfl rfl)
theorem dX3_letter_110 : decode cX3_letter 110 = .ok (.aload_n 0, 1) := dk_42 (dk_at dksX3_letter_2 10 rfl rfl)
theorem dX3_letter_111 : decode cX3_letter 111 = .ok (.aload_n 0, 1) := dk_42 (dk_at dksX3_letter_2 11 rfl rfl)
theorem dX3_letter_112 : decode cX3_letter 112 = .ok (.getfield 196, 3) := dk_180 0 196 (dk_at dksX3_letter_2 12 rfl rfl)
theorem dX3_letter_115 : decode cX3_letter 115 = .ok (.invokevirtual 199, 3) := dk_182 0 199 (dk_at dksX3_letter_2 15 rfl rfl)
theorem dX3_letter_118 : decode cX3_letter 118 = .ok (.ireturn, 1) := dk_172 (dk_at dksX3_letter_2 18 rfl rfl)
theorem dX3_letter_119 : decode cX3_letter 119 = .ok (.aload_n 0, 1) := dk_42 (dk_at dksX3_letter_2 19 rfl rfl)
theorem dX3_letter_120 : decode cX3_letter 120 = .ok (.getfield 13, 3) := dk_180 0 13 (dk_at dksX3_letter_2 20 rfl rfl)
theorem dX3_letter_123 : decode cX3_letter 123 = .ok (.aload_n 0, 1) := dk_42 (dk_at dksX3_letter_2 23 rfl rfl)
theorem dX3_letter_124 : decode cX3_letter 124 = .ok (.getfield 202, 3) := dk_180 0 202 (dk_at dksX3_letter_3 0 rfl rfl)
theorem dX3_letter_127 : decode cX3_letter 127 = .ok (.iaload, 1) := dk_46 (dk_at dksX3_letter_3 3 rfl rfl)
theorem dX3_letter_128 : decode cX3_letter 128 = .ok (.ireturn, 1) := dk_172 (dk_at dksX3_letter_3 4 rfl rfl)
theorem dX3_letter_129 : decode cX3_letter 129 = .ok (.aload_n 0, 1) := dk_42 (dk_at dksX3_letter_3 5 rfl rfl)
theorem dX3_letter_130 : decode cX3_letter 130 = .ok (.getfield 196, 3) := dk_180 0 196 (dk_at dksX3_letter_3 6 rfl rfl)
theorem dX3_letter_133 : decode cX3_letter 133 = .ok (.ireturn, 1) := dk_172 (dk_at dksX3_letter_3 9 rfl rfl)
theorem dX3_letter_134 : decode cX3_letter 134 = .ok (.aload_n 0, 1) := dk_42 (dk_at dksX3_letter_3 10 rfl rfl)
theorem dX3_letter_135 : decode cX3_letter 135 = .ok (.getfield 205, 3) := dk_180 0 205 (dk_at dksX3_letter_3 11 rfl rfl)
theorem dX3_letter_138 : decode cX3_letter 138 = .ok (.ireturn, 1) := dk_172 (dk_at dksX3_letter_3 14 rfl rfl)
theorem dX3_letter_139 : decode cX3_letter 139 = .ok (.aload_n 0, 1) := dk_42 (dk_at dksX3_letter_3 15 rfl rfl)
theorem dX3_letter_140 : decode cX3_letter 140 = .ok (.getfield 202, 3) := dk_180 0 202 (dk_at dksX3_letter_3 16 rfl rfl)
theorem dX3_letter_143 : decode cX3_letter 143 = .ok (.ireturn, 1) := dk_172 (dk_at dksX3_letter_3 19 rfl rfl)
theorem dX3_letter_144 : decode cX3_letter 144 = .ok (.aload_n 0, 1) := dk_42 (dk_at dksX3_letter_3 20 rfl rfl)
theorem dX3_letter_145 : decode cX3_letter 145 = .ok (.getfield 208, 3) := dk_180 0 208 (dk_at dksX3_letter_3 21 rfl rfl)
theorem dX3_letter_148 : decode cX3_letter 148 = .ok (.ireturn, 1) := dk_172 (dk_at dksX3_letter_4 0 rfl rfl)
abbrev cX3_thawOf : ByteArray := prog_9_method_23_code
def yX3_thawOf : MethodName := ⟨RX3, "thawOf", "(I)I"⟩
def dkwX3_thawOf_0 : List UInt8 := [3, 42, 27, 182, 0, 161, 116, 184, 0, 165, 172]
abbrev dktX3_thawOf_0 : List UInt8 := dkwX3_thawOf_0 ++ []
theorem dksX3_thawOf_0 : cX3_thawOf.data.toList.drop 0 = dktX3_thawOf_0 := by decide +kernel
theorem dX3_thawOf_0 : decode cX3_thawOf 0 = .ok (.iconst 0, 1) := dk_3 (dk_at dksX3_thawOf_0 0 rfl rfl)
theorem dX3_thawOf_1 : decode cX3_thawOf 1 = .ok (.aload_n 0, 1) := dk_42 (dk_at dksX3_thawOf_0 1 rfl rfl)
theorem dX3_thawOf_2 : decode cX3_thawOf 2 = .ok (.iload_n 1, 1) := dk_27 (dk_at dksX3_thawOf_0 2 rfl rfl)
theorem dX3_thawOf_3 : decode cX3_thawOf 3 = .ok (.invokevirtual 161, 3) := dk_182 0 161 (dk_at dksX3_thawOf_0 3 rfl rfl)
theorem dX3_thawOf_6 : decode cX3_thawOf 6 = .ok (.ineg, 1) := dk_116 (dk_at dksX3_thawOf_0 6 rfl rfl)
theorem dX3_thawOf_7 : decode cX3_thawOf 7 = .ok (.invokestatic 165, 3) := dk_184 0 165 (dk_at dksX3_thawOf_0 7 rfl rfl)
theorem dX3_thawOf_10 : decode cX3_thawOf 10 = .ok (.ireturn, 1) := dk_172 (dk_at dksX3_thawOf_0 10 rfl rfl)
abbrev cX3_of : ByteArray := prog_9_method_32_code
def yX3_of : MethodName := ⟨RX3, "of", "(II)I"⟩
def dkwX3_of_6 : List UInt8 := [184, 0, 217, 172, 42, 27, 182, 0, 221, 172]
abbrev dktX3_of_6 : List UInt8 := dkwX3_of_6 ++ []
def dkwX3_of_5 : List UInt8 := [180, 0, 16, 5, 27, 104, 4, 96, 46, 172, 42, 180, 0, 19, 27, 46, 172, 42, 180, 0, 9, 27]
abbrev dktX3_of_5 : List UInt8 := dkwX3_of_5 ++ dktX3_of_6
def dkwX3_of_4 : List UInt8 := [96, 46, 172, 42, 180, 0, 9, 16, 14, 27, 96, 46, 172, 42, 180, 0, 16, 5, 27, 104, 46, 172, 42]
abbrev dktX3_of_4 : List UInt8 := dkwX3_of_4 ++ dktX3_of_5
def dkwX3_of_3 : List UInt8 := [42, 180, 0, 13, 27, 46, 172, 42, 180, 0, 9, 5, 27, 104, 46, 172, 42, 180, 0, 9, 5, 27, 104, 4]
abbrev dktX3_of_3 : List UInt8 := dkwX3_of_3 ++ dktX3_of_4
def dkwX3_of_2 : List UInt8 := [170, 0, 0, 0, 0, 0, 120, 0, 0, 0, 0, 0, 0, 0, 7, 0, 0, 0, 47, 0, 0, 0, 54, 0, 0, 0, 63, 0, 0, 0, 74, 0, 0, 0, 84, 0, 0, 0, 93, 0, 0, 0, 104, 0, 0, 0, 111]
abbrev dktX3_of_2 : List UInt8 := dkwX3_of_2 ++ dktX3_of_3
def dkwX3_of_1 : List UInt8 := [182, 0, 214, 172, 28]
abbrev dktX3_of_1 : List UInt8 := dkwX3_of_1 ++ dktX3_of_2
def dkwX3_of_0 : List UInt8 := [42, 3, 181, 0, 87, 42, 27, 182, 0, 101, 153, 0, 13, 28, 3, 16, 8, 184, 0, 97, 154, 0, 8, 42]
abbrev dktX3_of_0 : List UInt8 := dkwX3_of_0 ++ dktX3_of_1
theorem dksX3_of_0 : cX3_of.data.toList.drop 0 = dktX3_of_0 := by decide +kernel
theorem dksX3_of_1 : cX3_of.data.toList.drop 24 = dktX3_of_1 := dk_seg dksX3_of_0 24 rfl rfl
theorem dksX3_of_2 : cX3_of.data.toList.drop 29 = dktX3_of_2 := dk_seg dksX3_of_1 5 rfl rfl
theorem dksX3_of_3 : cX3_of.data.toList.drop 76 = dktX3_of_3 := dk_seg dksX3_of_2 47 rfl rfl
theorem dksX3_of_4 : cX3_of.data.toList.drop 100 = dktX3_of_4 := dk_seg dksX3_of_3 24 rfl rfl
theorem dksX3_of_5 : cX3_of.data.toList.drop 123 = dktX3_of_5 := dk_seg dksX3_of_4 23 rfl rfl
theorem dksX3_of_6 : cX3_of.data.toList.drop 145 = dktX3_of_6 := dk_seg dksX3_of_5 22 rfl rfl
theorem dX3_of_0 : decode cX3_of 0 = .ok (.aload_n 0, 1) := dk_42 (dk_at dksX3_of_0 0 rfl rfl)
theorem dX3_of_1 : decode cX3_of 1 = .ok (.iconst 0, 1) := dk_3 (dk_at dksX3_of_0 1 rfl rfl)
theorem dX3_of_2 : decode cX3_of 2 = .ok (.putfield 87, 3) := dk_181 0 87 (dk_at dksX3_of_0 2 rfl rfl)
theorem dX3_of_5 : decode cX3_of 5 = .ok (.aload_n 0, 1) := dk_42 (dk_at dksX3_of_0 5 rfl rfl)
theorem dX3_of_6 : decode cX3_of 6 = .ok (.iload_n 1, 1) := dk_27 (dk_at dksX3_of_0 6 rfl rfl)
theorem dX3_of_7 : decode cX3_of 7 = .ok (.invokevirtual 101, 3) := dk_182 0 101 (dk_at dksX3_of_0 7 rfl rfl)
theorem dX3_of_10 : decode cX3_of 10 = .ok (.ifCond .eq 13, 3) := dk_153 0 13 (dk_at dksX3_of_0 10 rfl rfl)
theorem dX3_of_13 : decode cX3_of 13 = .ok (.iload_n 2, 1) := dk_28 (dk_at dksX3_of_0 13 rfl rfl)
theorem dX3_of_14 : decode cX3_of 14 = .ok (.iconst 0, 1) := dk_3 (dk_at dksX3_of_0 14 rfl rfl)
theorem dX3_of_15 : decode cX3_of 15 = .ok (.bipush 8, 2) := dk_16 8 (dk_at dksX3_of_0 15 rfl rfl)
theorem dX3_of_17 : decode cX3_of 17 = .ok (.invokestatic 97, 3) := dk_184 0 97 (dk_at dksX3_of_0 17 rfl rfl)
theorem dX3_of_20 : decode cX3_of 20 = .ok (.ifCond .ne 8, 3) := dk_154 0 8 (dk_at dksX3_of_0 20 rfl rfl)
theorem dX3_of_23 : decode cX3_of 23 = .ok (.aload_n 0, 1) := dk_42 (dk_at dksX3_of_0 23 rfl rfl)
theorem dX3_of_24 : decode cX3_of 24 = .ok (.invokevirtual 214, 3) := dk_182 0 214 (dk_at dksX3_of_1 0 rfl rfl)
theorem dX3_of_27 : decode cX3_of 27 = .ok (.ireturn, 1) := dk_172 (dk_at dksX3_of_1 3 rfl rfl)
theorem dX3_of_28 : decode cX3_of 28 = .ok (.iload_n 2, 1) := dk_28 (dk_at dksX3_of_1 4 rfl rfl)
theorem dX3_of_29 : decode cX3_of 29 = .ok (.tableswitch 120 0 7 #[47, 54, 63, 74, 84, 93, 104, 111], 47) := by decide +kernel
theorem dX3_of_76 : decode cX3_of 76 = .ok (.aload_n 0, 1) := dk_42 (dk_at dksX3_of_3 0 rfl rfl)
theorem dX3_of_77 : decode cX3_of 77 = .ok (.getfield 13, 3) := dk_180 0 13 (dk_at dksX3_of_3 1 rfl rfl)
theorem dX3_of_80 : decode cX3_of 80 = .ok (.iload_n 1, 1) := dk_27 (dk_at dksX3_of_3 4 rfl rfl)
theorem dX3_of_81 : decode cX3_of 81 = .ok (.iaload, 1) := dk_46 (dk_at dksX3_of_3 5 rfl rfl)
theorem dX3_of_82 : decode cX3_of 82 = .ok (.ireturn, 1) := dk_172 (dk_at dksX3_of_3 6 rfl rfl)
theorem dX3_of_83 : decode cX3_of 83 = .ok (.aload_n 0, 1) := dk_42 (dk_at dksX3_of_3 7 rfl rfl)
theorem dX3_of_84 : decode cX3_of 84 = .ok (.getfield 9, 3) := dk_180 0 9 (dk_at dksX3_of_3 8 rfl rfl)
theorem dX3_of_87 : decode cX3_of 87 = .ok (.iconst 2, 1) := dk_5 (dk_at dksX3_of_3 11 rfl rfl)
theorem dX3_of_88 : decode cX3_of 88 = .ok (.iload_n 1, 1) := dk_27 (dk_at dksX3_of_3 12 rfl rfl)
theorem dX3_of_89 : decode cX3_of 89 = .ok (.imul, 1) := dk_104 (dk_at dksX3_of_3 13 rfl rfl)
theorem dX3_of_90 : decode cX3_of 90 = .ok (.iaload, 1) := dk_46 (dk_at dksX3_of_3 14 rfl rfl)
theorem dX3_of_91 : decode cX3_of 91 = .ok (.ireturn, 1) := dk_172 (dk_at dksX3_of_3 15 rfl rfl)
theorem dX3_of_92 : decode cX3_of 92 = .ok (.aload_n 0, 1) := dk_42 (dk_at dksX3_of_3 16 rfl rfl)
theorem dX3_of_93 : decode cX3_of 93 = .ok (.getfield 9, 3) := dk_180 0 9 (dk_at dksX3_of_3 17 rfl rfl)
theorem dX3_of_96 : decode cX3_of 96 = .ok (.iconst 2, 1) := dk_5 (dk_at dksX3_of_3 20 rfl rfl)
theorem dX3_of_97 : decode cX3_of 97 = .ok (.iload_n 1, 1) := dk_27 (dk_at dksX3_of_3 21 rfl rfl)
theorem dX3_of_98 : decode cX3_of 98 = .ok (.imul, 1) := dk_104 (dk_at dksX3_of_3 22 rfl rfl)
theorem dX3_of_99 : decode cX3_of 99 = .ok (.iconst 1, 1) := dk_4 (dk_at dksX3_of_3 23 rfl rfl)
theorem dX3_of_100 : decode cX3_of 100 = .ok (.iadd, 1) := dk_96 (dk_at dksX3_of_4 0 rfl rfl)
theorem dX3_of_101 : decode cX3_of 101 = .ok (.iaload, 1) := dk_46 (dk_at dksX3_of_4 1 rfl rfl)
theorem dX3_of_102 : decode cX3_of 102 = .ok (.ireturn, 1) := dk_172 (dk_at dksX3_of_4 2 rfl rfl)
theorem dX3_of_103 : decode cX3_of 103 = .ok (.aload_n 0, 1) := dk_42 (dk_at dksX3_of_4 3 rfl rfl)
theorem dX3_of_104 : decode cX3_of 104 = .ok (.getfield 9, 3) := dk_180 0 9 (dk_at dksX3_of_4 4 rfl rfl)
theorem dX3_of_107 : decode cX3_of 107 = .ok (.bipush 14, 2) := dk_16 14 (dk_at dksX3_of_4 7 rfl rfl)
theorem dX3_of_109 : decode cX3_of 109 = .ok (.iload_n 1, 1) := dk_27 (dk_at dksX3_of_4 9 rfl rfl)
theorem dX3_of_110 : decode cX3_of 110 = .ok (.iadd, 1) := dk_96 (dk_at dksX3_of_4 10 rfl rfl)
theorem dX3_of_111 : decode cX3_of 111 = .ok (.iaload, 1) := dk_46 (dk_at dksX3_of_4 11 rfl rfl)
theorem dX3_of_112 : decode cX3_of 112 = .ok (.ireturn, 1) := dk_172 (dk_at dksX3_of_4 12 rfl rfl)
theorem dX3_of_113 : decode cX3_of 113 = .ok (.aload_n 0, 1) := dk_42 (dk_at dksX3_of_4 13 rfl rfl)
theorem dX3_of_114 : decode cX3_of 114 = .ok (.getfield 16, 3) := dk_180 0 16 (dk_at dksX3_of_4 14 rfl rfl)
theorem dX3_of_117 : decode cX3_of 117 = .ok (.iconst 2, 1) := dk_5 (dk_at dksX3_of_4 17 rfl rfl)
theorem dX3_of_118 : decode cX3_of 118 = .ok (.iload_n 1, 1) := dk_27 (dk_at dksX3_of_4 18 rfl rfl)
theorem dX3_of_119 : decode cX3_of 119 = .ok (.imul, 1) := dk_104 (dk_at dksX3_of_4 19 rfl rfl)
theorem dX3_of_120 : decode cX3_of 120 = .ok (.iaload, 1) := dk_46 (dk_at dksX3_of_4 20 rfl rfl)
theorem dX3_of_121 : decode cX3_of 121 = .ok (.ireturn, 1) := dk_172 (dk_at dksX3_of_4 21 rfl rfl)
theorem dX3_of_122 : decode cX3_of 122 = .ok (.aload_n 0, 1) := dk_42 (dk_at dksX3_of_4 22 rfl rfl)
theorem dX3_of_123 : decode cX3_of 123 = .ok (.getfield 16, 3) := dk_180 0 16 (dk_at dksX3_of_5 0 rfl rfl)
theorem dX3_of_126 : decode cX3_of 126 = .ok (.iconst 2, 1) := dk_5 (dk_at dksX3_of_5 3 rfl rfl)
theorem dX3_of_127 : decode cX3_of 127 = .ok (.iload_n 1, 1) := dk_27 (dk_at dksX3_of_5 4 rfl rfl)
theorem dX3_of_128 : decode cX3_of 128 = .ok (.imul, 1) := dk_104 (dk_at dksX3_of_5 5 rfl rfl)
theorem dX3_of_129 : decode cX3_of 129 = .ok (.iconst 1, 1) := dk_4 (dk_at dksX3_of_5 6 rfl rfl)
theorem dX3_of_130 : decode cX3_of 130 = .ok (.iadd, 1) := dk_96 (dk_at dksX3_of_5 7 rfl rfl)
theorem dX3_of_131 : decode cX3_of 131 = .ok (.iaload, 1) := dk_46 (dk_at dksX3_of_5 8 rfl rfl)
theorem dX3_of_132 : decode cX3_of 132 = .ok (.ireturn, 1) := dk_172 (dk_at dksX3_of_5 9 rfl rfl)
theorem dX3_of_133 : decode cX3_of 133 = .ok (.aload_n 0, 1) := dk_42 (dk_at dksX3_of_5 10 rfl rfl)
theorem dX3_of_134 : decode cX3_of 134 = .ok (.getfield 19, 3) := dk_180 0 19 (dk_at dksX3_of_5 11 rfl rfl)
theorem dX3_of_137 : decode cX3_of 137 = .ok (.iload_n 1, 1) := dk_27 (dk_at dksX3_of_5 14 rfl rfl)
theorem dX3_of_138 : decode cX3_of 138 = .ok (.iaload, 1) := dk_46 (dk_at dksX3_of_5 15 rfl rfl)
theorem dX3_of_139 : decode cX3_of 139 = .ok (.ireturn, 1) := dk_172 (dk_at dksX3_of_5 16 rfl rfl)
theorem dX3_of_140 : decode cX3_of 140 = .ok (.aload_n 0, 1) := dk_42 (dk_at dksX3_of_5 17 rfl rfl)
theorem dX3_of_141 : decode cX3_of 141 = .ok (.getfield 9, 3) := dk_180 0 9 (dk_at dksX3_of_5 18 rfl rfl)
theorem dX3_of_144 : decode cX3_of 144 = .ok (.iload_n 1, 1) := dk_27 (dk_at dksX3_of_5 21 rfl rfl)
theorem dX3_of_145 : decode cX3_of 145 = .ok (.invokestatic 217, 3) := dk_184 0 217 (dk_at dksX3_of_6 0 rfl rfl)
theorem dX3_of_148 : decode cX3_of 148 = .ok (.ireturn, 1) := dk_172 (dk_at dksX3_of_6 3 rfl rfl)
theorem dX3_of_149 : decode cX3_of 149 = .ok (.aload_n 0, 1) := dk_42 (dk_at dksX3_of_6 4 rfl rfl)
theorem dX3_of_150 : decode cX3_of 150 = .ok (.iload_n 1, 1) := dk_27 (dk_at dksX3_of_6 5 rfl rfl)
theorem dX3_of_151 : decode cX3_of 151 = .ok (.invokevirtual 221, 3) := dk_182 0 221 (dk_at dksX3_of_6 6 rfl rfl)
theorem dX3_of_154 : decode cX3_of 154 = .ok (.ireturn, 1) := dk_172 (dk_at dksX3_of_6 9 rfl rfl)
abbrev cX3_isHouse : ByteArray := prog_9_method_7_code
def yX3_isHouse : MethodName := ⟨RX3, "isHouse", "(I)Z"⟩
def dkwX3_isHouse_0 : List UInt8 := [27, 3, 42, 180, 0, 94, 4, 100, 184, 0, 97, 172]
abbrev dktX3_isHouse_0 : List UInt8 := dkwX3_isHouse_0 ++ []
theorem dksX3_isHouse_0 : cX3_isHouse.data.toList.drop 0 = dktX3_isHouse_0 := by decide +kernel
theorem dX3_isHouse_0 : decode cX3_isHouse 0 = .ok (.iload_n 1, 1) := dk_27 (dk_at dksX3_isHouse_0 0 rfl rfl)
theorem dX3_isHouse_1 : decode cX3_isHouse 1 = .ok (.iconst 0, 1) := dk_3 (dk_at dksX3_isHouse_0 1 rfl rfl)
theorem dX3_isHouse_2 : decode cX3_isHouse 2 = .ok (.aload_n 0, 1) := dk_42 (dk_at dksX3_isHouse_0 2 rfl rfl)
theorem dX3_isHouse_3 : decode cX3_isHouse 3 = .ok (.getfield 94, 3) := dk_180 0 94 (dk_at dksX3_isHouse_0 3 rfl rfl)
theorem dX3_isHouse_6 : decode cX3_isHouse 6 = .ok (.iconst 1, 1) := dk_4 (dk_at dksX3_isHouse_0 6 rfl rfl)
theorem dX3_isHouse_7 : decode cX3_isHouse 7 = .ok (.isub, 1) := dk_100 (dk_at dksX3_isHouse_0 7 rfl rfl)
theorem dX3_isHouse_8 : decode cX3_isHouse 8 = .ok (.invokestatic 97, 3) := dk_184 0 97 (dk_at dksX3_isHouse_0 8 rfl rfl)
theorem dX3_isHouse_11 : decode cX3_isHouse 11 = .ok (.ireturn, 1) := dk_172 (dk_at dksX3_isHouse_0 11 rfl rfl)
abbrev cX3_lost : ByteArray := prog_9_method_5_code
def yX3_lost : MethodName := ⟨RX3, "lost", "()I"⟩
def dkwX3_lost_0 : List UInt8 := [42, 4, 181, 0, 87, 3, 172]
abbrev dktX3_lost_0 : List UInt8 := dkwX3_lost_0 ++ []
theorem dksX3_lost_0 : cX3_lost.data.toList.drop 0 = dktX3_lost_0 := by decide +kernel
theorem dX3_lost_0 : decode cX3_lost 0 = .ok (.aload_n 0, 1) := dk_42 (dk_at dksX3_lost_0 0 rfl rfl)
theorem dX3_lost_1 : decode cX3_lost 1 = .ok (.iconst 1, 1) := dk_4 (dk_at dksX3_lost_0 1 rfl rfl)
theorem dX3_lost_2 : decode cX3_lost 2 = .ok (.putfield 87, 3) := dk_181 0 87 (dk_at dksX3_lost_0 2 rfl rfl)
theorem dX3_lost_5 : decode cX3_lost 5 = .ok (.iconst 0, 1) := dk_3 (dk_at dksX3_lost_0 5 rfl rfl)
theorem dX3_lost_6 : decode cX3_lost 6 = .ok (.ireturn, 1) := dk_172 (dk_at dksX3_lost_0 6 rfl rfl)
abbrev cX3_owes : ByteArray := prog_9_method_33_code
def yX3_owes : MethodName := ⟨RX3, "owes", "([II)I"⟩
def dkwX3_owes_1 : List UInt8 := [132, 3, 1, 167, 255, 233, 28, 172]
abbrev dktX3_owes_1 : List UInt8 := dkwX3_owes_1 ++ []
def dkwX3_owes_0 : List UInt8 := [3, 61, 3, 62, 29, 16, 7, 162, 0, 23, 28, 42, 16, 21, 16, 7, 27, 104, 96, 29, 96, 46, 96, 61]
abbrev dktX3_owes_0 : List UInt8 := dkwX3_owes_0 ++ dktX3_owes_1
theorem dksX3_owes_0 : cX3_owes.data.toList.drop 0 = dktX3_owes_0 := by decide +kernel
theorem dksX3_owes_1 : cX3_owes.data.toList.drop 24 = dktX3_owes_1 := dk_seg dksX3_owes_0 24 rfl rfl
theorem dX3_owes_0 : decode cX3_owes 0 = .ok (.iconst 0, 1) := dk_3 (dk_at dksX3_owes_0 0 rfl rfl)
theorem dX3_owes_1 : decode cX3_owes 1 = .ok (.istore_n 2, 1) := dk_61 (dk_at dksX3_owes_0 1 rfl rfl)
theorem dX3_owes_2 : decode cX3_owes 2 = .ok (.iconst 0, 1) := dk_3 (dk_at dksX3_owes_0 2 rfl rfl)
theorem dX3_owes_3 : decode cX3_owes 3 = .ok (.istore_n 3, 1) := dk_62 (dk_at dksX3_owes_0 3 rfl rfl)
theorem dX3_owes_4 : decode cX3_owes 4 = .ok (.iload_n 3, 1) := dk_29 (dk_at dksX3_owes_0 4 rfl rfl)
theorem dX3_owes_5 : decode cX3_owes 5 = .ok (.bipush 7, 2) := dk_16 7 (dk_at dksX3_owes_0 5 rfl rfl)
theorem dX3_owes_7 : decode cX3_owes 7 = .ok (.if_icmp .ge 23, 3) := dk_162 0 23 (dk_at dksX3_owes_0 7 rfl rfl)
theorem dX3_owes_10 : decode cX3_owes 10 = .ok (.iload_n 2, 1) := dk_28 (dk_at dksX3_owes_0 10 rfl rfl)
theorem dX3_owes_11 : decode cX3_owes 11 = .ok (.aload_n 0, 1) := dk_42 (dk_at dksX3_owes_0 11 rfl rfl)
theorem dX3_owes_12 : decode cX3_owes 12 = .ok (.bipush 21, 2) := dk_16 21 (dk_at dksX3_owes_0 12 rfl rfl)
theorem dX3_owes_14 : decode cX3_owes 14 = .ok (.bipush 7, 2) := dk_16 7 (dk_at dksX3_owes_0 14 rfl rfl)
theorem dX3_owes_16 : decode cX3_owes 16 = .ok (.iload_n 1, 1) := dk_27 (dk_at dksX3_owes_0 16 rfl rfl)
theorem dX3_owes_17 : decode cX3_owes 17 = .ok (.imul, 1) := dk_104 (dk_at dksX3_owes_0 17 rfl rfl)
theorem dX3_owes_18 : decode cX3_owes 18 = .ok (.iadd, 1) := dk_96 (dk_at dksX3_owes_0 18 rfl rfl)
theorem dX3_owes_19 : decode cX3_owes 19 = .ok (.iload_n 3, 1) := dk_29 (dk_at dksX3_owes_0 19 rfl rfl)
theorem dX3_owes_20 : decode cX3_owes 20 = .ok (.iadd, 1) := dk_96 (dk_at dksX3_owes_0 20 rfl rfl)
theorem dX3_owes_21 : decode cX3_owes 21 = .ok (.iaload, 1) := dk_46 (dk_at dksX3_owes_0 21 rfl rfl)
theorem dX3_owes_22 : decode cX3_owes 22 = .ok (.iadd, 1) := dk_96 (dk_at dksX3_owes_0 22 rfl rfl)
theorem dX3_owes_23 : decode cX3_owes 23 = .ok (.istore_n 2, 1) := dk_61 (dk_at dksX3_owes_0 23 rfl rfl)
theorem dX3_owes_24 : decode cX3_owes 24 = .ok (.iinc 3 1, 3) := dk_132 3 1 (dk_at dksX3_owes_1 0 rfl rfl)
theorem dX3_owes_27 : decode cX3_owes 27 = .ok (.goto (-23), 3) := dk_167 255 233 (dk_at dksX3_owes_1 3 rfl rfl)
theorem dX3_owes_30 : decode cX3_owes 30 = .ok (.iload_n 2, 1) := dk_28 (dk_at dksX3_owes_1 6 rfl rfl)
theorem dX3_owes_31 : decode cX3_owes 31 = .ok (.ireturn, 1) := dk_172 (dk_at dksX3_owes_1 7 rfl rfl)
abbrev cX3_owed : ByteArray := prog_9_method_34_code
def yX3_owed : MethodName := ⟨RX3, "owed", "(I)I"⟩
def dkwX3_owed_1 : List UInt8 := [46, 96, 61, 132, 3, 1, 167, 255, 230, 28, 172]
abbrev dktX3_owed_1 : List UInt8 := dkwX3_owed_1 ++ []
def dkwX3_owed_0 : List UInt8 := [3, 61, 3, 62, 29, 16, 7, 162, 0, 26, 28, 42, 180, 0, 9, 16, 21, 16, 7, 29, 104, 96, 27, 96]
abbrev dktX3_owed_0 : List UInt8 := dkwX3_owed_0 ++ dktX3_owed_1
theorem dksX3_owed_0 : cX3_owed.data.toList.drop 0 = dktX3_owed_0 := by decide +kernel
theorem dksX3_owed_1 : cX3_owed.data.toList.drop 24 = dktX3_owed_1 := dk_seg dksX3_owed_0 24 rfl rfl
theorem dX3_owed_0 : decode cX3_owed 0 = .ok (.iconst 0, 1) := dk_3 (dk_at dksX3_owed_0 0 rfl rfl)
theorem dX3_owed_1 : decode cX3_owed 1 = .ok (.istore_n 2, 1) := dk_61 (dk_at dksX3_owed_0 1 rfl rfl)
theorem dX3_owed_2 : decode cX3_owed 2 = .ok (.iconst 0, 1) := dk_3 (dk_at dksX3_owed_0 2 rfl rfl)
theorem dX3_owed_3 : decode cX3_owed 3 = .ok (.istore_n 3, 1) := dk_62 (dk_at dksX3_owed_0 3 rfl rfl)
theorem dX3_owed_4 : decode cX3_owed 4 = .ok (.iload_n 3, 1) := dk_29 (dk_at dksX3_owed_0 4 rfl rfl)
theorem dX3_owed_5 : decode cX3_owed 5 = .ok (.bipush 7, 2) := dk_16 7 (dk_at dksX3_owed_0 5 rfl rfl)
theorem dX3_owed_7 : decode cX3_owed 7 = .ok (.if_icmp .ge 26, 3) := dk_162 0 26 (dk_at dksX3_owed_0 7 rfl rfl)
theorem dX3_owed_10 : decode cX3_owed 10 = .ok (.iload_n 2, 1) := dk_28 (dk_at dksX3_owed_0 10 rfl rfl)
theorem dX3_owed_11 : decode cX3_owed 11 = .ok (.aload_n 0, 1) := dk_42 (dk_at dksX3_owed_0 11 rfl rfl)
theorem dX3_owed_12 : decode cX3_owed 12 = .ok (.getfield 9, 3) := dk_180 0 9 (dk_at dksX3_owed_0 12 rfl rfl)
theorem dX3_owed_15 : decode cX3_owed 15 = .ok (.bipush 21, 2) := dk_16 21 (dk_at dksX3_owed_0 15 rfl rfl)
theorem dX3_owed_17 : decode cX3_owed 17 = .ok (.bipush 7, 2) := dk_16 7 (dk_at dksX3_owed_0 17 rfl rfl)
theorem dX3_owed_19 : decode cX3_owed 19 = .ok (.iload_n 3, 1) := dk_29 (dk_at dksX3_owed_0 19 rfl rfl)
theorem dX3_owed_20 : decode cX3_owed 20 = .ok (.imul, 1) := dk_104 (dk_at dksX3_owed_0 20 rfl rfl)
theorem dX3_owed_21 : decode cX3_owed 21 = .ok (.iadd, 1) := dk_96 (dk_at dksX3_owed_0 21 rfl rfl)
theorem dX3_owed_22 : decode cX3_owed 22 = .ok (.iload_n 1, 1) := dk_27 (dk_at dksX3_owed_0 22 rfl rfl)
theorem dX3_owed_23 : decode cX3_owed 23 = .ok (.iadd, 1) := dk_96 (dk_at dksX3_owed_0 23 rfl rfl)
theorem dX3_owed_24 : decode cX3_owed 24 = .ok (.iaload, 1) := dk_46 (dk_at dksX3_owed_1 0 rfl rfl)
theorem dX3_owed_25 : decode cX3_owed 25 = .ok (.iadd, 1) := dk_96 (dk_at dksX3_owed_1 1 rfl rfl)
theorem dX3_owed_26 : decode cX3_owed 26 = .ok (.istore_n 2, 1) := dk_61 (dk_at dksX3_owed_1 2 rfl rfl)
theorem dX3_owed_27 : decode cX3_owed 27 = .ok (.iinc 3 1, 3) := dk_132 3 1 (dk_at dksX3_owed_1 3 rfl rfl)
theorem dX3_owed_30 : decode cX3_owed 30 = .ok (.goto (-26), 3) := dk_167 255 230 (dk_at dksX3_owed_1 6 rfl rfl)
theorem dX3_owed_33 : decode cX3_owed 33 = .ok (.iload_n 2, 1) := dk_28 (dk_at dksX3_owed_1 9 rfl rfl)
theorem dX3_owed_34 : decode cX3_owed 34 = .ok (.ireturn, 1) := dk_172 (dk_at dksX3_owed_1 10 rfl rfl)
abbrev cX3_set : ByteArray := prog_9_method_35_code
def yX3_set : MethodName := ⟨RX3, "set", "(III)I"⟩
def dkwX3_set_7 : List UInt8 := [29, 79, 21, 4, 172]
abbrev dktX3_set_7 : List UInt8 := dkwX3_set_7 ++ []
def dkwX3_set_6 : List UInt8 := [162, 0, 19, 42, 180, 0, 16, 5, 27, 104, 28, 96, 7, 100, 29, 79, 167, 0, 10, 42, 180, 0, 19, 27]
abbrev dktX3_set_6 : List UInt8 := dkwX3_set_6 ++ dktX3_set_7
def dkwX3_set_5 : List UInt8 := [167, 0, 50, 28, 6, 160, 0, 16, 42, 180, 0, 9, 16, 14, 27, 96, 29, 79, 167, 0, 32, 28, 16, 6]
abbrev dktX3_set_5 : List UInt8 := dkwX3_set_5 ++ dktX3_set_6
def dkwX3_set_4 : List UInt8 := [27, 29, 79, 167, 0, 71, 28, 6, 162, 0, 19, 42, 180, 0, 9, 5, 27, 104, 28, 96, 4, 100, 29, 79]
abbrev dktX3_set_4 : List UInt8 := dkwX3_set_4 ++ dktX3_set_5
def dkwX3_set_3 : List UInt8 := [184, 0, 97, 154, 0, 5, 2, 172, 42, 27, 28, 182, 0, 224, 54, 4, 28, 154, 0, 13, 42, 180, 0, 13]
abbrev dktX3_set_3 : List UInt8 := dkwX3_set_3 ++ dktX3_set_4
def dkwX3_set_2 : List UInt8 := [162, 0, 9, 17, 3, 231, 167, 0, 16, 28, 16, 6, 162, 0, 8, 16, 6, 167, 0, 5, 16, 30]
abbrev dktX3_set_2 : List UInt8 := dkwX3_set_2 ++ dktX3_set_3
def dkwX3_set_1 : List UInt8 := [172, 29, 28, 154, 0, 7, 4, 167, 0, 4, 3, 28, 154, 0, 8, 16, 99, 167, 0, 27, 28, 7]
abbrev dktX3_set_1 : List UInt8 := dkwX3_set_1 ++ dktX3_set_2
def dkwX3_set_0 : List UInt8 := [42, 3, 181, 0, 87, 42, 27, 182, 0, 101, 153, 0, 13, 28, 3, 16, 6, 184, 0, 97, 154, 0, 5, 2]
abbrev dktX3_set_0 : List UInt8 := dkwX3_set_0 ++ dktX3_set_1
theorem dksX3_set_0 : cX3_set.data.toList.drop 0 = dktX3_set_0 := by decide +kernel
theorem dksX3_set_1 : cX3_set.data.toList.drop 24 = dktX3_set_1 := dk_seg dksX3_set_0 24 rfl rfl
theorem dksX3_set_2 : cX3_set.data.toList.drop 46 = dktX3_set_2 := dk_seg dksX3_set_1 22 rfl rfl
theorem dksX3_set_3 : cX3_set.data.toList.drop 68 = dktX3_set_3 := dk_seg dksX3_set_2 22 rfl rfl
theorem dksX3_set_4 : cX3_set.data.toList.drop 92 = dktX3_set_4 := dk_seg dksX3_set_3 24 rfl rfl
theorem dksX3_set_5 : cX3_set.data.toList.drop 116 = dktX3_set_5 := dk_seg dksX3_set_4 24 rfl rfl
theorem dksX3_set_6 : cX3_set.data.toList.drop 140 = dktX3_set_6 := dk_seg dksX3_set_5 24 rfl rfl
theorem dksX3_set_7 : cX3_set.data.toList.drop 164 = dktX3_set_7 := dk_seg dksX3_set_6 24 rfl rfl
theorem dX3_set_0 : decode cX3_set 0 = .ok (.aload_n 0, 1) := dk_42 (dk_at dksX3_set_0 0 rfl rfl)
theorem dX3_set_1 : decode cX3_set 1 = .ok (.iconst 0, 1) := dk_3 (dk_at dksX3_set_0 1 rfl rfl)
theorem dX3_set_2 : decode cX3_set 2 = .ok (.putfield 87, 3) := dk_181 0 87 (dk_at dksX3_set_0 2 rfl rfl)
theorem dX3_set_5 : decode cX3_set 5 = .ok (.aload_n 0, 1) := dk_42 (dk_at dksX3_set_0 5 rfl rfl)
theorem dX3_set_6 : decode cX3_set 6 = .ok (.iload_n 1, 1) := dk_27 (dk_at dksX3_set_0 6 rfl rfl)
theorem dX3_set_7 : decode cX3_set 7 = .ok (.invokevirtual 101, 3) := dk_182 0 101 (dk_at dksX3_set_0 7 rfl rfl)
theorem dX3_set_10 : decode cX3_set 10 = .ok (.ifCond .eq 13, 3) := dk_153 0 13 (dk_at dksX3_set_0 10 rfl rfl)
theorem dX3_set_13 : decode cX3_set 13 = .ok (.iload_n 2, 1) := dk_28 (dk_at dksX3_set_0 13 rfl rfl)
theorem dX3_set_14 : decode cX3_set 14 = .ok (.iconst 0, 1) := dk_3 (dk_at dksX3_set_0 14 rfl rfl)
theorem dX3_set_15 : decode cX3_set 15 = .ok (.bipush 6, 2) := dk_16 6 (dk_at dksX3_set_0 15 rfl rfl)
theorem dX3_set_17 : decode cX3_set 17 = .ok (.invokestatic 97, 3) := dk_184 0 97 (dk_at dksX3_set_0 17 rfl rfl)
theorem dX3_set_20 : decode cX3_set 20 = .ok (.ifCond .ne 5, 3) := dk_154 0 5 (dk_at dksX3_set_0 20 rfl rfl)
theorem dX3_set_23 : decode cX3_set 23 = .ok (.iconst (-1), 1) := dk_2 (dk_at dksX3_set_0 23 rfl rfl)
theorem dX3_set_24 : decode cX3_set 24 = .ok (.ireturn, 1) := dk_172 (dk_at dksX3_set_1 0 rfl rfl)
theorem dX3_set_25 : decode cX3_set 25 = .ok (.iload_n 3, 1) := dk_29 (dk_at dksX3_set_1 1 rfl rfl)
theorem dX3_set_26 : decode cX3_set 26 = .ok (.iload_n 2, 1) := dk_28 (dk_at dksX3_set_1 2 rfl rfl)
theorem dX3_set_27 : decode cX3_set 27 = .ok (.ifCond .ne 7, 3) := dk_154 0 7 (dk_at dksX3_set_1 3 rfl rfl)
theorem dX3_set_30 : decode cX3_set 30 = .ok (.iconst 1, 1) := dk_4 (dk_at dksX3_set_1 6 rfl rfl)
theorem dX3_set_31 : decode cX3_set 31 = .ok (.goto 4, 3) := dk_167 0 4 (dk_at dksX3_set_1 7 rfl rfl)
theorem dX3_set_34 : decode cX3_set 34 = .ok (.iconst 0, 1) := dk_3 (dk_at dksX3_set_1 10 rfl rfl)
theorem dX3_set_35 : decode cX3_set 35 = .ok (.iload_n 2, 1) := dk_28 (dk_at dksX3_set_1 11 rfl rfl)
theorem dX3_set_36 : decode cX3_set 36 = .ok (.ifCond .ne 8, 3) := dk_154 0 8 (dk_at dksX3_set_1 12 rfl rfl)
theorem dX3_set_39 : decode cX3_set 39 = .ok (.bipush 99, 2) := dk_16 99 (dk_at dksX3_set_1 15 rfl rfl)
theorem dX3_set_41 : decode cX3_set 41 = .ok (.goto 27, 3) := dk_167 0 27 (dk_at dksX3_set_1 17 rfl rfl)
theorem dX3_set_44 : decode cX3_set 44 = .ok (.iload_n 2, 1) := dk_28 (dk_at dksX3_set_1 20 rfl rfl)
theorem dX3_set_45 : decode cX3_set 45 = .ok (.iconst 4, 1) := dk_7 (dk_at dksX3_set_1 21 rfl rfl)
theorem dX3_set_46 : decode cX3_set 46 = .ok (.if_icmp .ge 9, 3) := dk_162 0 9 (dk_at dksX3_set_2 0 rfl rfl)
theorem dX3_set_49 : decode cX3_set 49 = .ok (.sipush 999, 3) := dk_17 3 231 (dk_at dksX3_set_2 3 rfl rfl)
theorem dX3_set_52 : decode cX3_set 52 = .ok (.goto 16, 3) := dk_167 0 16 (dk_at dksX3_set_2 6 rfl rfl)
theorem dX3_set_55 : decode cX3_set 55 = .ok (.iload_n 2, 1) := dk_28 (dk_at dksX3_set_2 9 rfl rfl)
theorem dX3_set_56 : decode cX3_set 56 = .ok (.bipush 6, 2) := dk_16 6 (dk_at dksX3_set_2 10 rfl rfl)
theorem dX3_set_58 : decode cX3_set 58 = .ok (.if_icmp .ge 8, 3) := dk_162 0 8 (dk_at dksX3_set_2 12 rfl rfl)
theorem dX3_set_61 : decode cX3_set 61 = .ok (.bipush 6, 2) := dk_16 6 (dk_at dksX3_set_2 15 rfl rfl)
theorem dX3_set_63 : decode cX3_set 63 = .ok (.goto 5, 3) := dk_167 0 5 (dk_at dksX3_set_2 17 rfl rfl)
theorem dX3_set_66 : decode cX3_set 66 = .ok (.bipush 30, 2) := dk_16 30 (dk_at dksX3_set_2 20 rfl rfl)
theorem dX3_set_68 : decode cX3_set 68 = .ok (.invokestatic 97, 3) := dk_184 0 97 (dk_at dksX3_set_3 0 rfl rfl)
theorem dX3_set_71 : decode cX3_set 71 = .ok (.ifCond .ne 5, 3) := dk_154 0 5 (dk_at dksX3_set_3 3 rfl rfl)
theorem dX3_set_74 : decode cX3_set 74 = .ok (.iconst (-1), 1) := dk_2 (dk_at dksX3_set_3 6 rfl rfl)
theorem dX3_set_75 : decode cX3_set 75 = .ok (.ireturn, 1) := dk_172 (dk_at dksX3_set_3 7 rfl rfl)
theorem dX3_set_76 : decode cX3_set 76 = .ok (.aload_n 0, 1) := dk_42 (dk_at dksX3_set_3 8 rfl rfl)
theorem dX3_set_77 : decode cX3_set 77 = .ok (.iload_n 1, 1) := dk_27 (dk_at dksX3_set_3 9 rfl rfl)
theorem dX3_set_78 : decode cX3_set 78 = .ok (.iload_n 2, 1) := dk_28 (dk_at dksX3_set_3 10 rfl rfl)
theorem dX3_set_79 : decode cX3_set 79 = .ok (.invokevirtual 224, 3) := dk_182 0 224 (dk_at dksX3_set_3 11 rfl rfl)
theorem dX3_set_82 : decode cX3_set 82 = .ok (.istore 4, 2) := dk_54 4 (dk_at dksX3_set_3 14 rfl rfl)
theorem dX3_set_84 : decode cX3_set 84 = .ok (.iload_n 2, 1) := dk_28 (dk_at dksX3_set_3 16 rfl rfl)
theorem dX3_set_85 : decode cX3_set 85 = .ok (.ifCond .ne 13, 3) := dk_154 0 13 (dk_at dksX3_set_3 17 rfl rfl)
theorem dX3_set_88 : decode cX3_set 88 = .ok (.aload_n 0, 1) := dk_42 (dk_at dksX3_set_3 20 rfl rfl)
theorem dX3_set_89 : decode cX3_set 89 = .ok (.getfield 13, 3) := dk_180 0 13 (dk_at dksX3_set_3 21 rfl rfl)
theorem dX3_set_92 : decode cX3_set 92 = .ok (.iload_n 1, 1) := dk_27 (dk_at dksX3_set_4 0 rfl rfl)
theorem dX3_set_93 : decode cX3_set 93 = .ok (.iload_n 3, 1) := dk_29 (dk_at dksX3_set_4 1 rfl rfl)
theorem dX3_set_94 : decode cX3_set 94 = .ok (.iastore, 1) := dk_79 (dk_at dksX3_set_4 2 rfl rfl)
theorem dX3_set_95 : decode cX3_set 95 = .ok (.goto 71, 3) := dk_167 0 71 (dk_at dksX3_set_4 3 rfl rfl)
theorem dX3_set_98 : decode cX3_set 98 = .ok (.iload_n 2, 1) := dk_28 (dk_at dksX3_set_4 6 rfl rfl)
theorem dX3_set_99 : decode cX3_set 99 = .ok (.iconst 3, 1) := dk_6 (dk_at dksX3_set_4 7 rfl rfl)
theorem dX3_set_100 : decode cX3_set 100 = .ok (.if_icmp .ge 19, 3) := dk_162 0 19 (dk_at dksX3_set_4 8 rfl rfl)
theorem dX3_set_103 : decode cX3_set 103 = .ok (.aload_n 0, 1) := dk_42 (dk_at dksX3_set_4 11 rfl rfl)
theorem dX3_set_104 : decode cX3_set 104 = .ok (.getfield 9, 3) := dk_180 0 9 (dk_at dksX3_set_4 12 rfl rfl)
theorem dX3_set_107 : decode cX3_set 107 = .ok (.iconst 2, 1) := dk_5 (dk_at dksX3_set_4 15 rfl rfl)
theorem dX3_set_108 : decode cX3_set 108 = .ok (.iload_n 1, 1) := dk_27 (dk_at dksX3_set_4 16 rfl rfl)
theorem dX3_set_109 : decode cX3_set 109 = .ok (.imul, 1) := dk_104 (dk_at dksX3_set_4 17 rfl rfl)
theorem dX3_set_110 : decode cX3_set 110 = .ok (.iload_n 2, 1) := dk_28 (dk_at dksX3_set_4 18 rfl rfl)
theorem dX3_set_111 : decode cX3_set 111 = .ok (.iadd, 1) := dk_96 (dk_at dksX3_set_4 19 rfl rfl)
theorem dX3_set_112 : decode cX3_set 112 = .ok (.iconst 1, 1) := dk_4 (dk_at dksX3_set_4 20 rfl rfl)
theorem dX3_set_113 : decode cX3_set 113 = .ok (.isub, 1) := dk_100 (dk_at dksX3_set_4 21 rfl rfl)
theorem dX3_set_114 : decode cX3_set 114 = .ok (.iload_n 3, 1) := dk_29 (dk_at dksX3_set_4 22 rfl rfl)
theorem dX3_set_115 : decode cX3_set 115 = .ok (.iastore, 1) := dk_79 (dk_at dksX3_set_4 23 rfl rfl)
theorem dX3_set_116 : decode cX3_set 116 = .ok (.goto 50, 3) := dk_167 0 50 (dk_at dksX3_set_5 0 rfl rfl)
theorem dX3_set_119 : decode cX3_set 119 = .ok (.iload_n 2, 1) := dk_28 (dk_at dksX3_set_5 3 rfl rfl)
theorem dX3_set_120 : decode cX3_set 120 = .ok (.iconst 3, 1) := dk_6 (dk_at dksX3_set_5 4 rfl rfl)
theorem dX3_set_121 : decode cX3_set 121 = .ok (.if_icmp .ne 16, 3) := dk_160 0 16 (dk_at dksX3_set_5 5 rfl rfl)
theorem dX3_set_124 : decode cX3_set 124 = .ok (.aload_n 0, 1) := dk_42 (dk_at dksX3_set_5 8 rfl rfl)
theorem dX3_set_125 : decode cX3_set 125 = .ok (.getfield 9, 3) := dk_180 0 9 (dk_at dksX3_set_5 9 rfl rfl)
theorem dX3_set_128 : decode cX3_set 128 = .ok (.bipush 14, 2) := dk_16 14 (dk_at dksX3_set_5 12 rfl rfl)
theorem dX3_set_130 : decode cX3_set 130 = .ok (.iload_n 1, 1) := dk_27 (dk_at dksX3_set_5 14 rfl rfl)
theorem dX3_set_131 : decode cX3_set 131 = .ok (.iadd, 1) := dk_96 (dk_at dksX3_set_5 15 rfl rfl)
theorem dX3_set_132 : decode cX3_set 132 = .ok (.iload_n 3, 1) := dk_29 (dk_at dksX3_set_5 16 rfl rfl)
theorem dX3_set_133 : decode cX3_set 133 = .ok (.iastore, 1) := dk_79 (dk_at dksX3_set_5 17 rfl rfl)
theorem dX3_set_134 : decode cX3_set 134 = .ok (.goto 32, 3) := dk_167 0 32 (dk_at dksX3_set_5 18 rfl rfl)
theorem dX3_set_137 : decode cX3_set 137 = .ok (.iload_n 2, 1) := dk_28 (dk_at dksX3_set_5 21 rfl rfl)
theorem dX3_set_138 : decode cX3_set 138 = .ok (.bipush 6, 2) := dk_16 6 (dk_at dksX3_set_5 22 rfl rfl)
theorem dX3_set_140 : decode cX3_set 140 = .ok (.if_icmp .ge 19, 3) := dk_162 0 19 (dk_at dksX3_set_6 0 rfl rfl)
theorem dX3_set_143 : decode cX3_set 143 = .ok (.aload_n 0, 1) := dk_42 (dk_at dksX3_set_6 3 rfl rfl)
theorem dX3_set_144 : decode cX3_set 144 = .ok (.getfield 16, 3) := dk_180 0 16 (dk_at dksX3_set_6 4 rfl rfl)
theorem dX3_set_147 : decode cX3_set 147 = .ok (.iconst 2, 1) := dk_5 (dk_at dksX3_set_6 7 rfl rfl)
theorem dX3_set_148 : decode cX3_set 148 = .ok (.iload_n 1, 1) := dk_27 (dk_at dksX3_set_6 8 rfl rfl)
theorem dX3_set_149 : decode cX3_set 149 = .ok (.imul, 1) := dk_104 (dk_at dksX3_set_6 9 rfl rfl)
theorem dX3_set_150 : decode cX3_set 150 = .ok (.iload_n 2, 1) := dk_28 (dk_at dksX3_set_6 10 rfl rfl)
theorem dX3_set_151 : decode cX3_set 151 = .ok (.iadd, 1) := dk_96 (dk_at dksX3_set_6 11 rfl rfl)
theorem dX3_set_152 : decode cX3_set 152 = .ok (.iconst 4, 1) := dk_7 (dk_at dksX3_set_6 12 rfl rfl)
theorem dX3_set_153 : decode cX3_set 153 = .ok (.isub, 1) := dk_100 (dk_at dksX3_set_6 13 rfl rfl)
theorem dX3_set_154 : decode cX3_set 154 = .ok (.iload_n 3, 1) := dk_29 (dk_at dksX3_set_6 14 rfl rfl)
theorem dX3_set_155 : decode cX3_set 155 = .ok (.iastore, 1) := dk_79 (dk_at dksX3_set_6 15 rfl rfl)
theorem dX3_set_156 : decode cX3_set 156 = .ok (.goto 10, 3) := dk_167 0 10 (dk_at dksX3_set_6 16 rfl rfl)
theorem dX3_set_159 : decode cX3_set 159 = .ok (.aload_n 0, 1) := dk_42 (dk_at dksX3_set_6 19 rfl rfl)
theorem dX3_set_160 : decode cX3_set 160 = .ok (.getfield 19, 3) := dk_180 0 19 (dk_at dksX3_set_6 20 rfl rfl)
theorem dX3_set_163 : decode cX3_set 163 = .ok (.iload_n 1, 1) := dk_27 (dk_at dksX3_set_6 23 rfl rfl)
theorem dX3_set_164 : decode cX3_set 164 = .ok (.iload_n 3, 1) := dk_29 (dk_at dksX3_set_7 0 rfl rfl)
theorem dX3_set_165 : decode cX3_set 165 = .ok (.iastore, 1) := dk_79 (dk_at dksX3_set_7 1 rfl rfl)
theorem dX3_set_166 : decode cX3_set 166 = .ok (.iload 4, 2) := dk_21 4 (dk_at dksX3_set_7 2 rfl rfl)
theorem dX3_set_168 : decode cX3_set 168 = .ok (.ireturn, 1) := dk_172 (dk_at dksX3_set_7 4 rfl rfl)
abbrev cX3_sheet : ByteArray := prog_9_method_36_code
def yX3_sheet : MethodName := ⟨RX3, "sheet", "(IIII)I"⟩
def dkwX3_sheet_6 : List UInt8 := [160, 0, 8, 16, 253, 167, 0, 5, 21, 5, 172]
abbrev dktX3_sheet_6 : List UInt8 := dkwX3_sheet_6 ++ []
def dkwX3_sheet_5 : List UInt8 := [180, 0, 9, 21, 7, 46, 96, 54, 5, 21, 6, 21, 4, 96, 54, 6, 132, 7, 1, 167, 255, 164, 27, 6]
abbrev dktX3_sheet_5 : List UInt8 := dkwX3_sheet_5 ++ dktX3_sheet_6
def dkwX3_sheet_4 : List UInt8 := [161, 0, 7, 3, 167, 0, 15, 3, 17, 3, 231, 21, 8, 184, 0, 227, 184, 0, 165, 79, 21, 5, 42]
abbrev dktX3_sheet_4 : List UInt8 := dkwX3_sheet_4 ++ dktX3_sheet_5
def dkwX3_sheet_3 : List UInt8 := [147, 167, 0, 5, 21, 6, 54, 8, 42, 180, 0, 9, 21, 7, 27, 6, 159, 0, 9, 21, 7, 28]
abbrev dktX3_sheet_3 : List UInt8 := dkwX3_sheet_3 ++ dktX3_sheet_4
def dkwX3_sheet_2 : List UInt8 := [180, 0, 94, 104, 162, 0, 87, 27, 154, 0, 9, 21, 6, 145, 167, 0, 16, 27, 4, 160, 0, 9, 21, 6]
abbrev dktX3_sheet_2 : List UInt8 := dkwX3_sheet_2 ++ dktX3_sheet_3
def dkwX3_sheet_1 : List UInt8 := [162, 0, 10, 28, 156, 0, 6, 16, 254, 172, 3, 54, 5, 29, 54, 6, 3, 54, 7, 21, 7, 5, 42]
abbrev dktX3_sheet_1 : List UInt8 := dkwX3_sheet_1 ++ dktX3_sheet_2
def dkwX3_sheet_0 : List UInt8 := [42, 3, 181, 0, 87, 27, 3, 6, 184, 0, 97, 153, 0, 9, 28, 16, 14, 164, 0, 5, 2, 172, 27, 6]
abbrev dktX3_sheet_0 : List UInt8 := dkwX3_sheet_0 ++ dktX3_sheet_1
theorem dksX3_sheet_0 : cX3_sheet.data.toList.drop 0 = dktX3_sheet_0 := by decide +kernel
theorem dksX3_sheet_1 : cX3_sheet.data.toList.drop 24 = dktX3_sheet_1 := dk_seg dksX3_sheet_0 24 rfl rfl
theorem dksX3_sheet_2 : cX3_sheet.data.toList.drop 47 = dktX3_sheet_2 := dk_seg dksX3_sheet_1 23 rfl rfl
theorem dksX3_sheet_3 : cX3_sheet.data.toList.drop 71 = dktX3_sheet_3 := dk_seg dksX3_sheet_2 24 rfl rfl
theorem dksX3_sheet_4 : cX3_sheet.data.toList.drop 93 = dktX3_sheet_4 := dk_seg dksX3_sheet_3 22 rfl rfl
theorem dksX3_sheet_5 : cX3_sheet.data.toList.drop 116 = dktX3_sheet_5 := dk_seg dksX3_sheet_4 23 rfl rfl
theorem dksX3_sheet_6 : cX3_sheet.data.toList.drop 140 = dktX3_sheet_6 := dk_seg dksX3_sheet_5 24 rfl rfl
theorem dX3_sheet_0 : decode cX3_sheet 0 = .ok (.aload_n 0, 1) := dk_42 (dk_at dksX3_sheet_0 0 rfl rfl)
theorem dX3_sheet_1 : decode cX3_sheet 1 = .ok (.iconst 0, 1) := dk_3 (dk_at dksX3_sheet_0 1 rfl rfl)
theorem dX3_sheet_2 : decode cX3_sheet 2 = .ok (.putfield 87, 3) := dk_181 0 87 (dk_at dksX3_sheet_0 2 rfl rfl)
theorem dX3_sheet_5 : decode cX3_sheet 5 = .ok (.iload_n 1, 1) := dk_27 (dk_at dksX3_sheet_0 5 rfl rfl)
theorem dX3_sheet_6 : decode cX3_sheet 6 = .ok (.iconst 0, 1) := dk_3 (dk_at dksX3_sheet_0 6 rfl rfl)
theorem dX3_sheet_7 : decode cX3_sheet 7 = .ok (.iconst 3, 1) := dk_6 (dk_at dksX3_sheet_0 7 rfl rfl)
theorem dX3_sheet_8 : decode cX3_sheet 8 = .ok (.invokestatic 97, 3) := dk_184 0 97 (dk_at dksX3_sheet_0 8 rfl rfl)
theorem dX3_sheet_11 : decode cX3_sheet 11 = .ok (.ifCond .eq 9, 3) := dk_153 0 9 (dk_at dksX3_sheet_0 11 rfl rfl)
theorem dX3_sheet_14 : decode cX3_sheet 14 = .ok (.iload_n 2, 1) := dk_28 (dk_at dksX3_sheet_0 14 rfl rfl)
theorem dX3_sheet_15 : decode cX3_sheet 15 = .ok (.bipush 14, 2) := dk_16 14 (dk_at dksX3_sheet_0 15 rfl rfl)
theorem dX3_sheet_17 : decode cX3_sheet 17 = .ok (.if_icmp .le 5, 3) := dk_164 0 5 (dk_at dksX3_sheet_0 17 rfl rfl)
theorem dX3_sheet_20 : decode cX3_sheet 20 = .ok (.iconst (-1), 1) := dk_2 (dk_at dksX3_sheet_0 20 rfl rfl)
theorem dX3_sheet_21 : decode cX3_sheet 21 = .ok (.ireturn, 1) := dk_172 (dk_at dksX3_sheet_0 21 rfl rfl)
theorem dX3_sheet_22 : decode cX3_sheet 22 = .ok (.iload_n 1, 1) := dk_27 (dk_at dksX3_sheet_0 22 rfl rfl)
theorem dX3_sheet_23 : decode cX3_sheet 23 = .ok (.iconst 3, 1) := dk_6 (dk_at dksX3_sheet_0 23 rfl rfl)
theorem dX3_sheet_24 : decode cX3_sheet 24 = .ok (.if_icmp .ge 10, 3) := dk_162 0 10 (dk_at dksX3_sheet_1 0 rfl rfl)
theorem dX3_sheet_27 : decode cX3_sheet 27 = .ok (.iload_n 2, 1) := dk_28 (dk_at dksX3_sheet_1 3 rfl rfl)
theorem dX3_sheet_28 : decode cX3_sheet 28 = .ok (.ifCond .ge 6, 3) := dk_156 0 6 (dk_at dksX3_sheet_1 4 rfl rfl)
theorem dX3_sheet_31 : decode cX3_sheet 31 = .ok (.bipush (-2), 2) := dk_16 254 (dk_at dksX3_sheet_1 7 rfl rfl)
theorem dX3_sheet_33 : decode cX3_sheet 33 = .ok (.ireturn, 1) := dk_172 (dk_at dksX3_sheet_1 9 rfl rfl)
theorem dX3_sheet_34 : decode cX3_sheet 34 = .ok (.iconst 0, 1) := dk_3 (dk_at dksX3_sheet_1 10 rfl rfl)
theorem dX3_sheet_35 : decode cX3_sheet 35 = .ok (.istore 5, 2) := dk_54 5 (dk_at dksX3_sheet_1 11 rfl rfl)
theorem dX3_sheet_37 : decode cX3_sheet 37 = .ok (.iload_n 3, 1) := dk_29 (dk_at dksX3_sheet_1 13 rfl rfl)
theorem dX3_sheet_38 : decode cX3_sheet 38 = .ok (.istore 6, 2) := dk_54 6 (dk_at dksX3_sheet_1 14 rfl rfl)
theorem dX3_sheet_40 : decode cX3_sheet 40 = .ok (.iconst 0, 1) := dk_3 (dk_at dksX3_sheet_1 16 rfl rfl)
theorem dX3_sheet_41 : decode cX3_sheet 41 = .ok (.istore 7, 2) := dk_54 7 (dk_at dksX3_sheet_1 17 rfl rfl)
theorem dX3_sheet_43 : decode cX3_sheet 43 = .ok (.iload 7, 2) := dk_21 7 (dk_at dksX3_sheet_1 19 rfl rfl)
theorem dX3_sheet_45 : decode cX3_sheet 45 = .ok (.iconst 2, 1) := dk_5 (dk_at dksX3_sheet_1 21 rfl rfl)
theorem dX3_sheet_46 : decode cX3_sheet 46 = .ok (.aload_n 0, 1) := dk_42 (dk_at dksX3_sheet_1 22 rfl rfl)
theorem dX3_sheet_47 : decode cX3_sheet 47 = .ok (.getfield 94, 3) := dk_180 0 94 (dk_at dksX3_sheet_2 0 rfl rfl)
theorem dX3_sheet_50 : decode cX3_sheet 50 = .ok (.imul, 1) := dk_104 (dk_at dksX3_sheet_2 3 rfl rfl)
theorem dX3_sheet_51 : decode cX3_sheet 51 = .ok (.if_icmp .ge 87, 3) := dk_162 0 87 (dk_at dksX3_sheet_2 4 rfl rfl)
theorem dX3_sheet_54 : decode cX3_sheet 54 = .ok (.iload_n 1, 1) := dk_27 (dk_at dksX3_sheet_2 7 rfl rfl)
theorem dX3_sheet_55 : decode cX3_sheet 55 = .ok (.ifCond .ne 9, 3) := dk_154 0 9 (dk_at dksX3_sheet_2 8 rfl rfl)
theorem dX3_sheet_58 : decode cX3_sheet 58 = .ok (.iload 6, 2) := dk_21 6 (dk_at dksX3_sheet_2 11 rfl rfl)
theorem dX3_sheet_60 : decode cX3_sheet 60 = .ok (.i2b, 1) := dk_145 (dk_at dksX3_sheet_2 13 rfl rfl)
theorem dX3_sheet_61 : decode cX3_sheet 61 = .ok (.goto 16, 3) := dk_167 0 16 (dk_at dksX3_sheet_2 14 rfl rfl)
theorem dX3_sheet_64 : decode cX3_sheet 64 = .ok (.iload_n 1, 1) := dk_27 (dk_at dksX3_sheet_2 17 rfl rfl)
theorem dX3_sheet_65 : decode cX3_sheet 65 = .ok (.iconst 1, 1) := dk_4 (dk_at dksX3_sheet_2 18 rfl rfl)
theorem dX3_sheet_66 : decode cX3_sheet 66 = .ok (.if_icmp .ne 9, 3) := dk_160 0 9 (dk_at dksX3_sheet_2 19 rfl rfl)
theorem dX3_sheet_69 : decode cX3_sheet 69 = .ok (.iload 6, 2) := dk_21 6 (dk_at dksX3_sheet_2 22 rfl rfl)
theorem dX3_sheet_71 : decode cX3_sheet 71 = .ok (.i2s, 1) := dk_147 (dk_at dksX3_sheet_3 0 rfl rfl)
theorem dX3_sheet_72 : decode cX3_sheet 72 = .ok (.goto 5, 3) := dk_167 0 5 (dk_at dksX3_sheet_3 1 rfl rfl)
theorem dX3_sheet_75 : decode cX3_sheet 75 = .ok (.iload 6, 2) := dk_21 6 (dk_at dksX3_sheet_3 4 rfl rfl)
theorem dX3_sheet_77 : decode cX3_sheet 77 = .ok (.istore 8, 2) := dk_54 8 (dk_at dksX3_sheet_3 6 rfl rfl)
theorem dX3_sheet_79 : decode cX3_sheet 79 = .ok (.aload_n 0, 1) := dk_42 (dk_at dksX3_sheet_3 8 rfl rfl)
theorem dX3_sheet_80 : decode cX3_sheet 80 = .ok (.getfield 9, 3) := dk_180 0 9 (dk_at dksX3_sheet_3 9 rfl rfl)
theorem dX3_sheet_83 : decode cX3_sheet 83 = .ok (.iload 7, 2) := dk_21 7 (dk_at dksX3_sheet_3 12 rfl rfl)
theorem dX3_sheet_85 : decode cX3_sheet 85 = .ok (.iload_n 1, 1) := dk_27 (dk_at dksX3_sheet_3 14 rfl rfl)
theorem dX3_sheet_86 : decode cX3_sheet 86 = .ok (.iconst 3, 1) := dk_6 (dk_at dksX3_sheet_3 15 rfl rfl)
theorem dX3_sheet_87 : decode cX3_sheet 87 = .ok (.if_icmp .eq 9, 3) := dk_159 0 9 (dk_at dksX3_sheet_3 16 rfl rfl)
theorem dX3_sheet_90 : decode cX3_sheet 90 = .ok (.iload 7, 2) := dk_21 7 (dk_at dksX3_sheet_3 19 rfl rfl)
theorem dX3_sheet_92 : decode cX3_sheet 92 = .ok (.iload_n 2, 1) := dk_28 (dk_at dksX3_sheet_3 21 rfl rfl)
theorem dX3_sheet_93 : decode cX3_sheet 93 = .ok (.if_icmp .lt 7, 3) := dk_161 0 7 (dk_at dksX3_sheet_4 0 rfl rfl)
theorem dX3_sheet_96 : decode cX3_sheet 96 = .ok (.iconst 0, 1) := dk_3 (dk_at dksX3_sheet_4 3 rfl rfl)
theorem dX3_sheet_97 : decode cX3_sheet 97 = .ok (.goto 15, 3) := dk_167 0 15 (dk_at dksX3_sheet_4 4 rfl rfl)
theorem dX3_sheet_100 : decode cX3_sheet 100 = .ok (.iconst 0, 1) := dk_3 (dk_at dksX3_sheet_4 7 rfl rfl)
theorem dX3_sheet_101 : decode cX3_sheet 101 = .ok (.sipush 999, 3) := dk_17 3 231 (dk_at dksX3_sheet_4 8 rfl rfl)
theorem dX3_sheet_104 : decode cX3_sheet 104 = .ok (.iload 8, 2) := dk_21 8 (dk_at dksX3_sheet_4 11 rfl rfl)
theorem dX3_sheet_106 : decode cX3_sheet 106 = .ok (.invokestatic 227, 3) := dk_184 0 227 (dk_at dksX3_sheet_4 13 rfl rfl)
theorem dX3_sheet_109 : decode cX3_sheet 109 = .ok (.invokestatic 165, 3) := dk_184 0 165 (dk_at dksX3_sheet_4 16 rfl rfl)
theorem dX3_sheet_112 : decode cX3_sheet 112 = .ok (.iastore, 1) := dk_79 (dk_at dksX3_sheet_4 19 rfl rfl)
theorem dX3_sheet_113 : decode cX3_sheet 113 = .ok (.iload 5, 2) := dk_21 5 (dk_at dksX3_sheet_4 20 rfl rfl)
theorem dX3_sheet_115 : decode cX3_sheet 115 = .ok (.aload_n 0, 1) := dk_42 (dk_at dksX3_sheet_4 22 rfl rfl)
theorem dX3_sheet_116 : decode cX3_sheet 116 = .ok (.getfield 9, 3) := dk_180 0 9 (dk_at dksX3_sheet_5 0 rfl rfl)
theorem dX3_sheet_119 : decode cX3_sheet 119 = .ok (.iload 7, 2) := dk_21 7 (dk_at dksX3_sheet_5 3 rfl rfl)
theorem dX3_sheet_121 : decode cX3_sheet 121 = .ok (.iaload, 1) := dk_46 (dk_at dksX3_sheet_5 5 rfl rfl)
theorem dX3_sheet_122 : decode cX3_sheet 122 = .ok (.iadd, 1) := dk_96 (dk_at dksX3_sheet_5 6 rfl rfl)
theorem dX3_sheet_123 : decode cX3_sheet 123 = .ok (.istore 5, 2) := dk_54 5 (dk_at dksX3_sheet_5 7 rfl rfl)
theorem dX3_sheet_125 : decode cX3_sheet 125 = .ok (.iload 6, 2) := dk_21 6 (dk_at dksX3_sheet_5 9 rfl rfl)
theorem dX3_sheet_127 : decode cX3_sheet 127 = .ok (.iload 4, 2) := dk_21 4 (dk_at dksX3_sheet_5 11 rfl rfl)
theorem dX3_sheet_129 : decode cX3_sheet 129 = .ok (.iadd, 1) := dk_96 (dk_at dksX3_sheet_5 13 rfl rfl)
theorem dX3_sheet_130 : decode cX3_sheet 130 = .ok (.istore 6, 2) := dk_54 6 (dk_at dksX3_sheet_5 14 rfl rfl)
theorem dX3_sheet_132 : decode cX3_sheet 132 = .ok (.iinc 7 1, 3) := dk_132 7 1 (dk_at dksX3_sheet_5 16 rfl rfl)
theorem dX3_sheet_135 : decode cX3_sheet 135 = .ok (.goto (-92), 3) := dk_167 255 164 (dk_at dksX3_sheet_5 19 rfl rfl)
theorem dX3_sheet_138 : decode cX3_sheet 138 = .ok (.iload_n 1, 1) := dk_27 (dk_at dksX3_sheet_5 22 rfl rfl)
theorem dX3_sheet_139 : decode cX3_sheet 139 = .ok (.iconst 3, 1) := dk_6 (dk_at dksX3_sheet_5 23 rfl rfl)
theorem dX3_sheet_140 : decode cX3_sheet 140 = .ok (.if_icmp .ne 8, 3) := dk_160 0 8 (dk_at dksX3_sheet_6 0 rfl rfl)
theorem dX3_sheet_143 : decode cX3_sheet 143 = .ok (.bipush (-3), 2) := dk_16 253 (dk_at dksX3_sheet_6 3 rfl rfl)
theorem dX3_sheet_145 : decode cX3_sheet 145 = .ok (.goto 5, 3) := dk_167 0 5 (dk_at dksX3_sheet_6 5 rfl rfl)
theorem dX3_sheet_148 : decode cX3_sheet 148 = .ok (.iload 5, 2) := dk_21 5 (dk_at dksX3_sheet_6 8 rfl rfl)
theorem dX3_sheet_150 : decode cX3_sheet 150 = .ok (.ireturn, 1) := dk_172 (dk_at dksX3_sheet_6 10 rfl rfl)
abbrev cX3_above : ByteArray := prog_9_method_37_code
def yX3_above : MethodName := ⟨RX3, "above", "(I)I"⟩
def dkwX3_above_5 : List UInt8 := [42, 29, 182, 0, 230, 42, 21, 4, 182, 0, 230, 28, 172]
abbrev dktX3_above_5 : List UInt8 := dkwX3_above_5 ++ []
def dkwX3_above_4 : List UInt8 := [21, 6, 54, 4, 42, 180, 0, 9, 21, 6, 46, 54, 5, 132, 6, 1, 167, 255, 175, 42, 3, 181, 0, 91]
abbrev dktX3_above_4 : List UInt8 := dkwX3_above_4 ++ dktX3_above_5
def dkwX3_above_3 : List UInt8 := [180, 0, 9, 21, 6, 46, 96, 62, 42, 180, 0, 9, 21, 6, 46, 21, 5, 163, 0, 6, 167, 0, 16]
abbrev dktX3_above_3 : List UInt8 := dkwX3_above_3 ++ dktX3_above_4
def dkwX3_above_2 : List UInt8 := [42, 180, 0, 16, 21, 6, 46, 27, 159, 0, 6, 167, 0, 48, 28, 4, 21, 6, 120, 128, 61, 29, 42]
abbrev dktX3_above_2 : List UInt8 := dkwX3_above_2 ++ dktX3_above_3
def dkwX3_above_1 : List UInt8 := [54, 5, 3, 54, 6, 21, 6, 5, 42, 180, 0, 94, 104, 162, 0, 76, 21, 6, 5, 108, 27, 159, 0, 62]
abbrev dktX3_above_1 : List UInt8 := dkwX3_above_1 ++ dktX3_above_2
def dkwX3_above_0 : List UInt8 := [42, 3, 181, 0, 87, 42, 27, 182, 0, 101, 154, 0, 5, 2, 172, 3, 61, 3, 62, 2, 54, 4, 3]
abbrev dktX3_above_0 : List UInt8 := dkwX3_above_0 ++ dktX3_above_1
theorem dksX3_above_0 : cX3_above.data.toList.drop 0 = dktX3_above_0 := by decide +kernel
theorem dksX3_above_1 : cX3_above.data.toList.drop 23 = dktX3_above_1 := dk_seg dksX3_above_0 23 rfl rfl
theorem dksX3_above_2 : cX3_above.data.toList.drop 47 = dktX3_above_2 := dk_seg dksX3_above_1 24 rfl rfl
theorem dksX3_above_3 : cX3_above.data.toList.drop 70 = dktX3_above_3 := dk_seg dksX3_above_2 23 rfl rfl
theorem dksX3_above_4 : cX3_above.data.toList.drop 93 = dktX3_above_4 := dk_seg dksX3_above_3 23 rfl rfl
theorem dksX3_above_5 : cX3_above.data.toList.drop 117 = dktX3_above_5 := dk_seg dksX3_above_4 24 rfl rfl
theorem dX3_above_0 : decode cX3_above 0 = .ok (.aload_n 0, 1) := dk_42 (dk_at dksX3_above_0 0 rfl rfl)
theorem dX3_above_1 : decode cX3_above 1 = .ok (.iconst 0, 1) := dk_3 (dk_at dksX3_above_0 1 rfl rfl)
theorem dX3_above_2 : decode cX3_above 2 = .ok (.putfield 87, 3) := dk_181 0 87 (dk_at dksX3_above_0 2 rfl rfl)
theorem dX3_above_5 : decode cX3_above 5 = .ok (.aload_n 0, 1) := dk_42 (dk_at dksX3_above_0 5 rfl rfl)
theorem dX3_above_6 : decode cX3_above 6 = .ok (.iload_n 1, 1) := dk_27 (dk_at dksX3_above_0 6 rfl rfl)
theorem dX3_above_7 : decode cX3_above 7 = .ok (.invokevirtual 101, 3) := dk_182 0 101 (dk_at dksX3_above_0 7 rfl rfl)
theorem dX3_above_10 : decode cX3_above 10 = .ok (.ifCond .ne 5, 3) := dk_154 0 5 (dk_at dksX3_above_0 10 rfl rfl)
theorem dX3_above_13 : decode cX3_above 13 = .ok (.iconst (-1), 1) := dk_2 (dk_at dksX3_above_0 13 rfl rfl)
theorem dX3_above_14 : decode cX3_above 14 = .ok (.ireturn, 1) := dk_172 (dk_at dksX3_above_0 14 rfl rfl)
theorem dX3_above_15 : decode cX3_above 15 = .ok (.iconst 0, 1) := dk_3 (dk_at dksX3_above_0 15 rfl rfl)
theorem dX3_above_16 : decode cX3_above 16 = .ok (.istore_n 2, 1) := dk_61 (dk_at dksX3_above_0 16 rfl rfl)
theorem dX3_above_17 : decode cX3_above 17 = .ok (.iconst 0, 1) := dk_3 (dk_at dksX3_above_0 17 rfl rfl)
theorem dX3_above_18 : decode cX3_above 18 = .ok (.istore_n 3, 1) := dk_62 (dk_at dksX3_above_0 18 rfl rfl)
theorem dX3_above_19 : decode cX3_above 19 = .ok (.iconst (-1), 1) := dk_2 (dk_at dksX3_above_0 19 rfl rfl)
theorem dX3_above_20 : decode cX3_above 20 = .ok (.istore 4, 2) := dk_54 4 (dk_at dksX3_above_0 20 rfl rfl)
theorem dX3_above_22 : decode cX3_above 22 = .ok (.iconst 0, 1) := dk_3 (dk_at dksX3_above_0 22 rfl rfl)
theorem dX3_above_23 : decode cX3_above 23 = .ok (.istore 5, 2) := dk_54 5 (dk_at dksX3_above_1 0 rfl rfl)
theorem dX3_above_25 : decode cX3_above 25 = .ok (.iconst 0, 1) := dk_3 (dk_at dksX3_above_1 2 rfl rfl)
theorem dX3_above_26 : decode cX3_above 26 = .ok (.istore 6, 2) := dk_54 6 (dk_at dksX3_above_1 3 rfl rfl)
theorem dX3_above_28 : decode cX3_above 28 = .ok (.iload 6, 2) := dk_21 6 (dk_at dksX3_above_1 5 rfl rfl)
theorem dX3_above_30 : decode cX3_above 30 = .ok (.iconst 2, 1) := dk_5 (dk_at dksX3_above_1 7 rfl rfl)
theorem dX3_above_31 : decode cX3_above 31 = .ok (.aload_n 0, 1) := dk_42 (dk_at dksX3_above_1 8 rfl rfl)
theorem dX3_above_32 : decode cX3_above 32 = .ok (.getfield 94, 3) := dk_180 0 94 (dk_at dksX3_above_1 9 rfl rfl)
theorem dX3_above_35 : decode cX3_above 35 = .ok (.imul, 1) := dk_104 (dk_at dksX3_above_1 12 rfl rfl)
theorem dX3_above_36 : decode cX3_above 36 = .ok (.if_icmp .ge 76, 3) := dk_162 0 76 (dk_at dksX3_above_1 13 rfl rfl)
theorem dX3_above_39 : decode cX3_above 39 = .ok (.iload 6, 2) := dk_21 6 (dk_at dksX3_above_1 16 rfl rfl)
theorem dX3_above_41 : decode cX3_above 41 = .ok (.iconst 2, 1) := dk_5 (dk_at dksX3_above_1 18 rfl rfl)
theorem dX3_above_42 : decode cX3_above 42 = .ok (.idiv, 1) := dk_108 (dk_at dksX3_above_1 19 rfl rfl)
theorem dX3_above_43 : decode cX3_above 43 = .ok (.iload_n 1, 1) := dk_27 (dk_at dksX3_above_1 20 rfl rfl)
theorem dX3_above_44 : decode cX3_above 44 = .ok (.if_icmp .eq 62, 3) := dk_159 0 62 (dk_at dksX3_above_1 21 rfl rfl)
theorem dX3_above_47 : decode cX3_above 47 = .ok (.aload_n 0, 1) := dk_42 (dk_at dksX3_above_2 0 rfl rfl)
theorem dX3_above_48 : decode cX3_above 48 = .ok (.getfield 16, 3) := dk_180 0 16 (dk_at dksX3_above_2 1 rfl rfl)
theorem dX3_above_51 : decode cX3_above 51 = .ok (.iload 6, 2) := dk_21 6 (dk_at dksX3_above_2 4 rfl rfl)
theorem dX3_above_53 : decode cX3_above 53 = .ok (.iaload, 1) := dk_46 (dk_at dksX3_above_2 6 rfl rfl)
theorem dX3_above_54 : decode cX3_above 54 = .ok (.iload_n 1, 1) := dk_27 (dk_at dksX3_above_2 7 rfl rfl)
theorem dX3_above_55 : decode cX3_above 55 = .ok (.if_icmp .eq 6, 3) := dk_159 0 6 (dk_at dksX3_above_2 8 rfl rfl)
theorem dX3_above_58 : decode cX3_above 58 = .ok (.goto 48, 3) := dk_167 0 48 (dk_at dksX3_above_2 11 rfl rfl)
theorem dX3_above_61 : decode cX3_above 61 = .ok (.iload_n 2, 1) := dk_28 (dk_at dksX3_above_2 14 rfl rfl)
theorem dX3_above_62 : decode cX3_above 62 = .ok (.iconst 1, 1) := dk_4 (dk_at dksX3_above_2 15 rfl rfl)
theorem dX3_above_63 : decode cX3_above 63 = .ok (.iload 6, 2) := dk_21 6 (dk_at dksX3_above_2 16 rfl rfl)
theorem dX3_above_65 : decode cX3_above 65 = .ok (.ishl, 1) := dk_120 (dk_at dksX3_above_2 18 rfl rfl)
theorem dX3_above_66 : decode cX3_above 66 = .ok (.ior, 1) := dk_128 (dk_at dksX3_above_2 19 rfl rfl)
theorem dX3_above_67 : decode cX3_above 67 = .ok (.istore_n 2, 1) := dk_61 (dk_at dksX3_above_2 20 rfl rfl)
theorem dX3_above_68 : decode cX3_above 68 = .ok (.iload_n 3, 1) := dk_29 (dk_at dksX3_above_2 21 rfl rfl)
theorem dX3_above_69 : decode cX3_above 69 = .ok (.aload_n 0, 1) := dk_42 (dk_at dksX3_above_2 22 rfl rfl)
theorem dX3_above_70 : decode cX3_above 70 = .ok (.getfield 9, 3) := dk_180 0 9 (dk_at dksX3_above_3 0 rfl rfl)
theorem dX3_above_73 : decode cX3_above 73 = .ok (.iload 6, 2) := dk_21 6 (dk_at dksX3_above_3 3 rfl rfl)
theorem dX3_above_75 : decode cX3_above 75 = .ok (.iaload, 1) := dk_46 (dk_at dksX3_above_3 5 rfl rfl)
theorem dX3_above_76 : decode cX3_above 76 = .ok (.iadd, 1) := dk_96 (dk_at dksX3_above_3 6 rfl rfl)
theorem dX3_above_77 : decode cX3_above 77 = .ok (.istore_n 3, 1) := dk_62 (dk_at dksX3_above_3 7 rfl rfl)
theorem dX3_above_78 : decode cX3_above 78 = .ok (.aload_n 0, 1) := dk_42 (dk_at dksX3_above_3 8 rfl rfl)
theorem dX3_above_79 : decode cX3_above 79 = .ok (.getfield 9, 3) := dk_180 0 9 (dk_at dksX3_above_3 9 rfl rfl)
theorem dX3_above_82 : decode cX3_above 82 = .ok (.iload 6, 2) := dk_21 6 (dk_at dksX3_above_3 12 rfl rfl)
theorem dX3_above_84 : decode cX3_above 84 = .ok (.iaload, 1) := dk_46 (dk_at dksX3_above_3 14 rfl rfl)
theorem dX3_above_85 : decode cX3_above 85 = .ok (.iload 5, 2) := dk_21 5 (dk_at dksX3_above_3 15 rfl rfl)
theorem dX3_above_87 : decode cX3_above 87 = .ok (.if_icmp .gt 6, 3) := dk_163 0 6 (dk_at dksX3_above_3 17 rfl rfl)
theorem dX3_above_90 : decode cX3_above 90 = .ok (.goto 16, 3) := dk_167 0 16 (dk_at dksX3_above_3 20 rfl rfl)
theorem dX3_above_93 : decode cX3_above 93 = .ok (.iload 6, 2) := dk_21 6 (dk_at dksX3_above_4 0 rfl rfl)
theorem dX3_above_95 : decode cX3_above 95 = .ok (.istore 4, 2) := dk_54 4 (dk_at dksX3_above_4 2 rfl rfl)
theorem dX3_above_97 : decode cX3_above 97 = .ok (.aload_n 0, 1) := dk_42 (dk_at dksX3_above_4 4 rfl rfl)
theorem dX3_above_98 : decode cX3_above 98 = .ok (.getfield 9, 3) := dk_180 0 9 (dk_at dksX3_above_4 5 rfl rfl)
theorem dX3_above_101 : decode cX3_above 101 = .ok (.iload 6, 2) := dk_21 6 (dk_at dksX3_above_4 8 rfl rfl)
theorem dX3_above_103 : decode cX3_above 103 = .ok (.iaload, 1) := dk_46 (dk_at dksX3_above_4 10 rfl rfl)
theorem dX3_above_104 : decode cX3_above 104 = .ok (.istore 5, 2) := dk_54 5 (dk_at dksX3_above_4 11 rfl rfl)
theorem dX3_above_106 : decode cX3_above 106 = .ok (.iinc 6 1, 3) := dk_132 6 1 (dk_at dksX3_above_4 13 rfl rfl)
theorem dX3_above_109 : decode cX3_above 109 = .ok (.goto (-81), 3) := dk_167 255 175 (dk_at dksX3_above_4 16 rfl rfl)
theorem dX3_above_112 : decode cX3_above 112 = .ok (.aload_n 0, 1) := dk_42 (dk_at dksX3_above_4 19 rfl rfl)
theorem dX3_above_113 : decode cX3_above 113 = .ok (.iconst 0, 1) := dk_3 (dk_at dksX3_above_4 20 rfl rfl)
theorem dX3_above_114 : decode cX3_above 114 = .ok (.putfield 91, 3) := dk_181 0 91 (dk_at dksX3_above_4 21 rfl rfl)
theorem dX3_above_117 : decode cX3_above 117 = .ok (.aload_n 0, 1) := dk_42 (dk_at dksX3_above_5 0 rfl rfl)
theorem dX3_above_118 : decode cX3_above 118 = .ok (.iload_n 3, 1) := dk_29 (dk_at dksX3_above_5 1 rfl rfl)
theorem dX3_above_119 : decode cX3_above 119 = .ok (.invokevirtual 230, 3) := dk_182 0 230 (dk_at dksX3_above_5 2 rfl rfl)
theorem dX3_above_122 : decode cX3_above 122 = .ok (.aload_n 0, 1) := dk_42 (dk_at dksX3_above_5 5 rfl rfl)
theorem dX3_above_123 : decode cX3_above 123 = .ok (.iload 4, 2) := dk_21 4 (dk_at dksX3_above_5 6 rfl rfl)
theorem dX3_above_125 : decode cX3_above 125 = .ok (.invokevirtual 230, 3) := dk_182 0 230 (dk_at dksX3_above_5 8 rfl rfl)
theorem dX3_above_128 : decode cX3_above 128 = .ok (.iload_n 2, 1) := dk_28 (dk_at dksX3_above_5 11 rfl rfl)
theorem dX3_above_129 : decode cX3_above 129 = .ok (.ireturn, 1) := dk_172 (dk_at dksX3_above_5 12 rfl rfl)
abbrev cX3_tell : ByteArray := prog_9_method_6_code
def yX3_tell : MethodName := ⟨RX3, "tell", "(I)V"⟩
def dkwX3_tell_0 : List UInt8 := [42, 180, 0, 29, 42, 180, 0, 91, 27, 79, 42, 89, 180, 0, 91, 4, 96, 181, 0, 91, 177]
abbrev dktX3_tell_0 : List UInt8 := dkwX3_tell_0 ++ []
theorem dksX3_tell_0 : cX3_tell.data.toList.drop 0 = dktX3_tell_0 := by decide +kernel
theorem dX3_tell_0 : decode cX3_tell 0 = .ok (.aload_n 0, 1) := dk_42 (dk_at dksX3_tell_0 0 rfl rfl)
theorem dX3_tell_1 : decode cX3_tell 1 = .ok (.getfield 29, 3) := dk_180 0 29 (dk_at dksX3_tell_0 1 rfl rfl)
theorem dX3_tell_4 : decode cX3_tell 4 = .ok (.aload_n 0, 1) := dk_42 (dk_at dksX3_tell_0 4 rfl rfl)
theorem dX3_tell_5 : decode cX3_tell 5 = .ok (.getfield 91, 3) := dk_180 0 91 (dk_at dksX3_tell_0 5 rfl rfl)
theorem dX3_tell_8 : decode cX3_tell 8 = .ok (.iload_n 1, 1) := dk_27 (dk_at dksX3_tell_0 8 rfl rfl)
theorem dX3_tell_9 : decode cX3_tell 9 = .ok (.iastore, 1) := dk_79 (dk_at dksX3_tell_0 9 rfl rfl)
theorem dX3_tell_10 : decode cX3_tell 10 = .ok (.aload_n 0, 1) := dk_42 (dk_at dksX3_tell_0 10 rfl rfl)
theorem dX3_tell_11 : decode cX3_tell 11 = .ok (.dup, 1) := dk_89 (dk_at dksX3_tell_0 11 rfl rfl)
theorem dX3_tell_12 : decode cX3_tell 12 = .ok (.getfield 91, 3) := dk_180 0 91 (dk_at dksX3_tell_0 12 rfl rfl)
theorem dX3_tell_15 : decode cX3_tell 15 = .ok (.iconst 1, 1) := dk_4 (dk_at dksX3_tell_0 15 rfl rfl)
theorem dX3_tell_16 : decode cX3_tell 16 = .ok (.iadd, 1) := dk_96 (dk_at dksX3_tell_0 16 rfl rfl)
theorem dX3_tell_17 : decode cX3_tell 17 = .ok (.putfield 91, 3) := dk_181 0 91 (dk_at dksX3_tell_0 17 rfl rfl)
theorem dX3_tell_20 : decode cX3_tell 20 = .ok (.return_, 1) := dk_177 (dk_at dksX3_tell_0 20 rfl rfl)
abbrev cX3_debt : ByteArray := prog_9_method_38_code
def yX3_debt : MethodName := ⟨RX3, "debt", "(II)I"⟩
def dkwX3_debt_1 : List UInt8 := [96, 28, 96, 46, 167, 0, 4, 2, 172]
abbrev dktX3_debt_1 : List UInt8 := dkwX3_debt_1 ++ []
def dkwX3_debt_0 : List UInt8 := [42, 3, 181, 0, 87, 42, 27, 28, 182, 0, 233, 153, 0, 20, 42, 180, 0, 9, 16, 21, 16, 7, 27, 104]
abbrev dktX3_debt_0 : List UInt8 := dkwX3_debt_0 ++ dktX3_debt_1
theorem dksX3_debt_0 : cX3_debt.data.toList.drop 0 = dktX3_debt_0 := by decide +kernel
theorem dksX3_debt_1 : cX3_debt.data.toList.drop 24 = dktX3_debt_1 := dk_seg dksX3_debt_0 24 rfl rfl
theorem dX3_debt_0 : decode cX3_debt 0 = .ok (.aload_n 0, 1) := dk_42 (dk_at dksX3_debt_0 0 rfl rfl)
theorem dX3_debt_1 : decode cX3_debt 1 = .ok (.iconst 0, 1) := dk_3 (dk_at dksX3_debt_0 1 rfl rfl)
theorem dX3_debt_2 : decode cX3_debt 2 = .ok (.putfield 87, 3) := dk_181 0 87 (dk_at dksX3_debt_0 2 rfl rfl)
theorem dX3_debt_5 : decode cX3_debt 5 = .ok (.aload_n 0, 1) := dk_42 (dk_at dksX3_debt_0 5 rfl rfl)
theorem dX3_debt_6 : decode cX3_debt 6 = .ok (.iload_n 1, 1) := dk_27 (dk_at dksX3_debt_0 6 rfl rfl)
theorem dX3_debt_7 : decode cX3_debt 7 = .ok (.iload_n 2, 1) := dk_28 (dk_at dksX3_debt_0 7 rfl rfl)
theorem dX3_debt_8 : decode cX3_debt 8 = .ok (.invokevirtual 233, 3) := dk_182 0 233 (dk_at dksX3_debt_0 8 rfl rfl)
theorem dX3_debt_11 : decode cX3_debt 11 = .ok (.ifCond .eq 20, 3) := dk_153 0 20 (dk_at dksX3_debt_0 11 rfl rfl)
theorem dX3_debt_14 : decode cX3_debt 14 = .ok (.aload_n 0, 1) := dk_42 (dk_at dksX3_debt_0 14 rfl rfl)
theorem dX3_debt_15 : decode cX3_debt 15 = .ok (.getfield 9, 3) := dk_180 0 9 (dk_at dksX3_debt_0 15 rfl rfl)
theorem dX3_debt_18 : decode cX3_debt 18 = .ok (.bipush 21, 2) := dk_16 21 (dk_at dksX3_debt_0 18 rfl rfl)
theorem dX3_debt_20 : decode cX3_debt 20 = .ok (.bipush 7, 2) := dk_16 7 (dk_at dksX3_debt_0 20 rfl rfl)
theorem dX3_debt_22 : decode cX3_debt 22 = .ok (.iload_n 1, 1) := dk_27 (dk_at dksX3_debt_0 22 rfl rfl)
theorem dX3_debt_23 : decode cX3_debt 23 = .ok (.imul, 1) := dk_104 (dk_at dksX3_debt_0 23 rfl rfl)
theorem dX3_debt_24 : decode cX3_debt 24 = .ok (.iadd, 1) := dk_96 (dk_at dksX3_debt_1 0 rfl rfl)
theorem dX3_debt_25 : decode cX3_debt 25 = .ok (.iload_n 2, 1) := dk_28 (dk_at dksX3_debt_1 1 rfl rfl)
theorem dX3_debt_26 : decode cX3_debt 26 = .ok (.iadd, 1) := dk_96 (dk_at dksX3_debt_1 2 rfl rfl)
theorem dX3_debt_27 : decode cX3_debt 27 = .ok (.iaload, 1) := dk_46 (dk_at dksX3_debt_1 3 rfl rfl)
theorem dX3_debt_28 : decode cX3_debt 28 = .ok (.goto 4, 3) := dk_167 0 4 (dk_at dksX3_debt_1 4 rfl rfl)
theorem dX3_debt_31 : decode cX3_debt 31 = .ok (.iconst (-1), 1) := dk_2 (dk_at dksX3_debt_1 7 rfl rfl)
theorem dX3_debt_32 : decode cX3_debt 32 = .ok (.ireturn, 1) := dk_172 (dk_at dksX3_debt_1 8 rfl rfl)
abbrev cX3_areTwo : ByteArray := prog_9_method_8_code
def yX3_areTwo : MethodName := ⟨RX3, "areTwo", "(II)Z"⟩
def dkwX3_areTwo_1 : List UInt8 := [167, 0, 4, 3, 172]
abbrev dktX3_areTwo_1 : List UInt8 := dkwX3_areTwo_1 ++ []
def dkwX3_areTwo_0 : List UInt8 := [42, 27, 182, 0, 101, 153, 0, 20, 42, 28, 182, 0, 101, 153, 0, 12, 27, 28, 159, 0, 7, 4]
abbrev dktX3_areTwo_0 : List UInt8 := dkwX3_areTwo_0 ++ dktX3_areTwo_1
theorem dksX3_areTwo_0 : cX3_areTwo.data.toList.drop 0 = dktX3_areTwo_0 := by decide +kernel
theorem dksX3_areTwo_1 : cX3_areTwo.data.toList.drop 22 = dktX3_areTwo_1 := dk_seg dksX3_areTwo_0 22 rfl rfl
theorem dX3_areTwo_0 : decode cX3_areTwo 0 = .ok (.aload_n 0, 1) := dk_42 (dk_at dksX3_areTwo_0 0 rfl rfl)
theorem dX3_areTwo_1 : decode cX3_areTwo 1 = .ok (.iload_n 1, 1) := dk_27 (dk_at dksX3_areTwo_0 1 rfl rfl)
theorem dX3_areTwo_2 : decode cX3_areTwo 2 = .ok (.invokevirtual 101, 3) := dk_182 0 101 (dk_at dksX3_areTwo_0 2 rfl rfl)
theorem dX3_areTwo_5 : decode cX3_areTwo 5 = .ok (.ifCond .eq 20, 3) := dk_153 0 20 (dk_at dksX3_areTwo_0 5 rfl rfl)
theorem dX3_areTwo_8 : decode cX3_areTwo 8 = .ok (.aload_n 0, 1) := dk_42 (dk_at dksX3_areTwo_0 8 rfl rfl)
theorem dX3_areTwo_9 : decode cX3_areTwo 9 = .ok (.iload_n 2, 1) := dk_28 (dk_at dksX3_areTwo_0 9 rfl rfl)
theorem dX3_areTwo_10 : decode cX3_areTwo 10 = .ok (.invokevirtual 101, 3) := dk_182 0 101 (dk_at dksX3_areTwo_0 10 rfl rfl)
theorem dX3_areTwo_13 : decode cX3_areTwo 13 = .ok (.ifCond .eq 12, 3) := dk_153 0 12 (dk_at dksX3_areTwo_0 13 rfl rfl)
theorem dX3_areTwo_16 : decode cX3_areTwo 16 = .ok (.iload_n 1, 1) := dk_27 (dk_at dksX3_areTwo_0 16 rfl rfl)
theorem dX3_areTwo_17 : decode cX3_areTwo 17 = .ok (.iload_n 2, 1) := dk_28 (dk_at dksX3_areTwo_0 17 rfl rfl)
theorem dX3_areTwo_18 : decode cX3_areTwo 18 = .ok (.if_icmp .eq 7, 3) := dk_159 0 7 (dk_at dksX3_areTwo_0 18 rfl rfl)
theorem dX3_areTwo_21 : decode cX3_areTwo 21 = .ok (.iconst 1, 1) := dk_4 (dk_at dksX3_areTwo_0 21 rfl rfl)
theorem dX3_areTwo_22 : decode cX3_areTwo 22 = .ok (.goto 4, 3) := dk_167 0 4 (dk_at dksX3_areTwo_1 0 rfl rfl)
theorem dX3_areTwo_25 : decode cX3_areTwo 25 = .ok (.iconst 0, 1) := dk_3 (dk_at dksX3_areTwo_1 3 rfl rfl)
theorem dX3_areTwo_26 : decode cX3_areTwo 26 = .ok (.ireturn, 1) := dk_172 (dk_at dksX3_areTwo_1 4 rfl rfl)
abbrev cX3_day : ByteArray := prog_9_method_46_code
def yX3_day : MethodName := ⟨RX3, "day", "()I"⟩
def dkwX3_day_0 : List UInt8 := [42, 3, 181, 0, 87, 42, 42, 180, 0, 9, 182, 1, 12, 42, 4, 182, 1, 15, 172]
abbrev dktX3_day_0 : List UInt8 := dkwX3_day_0 ++ []
theorem dksX3_day_0 : cX3_day.data.toList.drop 0 = dktX3_day_0 := by decide +kernel
theorem dX3_day_0 : decode cX3_day 0 = .ok (.aload_n 0, 1) := dk_42 (dk_at dksX3_day_0 0 rfl rfl)
theorem dX3_day_1 : decode cX3_day 1 = .ok (.iconst 0, 1) := dk_3 (dk_at dksX3_day_0 1 rfl rfl)
theorem dX3_day_2 : decode cX3_day 2 = .ok (.putfield 87, 3) := dk_181 0 87 (dk_at dksX3_day_0 2 rfl rfl)
theorem dX3_day_5 : decode cX3_day 5 = .ok (.aload_n 0, 1) := dk_42 (dk_at dksX3_day_0 5 rfl rfl)
theorem dX3_day_6 : decode cX3_day 6 = .ok (.aload_n 0, 1) := dk_42 (dk_at dksX3_day_0 6 rfl rfl)
theorem dX3_day_7 : decode cX3_day 7 = .ok (.getfield 9, 3) := dk_180 0 9 (dk_at dksX3_day_0 7 rfl rfl)
theorem dX3_day_10 : decode cX3_day 10 = .ok (.invokevirtual 268, 3) := dk_182 1 12 (dk_at dksX3_day_0 10 rfl rfl)
theorem dX3_day_13 : decode cX3_day 13 = .ok (.aload_n 0, 1) := dk_42 (dk_at dksX3_day_0 13 rfl rfl)
theorem dX3_day_14 : decode cX3_day 14 = .ok (.iconst 1, 1) := dk_4 (dk_at dksX3_day_0 14 rfl rfl)
theorem dX3_day_15 : decode cX3_day 15 = .ok (.invokevirtual 271, 3) := dk_182 1 15 (dk_at dksX3_day_0 15 rfl rfl)
theorem dX3_day_18 : decode cX3_day 18 = .ok (.ireturn, 1) := dk_172 (dk_at dksX3_day_0 18 rfl rfl)
abbrev cX3_remember : ByteArray := prog_9_method_43_code
def yX3_remember : MethodName := ⟨RX3, "remember", "([I)V"⟩
def dkwX3_remember_3 : List UInt8 := [96, 181, 0, 151, 177]
abbrev dktX3_remember_3 : List UInt8 := dkwX3_remember_3 ++ []
def dkwX3_remember_2 : List UInt8 := [181, 0, 151, 43, 42, 180, 0, 41, 16, 71, 42, 180, 0, 151, 104, 184, 0, 253, 42, 89, 180, 0, 151, 4]
abbrev dktX3_remember_2 : List UInt8 := dkwX3_remember_2 ++ dktX3_remember_3
def dkwX3_remember_1 : List UInt8 := [180, 0, 41, 28, 16, 71, 96, 46, 79, 132, 2, 1, 167, 255, 231, 42, 89, 180, 0, 151, 4, 100]
abbrev dktX3_remember_1 : List UInt8 := dkwX3_remember_1 ++ dktX3_remember_2
def dkwX3_remember_0 : List UInt8 := [42, 180, 0, 151, 16, 12, 160, 0, 43, 3, 61, 28, 17, 3, 13, 162, 0, 24, 42, 180, 0, 41, 28, 42]
abbrev dktX3_remember_0 : List UInt8 := dkwX3_remember_0 ++ dktX3_remember_1
theorem dksX3_remember_0 : cX3_remember.data.toList.drop 0 = dktX3_remember_0 := by decide +kernel
theorem dksX3_remember_1 : cX3_remember.data.toList.drop 24 = dktX3_remember_1 := dk_seg dksX3_remember_0 24 rfl rfl
theorem dksX3_remember_2 : cX3_remember.data.toList.drop 46 = dktX3_remember_2 := dk_seg dksX3_remember_1 22 rfl rfl
theorem dksX3_remember_3 : cX3_remember.data.toList.drop 70 = dktX3_remember_3 := dk_seg dksX3_remember_2 24 rfl rfl
theorem dX3_remember_0 : decode cX3_remember 0 = .ok (.aload_n 0, 1) := dk_42 (dk_at dksX3_remember_0 0 rfl rfl)
theorem dX3_remember_1 : decode cX3_remember 1 = .ok (.getfield 151, 3) := dk_180 0 151 (dk_at dksX3_remember_0 1 rfl rfl)
theorem dX3_remember_4 : decode cX3_remember 4 = .ok (.bipush 12, 2) := dk_16 12 (dk_at dksX3_remember_0 4 rfl rfl)
theorem dX3_remember_6 : decode cX3_remember 6 = .ok (.if_icmp .ne 43, 3) := dk_160 0 43 (dk_at dksX3_remember_0 6 rfl rfl)
theorem dX3_remember_9 : decode cX3_remember 9 = .ok (.iconst 0, 1) := dk_3 (dk_at dksX3_remember_0 9 rfl rfl)
theorem dX3_remember_10 : decode cX3_remember 10 = .ok (.istore_n 2, 1) := dk_61 (dk_at dksX3_remember_0 10 rfl rfl)
theorem dX3_remember_11 : decode cX3_remember 11 = .ok (.iload_n 2, 1) := dk_28 (dk_at dksX3_remember_0 11 rfl rfl)
theorem dX3_remember_12 : decode cX3_remember 12 = .ok (.sipush 781, 3) := dk_17 3 13 (dk_at dksX3_remember_0 12 rfl rfl)
theorem dX3_remember_15 : decode cX3_remember 15 = .ok (.if_icmp .ge 24, 3) := dk_162 0 24 (dk_at dksX3_remember_0 15 rfl rfl)
theorem dX3_remember_18 : decode cX3_remember 18 = .ok (.aload_n 0, 1) := dk_42 (dk_at dksX3_remember_0 18 rfl rfl)
theorem dX3_remember_19 : decode cX3_remember 19 = .ok (.getfield 41, 3) := dk_180 0 41 (dk_at dksX3_remember_0 19 rfl rfl)
theorem dX3_remember_22 : decode cX3_remember 22 = .ok (.iload_n 2, 1) := dk_28 (dk_at dksX3_remember_0 22 rfl rfl)
theorem dX3_remember_23 : decode cX3_remember 23 = .ok (.aload_n 0, 1) := dk_42 (dk_at dksX3_remember_0 23 rfl rfl)
theorem dX3_remember_24 : decode cX3_remember 24 = .ok (.getfield 41, 3) := dk_180 0 41 (dk_at dksX3_remember_1 0 rfl rfl)
theorem dX3_remember_27 : decode cX3_remember 27 = .ok (.iload_n 2, 1) := dk_28 (dk_at dksX3_remember_1 3 rfl rfl)
theorem dX3_remember_28 : decode cX3_remember 28 = .ok (.bipush 71, 2) := dk_16 71 (dk_at dksX3_remember_1 4 rfl rfl)
theorem dX3_remember_30 : decode cX3_remember 30 = .ok (.iadd, 1) := dk_96 (dk_at dksX3_remember_1 6 rfl rfl)
theorem dX3_remember_31 : decode cX3_remember 31 = .ok (.iaload, 1) := dk_46 (dk_at dksX3_remember_1 7 rfl rfl)
theorem dX3_remember_32 : decode cX3_remember 32 = .ok (.iastore, 1) := dk_79 (dk_at dksX3_remember_1 8 rfl rfl)
theorem dX3_remember_33 : decode cX3_remember 33 = .ok (.iinc 2 1, 3) := dk_132 2 1 (dk_at dksX3_remember_1 9 rfl rfl)
theorem dX3_remember_36 : decode cX3_remember 36 = .ok (.goto (-25), 3) := dk_167 255 231 (dk_at dksX3_remember_1 12 rfl rfl)
theorem dX3_remember_39 : decode cX3_remember 39 = .ok (.aload_n 0, 1) := dk_42 (dk_at dksX3_remember_1 15 rfl rfl)
theorem dX3_remember_40 : decode cX3_remember 40 = .ok (.dup, 1) := dk_89 (dk_at dksX3_remember_1 16 rfl rfl)
theorem dX3_remember_41 : decode cX3_remember 41 = .ok (.getfield 151, 3) := dk_180 0 151 (dk_at dksX3_remember_1 17 rfl rfl)
theorem dX3_remember_44 : decode cX3_remember 44 = .ok (.iconst 1, 1) := dk_4 (dk_at dksX3_remember_1 20 rfl rfl)
theorem dX3_remember_45 : decode cX3_remember 45 = .ok (.isub, 1) := dk_100 (dk_at dksX3_remember_1 21 rfl rfl)
theorem dX3_remember_46 : decode cX3_remember 46 = .ok (.putfield 151, 3) := dk_181 0 151 (dk_at dksX3_remember_2 0 rfl rfl)
theorem dX3_remember_49 : decode cX3_remember 49 = .ok (.aload_n 1, 1) := dk_43 (dk_at dksX3_remember_2 3 rfl rfl)
theorem dX3_remember_50 : decode cX3_remember 50 = .ok (.aload_n 0, 1) := dk_42 (dk_at dksX3_remember_2 4 rfl rfl)
theorem dX3_remember_51 : decode cX3_remember 51 = .ok (.getfield 41, 3) := dk_180 0 41 (dk_at dksX3_remember_2 5 rfl rfl)
theorem dX3_remember_54 : decode cX3_remember 54 = .ok (.bipush 71, 2) := dk_16 71 (dk_at dksX3_remember_2 8 rfl rfl)
theorem dX3_remember_56 : decode cX3_remember 56 = .ok (.aload_n 0, 1) := dk_42 (dk_at dksX3_remember_2 10 rfl rfl)
theorem dX3_remember_57 : decode cX3_remember 57 = .ok (.getfield 151, 3) := dk_180 0 151 (dk_at dksX3_remember_2 11 rfl rfl)
theorem dX3_remember_60 : decode cX3_remember 60 = .ok (.imul, 1) := dk_104 (dk_at dksX3_remember_2 14 rfl rfl)
theorem dX3_remember_61 : decode cX3_remember 61 = .ok (.invokestatic 253, 3) := dk_184 0 253 (dk_at dksX3_remember_2 15 rfl rfl)
theorem dX3_remember_64 : decode cX3_remember 64 = .ok (.aload_n 0, 1) := dk_42 (dk_at dksX3_remember_2 18 rfl rfl)
theorem dX3_remember_65 : decode cX3_remember 65 = .ok (.dup, 1) := dk_89 (dk_at dksX3_remember_2 19 rfl rfl)
theorem dX3_remember_66 : decode cX3_remember 66 = .ok (.getfield 151, 3) := dk_180 0 151 (dk_at dksX3_remember_2 20 rfl rfl)
theorem dX3_remember_69 : decode cX3_remember 69 = .ok (.iconst 1, 1) := dk_4 (dk_at dksX3_remember_2 23 rfl rfl)
theorem dX3_remember_70 : decode cX3_remember 70 = .ok (.iadd, 1) := dk_96 (dk_at dksX3_remember_3 0 rfl rfl)
theorem dX3_remember_71 : decode cX3_remember 71 = .ok (.putfield 151, 3) := dk_181 0 151 (dk_at dksX3_remember_3 1 rfl rfl)
theorem dX3_remember_74 : decode cX3_remember 74 = .ok (.return_, 1) := dk_177 (dk_at dksX3_remember_3 4 rfl rfl)
abbrev cX3_lay : ByteArray := prog_9_method_42_code
def yX3_lay : MethodName := ⟨RX3, "lay", "([I[II)V"⟩
def dkwX3_lay_0 : List UInt8 := [3, 62, 29, 16, 71, 162, 0, 17, 43, 28, 29, 96, 42, 29, 46, 79, 132, 3, 1, 167, 255, 239, 177]
abbrev dktX3_lay_0 : List UInt8 := dkwX3_lay_0 ++ []
theorem dksX3_lay_0 : cX3_lay.data.toList.drop 0 = dktX3_lay_0 := by decide +kernel
theorem dX3_lay_0 : decode cX3_lay 0 = .ok (.iconst 0, 1) := dk_3 (dk_at dksX3_lay_0 0 rfl rfl)
theorem dX3_lay_1 : decode cX3_lay 1 = .ok (.istore_n 3, 1) := dk_62 (dk_at dksX3_lay_0 1 rfl rfl)
theorem dX3_lay_2 : decode cX3_lay 2 = .ok (.iload_n 3, 1) := dk_29 (dk_at dksX3_lay_0 2 rfl rfl)
theorem dX3_lay_3 : decode cX3_lay 3 = .ok (.bipush 71, 2) := dk_16 71 (dk_at dksX3_lay_0 3 rfl rfl)
theorem dX3_lay_5 : decode cX3_lay 5 = .ok (.if_icmp .ge 17, 3) := dk_162 0 17 (dk_at dksX3_lay_0 5 rfl rfl)
theorem dX3_lay_8 : decode cX3_lay 8 = .ok (.aload_n 1, 1) := dk_43 (dk_at dksX3_lay_0 8 rfl rfl)
theorem dX3_lay_9 : decode cX3_lay 9 = .ok (.iload_n 2, 1) := dk_28 (dk_at dksX3_lay_0 9 rfl rfl)
theorem dX3_lay_10 : decode cX3_lay 10 = .ok (.iload_n 3, 1) := dk_29 (dk_at dksX3_lay_0 10 rfl rfl)
theorem dX3_lay_11 : decode cX3_lay 11 = .ok (.iadd, 1) := dk_96 (dk_at dksX3_lay_0 11 rfl rfl)
theorem dX3_lay_12 : decode cX3_lay 12 = .ok (.aload_n 0, 1) := dk_42 (dk_at dksX3_lay_0 12 rfl rfl)
theorem dX3_lay_13 : decode cX3_lay 13 = .ok (.iload_n 3, 1) := dk_29 (dk_at dksX3_lay_0 13 rfl rfl)
theorem dX3_lay_14 : decode cX3_lay 14 = .ok (.iaload, 1) := dk_46 (dk_at dksX3_lay_0 14 rfl rfl)
theorem dX3_lay_15 : decode cX3_lay 15 = .ok (.iastore, 1) := dk_79 (dk_at dksX3_lay_0 15 rfl rfl)
theorem dX3_lay_16 : decode cX3_lay 16 = .ok (.iinc 3 1, 3) := dk_132 3 1 (dk_at dksX3_lay_0 16 rfl rfl)
theorem dX3_lay_19 : decode cX3_lay 19 = .ok (.goto (-17), 3) := dk_167 255 239 (dk_at dksX3_lay_0 19 rfl rfl)
theorem dX3_lay_22 : decode cX3_lay 22 = .ok (.return_, 1) := dk_177 (dk_at dksX3_lay_0 22 rfl rfl)
abbrev cX3_tellDays : ByteArray := prog_9_method_45_code
def yX3_tellDays : MethodName := ⟨RX3, "tellDays", "(I)I"⟩
def dkwX3_tellDays_2 : List UInt8 := [182, 1, 8, 182, 0, 230, 42, 180, 0, 237, 172]
abbrev dktX3_tellDays_2 : List UInt8 := dkwX3_tellDays_2 ++ []
def dkwX3_tellDays_1 : List UInt8 := [167, 255, 240, 42, 3, 181, 0, 91, 42, 42, 180, 0, 240, 182, 0, 230, 42, 42, 42, 180, 0, 9]
abbrev dktX3_tellDays_1 : List UInt8 := dkwX3_tellDays_1 ++ dktX3_tellDays_2
def dkwX3_tellDays_0 : List UInt8 := [42, 182, 1, 1, 3, 61, 28, 27, 162, 0, 17, 42, 42, 180, 0, 9, 182, 1, 4, 132, 2, 1]
abbrev dktX3_tellDays_0 : List UInt8 := dkwX3_tellDays_0 ++ dktX3_tellDays_1
theorem dksX3_tellDays_0 : cX3_tellDays.data.toList.drop 0 = dktX3_tellDays_0 := by decide +kernel
theorem dksX3_tellDays_1 : cX3_tellDays.data.toList.drop 22 = dktX3_tellDays_1 := dk_seg dksX3_tellDays_0 22 rfl rfl
theorem dksX3_tellDays_2 : cX3_tellDays.data.toList.drop 44 = dktX3_tellDays_2 := dk_seg dksX3_tellDays_1 22 rfl rfl
theorem dX3_tellDays_0 : decode cX3_tellDays 0 = .ok (.aload_n 0, 1) := dk_42 (dk_at dksX3_tellDays_0 0 rfl rfl)
theorem dX3_tellDays_1 : decode cX3_tellDays 1 = .ok (.invokevirtual 257, 3) := dk_182 1 1 (dk_at dksX3_tellDays_0 1 rfl rfl)
theorem dX3_tellDays_4 : decode cX3_tellDays 4 = .ok (.iconst 0, 1) := dk_3 (dk_at dksX3_tellDays_0 4 rfl rfl)
theorem dX3_tellDays_5 : decode cX3_tellDays 5 = .ok (.istore_n 2, 1) := dk_61 (dk_at dksX3_tellDays_0 5 rfl rfl)
theorem dX3_tellDays_6 : decode cX3_tellDays 6 = .ok (.iload_n 2, 1) := dk_28 (dk_at dksX3_tellDays_0 6 rfl rfl)
theorem dX3_tellDays_7 : decode cX3_tellDays 7 = .ok (.iload_n 1, 1) := dk_27 (dk_at dksX3_tellDays_0 7 rfl rfl)
theorem dX3_tellDays_8 : decode cX3_tellDays 8 = .ok (.if_icmp .ge 17, 3) := dk_162 0 17 (dk_at dksX3_tellDays_0 8 rfl rfl)
theorem dX3_tellDays_11 : decode cX3_tellDays 11 = .ok (.aload_n 0, 1) := dk_42 (dk_at dksX3_tellDays_0 11 rfl rfl)
theorem dX3_tellDays_12 : decode cX3_tellDays 12 = .ok (.aload_n 0, 1) := dk_42 (dk_at dksX3_tellDays_0 12 rfl rfl)
theorem dX3_tellDays_13 : decode cX3_tellDays 13 = .ok (.getfield 9, 3) := dk_180 0 9 (dk_at dksX3_tellDays_0 13 rfl rfl)
theorem dX3_tellDays_16 : decode cX3_tellDays 16 = .ok (.invokevirtual 260, 3) := dk_182 1 4 (dk_at dksX3_tellDays_0 16 rfl rfl)
theorem dX3_tellDays_19 : decode cX3_tellDays 19 = .ok (.iinc 2 1, 3) := dk_132 2 1 (dk_at dksX3_tellDays_0 19 rfl rfl)
theorem dX3_tellDays_22 : decode cX3_tellDays 22 = .ok (.goto (-16), 3) := dk_167 255 240 (dk_at dksX3_tellDays_1 0 rfl rfl)
theorem dX3_tellDays_25 : decode cX3_tellDays 25 = .ok (.aload_n 0, 1) := dk_42 (dk_at dksX3_tellDays_1 3 rfl rfl)
theorem dX3_tellDays_26 : decode cX3_tellDays 26 = .ok (.iconst 0, 1) := dk_3 (dk_at dksX3_tellDays_1 4 rfl rfl)
theorem dX3_tellDays_27 : decode cX3_tellDays 27 = .ok (.putfield 91, 3) := dk_181 0 91 (dk_at dksX3_tellDays_1 5 rfl rfl)
theorem dX3_tellDays_30 : decode cX3_tellDays 30 = .ok (.aload_n 0, 1) := dk_42 (dk_at dksX3_tellDays_1 8 rfl rfl)
theorem dX3_tellDays_31 : decode cX3_tellDays 31 = .ok (.aload_n 0, 1) := dk_42 (dk_at dksX3_tellDays_1 9 rfl rfl)
theorem dX3_tellDays_32 : decode cX3_tellDays 32 = .ok (.getfield 240, 3) := dk_180 0 240 (dk_at dksX3_tellDays_1 10 rfl rfl)
theorem dX3_tellDays_35 : decode cX3_tellDays 35 = .ok (.invokevirtual 230, 3) := dk_182 0 230 (dk_at dksX3_tellDays_1 13 rfl rfl)
theorem dX3_tellDays_38 : decode cX3_tellDays 38 = .ok (.aload_n 0, 1) := dk_42 (dk_at dksX3_tellDays_1 16 rfl rfl)
theorem dX3_tellDays_39 : decode cX3_tellDays 39 = .ok (.aload_n 0, 1) := dk_42 (dk_at dksX3_tellDays_1 17 rfl rfl)
theorem dX3_tellDays_40 : decode cX3_tellDays 40 = .ok (.aload_n 0, 1) := dk_42 (dk_at dksX3_tellDays_1 18 rfl rfl)
theorem dX3_tellDays_41 : decode cX3_tellDays 41 = .ok (.getfield 9, 3) := dk_180 0 9 (dk_at dksX3_tellDays_1 19 rfl rfl)
theorem dX3_tellDays_44 : decode cX3_tellDays 44 = .ok (.invokevirtual 264, 3) := dk_182 1 8 (dk_at dksX3_tellDays_2 0 rfl rfl)
theorem dX3_tellDays_47 : decode cX3_tellDays 47 = .ok (.invokevirtual 230, 3) := dk_182 0 230 (dk_at dksX3_tellDays_2 3 rfl rfl)
theorem dX3_tellDays_50 : decode cX3_tellDays 50 = .ok (.aload_n 0, 1) := dk_42 (dk_at dksX3_tellDays_2 6 rfl rfl)
theorem dX3_tellDays_51 : decode cX3_tellDays 51 = .ok (.getfield 237, 3) := dk_180 0 237 (dk_at dksX3_tellDays_2 7 rfl rfl)
theorem dX3_tellDays_54 : decode cX3_tellDays 54 = .ok (.ireturn, 1) := dk_172 (dk_at dksX3_tellDays_2 10 rfl rfl)
abbrev cX3_beginCount : ByteArray := prog_9_method_39_code
def yX3_beginCount : MethodName := ⟨RX3, "beginCount", "()V"⟩
def dkwX3_beginCount_1 : List UInt8 := [180, 0, 38, 27, 3, 79, 132, 1, 1, 167, 255, 240, 177]
abbrev dktX3_beginCount_1 : List UInt8 := dkwX3_beginCount_1 ++ []
def dkwX3_beginCount_0 : List UInt8 := [42, 3, 181, 0, 237, 42, 3, 181, 0, 240, 42, 3, 181, 0, 243, 3, 60, 27, 16, 7, 162, 0, 16, 42]
abbrev dktX3_beginCount_0 : List UInt8 := dkwX3_beginCount_0 ++ dktX3_beginCount_1
theorem dksX3_beginCount_0 : cX3_beginCount.data.toList.drop 0 = dktX3_beginCount_0 := by decide +kernel
theorem dksX3_beginCount_1 : cX3_beginCount.data.toList.drop 24 = dktX3_beginCount_1 := dk_seg dksX3_beginCount_0 24 rfl rfl
theorem dX3_beginCount_0 : decode cX3_beginCount 0 = .ok (.aload_n 0, 1) := dk_42 (dk_at dksX3_beginCount_0 0 rfl rfl)
theorem dX3_beginCount_1 : decode cX3_beginCount 1 = .ok (.iconst 0, 1) := dk_3 (dk_at dksX3_beginCount_0 1 rfl rfl)
theorem dX3_beginCount_2 : decode cX3_beginCount 2 = .ok (.putfield 237, 3) := dk_181 0 237 (dk_at dksX3_beginCount_0 2 rfl rfl)
theorem dX3_beginCount_5 : decode cX3_beginCount 5 = .ok (.aload_n 0, 1) := dk_42 (dk_at dksX3_beginCount_0 5 rfl rfl)
theorem dX3_beginCount_6 : decode cX3_beginCount 6 = .ok (.iconst 0, 1) := dk_3 (dk_at dksX3_beginCount_0 6 rfl rfl)
theorem dX3_beginCount_7 : decode cX3_beginCount 7 = .ok (.putfield 240, 3) := dk_181 0 240 (dk_at dksX3_beginCount_0 7 rfl rfl)
theorem dX3_beginCount_10 : decode cX3_beginCount 10 = .ok (.aload_n 0, 1) := dk_42 (dk_at dksX3_beginCount_0 10 rfl rfl)
theorem dX3_beginCount_11 : decode cX3_beginCount 11 = .ok (.iconst 0, 1) := dk_3 (dk_at dksX3_beginCount_0 11 rfl rfl)
theorem dX3_beginCount_12 : decode cX3_beginCount 12 = .ok (.putfield 243, 3) := dk_181 0 243 (dk_at dksX3_beginCount_0 12 rfl rfl)
theorem dX3_beginCount_15 : decode cX3_beginCount 15 = .ok (.iconst 0, 1) := dk_3 (dk_at dksX3_beginCount_0 15 rfl rfl)
theorem dX3_beginCount_16 : decode cX3_beginCount 16 = .ok (.istore_n 1, 1) := dk_60 (dk_at dksX3_beginCount_0 16 rfl rfl)
theorem dX3_beginCount_17 : decode cX3_beginCount 17 = .ok (.iload_n 1, 1) := dk_27 (dk_at dksX3_beginCount_0 17 rfl rfl)
theorem dX3_beginCount_18 : decode cX3_beginCount 18 = .ok (.bipush 7, 2) := dk_16 7 (dk_at dksX3_beginCount_0 18 rfl rfl)
theorem dX3_beginCount_20 : decode cX3_beginCount 20 = .ok (.if_icmp .ge 16, 3) := dk_162 0 16 (dk_at dksX3_beginCount_0 20 rfl rfl)
theorem dX3_beginCount_23 : decode cX3_beginCount 23 = .ok (.aload_n 0, 1) := dk_42 (dk_at dksX3_beginCount_0 23 rfl rfl)
theorem dX3_beginCount_24 : decode cX3_beginCount 24 = .ok (.getfield 38, 3) := dk_180 0 38 (dk_at dksX3_beginCount_1 0 rfl rfl)
theorem dX3_beginCount_27 : decode cX3_beginCount 27 = .ok (.iload_n 1, 1) := dk_27 (dk_at dksX3_beginCount_1 3 rfl rfl)
theorem dX3_beginCount_28 : decode cX3_beginCount 28 = .ok (.iconst 0, 1) := dk_3 (dk_at dksX3_beginCount_1 4 rfl rfl)
theorem dX3_beginCount_29 : decode cX3_beginCount 29 = .ok (.iastore, 1) := dk_79 (dk_at dksX3_beginCount_1 5 rfl rfl)
theorem dX3_beginCount_30 : decode cX3_beginCount 30 = .ok (.iinc 1 1, 3) := dk_132 1 1 (dk_at dksX3_beginCount_1 6 rfl rfl)
theorem dX3_beginCount_33 : decode cX3_beginCount 33 = .ok (.goto (-16), 3) := dk_167 255 240 (dk_at dksX3_beginCount_1 9 rfl rfl)
theorem dX3_beginCount_36 : decode cX3_beginCount 36 = .ok (.return_, 1) := dk_177 (dk_at dksX3_beginCount_1 12 rfl rfl)
abbrev cX3_goDay : ByteArray := prog_9_method_41_code
def yX3_goDay : MethodName := ⟨RX3, "goDay", "([I)V"⟩
def dkwX3_goDay_6 : List UInt8 := [16, 70, 92, 46, 4, 96, 79, 177]
abbrev dktX3_goDay_6 : List UInt8 := dkwX3_goDay_6 ++ []
def dkwX3_goDay_5 : List UInt8 := [184, 0, 165, 164, 0, 13, 42, 43, 29, 29, 5, 108, 3, 182, 0, 249, 132, 3, 1, 167, 255, 206, 43]
abbrev dktX3_goDay_5 : List UInt8 := dkwX3_goDay_5 ++ dktX3_goDay_6
def dkwX3_goDay_4 : List UInt8 := [162, 0, 46, 43, 29, 46, 3, 42, 180, 0, 13, 29, 5, 108, 46, 42, 43, 16, 70, 46, 182, 0, 199, 100]
abbrev dktX3_goDay_4 : List UInt8 := dkwX3_goDay_4 ++ dktX3_goDay_5
def dkwX3_goDay_3 : List UInt8 := [184, 0, 227, 184, 0, 165, 79, 132, 3, 1, 167, 255, 221, 3, 62, 29, 5, 42, 180, 0, 94, 104]
abbrev dktX3_goDay_3 : List UInt8 := dkwX3_goDay_3 ++ dktX3_goDay_4
def dkwX3_goDay_2 : List UInt8 := [42, 180, 0, 94, 162, 0, 33, 43, 16, 14, 29, 96, 3, 17, 3, 231, 43, 16, 14, 29, 96, 46, 28, 96]
abbrev dktX3_goDay_2 : List UInt8 := dkwX3_goDay_2 ++ dktX3_goDay_3
def dkwX3_goDay_1 : List UInt8 := [17, 3, 231, 43, 29, 46, 28, 96, 184, 0, 227, 184, 0, 165, 79, 132, 3, 1, 167, 255, 225, 3, 62, 29]
abbrev dktX3_goDay_1 : List UInt8 := dkwX3_goDay_1 ++ dktX3_goDay_2
def dkwX3_goDay_0 : List UInt8 := [42, 43, 16, 70, 46, 182, 0, 161, 61, 3, 62, 29, 5, 42, 180, 0, 94, 104, 162, 0, 27, 43, 29, 3]
abbrev dktX3_goDay_0 : List UInt8 := dkwX3_goDay_0 ++ dktX3_goDay_1
theorem dksX3_goDay_0 : cX3_goDay.data.toList.drop 0 = dktX3_goDay_0 := by decide +kernel
theorem dksX3_goDay_1 : cX3_goDay.data.toList.drop 24 = dktX3_goDay_1 := dk_seg dksX3_goDay_0 24 rfl rfl
theorem dksX3_goDay_2 : cX3_goDay.data.toList.drop 48 = dktX3_goDay_2 := dk_seg dksX3_goDay_1 24 rfl rfl
theorem dksX3_goDay_3 : cX3_goDay.data.toList.drop 72 = dktX3_goDay_3 := dk_seg dksX3_goDay_2 24 rfl rfl
theorem dksX3_goDay_4 : cX3_goDay.data.toList.drop 94 = dktX3_goDay_4 := dk_seg dksX3_goDay_3 22 rfl rfl
theorem dksX3_goDay_5 : cX3_goDay.data.toList.drop 118 = dktX3_goDay_5 := dk_seg dksX3_goDay_4 24 rfl rfl
theorem dksX3_goDay_6 : cX3_goDay.data.toList.drop 141 = dktX3_goDay_6 := dk_seg dksX3_goDay_5 23 rfl rfl
theorem dX3_goDay_0 : decode cX3_goDay 0 = .ok (.aload_n 0, 1) := dk_42 (dk_at dksX3_goDay_0 0 rfl rfl)
theorem dX3_goDay_1 : decode cX3_goDay 1 = .ok (.aload_n 1, 1) := dk_43 (dk_at dksX3_goDay_0 1 rfl rfl)
theorem dX3_goDay_2 : decode cX3_goDay 2 = .ok (.bipush 70, 2) := dk_16 70 (dk_at dksX3_goDay_0 2 rfl rfl)
theorem dX3_goDay_4 : decode cX3_goDay 4 = .ok (.iaload, 1) := dk_46 (dk_at dksX3_goDay_0 4 rfl rfl)
theorem dX3_goDay_5 : decode cX3_goDay 5 = .ok (.invokevirtual 161, 3) := dk_182 0 161 (dk_at dksX3_goDay_0 5 rfl rfl)
theorem dX3_goDay_8 : decode cX3_goDay 8 = .ok (.istore_n 2, 1) := dk_61 (dk_at dksX3_goDay_0 8 rfl rfl)
theorem dX3_goDay_9 : decode cX3_goDay 9 = .ok (.iconst 0, 1) := dk_3 (dk_at dksX3_goDay_0 9 rfl rfl)
theorem dX3_goDay_10 : decode cX3_goDay 10 = .ok (.istore_n 3, 1) := dk_62 (dk_at dksX3_goDay_0 10 rfl rfl)
theorem dX3_goDay_11 : decode cX3_goDay 11 = .ok (.iload_n 3, 1) := dk_29 (dk_at dksX3_goDay_0 11 rfl rfl)
theorem dX3_goDay_12 : decode cX3_goDay 12 = .ok (.iconst 2, 1) := dk_5 (dk_at dksX3_goDay_0 12 rfl rfl)
theorem dX3_goDay_13 : decode cX3_goDay 13 = .ok (.aload_n 0, 1) := dk_42 (dk_at dksX3_goDay_0 13 rfl rfl)
theorem dX3_goDay_14 : decode cX3_goDay 14 = .ok (.getfield 94, 3) := dk_180 0 94 (dk_at dksX3_goDay_0 14 rfl rfl)
theorem dX3_goDay_17 : decode cX3_goDay 17 = .ok (.imul, 1) := dk_104 (dk_at dksX3_goDay_0 17 rfl rfl)
theorem dX3_goDay_18 : decode cX3_goDay 18 = .ok (.if_icmp .ge 27, 3) := dk_162 0 27 (dk_at dksX3_goDay_0 18 rfl rfl)
theorem dX3_goDay_21 : decode cX3_goDay 21 = .ok (.aload_n 1, 1) := dk_43 (dk_at dksX3_goDay_0 21 rfl rfl)
theorem dX3_goDay_22 : decode cX3_goDay 22 = .ok (.iload_n 3, 1) := dk_29 (dk_at dksX3_goDay_0 22 rfl rfl)
theorem dX3_goDay_23 : decode cX3_goDay 23 = .ok (.iconst 0, 1) := dk_3 (dk_at dksX3_goDay_0 23 rfl rfl)
theorem dX3_goDay_24 : decode cX3_goDay 24 = .ok (.sipush 999, 3) := dk_17 3 231 (dk_at dksX3_goDay_1 0 rfl rfl)
theorem dX3_goDay_27 : decode cX3_goDay 27 = .ok (.aload_n 1, 1) := dk_43 (dk_at dksX3_goDay_1 3 rfl rfl)
theorem dX3_goDay_28 : decode cX3_goDay 28 = .ok (.iload_n 3, 1) := dk_29 (dk_at dksX3_goDay_1 4 rfl rfl)
theorem dX3_goDay_29 : decode cX3_goDay 29 = .ok (.iaload, 1) := dk_46 (dk_at dksX3_goDay_1 5 rfl rfl)
theorem dX3_goDay_30 : decode cX3_goDay 30 = .ok (.iload_n 2, 1) := dk_28 (dk_at dksX3_goDay_1 6 rfl rfl)
theorem dX3_goDay_31 : decode cX3_goDay 31 = .ok (.iadd, 1) := dk_96 (dk_at dksX3_goDay_1 7 rfl rfl)
theorem dX3_goDay_32 : decode cX3_goDay 32 = .ok (.invokestatic 227, 3) := dk_184 0 227 (dk_at dksX3_goDay_1 8 rfl rfl)
theorem dX3_goDay_35 : decode cX3_goDay 35 = .ok (.invokestatic 165, 3) := dk_184 0 165 (dk_at dksX3_goDay_1 11 rfl rfl)
theorem dX3_goDay_38 : decode cX3_goDay 38 = .ok (.iastore, 1) := dk_79 (dk_at dksX3_goDay_1 14 rfl rfl)
theorem dX3_goDay_39 : decode cX3_goDay 39 = .ok (.iinc 3 1, 3) := dk_132 3 1 (dk_at dksX3_goDay_1 15 rfl rfl)
theorem dX3_goDay_42 : decode cX3_goDay 42 = .ok (.goto (-31), 3) := dk_167 255 225 (dk_at dksX3_goDay_1 18 rfl rfl)
theorem dX3_goDay_45 : decode cX3_goDay 45 = .ok (.iconst 0, 1) := dk_3 (dk_at dksX3_goDay_1 21 rfl rfl)
theorem dX3_goDay_46 : decode cX3_goDay 46 = .ok (.istore_n 3, 1) := dk_62 (dk_at dksX3_goDay_1 22 rfl rfl)
theorem dX3_goDay_47 : decode cX3_goDay 47 = .ok (.iload_n 3, 1) := dk_29 (dk_at dksX3_goDay_1 23 rfl rfl)
theorem dX3_goDay_48 : decode cX3_goDay 48 = .ok (.aload_n 0, 1) := dk_42 (dk_at dksX3_goDay_2 0 rfl rfl)
theorem dX3_goDay_49 : decode cX3_goDay 49 = .ok (.getfield 94, 3) := dk_180 0 94 (dk_at dksX3_goDay_2 1 rfl rfl)
theorem dX3_goDay_52 : decode cX3_goDay 52 = .ok (.if_icmp .ge 33, 3) := dk_162 0 33 (dk_at dksX3_goDay_2 4 rfl rfl)
theorem dX3_goDay_55 : decode cX3_goDay 55 = .ok (.aload_n 1, 1) := dk_43 (dk_at dksX3_goDay_2 7 rfl rfl)
theorem dX3_goDay_56 : decode cX3_goDay 56 = .ok (.bipush 14, 2) := dk_16 14 (dk_at dksX3_goDay_2 8 rfl rfl)
theorem dX3_goDay_58 : decode cX3_goDay 58 = .ok (.iload_n 3, 1) := dk_29 (dk_at dksX3_goDay_2 10 rfl rfl)
theorem dX3_goDay_59 : decode cX3_goDay 59 = .ok (.iadd, 1) := dk_96 (dk_at dksX3_goDay_2 11 rfl rfl)
theorem dX3_goDay_60 : decode cX3_goDay 60 = .ok (.iconst 0, 1) := dk_3 (dk_at dksX3_goDay_2 12 rfl rfl)
theorem dX3_goDay_61 : decode cX3_goDay 61 = .ok (.sipush 999, 3) := dk_17 3 231 (dk_at dksX3_goDay_2 13 rfl rfl)
theorem dX3_goDay_64 : decode cX3_goDay 64 = .ok (.aload_n 1, 1) := dk_43 (dk_at dksX3_goDay_2 16 rfl rfl)
theorem dX3_goDay_65 : decode cX3_goDay 65 = .ok (.bipush 14, 2) := dk_16 14 (dk_at dksX3_goDay_2 17 rfl rfl)
theorem dX3_goDay_67 : decode cX3_goDay 67 = .ok (.iload_n 3, 1) := dk_29 (dk_at dksX3_goDay_2 19 rfl rfl)
theorem dX3_goDay_68 : decode cX3_goDay 68 = .ok (.iadd, 1) := dk_96 (dk_at dksX3_goDay_2 20 rfl rfl)
theorem dX3_goDay_69 : decode cX3_goDay 69 = .ok (.iaload, 1) := dk_46 (dk_at dksX3_goDay_2 21 rfl rfl)
theorem dX3_goDay_70 : decode cX3_goDay 70 = .ok (.iload_n 2, 1) := dk_28 (dk_at dksX3_goDay_2 22 rfl rfl)
theorem dX3_goDay_71 : decode cX3_goDay 71 = .ok (.iadd, 1) := dk_96 (dk_at dksX3_goDay_2 23 rfl rfl)
theorem dX3_goDay_72 : decode cX3_goDay 72 = .ok (.invokestatic 227, 3) := dk_184 0 227 (dk_at dksX3_goDay_3 0 rfl rfl)
theorem dX3_goDay_75 : decode cX3_goDay 75 = .ok (.invokestatic 165, 3) := dk_184 0 165 (dk_at dksX3_goDay_3 3 rfl rfl)
theorem dX3_goDay_78 : decode cX3_goDay 78 = .ok (.iastore, 1) := dk_79 (dk_at dksX3_goDay_3 6 rfl rfl)
theorem dX3_goDay_79 : decode cX3_goDay 79 = .ok (.iinc 3 1, 3) := dk_132 3 1 (dk_at dksX3_goDay_3 7 rfl rfl)
theorem dX3_goDay_82 : decode cX3_goDay 82 = .ok (.goto (-35), 3) := dk_167 255 221 (dk_at dksX3_goDay_3 10 rfl rfl)
theorem dX3_goDay_85 : decode cX3_goDay 85 = .ok (.iconst 0, 1) := dk_3 (dk_at dksX3_goDay_3 13 rfl rfl)
theorem dX3_goDay_86 : decode cX3_goDay 86 = .ok (.istore_n 3, 1) := dk_62 (dk_at dksX3_goDay_3 14 rfl rfl)
theorem dX3_goDay_87 : decode cX3_goDay 87 = .ok (.iload_n 3, 1) := dk_29 (dk_at dksX3_goDay_3 15 rfl rfl)
theorem dX3_goDay_88 : decode cX3_goDay 88 = .ok (.iconst 2, 1) := dk_5 (dk_at dksX3_goDay_3 16 rfl rfl)
theorem dX3_goDay_89 : decode cX3_goDay 89 = .ok (.aload_n 0, 1) := dk_42 (dk_at dksX3_goDay_3 17 rfl rfl)
theorem dX3_goDay_90 : decode cX3_goDay 90 = .ok (.getfield 94, 3) := dk_180 0 94 (dk_at dksX3_goDay_3 18 rfl rfl)
theorem dX3_goDay_93 : decode cX3_goDay 93 = .ok (.imul, 1) := dk_104 (dk_at dksX3_goDay_3 21 rfl rfl)
theorem dX3_goDay_94 : decode cX3_goDay 94 = .ok (.if_icmp .ge 46, 3) := dk_162 0 46 (dk_at dksX3_goDay_4 0 rfl rfl)
theorem dX3_goDay_97 : decode cX3_goDay 97 = .ok (.aload_n 1, 1) := dk_43 (dk_at dksX3_goDay_4 3 rfl rfl)
theorem dX3_goDay_98 : decode cX3_goDay 98 = .ok (.iload_n 3, 1) := dk_29 (dk_at dksX3_goDay_4 4 rfl rfl)
theorem dX3_goDay_99 : decode cX3_goDay 99 = .ok (.iaload, 1) := dk_46 (dk_at dksX3_goDay_4 5 rfl rfl)
theorem dX3_goDay_100 : decode cX3_goDay 100 = .ok (.iconst 0, 1) := dk_3 (dk_at dksX3_goDay_4 6 rfl rfl)
theorem dX3_goDay_101 : decode cX3_goDay 101 = .ok (.aload_n 0, 1) := dk_42 (dk_at dksX3_goDay_4 7 rfl rfl)
theorem dX3_goDay_102 : decode cX3_goDay 102 = .ok (.getfield 13, 3) := dk_180 0 13 (dk_at dksX3_goDay_4 8 rfl rfl)
theorem dX3_goDay_105 : decode cX3_goDay 105 = .ok (.iload_n 3, 1) := dk_29 (dk_at dksX3_goDay_4 11 rfl rfl)
theorem dX3_goDay_106 : decode cX3_goDay 106 = .ok (.iconst 2, 1) := dk_5 (dk_at dksX3_goDay_4 12 rfl rfl)
theorem dX3_goDay_107 : decode cX3_goDay 107 = .ok (.idiv, 1) := dk_108 (dk_at dksX3_goDay_4 13 rfl rfl)
theorem dX3_goDay_108 : decode cX3_goDay 108 = .ok (.iaload, 1) := dk_46 (dk_at dksX3_goDay_4 14 rfl rfl)
theorem dX3_goDay_109 : decode cX3_goDay 109 = .ok (.aload_n 0, 1) := dk_42 (dk_at dksX3_goDay_4 15 rfl rfl)
theorem dX3_goDay_110 : decode cX3_goDay 110 = .ok (.aload_n 1, 1) := dk_43 (dk_at dksX3_goDay_4 16 rfl rfl)
theorem dX3_goDay_111 : decode cX3_goDay 111 = .ok (.bipush 70, 2) := dk_16 70 (dk_at dksX3_goDay_4 17 rfl rfl)
theorem dX3_goDay_113 : decode cX3_goDay 113 = .ok (.iaload, 1) := dk_46 (dk_at dksX3_goDay_4 19 rfl rfl)
theorem dX3_goDay_114 : decode cX3_goDay 114 = .ok (.invokevirtual 199, 3) := dk_182 0 199 (dk_at dksX3_goDay_4 20 rfl rfl)
theorem dX3_goDay_117 : decode cX3_goDay 117 = .ok (.isub, 1) := dk_100 (dk_at dksX3_goDay_4 23 rfl rfl)
theorem dX3_goDay_118 : decode cX3_goDay 118 = .ok (.invokestatic 165, 3) := dk_184 0 165 (dk_at dksX3_goDay_5 0 rfl rfl)
theorem dX3_goDay_121 : decode cX3_goDay 121 = .ok (.if_icmp .le 13, 3) := dk_164 0 13 (dk_at dksX3_goDay_5 3 rfl rfl)
theorem dX3_goDay_124 : decode cX3_goDay 124 = .ok (.aload_n 0, 1) := dk_42 (dk_at dksX3_goDay_5 6 rfl rfl)
theorem dX3_goDay_125 : decode cX3_goDay 125 = .ok (.aload_n 1, 1) := dk_43 (dk_at dksX3_goDay_5 7 rfl rfl)
theorem dX3_goDay_126 : decode cX3_goDay 126 = .ok (.iload_n 3, 1) := dk_29 (dk_at dksX3_goDay_5 8 rfl rfl)
theorem dX3_goDay_127 : decode cX3_goDay 127 = .ok (.iload_n 3, 1) := dk_29 (dk_at dksX3_goDay_5 9 rfl rfl)
theorem dX3_goDay_128 : decode cX3_goDay 128 = .ok (.iconst 2, 1) := dk_5 (dk_at dksX3_goDay_5 10 rfl rfl)
theorem dX3_goDay_129 : decode cX3_goDay 129 = .ok (.idiv, 1) := dk_108 (dk_at dksX3_goDay_5 11 rfl rfl)
theorem dX3_goDay_130 : decode cX3_goDay 130 = .ok (.iconst 0, 1) := dk_3 (dk_at dksX3_goDay_5 12 rfl rfl)
theorem dX3_goDay_131 : decode cX3_goDay 131 = .ok (.invokevirtual 249, 3) := dk_182 0 249 (dk_at dksX3_goDay_5 13 rfl rfl)
theorem dX3_goDay_134 : decode cX3_goDay 134 = .ok (.iinc 3 1, 3) := dk_132 3 1 (dk_at dksX3_goDay_5 16 rfl rfl)
theorem dX3_goDay_137 : decode cX3_goDay 137 = .ok (.goto (-50), 3) := dk_167 255 206 (dk_at dksX3_goDay_5 19 rfl rfl)
theorem dX3_goDay_140 : decode cX3_goDay 140 = .ok (.aload_n 1, 1) := dk_43 (dk_at dksX3_goDay_5 22 rfl rfl)
theorem dX3_goDay_141 : decode cX3_goDay 141 = .ok (.bipush 70, 2) := dk_16 70 (dk_at dksX3_goDay_6 0 rfl rfl)
theorem dX3_goDay_143 : decode cX3_goDay 143 = .ok (.dup2, 1) := dk_92 (dk_at dksX3_goDay_6 2 rfl rfl)
theorem dX3_goDay_144 : decode cX3_goDay 144 = .ok (.iaload, 1) := dk_46 (dk_at dksX3_goDay_6 3 rfl rfl)
theorem dX3_goDay_145 : decode cX3_goDay 145 = .ok (.iconst 1, 1) := dk_4 (dk_at dksX3_goDay_6 4 rfl rfl)
theorem dX3_goDay_146 : decode cX3_goDay 146 = .ok (.iadd, 1) := dk_96 (dk_at dksX3_goDay_6 5 rfl rfl)
theorem dX3_goDay_147 : decode cX3_goDay 147 = .ok (.iastore, 1) := dk_79 (dk_at dksX3_goDay_6 6 rfl rfl)
theorem dX3_goDay_148 : decode cX3_goDay 148 = .ok (.return_, 1) := dk_177 (dk_at dksX3_goDay_6 7 rfl rfl)
abbrev cX3_slide : ByteArray := prog_9_method_40_code
def yX3_slide : MethodName := ⟨RX3, "slide", "([IIII)V"⟩
def dkwX3_slide_8 : List UInt8 := [181, 0, 240, 42, 180, 0, 38, 29, 92, 46, 21, 7, 96, 79, 177]
abbrev dktX3_slide_8 : List UInt8 := dkwX3_slide_8 ++ []
def dkwX3_slide_7 : List UInt8 := [21, 8, 17, 39, 15, 43, 21, 8, 46, 21, 7, 96, 184, 0, 227, 79, 42, 89, 180, 0, 240, 21, 7, 96]
abbrev dktX3_slide_7 : List UInt8 := dkwX3_slide_7 ++ dktX3_slide_8
def dkwX3_slide_6 : List UInt8 := [182, 0, 246, 184, 0, 227, 184, 0, 165, 54, 7, 16, 21, 16, 7, 29, 104, 96, 21, 6, 96, 54, 8, 43]
abbrev dktX3_slide_6 : List UInt8 := dkwX3_slide_6 ++ dktX3_slide_7
def dkwX3_slide_5 : List UInt8 := [46, 21, 5, 96, 184, 0, 227, 79, 21, 5, 153, 0, 9, 29, 21, 6, 160, 0, 4, 177, 3, 16, 99, 42]
abbrev dktX3_slide_5 : List UInt8 := dkwX3_slide_5 ++ dktX3_slide_6
def dkwX3_slide_4 : List UInt8 := [181, 0, 208, 42, 21, 4, 181, 0, 205, 43, 16, 14, 21, 6, 96, 17, 3, 231, 43, 16, 14, 21, 6, 96]
abbrev dktX3_slide_4 : List UInt8 := dkwX3_slide_4 ++ dktX3_slide_5
def dkwX3_slide_3 : List UInt8 := [46, 181, 0, 193, 42, 43, 16, 70, 46, 181, 0, 196, 42, 28, 5, 108, 181, 0, 202, 42, 21, 6]
abbrev dktX3_slide_3 : List UInt8 := dkwX3_slide_3 ++ dktX3_slide_4
def dkwX3_slide_2 : List UInt8 := [180, 0, 243, 4, 21, 6, 120, 128, 181, 0, 243, 42, 21, 5, 181, 0, 190, 42, 43, 16, 14, 21, 6, 96]
abbrev dktX3_slide_2 : List UInt8 := dkwX3_slide_2 ++ dktX3_slide_3
def dkwX3_slide_1 : List UInt8 := [181, 0, 237, 42, 21, 6, 182, 0, 101, 154, 0, 4, 177, 28, 5, 108, 21, 6, 159, 0, 16, 42, 89]
abbrev dktX3_slide_1 : List UInt8 := dkwX3_slide_1 ++ dktX3_slide_2
def dkwX3_slide_0 : List UInt8 := [43, 28, 46, 54, 5, 42, 180, 0, 16, 28, 46, 54, 6, 43, 28, 3, 79, 42, 89, 180, 0, 237, 4, 96]
abbrev dktX3_slide_0 : List UInt8 := dkwX3_slide_0 ++ dktX3_slide_1
theorem dksX3_slide_0 : cX3_slide.data.toList.drop 0 = dktX3_slide_0 := by decide +kernel
theorem dksX3_slide_1 : cX3_slide.data.toList.drop 24 = dktX3_slide_1 := dk_seg dksX3_slide_0 24 rfl rfl
theorem dksX3_slide_2 : cX3_slide.data.toList.drop 47 = dktX3_slide_2 := dk_seg dksX3_slide_1 23 rfl rfl
theorem dksX3_slide_3 : cX3_slide.data.toList.drop 71 = dktX3_slide_3 := dk_seg dksX3_slide_2 24 rfl rfl
theorem dksX3_slide_4 : cX3_slide.data.toList.drop 93 = dktX3_slide_4 := dk_seg dksX3_slide_3 22 rfl rfl
theorem dksX3_slide_5 : cX3_slide.data.toList.drop 117 = dktX3_slide_5 := dk_seg dksX3_slide_4 24 rfl rfl
theorem dksX3_slide_6 : cX3_slide.data.toList.drop 141 = dktX3_slide_6 := dk_seg dksX3_slide_5 24 rfl rfl
theorem dksX3_slide_7 : cX3_slide.data.toList.drop 165 = dktX3_slide_7 := dk_seg dksX3_slide_6 24 rfl rfl
theorem dksX3_slide_8 : cX3_slide.data.toList.drop 189 = dktX3_slide_8 := dk_seg dksX3_slide_7 24 rfl rfl
theorem dX3_slide_0 : decode cX3_slide 0 = .ok (.aload_n 1, 1) := dk_43 (dk_at dksX3_slide_0 0 rfl rfl)
theorem dX3_slide_1 : decode cX3_slide 1 = .ok (.iload_n 2, 1) := dk_28 (dk_at dksX3_slide_0 1 rfl rfl)
theorem dX3_slide_2 : decode cX3_slide 2 = .ok (.iaload, 1) := dk_46 (dk_at dksX3_slide_0 2 rfl rfl)
theorem dX3_slide_3 : decode cX3_slide 3 = .ok (.istore 5, 2) := dk_54 5 (dk_at dksX3_slide_0 3 rfl rfl)
theorem dX3_slide_5 : decode cX3_slide 5 = .ok (.aload_n 0, 1) := dk_42 (dk_at dksX3_slide_0 5 rfl rfl)
theorem dX3_slide_6 : decode cX3_slide 6 = .ok (.getfield 16, 3) := dk_180 0 16 (dk_at dksX3_slide_0 6 rfl rfl)
theorem dX3_slide_9 : decode cX3_slide 9 = .ok (.iload_n 2, 1) := dk_28 (dk_at dksX3_slide_0 9 rfl rfl)
theorem dX3_slide_10 : decode cX3_slide 10 = .ok (.iaload, 1) := dk_46 (dk_at dksX3_slide_0 10 rfl rfl)
theorem dX3_slide_11 : decode cX3_slide 11 = .ok (.istore 6, 2) := dk_54 6 (dk_at dksX3_slide_0 11 rfl rfl)
theorem dX3_slide_13 : decode cX3_slide 13 = .ok (.aload_n 1, 1) := dk_43 (dk_at dksX3_slide_0 13 rfl rfl)
theorem dX3_slide_14 : decode cX3_slide 14 = .ok (.iload_n 2, 1) := dk_28 (dk_at dksX3_slide_0 14 rfl rfl)
theorem dX3_slide_15 : decode cX3_slide 15 = .ok (.iconst 0, 1) := dk_3 (dk_at dksX3_slide_0 15 rfl rfl)
theorem dX3_slide_16 : decode cX3_slide 16 = .ok (.iastore, 1) := dk_79 (dk_at dksX3_slide_0 16 rfl rfl)
theorem dX3_slide_17 : decode cX3_slide 17 = .ok (.aload_n 0, 1) := dk_42 (dk_at dksX3_slide_0 17 rfl rfl)
theorem dX3_slide_18 : decode cX3_slide 18 = .ok (.dup, 1) := dk_89 (dk_at dksX3_slide_0 18 rfl rfl)
theorem dX3_slide_19 : decode cX3_slide 19 = .ok (.getfield 237, 3) := dk_180 0 237 (dk_at dksX3_slide_0 19 rfl rfl)
theorem dX3_slide_22 : decode cX3_slide 22 = .ok (.iconst 1, 1) := dk_4 (dk_at dksX3_slide_0 22 rfl rfl)
theorem dX3_slide_23 : decode cX3_slide 23 = .ok (.iadd, 1) := dk_96 (dk_at dksX3_slide_0 23 rfl rfl)
theorem dX3_slide_24 : decode cX3_slide 24 = .ok (.putfield 237, 3) := dk_181 0 237 (dk_at dksX3_slide_1 0 rfl rfl)
theorem dX3_slide_27 : decode cX3_slide 27 = .ok (.aload_n 0, 1) := dk_42 (dk_at dksX3_slide_1 3 rfl rfl)
theorem dX3_slide_28 : decode cX3_slide 28 = .ok (.iload 6, 2) := dk_21 6 (dk_at dksX3_slide_1 4 rfl rfl)
theorem dX3_slide_30 : decode cX3_slide 30 = .ok (.invokevirtual 101, 3) := dk_182 0 101 (dk_at dksX3_slide_1 6 rfl rfl)
theorem dX3_slide_33 : decode cX3_slide 33 = .ok (.ifCond .ne 4, 3) := dk_154 0 4 (dk_at dksX3_slide_1 9 rfl rfl)
theorem dX3_slide_36 : decode cX3_slide 36 = .ok (.return_, 1) := dk_177 (dk_at dksX3_slide_1 12 rfl rfl)
theorem dX3_slide_37 : decode cX3_slide 37 = .ok (.iload_n 2, 1) := dk_28 (dk_at dksX3_slide_1 13 rfl rfl)
theorem dX3_slide_38 : decode cX3_slide 38 = .ok (.iconst 2, 1) := dk_5 (dk_at dksX3_slide_1 14 rfl rfl)
theorem dX3_slide_39 : decode cX3_slide 39 = .ok (.idiv, 1) := dk_108 (dk_at dksX3_slide_1 15 rfl rfl)
theorem dX3_slide_40 : decode cX3_slide 40 = .ok (.iload 6, 2) := dk_21 6 (dk_at dksX3_slide_1 16 rfl rfl)
theorem dX3_slide_42 : decode cX3_slide 42 = .ok (.if_icmp .eq 16, 3) := dk_159 0 16 (dk_at dksX3_slide_1 18 rfl rfl)
theorem dX3_slide_45 : decode cX3_slide 45 = .ok (.aload_n 0, 1) := dk_42 (dk_at dksX3_slide_1 21 rfl rfl)
theorem dX3_slide_46 : decode cX3_slide 46 = .ok (.dup, 1) := dk_89 (dk_at dksX3_slide_1 22 rfl rfl)
theorem dX3_slide_47 : decode cX3_slide 47 = .ok (.getfield 243, 3) := dk_180 0 243 (dk_at dksX3_slide_2 0 rfl rfl)
theorem dX3_slide_50 : decode cX3_slide 50 = .ok (.iconst 1, 1) := dk_4 (dk_at dksX3_slide_2 3 rfl rfl)
theorem dX3_slide_51 : decode cX3_slide 51 = .ok (.iload 6, 2) := dk_21 6 (dk_at dksX3_slide_2 4 rfl rfl)
theorem dX3_slide_53 : decode cX3_slide 53 = .ok (.ishl, 1) := dk_120 (dk_at dksX3_slide_2 6 rfl rfl)
theorem dX3_slide_54 : decode cX3_slide 54 = .ok (.ior, 1) := dk_128 (dk_at dksX3_slide_2 7 rfl rfl)
theorem dX3_slide_55 : decode cX3_slide 55 = .ok (.putfield 243, 3) := dk_181 0 243 (dk_at dksX3_slide_2 8 rfl rfl)
theorem dX3_slide_58 : decode cX3_slide 58 = .ok (.aload_n 0, 1) := dk_42 (dk_at dksX3_slide_2 11 rfl rfl)
theorem dX3_slide_59 : decode cX3_slide 59 = .ok (.iload 5, 2) := dk_21 5 (dk_at dksX3_slide_2 12 rfl rfl)
theorem dX3_slide_61 : decode cX3_slide 61 = .ok (.putfield 190, 3) := dk_181 0 190 (dk_at dksX3_slide_2 14 rfl rfl)
theorem dX3_slide_64 : decode cX3_slide 64 = .ok (.aload_n 0, 1) := dk_42 (dk_at dksX3_slide_2 17 rfl rfl)
theorem dX3_slide_65 : decode cX3_slide 65 = .ok (.aload_n 1, 1) := dk_43 (dk_at dksX3_slide_2 18 rfl rfl)
theorem dX3_slide_66 : decode cX3_slide 66 = .ok (.bipush 14, 2) := dk_16 14 (dk_at dksX3_slide_2 19 rfl rfl)
theorem dX3_slide_68 : decode cX3_slide 68 = .ok (.iload 6, 2) := dk_21 6 (dk_at dksX3_slide_2 21 rfl rfl)
theorem dX3_slide_70 : decode cX3_slide 70 = .ok (.iadd, 1) := dk_96 (dk_at dksX3_slide_2 23 rfl rfl)
theorem dX3_slide_71 : decode cX3_slide 71 = .ok (.iaload, 1) := dk_46 (dk_at dksX3_slide_3 0 rfl rfl)
theorem dX3_slide_72 : decode cX3_slide 72 = .ok (.putfield 193, 3) := dk_181 0 193 (dk_at dksX3_slide_3 1 rfl rfl)
theorem dX3_slide_75 : decode cX3_slide 75 = .ok (.aload_n 0, 1) := dk_42 (dk_at dksX3_slide_3 4 rfl rfl)
theorem dX3_slide_76 : decode cX3_slide 76 = .ok (.aload_n 1, 1) := dk_43 (dk_at dksX3_slide_3 5 rfl rfl)
theorem dX3_slide_77 : decode cX3_slide 77 = .ok (.bipush 70, 2) := dk_16 70 (dk_at dksX3_slide_3 6 rfl rfl)
theorem dX3_slide_79 : decode cX3_slide 79 = .ok (.iaload, 1) := dk_46 (dk_at dksX3_slide_3 8 rfl rfl)
theorem dX3_slide_80 : decode cX3_slide 80 = .ok (.putfield 196, 3) := dk_181 0 196 (dk_at dksX3_slide_3 9 rfl rfl)
theorem dX3_slide_83 : decode cX3_slide 83 = .ok (.aload_n 0, 1) := dk_42 (dk_at dksX3_slide_3 12 rfl rfl)
theorem dX3_slide_84 : decode cX3_slide 84 = .ok (.iload_n 2, 1) := dk_28 (dk_at dksX3_slide_3 13 rfl rfl)
theorem dX3_slide_85 : decode cX3_slide 85 = .ok (.iconst 2, 1) := dk_5 (dk_at dksX3_slide_3 14 rfl rfl)
theorem dX3_slide_86 : decode cX3_slide 86 = .ok (.idiv, 1) := dk_108 (dk_at dksX3_slide_3 15 rfl rfl)
theorem dX3_slide_87 : decode cX3_slide 87 = .ok (.putfield 202, 3) := dk_181 0 202 (dk_at dksX3_slide_3 16 rfl rfl)
theorem dX3_slide_90 : decode cX3_slide 90 = .ok (.aload_n 0, 1) := dk_42 (dk_at dksX3_slide_3 19 rfl rfl)
theorem dX3_slide_91 : decode cX3_slide 91 = .ok (.iload 6, 2) := dk_21 6 (dk_at dksX3_slide_3 20 rfl rfl)
theorem dX3_slide_93 : decode cX3_slide 93 = .ok (.putfield 208, 3) := dk_181 0 208 (dk_at dksX3_slide_4 0 rfl rfl)
theorem dX3_slide_96 : decode cX3_slide 96 = .ok (.aload_n 0, 1) := dk_42 (dk_at dksX3_slide_4 3 rfl rfl)
theorem dX3_slide_97 : decode cX3_slide 97 = .ok (.iload 4, 2) := dk_21 4 (dk_at dksX3_slide_4 4 rfl rfl)
theorem dX3_slide_99 : decode cX3_slide 99 = .ok (.putfield 205, 3) := dk_181 0 205 (dk_at dksX3_slide_4 6 rfl rfl)
theorem dX3_slide_102 : decode cX3_slide 102 = .ok (.aload_n 1, 1) := dk_43 (dk_at dksX3_slide_4 9 rfl rfl)
theorem dX3_slide_103 : decode cX3_slide 103 = .ok (.bipush 14, 2) := dk_16 14 (dk_at dksX3_slide_4 10 rfl rfl)
theorem dX3_slide_105 : decode cX3_slide 105 = .ok (.iload 6, 2) := dk_21 6 (dk_at dksX3_slide_4 12 rfl rfl)
theorem dX3_slide_107 : decode cX3_slide 107 = .ok (.iadd, 1) := dk_96 (dk_at dksX3_slide_4 14 rfl rfl)
theorem dX3_slide_108 : decode cX3_slide 108 = .ok (.sipush 999, 3) := dk_17 3 231 (dk_at dksX3_slide_4 15 rfl rfl)
theorem dX3_slide_111 : decode cX3_slide 111 = .ok (.aload_n 1, 1) := dk_43 (dk_at dksX3_slide_4 18 rfl rfl)
theorem dX3_slide_112 : decode cX3_slide 112 = .ok (.bipush 14, 2) := dk_16 14 (dk_at dksX3_slide_4 19 rfl rfl)
theorem dX3_slide_114 : decode cX3_slide 114 = .ok (.iload 6, 2) := dk_21 6 (dk_at dksX3_slide_4 21 rfl rfl)
theorem dX3_slide_116 : decode cX3_slide 116 = .ok (.iadd, 1) := dk_96 (dk_at dksX3_slide_4 23 rfl rfl)
theorem dX3_slide_117 : decode cX3_slide 117 = .ok (.iaload, 1) := dk_46 (dk_at dksX3_slide_5 0 rfl rfl)
theorem dX3_slide_118 : decode cX3_slide 118 = .ok (.iload 5, 2) := dk_21 5 (dk_at dksX3_slide_5 1 rfl rfl)
theorem dX3_slide_120 : decode cX3_slide 120 = .ok (.iadd, 1) := dk_96 (dk_at dksX3_slide_5 3 rfl rfl)
theorem dX3_slide_121 : decode cX3_slide 121 = .ok (.invokestatic 227, 3) := dk_184 0 227 (dk_at dksX3_slide_5 4 rfl rfl)
theorem dX3_slide_124 : decode cX3_slide 124 = .ok (.iastore, 1) := dk_79 (dk_at dksX3_slide_5 7 rfl rfl)
theorem dX3_slide_125 : decode cX3_slide 125 = .ok (.iload 5, 2) := dk_21 5 (dk_at dksX3_slide_5 8 rfl rfl)
theorem dX3_slide_127 : decode cX3_slide 127 = .ok (.ifCond .eq 9, 3) := dk_153 0 9 (dk_at dksX3_slide_5 10 rfl rfl)
theorem dX3_slide_130 : decode cX3_slide 130 = .ok (.iload_n 3, 1) := dk_29 (dk_at dksX3_slide_5 13 rfl rfl)
theorem dX3_slide_131 : decode cX3_slide 131 = .ok (.iload 6, 2) := dk_21 6 (dk_at dksX3_slide_5 14 rfl rfl)
theorem dX3_slide_133 : decode cX3_slide 133 = .ok (.if_icmp .ne 4, 3) := dk_160 0 4 (dk_at dksX3_slide_5 16 rfl rfl)
theorem dX3_slide_136 : decode cX3_slide 136 = .ok (.return_, 1) := dk_177 (dk_at dksX3_slide_5 19 rfl rfl)
theorem dX3_slide_137 : decode cX3_slide 137 = .ok (.iconst 0, 1) := dk_3 (dk_at dksX3_slide_5 20 rfl rfl)
theorem dX3_slide_138 : decode cX3_slide 138 = .ok (.bipush 99, 2) := dk_16 99 (dk_at dksX3_slide_5 21 rfl rfl)
theorem dX3_slide_140 : decode cX3_slide 140 = .ok (.aload_n 0, 1) := dk_42 (dk_at dksX3_slide_5 23 rfl rfl)
theorem dX3_slide_141 : decode cX3_slide 141 = .ok (.invokevirtual 246, 3) := dk_182 0 246 (dk_at dksX3_slide_6 0 rfl rfl)
theorem dX3_slide_144 : decode cX3_slide 144 = .ok (.invokestatic 227, 3) := dk_184 0 227 (dk_at dksX3_slide_6 3 rfl rfl)
theorem dX3_slide_147 : decode cX3_slide 147 = .ok (.invokestatic 165, 3) := dk_184 0 165 (dk_at dksX3_slide_6 6 rfl rfl)
theorem dX3_slide_150 : decode cX3_slide 150 = .ok (.istore 7, 2) := dk_54 7 (dk_at dksX3_slide_6 9 rfl rfl)
theorem dX3_slide_152 : decode cX3_slide 152 = .ok (.bipush 21, 2) := dk_16 21 (dk_at dksX3_slide_6 11 rfl rfl)
theorem dX3_slide_154 : decode cX3_slide 154 = .ok (.bipush 7, 2) := dk_16 7 (dk_at dksX3_slide_6 13 rfl rfl)
theorem dX3_slide_156 : decode cX3_slide 156 = .ok (.iload_n 3, 1) := dk_29 (dk_at dksX3_slide_6 15 rfl rfl)
theorem dX3_slide_157 : decode cX3_slide 157 = .ok (.imul, 1) := dk_104 (dk_at dksX3_slide_6 16 rfl rfl)
theorem dX3_slide_158 : decode cX3_slide 158 = .ok (.iadd, 1) := dk_96 (dk_at dksX3_slide_6 17 rfl rfl)
theorem dX3_slide_159 : decode cX3_slide 159 = .ok (.iload 6, 2) := dk_21 6 (dk_at dksX3_slide_6 18 rfl rfl)
theorem dX3_slide_161 : decode cX3_slide 161 = .ok (.iadd, 1) := dk_96 (dk_at dksX3_slide_6 20 rfl rfl)
theorem dX3_slide_162 : decode cX3_slide 162 = .ok (.istore 8, 2) := dk_54 8 (dk_at dksX3_slide_6 21 rfl rfl)
theorem dX3_slide_164 : decode cX3_slide 164 = .ok (.aload_n 1, 1) := dk_43 (dk_at dksX3_slide_6 23 rfl rfl)
theorem dX3_slide_165 : decode cX3_slide 165 = .ok (.iload 8, 2) := dk_21 8 (dk_at dksX3_slide_7 0 rfl rfl)
theorem dX3_slide_167 : decode cX3_slide 167 = .ok (.sipush 9999, 3) := dk_17 39 15 (dk_at dksX3_slide_7 2 rfl rfl)
theorem dX3_slide_170 : decode cX3_slide 170 = .ok (.aload_n 1, 1) := dk_43 (dk_at dksX3_slide_7 5 rfl rfl)
theorem dX3_slide_171 : decode cX3_slide 171 = .ok (.iload 8, 2) := dk_21 8 (dk_at dksX3_slide_7 6 rfl rfl)
theorem dX3_slide_173 : decode cX3_slide 173 = .ok (.iaload, 1) := dk_46 (dk_at dksX3_slide_7 8 rfl rfl)
theorem dX3_slide_174 : decode cX3_slide 174 = .ok (.iload 7, 2) := dk_21 7 (dk_at dksX3_slide_7 9 rfl rfl)
theorem dX3_slide_176 : decode cX3_slide 176 = .ok (.iadd, 1) := dk_96 (dk_at dksX3_slide_7 11 rfl rfl)
theorem dX3_slide_177 : decode cX3_slide 177 = .ok (.invokestatic 227, 3) := dk_184 0 227 (dk_at dksX3_slide_7 12 rfl rfl)
theorem dX3_slide_180 : decode cX3_slide 180 = .ok (.iastore, 1) := dk_79 (dk_at dksX3_slide_7 15 rfl rfl)
theorem dX3_slide_181 : decode cX3_slide 181 = .ok (.aload_n 0, 1) := dk_42 (dk_at dksX3_slide_7 16 rfl rfl)
theorem dX3_slide_182 : decode cX3_slide 182 = .ok (.dup, 1) := dk_89 (dk_at dksX3_slide_7 17 rfl rfl)
theorem dX3_slide_183 : decode cX3_slide 183 = .ok (.getfield 240, 3) := dk_180 0 240 (dk_at dksX3_slide_7 18 rfl rfl)
theorem dX3_slide_186 : decode cX3_slide 186 = .ok (.iload 7, 2) := dk_21 7 (dk_at dksX3_slide_7 21 rfl rfl)
theorem dX3_slide_188 : decode cX3_slide 188 = .ok (.iadd, 1) := dk_96 (dk_at dksX3_slide_7 23 rfl rfl)
theorem dX3_slide_189 : decode cX3_slide 189 = .ok (.putfield 240, 3) := dk_181 0 240 (dk_at dksX3_slide_8 0 rfl rfl)
theorem dX3_slide_192 : decode cX3_slide 192 = .ok (.aload_n 0, 1) := dk_42 (dk_at dksX3_slide_8 3 rfl rfl)
theorem dX3_slide_193 : decode cX3_slide 193 = .ok (.getfield 38, 3) := dk_180 0 38 (dk_at dksX3_slide_8 4 rfl rfl)
theorem dX3_slide_196 : decode cX3_slide 196 = .ok (.iload_n 3, 1) := dk_29 (dk_at dksX3_slide_8 7 rfl rfl)
theorem dX3_slide_197 : decode cX3_slide 197 = .ok (.dup2, 1) := dk_92 (dk_at dksX3_slide_8 8 rfl rfl)
theorem dX3_slide_198 : decode cX3_slide 198 = .ok (.iaload, 1) := dk_46 (dk_at dksX3_slide_8 9 rfl rfl)
theorem dX3_slide_199 : decode cX3_slide 199 = .ok (.iload 7, 2) := dk_21 7 (dk_at dksX3_slide_8 10 rfl rfl)
theorem dX3_slide_201 : decode cX3_slide 201 = .ok (.iadd, 1) := dk_96 (dk_at dksX3_slide_8 12 rfl rfl)
theorem dX3_slide_202 : decode cX3_slide 202 = .ok (.iastore, 1) := dk_79 (dk_at dksX3_slide_8 13 rfl rfl)
theorem dX3_slide_203 : decode cX3_slide 203 = .ok (.return_, 1) := dk_177 (dk_at dksX3_slide_8 14 rfl rfl)
abbrev cX3_ruled : ByteArray := prog_9_method_31_code
def yX3_ruled : MethodName := ⟨RX3, "ruled", "()I"⟩
def dkwX3_ruled_1 : List UInt8 := [180, 0, 211, 16, 40, 182, 0, 139, 42, 3, 182, 0, 180, 172]
abbrev dktX3_ruled_1 : List UInt8 := dkwX3_ruled_1 ++ []
def dkwX3_ruled_0 : List UInt8 := [42, 180, 0, 211, 154, 0, 8, 42, 180, 0, 190, 172, 42, 4, 181, 0, 183, 42, 42, 180, 0, 35, 42]
abbrev dktX3_ruled_0 : List UInt8 := dkwX3_ruled_0 ++ dktX3_ruled_1
theorem dksX3_ruled_0 : cX3_ruled.data.toList.drop 0 = dktX3_ruled_0 := by decide +kernel
theorem dksX3_ruled_1 : cX3_ruled.data.toList.drop 23 = dktX3_ruled_1 := dk_seg dksX3_ruled_0 23 rfl rfl
theorem dX3_ruled_0 : decode cX3_ruled 0 = .ok (.aload_n 0, 1) := dk_42 (dk_at dksX3_ruled_0 0 rfl rfl)
theorem dX3_ruled_1 : decode cX3_ruled 1 = .ok (.getfield 211, 3) := dk_180 0 211 (dk_at dksX3_ruled_0 1 rfl rfl)
theorem dX3_ruled_4 : decode cX3_ruled 4 = .ok (.ifCond .ne 8, 3) := dk_154 0 8 (dk_at dksX3_ruled_0 4 rfl rfl)
theorem dX3_ruled_7 : decode cX3_ruled 7 = .ok (.aload_n 0, 1) := dk_42 (dk_at dksX3_ruled_0 7 rfl rfl)
theorem dX3_ruled_8 : decode cX3_ruled 8 = .ok (.getfield 190, 3) := dk_180 0 190 (dk_at dksX3_ruled_0 8 rfl rfl)
theorem dX3_ruled_11 : decode cX3_ruled 11 = .ok (.ireturn, 1) := dk_172 (dk_at dksX3_ruled_0 11 rfl rfl)
theorem dX3_ruled_12 : decode cX3_ruled 12 = .ok (.aload_n 0, 1) := dk_42 (dk_at dksX3_ruled_0 12 rfl rfl)
theorem dX3_ruled_13 : decode cX3_ruled 13 = .ok (.iconst 1, 1) := dk_4 (dk_at dksX3_ruled_0 13 rfl rfl)
theorem dX3_ruled_14 : decode cX3_ruled 14 = .ok (.putfield 183, 3) := dk_181 0 183 (dk_at dksX3_ruled_0 14 rfl rfl)
theorem dX3_ruled_17 : decode cX3_ruled 17 = .ok (.aload_n 0, 1) := dk_42 (dk_at dksX3_ruled_0 17 rfl rfl)
theorem dX3_ruled_18 : decode cX3_ruled 18 = .ok (.aload_n 0, 1) := dk_42 (dk_at dksX3_ruled_0 18 rfl rfl)
theorem dX3_ruled_19 : decode cX3_ruled 19 = .ok (.getfield 35, 3) := dk_180 0 35 (dk_at dksX3_ruled_0 19 rfl rfl)
theorem dX3_ruled_22 : decode cX3_ruled 22 = .ok (.aload_n 0, 1) := dk_42 (dk_at dksX3_ruled_0 22 rfl rfl)
theorem dX3_ruled_23 : decode cX3_ruled 23 = .ok (.getfield 211, 3) := dk_180 0 211 (dk_at dksX3_ruled_1 0 rfl rfl)
theorem dX3_ruled_26 : decode cX3_ruled 26 = .ok (.bipush 40, 2) := dk_16 40 (dk_at dksX3_ruled_1 3 rfl rfl)
theorem dX3_ruled_28 : decode cX3_ruled 28 = .ok (.invokevirtual 139, 3) := dk_182 0 139 (dk_at dksX3_ruled_1 5 rfl rfl)
theorem dX3_ruled_31 : decode cX3_ruled 31 = .ok (.aload_n 0, 1) := dk_42 (dk_at dksX3_ruled_1 8 rfl rfl)
theorem dX3_ruled_32 : decode cX3_ruled 32 = .ok (.iconst 0, 1) := dk_3 (dk_at dksX3_ruled_1 9 rfl rfl)
theorem dX3_ruled_33 : decode cX3_ruled 33 = .ok (.invokevirtual 180, 3) := dk_182 0 180 (dk_at dksX3_ruled_1 10 rfl rfl)
theorem dX3_ruled_36 : decode cX3_ruled 36 = .ok (.ireturn, 1) := dk_172 (dk_at dksX3_ruled_1 13 rfl rfl)
abbrev cX3_paths : ByteArray := prog_9_method_44_code
def yX3_paths : MethodName := ⟨RX3, "paths", "([I)I"⟩
def dkwX3_paths_1 : List UInt8 := [167, 255, 236, 28, 172]
abbrev dktX3_paths_1 : List UInt8 := dkwX3_paths_1 ++ []
def dkwX3_paths_0 : List UInt8 := [3, 61, 3, 62, 29, 42, 180, 0, 94, 162, 0, 18, 28, 43, 16, 14, 29, 96, 46, 96, 61, 132, 3, 1]
abbrev dktX3_paths_0 : List UInt8 := dkwX3_paths_0 ++ dktX3_paths_1
theorem dksX3_paths_0 : cX3_paths.data.toList.drop 0 = dktX3_paths_0 := by decide +kernel
theorem dksX3_paths_1 : cX3_paths.data.toList.drop 24 = dktX3_paths_1 := dk_seg dksX3_paths_0 24 rfl rfl
theorem dX3_paths_0 : decode cX3_paths 0 = .ok (.iconst 0, 1) := dk_3 (dk_at dksX3_paths_0 0 rfl rfl)
theorem dX3_paths_1 : decode cX3_paths 1 = .ok (.istore_n 2, 1) := dk_61 (dk_at dksX3_paths_0 1 rfl rfl)
theorem dX3_paths_2 : decode cX3_paths 2 = .ok (.iconst 0, 1) := dk_3 (dk_at dksX3_paths_0 2 rfl rfl)
theorem dX3_paths_3 : decode cX3_paths 3 = .ok (.istore_n 3, 1) := dk_62 (dk_at dksX3_paths_0 3 rfl rfl)
theorem dX3_paths_4 : decode cX3_paths 4 = .ok (.iload_n 3, 1) := dk_29 (dk_at dksX3_paths_0 4 rfl rfl)
theorem dX3_paths_5 : decode cX3_paths 5 = .ok (.aload_n 0, 1) := dk_42 (dk_at dksX3_paths_0 5 rfl rfl)
theorem dX3_paths_6 : decode cX3_paths 6 = .ok (.getfield 94, 3) := dk_180 0 94 (dk_at dksX3_paths_0 6 rfl rfl)
theorem dX3_paths_9 : decode cX3_paths 9 = .ok (.if_icmp .ge 18, 3) := dk_162 0 18 (dk_at dksX3_paths_0 9 rfl rfl)
theorem dX3_paths_12 : decode cX3_paths 12 = .ok (.iload_n 2, 1) := dk_28 (dk_at dksX3_paths_0 12 rfl rfl)
theorem dX3_paths_13 : decode cX3_paths 13 = .ok (.aload_n 1, 1) := dk_43 (dk_at dksX3_paths_0 13 rfl rfl)
theorem dX3_paths_14 : decode cX3_paths 14 = .ok (.bipush 14, 2) := dk_16 14 (dk_at dksX3_paths_0 14 rfl rfl)
theorem dX3_paths_16 : decode cX3_paths 16 = .ok (.iload_n 3, 1) := dk_29 (dk_at dksX3_paths_0 16 rfl rfl)
theorem dX3_paths_17 : decode cX3_paths 17 = .ok (.iadd, 1) := dk_96 (dk_at dksX3_paths_0 17 rfl rfl)
theorem dX3_paths_18 : decode cX3_paths 18 = .ok (.iaload, 1) := dk_46 (dk_at dksX3_paths_0 18 rfl rfl)
theorem dX3_paths_19 : decode cX3_paths 19 = .ok (.iadd, 1) := dk_96 (dk_at dksX3_paths_0 19 rfl rfl)
theorem dX3_paths_20 : decode cX3_paths 20 = .ok (.istore_n 2, 1) := dk_61 (dk_at dksX3_paths_0 20 rfl rfl)
theorem dX3_paths_21 : decode cX3_paths 21 = .ok (.iinc 3 1, 3) := dk_132 3 1 (dk_at dksX3_paths_0 21 rfl rfl)
theorem dX3_paths_24 : decode cX3_paths 24 = .ok (.goto (-20), 3) := dk_167 255 236 (dk_at dksX3_paths_1 0 rfl rfl)
theorem dX3_paths_27 : decode cX3_paths 27 = .ok (.iload_n 2, 1) := dk_28 (dk_at dksX3_paths_1 3 rfl rfl)
theorem dX3_paths_28 : decode cX3_paths 28 = .ok (.ireturn, 1) := dk_172 (dk_at dksX3_paths_1 4 rfl rfl)
abbrev cX3_days : ByteArray := prog_9_method_47_code
def yX3_days : MethodName := ⟨RX3, "days", "(I)I"⟩
def dkwX3_days_1 : List UInt8 := [180, 0, 9, 182, 1, 12, 42, 27, 182, 1, 15, 172]
abbrev dktX3_days_1 : List UInt8 := dkwX3_days_1 ++ []
def dkwX3_days_0 : List UInt8 := [42, 3, 181, 0, 87, 27, 3, 16, 60, 184, 0, 97, 154, 0, 5, 2, 172, 27, 158, 0, 11, 42, 42]
abbrev dktX3_days_0 : List UInt8 := dkwX3_days_0 ++ dktX3_days_1
theorem dksX3_days_0 : cX3_days.data.toList.drop 0 = dktX3_days_0 := by decide +kernel
theorem dksX3_days_1 : cX3_days.data.toList.drop 23 = dktX3_days_1 := dk_seg dksX3_days_0 23 rfl rfl
theorem dX3_days_0 : decode cX3_days 0 = .ok (.aload_n 0, 1) := dk_42 (dk_at dksX3_days_0 0 rfl rfl)
theorem dX3_days_1 : decode cX3_days 1 = .ok (.iconst 0, 1) := dk_3 (dk_at dksX3_days_0 1 rfl rfl)
theorem dX3_days_2 : decode cX3_days 2 = .ok (.putfield 87, 3) := dk_181 0 87 (dk_at dksX3_days_0 2 rfl rfl)
theorem dX3_days_5 : decode cX3_days 5 = .ok (.iload_n 1, 1) := dk_27 (dk_at dksX3_days_0 5 rfl rfl)
theorem dX3_days_6 : decode cX3_days 6 = .ok (.iconst 0, 1) := dk_3 (dk_at dksX3_days_0 6 rfl rfl)
theorem dX3_days_7 : decode cX3_days 7 = .ok (.bipush 60, 2) := dk_16 60 (dk_at dksX3_days_0 7 rfl rfl)
theorem dX3_days_9 : decode cX3_days 9 = .ok (.invokestatic 97, 3) := dk_184 0 97 (dk_at dksX3_days_0 9 rfl rfl)
theorem dX3_days_12 : decode cX3_days 12 = .ok (.ifCond .ne 5, 3) := dk_154 0 5 (dk_at dksX3_days_0 12 rfl rfl)
theorem dX3_days_15 : decode cX3_days 15 = .ok (.iconst (-1), 1) := dk_2 (dk_at dksX3_days_0 15 rfl rfl)
theorem dX3_days_16 : decode cX3_days 16 = .ok (.ireturn, 1) := dk_172 (dk_at dksX3_days_0 16 rfl rfl)
theorem dX3_days_17 : decode cX3_days 17 = .ok (.iload_n 1, 1) := dk_27 (dk_at dksX3_days_0 17 rfl rfl)
theorem dX3_days_18 : decode cX3_days 18 = .ok (.ifCond .le 11, 3) := dk_158 0 11 (dk_at dksX3_days_0 18 rfl rfl)
theorem dX3_days_21 : decode cX3_days 21 = .ok (.aload_n 0, 1) := dk_42 (dk_at dksX3_days_0 21 rfl rfl)
theorem dX3_days_22 : decode cX3_days 22 = .ok (.aload_n 0, 1) := dk_42 (dk_at dksX3_days_0 22 rfl rfl)
theorem dX3_days_23 : decode cX3_days 23 = .ok (.getfield 9, 3) := dk_180 0 9 (dk_at dksX3_days_1 0 rfl rfl)
theorem dX3_days_26 : decode cX3_days 26 = .ok (.invokevirtual 268, 3) := dk_182 1 12 (dk_at dksX3_days_1 3 rfl rfl)
theorem dX3_days_29 : decode cX3_days 29 = .ok (.aload_n 0, 1) := dk_42 (dk_at dksX3_days_1 6 rfl rfl)
theorem dX3_days_30 : decode cX3_days 30 = .ok (.iload_n 1, 1) := dk_27 (dk_at dksX3_days_1 7 rfl rfl)
theorem dX3_days_31 : decode cX3_days 31 = .ok (.invokevirtual 271, 3) := dk_182 1 15 (dk_at dksX3_days_1 8 rfl rfl)
theorem dX3_days_34 : decode cX3_days 34 = .ok (.ireturn, 1) := dk_172 (dk_at dksX3_days_1 11 rfl rfl)
abbrev cX3_sweep : ByteArray := prog_9_method_50_code
def yX3_sweep : MethodName := ⟨RX3, "sweep", "(II)I"⟩
def dkwX3_sweep_2 : List UInt8 := [96, 167, 0, 6, 27, 4, 100, 46, 172]
abbrev dktX3_sweep_2 : List UInt8 := dkwX3_sweep_2 ++ []
def dkwX3_sweep_1 : List UInt8 := [182, 1, 12, 42, 180, 0, 9, 27, 28, 184, 1, 24, 42, 180, 0, 9, 27, 5, 112, 154, 0, 9, 27, 4]
abbrev dktX3_sweep_1 : List UInt8 := dkwX3_sweep_1 ++ dktX3_sweep_2
def dkwX3_sweep_0 : List UInt8 := [42, 3, 181, 0, 87, 42, 27, 28, 182, 1, 21, 62, 29, 156, 0, 5, 29, 172, 42, 42, 180, 0, 9]
abbrev dktX3_sweep_0 : List UInt8 := dkwX3_sweep_0 ++ dktX3_sweep_1
theorem dksX3_sweep_0 : cX3_sweep.data.toList.drop 0 = dktX3_sweep_0 := by decide +kernel
theorem dksX3_sweep_1 : cX3_sweep.data.toList.drop 23 = dktX3_sweep_1 := dk_seg dksX3_sweep_0 23 rfl rfl
theorem dksX3_sweep_2 : cX3_sweep.data.toList.drop 47 = dktX3_sweep_2 := dk_seg dksX3_sweep_1 24 rfl rfl
theorem dX3_sweep_0 : decode cX3_sweep 0 = .ok (.aload_n 0, 1) := dk_42 (dk_at dksX3_sweep_0 0 rfl rfl)
theorem dX3_sweep_1 : decode cX3_sweep 1 = .ok (.iconst 0, 1) := dk_3 (dk_at dksX3_sweep_0 1 rfl rfl)
theorem dX3_sweep_2 : decode cX3_sweep 2 = .ok (.putfield 87, 3) := dk_181 0 87 (dk_at dksX3_sweep_0 2 rfl rfl)
theorem dX3_sweep_5 : decode cX3_sweep 5 = .ok (.aload_n 0, 1) := dk_42 (dk_at dksX3_sweep_0 5 rfl rfl)
theorem dX3_sweep_6 : decode cX3_sweep 6 = .ok (.iload_n 1, 1) := dk_27 (dk_at dksX3_sweep_0 6 rfl rfl)
theorem dX3_sweep_7 : decode cX3_sweep 7 = .ok (.iload_n 2, 1) := dk_28 (dk_at dksX3_sweep_0 7 rfl rfl)
theorem dX3_sweep_8 : decode cX3_sweep 8 = .ok (.invokevirtual 277, 3) := dk_182 1 21 (dk_at dksX3_sweep_0 8 rfl rfl)
theorem dX3_sweep_11 : decode cX3_sweep 11 = .ok (.istore_n 3, 1) := dk_62 (dk_at dksX3_sweep_0 11 rfl rfl)
theorem dX3_sweep_12 : decode cX3_sweep 12 = .ok (.iload_n 3, 1) := dk_29 (dk_at dksX3_sweep_0 12 rfl rfl)
theorem dX3_sweep_13 : decode cX3_sweep 13 = .ok (.ifCond .ge 5, 3) := dk_156 0 5 (dk_at dksX3_sweep_0 13 rfl rfl)
theorem dX3_sweep_16 : decode cX3_sweep 16 = .ok (.iload_n 3, 1) := dk_29 (dk_at dksX3_sweep_0 16 rfl rfl)
theorem dX3_sweep_17 : decode cX3_sweep 17 = .ok (.ireturn, 1) := dk_172 (dk_at dksX3_sweep_0 17 rfl rfl)
theorem dX3_sweep_18 : decode cX3_sweep 18 = .ok (.aload_n 0, 1) := dk_42 (dk_at dksX3_sweep_0 18 rfl rfl)
theorem dX3_sweep_19 : decode cX3_sweep 19 = .ok (.aload_n 0, 1) := dk_42 (dk_at dksX3_sweep_0 19 rfl rfl)
theorem dX3_sweep_20 : decode cX3_sweep 20 = .ok (.getfield 9, 3) := dk_180 0 9 (dk_at dksX3_sweep_0 20 rfl rfl)
theorem dX3_sweep_23 : decode cX3_sweep 23 = .ok (.invokevirtual 268, 3) := dk_182 1 12 (dk_at dksX3_sweep_1 0 rfl rfl)
theorem dX3_sweep_26 : decode cX3_sweep 26 = .ok (.aload_n 0, 1) := dk_42 (dk_at dksX3_sweep_1 3 rfl rfl)
theorem dX3_sweep_27 : decode cX3_sweep 27 = .ok (.getfield 9, 3) := dk_180 0 9 (dk_at dksX3_sweep_1 4 rfl rfl)
theorem dX3_sweep_30 : decode cX3_sweep 30 = .ok (.iload_n 1, 1) := dk_27 (dk_at dksX3_sweep_1 7 rfl rfl)
theorem dX3_sweep_31 : decode cX3_sweep 31 = .ok (.iload_n 2, 1) := dk_28 (dk_at dksX3_sweep_1 8 rfl rfl)
theorem dX3_sweep_32 : decode cX3_sweep 32 = .ok (.invokestatic 280, 3) := dk_184 1 24 (dk_at dksX3_sweep_1 9 rfl rfl)
theorem dX3_sweep_35 : decode cX3_sweep 35 = .ok (.aload_n 0, 1) := dk_42 (dk_at dksX3_sweep_1 12 rfl rfl)
theorem dX3_sweep_36 : decode cX3_sweep 36 = .ok (.getfield 9, 3) := dk_180 0 9 (dk_at dksX3_sweep_1 13 rfl rfl)
theorem dX3_sweep_39 : decode cX3_sweep 39 = .ok (.iload_n 1, 1) := dk_27 (dk_at dksX3_sweep_1 16 rfl rfl)
theorem dX3_sweep_40 : decode cX3_sweep 40 = .ok (.iconst 2, 1) := dk_5 (dk_at dksX3_sweep_1 17 rfl rfl)
theorem dX3_sweep_41 : decode cX3_sweep 41 = .ok (.irem, 1) := dk_112 (dk_at dksX3_sweep_1 18 rfl rfl)
theorem dX3_sweep_42 : decode cX3_sweep 42 = .ok (.ifCond .ne 9, 3) := dk_154 0 9 (dk_at dksX3_sweep_1 19 rfl rfl)
theorem dX3_sweep_45 : decode cX3_sweep 45 = .ok (.iload_n 1, 1) := dk_27 (dk_at dksX3_sweep_1 22 rfl rfl)
theorem dX3_sweep_46 : decode cX3_sweep 46 = .ok (.iconst 1, 1) := dk_4 (dk_at dksX3_sweep_1 23 rfl rfl)
theorem dX3_sweep_47 : decode cX3_sweep 47 = .ok (.iadd, 1) := dk_96 (dk_at dksX3_sweep_2 0 rfl rfl)
theorem dX3_sweep_48 : decode cX3_sweep 48 = .ok (.goto 6, 3) := dk_167 0 6 (dk_at dksX3_sweep_2 1 rfl rfl)
theorem dX3_sweep_51 : decode cX3_sweep 51 = .ok (.iload_n 1, 1) := dk_27 (dk_at dksX3_sweep_2 4 rfl rfl)
theorem dX3_sweep_52 : decode cX3_sweep 52 = .ok (.iconst 1, 1) := dk_4 (dk_at dksX3_sweep_2 5 rfl rfl)
theorem dX3_sweep_53 : decode cX3_sweep 53 = .ok (.isub, 1) := dk_100 (dk_at dksX3_sweep_2 6 rfl rfl)
theorem dX3_sweep_54 : decode cX3_sweep 54 = .ok (.iaload, 1) := dk_46 (dk_at dksX3_sweep_2 7 rfl rfl)
theorem dX3_sweep_55 : decode cX3_sweep 55 = .ok (.ireturn, 1) := dk_172 (dk_at dksX3_sweep_2 8 rfl rfl)
abbrev cX3_sweepRefusal : ByteArray := prog_9_method_49_code
def yX3_sweepRefusal : MethodName := ⟨RX3, "sweepRefusal", "(II)I"⟩
def dkwX3_sweepRefusal_1 : List UInt8 := [27, 46, 28, 162, 0, 8, 16, 254, 167, 0, 4, 3, 172]
abbrev dktX3_sweepRefusal_1 : List UInt8 := dkwX3_sweepRefusal_1 ++ []
def dkwX3_sweepRefusal_0 : List UInt8 := [42, 27, 182, 1, 18, 153, 0, 13, 28, 4, 16, 99, 184, 0, 97, 154, 0, 5, 2, 172, 42, 180, 0, 9]
abbrev dktX3_sweepRefusal_0 : List UInt8 := dkwX3_sweepRefusal_0 ++ dktX3_sweepRefusal_1
theorem dksX3_sweepRefusal_0 : cX3_sweepRefusal.data.toList.drop 0 = dktX3_sweepRefusal_0 := by decide +kernel
theorem dksX3_sweepRefusal_1 : cX3_sweepRefusal.data.toList.drop 24 = dktX3_sweepRefusal_1 := dk_seg dksX3_sweepRefusal_0 24 rfl rfl
theorem dX3_sweepRefusal_0 : decode cX3_sweepRefusal 0 = .ok (.aload_n 0, 1) := dk_42 (dk_at dksX3_sweepRefusal_0 0 rfl rfl)
theorem dX3_sweepRefusal_1 : decode cX3_sweepRefusal 1 = .ok (.iload_n 1, 1) := dk_27 (dk_at dksX3_sweepRefusal_0 1 rfl rfl)
theorem dX3_sweepRefusal_2 : decode cX3_sweepRefusal 2 = .ok (.invokevirtual 274, 3) := dk_182 1 18 (dk_at dksX3_sweepRefusal_0 2 rfl rfl)
theorem dX3_sweepRefusal_5 : decode cX3_sweepRefusal 5 = .ok (.ifCond .eq 13, 3) := dk_153 0 13 (dk_at dksX3_sweepRefusal_0 5 rfl rfl)
theorem dX3_sweepRefusal_8 : decode cX3_sweepRefusal 8 = .ok (.iload_n 2, 1) := dk_28 (dk_at dksX3_sweepRefusal_0 8 rfl rfl)
theorem dX3_sweepRefusal_9 : decode cX3_sweepRefusal 9 = .ok (.iconst 1, 1) := dk_4 (dk_at dksX3_sweepRefusal_0 9 rfl rfl)
theorem dX3_sweepRefusal_10 : decode cX3_sweepRefusal 10 = .ok (.bipush 99, 2) := dk_16 99 (dk_at dksX3_sweepRefusal_0 10 rfl rfl)
theorem dX3_sweepRefusal_12 : decode cX3_sweepRefusal 12 = .ok (.invokestatic 97, 3) := dk_184 0 97 (dk_at dksX3_sweepRefusal_0 12 rfl rfl)
theorem dX3_sweepRefusal_15 : decode cX3_sweepRefusal 15 = .ok (.ifCond .ne 5, 3) := dk_154 0 5 (dk_at dksX3_sweepRefusal_0 15 rfl rfl)
theorem dX3_sweepRefusal_18 : decode cX3_sweepRefusal 18 = .ok (.iconst (-1), 1) := dk_2 (dk_at dksX3_sweepRefusal_0 18 rfl rfl)
theorem dX3_sweepRefusal_19 : decode cX3_sweepRefusal 19 = .ok (.ireturn, 1) := dk_172 (dk_at dksX3_sweepRefusal_0 19 rfl rfl)
theorem dX3_sweepRefusal_20 : decode cX3_sweepRefusal 20 = .ok (.aload_n 0, 1) := dk_42 (dk_at dksX3_sweepRefusal_0 20 rfl rfl)
theorem dX3_sweepRefusal_21 : decode cX3_sweepRefusal 21 = .ok (.getfield 9, 3) := dk_180 0 9 (dk_at dksX3_sweepRefusal_0 21 rfl rfl)
theorem dX3_sweepRefusal_24 : decode cX3_sweepRefusal 24 = .ok (.iload_n 1, 1) := dk_27 (dk_at dksX3_sweepRefusal_1 0 rfl rfl)
theorem dX3_sweepRefusal_25 : decode cX3_sweepRefusal 25 = .ok (.iaload, 1) := dk_46 (dk_at dksX3_sweepRefusal_1 1 rfl rfl)
theorem dX3_sweepRefusal_26 : decode cX3_sweepRefusal 26 = .ok (.iload_n 2, 1) := dk_28 (dk_at dksX3_sweepRefusal_1 2 rfl rfl)
theorem dX3_sweepRefusal_27 : decode cX3_sweepRefusal 27 = .ok (.if_icmp .ge 8, 3) := dk_162 0 8 (dk_at dksX3_sweepRefusal_1 3 rfl rfl)
theorem dX3_sweepRefusal_30 : decode cX3_sweepRefusal 30 = .ok (.bipush (-2), 2) := dk_16 254 (dk_at dksX3_sweepRefusal_1 6 rfl rfl)
theorem dX3_sweepRefusal_32 : decode cX3_sweepRefusal 32 = .ok (.goto 4, 3) := dk_167 0 4 (dk_at dksX3_sweepRefusal_1 8 rfl rfl)
theorem dX3_sweepRefusal_35 : decode cX3_sweepRefusal 35 = .ok (.iconst 0, 1) := dk_3 (dk_at dksX3_sweepRefusal_1 11 rfl rfl)
theorem dX3_sweepRefusal_36 : decode cX3_sweepRefusal 36 = .ok (.ireturn, 1) := dk_172 (dk_at dksX3_sweepRefusal_1 12 rfl rfl)
abbrev cX3_isSide : ByteArray := prog_9_method_9_code
def yX3_isSide : MethodName := ⟨RX3, "isSide", "(I)Z"⟩
def dkwX3_isSide_0 : List UInt8 := [27, 3, 5, 42, 180, 0, 94, 104, 4, 100, 184, 0, 97, 172]
abbrev dktX3_isSide_0 : List UInt8 := dkwX3_isSide_0 ++ []
theorem dksX3_isSide_0 : cX3_isSide.data.toList.drop 0 = dktX3_isSide_0 := by decide +kernel
theorem dX3_isSide_0 : decode cX3_isSide 0 = .ok (.iload_n 1, 1) := dk_27 (dk_at dksX3_isSide_0 0 rfl rfl)
theorem dX3_isSide_1 : decode cX3_isSide 1 = .ok (.iconst 0, 1) := dk_3 (dk_at dksX3_isSide_0 1 rfl rfl)
theorem dX3_isSide_2 : decode cX3_isSide 2 = .ok (.iconst 2, 1) := dk_5 (dk_at dksX3_isSide_0 2 rfl rfl)
theorem dX3_isSide_3 : decode cX3_isSide 3 = .ok (.aload_n 0, 1) := dk_42 (dk_at dksX3_isSide_0 3 rfl rfl)
theorem dX3_isSide_4 : decode cX3_isSide 4 = .ok (.getfield 94, 3) := dk_180 0 94 (dk_at dksX3_isSide_0 4 rfl rfl)
theorem dX3_isSide_7 : decode cX3_isSide 7 = .ok (.imul, 1) := dk_104 (dk_at dksX3_isSide_0 7 rfl rfl)
theorem dX3_isSide_8 : decode cX3_isSide 8 = .ok (.iconst 1, 1) := dk_4 (dk_at dksX3_isSide_0 8 rfl rfl)
theorem dX3_isSide_9 : decode cX3_isSide 9 = .ok (.isub, 1) := dk_100 (dk_at dksX3_isSide_0 9 rfl rfl)
theorem dX3_isSide_10 : decode cX3_isSide 10 = .ok (.invokestatic 97, 3) := dk_184 0 97 (dk_at dksX3_isSide_0 10 rfl rfl)
theorem dX3_isSide_13 : decode cX3_isSide 13 = .ok (.ireturn, 1) := dk_172 (dk_at dksX3_isSide_0 13 rfl rfl)
abbrev cX3_sweeps : ByteArray := prog_9_method_48_code
def yX3_sweeps : MethodName := ⟨RX3, "sweeps", "([III)V"⟩
def dkwX3_sweeps_1 : List UInt8 := [29, 17, 3, 231, 42, 29, 46, 28, 96, 184, 0, 227, 79, 177]
abbrev dktX3_sweeps_1 : List UInt8 := dkwX3_sweeps_1 ++ []
def dkwX3_sweeps_0 : List UInt8 := [27, 5, 112, 154, 0, 9, 27, 4, 96, 167, 0, 6, 27, 4, 100, 62, 42, 27, 92, 46, 28, 100, 79, 42]
abbrev dktX3_sweeps_0 : List UInt8 := dkwX3_sweeps_0 ++ dktX3_sweeps_1
theorem dksX3_sweeps_0 : cX3_sweeps.data.toList.drop 0 = dktX3_sweeps_0 := by decide +kernel
theorem dksX3_sweeps_1 : cX3_sweeps.data.toList.drop 24 = dktX3_sweeps_1 := dk_seg dksX3_sweeps_0 24 rfl rfl
theorem dX3_sweeps_0 : decode cX3_sweeps 0 = .ok (.iload_n 1, 1) := dk_27 (dk_at dksX3_sweeps_0 0 rfl rfl)
theorem dX3_sweeps_1 : decode cX3_sweeps 1 = .ok (.iconst 2, 1) := dk_5 (dk_at dksX3_sweeps_0 1 rfl rfl)
theorem dX3_sweeps_2 : decode cX3_sweeps 2 = .ok (.irem, 1) := dk_112 (dk_at dksX3_sweeps_0 2 rfl rfl)
theorem dX3_sweeps_3 : decode cX3_sweeps 3 = .ok (.ifCond .ne 9, 3) := dk_154 0 9 (dk_at dksX3_sweeps_0 3 rfl rfl)
theorem dX3_sweeps_6 : decode cX3_sweeps 6 = .ok (.iload_n 1, 1) := dk_27 (dk_at dksX3_sweeps_0 6 rfl rfl)
theorem dX3_sweeps_7 : decode cX3_sweeps 7 = .ok (.iconst 1, 1) := dk_4 (dk_at dksX3_sweeps_0 7 rfl rfl)
theorem dX3_sweeps_8 : decode cX3_sweeps 8 = .ok (.iadd, 1) := dk_96 (dk_at dksX3_sweeps_0 8 rfl rfl)
theorem dX3_sweeps_9 : decode cX3_sweeps 9 = .ok (.goto 6, 3) := dk_167 0 6 (dk_at dksX3_sweeps_0 9 rfl rfl)
theorem dX3_sweeps_12 : decode cX3_sweeps 12 = .ok (.iload_n 1, 1) := dk_27 (dk_at dksX3_sweeps_0 12 rfl rfl)
theorem dX3_sweeps_13 : decode cX3_sweeps 13 = .ok (.iconst 1, 1) := dk_4 (dk_at dksX3_sweeps_0 13 rfl rfl)
theorem dX3_sweeps_14 : decode cX3_sweeps 14 = .ok (.isub, 1) := dk_100 (dk_at dksX3_sweeps_0 14 rfl rfl)
theorem dX3_sweeps_15 : decode cX3_sweeps 15 = .ok (.istore_n 3, 1) := dk_62 (dk_at dksX3_sweeps_0 15 rfl rfl)
theorem dX3_sweeps_16 : decode cX3_sweeps 16 = .ok (.aload_n 0, 1) := dk_42 (dk_at dksX3_sweeps_0 16 rfl rfl)
theorem dX3_sweeps_17 : decode cX3_sweeps 17 = .ok (.iload_n 1, 1) := dk_27 (dk_at dksX3_sweeps_0 17 rfl rfl)
theorem dX3_sweeps_18 : decode cX3_sweeps 18 = .ok (.dup2, 1) := dk_92 (dk_at dksX3_sweeps_0 18 rfl rfl)
theorem dX3_sweeps_19 : decode cX3_sweeps 19 = .ok (.iaload, 1) := dk_46 (dk_at dksX3_sweeps_0 19 rfl rfl)
theorem dX3_sweeps_20 : decode cX3_sweeps 20 = .ok (.iload_n 2, 1) := dk_28 (dk_at dksX3_sweeps_0 20 rfl rfl)
theorem dX3_sweeps_21 : decode cX3_sweeps 21 = .ok (.isub, 1) := dk_100 (dk_at dksX3_sweeps_0 21 rfl rfl)
theorem dX3_sweeps_22 : decode cX3_sweeps 22 = .ok (.iastore, 1) := dk_79 (dk_at dksX3_sweeps_0 22 rfl rfl)
theorem dX3_sweeps_23 : decode cX3_sweeps 23 = .ok (.aload_n 0, 1) := dk_42 (dk_at dksX3_sweeps_0 23 rfl rfl)
theorem dX3_sweeps_24 : decode cX3_sweeps 24 = .ok (.iload_n 3, 1) := dk_29 (dk_at dksX3_sweeps_1 0 rfl rfl)
theorem dX3_sweeps_25 : decode cX3_sweeps 25 = .ok (.sipush 999, 3) := dk_17 3 231 (dk_at dksX3_sweeps_1 1 rfl rfl)
theorem dX3_sweeps_28 : decode cX3_sweeps 28 = .ok (.aload_n 0, 1) := dk_42 (dk_at dksX3_sweeps_1 4 rfl rfl)
theorem dX3_sweeps_29 : decode cX3_sweeps 29 = .ok (.iload_n 3, 1) := dk_29 (dk_at dksX3_sweeps_1 5 rfl rfl)
theorem dX3_sweeps_30 : decode cX3_sweeps 30 = .ok (.iaload, 1) := dk_46 (dk_at dksX3_sweeps_1 6 rfl rfl)
theorem dX3_sweeps_31 : decode cX3_sweeps 31 = .ok (.iload_n 2, 1) := dk_28 (dk_at dksX3_sweeps_1 7 rfl rfl)
theorem dX3_sweeps_32 : decode cX3_sweeps 32 = .ok (.iadd, 1) := dk_96 (dk_at dksX3_sweeps_1 8 rfl rfl)
theorem dX3_sweeps_33 : decode cX3_sweeps 33 = .ok (.invokestatic 227, 3) := dk_184 0 227 (dk_at dksX3_sweeps_1 9 rfl rfl)
theorem dX3_sweeps_36 : decode cX3_sweeps 36 = .ok (.iastore, 1) := dk_79 (dk_at dksX3_sweeps_1 12 rfl rfl)
theorem dX3_sweeps_37 : decode cX3_sweeps 37 = .ok (.return_, 1) := dk_177 (dk_at dksX3_sweeps_1 13 rfl rfl)
abbrev cX3_clear : ByteArray := prog_9_method_52_code
def yX3_clear : MethodName := ⟨RX3, "clear", "(II)I"⟩
def dkwX3_clear_2 : List UInt8 := [46, 172]
abbrev dktX3_clear_2 : List UInt8 := dkwX3_clear_2 ++ []
def dkwX3_clear_1 : List UInt8 := [182, 1, 12, 42, 180, 0, 9, 16, 14, 27, 96, 92, 46, 28, 100, 79, 42, 180, 0, 9, 16, 14, 27, 96]
abbrev dktX3_clear_1 : List UInt8 := dkwX3_clear_1 ++ dktX3_clear_2
def dkwX3_clear_0 : List UInt8 := [42, 3, 181, 0, 87, 42, 27, 28, 182, 1, 28, 62, 29, 156, 0, 5, 29, 172, 42, 42, 180, 0, 9]
abbrev dktX3_clear_0 : List UInt8 := dkwX3_clear_0 ++ dktX3_clear_1
theorem dksX3_clear_0 : cX3_clear.data.toList.drop 0 = dktX3_clear_0 := by decide +kernel
theorem dksX3_clear_1 : cX3_clear.data.toList.drop 23 = dktX3_clear_1 := dk_seg dksX3_clear_0 23 rfl rfl
theorem dksX3_clear_2 : cX3_clear.data.toList.drop 47 = dktX3_clear_2 := dk_seg dksX3_clear_1 24 rfl rfl
theorem dX3_clear_0 : decode cX3_clear 0 = .ok (.aload_n 0, 1) := dk_42 (dk_at dksX3_clear_0 0 rfl rfl)
theorem dX3_clear_1 : decode cX3_clear 1 = .ok (.iconst 0, 1) := dk_3 (dk_at dksX3_clear_0 1 rfl rfl)
theorem dX3_clear_2 : decode cX3_clear 2 = .ok (.putfield 87, 3) := dk_181 0 87 (dk_at dksX3_clear_0 2 rfl rfl)
theorem dX3_clear_5 : decode cX3_clear 5 = .ok (.aload_n 0, 1) := dk_42 (dk_at dksX3_clear_0 5 rfl rfl)
theorem dX3_clear_6 : decode cX3_clear 6 = .ok (.iload_n 1, 1) := dk_27 (dk_at dksX3_clear_0 6 rfl rfl)
theorem dX3_clear_7 : decode cX3_clear 7 = .ok (.iload_n 2, 1) := dk_28 (dk_at dksX3_clear_0 7 rfl rfl)
theorem dX3_clear_8 : decode cX3_clear 8 = .ok (.invokevirtual 284, 3) := dk_182 1 28 (dk_at dksX3_clear_0 8 rfl rfl)
theorem dX3_clear_11 : decode cX3_clear 11 = .ok (.istore_n 3, 1) := dk_62 (dk_at dksX3_clear_0 11 rfl rfl)
theorem dX3_clear_12 : decode cX3_clear 12 = .ok (.iload_n 3, 1) := dk_29 (dk_at dksX3_clear_0 12 rfl rfl)
theorem dX3_clear_13 : decode cX3_clear 13 = .ok (.ifCond .ge 5, 3) := dk_156 0 5 (dk_at dksX3_clear_0 13 rfl rfl)
theorem dX3_clear_16 : decode cX3_clear 16 = .ok (.iload_n 3, 1) := dk_29 (dk_at dksX3_clear_0 16 rfl rfl)
theorem dX3_clear_17 : decode cX3_clear 17 = .ok (.ireturn, 1) := dk_172 (dk_at dksX3_clear_0 17 rfl rfl)
theorem dX3_clear_18 : decode cX3_clear 18 = .ok (.aload_n 0, 1) := dk_42 (dk_at dksX3_clear_0 18 rfl rfl)
theorem dX3_clear_19 : decode cX3_clear 19 = .ok (.aload_n 0, 1) := dk_42 (dk_at dksX3_clear_0 19 rfl rfl)
theorem dX3_clear_20 : decode cX3_clear 20 = .ok (.getfield 9, 3) := dk_180 0 9 (dk_at dksX3_clear_0 20 rfl rfl)
theorem dX3_clear_23 : decode cX3_clear 23 = .ok (.invokevirtual 268, 3) := dk_182 1 12 (dk_at dksX3_clear_1 0 rfl rfl)
theorem dX3_clear_26 : decode cX3_clear 26 = .ok (.aload_n 0, 1) := dk_42 (dk_at dksX3_clear_1 3 rfl rfl)
theorem dX3_clear_27 : decode cX3_clear 27 = .ok (.getfield 9, 3) := dk_180 0 9 (dk_at dksX3_clear_1 4 rfl rfl)
theorem dX3_clear_30 : decode cX3_clear 30 = .ok (.bipush 14, 2) := dk_16 14 (dk_at dksX3_clear_1 7 rfl rfl)
theorem dX3_clear_32 : decode cX3_clear 32 = .ok (.iload_n 1, 1) := dk_27 (dk_at dksX3_clear_1 9 rfl rfl)
theorem dX3_clear_33 : decode cX3_clear 33 = .ok (.iadd, 1) := dk_96 (dk_at dksX3_clear_1 10 rfl rfl)
theorem dX3_clear_34 : decode cX3_clear 34 = .ok (.dup2, 1) := dk_92 (dk_at dksX3_clear_1 11 rfl rfl)
theorem dX3_clear_35 : decode cX3_clear 35 = .ok (.iaload, 1) := dk_46 (dk_at dksX3_clear_1 12 rfl rfl)
theorem dX3_clear_36 : decode cX3_clear 36 = .ok (.iload_n 2, 1) := dk_28 (dk_at dksX3_clear_1 13 rfl rfl)
theorem dX3_clear_37 : decode cX3_clear 37 = .ok (.isub, 1) := dk_100 (dk_at dksX3_clear_1 14 rfl rfl)
theorem dX3_clear_38 : decode cX3_clear 38 = .ok (.iastore, 1) := dk_79 (dk_at dksX3_clear_1 15 rfl rfl)
theorem dX3_clear_39 : decode cX3_clear 39 = .ok (.aload_n 0, 1) := dk_42 (dk_at dksX3_clear_1 16 rfl rfl)
theorem dX3_clear_40 : decode cX3_clear 40 = .ok (.getfield 9, 3) := dk_180 0 9 (dk_at dksX3_clear_1 17 rfl rfl)
theorem dX3_clear_43 : decode cX3_clear 43 = .ok (.bipush 14, 2) := dk_16 14 (dk_at dksX3_clear_1 20 rfl rfl)
theorem dX3_clear_45 : decode cX3_clear 45 = .ok (.iload_n 1, 1) := dk_27 (dk_at dksX3_clear_1 22 rfl rfl)
theorem dX3_clear_46 : decode cX3_clear 46 = .ok (.iadd, 1) := dk_96 (dk_at dksX3_clear_1 23 rfl rfl)
theorem dX3_clear_47 : decode cX3_clear 47 = .ok (.iaload, 1) := dk_46 (dk_at dksX3_clear_2 0 rfl rfl)
theorem dX3_clear_48 : decode cX3_clear 48 = .ok (.ireturn, 1) := dk_172 (dk_at dksX3_clear_2 1 rfl rfl)
abbrev cX3_clearRefusal : ByteArray := prog_9_method_51_code
def yX3_clearRefusal : MethodName := ⟨RX3, "clearRefusal", "(II)I"⟩
def dkwX3_clearRefusal_1 : List UInt8 := [16, 14, 27, 96, 46, 28, 162, 0, 8, 16, 254, 167, 0, 4, 3, 172]
abbrev dktX3_clearRefusal_1 : List UInt8 := dkwX3_clearRefusal_1 ++ []
def dkwX3_clearRefusal_0 : List UInt8 := [42, 27, 182, 0, 101, 153, 0, 13, 28, 4, 16, 99, 184, 0, 97, 154, 0, 5, 2, 172, 42, 180, 0, 9]
abbrev dktX3_clearRefusal_0 : List UInt8 := dkwX3_clearRefusal_0 ++ dktX3_clearRefusal_1
theorem dksX3_clearRefusal_0 : cX3_clearRefusal.data.toList.drop 0 = dktX3_clearRefusal_0 := by decide +kernel
theorem dksX3_clearRefusal_1 : cX3_clearRefusal.data.toList.drop 24 = dktX3_clearRefusal_1 := dk_seg dksX3_clearRefusal_0 24 rfl rfl
theorem dX3_clearRefusal_0 : decode cX3_clearRefusal 0 = .ok (.aload_n 0, 1) := dk_42 (dk_at dksX3_clearRefusal_0 0 rfl rfl)
theorem dX3_clearRefusal_1 : decode cX3_clearRefusal 1 = .ok (.iload_n 1, 1) := dk_27 (dk_at dksX3_clearRefusal_0 1 rfl rfl)
theorem dX3_clearRefusal_2 : decode cX3_clearRefusal 2 = .ok (.invokevirtual 101, 3) := dk_182 0 101 (dk_at dksX3_clearRefusal_0 2 rfl rfl)
theorem dX3_clearRefusal_5 : decode cX3_clearRefusal 5 = .ok (.ifCond .eq 13, 3) := dk_153 0 13 (dk_at dksX3_clearRefusal_0 5 rfl rfl)
theorem dX3_clearRefusal_8 : decode cX3_clearRefusal 8 = .ok (.iload_n 2, 1) := dk_28 (dk_at dksX3_clearRefusal_0 8 rfl rfl)
theorem dX3_clearRefusal_9 : decode cX3_clearRefusal 9 = .ok (.iconst 1, 1) := dk_4 (dk_at dksX3_clearRefusal_0 9 rfl rfl)
theorem dX3_clearRefusal_10 : decode cX3_clearRefusal 10 = .ok (.bipush 99, 2) := dk_16 99 (dk_at dksX3_clearRefusal_0 10 rfl rfl)
theorem dX3_clearRefusal_12 : decode cX3_clearRefusal 12 = .ok (.invokestatic 97, 3) := dk_184 0 97 (dk_at dksX3_clearRefusal_0 12 rfl rfl)
theorem dX3_clearRefusal_15 : decode cX3_clearRefusal 15 = .ok (.ifCond .ne 5, 3) := dk_154 0 5 (dk_at dksX3_clearRefusal_0 15 rfl rfl)
theorem dX3_clearRefusal_18 : decode cX3_clearRefusal 18 = .ok (.iconst (-1), 1) := dk_2 (dk_at dksX3_clearRefusal_0 18 rfl rfl)
theorem dX3_clearRefusal_19 : decode cX3_clearRefusal 19 = .ok (.ireturn, 1) := dk_172 (dk_at dksX3_clearRefusal_0 19 rfl rfl)
theorem dX3_clearRefusal_20 : decode cX3_clearRefusal 20 = .ok (.aload_n 0, 1) := dk_42 (dk_at dksX3_clearRefusal_0 20 rfl rfl)
theorem dX3_clearRefusal_21 : decode cX3_clearRefusal 21 = .ok (.getfield 9, 3) := dk_180 0 9 (dk_at dksX3_clearRefusal_0 21 rfl rfl)
theorem dX3_clearRefusal_24 : decode cX3_clearRefusal 24 = .ok (.bipush 14, 2) := dk_16 14 (dk_at dksX3_clearRefusal_1 0 rfl rfl)
theorem dX3_clearRefusal_26 : decode cX3_clearRefusal 26 = .ok (.iload_n 1, 1) := dk_27 (dk_at dksX3_clearRefusal_1 2 rfl rfl)
theorem dX3_clearRefusal_27 : decode cX3_clearRefusal 27 = .ok (.iadd, 1) := dk_96 (dk_at dksX3_clearRefusal_1 3 rfl rfl)
theorem dX3_clearRefusal_28 : decode cX3_clearRefusal 28 = .ok (.iaload, 1) := dk_46 (dk_at dksX3_clearRefusal_1 4 rfl rfl)
theorem dX3_clearRefusal_29 : decode cX3_clearRefusal 29 = .ok (.iload_n 2, 1) := dk_28 (dk_at dksX3_clearRefusal_1 5 rfl rfl)
theorem dX3_clearRefusal_30 : decode cX3_clearRefusal 30 = .ok (.if_icmp .ge 8, 3) := dk_162 0 8 (dk_at dksX3_clearRefusal_1 6 rfl rfl)
theorem dX3_clearRefusal_33 : decode cX3_clearRefusal 33 = .ok (.bipush (-2), 2) := dk_16 254 (dk_at dksX3_clearRefusal_1 9 rfl rfl)
theorem dX3_clearRefusal_35 : decode cX3_clearRefusal 35 = .ok (.goto 4, 3) := dk_167 0 4 (dk_at dksX3_clearRefusal_1 11 rfl rfl)
theorem dX3_clearRefusal_38 : decode cX3_clearRefusal 38 = .ok (.iconst 0, 1) := dk_3 (dk_at dksX3_clearRefusal_1 14 rfl rfl)
theorem dX3_clearRefusal_39 : decode cX3_clearRefusal 39 = .ok (.ireturn, 1) := dk_172 (dk_at dksX3_clearRefusal_1 15 rfl rfl)
abbrev cX3_wind : ByteArray := prog_9_method_53_code
def yX3_wind : MethodName := ⟨RX3, "wind", "(II)I"⟩
def dkwX3_wind_3 : List UInt8 := [104, 27, 96, 21, 5, 184, 1, 24, 29, 21, 5, 96, 62, 132, 4, 1, 167, 255, 207, 29, 172]
abbrev dktX3_wind_3 : List UInt8 := dkwX3_wind_3 ++ []
def dkwX3_wind_2 : List UInt8 := [28, 42, 180, 0, 9, 5, 21, 4, 104, 27, 96, 46, 184, 0, 227, 54, 5, 42, 180, 0, 9, 5, 21, 4]
abbrev dktX3_wind_2 : List UInt8 := dkwX3_wind_2 ++ dktX3_wind_3
def dkwX3_wind_1 : List UInt8 := [2, 172, 42, 42, 180, 0, 9, 182, 1, 12, 3, 62, 3, 54, 4, 21, 4, 42, 180, 0, 94, 162, 0, 46]
abbrev dktX3_wind_1 : List UInt8 := dkwX3_wind_1 ++ dktX3_wind_2
def dkwX3_wind_0 : List UInt8 := [42, 3, 181, 0, 87, 27, 3, 4, 184, 0, 97, 153, 0, 13, 28, 4, 16, 99, 184, 0, 97, 154, 0, 5]
abbrev dktX3_wind_0 : List UInt8 := dkwX3_wind_0 ++ dktX3_wind_1
theorem dksX3_wind_0 : cX3_wind.data.toList.drop 0 = dktX3_wind_0 := by decide +kernel
theorem dksX3_wind_1 : cX3_wind.data.toList.drop 24 = dktX3_wind_1 := dk_seg dksX3_wind_0 24 rfl rfl
theorem dksX3_wind_2 : cX3_wind.data.toList.drop 48 = dktX3_wind_2 := dk_seg dksX3_wind_1 24 rfl rfl
theorem dksX3_wind_3 : cX3_wind.data.toList.drop 72 = dktX3_wind_3 := dk_seg dksX3_wind_2 24 rfl rfl
theorem dX3_wind_0 : decode cX3_wind 0 = .ok (.aload_n 0, 1) := dk_42 (dk_at dksX3_wind_0 0 rfl rfl)
theorem dX3_wind_1 : decode cX3_wind 1 = .ok (.iconst 0, 1) := dk_3 (dk_at dksX3_wind_0 1 rfl rfl)
theorem dX3_wind_2 : decode cX3_wind 2 = .ok (.putfield 87, 3) := dk_181 0 87 (dk_at dksX3_wind_0 2 rfl rfl)
theorem dX3_wind_5 : decode cX3_wind 5 = .ok (.iload_n 1, 1) := dk_27 (dk_at dksX3_wind_0 5 rfl rfl)
theorem dX3_wind_6 : decode cX3_wind 6 = .ok (.iconst 0, 1) := dk_3 (dk_at dksX3_wind_0 6 rfl rfl)
theorem dX3_wind_7 : decode cX3_wind 7 = .ok (.iconst 1, 1) := dk_4 (dk_at dksX3_wind_0 7 rfl rfl)
theorem dX3_wind_8 : decode cX3_wind 8 = .ok (.invokestatic 97, 3) := dk_184 0 97 (dk_at dksX3_wind_0 8 rfl rfl)
theorem dX3_wind_11 : decode cX3_wind 11 = .ok (.ifCond .eq 13, 3) := dk_153 0 13 (dk_at dksX3_wind_0 11 rfl rfl)
theorem dX3_wind_14 : decode cX3_wind 14 = .ok (.iload_n 2, 1) := dk_28 (dk_at dksX3_wind_0 14 rfl rfl)
theorem dX3_wind_15 : decode cX3_wind 15 = .ok (.iconst 1, 1) := dk_4 (dk_at dksX3_wind_0 15 rfl rfl)
theorem dX3_wind_16 : decode cX3_wind 16 = .ok (.bipush 99, 2) := dk_16 99 (dk_at dksX3_wind_0 16 rfl rfl)
theorem dX3_wind_18 : decode cX3_wind 18 = .ok (.invokestatic 97, 3) := dk_184 0 97 (dk_at dksX3_wind_0 18 rfl rfl)
theorem dX3_wind_21 : decode cX3_wind 21 = .ok (.ifCond .ne 5, 3) := dk_154 0 5 (dk_at dksX3_wind_0 21 rfl rfl)
theorem dX3_wind_24 : decode cX3_wind 24 = .ok (.iconst (-1), 1) := dk_2 (dk_at dksX3_wind_1 0 rfl rfl)
theorem dX3_wind_25 : decode cX3_wind 25 = .ok (.ireturn, 1) := dk_172 (dk_at dksX3_wind_1 1 rfl rfl)
theorem dX3_wind_26 : decode cX3_wind 26 = .ok (.aload_n 0, 1) := dk_42 (dk_at dksX3_wind_1 2 rfl rfl)
theorem dX3_wind_27 : decode cX3_wind 27 = .ok (.aload_n 0, 1) := dk_42 (dk_at dksX3_wind_1 3 rfl rfl)
theorem dX3_wind_28 : decode cX3_wind 28 = .ok (.getfield 9, 3) := dk_180 0 9 (dk_at dksX3_wind_1 4 rfl rfl)
theorem dX3_wind_31 : decode cX3_wind 31 = .ok (.invokevirtual 268, 3) := dk_182 1 12 (dk_at dksX3_wind_1 7 rfl rfl)
theorem dX3_wind_34 : decode cX3_wind 34 = .ok (.iconst 0, 1) := dk_3 (dk_at dksX3_wind_1 10 rfl rfl)
theorem dX3_wind_35 : decode cX3_wind 35 = .ok (.istore_n 3, 1) := dk_62 (dk_at dksX3_wind_1 11 rfl rfl)
theorem dX3_wind_36 : decode cX3_wind 36 = .ok (.iconst 0, 1) := dk_3 (dk_at dksX3_wind_1 12 rfl rfl)
theorem dX3_wind_37 : decode cX3_wind 37 = .ok (.istore 4, 2) := dk_54 4 (dk_at dksX3_wind_1 13 rfl rfl)
theorem dX3_wind_39 : decode cX3_wind 39 = .ok (.iload 4, 2) := dk_21 4 (dk_at dksX3_wind_1 15 rfl rfl)
theorem dX3_wind_41 : decode cX3_wind 41 = .ok (.aload_n 0, 1) := dk_42 (dk_at dksX3_wind_1 17 rfl rfl)
theorem dX3_wind_42 : decode cX3_wind 42 = .ok (.getfield 94, 3) := dk_180 0 94 (dk_at dksX3_wind_1 18 rfl rfl)
theorem dX3_wind_45 : decode cX3_wind 45 = .ok (.if_icmp .ge 46, 3) := dk_162 0 46 (dk_at dksX3_wind_1 21 rfl rfl)
theorem dX3_wind_48 : decode cX3_wind 48 = .ok (.iload_n 2, 1) := dk_28 (dk_at dksX3_wind_2 0 rfl rfl)
theorem dX3_wind_49 : decode cX3_wind 49 = .ok (.aload_n 0, 1) := dk_42 (dk_at dksX3_wind_2 1 rfl rfl)
theorem dX3_wind_50 : decode cX3_wind 50 = .ok (.getfield 9, 3) := dk_180 0 9 (dk_at dksX3_wind_2 2 rfl rfl)
theorem dX3_wind_53 : decode cX3_wind 53 = .ok (.iconst 2, 1) := dk_5 (dk_at dksX3_wind_2 5 rfl rfl)
theorem dX3_wind_54 : decode cX3_wind 54 = .ok (.iload 4, 2) := dk_21 4 (dk_at dksX3_wind_2 6 rfl rfl)
theorem dX3_wind_56 : decode cX3_wind 56 = .ok (.imul, 1) := dk_104 (dk_at dksX3_wind_2 8 rfl rfl)
theorem dX3_wind_57 : decode cX3_wind 57 = .ok (.iload_n 1, 1) := dk_27 (dk_at dksX3_wind_2 9 rfl rfl)
theorem dX3_wind_58 : decode cX3_wind 58 = .ok (.iadd, 1) := dk_96 (dk_at dksX3_wind_2 10 rfl rfl)
theorem dX3_wind_59 : decode cX3_wind 59 = .ok (.iaload, 1) := dk_46 (dk_at dksX3_wind_2 11 rfl rfl)
theorem dX3_wind_60 : decode cX3_wind 60 = .ok (.invokestatic 227, 3) := dk_184 0 227 (dk_at dksX3_wind_2 12 rfl rfl)
theorem dX3_wind_63 : decode cX3_wind 63 = .ok (.istore 5, 2) := dk_54 5 (dk_at dksX3_wind_2 15 rfl rfl)
theorem dX3_wind_65 : decode cX3_wind 65 = .ok (.aload_n 0, 1) := dk_42 (dk_at dksX3_wind_2 17 rfl rfl)
theorem dX3_wind_66 : decode cX3_wind 66 = .ok (.getfield 9, 3) := dk_180 0 9 (dk_at dksX3_wind_2 18 rfl rfl)
theorem dX3_wind_69 : decode cX3_wind 69 = .ok (.iconst 2, 1) := dk_5 (dk_at dksX3_wind_2 21 rfl rfl)
theorem dX3_wind_70 : decode cX3_wind 70 = .ok (.iload 4, 2) := dk_21 4 (dk_at dksX3_wind_2 22 rfl rfl)
theorem dX3_wind_72 : decode cX3_wind 72 = .ok (.imul, 1) := dk_104 (dk_at dksX3_wind_3 0 rfl rfl)
theorem dX3_wind_73 : decode cX3_wind 73 = .ok (.iload_n 1, 1) := dk_27 (dk_at dksX3_wind_3 1 rfl rfl)
theorem dX3_wind_74 : decode cX3_wind 74 = .ok (.iadd, 1) := dk_96 (dk_at dksX3_wind_3 2 rfl rfl)
theorem dX3_wind_75 : decode cX3_wind 75 = .ok (.iload 5, 2) := dk_21 5 (dk_at dksX3_wind_3 3 rfl rfl)
theorem dX3_wind_77 : decode cX3_wind 77 = .ok (.invokestatic 280, 3) := dk_184 1 24 (dk_at dksX3_wind_3 5 rfl rfl)
theorem dX3_wind_80 : decode cX3_wind 80 = .ok (.iload_n 3, 1) := dk_29 (dk_at dksX3_wind_3 8 rfl rfl)
theorem dX3_wind_81 : decode cX3_wind 81 = .ok (.iload 5, 2) := dk_21 5 (dk_at dksX3_wind_3 9 rfl rfl)
theorem dX3_wind_83 : decode cX3_wind 83 = .ok (.iadd, 1) := dk_96 (dk_at dksX3_wind_3 11 rfl rfl)
theorem dX3_wind_84 : decode cX3_wind 84 = .ok (.istore_n 3, 1) := dk_62 (dk_at dksX3_wind_3 12 rfl rfl)
theorem dX3_wind_85 : decode cX3_wind 85 = .ok (.iinc 4 1, 3) := dk_132 4 1 (dk_at dksX3_wind_3 13 rfl rfl)
theorem dX3_wind_88 : decode cX3_wind 88 = .ok (.goto (-49), 3) := dk_167 255 207 (dk_at dksX3_wind_3 16 rfl rfl)
theorem dX3_wind_91 : decode cX3_wind 91 = .ok (.iload_n 3, 1) := dk_29 (dk_at dksX3_wind_3 19 rfl rfl)
theorem dX3_wind_92 : decode cX3_wind 92 = .ok (.ireturn, 1) := dk_172 (dk_at dksX3_wind_3 20 rfl rfl)
abbrev cX3_loose : ByteArray := prog_9_method_55_code
def yX3_loose : MethodName := ⟨RX3, "loose", "(II)I"⟩
def dkwX3_loose_2 : List UInt8 := [182, 0, 249, 42, 3, 181, 0, 91, 42, 42, 180, 0, 240, 182, 0, 230, 21, 4, 172]
abbrev dktX3_loose_2 : List UInt8 := dkwX3_loose_2 ++ []
def dkwX3_loose_1 : List UInt8 := [182, 1, 12, 42, 180, 0, 9, 28, 46, 54, 4, 42, 182, 1, 1, 42, 42, 180, 0, 9, 28, 27, 4]
abbrev dktX3_loose_1 : List UInt8 := dkwX3_loose_1 ++ dktX3_loose_2
def dkwX3_loose_0 : List UInt8 := [42, 3, 181, 0, 87, 42, 27, 28, 182, 1, 31, 62, 29, 156, 0, 5, 29, 172, 42, 42, 180, 0, 9]
abbrev dktX3_loose_0 : List UInt8 := dkwX3_loose_0 ++ dktX3_loose_1
theorem dksX3_loose_0 : cX3_loose.data.toList.drop 0 = dktX3_loose_0 := by decide +kernel
theorem dksX3_loose_1 : cX3_loose.data.toList.drop 23 = dktX3_loose_1 := dk_seg dksX3_loose_0 23 rfl rfl
theorem dksX3_loose_2 : cX3_loose.data.toList.drop 46 = dktX3_loose_2 := dk_seg dksX3_loose_1 23 rfl rfl
theorem dX3_loose_0 : decode cX3_loose 0 = .ok (.aload_n 0, 1) := dk_42 (dk_at dksX3_loose_0 0 rfl rfl)
theorem dX3_loose_1 : decode cX3_loose 1 = .ok (.iconst 0, 1) := dk_3 (dk_at dksX3_loose_0 1 rfl rfl)
theorem dX3_loose_2 : decode cX3_loose 2 = .ok (.putfield 87, 3) := dk_181 0 87 (dk_at dksX3_loose_0 2 rfl rfl)
theorem dX3_loose_5 : decode cX3_loose 5 = .ok (.aload_n 0, 1) := dk_42 (dk_at dksX3_loose_0 5 rfl rfl)
theorem dX3_loose_6 : decode cX3_loose 6 = .ok (.iload_n 1, 1) := dk_27 (dk_at dksX3_loose_0 6 rfl rfl)
theorem dX3_loose_7 : decode cX3_loose 7 = .ok (.iload_n 2, 1) := dk_28 (dk_at dksX3_loose_0 7 rfl rfl)
theorem dX3_loose_8 : decode cX3_loose 8 = .ok (.invokevirtual 287, 3) := dk_182 1 31 (dk_at dksX3_loose_0 8 rfl rfl)
theorem dX3_loose_11 : decode cX3_loose 11 = .ok (.istore_n 3, 1) := dk_62 (dk_at dksX3_loose_0 11 rfl rfl)
theorem dX3_loose_12 : decode cX3_loose 12 = .ok (.iload_n 3, 1) := dk_29 (dk_at dksX3_loose_0 12 rfl rfl)
theorem dX3_loose_13 : decode cX3_loose 13 = .ok (.ifCond .ge 5, 3) := dk_156 0 5 (dk_at dksX3_loose_0 13 rfl rfl)
theorem dX3_loose_16 : decode cX3_loose 16 = .ok (.iload_n 3, 1) := dk_29 (dk_at dksX3_loose_0 16 rfl rfl)
theorem dX3_loose_17 : decode cX3_loose 17 = .ok (.ireturn, 1) := dk_172 (dk_at dksX3_loose_0 17 rfl rfl)
theorem dX3_loose_18 : decode cX3_loose 18 = .ok (.aload_n 0, 1) := dk_42 (dk_at dksX3_loose_0 18 rfl rfl)
theorem dX3_loose_19 : decode cX3_loose 19 = .ok (.aload_n 0, 1) := dk_42 (dk_at dksX3_loose_0 19 rfl rfl)
theorem dX3_loose_20 : decode cX3_loose 20 = .ok (.getfield 9, 3) := dk_180 0 9 (dk_at dksX3_loose_0 20 rfl rfl)
theorem dX3_loose_23 : decode cX3_loose 23 = .ok (.invokevirtual 268, 3) := dk_182 1 12 (dk_at dksX3_loose_1 0 rfl rfl)
theorem dX3_loose_26 : decode cX3_loose 26 = .ok (.aload_n 0, 1) := dk_42 (dk_at dksX3_loose_1 3 rfl rfl)
theorem dX3_loose_27 : decode cX3_loose 27 = .ok (.getfield 9, 3) := dk_180 0 9 (dk_at dksX3_loose_1 4 rfl rfl)
theorem dX3_loose_30 : decode cX3_loose 30 = .ok (.iload_n 2, 1) := dk_28 (dk_at dksX3_loose_1 7 rfl rfl)
theorem dX3_loose_31 : decode cX3_loose 31 = .ok (.iaload, 1) := dk_46 (dk_at dksX3_loose_1 8 rfl rfl)
theorem dX3_loose_32 : decode cX3_loose 32 = .ok (.istore 4, 2) := dk_54 4 (dk_at dksX3_loose_1 9 rfl rfl)
theorem dX3_loose_34 : decode cX3_loose 34 = .ok (.aload_n 0, 1) := dk_42 (dk_at dksX3_loose_1 11 rfl rfl)
theorem dX3_loose_35 : decode cX3_loose 35 = .ok (.invokevirtual 257, 3) := dk_182 1 1 (dk_at dksX3_loose_1 12 rfl rfl)
theorem dX3_loose_38 : decode cX3_loose 38 = .ok (.aload_n 0, 1) := dk_42 (dk_at dksX3_loose_1 15 rfl rfl)
theorem dX3_loose_39 : decode cX3_loose 39 = .ok (.aload_n 0, 1) := dk_42 (dk_at dksX3_loose_1 16 rfl rfl)
theorem dX3_loose_40 : decode cX3_loose 40 = .ok (.getfield 9, 3) := dk_180 0 9 (dk_at dksX3_loose_1 17 rfl rfl)
theorem dX3_loose_43 : decode cX3_loose 43 = .ok (.iload_n 2, 1) := dk_28 (dk_at dksX3_loose_1 20 rfl rfl)
theorem dX3_loose_44 : decode cX3_loose 44 = .ok (.iload_n 1, 1) := dk_27 (dk_at dksX3_loose_1 21 rfl rfl)
theorem dX3_loose_45 : decode cX3_loose 45 = .ok (.iconst 1, 1) := dk_4 (dk_at dksX3_loose_1 22 rfl rfl)
theorem dX3_loose_46 : decode cX3_loose 46 = .ok (.invokevirtual 249, 3) := dk_182 0 249 (dk_at dksX3_loose_2 0 rfl rfl)
theorem dX3_loose_49 : decode cX3_loose 49 = .ok (.aload_n 0, 1) := dk_42 (dk_at dksX3_loose_2 3 rfl rfl)
theorem dX3_loose_50 : decode cX3_loose 50 = .ok (.iconst 0, 1) := dk_3 (dk_at dksX3_loose_2 4 rfl rfl)
theorem dX3_loose_51 : decode cX3_loose 51 = .ok (.putfield 91, 3) := dk_181 0 91 (dk_at dksX3_loose_2 5 rfl rfl)
theorem dX3_loose_54 : decode cX3_loose 54 = .ok (.aload_n 0, 1) := dk_42 (dk_at dksX3_loose_2 8 rfl rfl)
theorem dX3_loose_55 : decode cX3_loose 55 = .ok (.aload_n 0, 1) := dk_42 (dk_at dksX3_loose_2 9 rfl rfl)
theorem dX3_loose_56 : decode cX3_loose 56 = .ok (.getfield 240, 3) := dk_180 0 240 (dk_at dksX3_loose_2 10 rfl rfl)
theorem dX3_loose_59 : decode cX3_loose 59 = .ok (.invokevirtual 230, 3) := dk_182 0 230 (dk_at dksX3_loose_2 13 rfl rfl)
theorem dX3_loose_62 : decode cX3_loose 62 = .ok (.iload 4, 2) := dk_21 4 (dk_at dksX3_loose_2 16 rfl rfl)
theorem dX3_loose_64 : decode cX3_loose 64 = .ok (.ireturn, 1) := dk_172 (dk_at dksX3_loose_2 18 rfl rfl)
abbrev cX3_looseRefusal : ByteArray := prog_9_method_54_code
def yX3_looseRefusal : MethodName := ⟨RX3, "looseRefusal", "(II)I"⟩
def dkwX3_looseRefusal_1 : List UInt8 := [154, 0, 8, 16, 254, 167, 0, 4, 3, 172]
abbrev dktX3_looseRefusal_1 : List UInt8 := dkwX3_looseRefusal_1 ++ []
def dkwX3_looseRefusal_0 : List UInt8 := [42, 27, 182, 0, 101, 153, 0, 11, 42, 28, 182, 1, 18, 154, 0, 5, 2, 172, 42, 180, 0, 9, 28, 46]
abbrev dktX3_looseRefusal_0 : List UInt8 := dkwX3_looseRefusal_0 ++ dktX3_looseRefusal_1
theorem dksX3_looseRefusal_0 : cX3_looseRefusal.data.toList.drop 0 = dktX3_looseRefusal_0 := by decide +kernel
theorem dksX3_looseRefusal_1 : cX3_looseRefusal.data.toList.drop 24 = dktX3_looseRefusal_1 := dk_seg dksX3_looseRefusal_0 24 rfl rfl
theorem dX3_looseRefusal_0 : decode cX3_looseRefusal 0 = .ok (.aload_n 0, 1) := dk_42 (dk_at dksX3_looseRefusal_0 0 rfl rfl)
theorem dX3_looseRefusal_1 : decode cX3_looseRefusal 1 = .ok (.iload_n 1, 1) := dk_27 (dk_at dksX3_looseRefusal_0 1 rfl rfl)
theorem dX3_looseRefusal_2 : decode cX3_looseRefusal 2 = .ok (.invokevirtual 101, 3) := dk_182 0 101 (dk_at dksX3_looseRefusal_0 2 rfl rfl)
theorem dX3_looseRefusal_5 : decode cX3_looseRefusal 5 = .ok (.ifCond .eq 11, 3) := dk_153 0 11 (dk_at dksX3_looseRefusal_0 5 rfl rfl)
theorem dX3_looseRefusal_8 : decode cX3_looseRefusal 8 = .ok (.aload_n 0, 1) := dk_42 (dk_at dksX3_looseRefusal_0 8 rfl rfl)
theorem dX3_looseRefusal_9 : decode cX3_looseRefusal 9 = .ok (.iload_n 2, 1) := dk_28 (dk_at dksX3_looseRefusal_0 9 rfl rfl)
theorem dX3_looseRefusal_10 : decode cX3_looseRefusal 10 = .ok (.invokevirtual 274, 3) := dk_182 1 18 (dk_at dksX3_looseRefusal_0 10 rfl rfl)
theorem dX3_looseRefusal_13 : decode cX3_looseRefusal 13 = .ok (.ifCond .ne 5, 3) := dk_154 0 5 (dk_at dksX3_looseRefusal_0 13 rfl rfl)
theorem dX3_looseRefusal_16 : decode cX3_looseRefusal 16 = .ok (.iconst (-1), 1) := dk_2 (dk_at dksX3_looseRefusal_0 16 rfl rfl)
theorem dX3_looseRefusal_17 : decode cX3_looseRefusal 17 = .ok (.ireturn, 1) := dk_172 (dk_at dksX3_looseRefusal_0 17 rfl rfl)
theorem dX3_looseRefusal_18 : decode cX3_looseRefusal 18 = .ok (.aload_n 0, 1) := dk_42 (dk_at dksX3_looseRefusal_0 18 rfl rfl)
theorem dX3_looseRefusal_19 : decode cX3_looseRefusal 19 = .ok (.getfield 9, 3) := dk_180 0 9 (dk_at dksX3_looseRefusal_0 19 rfl rfl)
theorem dX3_looseRefusal_22 : decode cX3_looseRefusal 22 = .ok (.iload_n 2, 1) := dk_28 (dk_at dksX3_looseRefusal_0 22 rfl rfl)
theorem dX3_looseRefusal_23 : decode cX3_looseRefusal 23 = .ok (.iaload, 1) := dk_46 (dk_at dksX3_looseRefusal_0 23 rfl rfl)
theorem dX3_looseRefusal_24 : decode cX3_looseRefusal 24 = .ok (.ifCond .ne 8, 3) := dk_154 0 8 (dk_at dksX3_looseRefusal_1 0 rfl rfl)
theorem dX3_looseRefusal_27 : decode cX3_looseRefusal 27 = .ok (.bipush (-2), 2) := dk_16 254 (dk_at dksX3_looseRefusal_1 3 rfl rfl)
theorem dX3_looseRefusal_29 : decode cX3_looseRefusal 29 = .ok (.goto 4, 3) := dk_167 0 4 (dk_at dksX3_looseRefusal_1 5 rfl rfl)
theorem dX3_looseRefusal_32 : decode cX3_looseRefusal 32 = .ok (.iconst 0, 1) := dk_3 (dk_at dksX3_looseRefusal_1 8 rfl rfl)
theorem dX3_looseRefusal_33 : decode cX3_looseRefusal 33 = .ok (.ireturn, 1) := dk_172 (dk_at dksX3_looseRefusal_1 9 rfl rfl)
abbrev cX3_work : ByteArray := prog_9_method_56_code
def yX3_work : MethodName := ⟨RX3, "work", "(III)I"⟩
def dkwX3_work_3 : List UInt8 := [180, 0, 9, 21, 4, 46, 172]
abbrev dktX3_work_3 : List UInt8 := dkwX3_work_3 ++ []
def dkwX3_work_2 : List UInt8 := [16, 254, 172, 42, 42, 180, 0, 9, 182, 1, 12, 42, 180, 0, 9, 21, 4, 92, 46, 29, 100, 79, 42]
abbrev dktX3_work_2 : List UInt8 := dkwX3_work_2 ++ dktX3_work_3
def dkwX3_work_1 : List UInt8 := [2, 172, 16, 21, 16, 7, 27, 104, 96, 28, 96, 54, 4, 42, 180, 0, 9, 21, 4, 46, 29, 162, 0, 6]
abbrev dktX3_work_1 : List UInt8 := dkwX3_work_1 ++ dktX3_work_2
def dkwX3_work_0 : List UInt8 := [42, 3, 181, 0, 87, 42, 27, 28, 182, 0, 233, 153, 0, 13, 29, 4, 16, 99, 184, 0, 97, 154, 0, 5]
abbrev dktX3_work_0 : List UInt8 := dkwX3_work_0 ++ dktX3_work_1
theorem dksX3_work_0 : cX3_work.data.toList.drop 0 = dktX3_work_0 := by decide +kernel
theorem dksX3_work_1 : cX3_work.data.toList.drop 24 = dktX3_work_1 := dk_seg dksX3_work_0 24 rfl rfl
theorem dksX3_work_2 : cX3_work.data.toList.drop 48 = dktX3_work_2 := dk_seg dksX3_work_1 24 rfl rfl
theorem dksX3_work_3 : cX3_work.data.toList.drop 71 = dktX3_work_3 := dk_seg dksX3_work_2 23 rfl rfl
theorem dX3_work_0 : decode cX3_work 0 = .ok (.aload_n 0, 1) := dk_42 (dk_at dksX3_work_0 0 rfl rfl)
theorem dX3_work_1 : decode cX3_work 1 = .ok (.iconst 0, 1) := dk_3 (dk_at dksX3_work_0 1 rfl rfl)
theorem dX3_work_2 : decode cX3_work 2 = .ok (.putfield 87, 3) := dk_181 0 87 (dk_at dksX3_work_0 2 rfl rfl)
theorem dX3_work_5 : decode cX3_work 5 = .ok (.aload_n 0, 1) := dk_42 (dk_at dksX3_work_0 5 rfl rfl)
theorem dX3_work_6 : decode cX3_work 6 = .ok (.iload_n 1, 1) := dk_27 (dk_at dksX3_work_0 6 rfl rfl)
theorem dX3_work_7 : decode cX3_work 7 = .ok (.iload_n 2, 1) := dk_28 (dk_at dksX3_work_0 7 rfl rfl)
theorem dX3_work_8 : decode cX3_work 8 = .ok (.invokevirtual 233, 3) := dk_182 0 233 (dk_at dksX3_work_0 8 rfl rfl)
theorem dX3_work_11 : decode cX3_work 11 = .ok (.ifCond .eq 13, 3) := dk_153 0 13 (dk_at dksX3_work_0 11 rfl rfl)
theorem dX3_work_14 : decode cX3_work 14 = .ok (.iload_n 3, 1) := dk_29 (dk_at dksX3_work_0 14 rfl rfl)
theorem dX3_work_15 : decode cX3_work 15 = .ok (.iconst 1, 1) := dk_4 (dk_at dksX3_work_0 15 rfl rfl)
theorem dX3_work_16 : decode cX3_work 16 = .ok (.bipush 99, 2) := dk_16 99 (dk_at dksX3_work_0 16 rfl rfl)
theorem dX3_work_18 : decode cX3_work 18 = .ok (.invokestatic 97, 3) := dk_184 0 97 (dk_at dksX3_work_0 18 rfl rfl)
theorem dX3_work_21 : decode cX3_work 21 = .ok (.ifCond .ne 5, 3) := dk_154 0 5 (dk_at dksX3_work_0 21 rfl rfl)
theorem dX3_work_24 : decode cX3_work 24 = .ok (.iconst (-1), 1) := dk_2 (dk_at dksX3_work_1 0 rfl rfl)
theorem dX3_work_25 : decode cX3_work 25 = .ok (.ireturn, 1) := dk_172 (dk_at dksX3_work_1 1 rfl rfl)
theorem dX3_work_26 : decode cX3_work 26 = .ok (.bipush 21, 2) := dk_16 21 (dk_at dksX3_work_1 2 rfl rfl)
theorem dX3_work_28 : decode cX3_work 28 = .ok (.bipush 7, 2) := dk_16 7 (dk_at dksX3_work_1 4 rfl rfl)
theorem dX3_work_30 : decode cX3_work 30 = .ok (.iload_n 1, 1) := dk_27 (dk_at dksX3_work_1 6 rfl rfl)
theorem dX3_work_31 : decode cX3_work 31 = .ok (.imul, 1) := dk_104 (dk_at dksX3_work_1 7 rfl rfl)
theorem dX3_work_32 : decode cX3_work 32 = .ok (.iadd, 1) := dk_96 (dk_at dksX3_work_1 8 rfl rfl)
theorem dX3_work_33 : decode cX3_work 33 = .ok (.iload_n 2, 1) := dk_28 (dk_at dksX3_work_1 9 rfl rfl)
theorem dX3_work_34 : decode cX3_work 34 = .ok (.iadd, 1) := dk_96 (dk_at dksX3_work_1 10 rfl rfl)
theorem dX3_work_35 : decode cX3_work 35 = .ok (.istore 4, 2) := dk_54 4 (dk_at dksX3_work_1 11 rfl rfl)
theorem dX3_work_37 : decode cX3_work 37 = .ok (.aload_n 0, 1) := dk_42 (dk_at dksX3_work_1 13 rfl rfl)
theorem dX3_work_38 : decode cX3_work 38 = .ok (.getfield 9, 3) := dk_180 0 9 (dk_at dksX3_work_1 14 rfl rfl)
theorem dX3_work_41 : decode cX3_work 41 = .ok (.iload 4, 2) := dk_21 4 (dk_at dksX3_work_1 17 rfl rfl)
theorem dX3_work_43 : decode cX3_work 43 = .ok (.iaload, 1) := dk_46 (dk_at dksX3_work_1 19 rfl rfl)
theorem dX3_work_44 : decode cX3_work 44 = .ok (.iload_n 3, 1) := dk_29 (dk_at dksX3_work_1 20 rfl rfl)
theorem dX3_work_45 : decode cX3_work 45 = .ok (.if_icmp .ge 6, 3) := dk_162 0 6 (dk_at dksX3_work_1 21 rfl rfl)
theorem dX3_work_48 : decode cX3_work 48 = .ok (.bipush (-2), 2) := dk_16 254 (dk_at dksX3_work_2 0 rfl rfl)
theorem dX3_work_50 : decode cX3_work 50 = .ok (.ireturn, 1) := dk_172 (dk_at dksX3_work_2 2 rfl rfl)
theorem dX3_work_51 : decode cX3_work 51 = .ok (.aload_n 0, 1) := dk_42 (dk_at dksX3_work_2 3 rfl rfl)
theorem dX3_work_52 : decode cX3_work 52 = .ok (.aload_n 0, 1) := dk_42 (dk_at dksX3_work_2 4 rfl rfl)
theorem dX3_work_53 : decode cX3_work 53 = .ok (.getfield 9, 3) := dk_180 0 9 (dk_at dksX3_work_2 5 rfl rfl)
theorem dX3_work_56 : decode cX3_work 56 = .ok (.invokevirtual 268, 3) := dk_182 1 12 (dk_at dksX3_work_2 8 rfl rfl)
theorem dX3_work_59 : decode cX3_work 59 = .ok (.aload_n 0, 1) := dk_42 (dk_at dksX3_work_2 11 rfl rfl)
theorem dX3_work_60 : decode cX3_work 60 = .ok (.getfield 9, 3) := dk_180 0 9 (dk_at dksX3_work_2 12 rfl rfl)
theorem dX3_work_63 : decode cX3_work 63 = .ok (.iload 4, 2) := dk_21 4 (dk_at dksX3_work_2 15 rfl rfl)
theorem dX3_work_65 : decode cX3_work 65 = .ok (.dup2, 1) := dk_92 (dk_at dksX3_work_2 17 rfl rfl)
theorem dX3_work_66 : decode cX3_work 66 = .ok (.iaload, 1) := dk_46 (dk_at dksX3_work_2 18 rfl rfl)
theorem dX3_work_67 : decode cX3_work 67 = .ok (.iload_n 3, 1) := dk_29 (dk_at dksX3_work_2 19 rfl rfl)
theorem dX3_work_68 : decode cX3_work 68 = .ok (.isub, 1) := dk_100 (dk_at dksX3_work_2 20 rfl rfl)
theorem dX3_work_69 : decode cX3_work 69 = .ok (.iastore, 1) := dk_79 (dk_at dksX3_work_2 21 rfl rfl)
theorem dX3_work_70 : decode cX3_work 70 = .ok (.aload_n 0, 1) := dk_42 (dk_at dksX3_work_2 22 rfl rfl)
theorem dX3_work_71 : decode cX3_work 71 = .ok (.getfield 9, 3) := dk_180 0 9 (dk_at dksX3_work_3 0 rfl rfl)
theorem dX3_work_74 : decode cX3_work 74 = .ok (.iload 4, 2) := dk_21 4 (dk_at dksX3_work_3 3 rfl rfl)
theorem dX3_work_76 : decode cX3_work 76 = .ok (.iaload, 1) := dk_46 (dk_at dksX3_work_3 5 rfl rfl)
theorem dX3_work_77 : decode cX3_work 77 = .ok (.ireturn, 1) := dk_172 (dk_at dksX3_work_3 6 rfl rfl)
abbrev cX3_night : ByteArray := prog_9_method_57_code
def yX3_night : MethodName := ⟨RX3, "night", "()I"⟩
def dkwX3_night_7 : List UInt8 := [162, 0, 7, 4, 167, 0, 4, 3, 182, 0, 230, 42, 42, 180, 0, 240, 182, 0, 230, 29, 172]
abbrev dktX3_night_7 : List UInt8 := dkwX3_night_7 ++ []
def dkwX3_night_6 : List UInt8 := [167, 255, 238, 29, 158, 0, 11, 42, 42, 180, 0, 44, 182, 1, 12, 42, 3, 181, 0, 91, 42, 29, 27]
abbrev dktX3_night_6 : List UInt8 := dkwX3_night_6 ++ dktX3_night_7
def dkwX3_night_5 : List UInt8 := [182, 1, 1, 3, 62, 29, 27, 162, 0, 19, 42, 7, 29, 104, 182, 1, 37, 153, 0, 9, 132, 3, 1]
abbrev dktX3_night_5 : List UInt8 := dkwX3_night_5 ++ dktX3_night_6
def dkwX3_night_4 : List UInt8 := [154, 0, 10, 2, 42, 180, 0, 120, 100, 172, 42, 180, 0, 9, 42, 180, 0, 44, 3, 184, 0, 253, 42]
abbrev dktX3_night_4 : List UInt8 := dkwX3_night_4 ++ dktX3_night_5
def dkwX3_night_3 : List UInt8 := [180, 0, 117, 42, 180, 0, 111, 162, 0, 11, 42, 42, 180, 0, 117, 182, 0, 135, 42, 182, 0, 123]
abbrev dktX3_night_3 : List UInt8 := dkwX3_night_3 ++ dktX3_night_4
def dkwX3_night_2 : List UInt8 := [153, 0, 23, 42, 7, 27, 104, 182, 1, 34, 132, 1, 1, 42, 16, 59, 182, 0, 131, 61, 167, 255, 228, 42]
abbrev dktX3_night_2 : List UInt8 := dkwX3_night_2 ++ dktX3_night_3
def dkwX3_night_1 : List UInt8 := [3, 60, 42, 180, 0, 111, 158, 0, 7, 4, 167, 0, 4, 3, 61, 28, 153, 0, 30, 42, 182, 0, 123]
abbrev dktX3_night_1 : List UInt8 := dkwX3_night_1 ++ dktX3_night_2
def dkwX3_night_0 : List UInt8 := [42, 3, 181, 0, 87, 42, 42, 180, 0, 25, 42, 180, 0, 105, 16, 60, 182, 0, 139, 42, 3, 181, 0, 105]
abbrev dktX3_night_0 : List UInt8 := dkwX3_night_0 ++ dktX3_night_1
theorem dksX3_night_0 : cX3_night.data.toList.drop 0 = dktX3_night_0 := by decide +kernel
theorem dksX3_night_1 : cX3_night.data.toList.drop 24 = dktX3_night_1 := dk_seg dksX3_night_0 24 rfl rfl
theorem dksX3_night_2 : cX3_night.data.toList.drop 47 = dktX3_night_2 := dk_seg dksX3_night_1 23 rfl rfl
theorem dksX3_night_3 : cX3_night.data.toList.drop 71 = dktX3_night_3 := dk_seg dksX3_night_2 24 rfl rfl
theorem dksX3_night_4 : cX3_night.data.toList.drop 93 = dktX3_night_4 := dk_seg dksX3_night_3 22 rfl rfl
theorem dksX3_night_5 : cX3_night.data.toList.drop 116 = dktX3_night_5 := dk_seg dksX3_night_4 23 rfl rfl
theorem dksX3_night_6 : cX3_night.data.toList.drop 139 = dktX3_night_6 := dk_seg dksX3_night_5 23 rfl rfl
theorem dksX3_night_7 : cX3_night.data.toList.drop 162 = dktX3_night_7 := dk_seg dksX3_night_6 23 rfl rfl
theorem dX3_night_0 : decode cX3_night 0 = .ok (.aload_n 0, 1) := dk_42 (dk_at dksX3_night_0 0 rfl rfl)
theorem dX3_night_1 : decode cX3_night 1 = .ok (.iconst 0, 1) := dk_3 (dk_at dksX3_night_0 1 rfl rfl)
theorem dX3_night_2 : decode cX3_night 2 = .ok (.putfield 87, 3) := dk_181 0 87 (dk_at dksX3_night_0 2 rfl rfl)
theorem dX3_night_5 : decode cX3_night 5 = .ok (.aload_n 0, 1) := dk_42 (dk_at dksX3_night_0 5 rfl rfl)
theorem dX3_night_6 : decode cX3_night 6 = .ok (.aload_n 0, 1) := dk_42 (dk_at dksX3_night_0 6 rfl rfl)
theorem dX3_night_7 : decode cX3_night 7 = .ok (.getfield 25, 3) := dk_180 0 25 (dk_at dksX3_night_0 7 rfl rfl)
theorem dX3_night_10 : decode cX3_night 10 = .ok (.aload_n 0, 1) := dk_42 (dk_at dksX3_night_0 10 rfl rfl)
theorem dX3_night_11 : decode cX3_night 11 = .ok (.getfield 105, 3) := dk_180 0 105 (dk_at dksX3_night_0 11 rfl rfl)
theorem dX3_night_14 : decode cX3_night 14 = .ok (.bipush 60, 2) := dk_16 60 (dk_at dksX3_night_0 14 rfl rfl)
theorem dX3_night_16 : decode cX3_night 16 = .ok (.invokevirtual 139, 3) := dk_182 0 139 (dk_at dksX3_night_0 16 rfl rfl)
theorem dX3_night_19 : decode cX3_night 19 = .ok (.aload_n 0, 1) := dk_42 (dk_at dksX3_night_0 19 rfl rfl)
theorem dX3_night_20 : decode cX3_night 20 = .ok (.iconst 0, 1) := dk_3 (dk_at dksX3_night_0 20 rfl rfl)
theorem dX3_night_21 : decode cX3_night 21 = .ok (.putfield 105, 3) := dk_181 0 105 (dk_at dksX3_night_0 21 rfl rfl)
theorem dX3_night_24 : decode cX3_night 24 = .ok (.iconst 0, 1) := dk_3 (dk_at dksX3_night_1 0 rfl rfl)
theorem dX3_night_25 : decode cX3_night 25 = .ok (.istore_n 1, 1) := dk_60 (dk_at dksX3_night_1 1 rfl rfl)
theorem dX3_night_26 : decode cX3_night 26 = .ok (.aload_n 0, 1) := dk_42 (dk_at dksX3_night_1 2 rfl rfl)
theorem dX3_night_27 : decode cX3_night 27 = .ok (.getfield 111, 3) := dk_180 0 111 (dk_at dksX3_night_1 3 rfl rfl)
theorem dX3_night_30 : decode cX3_night 30 = .ok (.ifCond .le 7, 3) := dk_158 0 7 (dk_at dksX3_night_1 6 rfl rfl)
theorem dX3_night_33 : decode cX3_night 33 = .ok (.iconst 1, 1) := dk_4 (dk_at dksX3_night_1 9 rfl rfl)
theorem dX3_night_34 : decode cX3_night 34 = .ok (.goto 4, 3) := dk_167 0 4 (dk_at dksX3_night_1 10 rfl rfl)
theorem dX3_night_37 : decode cX3_night 37 = .ok (.iconst 0, 1) := dk_3 (dk_at dksX3_night_1 13 rfl rfl)
theorem dX3_night_38 : decode cX3_night 38 = .ok (.istore_n 2, 1) := dk_61 (dk_at dksX3_night_1 14 rfl rfl)
theorem dX3_night_39 : decode cX3_night 39 = .ok (.iload_n 2, 1) := dk_28 (dk_at dksX3_night_1 15 rfl rfl)
theorem dX3_night_40 : decode cX3_night 40 = .ok (.ifCond .eq 30, 3) := dk_153 0 30 (dk_at dksX3_night_1 16 rfl rfl)
theorem dX3_night_43 : decode cX3_night 43 = .ok (.aload_n 0, 1) := dk_42 (dk_at dksX3_night_1 19 rfl rfl)
theorem dX3_night_44 : decode cX3_night 44 = .ok (.invokevirtual 123, 3) := dk_182 0 123 (dk_at dksX3_night_1 20 rfl rfl)
theorem dX3_night_47 : decode cX3_night 47 = .ok (.ifCond .eq 23, 3) := dk_153 0 23 (dk_at dksX3_night_2 0 rfl rfl)
theorem dX3_night_50 : decode cX3_night 50 = .ok (.aload_n 0, 1) := dk_42 (dk_at dksX3_night_2 3 rfl rfl)
theorem dX3_night_51 : decode cX3_night 51 = .ok (.iconst 4, 1) := dk_7 (dk_at dksX3_night_2 4 rfl rfl)
theorem dX3_night_52 : decode cX3_night 52 = .ok (.iload_n 1, 1) := dk_27 (dk_at dksX3_night_2 5 rfl rfl)
theorem dX3_night_53 : decode cX3_night 53 = .ok (.imul, 1) := dk_104 (dk_at dksX3_night_2 6 rfl rfl)
theorem dX3_night_54 : decode cX3_night 54 = .ok (.invokevirtual 290, 3) := dk_182 1 34 (dk_at dksX3_night_2 7 rfl rfl)
theorem dX3_night_57 : decode cX3_night 57 = .ok (.iinc 1 1, 3) := dk_132 1 1 (dk_at dksX3_night_2 10 rfl rfl)
theorem dX3_night_60 : decode cX3_night 60 = .ok (.aload_n 0, 1) := dk_42 (dk_at dksX3_night_2 13 rfl rfl)
theorem dX3_night_61 : decode cX3_night 61 = .ok (.bipush 59, 2) := dk_16 59 (dk_at dksX3_night_2 14 rfl rfl)
theorem dX3_night_63 : decode cX3_night 63 = .ok (.invokevirtual 131, 3) := dk_182 0 131 (dk_at dksX3_night_2 16 rfl rfl)
theorem dX3_night_66 : decode cX3_night 66 = .ok (.istore_n 2, 1) := dk_61 (dk_at dksX3_night_2 19 rfl rfl)
theorem dX3_night_67 : decode cX3_night 67 = .ok (.goto (-28), 3) := dk_167 255 228 (dk_at dksX3_night_2 20 rfl rfl)
theorem dX3_night_70 : decode cX3_night 70 = .ok (.aload_n 0, 1) := dk_42 (dk_at dksX3_night_2 23 rfl rfl)
theorem dX3_night_71 : decode cX3_night 71 = .ok (.getfield 117, 3) := dk_180 0 117 (dk_at dksX3_night_3 0 rfl rfl)
theorem dX3_night_74 : decode cX3_night 74 = .ok (.aload_n 0, 1) := dk_42 (dk_at dksX3_night_3 3 rfl rfl)
theorem dX3_night_75 : decode cX3_night 75 = .ok (.getfield 111, 3) := dk_180 0 111 (dk_at dksX3_night_3 4 rfl rfl)
theorem dX3_night_78 : decode cX3_night 78 = .ok (.if_icmp .ge 11, 3) := dk_162 0 11 (dk_at dksX3_night_3 7 rfl rfl)
theorem dX3_night_81 : decode cX3_night 81 = .ok (.aload_n 0, 1) := dk_42 (dk_at dksX3_night_3 10 rfl rfl)
theorem dX3_night_82 : decode cX3_night 82 = .ok (.aload_n 0, 1) := dk_42 (dk_at dksX3_night_3 11 rfl rfl)
theorem dX3_night_83 : decode cX3_night 83 = .ok (.getfield 117, 3) := dk_180 0 117 (dk_at dksX3_night_3 12 rfl rfl)
theorem dX3_night_86 : decode cX3_night 86 = .ok (.invokevirtual 135, 3) := dk_182 0 135 (dk_at dksX3_night_3 15 rfl rfl)
theorem dX3_night_89 : decode cX3_night 89 = .ok (.aload_n 0, 1) := dk_42 (dk_at dksX3_night_3 18 rfl rfl)
theorem dX3_night_90 : decode cX3_night 90 = .ok (.invokevirtual 123, 3) := dk_182 0 123 (dk_at dksX3_night_3 19 rfl rfl)
theorem dX3_night_93 : decode cX3_night 93 = .ok (.ifCond .ne 10, 3) := dk_154 0 10 (dk_at dksX3_night_4 0 rfl rfl)
theorem dX3_night_96 : decode cX3_night 96 = .ok (.iconst (-1), 1) := dk_2 (dk_at dksX3_night_4 3 rfl rfl)
theorem dX3_night_97 : decode cX3_night 97 = .ok (.aload_n 0, 1) := dk_42 (dk_at dksX3_night_4 4 rfl rfl)
theorem dX3_night_98 : decode cX3_night 98 = .ok (.getfield 120, 3) := dk_180 0 120 (dk_at dksX3_night_4 5 rfl rfl)
theorem dX3_night_101 : decode cX3_night 101 = .ok (.isub, 1) := dk_100 (dk_at dksX3_night_4 8 rfl rfl)
theorem dX3_night_102 : decode cX3_night 102 = .ok (.ireturn, 1) := dk_172 (dk_at dksX3_night_4 9 rfl rfl)
theorem dX3_night_103 : decode cX3_night 103 = .ok (.aload_n 0, 1) := dk_42 (dk_at dksX3_night_4 10 rfl rfl)
theorem dX3_night_104 : decode cX3_night 104 = .ok (.getfield 9, 3) := dk_180 0 9 (dk_at dksX3_night_4 11 rfl rfl)
theorem dX3_night_107 : decode cX3_night 107 = .ok (.aload_n 0, 1) := dk_42 (dk_at dksX3_night_4 14 rfl rfl)
theorem dX3_night_108 : decode cX3_night 108 = .ok (.getfield 44, 3) := dk_180 0 44 (dk_at dksX3_night_4 15 rfl rfl)
theorem dX3_night_111 : decode cX3_night 111 = .ok (.iconst 0, 1) := dk_3 (dk_at dksX3_night_4 18 rfl rfl)
theorem dX3_night_112 : decode cX3_night 112 = .ok (.invokestatic 253, 3) := dk_184 0 253 (dk_at dksX3_night_4 19 rfl rfl)
theorem dX3_night_115 : decode cX3_night 115 = .ok (.aload_n 0, 1) := dk_42 (dk_at dksX3_night_4 22 rfl rfl)
theorem dX3_night_116 : decode cX3_night 116 = .ok (.invokevirtual 257, 3) := dk_182 1 1 (dk_at dksX3_night_5 0 rfl rfl)
theorem dX3_night_119 : decode cX3_night 119 = .ok (.iconst 0, 1) := dk_3 (dk_at dksX3_night_5 3 rfl rfl)
theorem dX3_night_120 : decode cX3_night 120 = .ok (.istore_n 3, 1) := dk_62 (dk_at dksX3_night_5 4 rfl rfl)
theorem dX3_night_121 : decode cX3_night 121 = .ok (.iload_n 3, 1) := dk_29 (dk_at dksX3_night_5 5 rfl rfl)
theorem dX3_night_122 : decode cX3_night 122 = .ok (.iload_n 1, 1) := dk_27 (dk_at dksX3_night_5 6 rfl rfl)
theorem dX3_night_123 : decode cX3_night 123 = .ok (.if_icmp .ge 19, 3) := dk_162 0 19 (dk_at dksX3_night_5 7 rfl rfl)
theorem dX3_night_126 : decode cX3_night 126 = .ok (.aload_n 0, 1) := dk_42 (dk_at dksX3_night_5 10 rfl rfl)
theorem dX3_night_127 : decode cX3_night 127 = .ok (.iconst 4, 1) := dk_7 (dk_at dksX3_night_5 11 rfl rfl)
theorem dX3_night_128 : decode cX3_night 128 = .ok (.iload_n 3, 1) := dk_29 (dk_at dksX3_night_5 12 rfl rfl)
theorem dX3_night_129 : decode cX3_night 129 = .ok (.imul, 1) := dk_104 (dk_at dksX3_night_5 13 rfl rfl)
theorem dX3_night_130 : decode cX3_night 130 = .ok (.invokevirtual 293, 3) := dk_182 1 37 (dk_at dksX3_night_5 14 rfl rfl)
theorem dX3_night_133 : decode cX3_night 133 = .ok (.ifCond .eq 9, 3) := dk_153 0 9 (dk_at dksX3_night_5 17 rfl rfl)
theorem dX3_night_136 : decode cX3_night 136 = .ok (.iinc 3 1, 3) := dk_132 3 1 (dk_at dksX3_night_5 20 rfl rfl)
theorem dX3_night_139 : decode cX3_night 139 = .ok (.goto (-18), 3) := dk_167 255 238 (dk_at dksX3_night_6 0 rfl rfl)
theorem dX3_night_142 : decode cX3_night 142 = .ok (.iload_n 3, 1) := dk_29 (dk_at dksX3_night_6 3 rfl rfl)
theorem dX3_night_143 : decode cX3_night 143 = .ok (.ifCond .le 11, 3) := dk_158 0 11 (dk_at dksX3_night_6 4 rfl rfl)
theorem dX3_night_146 : decode cX3_night 146 = .ok (.aload_n 0, 1) := dk_42 (dk_at dksX3_night_6 7 rfl rfl)
theorem dX3_night_147 : decode cX3_night 147 = .ok (.aload_n 0, 1) := dk_42 (dk_at dksX3_night_6 8 rfl rfl)
theorem dX3_night_148 : decode cX3_night 148 = .ok (.getfield 44, 3) := dk_180 0 44 (dk_at dksX3_night_6 9 rfl rfl)
theorem dX3_night_151 : decode cX3_night 151 = .ok (.invokevirtual 268, 3) := dk_182 1 12 (dk_at dksX3_night_6 12 rfl rfl)
theorem dX3_night_154 : decode cX3_night 154 = .ok (.aload_n 0, 1) := dk_42 (dk_at dksX3_night_6 15 rfl rfl)
theorem dX3_night_155 : decode cX3_night 155 = .ok (.iconst 0, 1) := dk_3 (dk_at dksX3_night_6 16 rfl rfl)
theorem dX3_night_156 : decode cX3_night 156 = .ok (.putfield 91, 3) := dk_181 0 91 (dk_at dksX3_night_6 17 rfl rfl)
theorem dX3_night_159 : decode cX3_night 159 = .ok (.aload_n 0, 1) := dk_42 (dk_at dksX3_night_6 20 rfl rfl)
theorem dX3_night_160 : decode cX3_night 160 = .ok (.iload_n 3, 1) := dk_29 (dk_at dksX3_night_6 21 rfl rfl)
theorem dX3_night_161 : decode cX3_night 161 = .ok (.iload_n 1, 1) := dk_27 (dk_at dksX3_night_6 22 rfl rfl)
theorem dX3_night_162 : decode cX3_night 162 = .ok (.if_icmp .ge 7, 3) := dk_162 0 7 (dk_at dksX3_night_7 0 rfl rfl)
theorem dX3_night_165 : decode cX3_night 165 = .ok (.iconst 1, 1) := dk_4 (dk_at dksX3_night_7 3 rfl rfl)
theorem dX3_night_166 : decode cX3_night 166 = .ok (.goto 4, 3) := dk_167 0 4 (dk_at dksX3_night_7 4 rfl rfl)
theorem dX3_night_169 : decode cX3_night 169 = .ok (.iconst 0, 1) := dk_3 (dk_at dksX3_night_7 7 rfl rfl)
theorem dX3_night_170 : decode cX3_night 170 = .ok (.invokevirtual 230, 3) := dk_182 0 230 (dk_at dksX3_night_7 8 rfl rfl)
theorem dX3_night_173 : decode cX3_night 173 = .ok (.aload_n 0, 1) := dk_42 (dk_at dksX3_night_7 11 rfl rfl)
theorem dX3_night_174 : decode cX3_night 174 = .ok (.aload_n 0, 1) := dk_42 (dk_at dksX3_night_7 12 rfl rfl)
theorem dX3_night_175 : decode cX3_night 175 = .ok (.getfield 240, 3) := dk_180 0 240 (dk_at dksX3_night_7 13 rfl rfl)
theorem dX3_night_178 : decode cX3_night 178 = .ok (.invokevirtual 230, 3) := dk_182 0 230 (dk_at dksX3_night_7 16 rfl rfl)
theorem dX3_night_181 : decode cX3_night 181 = .ok (.iload_n 3, 1) := dk_29 (dk_at dksX3_night_7 19 rfl rfl)
theorem dX3_night_182 : decode cX3_night 182 = .ok (.ireturn, 1) := dk_172 (dk_at dksX3_night_7 20 rfl rfl)
abbrev cX3_readAct : ByteArray := prog_9_method_58_code
def yX3_readAct : MethodName := ⟨RX3, "readAct", "(I)V"⟩
def dkwX3_readAct_7 : List UInt8 := [182, 0, 147, 42, 180, 0, 47, 27, 5, 96, 42, 5, 3, 16, 99, 182, 0, 143, 79, 177]
abbrev dktX3_readAct_7 : List UInt8 := dkwX3_readAct_7 ++ []
def dkwX3_readAct_6 : List UInt8 := [180, 0, 47, 27, 6, 96, 42, 4, 3, 4, 182, 0, 143, 79, 28, 16, 108, 160, 0, 4, 177, 42, 16, 42]
abbrev dktX3_readAct_6 : List UInt8 := dkwX3_readAct_6 ++ dktX3_readAct_7
def dkwX3_readAct_5 : List UInt8 := [180, 0, 47, 27, 5, 96, 42, 4, 3, 16, 9, 182, 0, 143, 79, 28, 16, 99, 159, 0, 18, 42]
abbrev dktX3_readAct_5 : List UInt8 := dkwX3_readAct_5 ++ dktX3_readAct_6
def dkwX3_readAct_4 : List UInt8 := [42, 180, 0, 47, 27, 4, 96, 42, 4, 3, 16, 9, 182, 0, 143, 79, 28, 16, 108, 160, 0, 19, 42]
abbrev dktX3_readAct_4 : List UInt8 := dkwX3_readAct_4 ++ dktX3_readAct_5
def dkwX3_readAct_3 : List UInt8 := [16, 49, 16, 57, 184, 0, 97, 153, 0, 14, 42, 4, 4, 16, 9, 182, 0, 143, 167, 0, 4, 4, 79, 177]
abbrev dktX3_readAct_3 : List UInt8 := dkwX3_readAct_3 ++ dktX3_readAct_4
def dkwX3_readAct_2 : List UInt8 := [180, 0, 47, 27, 28, 79, 28, 16, 100, 160, 0, 38, 42, 180, 0, 47, 27, 4, 96, 42, 182, 0, 127]
abbrev dktX3_readAct_2 : List UInt8 := dkwX3_readAct_2 ++ dktX3_readAct_3
def dkwX3_readAct_1 : List UInt8 := [16, 100, 159, 0, 11, 42, 42, 180, 0, 117, 182, 0, 135, 42, 89, 180, 0, 117, 4, 96, 181, 0, 117, 42]
abbrev dktX3_readAct_1 : List UInt8 := dkwX3_readAct_1 ++ dktX3_readAct_2
def dkwX3_readAct_0 : List UInt8 := [42, 182, 0, 127, 61, 28, 16, 115, 159, 0, 29, 28, 16, 99, 159, 0, 23, 28, 16, 108, 159, 0, 17, 28]
abbrev dktX3_readAct_0 : List UInt8 := dkwX3_readAct_0 ++ dktX3_readAct_1
theorem dksX3_readAct_0 : cX3_readAct.data.toList.drop 0 = dktX3_readAct_0 := by decide +kernel
theorem dksX3_readAct_1 : cX3_readAct.data.toList.drop 24 = dktX3_readAct_1 := dk_seg dksX3_readAct_0 24 rfl rfl
theorem dksX3_readAct_2 : cX3_readAct.data.toList.drop 48 = dktX3_readAct_2 := dk_seg dksX3_readAct_1 24 rfl rfl
theorem dksX3_readAct_3 : cX3_readAct.data.toList.drop 71 = dktX3_readAct_3 := dk_seg dksX3_readAct_2 23 rfl rfl
theorem dksX3_readAct_4 : cX3_readAct.data.toList.drop 95 = dktX3_readAct_4 := dk_seg dksX3_readAct_3 24 rfl rfl
theorem dksX3_readAct_5 : cX3_readAct.data.toList.drop 118 = dktX3_readAct_5 := dk_seg dksX3_readAct_4 23 rfl rfl
theorem dksX3_readAct_6 : cX3_readAct.data.toList.drop 140 = dktX3_readAct_6 := dk_seg dksX3_readAct_5 22 rfl rfl
theorem dksX3_readAct_7 : cX3_readAct.data.toList.drop 164 = dktX3_readAct_7 := dk_seg dksX3_readAct_6 24 rfl rfl
theorem dX3_readAct_0 : decode cX3_readAct 0 = .ok (.aload_n 0, 1) := dk_42 (dk_at dksX3_readAct_0 0 rfl rfl)
theorem dX3_readAct_1 : decode cX3_readAct 1 = .ok (.invokevirtual 127, 3) := dk_182 0 127 (dk_at dksX3_readAct_0 1 rfl rfl)
theorem dX3_readAct_4 : decode cX3_readAct 4 = .ok (.istore_n 2, 1) := dk_61 (dk_at dksX3_readAct_0 4 rfl rfl)
theorem dX3_readAct_5 : decode cX3_readAct 5 = .ok (.iload_n 2, 1) := dk_28 (dk_at dksX3_readAct_0 5 rfl rfl)
theorem dX3_readAct_6 : decode cX3_readAct 6 = .ok (.bipush 115, 2) := dk_16 115 (dk_at dksX3_readAct_0 6 rfl rfl)
theorem dX3_readAct_8 : decode cX3_readAct 8 = .ok (.if_icmp .eq 29, 3) := dk_159 0 29 (dk_at dksX3_readAct_0 8 rfl rfl)
theorem dX3_readAct_11 : decode cX3_readAct 11 = .ok (.iload_n 2, 1) := dk_28 (dk_at dksX3_readAct_0 11 rfl rfl)
theorem dX3_readAct_12 : decode cX3_readAct 12 = .ok (.bipush 99, 2) := dk_16 99 (dk_at dksX3_readAct_0 12 rfl rfl)
theorem dX3_readAct_14 : decode cX3_readAct 14 = .ok (.if_icmp .eq 23, 3) := dk_159 0 23 (dk_at dksX3_readAct_0 14 rfl rfl)
theorem dX3_readAct_17 : decode cX3_readAct 17 = .ok (.iload_n 2, 1) := dk_28 (dk_at dksX3_readAct_0 17 rfl rfl)
theorem dX3_readAct_18 : decode cX3_readAct 18 = .ok (.bipush 108, 2) := dk_16 108 (dk_at dksX3_readAct_0 18 rfl rfl)
theorem dX3_readAct_20 : decode cX3_readAct 20 = .ok (.if_icmp .eq 17, 3) := dk_159 0 17 (dk_at dksX3_readAct_0 20 rfl rfl)
theorem dX3_readAct_23 : decode cX3_readAct 23 = .ok (.iload_n 2, 1) := dk_28 (dk_at dksX3_readAct_0 23 rfl rfl)
theorem dX3_readAct_24 : decode cX3_readAct 24 = .ok (.bipush 100, 2) := dk_16 100 (dk_at dksX3_readAct_1 0 rfl rfl)
theorem dX3_readAct_26 : decode cX3_readAct 26 = .ok (.if_icmp .eq 11, 3) := dk_159 0 11 (dk_at dksX3_readAct_1 2 rfl rfl)
theorem dX3_readAct_29 : decode cX3_readAct 29 = .ok (.aload_n 0, 1) := dk_42 (dk_at dksX3_readAct_1 5 rfl rfl)
theorem dX3_readAct_30 : decode cX3_readAct 30 = .ok (.aload_n 0, 1) := dk_42 (dk_at dksX3_readAct_1 6 rfl rfl)
theorem dX3_readAct_31 : decode cX3_readAct 31 = .ok (.getfield 117, 3) := dk_180 0 117 (dk_at dksX3_readAct_1 7 rfl rfl)
theorem dX3_readAct_34 : decode cX3_readAct 34 = .ok (.invokevirtual 135, 3) := dk_182 0 135 (dk_at dksX3_readAct_1 10 rfl rfl)
theorem dX3_readAct_37 : decode cX3_readAct 37 = .ok (.aload_n 0, 1) := dk_42 (dk_at dksX3_readAct_1 13 rfl rfl)
theorem dX3_readAct_38 : decode cX3_readAct 38 = .ok (.dup, 1) := dk_89 (dk_at dksX3_readAct_1 14 rfl rfl)
theorem dX3_readAct_39 : decode cX3_readAct 39 = .ok (.getfield 117, 3) := dk_180 0 117 (dk_at dksX3_readAct_1 15 rfl rfl)
theorem dX3_readAct_42 : decode cX3_readAct 42 = .ok (.iconst 1, 1) := dk_4 (dk_at dksX3_readAct_1 18 rfl rfl)
theorem dX3_readAct_43 : decode cX3_readAct 43 = .ok (.iadd, 1) := dk_96 (dk_at dksX3_readAct_1 19 rfl rfl)
theorem dX3_readAct_44 : decode cX3_readAct 44 = .ok (.putfield 117, 3) := dk_181 0 117 (dk_at dksX3_readAct_1 20 rfl rfl)
theorem dX3_readAct_47 : decode cX3_readAct 47 = .ok (.aload_n 0, 1) := dk_42 (dk_at dksX3_readAct_1 23 rfl rfl)
theorem dX3_readAct_48 : decode cX3_readAct 48 = .ok (.getfield 47, 3) := dk_180 0 47 (dk_at dksX3_readAct_2 0 rfl rfl)
theorem dX3_readAct_51 : decode cX3_readAct 51 = .ok (.iload_n 1, 1) := dk_27 (dk_at dksX3_readAct_2 3 rfl rfl)
theorem dX3_readAct_52 : decode cX3_readAct 52 = .ok (.iload_n 2, 1) := dk_28 (dk_at dksX3_readAct_2 4 rfl rfl)
theorem dX3_readAct_53 : decode cX3_readAct 53 = .ok (.iastore, 1) := dk_79 (dk_at dksX3_readAct_2 5 rfl rfl)
theorem dX3_readAct_54 : decode cX3_readAct 54 = .ok (.iload_n 2, 1) := dk_28 (dk_at dksX3_readAct_2 6 rfl rfl)
theorem dX3_readAct_55 : decode cX3_readAct 55 = .ok (.bipush 100, 2) := dk_16 100 (dk_at dksX3_readAct_2 7 rfl rfl)
theorem dX3_readAct_57 : decode cX3_readAct 57 = .ok (.if_icmp .ne 38, 3) := dk_160 0 38 (dk_at dksX3_readAct_2 9 rfl rfl)
theorem dX3_readAct_60 : decode cX3_readAct 60 = .ok (.aload_n 0, 1) := dk_42 (dk_at dksX3_readAct_2 12 rfl rfl)
theorem dX3_readAct_61 : decode cX3_readAct 61 = .ok (.getfield 47, 3) := dk_180 0 47 (dk_at dksX3_readAct_2 13 rfl rfl)
theorem dX3_readAct_64 : decode cX3_readAct 64 = .ok (.iload_n 1, 1) := dk_27 (dk_at dksX3_readAct_2 16 rfl rfl)
theorem dX3_readAct_65 : decode cX3_readAct 65 = .ok (.iconst 1, 1) := dk_4 (dk_at dksX3_readAct_2 17 rfl rfl)
theorem dX3_readAct_66 : decode cX3_readAct 66 = .ok (.iadd, 1) := dk_96 (dk_at dksX3_readAct_2 18 rfl rfl)
theorem dX3_readAct_67 : decode cX3_readAct 67 = .ok (.aload_n 0, 1) := dk_42 (dk_at dksX3_readAct_2 19 rfl rfl)
theorem dX3_readAct_68 : decode cX3_readAct 68 = .ok (.invokevirtual 127, 3) := dk_182 0 127 (dk_at dksX3_readAct_2 20 rfl rfl)
theorem dX3_readAct_71 : decode cX3_readAct 71 = .ok (.bipush 49, 2) := dk_16 49 (dk_at dksX3_readAct_3 0 rfl rfl)
theorem dX3_readAct_73 : decode cX3_readAct 73 = .ok (.bipush 57, 2) := dk_16 57 (dk_at dksX3_readAct_3 2 rfl rfl)
theorem dX3_readAct_75 : decode cX3_readAct 75 = .ok (.invokestatic 97, 3) := dk_184 0 97 (dk_at dksX3_readAct_3 4 rfl rfl)
theorem dX3_readAct_78 : decode cX3_readAct 78 = .ok (.ifCond .eq 14, 3) := dk_153 0 14 (dk_at dksX3_readAct_3 7 rfl rfl)
theorem dX3_readAct_81 : decode cX3_readAct 81 = .ok (.aload_n 0, 1) := dk_42 (dk_at dksX3_readAct_3 10 rfl rfl)
theorem dX3_readAct_82 : decode cX3_readAct 82 = .ok (.iconst 1, 1) := dk_4 (dk_at dksX3_readAct_3 11 rfl rfl)
theorem dX3_readAct_83 : decode cX3_readAct 83 = .ok (.iconst 1, 1) := dk_4 (dk_at dksX3_readAct_3 12 rfl rfl)
theorem dX3_readAct_84 : decode cX3_readAct 84 = .ok (.bipush 9, 2) := dk_16 9 (dk_at dksX3_readAct_3 13 rfl rfl)
theorem dX3_readAct_86 : decode cX3_readAct 86 = .ok (.invokevirtual 143, 3) := dk_182 0 143 (dk_at dksX3_readAct_3 15 rfl rfl)
theorem dX3_readAct_89 : decode cX3_readAct 89 = .ok (.goto 4, 3) := dk_167 0 4 (dk_at dksX3_readAct_3 18 rfl rfl)
theorem dX3_readAct_92 : decode cX3_readAct 92 = .ok (.iconst 1, 1) := dk_4 (dk_at dksX3_readAct_3 21 rfl rfl)
theorem dX3_readAct_93 : decode cX3_readAct 93 = .ok (.iastore, 1) := dk_79 (dk_at dksX3_readAct_3 22 rfl rfl)
theorem dX3_readAct_94 : decode cX3_readAct 94 = .ok (.return_, 1) := dk_177 (dk_at dksX3_readAct_3 23 rfl rfl)
theorem dX3_readAct_95 : decode cX3_readAct 95 = .ok (.aload_n 0, 1) := dk_42 (dk_at dksX3_readAct_4 0 rfl rfl)
theorem dX3_readAct_96 : decode cX3_readAct 96 = .ok (.getfield 47, 3) := dk_180 0 47 (dk_at dksX3_readAct_4 1 rfl rfl)
theorem dX3_readAct_99 : decode cX3_readAct 99 = .ok (.iload_n 1, 1) := dk_27 (dk_at dksX3_readAct_4 4 rfl rfl)
theorem dX3_readAct_100 : decode cX3_readAct 100 = .ok (.iconst 1, 1) := dk_4 (dk_at dksX3_readAct_4 5 rfl rfl)
theorem dX3_readAct_101 : decode cX3_readAct 101 = .ok (.iadd, 1) := dk_96 (dk_at dksX3_readAct_4 6 rfl rfl)
theorem dX3_readAct_102 : decode cX3_readAct 102 = .ok (.aload_n 0, 1) := dk_42 (dk_at dksX3_readAct_4 7 rfl rfl)
theorem dX3_readAct_103 : decode cX3_readAct 103 = .ok (.iconst 1, 1) := dk_4 (dk_at dksX3_readAct_4 8 rfl rfl)
theorem dX3_readAct_104 : decode cX3_readAct 104 = .ok (.iconst 0, 1) := dk_3 (dk_at dksX3_readAct_4 9 rfl rfl)
theorem dX3_readAct_105 : decode cX3_readAct 105 = .ok (.bipush 9, 2) := dk_16 9 (dk_at dksX3_readAct_4 10 rfl rfl)
theorem dX3_readAct_107 : decode cX3_readAct 107 = .ok (.invokevirtual 143, 3) := dk_182 0 143 (dk_at dksX3_readAct_4 12 rfl rfl)
theorem dX3_readAct_110 : decode cX3_readAct 110 = .ok (.iastore, 1) := dk_79 (dk_at dksX3_readAct_4 15 rfl rfl)
theorem dX3_readAct_111 : decode cX3_readAct 111 = .ok (.iload_n 2, 1) := dk_28 (dk_at dksX3_readAct_4 16 rfl rfl)
theorem dX3_readAct_112 : decode cX3_readAct 112 = .ok (.bipush 108, 2) := dk_16 108 (dk_at dksX3_readAct_4 17 rfl rfl)
theorem dX3_readAct_114 : decode cX3_readAct 114 = .ok (.if_icmp .ne 19, 3) := dk_160 0 19 (dk_at dksX3_readAct_4 19 rfl rfl)
theorem dX3_readAct_117 : decode cX3_readAct 117 = .ok (.aload_n 0, 1) := dk_42 (dk_at dksX3_readAct_4 22 rfl rfl)
theorem dX3_readAct_118 : decode cX3_readAct 118 = .ok (.getfield 47, 3) := dk_180 0 47 (dk_at dksX3_readAct_5 0 rfl rfl)
theorem dX3_readAct_121 : decode cX3_readAct 121 = .ok (.iload_n 1, 1) := dk_27 (dk_at dksX3_readAct_5 3 rfl rfl)
theorem dX3_readAct_122 : decode cX3_readAct 122 = .ok (.iconst 2, 1) := dk_5 (dk_at dksX3_readAct_5 4 rfl rfl)
theorem dX3_readAct_123 : decode cX3_readAct 123 = .ok (.iadd, 1) := dk_96 (dk_at dksX3_readAct_5 5 rfl rfl)
theorem dX3_readAct_124 : decode cX3_readAct 124 = .ok (.aload_n 0, 1) := dk_42 (dk_at dksX3_readAct_5 6 rfl rfl)
theorem dX3_readAct_125 : decode cX3_readAct 125 = .ok (.iconst 1, 1) := dk_4 (dk_at dksX3_readAct_5 7 rfl rfl)
theorem dX3_readAct_126 : decode cX3_readAct 126 = .ok (.iconst 0, 1) := dk_3 (dk_at dksX3_readAct_5 8 rfl rfl)
theorem dX3_readAct_127 : decode cX3_readAct 127 = .ok (.bipush 9, 2) := dk_16 9 (dk_at dksX3_readAct_5 9 rfl rfl)
theorem dX3_readAct_129 : decode cX3_readAct 129 = .ok (.invokevirtual 143, 3) := dk_182 0 143 (dk_at dksX3_readAct_5 11 rfl rfl)
theorem dX3_readAct_132 : decode cX3_readAct 132 = .ok (.iastore, 1) := dk_79 (dk_at dksX3_readAct_5 14 rfl rfl)
theorem dX3_readAct_133 : decode cX3_readAct 133 = .ok (.iload_n 2, 1) := dk_28 (dk_at dksX3_readAct_5 15 rfl rfl)
theorem dX3_readAct_134 : decode cX3_readAct 134 = .ok (.bipush 99, 2) := dk_16 99 (dk_at dksX3_readAct_5 16 rfl rfl)
theorem dX3_readAct_136 : decode cX3_readAct 136 = .ok (.if_icmp .eq 18, 3) := dk_159 0 18 (dk_at dksX3_readAct_5 18 rfl rfl)
theorem dX3_readAct_139 : decode cX3_readAct 139 = .ok (.aload_n 0, 1) := dk_42 (dk_at dksX3_readAct_5 21 rfl rfl)
theorem dX3_readAct_140 : decode cX3_readAct 140 = .ok (.getfield 47, 3) := dk_180 0 47 (dk_at dksX3_readAct_6 0 rfl rfl)
theorem dX3_readAct_143 : decode cX3_readAct 143 = .ok (.iload_n 1, 1) := dk_27 (dk_at dksX3_readAct_6 3 rfl rfl)
theorem dX3_readAct_144 : decode cX3_readAct 144 = .ok (.iconst 3, 1) := dk_6 (dk_at dksX3_readAct_6 4 rfl rfl)
theorem dX3_readAct_145 : decode cX3_readAct 145 = .ok (.iadd, 1) := dk_96 (dk_at dksX3_readAct_6 5 rfl rfl)
theorem dX3_readAct_146 : decode cX3_readAct 146 = .ok (.aload_n 0, 1) := dk_42 (dk_at dksX3_readAct_6 6 rfl rfl)
theorem dX3_readAct_147 : decode cX3_readAct 147 = .ok (.iconst 1, 1) := dk_4 (dk_at dksX3_readAct_6 7 rfl rfl)
theorem dX3_readAct_148 : decode cX3_readAct 148 = .ok (.iconst 0, 1) := dk_3 (dk_at dksX3_readAct_6 8 rfl rfl)
theorem dX3_readAct_149 : decode cX3_readAct 149 = .ok (.iconst 1, 1) := dk_4 (dk_at dksX3_readAct_6 9 rfl rfl)
theorem dX3_readAct_150 : decode cX3_readAct 150 = .ok (.invokevirtual 143, 3) := dk_182 0 143 (dk_at dksX3_readAct_6 10 rfl rfl)
theorem dX3_readAct_153 : decode cX3_readAct 153 = .ok (.iastore, 1) := dk_79 (dk_at dksX3_readAct_6 13 rfl rfl)
theorem dX3_readAct_154 : decode cX3_readAct 154 = .ok (.iload_n 2, 1) := dk_28 (dk_at dksX3_readAct_6 14 rfl rfl)
theorem dX3_readAct_155 : decode cX3_readAct 155 = .ok (.bipush 108, 2) := dk_16 108 (dk_at dksX3_readAct_6 15 rfl rfl)
theorem dX3_readAct_157 : decode cX3_readAct 157 = .ok (.if_icmp .ne 4, 3) := dk_160 0 4 (dk_at dksX3_readAct_6 17 rfl rfl)
theorem dX3_readAct_160 : decode cX3_readAct 160 = .ok (.return_, 1) := dk_177 (dk_at dksX3_readAct_6 20 rfl rfl)
theorem dX3_readAct_161 : decode cX3_readAct 161 = .ok (.aload_n 0, 1) := dk_42 (dk_at dksX3_readAct_6 21 rfl rfl)
theorem dX3_readAct_162 : decode cX3_readAct 162 = .ok (.bipush 42, 2) := dk_16 42 (dk_at dksX3_readAct_6 22 rfl rfl)
theorem dX3_readAct_164 : decode cX3_readAct 164 = .ok (.invokevirtual 147, 3) := dk_182 0 147 (dk_at dksX3_readAct_7 0 rfl rfl)
theorem dX3_readAct_167 : decode cX3_readAct 167 = .ok (.aload_n 0, 1) := dk_42 (dk_at dksX3_readAct_7 3 rfl rfl)
theorem dX3_readAct_168 : decode cX3_readAct 168 = .ok (.getfield 47, 3) := dk_180 0 47 (dk_at dksX3_readAct_7 4 rfl rfl)
theorem dX3_readAct_171 : decode cX3_readAct 171 = .ok (.iload_n 1, 1) := dk_27 (dk_at dksX3_readAct_7 7 rfl rfl)
theorem dX3_readAct_172 : decode cX3_readAct 172 = .ok (.iconst 2, 1) := dk_5 (dk_at dksX3_readAct_7 8 rfl rfl)
theorem dX3_readAct_173 : decode cX3_readAct 173 = .ok (.iadd, 1) := dk_96 (dk_at dksX3_readAct_7 9 rfl rfl)
theorem dX3_readAct_174 : decode cX3_readAct 174 = .ok (.aload_n 0, 1) := dk_42 (dk_at dksX3_readAct_7 10 rfl rfl)
theorem dX3_readAct_175 : decode cX3_readAct 175 = .ok (.iconst 2, 1) := dk_5 (dk_at dksX3_readAct_7 11 rfl rfl)
theorem dX3_readAct_176 : decode cX3_readAct 176 = .ok (.iconst 0, 1) := dk_3 (dk_at dksX3_readAct_7 12 rfl rfl)
theorem dX3_readAct_177 : decode cX3_readAct 177 = .ok (.bipush 99, 2) := dk_16 99 (dk_at dksX3_readAct_7 13 rfl rfl)
theorem dX3_readAct_179 : decode cX3_readAct 179 = .ok (.invokevirtual 143, 3) := dk_182 0 143 (dk_at dksX3_readAct_7 15 rfl rfl)
theorem dX3_readAct_182 : decode cX3_readAct 182 = .ok (.iastore, 1) := dk_79 (dk_at dksX3_readAct_7 18 rfl rfl)
theorem dX3_readAct_183 : decode cX3_readAct 183 = .ok (.return_, 1) := dk_177 (dk_at dksX3_readAct_7 19 rfl rfl)
abbrev cX3_act : ByteArray := prog_9_method_59_code
def yX3_act : MethodName := ⟨RX3, "act", "(I)Z"⟩
def dkwX3_act_8 : List UInt8 := [96, 28, 4, 182, 0, 249, 4, 172]
abbrev dktX3_act_8 : List UInt8 := dkwX3_act_8 ++ []
def dkwX3_act_7 : List UInt8 := [5, 29, 104, 21, 4, 96, 182, 1, 31, 156, 0, 5, 3, 172, 42, 42, 180, 0, 9, 5, 29, 104, 21, 4]
abbrev dktX3_act_7 : List UInt8 := dkwX3_act_7 ++ dktX3_act_8
def dkwX3_act_6 : List UInt8 := [180, 0, 9, 16, 14, 28, 96, 92, 46, 29, 100, 79, 4, 172, 42, 29, 182, 0, 101, 153, 0, 17, 42, 28]
abbrev dktX3_act_6 : List UInt8 := dkwX3_act_6 ++ dktX3_act_7
def dkwX3_act_5 : List UInt8 := [180, 0, 47, 27, 46, 16, 99, 160, 0, 29, 42, 28, 29, 182, 1, 28, 156, 0, 5, 3, 172, 42]
abbrev dktX3_act_5 : List UInt8 := dkwX3_act_5 ++ dktX3_act_6
def dkwX3_act_4 : List UInt8 := [156, 0, 5, 3, 172, 42, 180, 0, 9, 5, 28, 104, 21, 4, 96, 29, 184, 1, 24, 4, 172, 42]
abbrev dktX3_act_4 : List UInt8 := dkwX3_act_4 ++ dktX3_act_5
def dkwX3_act_3 : List UInt8 := [160, 0, 43, 42, 28, 182, 0, 101, 153, 0, 17, 42, 5, 28, 104, 21, 4, 96, 29, 182, 1, 21]
abbrev dktX3_act_3 : List UInt8 := dkwX3_act_3 ++ dktX3_act_4
def dkwX3_act_2 : List UInt8 := [42, 42, 180, 0, 9, 182, 1, 4, 132, 5, 1, 167, 255, 239, 4, 172, 42, 180, 0, 47, 27, 46, 16, 115]
abbrev dktX3_act_2 : List UInt8 := dkwX3_act_2 ++ dktX3_act_3
def dkwX3_act_1 : List UInt8 := [96, 46, 54, 4, 42, 180, 0, 47, 27, 46, 16, 100, 160, 0, 28, 3, 54, 5, 21, 5, 28, 162, 0, 17]
abbrev dktX3_act_1 : List UInt8 := dkwX3_act_1 ++ dktX3_act_2
def dkwX3_act_0 : List UInt8 := [42, 180, 0, 47, 27, 4, 96, 46, 61, 42, 180, 0, 47, 27, 5, 96, 46, 62, 42, 180, 0, 47, 27, 6]
abbrev dktX3_act_0 : List UInt8 := dkwX3_act_0 ++ dktX3_act_1
theorem dksX3_act_0 : cX3_act.data.toList.drop 0 = dktX3_act_0 := by decide +kernel
theorem dksX3_act_1 : cX3_act.data.toList.drop 24 = dktX3_act_1 := dk_seg dksX3_act_0 24 rfl rfl
theorem dksX3_act_2 : cX3_act.data.toList.drop 48 = dktX3_act_2 := dk_seg dksX3_act_1 24 rfl rfl
theorem dksX3_act_3 : cX3_act.data.toList.drop 72 = dktX3_act_3 := dk_seg dksX3_act_2 24 rfl rfl
theorem dksX3_act_4 : cX3_act.data.toList.drop 94 = dktX3_act_4 := dk_seg dksX3_act_3 22 rfl rfl
theorem dksX3_act_5 : cX3_act.data.toList.drop 116 = dktX3_act_5 := dk_seg dksX3_act_4 22 rfl rfl
theorem dksX3_act_6 : cX3_act.data.toList.drop 138 = dktX3_act_6 := dk_seg dksX3_act_5 22 rfl rfl
theorem dksX3_act_7 : cX3_act.data.toList.drop 162 = dktX3_act_7 := dk_seg dksX3_act_6 24 rfl rfl
theorem dksX3_act_8 : cX3_act.data.toList.drop 186 = dktX3_act_8 := dk_seg dksX3_act_7 24 rfl rfl
theorem dX3_act_0 : decode cX3_act 0 = .ok (.aload_n 0, 1) := dk_42 (dk_at dksX3_act_0 0 rfl rfl)
theorem dX3_act_1 : decode cX3_act 1 = .ok (.getfield 47, 3) := dk_180 0 47 (dk_at dksX3_act_0 1 rfl rfl)
theorem dX3_act_4 : decode cX3_act 4 = .ok (.iload_n 1, 1) := dk_27 (dk_at dksX3_act_0 4 rfl rfl)
theorem dX3_act_5 : decode cX3_act 5 = .ok (.iconst 1, 1) := dk_4 (dk_at dksX3_act_0 5 rfl rfl)
theorem dX3_act_6 : decode cX3_act 6 = .ok (.iadd, 1) := dk_96 (dk_at dksX3_act_0 6 rfl rfl)
theorem dX3_act_7 : decode cX3_act 7 = .ok (.iaload, 1) := dk_46 (dk_at dksX3_act_0 7 rfl rfl)
theorem dX3_act_8 : decode cX3_act 8 = .ok (.istore_n 2, 1) := dk_61 (dk_at dksX3_act_0 8 rfl rfl)
theorem dX3_act_9 : decode cX3_act 9 = .ok (.aload_n 0, 1) := dk_42 (dk_at dksX3_act_0 9 rfl rfl)
theorem dX3_act_10 : decode cX3_act 10 = .ok (.getfield 47, 3) := dk_180 0 47 (dk_at dksX3_act_0 10 rfl rfl)
theorem dX3_act_13 : decode cX3_act 13 = .ok (.iload_n 1, 1) := dk_27 (dk_at dksX3_act_0 13 rfl rfl)
theorem dX3_act_14 : decode cX3_act 14 = .ok (.iconst 2, 1) := dk_5 (dk_at dksX3_act_0 14 rfl rfl)
theorem dX3_act_15 : decode cX3_act 15 = .ok (.iadd, 1) := dk_96 (dk_at dksX3_act_0 15 rfl rfl)
theorem dX3_act_16 : decode cX3_act 16 = .ok (.iaload, 1) := dk_46 (dk_at dksX3_act_0 16 rfl rfl)
theorem dX3_act_17 : decode cX3_act 17 = .ok (.istore_n 3, 1) := dk_62 (dk_at dksX3_act_0 17 rfl rfl)
theorem dX3_act_18 : decode cX3_act 18 = .ok (.aload_n 0, 1) := dk_42 (dk_at dksX3_act_0 18 rfl rfl)
theorem dX3_act_19 : decode cX3_act 19 = .ok (.getfield 47, 3) := dk_180 0 47 (dk_at dksX3_act_0 19 rfl rfl)
theorem dX3_act_22 : decode cX3_act 22 = .ok (.iload_n 1, 1) := dk_27 (dk_at dksX3_act_0 22 rfl rfl)
theorem dX3_act_23 : decode cX3_act 23 = .ok (.iconst 3, 1) := dk_6 (dk_at dksX3_act_0 23 rfl rfl)
theorem dX3_act_24 : decode cX3_act 24 = .ok (.iadd, 1) := dk_96 (dk_at dksX3_act_1 0 rfl rfl)
theorem dX3_act_25 : decode cX3_act 25 = .ok (.iaload, 1) := dk_46 (dk_at dksX3_act_1 1 rfl rfl)
theorem dX3_act_26 : decode cX3_act 26 = .ok (.istore 4, 2) := dk_54 4 (dk_at dksX3_act_1 2 rfl rfl)
theorem dX3_act_28 : decode cX3_act 28 = .ok (.aload_n 0, 1) := dk_42 (dk_at dksX3_act_1 4 rfl rfl)
theorem dX3_act_29 : decode cX3_act 29 = .ok (.getfield 47, 3) := dk_180 0 47 (dk_at dksX3_act_1 5 rfl rfl)
theorem dX3_act_32 : decode cX3_act 32 = .ok (.iload_n 1, 1) := dk_27 (dk_at dksX3_act_1 8 rfl rfl)
theorem dX3_act_33 : decode cX3_act 33 = .ok (.iaload, 1) := dk_46 (dk_at dksX3_act_1 9 rfl rfl)
theorem dX3_act_34 : decode cX3_act 34 = .ok (.bipush 100, 2) := dk_16 100 (dk_at dksX3_act_1 10 rfl rfl)
theorem dX3_act_36 : decode cX3_act 36 = .ok (.if_icmp .ne 28, 3) := dk_160 0 28 (dk_at dksX3_act_1 12 rfl rfl)
theorem dX3_act_39 : decode cX3_act 39 = .ok (.iconst 0, 1) := dk_3 (dk_at dksX3_act_1 15 rfl rfl)
theorem dX3_act_40 : decode cX3_act 40 = .ok (.istore 5, 2) := dk_54 5 (dk_at dksX3_act_1 16 rfl rfl)
theorem dX3_act_42 : decode cX3_act 42 = .ok (.iload 5, 2) := dk_21 5 (dk_at dksX3_act_1 18 rfl rfl)
theorem dX3_act_44 : decode cX3_act 44 = .ok (.iload_n 2, 1) := dk_28 (dk_at dksX3_act_1 20 rfl rfl)
theorem dX3_act_45 : decode cX3_act 45 = .ok (.if_icmp .ge 17, 3) := dk_162 0 17 (dk_at dksX3_act_1 21 rfl rfl)
theorem dX3_act_48 : decode cX3_act 48 = .ok (.aload_n 0, 1) := dk_42 (dk_at dksX3_act_2 0 rfl rfl)
theorem dX3_act_49 : decode cX3_act 49 = .ok (.aload_n 0, 1) := dk_42 (dk_at dksX3_act_2 1 rfl rfl)
theorem dX3_act_50 : decode cX3_act 50 = .ok (.getfield 9, 3) := dk_180 0 9 (dk_at dksX3_act_2 2 rfl rfl)
theorem dX3_act_53 : decode cX3_act 53 = .ok (.invokevirtual 260, 3) := dk_182 1 4 (dk_at dksX3_act_2 5 rfl rfl)
theorem dX3_act_56 : decode cX3_act 56 = .ok (.iinc 5 1, 3) := dk_132 5 1 (dk_at dksX3_act_2 8 rfl rfl)
theorem dX3_act_59 : decode cX3_act 59 = .ok (.goto (-17), 3) := dk_167 255 239 (dk_at dksX3_act_2 11 rfl rfl)
theorem dX3_act_62 : decode cX3_act 62 = .ok (.iconst 1, 1) := dk_4 (dk_at dksX3_act_2 14 rfl rfl)
theorem dX3_act_63 : decode cX3_act 63 = .ok (.ireturn, 1) := dk_172 (dk_at dksX3_act_2 15 rfl rfl)
theorem dX3_act_64 : decode cX3_act 64 = .ok (.aload_n 0, 1) := dk_42 (dk_at dksX3_act_2 16 rfl rfl)
theorem dX3_act_65 : decode cX3_act 65 = .ok (.getfield 47, 3) := dk_180 0 47 (dk_at dksX3_act_2 17 rfl rfl)
theorem dX3_act_68 : decode cX3_act 68 = .ok (.iload_n 1, 1) := dk_27 (dk_at dksX3_act_2 20 rfl rfl)
theorem dX3_act_69 : decode cX3_act 69 = .ok (.iaload, 1) := dk_46 (dk_at dksX3_act_2 21 rfl rfl)
theorem dX3_act_70 : decode cX3_act 70 = .ok (.bipush 115, 2) := dk_16 115 (dk_at dksX3_act_2 22 rfl rfl)
theorem dX3_act_72 : decode cX3_act 72 = .ok (.if_icmp .ne 43, 3) := dk_160 0 43 (dk_at dksX3_act_3 0 rfl rfl)
theorem dX3_act_75 : decode cX3_act 75 = .ok (.aload_n 0, 1) := dk_42 (dk_at dksX3_act_3 3 rfl rfl)
theorem dX3_act_76 : decode cX3_act 76 = .ok (.iload_n 2, 1) := dk_28 (dk_at dksX3_act_3 4 rfl rfl)
theorem dX3_act_77 : decode cX3_act 77 = .ok (.invokevirtual 101, 3) := dk_182 0 101 (dk_at dksX3_act_3 5 rfl rfl)
theorem dX3_act_80 : decode cX3_act 80 = .ok (.ifCond .eq 17, 3) := dk_153 0 17 (dk_at dksX3_act_3 8 rfl rfl)
theorem dX3_act_83 : decode cX3_act 83 = .ok (.aload_n 0, 1) := dk_42 (dk_at dksX3_act_3 11 rfl rfl)
theorem dX3_act_84 : decode cX3_act 84 = .ok (.iconst 2, 1) := dk_5 (dk_at dksX3_act_3 12 rfl rfl)
theorem dX3_act_85 : decode cX3_act 85 = .ok (.iload_n 2, 1) := dk_28 (dk_at dksX3_act_3 13 rfl rfl)
theorem dX3_act_86 : decode cX3_act 86 = .ok (.imul, 1) := dk_104 (dk_at dksX3_act_3 14 rfl rfl)
theorem dX3_act_87 : decode cX3_act 87 = .ok (.iload 4, 2) := dk_21 4 (dk_at dksX3_act_3 15 rfl rfl)
theorem dX3_act_89 : decode cX3_act 89 = .ok (.iadd, 1) := dk_96 (dk_at dksX3_act_3 17 rfl rfl)
theorem dX3_act_90 : decode cX3_act 90 = .ok (.iload_n 3, 1) := dk_29 (dk_at dksX3_act_3 18 rfl rfl)
theorem dX3_act_91 : decode cX3_act 91 = .ok (.invokevirtual 277, 3) := dk_182 1 21 (dk_at dksX3_act_3 19 rfl rfl)
theorem dX3_act_94 : decode cX3_act 94 = .ok (.ifCond .ge 5, 3) := dk_156 0 5 (dk_at dksX3_act_4 0 rfl rfl)
theorem dX3_act_97 : decode cX3_act 97 = .ok (.iconst 0, 1) := dk_3 (dk_at dksX3_act_4 3 rfl rfl)
theorem dX3_act_98 : decode cX3_act 98 = .ok (.ireturn, 1) := dk_172 (dk_at dksX3_act_4 4 rfl rfl)
theorem dX3_act_99 : decode cX3_act 99 = .ok (.aload_n 0, 1) := dk_42 (dk_at dksX3_act_4 5 rfl rfl)
theorem dX3_act_100 : decode cX3_act 100 = .ok (.getfield 9, 3) := dk_180 0 9 (dk_at dksX3_act_4 6 rfl rfl)
theorem dX3_act_103 : decode cX3_act 103 = .ok (.iconst 2, 1) := dk_5 (dk_at dksX3_act_4 9 rfl rfl)
theorem dX3_act_104 : decode cX3_act 104 = .ok (.iload_n 2, 1) := dk_28 (dk_at dksX3_act_4 10 rfl rfl)
theorem dX3_act_105 : decode cX3_act 105 = .ok (.imul, 1) := dk_104 (dk_at dksX3_act_4 11 rfl rfl)
theorem dX3_act_106 : decode cX3_act 106 = .ok (.iload 4, 2) := dk_21 4 (dk_at dksX3_act_4 12 rfl rfl)
theorem dX3_act_108 : decode cX3_act 108 = .ok (.iadd, 1) := dk_96 (dk_at dksX3_act_4 14 rfl rfl)
theorem dX3_act_109 : decode cX3_act 109 = .ok (.iload_n 3, 1) := dk_29 (dk_at dksX3_act_4 15 rfl rfl)
theorem dX3_act_110 : decode cX3_act 110 = .ok (.invokestatic 280, 3) := dk_184 1 24 (dk_at dksX3_act_4 16 rfl rfl)
theorem dX3_act_113 : decode cX3_act 113 = .ok (.iconst 1, 1) := dk_4 (dk_at dksX3_act_4 19 rfl rfl)
theorem dX3_act_114 : decode cX3_act 114 = .ok (.ireturn, 1) := dk_172 (dk_at dksX3_act_4 20 rfl rfl)
theorem dX3_act_115 : decode cX3_act 115 = .ok (.aload_n 0, 1) := dk_42 (dk_at dksX3_act_4 21 rfl rfl)
theorem dX3_act_116 : decode cX3_act 116 = .ok (.getfield 47, 3) := dk_180 0 47 (dk_at dksX3_act_5 0 rfl rfl)
theorem dX3_act_119 : decode cX3_act 119 = .ok (.iload_n 1, 1) := dk_27 (dk_at dksX3_act_5 3 rfl rfl)
theorem dX3_act_120 : decode cX3_act 120 = .ok (.iaload, 1) := dk_46 (dk_at dksX3_act_5 4 rfl rfl)
theorem dX3_act_121 : decode cX3_act 121 = .ok (.bipush 99, 2) := dk_16 99 (dk_at dksX3_act_5 5 rfl rfl)
theorem dX3_act_123 : decode cX3_act 123 = .ok (.if_icmp .ne 29, 3) := dk_160 0 29 (dk_at dksX3_act_5 7 rfl rfl)
theorem dX3_act_126 : decode cX3_act 126 = .ok (.aload_n 0, 1) := dk_42 (dk_at dksX3_act_5 10 rfl rfl)
theorem dX3_act_127 : decode cX3_act 127 = .ok (.iload_n 2, 1) := dk_28 (dk_at dksX3_act_5 11 rfl rfl)
theorem dX3_act_128 : decode cX3_act 128 = .ok (.iload_n 3, 1) := dk_29 (dk_at dksX3_act_5 12 rfl rfl)
theorem dX3_act_129 : decode cX3_act 129 = .ok (.invokevirtual 284, 3) := dk_182 1 28 (dk_at dksX3_act_5 13 rfl rfl)
theorem dX3_act_132 : decode cX3_act 132 = .ok (.ifCond .ge 5, 3) := dk_156 0 5 (dk_at dksX3_act_5 16 rfl rfl)
theorem dX3_act_135 : decode cX3_act 135 = .ok (.iconst 0, 1) := dk_3 (dk_at dksX3_act_5 19 rfl rfl)
theorem dX3_act_136 : decode cX3_act 136 = .ok (.ireturn, 1) := dk_172 (dk_at dksX3_act_5 20 rfl rfl)
theorem dX3_act_137 : decode cX3_act 137 = .ok (.aload_n 0, 1) := dk_42 (dk_at dksX3_act_5 21 rfl rfl)
theorem dX3_act_138 : decode cX3_act 138 = .ok (.getfield 9, 3) := dk_180 0 9 (dk_at dksX3_act_6 0 rfl rfl)
theorem dX3_act_141 : decode cX3_act 141 = .ok (.bipush 14, 2) := dk_16 14 (dk_at dksX3_act_6 3 rfl rfl)
theorem dX3_act_143 : decode cX3_act 143 = .ok (.iload_n 2, 1) := dk_28 (dk_at dksX3_act_6 5 rfl rfl)
theorem dX3_act_144 : decode cX3_act 144 = .ok (.iadd, 1) := dk_96 (dk_at dksX3_act_6 6 rfl rfl)
theorem dX3_act_145 : decode cX3_act 145 = .ok (.dup2, 1) := dk_92 (dk_at dksX3_act_6 7 rfl rfl)
theorem dX3_act_146 : decode cX3_act 146 = .ok (.iaload, 1) := dk_46 (dk_at dksX3_act_6 8 rfl rfl)
theorem dX3_act_147 : decode cX3_act 147 = .ok (.iload_n 3, 1) := dk_29 (dk_at dksX3_act_6 9 rfl rfl)
theorem dX3_act_148 : decode cX3_act 148 = .ok (.isub, 1) := dk_100 (dk_at dksX3_act_6 10 rfl rfl)
theorem dX3_act_149 : decode cX3_act 149 = .ok (.iastore, 1) := dk_79 (dk_at dksX3_act_6 11 rfl rfl)
theorem dX3_act_150 : decode cX3_act 150 = .ok (.iconst 1, 1) := dk_4 (dk_at dksX3_act_6 12 rfl rfl)
theorem dX3_act_151 : decode cX3_act 151 = .ok (.ireturn, 1) := dk_172 (dk_at dksX3_act_6 13 rfl rfl)
theorem dX3_act_152 : decode cX3_act 152 = .ok (.aload_n 0, 1) := dk_42 (dk_at dksX3_act_6 14 rfl rfl)
theorem dX3_act_153 : decode cX3_act 153 = .ok (.iload_n 3, 1) := dk_29 (dk_at dksX3_act_6 15 rfl rfl)
theorem dX3_act_154 : decode cX3_act 154 = .ok (.invokevirtual 101, 3) := dk_182 0 101 (dk_at dksX3_act_6 16 rfl rfl)
theorem dX3_act_157 : decode cX3_act 157 = .ok (.ifCond .eq 17, 3) := dk_153 0 17 (dk_at dksX3_act_6 19 rfl rfl)
theorem dX3_act_160 : decode cX3_act 160 = .ok (.aload_n 0, 1) := dk_42 (dk_at dksX3_act_6 22 rfl rfl)
theorem dX3_act_161 : decode cX3_act 161 = .ok (.iload_n 2, 1) := dk_28 (dk_at dksX3_act_6 23 rfl rfl)
theorem dX3_act_162 : decode cX3_act 162 = .ok (.iconst 2, 1) := dk_5 (dk_at dksX3_act_7 0 rfl rfl)
theorem dX3_act_163 : decode cX3_act 163 = .ok (.iload_n 3, 1) := dk_29 (dk_at dksX3_act_7 1 rfl rfl)
theorem dX3_act_164 : decode cX3_act 164 = .ok (.imul, 1) := dk_104 (dk_at dksX3_act_7 2 rfl rfl)
theorem dX3_act_165 : decode cX3_act 165 = .ok (.iload 4, 2) := dk_21 4 (dk_at dksX3_act_7 3 rfl rfl)
theorem dX3_act_167 : decode cX3_act 167 = .ok (.iadd, 1) := dk_96 (dk_at dksX3_act_7 5 rfl rfl)
theorem dX3_act_168 : decode cX3_act 168 = .ok (.invokevirtual 287, 3) := dk_182 1 31 (dk_at dksX3_act_7 6 rfl rfl)
theorem dX3_act_171 : decode cX3_act 171 = .ok (.ifCond .ge 5, 3) := dk_156 0 5 (dk_at dksX3_act_7 9 rfl rfl)
theorem dX3_act_174 : decode cX3_act 174 = .ok (.iconst 0, 1) := dk_3 (dk_at dksX3_act_7 12 rfl rfl)
theorem dX3_act_175 : decode cX3_act 175 = .ok (.ireturn, 1) := dk_172 (dk_at dksX3_act_7 13 rfl rfl)
theorem dX3_act_176 : decode cX3_act 176 = .ok (.aload_n 0, 1) := dk_42 (dk_at dksX3_act_7 14 rfl rfl)
theorem dX3_act_177 : decode cX3_act 177 = .ok (.aload_n 0, 1) := dk_42 (dk_at dksX3_act_7 15 rfl rfl)
theorem dX3_act_178 : decode cX3_act 178 = .ok (.getfield 9, 3) := dk_180 0 9 (dk_at dksX3_act_7 16 rfl rfl)
theorem dX3_act_181 : decode cX3_act 181 = .ok (.iconst 2, 1) := dk_5 (dk_at dksX3_act_7 19 rfl rfl)
theorem dX3_act_182 : decode cX3_act 182 = .ok (.iload_n 3, 1) := dk_29 (dk_at dksX3_act_7 20 rfl rfl)
theorem dX3_act_183 : decode cX3_act 183 = .ok (.imul, 1) := dk_104 (dk_at dksX3_act_7 21 rfl rfl)
theorem dX3_act_184 : decode cX3_act 184 = .ok (.iload 4, 2) := dk_21 4 (dk_at dksX3_act_7 22 rfl rfl)
theorem dX3_act_186 : decode cX3_act 186 = .ok (.iadd, 1) := dk_96 (dk_at dksX3_act_8 0 rfl rfl)
theorem dX3_act_187 : decode cX3_act 187 = .ok (.iload_n 2, 1) := dk_28 (dk_at dksX3_act_8 1 rfl rfl)
theorem dX3_act_188 : decode cX3_act 188 = .ok (.iconst 1, 1) := dk_4 (dk_at dksX3_act_8 2 rfl rfl)
theorem dX3_act_189 : decode cX3_act 189 = .ok (.invokevirtual 249, 3) := dk_182 0 249 (dk_at dksX3_act_8 3 rfl rfl)
theorem dX3_act_192 : decode cX3_act 192 = .ok (.iconst 1, 1) := dk_4 (dk_at dksX3_act_8 6 rfl rfl)
theorem dX3_act_193 : decode cX3_act 193 = .ok (.ireturn, 1) := dk_172 (dk_at dksX3_act_8 7 rfl rfl)
abbrev cX3_undo : ByteArray := prog_9_method_60_code
def yX3_undo : MethodName := ⟨RX3, "undo", "()I"⟩
def dkwX3_undo_2 : List UInt8 := [27, 96, 46, 79, 132, 1, 1, 167, 255, 227, 42, 180, 0, 151, 172]
abbrev dktX3_undo_2 : List UInt8 := dkwX3_undo_2 ++ []
def dkwX3_undo_1 : List UInt8 := [3, 60, 27, 16, 71, 162, 0, 29, 42, 180, 0, 9, 27, 42, 180, 0, 41, 16, 71, 42, 180, 0, 151, 104]
abbrev dktX3_undo_1 : List UInt8 := dkwX3_undo_1 ++ dktX3_undo_2
def dkwX3_undo_0 : List UInt8 := [42, 3, 181, 0, 87, 42, 180, 0, 151, 154, 0, 5, 2, 172, 42, 89, 180, 0, 151, 4, 100, 181, 0, 151]
abbrev dktX3_undo_0 : List UInt8 := dkwX3_undo_0 ++ dktX3_undo_1
theorem dksX3_undo_0 : cX3_undo.data.toList.drop 0 = dktX3_undo_0 := by decide +kernel
theorem dksX3_undo_1 : cX3_undo.data.toList.drop 24 = dktX3_undo_1 := dk_seg dksX3_undo_0 24 rfl rfl
theorem dksX3_undo_2 : cX3_undo.data.toList.drop 48 = dktX3_undo_2 := dk_seg dksX3_undo_1 24 rfl rfl
theorem dX3_undo_0 : decode cX3_undo 0 = .ok (.aload_n 0, 1) := dk_42 (dk_at dksX3_undo_0 0 rfl rfl)
theorem dX3_undo_1 : decode cX3_undo 1 = .ok (.iconst 0, 1) := dk_3 (dk_at dksX3_undo_0 1 rfl rfl)
theorem dX3_undo_2 : decode cX3_undo 2 = .ok (.putfield 87, 3) := dk_181 0 87 (dk_at dksX3_undo_0 2 rfl rfl)
theorem dX3_undo_5 : decode cX3_undo 5 = .ok (.aload_n 0, 1) := dk_42 (dk_at dksX3_undo_0 5 rfl rfl)
theorem dX3_undo_6 : decode cX3_undo 6 = .ok (.getfield 151, 3) := dk_180 0 151 (dk_at dksX3_undo_0 6 rfl rfl)
theorem dX3_undo_9 : decode cX3_undo 9 = .ok (.ifCond .ne 5, 3) := dk_154 0 5 (dk_at dksX3_undo_0 9 rfl rfl)
theorem dX3_undo_12 : decode cX3_undo 12 = .ok (.iconst (-1), 1) := dk_2 (dk_at dksX3_undo_0 12 rfl rfl)
theorem dX3_undo_13 : decode cX3_undo 13 = .ok (.ireturn, 1) := dk_172 (dk_at dksX3_undo_0 13 rfl rfl)
theorem dX3_undo_14 : decode cX3_undo 14 = .ok (.aload_n 0, 1) := dk_42 (dk_at dksX3_undo_0 14 rfl rfl)
theorem dX3_undo_15 : decode cX3_undo 15 = .ok (.dup, 1) := dk_89 (dk_at dksX3_undo_0 15 rfl rfl)
theorem dX3_undo_16 : decode cX3_undo 16 = .ok (.getfield 151, 3) := dk_180 0 151 (dk_at dksX3_undo_0 16 rfl rfl)
theorem dX3_undo_19 : decode cX3_undo 19 = .ok (.iconst 1, 1) := dk_4 (dk_at dksX3_undo_0 19 rfl rfl)
theorem dX3_undo_20 : decode cX3_undo 20 = .ok (.isub, 1) := dk_100 (dk_at dksX3_undo_0 20 rfl rfl)
theorem dX3_undo_21 : decode cX3_undo 21 = .ok (.putfield 151, 3) := dk_181 0 151 (dk_at dksX3_undo_0 21 rfl rfl)
theorem dX3_undo_24 : decode cX3_undo 24 = .ok (.iconst 0, 1) := dk_3 (dk_at dksX3_undo_1 0 rfl rfl)
theorem dX3_undo_25 : decode cX3_undo 25 = .ok (.istore_n 1, 1) := dk_60 (dk_at dksX3_undo_1 1 rfl rfl)
theorem dX3_undo_26 : decode cX3_undo 26 = .ok (.iload_n 1, 1) := dk_27 (dk_at dksX3_undo_1 2 rfl rfl)
theorem dX3_undo_27 : decode cX3_undo 27 = .ok (.bipush 71, 2) := dk_16 71 (dk_at dksX3_undo_1 3 rfl rfl)
theorem dX3_undo_29 : decode cX3_undo 29 = .ok (.if_icmp .ge 29, 3) := dk_162 0 29 (dk_at dksX3_undo_1 5 rfl rfl)
theorem dX3_undo_32 : decode cX3_undo 32 = .ok (.aload_n 0, 1) := dk_42 (dk_at dksX3_undo_1 8 rfl rfl)
theorem dX3_undo_33 : decode cX3_undo 33 = .ok (.getfield 9, 3) := dk_180 0 9 (dk_at dksX3_undo_1 9 rfl rfl)
theorem dX3_undo_36 : decode cX3_undo 36 = .ok (.iload_n 1, 1) := dk_27 (dk_at dksX3_undo_1 12 rfl rfl)
theorem dX3_undo_37 : decode cX3_undo 37 = .ok (.aload_n 0, 1) := dk_42 (dk_at dksX3_undo_1 13 rfl rfl)
theorem dX3_undo_38 : decode cX3_undo 38 = .ok (.getfield 41, 3) := dk_180 0 41 (dk_at dksX3_undo_1 14 rfl rfl)
theorem dX3_undo_41 : decode cX3_undo 41 = .ok (.bipush 71, 2) := dk_16 71 (dk_at dksX3_undo_1 17 rfl rfl)
theorem dX3_undo_43 : decode cX3_undo 43 = .ok (.aload_n 0, 1) := dk_42 (dk_at dksX3_undo_1 19 rfl rfl)
theorem dX3_undo_44 : decode cX3_undo 44 = .ok (.getfield 151, 3) := dk_180 0 151 (dk_at dksX3_undo_1 20 rfl rfl)
theorem dX3_undo_47 : decode cX3_undo 47 = .ok (.imul, 1) := dk_104 (dk_at dksX3_undo_1 23 rfl rfl)
theorem dX3_undo_48 : decode cX3_undo 48 = .ok (.iload_n 1, 1) := dk_27 (dk_at dksX3_undo_2 0 rfl rfl)
theorem dX3_undo_49 : decode cX3_undo 49 = .ok (.iadd, 1) := dk_96 (dk_at dksX3_undo_2 1 rfl rfl)
theorem dX3_undo_50 : decode cX3_undo 50 = .ok (.iaload, 1) := dk_46 (dk_at dksX3_undo_2 2 rfl rfl)
theorem dX3_undo_51 : decode cX3_undo 51 = .ok (.iastore, 1) := dk_79 (dk_at dksX3_undo_2 3 rfl rfl)
theorem dX3_undo_52 : decode cX3_undo 52 = .ok (.iinc 1 1, 3) := dk_132 1 1 (dk_at dksX3_undo_2 4 rfl rfl)
theorem dX3_undo_55 : decode cX3_undo 55 = .ok (.goto (-29), 3) := dk_167 255 227 (dk_at dksX3_undo_2 7 rfl rfl)
theorem dX3_undo_58 : decode cX3_undo 58 = .ok (.aload_n 0, 1) := dk_42 (dk_at dksX3_undo_2 10 rfl rfl)
theorem dX3_undo_59 : decode cX3_undo 59 = .ok (.getfield 151, 3) := dk_180 0 151 (dk_at dksX3_undo_2 11 rfl rfl)
theorem dX3_undo_62 : decode cX3_undo 62 = .ok (.ireturn, 1) := dk_172 (dk_at dksX3_undo_2 14 rfl rfl)
abbrev cX3_ring : ByteArray := prog_9_method_64_code
def yX3_ring : MethodName := ⟨RX3, "ring", "()I"⟩
def dkwX3_ring_2 : List UInt8 := [42, 27, 182, 0, 230, 42, 180, 1, 40, 172]
abbrev dktX3_ring_2 : List UInt8 := dkwX3_ring_2 ++ []
def dkwX3_ring_1 : List UInt8 := [28, 42, 180, 1, 40, 162, 0, 19, 42, 42, 180, 0, 53, 28, 46, 182, 0, 230, 132, 2, 1, 167, 255, 235]
abbrev dktX3_ring_1 : List UInt8 := dkwX3_ring_1 ++ dktX3_ring_2
def dkwX3_ring_0 : List UInt8 := [42, 3, 181, 0, 87, 42, 182, 1, 47, 60, 27, 154, 0, 6, 16, 254, 172, 42, 3, 181, 0, 91, 3, 61]
abbrev dktX3_ring_0 : List UInt8 := dkwX3_ring_0 ++ dktX3_ring_1
theorem dksX3_ring_0 : cX3_ring.data.toList.drop 0 = dktX3_ring_0 := by decide +kernel
theorem dksX3_ring_1 : cX3_ring.data.toList.drop 24 = dktX3_ring_1 := dk_seg dksX3_ring_0 24 rfl rfl
theorem dksX3_ring_2 : cX3_ring.data.toList.drop 48 = dktX3_ring_2 := dk_seg dksX3_ring_1 24 rfl rfl
theorem dX3_ring_0 : decode cX3_ring 0 = .ok (.aload_n 0, 1) := dk_42 (dk_at dksX3_ring_0 0 rfl rfl)
theorem dX3_ring_1 : decode cX3_ring 1 = .ok (.iconst 0, 1) := dk_3 (dk_at dksX3_ring_0 1 rfl rfl)
theorem dX3_ring_2 : decode cX3_ring 2 = .ok (.putfield 87, 3) := dk_181 0 87 (dk_at dksX3_ring_0 2 rfl rfl)
theorem dX3_ring_5 : decode cX3_ring 5 = .ok (.aload_n 0, 1) := dk_42 (dk_at dksX3_ring_0 5 rfl rfl)
theorem dX3_ring_6 : decode cX3_ring 6 = .ok (.invokevirtual 303, 3) := dk_182 1 47 (dk_at dksX3_ring_0 6 rfl rfl)
theorem dX3_ring_9 : decode cX3_ring 9 = .ok (.istore_n 1, 1) := dk_60 (dk_at dksX3_ring_0 9 rfl rfl)
theorem dX3_ring_10 : decode cX3_ring 10 = .ok (.iload_n 1, 1) := dk_27 (dk_at dksX3_ring_0 10 rfl rfl)
theorem dX3_ring_11 : decode cX3_ring 11 = .ok (.ifCond .ne 6, 3) := dk_154 0 6 (dk_at dksX3_ring_0 11 rfl rfl)
theorem dX3_ring_14 : decode cX3_ring 14 = .ok (.bipush (-2), 2) := dk_16 254 (dk_at dksX3_ring_0 14 rfl rfl)
theorem dX3_ring_16 : decode cX3_ring 16 = .ok (.ireturn, 1) := dk_172 (dk_at dksX3_ring_0 16 rfl rfl)
theorem dX3_ring_17 : decode cX3_ring 17 = .ok (.aload_n 0, 1) := dk_42 (dk_at dksX3_ring_0 17 rfl rfl)
theorem dX3_ring_18 : decode cX3_ring 18 = .ok (.iconst 0, 1) := dk_3 (dk_at dksX3_ring_0 18 rfl rfl)
theorem dX3_ring_19 : decode cX3_ring 19 = .ok (.putfield 91, 3) := dk_181 0 91 (dk_at dksX3_ring_0 19 rfl rfl)
theorem dX3_ring_22 : decode cX3_ring 22 = .ok (.iconst 0, 1) := dk_3 (dk_at dksX3_ring_0 22 rfl rfl)
theorem dX3_ring_23 : decode cX3_ring 23 = .ok (.istore_n 2, 1) := dk_61 (dk_at dksX3_ring_0 23 rfl rfl)
theorem dX3_ring_24 : decode cX3_ring 24 = .ok (.iload_n 2, 1) := dk_28 (dk_at dksX3_ring_1 0 rfl rfl)
theorem dX3_ring_25 : decode cX3_ring 25 = .ok (.aload_n 0, 1) := dk_42 (dk_at dksX3_ring_1 1 rfl rfl)
theorem dX3_ring_26 : decode cX3_ring 26 = .ok (.getfield 296, 3) := dk_180 1 40 (dk_at dksX3_ring_1 2 rfl rfl)
theorem dX3_ring_29 : decode cX3_ring 29 = .ok (.if_icmp .ge 19, 3) := dk_162 0 19 (dk_at dksX3_ring_1 5 rfl rfl)
theorem dX3_ring_32 : decode cX3_ring 32 = .ok (.aload_n 0, 1) := dk_42 (dk_at dksX3_ring_1 8 rfl rfl)
theorem dX3_ring_33 : decode cX3_ring 33 = .ok (.aload_n 0, 1) := dk_42 (dk_at dksX3_ring_1 9 rfl rfl)
theorem dX3_ring_34 : decode cX3_ring 34 = .ok (.getfield 53, 3) := dk_180 0 53 (dk_at dksX3_ring_1 10 rfl rfl)
theorem dX3_ring_37 : decode cX3_ring 37 = .ok (.iload_n 2, 1) := dk_28 (dk_at dksX3_ring_1 13 rfl rfl)
theorem dX3_ring_38 : decode cX3_ring 38 = .ok (.iaload, 1) := dk_46 (dk_at dksX3_ring_1 14 rfl rfl)
theorem dX3_ring_39 : decode cX3_ring 39 = .ok (.invokevirtual 230, 3) := dk_182 0 230 (dk_at dksX3_ring_1 15 rfl rfl)
theorem dX3_ring_42 : decode cX3_ring 42 = .ok (.iinc 2 1, 3) := dk_132 2 1 (dk_at dksX3_ring_1 18 rfl rfl)
theorem dX3_ring_45 : decode cX3_ring 45 = .ok (.goto (-21), 3) := dk_167 255 235 (dk_at dksX3_ring_1 21 rfl rfl)
theorem dX3_ring_48 : decode cX3_ring 48 = .ok (.aload_n 0, 1) := dk_42 (dk_at dksX3_ring_2 0 rfl rfl)
theorem dX3_ring_49 : decode cX3_ring 49 = .ok (.iload_n 1, 1) := dk_27 (dk_at dksX3_ring_2 1 rfl rfl)
theorem dX3_ring_50 : decode cX3_ring 50 = .ok (.invokevirtual 230, 3) := dk_182 0 230 (dk_at dksX3_ring_2 2 rfl rfl)
theorem dX3_ring_53 : decode cX3_ring 53 = .ok (.aload_n 0, 1) := dk_42 (dk_at dksX3_ring_2 5 rfl rfl)
theorem dX3_ring_54 : decode cX3_ring 54 = .ok (.getfield 296, 3) := dk_180 1 40 (dk_at dksX3_ring_2 6 rfl rfl)
theorem dX3_ring_57 : decode cX3_ring 57 = .ok (.ireturn, 1) := dk_172 (dk_at dksX3_ring_2 9 rfl rfl)
abbrev cX3_findRing : ByteArray := prog_9_method_62_code
def yX3_findRing : MethodName := ⟨RX3, "findRing", "()I"⟩
def dkwX3_findRing_4 : List UInt8 := [28, 4, 96, 42, 180, 1, 40, 112, 46, 96, 46, 184, 0, 227, 60, 132, 2, 1, 167, 255, 199, 27, 172]
abbrev dktX3_findRing_4 : List UInt8 := dkwX3_findRing_4 ++ []
def dkwX3_findRing_3 : List UInt8 := [162, 0, 45, 27, 42, 180, 0, 9, 16, 21, 16, 7, 42, 180, 0, 53, 28, 46, 104, 96, 42, 180, 0, 53]
abbrev dktX3_findRing_3 : List UInt8 := dkwX3_findRing_3 ++ dktX3_findRing_4
def dkwX3_findRing_2 : List UInt8 := [167, 0, 6, 17, 39, 15, 60, 3, 61, 28, 42, 180, 1, 40, 162, 0, 55, 42, 180, 1, 40, 19, 1, 46]
abbrev dktX3_findRing_2 : List UInt8 := dkwX3_findRing_2 ++ dktX3_findRing_3
def dkwX3_findRing_1 : List UInt8 := [42, 4, 182, 1, 43, 132, 1, 1, 167, 255, 233, 42, 180, 1, 40, 19, 1, 46, 160, 0, 7, 3]
abbrev dktX3_findRing_1 : List UInt8 := dkwX3_findRing_1 ++ dktX3_findRing_2
def dkwX3_findRing_0 : List UInt8 := [42, 19, 1, 46, 181, 1, 40, 3, 60, 27, 42, 180, 0, 94, 162, 0, 21, 42, 180, 0, 50, 3, 27, 79]
abbrev dktX3_findRing_0 : List UInt8 := dkwX3_findRing_0 ++ dktX3_findRing_1
theorem dksX3_findRing_0 : cX3_findRing.data.toList.drop 0 = dktX3_findRing_0 := by decide +kernel
theorem dksX3_findRing_1 : cX3_findRing.data.toList.drop 24 = dktX3_findRing_1 := dk_seg dksX3_findRing_0 24 rfl rfl
theorem dksX3_findRing_2 : cX3_findRing.data.toList.drop 46 = dktX3_findRing_2 := dk_seg dksX3_findRing_1 22 rfl rfl
theorem dksX3_findRing_3 : cX3_findRing.data.toList.drop 70 = dktX3_findRing_3 := dk_seg dksX3_findRing_2 24 rfl rfl
theorem dksX3_findRing_4 : cX3_findRing.data.toList.drop 94 = dktX3_findRing_4 := dk_seg dksX3_findRing_3 24 rfl rfl
theorem dX3_findRing_0 : decode cX3_findRing 0 = .ok (.aload_n 0, 1) := dk_42 (dk_at dksX3_findRing_0 0 rfl rfl)
theorem dX3_findRing_1 : decode cX3_findRing 1 = .ok (.ldc_w 302, 3) := dk_19 1 46 (dk_at dksX3_findRing_0 1 rfl rfl)
theorem dX3_findRing_4 : decode cX3_findRing 4 = .ok (.putfield 296, 3) := dk_181 1 40 (dk_at dksX3_findRing_0 4 rfl rfl)
theorem dX3_findRing_7 : decode cX3_findRing 7 = .ok (.iconst 0, 1) := dk_3 (dk_at dksX3_findRing_0 7 rfl rfl)
theorem dX3_findRing_8 : decode cX3_findRing 8 = .ok (.istore_n 1, 1) := dk_60 (dk_at dksX3_findRing_0 8 rfl rfl)
theorem dX3_findRing_9 : decode cX3_findRing 9 = .ok (.iload_n 1, 1) := dk_27 (dk_at dksX3_findRing_0 9 rfl rfl)
theorem dX3_findRing_10 : decode cX3_findRing 10 = .ok (.aload_n 0, 1) := dk_42 (dk_at dksX3_findRing_0 10 rfl rfl)
theorem dX3_findRing_11 : decode cX3_findRing 11 = .ok (.getfield 94, 3) := dk_180 0 94 (dk_at dksX3_findRing_0 11 rfl rfl)
theorem dX3_findRing_14 : decode cX3_findRing 14 = .ok (.if_icmp .ge 21, 3) := dk_162 0 21 (dk_at dksX3_findRing_0 14 rfl rfl)
theorem dX3_findRing_17 : decode cX3_findRing 17 = .ok (.aload_n 0, 1) := dk_42 (dk_at dksX3_findRing_0 17 rfl rfl)
theorem dX3_findRing_18 : decode cX3_findRing 18 = .ok (.getfield 50, 3) := dk_180 0 50 (dk_at dksX3_findRing_0 18 rfl rfl)
theorem dX3_findRing_21 : decode cX3_findRing 21 = .ok (.iconst 0, 1) := dk_3 (dk_at dksX3_findRing_0 21 rfl rfl)
theorem dX3_findRing_22 : decode cX3_findRing 22 = .ok (.iload_n 1, 1) := dk_27 (dk_at dksX3_findRing_0 22 rfl rfl)
theorem dX3_findRing_23 : decode cX3_findRing 23 = .ok (.iastore, 1) := dk_79 (dk_at dksX3_findRing_0 23 rfl rfl)
theorem dX3_findRing_24 : decode cX3_findRing 24 = .ok (.aload_n 0, 1) := dk_42 (dk_at dksX3_findRing_1 0 rfl rfl)
theorem dX3_findRing_25 : decode cX3_findRing 25 = .ok (.iconst 1, 1) := dk_4 (dk_at dksX3_findRing_1 1 rfl rfl)
theorem dX3_findRing_26 : decode cX3_findRing 26 = .ok (.invokevirtual 299, 3) := dk_182 1 43 (dk_at dksX3_findRing_1 2 rfl rfl)
theorem dX3_findRing_29 : decode cX3_findRing 29 = .ok (.iinc 1 1, 3) := dk_132 1 1 (dk_at dksX3_findRing_1 5 rfl rfl)
theorem dX3_findRing_32 : decode cX3_findRing 32 = .ok (.goto (-23), 3) := dk_167 255 233 (dk_at dksX3_findRing_1 8 rfl rfl)
theorem dX3_findRing_35 : decode cX3_findRing 35 = .ok (.aload_n 0, 1) := dk_42 (dk_at dksX3_findRing_1 11 rfl rfl)
theorem dX3_findRing_36 : decode cX3_findRing 36 = .ok (.getfield 296, 3) := dk_180 1 40 (dk_at dksX3_findRing_1 12 rfl rfl)
theorem dX3_findRing_39 : decode cX3_findRing 39 = .ok (.ldc_w 302, 3) := dk_19 1 46 (dk_at dksX3_findRing_1 15 rfl rfl)
theorem dX3_findRing_42 : decode cX3_findRing 42 = .ok (.if_icmp .ne 7, 3) := dk_160 0 7 (dk_at dksX3_findRing_1 18 rfl rfl)
theorem dX3_findRing_45 : decode cX3_findRing 45 = .ok (.iconst 0, 1) := dk_3 (dk_at dksX3_findRing_1 21 rfl rfl)
theorem dX3_findRing_46 : decode cX3_findRing 46 = .ok (.goto 6, 3) := dk_167 0 6 (dk_at dksX3_findRing_2 0 rfl rfl)
theorem dX3_findRing_49 : decode cX3_findRing 49 = .ok (.sipush 9999, 3) := dk_17 39 15 (dk_at dksX3_findRing_2 3 rfl rfl)
theorem dX3_findRing_52 : decode cX3_findRing 52 = .ok (.istore_n 1, 1) := dk_60 (dk_at dksX3_findRing_2 6 rfl rfl)
theorem dX3_findRing_53 : decode cX3_findRing 53 = .ok (.iconst 0, 1) := dk_3 (dk_at dksX3_findRing_2 7 rfl rfl)
theorem dX3_findRing_54 : decode cX3_findRing 54 = .ok (.istore_n 2, 1) := dk_61 (dk_at dksX3_findRing_2 8 rfl rfl)
theorem dX3_findRing_55 : decode cX3_findRing 55 = .ok (.iload_n 2, 1) := dk_28 (dk_at dksX3_findRing_2 9 rfl rfl)
theorem dX3_findRing_56 : decode cX3_findRing 56 = .ok (.aload_n 0, 1) := dk_42 (dk_at dksX3_findRing_2 10 rfl rfl)
theorem dX3_findRing_57 : decode cX3_findRing 57 = .ok (.getfield 296, 3) := dk_180 1 40 (dk_at dksX3_findRing_2 11 rfl rfl)
theorem dX3_findRing_60 : decode cX3_findRing 60 = .ok (.if_icmp .ge 55, 3) := dk_162 0 55 (dk_at dksX3_findRing_2 14 rfl rfl)
theorem dX3_findRing_63 : decode cX3_findRing 63 = .ok (.aload_n 0, 1) := dk_42 (dk_at dksX3_findRing_2 17 rfl rfl)
theorem dX3_findRing_64 : decode cX3_findRing 64 = .ok (.getfield 296, 3) := dk_180 1 40 (dk_at dksX3_findRing_2 18 rfl rfl)
theorem dX3_findRing_67 : decode cX3_findRing 67 = .ok (.ldc_w 302, 3) := dk_19 1 46 (dk_at dksX3_findRing_2 21 rfl rfl)
theorem dX3_findRing_70 : decode cX3_findRing 70 = .ok (.if_icmp .ge 45, 3) := dk_162 0 45 (dk_at dksX3_findRing_3 0 rfl rfl)
theorem dX3_findRing_73 : decode cX3_findRing 73 = .ok (.iload_n 1, 1) := dk_27 (dk_at dksX3_findRing_3 3 rfl rfl)
theorem dX3_findRing_74 : decode cX3_findRing 74 = .ok (.aload_n 0, 1) := dk_42 (dk_at dksX3_findRing_3 4 rfl rfl)
theorem dX3_findRing_75 : decode cX3_findRing 75 = .ok (.getfield 9, 3) := dk_180 0 9 (dk_at dksX3_findRing_3 5 rfl rfl)
theorem dX3_findRing_78 : decode cX3_findRing 78 = .ok (.bipush 21, 2) := dk_16 21 (dk_at dksX3_findRing_3 8 rfl rfl)
theorem dX3_findRing_80 : decode cX3_findRing 80 = .ok (.bipush 7, 2) := dk_16 7 (dk_at dksX3_findRing_3 10 rfl rfl)
theorem dX3_findRing_82 : decode cX3_findRing 82 = .ok (.aload_n 0, 1) := dk_42 (dk_at dksX3_findRing_3 12 rfl rfl)
theorem dX3_findRing_83 : decode cX3_findRing 83 = .ok (.getfield 53, 3) := dk_180 0 53 (dk_at dksX3_findRing_3 13 rfl rfl)
theorem dX3_findRing_86 : decode cX3_findRing 86 = .ok (.iload_n 2, 1) := dk_28 (dk_at dksX3_findRing_3 16 rfl rfl)
theorem dX3_findRing_87 : decode cX3_findRing 87 = .ok (.iaload, 1) := dk_46 (dk_at dksX3_findRing_3 17 rfl rfl)
theorem dX3_findRing_88 : decode cX3_findRing 88 = .ok (.imul, 1) := dk_104 (dk_at dksX3_findRing_3 18 rfl rfl)
theorem dX3_findRing_89 : decode cX3_findRing 89 = .ok (.iadd, 1) := dk_96 (dk_at dksX3_findRing_3 19 rfl rfl)
theorem dX3_findRing_90 : decode cX3_findRing 90 = .ok (.aload_n 0, 1) := dk_42 (dk_at dksX3_findRing_3 20 rfl rfl)
theorem dX3_findRing_91 : decode cX3_findRing 91 = .ok (.getfield 53, 3) := dk_180 0 53 (dk_at dksX3_findRing_3 21 rfl rfl)
theorem dX3_findRing_94 : decode cX3_findRing 94 = .ok (.iload_n 2, 1) := dk_28 (dk_at dksX3_findRing_4 0 rfl rfl)
theorem dX3_findRing_95 : decode cX3_findRing 95 = .ok (.iconst 1, 1) := dk_4 (dk_at dksX3_findRing_4 1 rfl rfl)
theorem dX3_findRing_96 : decode cX3_findRing 96 = .ok (.iadd, 1) := dk_96 (dk_at dksX3_findRing_4 2 rfl rfl)
theorem dX3_findRing_97 : decode cX3_findRing 97 = .ok (.aload_n 0, 1) := dk_42 (dk_at dksX3_findRing_4 3 rfl rfl)
theorem dX3_findRing_98 : decode cX3_findRing 98 = .ok (.getfield 296, 3) := dk_180 1 40 (dk_at dksX3_findRing_4 4 rfl rfl)
theorem dX3_findRing_101 : decode cX3_findRing 101 = .ok (.irem, 1) := dk_112 (dk_at dksX3_findRing_4 7 rfl rfl)
theorem dX3_findRing_102 : decode cX3_findRing 102 = .ok (.iaload, 1) := dk_46 (dk_at dksX3_findRing_4 8 rfl rfl)
theorem dX3_findRing_103 : decode cX3_findRing 103 = .ok (.iadd, 1) := dk_96 (dk_at dksX3_findRing_4 9 rfl rfl)
theorem dX3_findRing_104 : decode cX3_findRing 104 = .ok (.iaload, 1) := dk_46 (dk_at dksX3_findRing_4 10 rfl rfl)
theorem dX3_findRing_105 : decode cX3_findRing 105 = .ok (.invokestatic 227, 3) := dk_184 0 227 (dk_at dksX3_findRing_4 11 rfl rfl)
theorem dX3_findRing_108 : decode cX3_findRing 108 = .ok (.istore_n 1, 1) := dk_60 (dk_at dksX3_findRing_4 14 rfl rfl)
theorem dX3_findRing_109 : decode cX3_findRing 109 = .ok (.iinc 2 1, 3) := dk_132 2 1 (dk_at dksX3_findRing_4 15 rfl rfl)
theorem dX3_findRing_112 : decode cX3_findRing 112 = .ok (.goto (-57), 3) := dk_167 255 199 (dk_at dksX3_findRing_4 18 rfl rfl)
theorem dX3_findRing_115 : decode cX3_findRing 115 = .ok (.iload_n 1, 1) := dk_27 (dk_at dksX3_findRing_4 21 rfl rfl)
theorem dX3_findRing_116 : decode cX3_findRing 116 = .ok (.ireturn, 1) := dk_172 (dk_at dksX3_findRing_4 22 rfl rfl)
abbrev cX3_goRing : ByteArray := prog_9_method_61_code
def yX3_goRing : MethodName := ⟨RX3, "goRing", "(I)V"⟩
def dkwX3_goRing_7 : List UInt8 := [182, 1, 43, 132, 2, 1, 167, 255, 104, 177]
abbrev dktX3_goRing_7 : List UInt8 := dkwX3_goRing_7 ++ []
def dkwX3_goRing_6 : List UInt8 := [154, 0, 26, 27, 16, 7, 160, 0, 6, 167, 0, 17, 42, 180, 0, 50, 27, 28, 79, 42, 27, 4, 96]
abbrev dktX3_goRing_6 : List UInt8 := dkwX3_goRing_6 ++ dktX3_goRing_7
def dkwX3_goRing_5 : List UInt8 := [180, 0, 50, 21, 4, 46, 28, 160, 0, 7, 4, 167, 0, 4, 3, 62, 132, 4, 1, 167, 255, 226, 29]
abbrev dktX3_goRing_5 : List UInt8 := dkwX3_goRing_5 ++ dktX3_goRing_6
def dkwX3_goRing_4 : List UInt8 := [132, 3, 1, 167, 255, 236, 177, 3, 62, 3, 54, 4, 21, 4, 27, 162, 0, 30, 29, 154, 0, 14, 42]
abbrev dktX3_goRing_4 : List UInt8 := dkwX3_goRing_4 ++ dktX3_goRing_5
def dkwX3_goRing_3 : List UInt8 := [181, 1, 40, 3, 62, 29, 27, 162, 0, 21, 42, 180, 0, 53, 29, 42, 180, 0, 50, 29, 46, 79]
abbrev dktX3_goRing_3 : List UInt8 := dkwX3_goRing_3 ++ dktX3_goRing_4
def dkwX3_goRing_2 : List UInt8 := [167, 0, 117, 28, 42, 180, 0, 50, 3, 46, 160, 0, 42, 27, 5, 162, 0, 6, 167, 0, 99, 42, 27]
abbrev dktX3_goRing_2 : List UInt8 := dkwX3_goRing_2 ++ dktX3_goRing_3
def dkwX3_goRing_1 : List UInt8 := [42, 180, 0, 9, 16, 21, 16, 7, 42, 180, 0, 50, 27, 4, 100, 46, 104, 96, 28, 96, 46, 154, 0, 6]
abbrev dktX3_goRing_1 : List UInt8 := dkwX3_goRing_1 ++ dktX3_goRing_2
def dkwX3_goRing_0 : List UInt8 := [27, 42, 180, 1, 40, 161, 0, 4, 177, 42, 180, 0, 50, 3, 46, 61, 28, 42, 180, 0, 94, 162, 0, 150]
abbrev dktX3_goRing_0 : List UInt8 := dkwX3_goRing_0 ++ dktX3_goRing_1
theorem dksX3_goRing_0 : cX3_goRing.data.toList.drop 0 = dktX3_goRing_0 := by decide +kernel
theorem dksX3_goRing_1 : cX3_goRing.data.toList.drop 24 = dktX3_goRing_1 := dk_seg dksX3_goRing_0 24 rfl rfl
theorem dksX3_goRing_2 : cX3_goRing.data.toList.drop 48 = dktX3_goRing_2 := dk_seg dksX3_goRing_1 24 rfl rfl
theorem dksX3_goRing_3 : cX3_goRing.data.toList.drop 71 = dktX3_goRing_3 := dk_seg dksX3_goRing_2 23 rfl rfl
theorem dksX3_goRing_4 : cX3_goRing.data.toList.drop 93 = dktX3_goRing_4 := dk_seg dksX3_goRing_3 22 rfl rfl
theorem dksX3_goRing_5 : cX3_goRing.data.toList.drop 116 = dktX3_goRing_5 := dk_seg dksX3_goRing_4 23 rfl rfl
theorem dksX3_goRing_6 : cX3_goRing.data.toList.drop 139 = dktX3_goRing_6 := dk_seg dksX3_goRing_5 23 rfl rfl
theorem dksX3_goRing_7 : cX3_goRing.data.toList.drop 162 = dktX3_goRing_7 := dk_seg dksX3_goRing_6 23 rfl rfl
theorem dX3_goRing_0 : decode cX3_goRing 0 = .ok (.iload_n 1, 1) := dk_27 (dk_at dksX3_goRing_0 0 rfl rfl)
theorem dX3_goRing_1 : decode cX3_goRing 1 = .ok (.aload_n 0, 1) := dk_42 (dk_at dksX3_goRing_0 1 rfl rfl)
theorem dX3_goRing_2 : decode cX3_goRing 2 = .ok (.getfield 296, 3) := dk_180 1 40 (dk_at dksX3_goRing_0 2 rfl rfl)
theorem dX3_goRing_5 : decode cX3_goRing 5 = .ok (.if_icmp .lt 4, 3) := dk_161 0 4 (dk_at dksX3_goRing_0 5 rfl rfl)
theorem dX3_goRing_8 : decode cX3_goRing 8 = .ok (.return_, 1) := dk_177 (dk_at dksX3_goRing_0 8 rfl rfl)
theorem dX3_goRing_9 : decode cX3_goRing 9 = .ok (.aload_n 0, 1) := dk_42 (dk_at dksX3_goRing_0 9 rfl rfl)
theorem dX3_goRing_10 : decode cX3_goRing 10 = .ok (.getfield 50, 3) := dk_180 0 50 (dk_at dksX3_goRing_0 10 rfl rfl)
theorem dX3_goRing_13 : decode cX3_goRing 13 = .ok (.iconst 0, 1) := dk_3 (dk_at dksX3_goRing_0 13 rfl rfl)
theorem dX3_goRing_14 : decode cX3_goRing 14 = .ok (.iaload, 1) := dk_46 (dk_at dksX3_goRing_0 14 rfl rfl)
theorem dX3_goRing_15 : decode cX3_goRing 15 = .ok (.istore_n 2, 1) := dk_61 (dk_at dksX3_goRing_0 15 rfl rfl)
theorem dX3_goRing_16 : decode cX3_goRing 16 = .ok (.iload_n 2, 1) := dk_28 (dk_at dksX3_goRing_0 16 rfl rfl)
theorem dX3_goRing_17 : decode cX3_goRing 17 = .ok (.aload_n 0, 1) := dk_42 (dk_at dksX3_goRing_0 17 rfl rfl)
theorem dX3_goRing_18 : decode cX3_goRing 18 = .ok (.getfield 94, 3) := dk_180 0 94 (dk_at dksX3_goRing_0 18 rfl rfl)
theorem dX3_goRing_21 : decode cX3_goRing 21 = .ok (.if_icmp .ge 150, 3) := dk_162 0 150 (dk_at dksX3_goRing_0 21 rfl rfl)
theorem dX3_goRing_24 : decode cX3_goRing 24 = .ok (.aload_n 0, 1) := dk_42 (dk_at dksX3_goRing_1 0 rfl rfl)
theorem dX3_goRing_25 : decode cX3_goRing 25 = .ok (.getfield 9, 3) := dk_180 0 9 (dk_at dksX3_goRing_1 1 rfl rfl)
theorem dX3_goRing_28 : decode cX3_goRing 28 = .ok (.bipush 21, 2) := dk_16 21 (dk_at dksX3_goRing_1 4 rfl rfl)
theorem dX3_goRing_30 : decode cX3_goRing 30 = .ok (.bipush 7, 2) := dk_16 7 (dk_at dksX3_goRing_1 6 rfl rfl)
theorem dX3_goRing_32 : decode cX3_goRing 32 = .ok (.aload_n 0, 1) := dk_42 (dk_at dksX3_goRing_1 8 rfl rfl)
theorem dX3_goRing_33 : decode cX3_goRing 33 = .ok (.getfield 50, 3) := dk_180 0 50 (dk_at dksX3_goRing_1 9 rfl rfl)
theorem dX3_goRing_36 : decode cX3_goRing 36 = .ok (.iload_n 1, 1) := dk_27 (dk_at dksX3_goRing_1 12 rfl rfl)
theorem dX3_goRing_37 : decode cX3_goRing 37 = .ok (.iconst 1, 1) := dk_4 (dk_at dksX3_goRing_1 13 rfl rfl)
theorem dX3_goRing_38 : decode cX3_goRing 38 = .ok (.isub, 1) := dk_100 (dk_at dksX3_goRing_1 14 rfl rfl)
theorem dX3_goRing_39 : decode cX3_goRing 39 = .ok (.iaload, 1) := dk_46 (dk_at dksX3_goRing_1 15 rfl rfl)
theorem dX3_goRing_40 : decode cX3_goRing 40 = .ok (.imul, 1) := dk_104 (dk_at dksX3_goRing_1 16 rfl rfl)
theorem dX3_goRing_41 : decode cX3_goRing 41 = .ok (.iadd, 1) := dk_96 (dk_at dksX3_goRing_1 17 rfl rfl)
theorem dX3_goRing_42 : decode cX3_goRing 42 = .ok (.iload_n 2, 1) := dk_28 (dk_at dksX3_goRing_1 18 rfl rfl)
theorem dX3_goRing_43 : decode cX3_goRing 43 = .ok (.iadd, 1) := dk_96 (dk_at dksX3_goRing_1 19 rfl rfl)
theorem dX3_goRing_44 : decode cX3_goRing 44 = .ok (.iaload, 1) := dk_46 (dk_at dksX3_goRing_1 20 rfl rfl)
theorem dX3_goRing_45 : decode cX3_goRing 45 = .ok (.ifCond .ne 6, 3) := dk_154 0 6 (dk_at dksX3_goRing_1 21 rfl rfl)
theorem dX3_goRing_48 : decode cX3_goRing 48 = .ok (.goto 117, 3) := dk_167 0 117 (dk_at dksX3_goRing_2 0 rfl rfl)
theorem dX3_goRing_51 : decode cX3_goRing 51 = .ok (.iload_n 2, 1) := dk_28 (dk_at dksX3_goRing_2 3 rfl rfl)
theorem dX3_goRing_52 : decode cX3_goRing 52 = .ok (.aload_n 0, 1) := dk_42 (dk_at dksX3_goRing_2 4 rfl rfl)
theorem dX3_goRing_53 : decode cX3_goRing 53 = .ok (.getfield 50, 3) := dk_180 0 50 (dk_at dksX3_goRing_2 5 rfl rfl)
theorem dX3_goRing_56 : decode cX3_goRing 56 = .ok (.iconst 0, 1) := dk_3 (dk_at dksX3_goRing_2 8 rfl rfl)
theorem dX3_goRing_57 : decode cX3_goRing 57 = .ok (.iaload, 1) := dk_46 (dk_at dksX3_goRing_2 9 rfl rfl)
theorem dX3_goRing_58 : decode cX3_goRing 58 = .ok (.if_icmp .ne 42, 3) := dk_160 0 42 (dk_at dksX3_goRing_2 10 rfl rfl)
theorem dX3_goRing_61 : decode cX3_goRing 61 = .ok (.iload_n 1, 1) := dk_27 (dk_at dksX3_goRing_2 13 rfl rfl)
theorem dX3_goRing_62 : decode cX3_goRing 62 = .ok (.iconst 2, 1) := dk_5 (dk_at dksX3_goRing_2 14 rfl rfl)
theorem dX3_goRing_63 : decode cX3_goRing 63 = .ok (.if_icmp .ge 6, 3) := dk_162 0 6 (dk_at dksX3_goRing_2 15 rfl rfl)
theorem dX3_goRing_66 : decode cX3_goRing 66 = .ok (.goto 99, 3) := dk_167 0 99 (dk_at dksX3_goRing_2 18 rfl rfl)
theorem dX3_goRing_69 : decode cX3_goRing 69 = .ok (.aload_n 0, 1) := dk_42 (dk_at dksX3_goRing_2 21 rfl rfl)
theorem dX3_goRing_70 : decode cX3_goRing 70 = .ok (.iload_n 1, 1) := dk_27 (dk_at dksX3_goRing_2 22 rfl rfl)
theorem dX3_goRing_71 : decode cX3_goRing 71 = .ok (.putfield 296, 3) := dk_181 1 40 (dk_at dksX3_goRing_3 0 rfl rfl)
theorem dX3_goRing_74 : decode cX3_goRing 74 = .ok (.iconst 0, 1) := dk_3 (dk_at dksX3_goRing_3 3 rfl rfl)
theorem dX3_goRing_75 : decode cX3_goRing 75 = .ok (.istore_n 3, 1) := dk_62 (dk_at dksX3_goRing_3 4 rfl rfl)
theorem dX3_goRing_76 : decode cX3_goRing 76 = .ok (.iload_n 3, 1) := dk_29 (dk_at dksX3_goRing_3 5 rfl rfl)
theorem dX3_goRing_77 : decode cX3_goRing 77 = .ok (.iload_n 1, 1) := dk_27 (dk_at dksX3_goRing_3 6 rfl rfl)
theorem dX3_goRing_78 : decode cX3_goRing 78 = .ok (.if_icmp .ge 21, 3) := dk_162 0 21 (dk_at dksX3_goRing_3 7 rfl rfl)
theorem dX3_goRing_81 : decode cX3_goRing 81 = .ok (.aload_n 0, 1) := dk_42 (dk_at dksX3_goRing_3 10 rfl rfl)
theorem dX3_goRing_82 : decode cX3_goRing 82 = .ok (.getfield 53, 3) := dk_180 0 53 (dk_at dksX3_goRing_3 11 rfl rfl)
theorem dX3_goRing_85 : decode cX3_goRing 85 = .ok (.iload_n 3, 1) := dk_29 (dk_at dksX3_goRing_3 14 rfl rfl)
theorem dX3_goRing_86 : decode cX3_goRing 86 = .ok (.aload_n 0, 1) := dk_42 (dk_at dksX3_goRing_3 15 rfl rfl)
theorem dX3_goRing_87 : decode cX3_goRing 87 = .ok (.getfield 50, 3) := dk_180 0 50 (dk_at dksX3_goRing_3 16 rfl rfl)
theorem dX3_goRing_90 : decode cX3_goRing 90 = .ok (.iload_n 3, 1) := dk_29 (dk_at dksX3_goRing_3 19 rfl rfl)
theorem dX3_goRing_91 : decode cX3_goRing 91 = .ok (.iaload, 1) := dk_46 (dk_at dksX3_goRing_3 20 rfl rfl)
theorem dX3_goRing_92 : decode cX3_goRing 92 = .ok (.iastore, 1) := dk_79 (dk_at dksX3_goRing_3 21 rfl rfl)
theorem dX3_goRing_93 : decode cX3_goRing 93 = .ok (.iinc 3 1, 3) := dk_132 3 1 (dk_at dksX3_goRing_4 0 rfl rfl)
theorem dX3_goRing_96 : decode cX3_goRing 96 = .ok (.goto (-20), 3) := dk_167 255 236 (dk_at dksX3_goRing_4 3 rfl rfl)
theorem dX3_goRing_99 : decode cX3_goRing 99 = .ok (.return_, 1) := dk_177 (dk_at dksX3_goRing_4 6 rfl rfl)
theorem dX3_goRing_100 : decode cX3_goRing 100 = .ok (.iconst 0, 1) := dk_3 (dk_at dksX3_goRing_4 7 rfl rfl)
theorem dX3_goRing_101 : decode cX3_goRing 101 = .ok (.istore_n 3, 1) := dk_62 (dk_at dksX3_goRing_4 8 rfl rfl)
theorem dX3_goRing_102 : decode cX3_goRing 102 = .ok (.iconst 0, 1) := dk_3 (dk_at dksX3_goRing_4 9 rfl rfl)
theorem dX3_goRing_103 : decode cX3_goRing 103 = .ok (.istore 4, 2) := dk_54 4 (dk_at dksX3_goRing_4 10 rfl rfl)
theorem dX3_goRing_105 : decode cX3_goRing 105 = .ok (.iload 4, 2) := dk_21 4 (dk_at dksX3_goRing_4 12 rfl rfl)
theorem dX3_goRing_107 : decode cX3_goRing 107 = .ok (.iload_n 1, 1) := dk_27 (dk_at dksX3_goRing_4 14 rfl rfl)
theorem dX3_goRing_108 : decode cX3_goRing 108 = .ok (.if_icmp .ge 30, 3) := dk_162 0 30 (dk_at dksX3_goRing_4 15 rfl rfl)
theorem dX3_goRing_111 : decode cX3_goRing 111 = .ok (.iload_n 3, 1) := dk_29 (dk_at dksX3_goRing_4 18 rfl rfl)
theorem dX3_goRing_112 : decode cX3_goRing 112 = .ok (.ifCond .ne 14, 3) := dk_154 0 14 (dk_at dksX3_goRing_4 19 rfl rfl)
theorem dX3_goRing_115 : decode cX3_goRing 115 = .ok (.aload_n 0, 1) := dk_42 (dk_at dksX3_goRing_4 22 rfl rfl)
theorem dX3_goRing_116 : decode cX3_goRing 116 = .ok (.getfield 50, 3) := dk_180 0 50 (dk_at dksX3_goRing_5 0 rfl rfl)
theorem dX3_goRing_119 : decode cX3_goRing 119 = .ok (.iload 4, 2) := dk_21 4 (dk_at dksX3_goRing_5 3 rfl rfl)
theorem dX3_goRing_121 : decode cX3_goRing 121 = .ok (.iaload, 1) := dk_46 (dk_at dksX3_goRing_5 5 rfl rfl)
theorem dX3_goRing_122 : decode cX3_goRing 122 = .ok (.iload_n 2, 1) := dk_28 (dk_at dksX3_goRing_5 6 rfl rfl)
theorem dX3_goRing_123 : decode cX3_goRing 123 = .ok (.if_icmp .ne 7, 3) := dk_160 0 7 (dk_at dksX3_goRing_5 7 rfl rfl)
theorem dX3_goRing_126 : decode cX3_goRing 126 = .ok (.iconst 1, 1) := dk_4 (dk_at dksX3_goRing_5 10 rfl rfl)
theorem dX3_goRing_127 : decode cX3_goRing 127 = .ok (.goto 4, 3) := dk_167 0 4 (dk_at dksX3_goRing_5 11 rfl rfl)
theorem dX3_goRing_130 : decode cX3_goRing 130 = .ok (.iconst 0, 1) := dk_3 (dk_at dksX3_goRing_5 14 rfl rfl)
theorem dX3_goRing_131 : decode cX3_goRing 131 = .ok (.istore_n 3, 1) := dk_62 (dk_at dksX3_goRing_5 15 rfl rfl)
theorem dX3_goRing_132 : decode cX3_goRing 132 = .ok (.iinc 4 1, 3) := dk_132 4 1 (dk_at dksX3_goRing_5 16 rfl rfl)
theorem dX3_goRing_135 : decode cX3_goRing 135 = .ok (.goto (-30), 3) := dk_167 255 226 (dk_at dksX3_goRing_5 19 rfl rfl)
theorem dX3_goRing_138 : decode cX3_goRing 138 = .ok (.iload_n 3, 1) := dk_29 (dk_at dksX3_goRing_5 22 rfl rfl)
theorem dX3_goRing_139 : decode cX3_goRing 139 = .ok (.ifCond .ne 26, 3) := dk_154 0 26 (dk_at dksX3_goRing_6 0 rfl rfl)
theorem dX3_goRing_142 : decode cX3_goRing 142 = .ok (.iload_n 1, 1) := dk_27 (dk_at dksX3_goRing_6 3 rfl rfl)
theorem dX3_goRing_143 : decode cX3_goRing 143 = .ok (.bipush 7, 2) := dk_16 7 (dk_at dksX3_goRing_6 4 rfl rfl)
theorem dX3_goRing_145 : decode cX3_goRing 145 = .ok (.if_icmp .ne 6, 3) := dk_160 0 6 (dk_at dksX3_goRing_6 6 rfl rfl)
theorem dX3_goRing_148 : decode cX3_goRing 148 = .ok (.goto 17, 3) := dk_167 0 17 (dk_at dksX3_goRing_6 9 rfl rfl)
theorem dX3_goRing_151 : decode cX3_goRing 151 = .ok (.aload_n 0, 1) := dk_42 (dk_at dksX3_goRing_6 12 rfl rfl)
theorem dX3_goRing_152 : decode cX3_goRing 152 = .ok (.getfield 50, 3) := dk_180 0 50 (dk_at dksX3_goRing_6 13 rfl rfl)
theorem dX3_goRing_155 : decode cX3_goRing 155 = .ok (.iload_n 1, 1) := dk_27 (dk_at dksX3_goRing_6 16 rfl rfl)
theorem dX3_goRing_156 : decode cX3_goRing 156 = .ok (.iload_n 2, 1) := dk_28 (dk_at dksX3_goRing_6 17 rfl rfl)
theorem dX3_goRing_157 : decode cX3_goRing 157 = .ok (.iastore, 1) := dk_79 (dk_at dksX3_goRing_6 18 rfl rfl)
theorem dX3_goRing_158 : decode cX3_goRing 158 = .ok (.aload_n 0, 1) := dk_42 (dk_at dksX3_goRing_6 19 rfl rfl)
theorem dX3_goRing_159 : decode cX3_goRing 159 = .ok (.iload_n 1, 1) := dk_27 (dk_at dksX3_goRing_6 20 rfl rfl)
theorem dX3_goRing_160 : decode cX3_goRing 160 = .ok (.iconst 1, 1) := dk_4 (dk_at dksX3_goRing_6 21 rfl rfl)
theorem dX3_goRing_161 : decode cX3_goRing 161 = .ok (.iadd, 1) := dk_96 (dk_at dksX3_goRing_6 22 rfl rfl)
theorem dX3_goRing_162 : decode cX3_goRing 162 = .ok (.invokevirtual 299, 3) := dk_182 1 43 (dk_at dksX3_goRing_7 0 rfl rfl)
theorem dX3_goRing_165 : decode cX3_goRing 165 = .ok (.iinc 2 1, 3) := dk_132 2 1 (dk_at dksX3_goRing_7 3 rfl rfl)
theorem dX3_goRing_168 : decode cX3_goRing 168 = .ok (.goto (-152), 3) := dk_167 255 104 (dk_at dksX3_goRing_7 6 rfl rfl)
theorem dX3_goRing_171 : decode cX3_goRing 171 = .ok (.return_, 1) := dk_177 (dk_at dksX3_goRing_7 9 rfl rfl)
abbrev cX3_cancel : ByteArray := prog_9_method_65_code
def yX3_cancel : MethodName := ⟨RX3, "cancel", "()I"⟩
def dkwX3_cancel_1 : List UInt8 := [182, 1, 12, 42, 27, 182, 1, 50, 172]
abbrev dktX3_cancel_1 : List UInt8 := dkwX3_cancel_1 ++ []
def dkwX3_cancel_0 : List UInt8 := [42, 3, 181, 0, 87, 42, 182, 1, 47, 60, 27, 154, 0, 6, 16, 254, 172, 42, 42, 180, 0, 9]
abbrev dktX3_cancel_0 : List UInt8 := dkwX3_cancel_0 ++ dktX3_cancel_1
theorem dksX3_cancel_0 : cX3_cancel.data.toList.drop 0 = dktX3_cancel_0 := by decide +kernel
theorem dksX3_cancel_1 : cX3_cancel.data.toList.drop 22 = dktX3_cancel_1 := dk_seg dksX3_cancel_0 22 rfl rfl
theorem dX3_cancel_0 : decode cX3_cancel 0 = .ok (.aload_n 0, 1) := dk_42 (dk_at dksX3_cancel_0 0 rfl rfl)
theorem dX3_cancel_1 : decode cX3_cancel 1 = .ok (.iconst 0, 1) := dk_3 (dk_at dksX3_cancel_0 1 rfl rfl)
theorem dX3_cancel_2 : decode cX3_cancel 2 = .ok (.putfield 87, 3) := dk_181 0 87 (dk_at dksX3_cancel_0 2 rfl rfl)
theorem dX3_cancel_5 : decode cX3_cancel 5 = .ok (.aload_n 0, 1) := dk_42 (dk_at dksX3_cancel_0 5 rfl rfl)
theorem dX3_cancel_6 : decode cX3_cancel 6 = .ok (.invokevirtual 303, 3) := dk_182 1 47 (dk_at dksX3_cancel_0 6 rfl rfl)
theorem dX3_cancel_9 : decode cX3_cancel 9 = .ok (.istore_n 1, 1) := dk_60 (dk_at dksX3_cancel_0 9 rfl rfl)
theorem dX3_cancel_10 : decode cX3_cancel 10 = .ok (.iload_n 1, 1) := dk_27 (dk_at dksX3_cancel_0 10 rfl rfl)
theorem dX3_cancel_11 : decode cX3_cancel 11 = .ok (.ifCond .ne 6, 3) := dk_154 0 6 (dk_at dksX3_cancel_0 11 rfl rfl)
theorem dX3_cancel_14 : decode cX3_cancel 14 = .ok (.bipush (-2), 2) := dk_16 254 (dk_at dksX3_cancel_0 14 rfl rfl)
theorem dX3_cancel_16 : decode cX3_cancel 16 = .ok (.ireturn, 1) := dk_172 (dk_at dksX3_cancel_0 16 rfl rfl)
theorem dX3_cancel_17 : decode cX3_cancel 17 = .ok (.aload_n 0, 1) := dk_42 (dk_at dksX3_cancel_0 17 rfl rfl)
theorem dX3_cancel_18 : decode cX3_cancel 18 = .ok (.aload_n 0, 1) := dk_42 (dk_at dksX3_cancel_0 18 rfl rfl)
theorem dX3_cancel_19 : decode cX3_cancel 19 = .ok (.getfield 9, 3) := dk_180 0 9 (dk_at dksX3_cancel_0 19 rfl rfl)
theorem dX3_cancel_22 : decode cX3_cancel 22 = .ok (.invokevirtual 268, 3) := dk_182 1 12 (dk_at dksX3_cancel_1 0 rfl rfl)
theorem dX3_cancel_25 : decode cX3_cancel 25 = .ok (.aload_n 0, 1) := dk_42 (dk_at dksX3_cancel_1 3 rfl rfl)
theorem dX3_cancel_26 : decode cX3_cancel 26 = .ok (.iload_n 1, 1) := dk_27 (dk_at dksX3_cancel_1 4 rfl rfl)
theorem dX3_cancel_27 : decode cX3_cancel 27 = .ok (.invokevirtual 306, 3) := dk_182 1 50 (dk_at dksX3_cancel_1 5 rfl rfl)
theorem dX3_cancel_30 : decode cX3_cancel 30 = .ok (.ireturn, 1) := dk_172 (dk_at dksX3_cancel_1 8 rfl rfl)
abbrev cX3_clearRing : ByteArray := prog_9_method_63_code
def yX3_clearRing : MethodName := ⟨RX3, "clearRing", "(I)I"⟩
def dkwX3_clearRing_2 : List UInt8 := [167, 255, 210, 27, 42, 180, 1, 40, 104, 172]
abbrev dktX3_clearRing_2 : List UInt8 := dkwX3_clearRing_2 ++ []
def dkwX3_clearRing_1 : List UInt8 := [104, 96, 42, 180, 0, 53, 28, 4, 96, 42, 180, 1, 40, 112, 46, 96, 92, 46, 27, 100, 79, 132, 2, 1]
abbrev dktX3_clearRing_1 : List UInt8 := dkwX3_clearRing_1 ++ dktX3_clearRing_2
def dkwX3_clearRing_0 : List UInt8 := [3, 61, 28, 42, 180, 1, 40, 162, 0, 44, 42, 180, 0, 9, 16, 21, 16, 7, 42, 180, 0, 53, 28, 46]
abbrev dktX3_clearRing_0 : List UInt8 := dkwX3_clearRing_0 ++ dktX3_clearRing_1
theorem dksX3_clearRing_0 : cX3_clearRing.data.toList.drop 0 = dktX3_clearRing_0 := by decide +kernel
theorem dksX3_clearRing_1 : cX3_clearRing.data.toList.drop 24 = dktX3_clearRing_1 := dk_seg dksX3_clearRing_0 24 rfl rfl
theorem dksX3_clearRing_2 : cX3_clearRing.data.toList.drop 48 = dktX3_clearRing_2 := dk_seg dksX3_clearRing_1 24 rfl rfl
theorem dX3_clearRing_0 : decode cX3_clearRing 0 = .ok (.iconst 0, 1) := dk_3 (dk_at dksX3_clearRing_0 0 rfl rfl)
theorem dX3_clearRing_1 : decode cX3_clearRing 1 = .ok (.istore_n 2, 1) := dk_61 (dk_at dksX3_clearRing_0 1 rfl rfl)
theorem dX3_clearRing_2 : decode cX3_clearRing 2 = .ok (.iload_n 2, 1) := dk_28 (dk_at dksX3_clearRing_0 2 rfl rfl)
theorem dX3_clearRing_3 : decode cX3_clearRing 3 = .ok (.aload_n 0, 1) := dk_42 (dk_at dksX3_clearRing_0 3 rfl rfl)
theorem dX3_clearRing_4 : decode cX3_clearRing 4 = .ok (.getfield 296, 3) := dk_180 1 40 (dk_at dksX3_clearRing_0 4 rfl rfl)
theorem dX3_clearRing_7 : decode cX3_clearRing 7 = .ok (.if_icmp .ge 44, 3) := dk_162 0 44 (dk_at dksX3_clearRing_0 7 rfl rfl)
theorem dX3_clearRing_10 : decode cX3_clearRing 10 = .ok (.aload_n 0, 1) := dk_42 (dk_at dksX3_clearRing_0 10 rfl rfl)
theorem dX3_clearRing_11 : decode cX3_clearRing 11 = .ok (.getfield 9, 3) := dk_180 0 9 (dk_at dksX3_clearRing_0 11 rfl rfl)
theorem dX3_clearRing_14 : decode cX3_clearRing 14 = .ok (.bipush 21, 2) := dk_16 21 (dk_at dksX3_clearRing_0 14 rfl rfl)
theorem dX3_clearRing_16 : decode cX3_clearRing 16 = .ok (.bipush 7, 2) := dk_16 7 (dk_at dksX3_clearRing_0 16 rfl rfl)
theorem dX3_clearRing_18 : decode cX3_clearRing 18 = .ok (.aload_n 0, 1) := dk_42 (dk_at dksX3_clearRing_0 18 rfl rfl)
theorem dX3_clearRing_19 : decode cX3_clearRing 19 = .ok (.getfield 53, 3) := dk_180 0 53 (dk_at dksX3_clearRing_0 19 rfl rfl)
theorem dX3_clearRing_22 : decode cX3_clearRing 22 = .ok (.iload_n 2, 1) := dk_28 (dk_at dksX3_clearRing_0 22 rfl rfl)
theorem dX3_clearRing_23 : decode cX3_clearRing 23 = .ok (.iaload, 1) := dk_46 (dk_at dksX3_clearRing_0 23 rfl rfl)
theorem dX3_clearRing_24 : decode cX3_clearRing 24 = .ok (.imul, 1) := dk_104 (dk_at dksX3_clearRing_1 0 rfl rfl)
theorem dX3_clearRing_25 : decode cX3_clearRing 25 = .ok (.iadd, 1) := dk_96 (dk_at dksX3_clearRing_1 1 rfl rfl)
theorem dX3_clearRing_26 : decode cX3_clearRing 26 = .ok (.aload_n 0, 1) := dk_42 (dk_at dksX3_clearRing_1 2 rfl rfl)
theorem dX3_clearRing_27 : decode cX3_clearRing 27 = .ok (.getfield 53, 3) := dk_180 0 53 (dk_at dksX3_clearRing_1 3 rfl rfl)
theorem dX3_clearRing_30 : decode cX3_clearRing 30 = .ok (.iload_n 2, 1) := dk_28 (dk_at dksX3_clearRing_1 6 rfl rfl)
theorem dX3_clearRing_31 : decode cX3_clearRing 31 = .ok (.iconst 1, 1) := dk_4 (dk_at dksX3_clearRing_1 7 rfl rfl)
theorem dX3_clearRing_32 : decode cX3_clearRing 32 = .ok (.iadd, 1) := dk_96 (dk_at dksX3_clearRing_1 8 rfl rfl)
theorem dX3_clearRing_33 : decode cX3_clearRing 33 = .ok (.aload_n 0, 1) := dk_42 (dk_at dksX3_clearRing_1 9 rfl rfl)
theorem dX3_clearRing_34 : decode cX3_clearRing 34 = .ok (.getfield 296, 3) := dk_180 1 40 (dk_at dksX3_clearRing_1 10 rfl rfl)
theorem dX3_clearRing_37 : decode cX3_clearRing 37 = .ok (.irem, 1) := dk_112 (dk_at dksX3_clearRing_1 13 rfl rfl)
theorem dX3_clearRing_38 : decode cX3_clearRing 38 = .ok (.iaload, 1) := dk_46 (dk_at dksX3_clearRing_1 14 rfl rfl)
theorem dX3_clearRing_39 : decode cX3_clearRing 39 = .ok (.iadd, 1) := dk_96 (dk_at dksX3_clearRing_1 15 rfl rfl)
theorem dX3_clearRing_40 : decode cX3_clearRing 40 = .ok (.dup2, 1) := dk_92 (dk_at dksX3_clearRing_1 16 rfl rfl)
theorem dX3_clearRing_41 : decode cX3_clearRing 41 = .ok (.iaload, 1) := dk_46 (dk_at dksX3_clearRing_1 17 rfl rfl)
theorem dX3_clearRing_42 : decode cX3_clearRing 42 = .ok (.iload_n 1, 1) := dk_27 (dk_at dksX3_clearRing_1 18 rfl rfl)
theorem dX3_clearRing_43 : decode cX3_clearRing 43 = .ok (.isub, 1) := dk_100 (dk_at dksX3_clearRing_1 19 rfl rfl)
theorem dX3_clearRing_44 : decode cX3_clearRing 44 = .ok (.iastore, 1) := dk_79 (dk_at dksX3_clearRing_1 20 rfl rfl)
theorem dX3_clearRing_45 : decode cX3_clearRing 45 = .ok (.iinc 2 1, 3) := dk_132 2 1 (dk_at dksX3_clearRing_1 21 rfl rfl)
theorem dX3_clearRing_48 : decode cX3_clearRing 48 = .ok (.goto (-46), 3) := dk_167 255 210 (dk_at dksX3_clearRing_2 0 rfl rfl)
theorem dX3_clearRing_51 : decode cX3_clearRing 51 = .ok (.iload_n 1, 1) := dk_27 (dk_at dksX3_clearRing_2 3 rfl rfl)
theorem dX3_clearRing_52 : decode cX3_clearRing 52 = .ok (.aload_n 0, 1) := dk_42 (dk_at dksX3_clearRing_2 4 rfl rfl)
theorem dX3_clearRing_53 : decode cX3_clearRing 53 = .ok (.getfield 296, 3) := dk_180 1 40 (dk_at dksX3_clearRing_2 5 rfl rfl)
theorem dX3_clearRing_56 : decode cX3_clearRing 56 = .ok (.imul, 1) := dk_104 (dk_at dksX3_clearRing_2 8 rfl rfl)
theorem dX3_clearRing_57 : decode cX3_clearRing 57 = .ok (.ireturn, 1) := dk_172 (dk_at dksX3_clearRing_2 9 rfl rfl)
abbrev cX3_rings : ByteArray := prog_9_method_66_code
def yX3_rings : MethodName := ⟨RX3, "rings", "()I"⟩
def dkwX3_rings_2 : List UInt8 := [167, 255, 236, 42, 3, 181, 0, 91, 42, 28, 182, 0, 230, 27, 172]
abbrev dktX3_rings_2 : List UInt8 := dkwX3_rings_2 ++ []
def dkwX3_rings_1 : List UInt8 := [182, 1, 12, 29, 158, 0, 22, 132, 1, 1, 28, 42, 29, 182, 1, 50, 96, 61, 42, 182, 1, 47, 62]
abbrev dktX3_rings_1 : List UInt8 := dkwX3_rings_1 ++ dktX3_rings_2
def dkwX3_rings_0 : List UInt8 := [42, 3, 181, 0, 87, 3, 60, 3, 61, 42, 182, 1, 47, 62, 29, 158, 0, 11, 42, 42, 180, 0, 9]
abbrev dktX3_rings_0 : List UInt8 := dkwX3_rings_0 ++ dktX3_rings_1
theorem dksX3_rings_0 : cX3_rings.data.toList.drop 0 = dktX3_rings_0 := by decide +kernel
theorem dksX3_rings_1 : cX3_rings.data.toList.drop 23 = dktX3_rings_1 := dk_seg dksX3_rings_0 23 rfl rfl
theorem dksX3_rings_2 : cX3_rings.data.toList.drop 46 = dktX3_rings_2 := dk_seg dksX3_rings_1 23 rfl rfl
theorem dX3_rings_0 : decode cX3_rings 0 = .ok (.aload_n 0, 1) := dk_42 (dk_at dksX3_rings_0 0 rfl rfl)
theorem dX3_rings_1 : decode cX3_rings 1 = .ok (.iconst 0, 1) := dk_3 (dk_at dksX3_rings_0 1 rfl rfl)
theorem dX3_rings_2 : decode cX3_rings 2 = .ok (.putfield 87, 3) := dk_181 0 87 (dk_at dksX3_rings_0 2 rfl rfl)
theorem dX3_rings_5 : decode cX3_rings 5 = .ok (.iconst 0, 1) := dk_3 (dk_at dksX3_rings_0 5 rfl rfl)
theorem dX3_rings_6 : decode cX3_rings 6 = .ok (.istore_n 1, 1) := dk_60 (dk_at dksX3_rings_0 6 rfl rfl)
theorem dX3_rings_7 : decode cX3_rings 7 = .ok (.iconst 0, 1) := dk_3 (dk_at dksX3_rings_0 7 rfl rfl)
theorem dX3_rings_8 : decode cX3_rings 8 = .ok (.istore_n 2, 1) := dk_61 (dk_at dksX3_rings_0 8 rfl rfl)
theorem dX3_rings_9 : decode cX3_rings 9 = .ok (.aload_n 0, 1) := dk_42 (dk_at dksX3_rings_0 9 rfl rfl)
theorem dX3_rings_10 : decode cX3_rings 10 = .ok (.invokevirtual 303, 3) := dk_182 1 47 (dk_at dksX3_rings_0 10 rfl rfl)
theorem dX3_rings_13 : decode cX3_rings 13 = .ok (.istore_n 3, 1) := dk_62 (dk_at dksX3_rings_0 13 rfl rfl)
theorem dX3_rings_14 : decode cX3_rings 14 = .ok (.iload_n 3, 1) := dk_29 (dk_at dksX3_rings_0 14 rfl rfl)
theorem dX3_rings_15 : decode cX3_rings 15 = .ok (.ifCond .le 11, 3) := dk_158 0 11 (dk_at dksX3_rings_0 15 rfl rfl)
theorem dX3_rings_18 : decode cX3_rings 18 = .ok (.aload_n 0, 1) := dk_42 (dk_at dksX3_rings_0 18 rfl rfl)
theorem dX3_rings_19 : decode cX3_rings 19 = .ok (.aload_n 0, 1) := dk_42 (dk_at dksX3_rings_0 19 rfl rfl)
theorem dX3_rings_20 : decode cX3_rings 20 = .ok (.getfield 9, 3) := dk_180 0 9 (dk_at dksX3_rings_0 20 rfl rfl)
theorem dX3_rings_23 : decode cX3_rings 23 = .ok (.invokevirtual 268, 3) := dk_182 1 12 (dk_at dksX3_rings_1 0 rfl rfl)
theorem dX3_rings_26 : decode cX3_rings 26 = .ok (.iload_n 3, 1) := dk_29 (dk_at dksX3_rings_1 3 rfl rfl)
theorem dX3_rings_27 : decode cX3_rings 27 = .ok (.ifCond .le 22, 3) := dk_158 0 22 (dk_at dksX3_rings_1 4 rfl rfl)
theorem dX3_rings_30 : decode cX3_rings 30 = .ok (.iinc 1 1, 3) := dk_132 1 1 (dk_at dksX3_rings_1 7 rfl rfl)
theorem dX3_rings_33 : decode cX3_rings 33 = .ok (.iload_n 2, 1) := dk_28 (dk_at dksX3_rings_1 10 rfl rfl)
theorem dX3_rings_34 : decode cX3_rings 34 = .ok (.aload_n 0, 1) := dk_42 (dk_at dksX3_rings_1 11 rfl rfl)
theorem dX3_rings_35 : decode cX3_rings 35 = .ok (.iload_n 3, 1) := dk_29 (dk_at dksX3_rings_1 12 rfl rfl)
theorem dX3_rings_36 : decode cX3_rings 36 = .ok (.invokevirtual 306, 3) := dk_182 1 50 (dk_at dksX3_rings_1 13 rfl rfl)
theorem dX3_rings_39 : decode cX3_rings 39 = .ok (.iadd, 1) := dk_96 (dk_at dksX3_rings_1 16 rfl rfl)
theorem dX3_rings_40 : decode cX3_rings 40 = .ok (.istore_n 2, 1) := dk_61 (dk_at dksX3_rings_1 17 rfl rfl)
theorem dX3_rings_41 : decode cX3_rings 41 = .ok (.aload_n 0, 1) := dk_42 (dk_at dksX3_rings_1 18 rfl rfl)
theorem dX3_rings_42 : decode cX3_rings 42 = .ok (.invokevirtual 303, 3) := dk_182 1 47 (dk_at dksX3_rings_1 19 rfl rfl)
theorem dX3_rings_45 : decode cX3_rings 45 = .ok (.istore_n 3, 1) := dk_62 (dk_at dksX3_rings_1 22 rfl rfl)
theorem dX3_rings_46 : decode cX3_rings 46 = .ok (.goto (-20), 3) := dk_167 255 236 (dk_at dksX3_rings_2 0 rfl rfl)
theorem dX3_rings_49 : decode cX3_rings 49 = .ok (.aload_n 0, 1) := dk_42 (dk_at dksX3_rings_2 3 rfl rfl)
theorem dX3_rings_50 : decode cX3_rings 50 = .ok (.iconst 0, 1) := dk_3 (dk_at dksX3_rings_2 4 rfl rfl)
theorem dX3_rings_51 : decode cX3_rings 51 = .ok (.putfield 91, 3) := dk_181 0 91 (dk_at dksX3_rings_2 5 rfl rfl)
theorem dX3_rings_54 : decode cX3_rings 54 = .ok (.aload_n 0, 1) := dk_42 (dk_at dksX3_rings_2 8 rfl rfl)
theorem dX3_rings_55 : decode cX3_rings 55 = .ok (.iload_n 2, 1) := dk_28 (dk_at dksX3_rings_2 9 rfl rfl)
theorem dX3_rings_56 : decode cX3_rings 56 = .ok (.invokevirtual 230, 3) := dk_182 0 230 (dk_at dksX3_rings_2 10 rfl rfl)
theorem dX3_rings_59 : decode cX3_rings 59 = .ok (.iload_n 1, 1) := dk_27 (dk_at dksX3_rings_2 13 rfl rfl)
theorem dX3_rings_60 : decode cX3_rings 60 = .ok (.ireturn, 1) := dk_172 (dk_at dksX3_rings_2 14 rfl rfl)
abbrev cX3_net : ByteArray := prog_9_method_68_code
def yX3_net : MethodName := ⟨RX3, "net", "(I)I"⟩
def dkwX3_net_1 : List UInt8 := [182, 0, 214, 172]
abbrev dktX3_net_1 : List UInt8 := dkwX3_net_1 ++ []
def dkwX3_net_0 : List UInt8 := [42, 3, 181, 0, 87, 42, 27, 182, 0, 101, 153, 0, 11, 42, 27, 182, 1, 53, 167, 0, 7, 42]
abbrev dktX3_net_0 : List UInt8 := dkwX3_net_0 ++ dktX3_net_1
theorem dksX3_net_0 : cX3_net.data.toList.drop 0 = dktX3_net_0 := by decide +kernel
theorem dksX3_net_1 : cX3_net.data.toList.drop 22 = dktX3_net_1 := dk_seg dksX3_net_0 22 rfl rfl
theorem dX3_net_0 : decode cX3_net 0 = .ok (.aload_n 0, 1) := dk_42 (dk_at dksX3_net_0 0 rfl rfl)
theorem dX3_net_1 : decode cX3_net 1 = .ok (.iconst 0, 1) := dk_3 (dk_at dksX3_net_0 1 rfl rfl)
theorem dX3_net_2 : decode cX3_net 2 = .ok (.putfield 87, 3) := dk_181 0 87 (dk_at dksX3_net_0 2 rfl rfl)
theorem dX3_net_5 : decode cX3_net 5 = .ok (.aload_n 0, 1) := dk_42 (dk_at dksX3_net_0 5 rfl rfl)
theorem dX3_net_6 : decode cX3_net 6 = .ok (.iload_n 1, 1) := dk_27 (dk_at dksX3_net_0 6 rfl rfl)
theorem dX3_net_7 : decode cX3_net 7 = .ok (.invokevirtual 101, 3) := dk_182 0 101 (dk_at dksX3_net_0 7 rfl rfl)
theorem dX3_net_10 : decode cX3_net 10 = .ok (.ifCond .eq 11, 3) := dk_153 0 11 (dk_at dksX3_net_0 10 rfl rfl)
theorem dX3_net_13 : decode cX3_net 13 = .ok (.aload_n 0, 1) := dk_42 (dk_at dksX3_net_0 13 rfl rfl)
theorem dX3_net_14 : decode cX3_net 14 = .ok (.iload_n 1, 1) := dk_27 (dk_at dksX3_net_0 14 rfl rfl)
theorem dX3_net_15 : decode cX3_net 15 = .ok (.invokevirtual 309, 3) := dk_182 1 53 (dk_at dksX3_net_0 15 rfl rfl)
theorem dX3_net_18 : decode cX3_net 18 = .ok (.goto 7, 3) := dk_167 0 7 (dk_at dksX3_net_0 18 rfl rfl)
theorem dX3_net_21 : decode cX3_net 21 = .ok (.aload_n 0, 1) := dk_42 (dk_at dksX3_net_0 21 rfl rfl)
theorem dX3_net_22 : decode cX3_net 22 = .ok (.invokevirtual 214, 3) := dk_182 0 214 (dk_at dksX3_net_1 0 rfl rfl)
theorem dX3_net_25 : decode cX3_net 25 = .ok (.ireturn, 1) := dk_172 (dk_at dksX3_net_1 3 rfl rfl)
abbrev cX3_netOf : ByteArray := prog_9_method_67_code
def yX3_netOf : MethodName := ⟨RX3, "netOf", "(I)I"⟩
def dkwX3_netOf_0 : List UInt8 := [42, 27, 182, 0, 221, 42, 180, 0, 9, 27, 184, 0, 217, 100, 172]
abbrev dktX3_netOf_0 : List UInt8 := dkwX3_netOf_0 ++ []
theorem dksX3_netOf_0 : cX3_netOf.data.toList.drop 0 = dktX3_netOf_0 := by decide +kernel
theorem dX3_netOf_0 : decode cX3_netOf 0 = .ok (.aload_n 0, 1) := dk_42 (dk_at dksX3_netOf_0 0 rfl rfl)
theorem dX3_netOf_1 : decode cX3_netOf 1 = .ok (.iload_n 1, 1) := dk_27 (dk_at dksX3_netOf_0 1 rfl rfl)
theorem dX3_netOf_2 : decode cX3_netOf 2 = .ok (.invokevirtual 221, 3) := dk_182 0 221 (dk_at dksX3_netOf_0 2 rfl rfl)
theorem dX3_netOf_5 : decode cX3_netOf 5 = .ok (.aload_n 0, 1) := dk_42 (dk_at dksX3_netOf_0 5 rfl rfl)
theorem dX3_netOf_6 : decode cX3_netOf 6 = .ok (.getfield 9, 3) := dk_180 0 9 (dk_at dksX3_netOf_0 6 rfl rfl)
theorem dX3_netOf_9 : decode cX3_netOf 9 = .ok (.iload_n 1, 1) := dk_27 (dk_at dksX3_netOf_0 9 rfl rfl)
theorem dX3_netOf_10 : decode cX3_netOf 10 = .ok (.invokestatic 217, 3) := dk_184 0 217 (dk_at dksX3_netOf_0 10 rfl rfl)
theorem dX3_netOf_13 : decode cX3_netOf 13 = .ok (.isub, 1) := dk_100 (dk_at dksX3_netOf_0 13 rfl rfl)
theorem dX3_netOf_14 : decode cX3_netOf 14 = .ok (.ireturn, 1) := dk_172 (dk_at dksX3_netOf_0 14 rfl rfl)
abbrev cX3_least : ByteArray := prog_9_method_70_code
def yX3_least : MethodName := ⟨RX3, "least", "()I"⟩
def dkwX3_least_2 : List UInt8 := [27, 172]
abbrev dktX3_least_2 : List UInt8 := dkwX3_least_2 ++ []
def dkwX3_least_1 : List UInt8 := [184, 0, 165, 96, 60, 132, 2, 1, 167, 255, 233, 42, 3, 181, 0, 91, 42, 42, 182, 1, 56, 182, 0, 230]
abbrev dktX3_least_1 : List UInt8 := dkwX3_least_1 ++ dktX3_least_2
def dkwX3_least_0 : List UInt8 := [42, 3, 181, 0, 87, 3, 60, 3, 61, 28, 42, 180, 0, 94, 162, 0, 21, 27, 3, 42, 28, 182, 1, 53]
abbrev dktX3_least_0 : List UInt8 := dkwX3_least_0 ++ dktX3_least_1
theorem dksX3_least_0 : cX3_least.data.toList.drop 0 = dktX3_least_0 := by decide +kernel
theorem dksX3_least_1 : cX3_least.data.toList.drop 24 = dktX3_least_1 := dk_seg dksX3_least_0 24 rfl rfl
theorem dksX3_least_2 : cX3_least.data.toList.drop 48 = dktX3_least_2 := dk_seg dksX3_least_1 24 rfl rfl
theorem dX3_least_0 : decode cX3_least 0 = .ok (.aload_n 0, 1) := dk_42 (dk_at dksX3_least_0 0 rfl rfl)
theorem dX3_least_1 : decode cX3_least 1 = .ok (.iconst 0, 1) := dk_3 (dk_at dksX3_least_0 1 rfl rfl)
theorem dX3_least_2 : decode cX3_least 2 = .ok (.putfield 87, 3) := dk_181 0 87 (dk_at dksX3_least_0 2 rfl rfl)
theorem dX3_least_5 : decode cX3_least 5 = .ok (.iconst 0, 1) := dk_3 (dk_at dksX3_least_0 5 rfl rfl)
theorem dX3_least_6 : decode cX3_least 6 = .ok (.istore_n 1, 1) := dk_60 (dk_at dksX3_least_0 6 rfl rfl)
theorem dX3_least_7 : decode cX3_least 7 = .ok (.iconst 0, 1) := dk_3 (dk_at dksX3_least_0 7 rfl rfl)
theorem dX3_least_8 : decode cX3_least 8 = .ok (.istore_n 2, 1) := dk_61 (dk_at dksX3_least_0 8 rfl rfl)
theorem dX3_least_9 : decode cX3_least 9 = .ok (.iload_n 2, 1) := dk_28 (dk_at dksX3_least_0 9 rfl rfl)
theorem dX3_least_10 : decode cX3_least 10 = .ok (.aload_n 0, 1) := dk_42 (dk_at dksX3_least_0 10 rfl rfl)
theorem dX3_least_11 : decode cX3_least 11 = .ok (.getfield 94, 3) := dk_180 0 94 (dk_at dksX3_least_0 11 rfl rfl)
theorem dX3_least_14 : decode cX3_least 14 = .ok (.if_icmp .ge 21, 3) := dk_162 0 21 (dk_at dksX3_least_0 14 rfl rfl)
theorem dX3_least_17 : decode cX3_least 17 = .ok (.iload_n 1, 1) := dk_27 (dk_at dksX3_least_0 17 rfl rfl)
theorem dX3_least_18 : decode cX3_least 18 = .ok (.iconst 0, 1) := dk_3 (dk_at dksX3_least_0 18 rfl rfl)
theorem dX3_least_19 : decode cX3_least 19 = .ok (.aload_n 0, 1) := dk_42 (dk_at dksX3_least_0 19 rfl rfl)
theorem dX3_least_20 : decode cX3_least 20 = .ok (.iload_n 2, 1) := dk_28 (dk_at dksX3_least_0 20 rfl rfl)
theorem dX3_least_21 : decode cX3_least 21 = .ok (.invokevirtual 309, 3) := dk_182 1 53 (dk_at dksX3_least_0 21 rfl rfl)
theorem dX3_least_24 : decode cX3_least 24 = .ok (.invokestatic 165, 3) := dk_184 0 165 (dk_at dksX3_least_1 0 rfl rfl)
theorem dX3_least_27 : decode cX3_least 27 = .ok (.iadd, 1) := dk_96 (dk_at dksX3_least_1 3 rfl rfl)
theorem dX3_least_28 : decode cX3_least 28 = .ok (.istore_n 1, 1) := dk_60 (dk_at dksX3_least_1 4 rfl rfl)
theorem dX3_least_29 : decode cX3_least 29 = .ok (.iinc 2 1, 3) := dk_132 2 1 (dk_at dksX3_least_1 5 rfl rfl)
theorem dX3_least_32 : decode cX3_least 32 = .ok (.goto (-23), 3) := dk_167 255 233 (dk_at dksX3_least_1 8 rfl rfl)
theorem dX3_least_35 : decode cX3_least 35 = .ok (.aload_n 0, 1) := dk_42 (dk_at dksX3_least_1 11 rfl rfl)
theorem dX3_least_36 : decode cX3_least 36 = .ok (.iconst 0, 1) := dk_3 (dk_at dksX3_least_1 12 rfl rfl)
theorem dX3_least_37 : decode cX3_least 37 = .ok (.putfield 91, 3) := dk_181 0 91 (dk_at dksX3_least_1 13 rfl rfl)
theorem dX3_least_40 : decode cX3_least 40 = .ok (.aload_n 0, 1) := dk_42 (dk_at dksX3_least_1 16 rfl rfl)
theorem dX3_least_41 : decode cX3_least 41 = .ok (.aload_n 0, 1) := dk_42 (dk_at dksX3_least_1 17 rfl rfl)
theorem dX3_least_42 : decode cX3_least 42 = .ok (.invokevirtual 312, 3) := dk_182 1 56 (dk_at dksX3_least_1 18 rfl rfl)
theorem dX3_least_45 : decode cX3_least 45 = .ok (.invokevirtual 230, 3) := dk_182 0 230 (dk_at dksX3_least_1 21 rfl rfl)
theorem dX3_least_48 : decode cX3_least 48 = .ok (.iload_n 1, 1) := dk_27 (dk_at dksX3_least_2 0 rfl rfl)
theorem dX3_least_49 : decode cX3_least 49 = .ok (.ireturn, 1) := dk_172 (dk_at dksX3_least_2 1 rfl rfl)
abbrev cX3_allOwed : ByteArray := prog_9_method_69_code
def yX3_allOwed : MethodName := ⟨RX3, "allOwed", "()I"⟩
def dkwX3_allOwed_1 : List UInt8 := [132, 2, 1, 167, 255, 234, 27, 172]
abbrev dktX3_allOwed_1 : List UInt8 := dkwX3_allOwed_1 ++ []
def dkwX3_allOwed_0 : List UInt8 := [3, 60, 3, 61, 28, 42, 180, 0, 94, 162, 0, 20, 27, 42, 180, 0, 9, 28, 184, 0, 217, 96, 60]
abbrev dktX3_allOwed_0 : List UInt8 := dkwX3_allOwed_0 ++ dktX3_allOwed_1
theorem dksX3_allOwed_0 : cX3_allOwed.data.toList.drop 0 = dktX3_allOwed_0 := by decide +kernel
theorem dksX3_allOwed_1 : cX3_allOwed.data.toList.drop 23 = dktX3_allOwed_1 := dk_seg dksX3_allOwed_0 23 rfl rfl
theorem dX3_allOwed_0 : decode cX3_allOwed 0 = .ok (.iconst 0, 1) := dk_3 (dk_at dksX3_allOwed_0 0 rfl rfl)
theorem dX3_allOwed_1 : decode cX3_allOwed 1 = .ok (.istore_n 1, 1) := dk_60 (dk_at dksX3_allOwed_0 1 rfl rfl)
theorem dX3_allOwed_2 : decode cX3_allOwed 2 = .ok (.iconst 0, 1) := dk_3 (dk_at dksX3_allOwed_0 2 rfl rfl)
theorem dX3_allOwed_3 : decode cX3_allOwed 3 = .ok (.istore_n 2, 1) := dk_61 (dk_at dksX3_allOwed_0 3 rfl rfl)
theorem dX3_allOwed_4 : decode cX3_allOwed 4 = .ok (.iload_n 2, 1) := dk_28 (dk_at dksX3_allOwed_0 4 rfl rfl)
theorem dX3_allOwed_5 : decode cX3_allOwed 5 = .ok (.aload_n 0, 1) := dk_42 (dk_at dksX3_allOwed_0 5 rfl rfl)
theorem dX3_allOwed_6 : decode cX3_allOwed 6 = .ok (.getfield 94, 3) := dk_180 0 94 (dk_at dksX3_allOwed_0 6 rfl rfl)
theorem dX3_allOwed_9 : decode cX3_allOwed 9 = .ok (.if_icmp .ge 20, 3) := dk_162 0 20 (dk_at dksX3_allOwed_0 9 rfl rfl)
theorem dX3_allOwed_12 : decode cX3_allOwed 12 = .ok (.iload_n 1, 1) := dk_27 (dk_at dksX3_allOwed_0 12 rfl rfl)
theorem dX3_allOwed_13 : decode cX3_allOwed 13 = .ok (.aload_n 0, 1) := dk_42 (dk_at dksX3_allOwed_0 13 rfl rfl)
theorem dX3_allOwed_14 : decode cX3_allOwed 14 = .ok (.getfield 9, 3) := dk_180 0 9 (dk_at dksX3_allOwed_0 14 rfl rfl)
theorem dX3_allOwed_17 : decode cX3_allOwed 17 = .ok (.iload_n 2, 1) := dk_28 (dk_at dksX3_allOwed_0 17 rfl rfl)
theorem dX3_allOwed_18 : decode cX3_allOwed 18 = .ok (.invokestatic 217, 3) := dk_184 0 217 (dk_at dksX3_allOwed_0 18 rfl rfl)
theorem dX3_allOwed_21 : decode cX3_allOwed 21 = .ok (.iadd, 1) := dk_96 (dk_at dksX3_allOwed_0 21 rfl rfl)
theorem dX3_allOwed_22 : decode cX3_allOwed 22 = .ok (.istore_n 1, 1) := dk_60 (dk_at dksX3_allOwed_0 22 rfl rfl)
theorem dX3_allOwed_23 : decode cX3_allOwed 23 = .ok (.iinc 2 1, 3) := dk_132 2 1 (dk_at dksX3_allOwed_1 0 rfl rfl)
theorem dX3_allOwed_26 : decode cX3_allOwed 26 = .ok (.goto (-22), 3) := dk_167 255 234 (dk_at dksX3_allOwed_1 3 rfl rfl)
theorem dX3_allOwed_29 : decode cX3_allOwed 29 = .ok (.iload_n 1, 1) := dk_27 (dk_at dksX3_allOwed_1 6 rfl rfl)
theorem dX3_allOwed_30 : decode cX3_allOwed 30 = .ok (.ireturn, 1) := dk_172 (dk_at dksX3_allOwed_1 7 rfl rfl)
abbrev cX3_even : ByteArray := prog_9_method_71_code
def yX3_even : MethodName := ⟨RX3, "even", "()I"⟩
def dkwX3_even_8 : List UInt8 := [132, 3, 1, 167, 255, 137, 42, 3, 181, 0, 91, 42, 27, 42, 182, 1, 56, 100, 182, 0, 230, 28, 172]
abbrev dktX3_even_8 : List UInt8 := dkwX3_even_8 ++ []
def dkwX3_even_7 : List UInt8 := [21, 5, 100, 79, 42, 180, 0, 56, 29, 92, 46, 21, 5, 96, 79, 132, 2, 1, 132, 4, 1, 167, 255, 154]
abbrev dktX3_even_7 : List UInt8 := dkwX3_even_7 ++ dktX3_even_8
def dkwX3_even_6 : List UInt8 := [180, 0, 9, 16, 21, 16, 7, 29, 104, 96, 21, 4, 96, 21, 5, 79, 42, 180, 0, 56, 21, 4, 92, 46]
abbrev dktX3_even_6 : List UInt8 := dkwX3_even_6 ++ dktX3_even_7
def dkwX3_even_5 : List UInt8 := [42, 180, 0, 56, 21, 4, 46, 42, 180, 0, 56, 29, 46, 116, 184, 0, 227, 184, 0, 227, 54, 5, 42]
abbrev dktX3_even_5 : List UInt8 := dkwX3_even_5 ++ dktX3_even_6
def dkwX3_even_4 : List UInt8 := [180, 0, 56, 29, 46, 156, 0, 90, 42, 180, 0, 56, 21, 4, 46, 157, 0, 6, 167, 0, 71, 17, 39, 15]
abbrev dktX3_even_4 : List UInt8 := dkwX3_even_4 ++ dktX3_even_5
def dkwX3_even_3 : List UInt8 := [3, 62, 29, 42, 180, 0, 94, 162, 0, 117, 3, 54, 4, 21, 4, 42, 180, 0, 94, 162, 0, 99, 42]
abbrev dktX3_even_3 : List UInt8 := dkwX3_even_3 ++ dktX3_even_4
def dkwX3_even_2 : List UInt8 := [16, 21, 61, 28, 16, 70, 162, 0, 16, 42, 180, 0, 9, 28, 3, 79, 132, 2, 1, 167, 255, 240, 3, 61]
abbrev dktX3_even_2 : List UInt8 := dkwX3_even_2 ++ dktX3_even_3
def dkwX3_even_1 : List UInt8 := [180, 0, 94, 162, 0, 20, 42, 180, 0, 56, 28, 42, 28, 182, 1, 53, 79, 132, 2, 1, 167, 255, 234]
abbrev dktX3_even_1 : List UInt8 := dkwX3_even_1 ++ dktX3_even_2
def dkwX3_even_0 : List UInt8 := [42, 3, 181, 0, 87, 42, 42, 180, 0, 9, 182, 1, 12, 42, 182, 1, 56, 60, 3, 61, 28, 42]
abbrev dktX3_even_0 : List UInt8 := dkwX3_even_0 ++ dktX3_even_1
theorem dksX3_even_0 : cX3_even.data.toList.drop 0 = dktX3_even_0 := by decide +kernel
theorem dksX3_even_1 : cX3_even.data.toList.drop 22 = dktX3_even_1 := dk_seg dksX3_even_0 22 rfl rfl
theorem dksX3_even_2 : cX3_even.data.toList.drop 45 = dktX3_even_2 := dk_seg dksX3_even_1 23 rfl rfl
theorem dksX3_even_3 : cX3_even.data.toList.drop 69 = dktX3_even_3 := dk_seg dksX3_even_2 24 rfl rfl
theorem dksX3_even_4 : cX3_even.data.toList.drop 92 = dktX3_even_4 := dk_seg dksX3_even_3 23 rfl rfl
theorem dksX3_even_5 : cX3_even.data.toList.drop 116 = dktX3_even_5 := dk_seg dksX3_even_4 24 rfl rfl
theorem dksX3_even_6 : cX3_even.data.toList.drop 139 = dktX3_even_6 := dk_seg dksX3_even_5 23 rfl rfl
theorem dksX3_even_7 : cX3_even.data.toList.drop 163 = dktX3_even_7 := dk_seg dksX3_even_6 24 rfl rfl
theorem dksX3_even_8 : cX3_even.data.toList.drop 187 = dktX3_even_8 := dk_seg dksX3_even_7 24 rfl rfl
theorem dX3_even_0 : decode cX3_even 0 = .ok (.aload_n 0, 1) := dk_42 (dk_at dksX3_even_0 0 rfl rfl)
theorem dX3_even_1 : decode cX3_even 1 = .ok (.iconst 0, 1) := dk_3 (dk_at dksX3_even_0 1 rfl rfl)
theorem dX3_even_2 : decode cX3_even 2 = .ok (.putfield 87, 3) := dk_181 0 87 (dk_at dksX3_even_0 2 rfl rfl)
theorem dX3_even_5 : decode cX3_even 5 = .ok (.aload_n 0, 1) := dk_42 (dk_at dksX3_even_0 5 rfl rfl)
theorem dX3_even_6 : decode cX3_even 6 = .ok (.aload_n 0, 1) := dk_42 (dk_at dksX3_even_0 6 rfl rfl)
theorem dX3_even_7 : decode cX3_even 7 = .ok (.getfield 9, 3) := dk_180 0 9 (dk_at dksX3_even_0 7 rfl rfl)
theorem dX3_even_10 : decode cX3_even 10 = .ok (.invokevirtual 268, 3) := dk_182 1 12 (dk_at dksX3_even_0 10 rfl rfl)
theorem dX3_even_13 : decode cX3_even 13 = .ok (.aload_n 0, 1) := dk_42 (dk_at dksX3_even_0 13 rfl rfl)
theorem dX3_even_14 : decode cX3_even 14 = .ok (.invokevirtual 312, 3) := dk_182 1 56 (dk_at dksX3_even_0 14 rfl rfl)
theorem dX3_even_17 : decode cX3_even 17 = .ok (.istore_n 1, 1) := dk_60 (dk_at dksX3_even_0 17 rfl rfl)
theorem dX3_even_18 : decode cX3_even 18 = .ok (.iconst 0, 1) := dk_3 (dk_at dksX3_even_0 18 rfl rfl)
theorem dX3_even_19 : decode cX3_even 19 = .ok (.istore_n 2, 1) := dk_61 (dk_at dksX3_even_0 19 rfl rfl)
theorem dX3_even_20 : decode cX3_even 20 = .ok (.iload_n 2, 1) := dk_28 (dk_at dksX3_even_0 20 rfl rfl)
theorem dX3_even_21 : decode cX3_even 21 = .ok (.aload_n 0, 1) := dk_42 (dk_at dksX3_even_0 21 rfl rfl)
theorem dX3_even_22 : decode cX3_even 22 = .ok (.getfield 94, 3) := dk_180 0 94 (dk_at dksX3_even_1 0 rfl rfl)
theorem dX3_even_25 : decode cX3_even 25 = .ok (.if_icmp .ge 20, 3) := dk_162 0 20 (dk_at dksX3_even_1 3 rfl rfl)
theorem dX3_even_28 : decode cX3_even 28 = .ok (.aload_n 0, 1) := dk_42 (dk_at dksX3_even_1 6 rfl rfl)
theorem dX3_even_29 : decode cX3_even 29 = .ok (.getfield 56, 3) := dk_180 0 56 (dk_at dksX3_even_1 7 rfl rfl)
theorem dX3_even_32 : decode cX3_even 32 = .ok (.iload_n 2, 1) := dk_28 (dk_at dksX3_even_1 10 rfl rfl)
theorem dX3_even_33 : decode cX3_even 33 = .ok (.aload_n 0, 1) := dk_42 (dk_at dksX3_even_1 11 rfl rfl)
theorem dX3_even_34 : decode cX3_even 34 = .ok (.iload_n 2, 1) := dk_28 (dk_at dksX3_even_1 12 rfl rfl)
theorem dX3_even_35 : decode cX3_even 35 = .ok (.invokevirtual 309, 3) := dk_182 1 53 (dk_at dksX3_even_1 13 rfl rfl)
theorem dX3_even_38 : decode cX3_even 38 = .ok (.iastore, 1) := dk_79 (dk_at dksX3_even_1 16 rfl rfl)
theorem dX3_even_39 : decode cX3_even 39 = .ok (.iinc 2 1, 3) := dk_132 2 1 (dk_at dksX3_even_1 17 rfl rfl)
theorem dX3_even_42 : decode cX3_even 42 = .ok (.goto (-22), 3) := dk_167 255 234 (dk_at dksX3_even_1 20 rfl rfl)
theorem dX3_even_45 : decode cX3_even 45 = .ok (.bipush 21, 2) := dk_16 21 (dk_at dksX3_even_2 0 rfl rfl)
theorem dX3_even_47 : decode cX3_even 47 = .ok (.istore_n 2, 1) := dk_61 (dk_at dksX3_even_2 2 rfl rfl)
theorem dX3_even_48 : decode cX3_even 48 = .ok (.iload_n 2, 1) := dk_28 (dk_at dksX3_even_2 3 rfl rfl)
theorem dX3_even_49 : decode cX3_even 49 = .ok (.bipush 70, 2) := dk_16 70 (dk_at dksX3_even_2 4 rfl rfl)
theorem dX3_even_51 : decode cX3_even 51 = .ok (.if_icmp .ge 16, 3) := dk_162 0 16 (dk_at dksX3_even_2 6 rfl rfl)
theorem dX3_even_54 : decode cX3_even 54 = .ok (.aload_n 0, 1) := dk_42 (dk_at dksX3_even_2 9 rfl rfl)
theorem dX3_even_55 : decode cX3_even 55 = .ok (.getfield 9, 3) := dk_180 0 9 (dk_at dksX3_even_2 10 rfl rfl)
theorem dX3_even_58 : decode cX3_even 58 = .ok (.iload_n 2, 1) := dk_28 (dk_at dksX3_even_2 13 rfl rfl)
theorem dX3_even_59 : decode cX3_even 59 = .ok (.iconst 0, 1) := dk_3 (dk_at dksX3_even_2 14 rfl rfl)
theorem dX3_even_60 : decode cX3_even 60 = .ok (.iastore, 1) := dk_79 (dk_at dksX3_even_2 15 rfl rfl)
theorem dX3_even_61 : decode cX3_even 61 = .ok (.iinc 2 1, 3) := dk_132 2 1 (dk_at dksX3_even_2 16 rfl rfl)
theorem dX3_even_64 : decode cX3_even 64 = .ok (.goto (-16), 3) := dk_167 255 240 (dk_at dksX3_even_2 19 rfl rfl)
theorem dX3_even_67 : decode cX3_even 67 = .ok (.iconst 0, 1) := dk_3 (dk_at dksX3_even_2 22 rfl rfl)
theorem dX3_even_68 : decode cX3_even 68 = .ok (.istore_n 2, 1) := dk_61 (dk_at dksX3_even_2 23 rfl rfl)
theorem dX3_even_69 : decode cX3_even 69 = .ok (.iconst 0, 1) := dk_3 (dk_at dksX3_even_3 0 rfl rfl)
theorem dX3_even_70 : decode cX3_even 70 = .ok (.istore_n 3, 1) := dk_62 (dk_at dksX3_even_3 1 rfl rfl)
theorem dX3_even_71 : decode cX3_even 71 = .ok (.iload_n 3, 1) := dk_29 (dk_at dksX3_even_3 2 rfl rfl)
theorem dX3_even_72 : decode cX3_even 72 = .ok (.aload_n 0, 1) := dk_42 (dk_at dksX3_even_3 3 rfl rfl)
theorem dX3_even_73 : decode cX3_even 73 = .ok (.getfield 94, 3) := dk_180 0 94 (dk_at dksX3_even_3 4 rfl rfl)
theorem dX3_even_76 : decode cX3_even 76 = .ok (.if_icmp .ge 117, 3) := dk_162 0 117 (dk_at dksX3_even_3 7 rfl rfl)
theorem dX3_even_79 : decode cX3_even 79 = .ok (.iconst 0, 1) := dk_3 (dk_at dksX3_even_3 10 rfl rfl)
theorem dX3_even_80 : decode cX3_even 80 = .ok (.istore 4, 2) := dk_54 4 (dk_at dksX3_even_3 11 rfl rfl)
theorem dX3_even_82 : decode cX3_even 82 = .ok (.iload 4, 2) := dk_21 4 (dk_at dksX3_even_3 13 rfl rfl)
theorem dX3_even_84 : decode cX3_even 84 = .ok (.aload_n 0, 1) := dk_42 (dk_at dksX3_even_3 15 rfl rfl)
theorem dX3_even_85 : decode cX3_even 85 = .ok (.getfield 94, 3) := dk_180 0 94 (dk_at dksX3_even_3 16 rfl rfl)
theorem dX3_even_88 : decode cX3_even 88 = .ok (.if_icmp .ge 99, 3) := dk_162 0 99 (dk_at dksX3_even_3 19 rfl rfl)
theorem dX3_even_91 : decode cX3_even 91 = .ok (.aload_n 0, 1) := dk_42 (dk_at dksX3_even_3 22 rfl rfl)
theorem dX3_even_92 : decode cX3_even 92 = .ok (.getfield 56, 3) := dk_180 0 56 (dk_at dksX3_even_4 0 rfl rfl)
theorem dX3_even_95 : decode cX3_even 95 = .ok (.iload_n 3, 1) := dk_29 (dk_at dksX3_even_4 3 rfl rfl)
theorem dX3_even_96 : decode cX3_even 96 = .ok (.iaload, 1) := dk_46 (dk_at dksX3_even_4 4 rfl rfl)
theorem dX3_even_97 : decode cX3_even 97 = .ok (.ifCond .ge 90, 3) := dk_156 0 90 (dk_at dksX3_even_4 5 rfl rfl)
theorem dX3_even_100 : decode cX3_even 100 = .ok (.aload_n 0, 1) := dk_42 (dk_at dksX3_even_4 8 rfl rfl)
theorem dX3_even_101 : decode cX3_even 101 = .ok (.getfield 56, 3) := dk_180 0 56 (dk_at dksX3_even_4 9 rfl rfl)
theorem dX3_even_104 : decode cX3_even 104 = .ok (.iload 4, 2) := dk_21 4 (dk_at dksX3_even_4 12 rfl rfl)
theorem dX3_even_106 : decode cX3_even 106 = .ok (.iaload, 1) := dk_46 (dk_at dksX3_even_4 14 rfl rfl)
theorem dX3_even_107 : decode cX3_even 107 = .ok (.ifCond .gt 6, 3) := dk_157 0 6 (dk_at dksX3_even_4 15 rfl rfl)
theorem dX3_even_110 : decode cX3_even 110 = .ok (.goto 71, 3) := dk_167 0 71 (dk_at dksX3_even_4 18 rfl rfl)
theorem dX3_even_113 : decode cX3_even 113 = .ok (.sipush 9999, 3) := dk_17 39 15 (dk_at dksX3_even_4 21 rfl rfl)
theorem dX3_even_116 : decode cX3_even 116 = .ok (.aload_n 0, 1) := dk_42 (dk_at dksX3_even_5 0 rfl rfl)
theorem dX3_even_117 : decode cX3_even 117 = .ok (.getfield 56, 3) := dk_180 0 56 (dk_at dksX3_even_5 1 rfl rfl)
theorem dX3_even_120 : decode cX3_even 120 = .ok (.iload 4, 2) := dk_21 4 (dk_at dksX3_even_5 4 rfl rfl)
theorem dX3_even_122 : decode cX3_even 122 = .ok (.iaload, 1) := dk_46 (dk_at dksX3_even_5 6 rfl rfl)
theorem dX3_even_123 : decode cX3_even 123 = .ok (.aload_n 0, 1) := dk_42 (dk_at dksX3_even_5 7 rfl rfl)
theorem dX3_even_124 : decode cX3_even 124 = .ok (.getfield 56, 3) := dk_180 0 56 (dk_at dksX3_even_5 8 rfl rfl)
theorem dX3_even_127 : decode cX3_even 127 = .ok (.iload_n 3, 1) := dk_29 (dk_at dksX3_even_5 11 rfl rfl)
theorem dX3_even_128 : decode cX3_even 128 = .ok (.iaload, 1) := dk_46 (dk_at dksX3_even_5 12 rfl rfl)
theorem dX3_even_129 : decode cX3_even 129 = .ok (.ineg, 1) := dk_116 (dk_at dksX3_even_5 13 rfl rfl)
theorem dX3_even_130 : decode cX3_even 130 = .ok (.invokestatic 227, 3) := dk_184 0 227 (dk_at dksX3_even_5 14 rfl rfl)
theorem dX3_even_133 : decode cX3_even 133 = .ok (.invokestatic 227, 3) := dk_184 0 227 (dk_at dksX3_even_5 17 rfl rfl)
theorem dX3_even_136 : decode cX3_even 136 = .ok (.istore 5, 2) := dk_54 5 (dk_at dksX3_even_5 20 rfl rfl)
theorem dX3_even_138 : decode cX3_even 138 = .ok (.aload_n 0, 1) := dk_42 (dk_at dksX3_even_5 22 rfl rfl)
theorem dX3_even_139 : decode cX3_even 139 = .ok (.getfield 9, 3) := dk_180 0 9 (dk_at dksX3_even_6 0 rfl rfl)
theorem dX3_even_142 : decode cX3_even 142 = .ok (.bipush 21, 2) := dk_16 21 (dk_at dksX3_even_6 3 rfl rfl)
theorem dX3_even_144 : decode cX3_even 144 = .ok (.bipush 7, 2) := dk_16 7 (dk_at dksX3_even_6 5 rfl rfl)
theorem dX3_even_146 : decode cX3_even 146 = .ok (.iload_n 3, 1) := dk_29 (dk_at dksX3_even_6 7 rfl rfl)
theorem dX3_even_147 : decode cX3_even 147 = .ok (.imul, 1) := dk_104 (dk_at dksX3_even_6 8 rfl rfl)
theorem dX3_even_148 : decode cX3_even 148 = .ok (.iadd, 1) := dk_96 (dk_at dksX3_even_6 9 rfl rfl)
theorem dX3_even_149 : decode cX3_even 149 = .ok (.iload 4, 2) := dk_21 4 (dk_at dksX3_even_6 10 rfl rfl)
theorem dX3_even_151 : decode cX3_even 151 = .ok (.iadd, 1) := dk_96 (dk_at dksX3_even_6 12 rfl rfl)
theorem dX3_even_152 : decode cX3_even 152 = .ok (.iload 5, 2) := dk_21 5 (dk_at dksX3_even_6 13 rfl rfl)
theorem dX3_even_154 : decode cX3_even 154 = .ok (.iastore, 1) := dk_79 (dk_at dksX3_even_6 15 rfl rfl)
theorem dX3_even_155 : decode cX3_even 155 = .ok (.aload_n 0, 1) := dk_42 (dk_at dksX3_even_6 16 rfl rfl)
theorem dX3_even_156 : decode cX3_even 156 = .ok (.getfield 56, 3) := dk_180 0 56 (dk_at dksX3_even_6 17 rfl rfl)
theorem dX3_even_159 : decode cX3_even 159 = .ok (.iload 4, 2) := dk_21 4 (dk_at dksX3_even_6 20 rfl rfl)
theorem dX3_even_161 : decode cX3_even 161 = .ok (.dup2, 1) := dk_92 (dk_at dksX3_even_6 22 rfl rfl)
theorem dX3_even_162 : decode cX3_even 162 = .ok (.iaload, 1) := dk_46 (dk_at dksX3_even_6 23 rfl rfl)
theorem dX3_even_163 : decode cX3_even 163 = .ok (.iload 5, 2) := dk_21 5 (dk_at dksX3_even_7 0 rfl rfl)
theorem dX3_even_165 : decode cX3_even 165 = .ok (.isub, 1) := dk_100 (dk_at dksX3_even_7 2 rfl rfl)
theorem dX3_even_166 : decode cX3_even 166 = .ok (.iastore, 1) := dk_79 (dk_at dksX3_even_7 3 rfl rfl)
theorem dX3_even_167 : decode cX3_even 167 = .ok (.aload_n 0, 1) := dk_42 (dk_at dksX3_even_7 4 rfl rfl)
theorem dX3_even_168 : decode cX3_even 168 = .ok (.getfield 56, 3) := dk_180 0 56 (dk_at dksX3_even_7 5 rfl rfl)
theorem dX3_even_171 : decode cX3_even 171 = .ok (.iload_n 3, 1) := dk_29 (dk_at dksX3_even_7 8 rfl rfl)
theorem dX3_even_172 : decode cX3_even 172 = .ok (.dup2, 1) := dk_92 (dk_at dksX3_even_7 9 rfl rfl)
theorem dX3_even_173 : decode cX3_even 173 = .ok (.iaload, 1) := dk_46 (dk_at dksX3_even_7 10 rfl rfl)
theorem dX3_even_174 : decode cX3_even 174 = .ok (.iload 5, 2) := dk_21 5 (dk_at dksX3_even_7 11 rfl rfl)
theorem dX3_even_176 : decode cX3_even 176 = .ok (.iadd, 1) := dk_96 (dk_at dksX3_even_7 13 rfl rfl)
theorem dX3_even_177 : decode cX3_even 177 = .ok (.iastore, 1) := dk_79 (dk_at dksX3_even_7 14 rfl rfl)
theorem dX3_even_178 : decode cX3_even 178 = .ok (.iinc 2 1, 3) := dk_132 2 1 (dk_at dksX3_even_7 15 rfl rfl)
theorem dX3_even_181 : decode cX3_even 181 = .ok (.iinc 4 1, 3) := dk_132 4 1 (dk_at dksX3_even_7 18 rfl rfl)
theorem dX3_even_184 : decode cX3_even 184 = .ok (.goto (-102), 3) := dk_167 255 154 (dk_at dksX3_even_7 21 rfl rfl)
theorem dX3_even_187 : decode cX3_even 187 = .ok (.iinc 3 1, 3) := dk_132 3 1 (dk_at dksX3_even_8 0 rfl rfl)
theorem dX3_even_190 : decode cX3_even 190 = .ok (.goto (-119), 3) := dk_167 255 137 (dk_at dksX3_even_8 3 rfl rfl)
theorem dX3_even_193 : decode cX3_even 193 = .ok (.aload_n 0, 1) := dk_42 (dk_at dksX3_even_8 6 rfl rfl)
theorem dX3_even_194 : decode cX3_even 194 = .ok (.iconst 0, 1) := dk_3 (dk_at dksX3_even_8 7 rfl rfl)
theorem dX3_even_195 : decode cX3_even 195 = .ok (.putfield 91, 3) := dk_181 0 91 (dk_at dksX3_even_8 8 rfl rfl)
theorem dX3_even_198 : decode cX3_even 198 = .ok (.aload_n 0, 1) := dk_42 (dk_at dksX3_even_8 11 rfl rfl)
theorem dX3_even_199 : decode cX3_even 199 = .ok (.iload_n 1, 1) := dk_27 (dk_at dksX3_even_8 12 rfl rfl)
theorem dX3_even_200 : decode cX3_even 200 = .ok (.aload_n 0, 1) := dk_42 (dk_at dksX3_even_8 13 rfl rfl)
theorem dX3_even_201 : decode cX3_even 201 = .ok (.invokevirtual 312, 3) := dk_182 1 56 (dk_at dksX3_even_8 14 rfl rfl)
theorem dX3_even_204 : decode cX3_even 204 = .ok (.isub, 1) := dk_100 (dk_at dksX3_even_8 17 rfl rfl)
theorem dX3_even_205 : decode cX3_even 205 = .ok (.invokevirtual 230, 3) := dk_182 0 230 (dk_at dksX3_even_8 18 rfl rfl)
theorem dX3_even_208 : decode cX3_even 208 = .ok (.iload_n 2, 1) := dk_28 (dk_at dksX3_even_8 21 rfl rfl)
theorem dX3_even_209 : decode cX3_even 209 = .ok (.ireturn, 1) := dk_172 (dk_at dksX3_even_8 22 rfl rfl)
abbrev cX3_debtor : ByteArray := prog_9_method_73_code
def yX3_debtor : MethodName := ⟨RX3, "debtor", "()I"⟩
def dkwX3_debtor_3 : List UInt8 := [184, 0, 217, 182, 0, 230, 42, 28, 182, 0, 230, 27, 172]
abbrev dktX3_debtor_3 : List UInt8 := dkwX3_debtor_3 ++ []
def dkwX3_debtor_2 : List UInt8 := [4, 167, 0, 4, 3, 96, 61, 132, 3, 1, 167, 255, 220, 42, 3, 181, 0, 91, 42, 42, 180, 0, 9, 27]
abbrev dktX3_debtor_2 : List UInt8 := dkwX3_debtor_2 ++ dktX3_debtor_3
def dkwX3_debtor_1 : List UInt8 := [180, 0, 94, 162, 0, 34, 28, 42, 180, 0, 9, 16, 21, 16, 7, 27, 104, 96, 29, 96, 46, 158, 0, 7]
abbrev dktX3_debtor_1 : List UInt8 := dkwX3_debtor_1 ++ dktX3_debtor_2
def dkwX3_debtor_0 : List UInt8 := [42, 3, 181, 0, 87, 42, 182, 1, 59, 60, 27, 2, 160, 0, 6, 16, 254, 172, 3, 61, 3, 62, 29, 42]
abbrev dktX3_debtor_0 : List UInt8 := dkwX3_debtor_0 ++ dktX3_debtor_1
theorem dksX3_debtor_0 : cX3_debtor.data.toList.drop 0 = dktX3_debtor_0 := by decide +kernel
theorem dksX3_debtor_1 : cX3_debtor.data.toList.drop 24 = dktX3_debtor_1 := dk_seg dksX3_debtor_0 24 rfl rfl
theorem dksX3_debtor_2 : cX3_debtor.data.toList.drop 48 = dktX3_debtor_2 := dk_seg dksX3_debtor_1 24 rfl rfl
theorem dksX3_debtor_3 : cX3_debtor.data.toList.drop 72 = dktX3_debtor_3 := dk_seg dksX3_debtor_2 24 rfl rfl
theorem dX3_debtor_0 : decode cX3_debtor 0 = .ok (.aload_n 0, 1) := dk_42 (dk_at dksX3_debtor_0 0 rfl rfl)
theorem dX3_debtor_1 : decode cX3_debtor 1 = .ok (.iconst 0, 1) := dk_3 (dk_at dksX3_debtor_0 1 rfl rfl)
theorem dX3_debtor_2 : decode cX3_debtor 2 = .ok (.putfield 87, 3) := dk_181 0 87 (dk_at dksX3_debtor_0 2 rfl rfl)
theorem dX3_debtor_5 : decode cX3_debtor 5 = .ok (.aload_n 0, 1) := dk_42 (dk_at dksX3_debtor_0 5 rfl rfl)
theorem dX3_debtor_6 : decode cX3_debtor 6 = .ok (.invokevirtual 315, 3) := dk_182 1 59 (dk_at dksX3_debtor_0 6 rfl rfl)
theorem dX3_debtor_9 : decode cX3_debtor 9 = .ok (.istore_n 1, 1) := dk_60 (dk_at dksX3_debtor_0 9 rfl rfl)
theorem dX3_debtor_10 : decode cX3_debtor 10 = .ok (.iload_n 1, 1) := dk_27 (dk_at dksX3_debtor_0 10 rfl rfl)
theorem dX3_debtor_11 : decode cX3_debtor 11 = .ok (.iconst (-1), 1) := dk_2 (dk_at dksX3_debtor_0 11 rfl rfl)
theorem dX3_debtor_12 : decode cX3_debtor 12 = .ok (.if_icmp .ne 6, 3) := dk_160 0 6 (dk_at dksX3_debtor_0 12 rfl rfl)
theorem dX3_debtor_15 : decode cX3_debtor 15 = .ok (.bipush (-2), 2) := dk_16 254 (dk_at dksX3_debtor_0 15 rfl rfl)
theorem dX3_debtor_17 : decode cX3_debtor 17 = .ok (.ireturn, 1) := dk_172 (dk_at dksX3_debtor_0 17 rfl rfl)
theorem dX3_debtor_18 : decode cX3_debtor 18 = .ok (.iconst 0, 1) := dk_3 (dk_at dksX3_debtor_0 18 rfl rfl)
theorem dX3_debtor_19 : decode cX3_debtor 19 = .ok (.istore_n 2, 1) := dk_61 (dk_at dksX3_debtor_0 19 rfl rfl)
theorem dX3_debtor_20 : decode cX3_debtor 20 = .ok (.iconst 0, 1) := dk_3 (dk_at dksX3_debtor_0 20 rfl rfl)
theorem dX3_debtor_21 : decode cX3_debtor 21 = .ok (.istore_n 3, 1) := dk_62 (dk_at dksX3_debtor_0 21 rfl rfl)
theorem dX3_debtor_22 : decode cX3_debtor 22 = .ok (.iload_n 3, 1) := dk_29 (dk_at dksX3_debtor_0 22 rfl rfl)
theorem dX3_debtor_23 : decode cX3_debtor 23 = .ok (.aload_n 0, 1) := dk_42 (dk_at dksX3_debtor_0 23 rfl rfl)
theorem dX3_debtor_24 : decode cX3_debtor 24 = .ok (.getfield 94, 3) := dk_180 0 94 (dk_at dksX3_debtor_1 0 rfl rfl)
theorem dX3_debtor_27 : decode cX3_debtor 27 = .ok (.if_icmp .ge 34, 3) := dk_162 0 34 (dk_at dksX3_debtor_1 3 rfl rfl)
theorem dX3_debtor_30 : decode cX3_debtor 30 = .ok (.iload_n 2, 1) := dk_28 (dk_at dksX3_debtor_1 6 rfl rfl)
theorem dX3_debtor_31 : decode cX3_debtor 31 = .ok (.aload_n 0, 1) := dk_42 (dk_at dksX3_debtor_1 7 rfl rfl)
theorem dX3_debtor_32 : decode cX3_debtor 32 = .ok (.getfield 9, 3) := dk_180 0 9 (dk_at dksX3_debtor_1 8 rfl rfl)
theorem dX3_debtor_35 : decode cX3_debtor 35 = .ok (.bipush 21, 2) := dk_16 21 (dk_at dksX3_debtor_1 11 rfl rfl)
theorem dX3_debtor_37 : decode cX3_debtor 37 = .ok (.bipush 7, 2) := dk_16 7 (dk_at dksX3_debtor_1 13 rfl rfl)
theorem dX3_debtor_39 : decode cX3_debtor 39 = .ok (.iload_n 1, 1) := dk_27 (dk_at dksX3_debtor_1 15 rfl rfl)
theorem dX3_debtor_40 : decode cX3_debtor 40 = .ok (.imul, 1) := dk_104 (dk_at dksX3_debtor_1 16 rfl rfl)
theorem dX3_debtor_41 : decode cX3_debtor 41 = .ok (.iadd, 1) := dk_96 (dk_at dksX3_debtor_1 17 rfl rfl)
theorem dX3_debtor_42 : decode cX3_debtor 42 = .ok (.iload_n 3, 1) := dk_29 (dk_at dksX3_debtor_1 18 rfl rfl)
theorem dX3_debtor_43 : decode cX3_debtor 43 = .ok (.iadd, 1) := dk_96 (dk_at dksX3_debtor_1 19 rfl rfl)
theorem dX3_debtor_44 : decode cX3_debtor 44 = .ok (.iaload, 1) := dk_46 (dk_at dksX3_debtor_1 20 rfl rfl)
theorem dX3_debtor_45 : decode cX3_debtor 45 = .ok (.ifCond .le 7, 3) := dk_158 0 7 (dk_at dksX3_debtor_1 21 rfl rfl)
theorem dX3_debtor_48 : decode cX3_debtor 48 = .ok (.iconst 1, 1) := dk_4 (dk_at dksX3_debtor_2 0 rfl rfl)
theorem dX3_debtor_49 : decode cX3_debtor 49 = .ok (.goto 4, 3) := dk_167 0 4 (dk_at dksX3_debtor_2 1 rfl rfl)
theorem dX3_debtor_52 : decode cX3_debtor 52 = .ok (.iconst 0, 1) := dk_3 (dk_at dksX3_debtor_2 4 rfl rfl)
theorem dX3_debtor_53 : decode cX3_debtor 53 = .ok (.iadd, 1) := dk_96 (dk_at dksX3_debtor_2 5 rfl rfl)
theorem dX3_debtor_54 : decode cX3_debtor 54 = .ok (.istore_n 2, 1) := dk_61 (dk_at dksX3_debtor_2 6 rfl rfl)
theorem dX3_debtor_55 : decode cX3_debtor 55 = .ok (.iinc 3 1, 3) := dk_132 3 1 (dk_at dksX3_debtor_2 7 rfl rfl)
theorem dX3_debtor_58 : decode cX3_debtor 58 = .ok (.goto (-36), 3) := dk_167 255 220 (dk_at dksX3_debtor_2 10 rfl rfl)
theorem dX3_debtor_61 : decode cX3_debtor 61 = .ok (.aload_n 0, 1) := dk_42 (dk_at dksX3_debtor_2 13 rfl rfl)
theorem dX3_debtor_62 : decode cX3_debtor 62 = .ok (.iconst 0, 1) := dk_3 (dk_at dksX3_debtor_2 14 rfl rfl)
theorem dX3_debtor_63 : decode cX3_debtor 63 = .ok (.putfield 91, 3) := dk_181 0 91 (dk_at dksX3_debtor_2 15 rfl rfl)
theorem dX3_debtor_66 : decode cX3_debtor 66 = .ok (.aload_n 0, 1) := dk_42 (dk_at dksX3_debtor_2 18 rfl rfl)
theorem dX3_debtor_67 : decode cX3_debtor 67 = .ok (.aload_n 0, 1) := dk_42 (dk_at dksX3_debtor_2 19 rfl rfl)
theorem dX3_debtor_68 : decode cX3_debtor 68 = .ok (.getfield 9, 3) := dk_180 0 9 (dk_at dksX3_debtor_2 20 rfl rfl)
theorem dX3_debtor_71 : decode cX3_debtor 71 = .ok (.iload_n 1, 1) := dk_27 (dk_at dksX3_debtor_2 23 rfl rfl)
theorem dX3_debtor_72 : decode cX3_debtor 72 = .ok (.invokestatic 217, 3) := dk_184 0 217 (dk_at dksX3_debtor_3 0 rfl rfl)
theorem dX3_debtor_75 : decode cX3_debtor 75 = .ok (.invokevirtual 230, 3) := dk_182 0 230 (dk_at dksX3_debtor_3 3 rfl rfl)
theorem dX3_debtor_78 : decode cX3_debtor 78 = .ok (.aload_n 0, 1) := dk_42 (dk_at dksX3_debtor_3 6 rfl rfl)
theorem dX3_debtor_79 : decode cX3_debtor 79 = .ok (.iload_n 2, 1) := dk_28 (dk_at dksX3_debtor_3 7 rfl rfl)
theorem dX3_debtor_80 : decode cX3_debtor 80 = .ok (.invokevirtual 230, 3) := dk_182 0 230 (dk_at dksX3_debtor_3 8 rfl rfl)
theorem dX3_debtor_83 : decode cX3_debtor 83 = .ok (.iload_n 1, 1) := dk_27 (dk_at dksX3_debtor_3 11 rfl rfl)
theorem dX3_debtor_84 : decode cX3_debtor 84 = .ok (.ireturn, 1) := dk_172 (dk_at dksX3_debtor_3 12 rfl rfl)
abbrev cX3_greatestDebtor : ByteArray := prog_9_method_72_code
def yX3_greatestDebtor : MethodName := ⟨RX3, "greatestDebtor", "()I"⟩
def dkwX3_greatestDebtor_2 : List UInt8 := [167, 255, 215, 27, 172]
abbrev dktX3_greatestDebtor_2 : List UInt8 := dkwX3_greatestDebtor_2 ++ []
def dkwX3_greatestDebtor_1 : List UInt8 := [160, 0, 7, 3, 167, 0, 11, 42, 180, 0, 9, 27, 184, 0, 217, 164, 0, 5, 28, 60, 132, 2, 1]
abbrev dktX3_greatestDebtor_1 : List UInt8 := dkwX3_greatestDebtor_1 ++ dktX3_greatestDebtor_2
def dkwX3_greatestDebtor_0 : List UInt8 := [2, 60, 3, 61, 28, 42, 180, 0, 94, 162, 0, 39, 42, 180, 0, 9, 28, 184, 0, 217, 27, 2]
abbrev dktX3_greatestDebtor_0 : List UInt8 := dkwX3_greatestDebtor_0 ++ dktX3_greatestDebtor_1
theorem dksX3_greatestDebtor_0 : cX3_greatestDebtor.data.toList.drop 0 = dktX3_greatestDebtor_0 := by decide +kernel
theorem dksX3_greatestDebtor_1 : cX3_greatestDebtor.data.toList.drop 22 = dktX3_greatestDebtor_1 := dk_seg dksX3_greatestDebtor_0 22 rfl rfl
theorem dksX3_greatestDebtor_2 : cX3_greatestDebtor.data.toList.drop 45 = dktX3_greatestDebtor_2 := dk_seg dksX3_greatestDebtor_1 23 rfl rfl
theorem dX3_greatestDebtor_0 : decode cX3_greatestDebtor 0 = .ok (.iconst (-1), 1) := dk_2 (dk_at dksX3_greatestDebtor_0 0 rfl rfl)
theorem dX3_greatestDebtor_1 : decode cX3_greatestDebtor 1 = .ok (.istore_n 1, 1) := dk_60 (dk_at dksX3_greatestDebtor_0 1 rfl rfl)
theorem dX3_greatestDebtor_2 : decode cX3_greatestDebtor 2 = .ok (.iconst 0, 1) := dk_3 (dk_at dksX3_greatestDebtor_0 2 rfl rfl)
theorem dX3_greatestDebtor_3 : decode cX3_greatestDebtor 3 = .ok (.istore_n 2, 1) := dk_61 (dk_at dksX3_greatestDebtor_0 3 rfl rfl)
theorem dX3_greatestDebtor_4 : decode cX3_greatestDebtor 4 = .ok (.iload_n 2, 1) := dk_28 (dk_at dksX3_greatestDebtor_0 4 rfl rfl)
theorem dX3_greatestDebtor_5 : decode cX3_greatestDebtor 5 = .ok (.aload_n 0, 1) := dk_42 (dk_at dksX3_greatestDebtor_0 5 rfl rfl)
theorem dX3_greatestDebtor_6 : decode cX3_greatestDebtor 6 = .ok (.getfield 94, 3) := dk_180 0 94 (dk_at dksX3_greatestDebtor_0 6 rfl rfl)
theorem dX3_greatestDebtor_9 : decode cX3_greatestDebtor 9 = .ok (.if_icmp .ge 39, 3) := dk_162 0 39 (dk_at dksX3_greatestDebtor_0 9 rfl rfl)
theorem dX3_greatestDebtor_12 : decode cX3_greatestDebtor 12 = .ok (.aload_n 0, 1) := dk_42 (dk_at dksX3_greatestDebtor_0 12 rfl rfl)
theorem dX3_greatestDebtor_13 : decode cX3_greatestDebtor 13 = .ok (.getfield 9, 3) := dk_180 0 9 (dk_at dksX3_greatestDebtor_0 13 rfl rfl)
theorem dX3_greatestDebtor_16 : decode cX3_greatestDebtor 16 = .ok (.iload_n 2, 1) := dk_28 (dk_at dksX3_greatestDebtor_0 16 rfl rfl)
theorem dX3_greatestDebtor_17 : decode cX3_greatestDebtor 17 = .ok (.invokestatic 217, 3) := dk_184 0 217 (dk_at dksX3_greatestDebtor_0 17 rfl rfl)
theorem dX3_greatestDebtor_20 : decode cX3_greatestDebtor 20 = .ok (.iload_n 1, 1) := dk_27 (dk_at dksX3_greatestDebtor_0 20 rfl rfl)
theorem dX3_greatestDebtor_21 : decode cX3_greatestDebtor 21 = .ok (.iconst (-1), 1) := dk_2 (dk_at dksX3_greatestDebtor_0 21 rfl rfl)
theorem dX3_greatestDebtor_22 : decode cX3_greatestDebtor 22 = .ok (.if_icmp .ne 7, 3) := dk_160 0 7 (dk_at dksX3_greatestDebtor_1 0 rfl rfl)
theorem dX3_greatestDebtor_25 : decode cX3_greatestDebtor 25 = .ok (.iconst 0, 1) := dk_3 (dk_at dksX3_greatestDebtor_1 3 rfl rfl)
theorem dX3_greatestDebtor_26 : decode cX3_greatestDebtor 26 = .ok (.goto 11, 3) := dk_167 0 11 (dk_at dksX3_greatestDebtor_1 4 rfl rfl)
theorem dX3_greatestDebtor_29 : decode cX3_greatestDebtor 29 = .ok (.aload_n 0, 1) := dk_42 (dk_at dksX3_greatestDebtor_1 7 rfl rfl)
theorem dX3_greatestDebtor_30 : decode cX3_greatestDebtor 30 = .ok (.getfield 9, 3) := dk_180 0 9 (dk_at dksX3_greatestDebtor_1 8 rfl rfl)
theorem dX3_greatestDebtor_33 : decode cX3_greatestDebtor 33 = .ok (.iload_n 1, 1) := dk_27 (dk_at dksX3_greatestDebtor_1 11 rfl rfl)
theorem dX3_greatestDebtor_34 : decode cX3_greatestDebtor 34 = .ok (.invokestatic 217, 3) := dk_184 0 217 (dk_at dksX3_greatestDebtor_1 12 rfl rfl)
theorem dX3_greatestDebtor_37 : decode cX3_greatestDebtor 37 = .ok (.if_icmp .le 5, 3) := dk_164 0 5 (dk_at dksX3_greatestDebtor_1 15 rfl rfl)
theorem dX3_greatestDebtor_40 : decode cX3_greatestDebtor 40 = .ok (.iload_n 2, 1) := dk_28 (dk_at dksX3_greatestDebtor_1 18 rfl rfl)
theorem dX3_greatestDebtor_41 : decode cX3_greatestDebtor 41 = .ok (.istore_n 1, 1) := dk_60 (dk_at dksX3_greatestDebtor_1 19 rfl rfl)
theorem dX3_greatestDebtor_42 : decode cX3_greatestDebtor 42 = .ok (.iinc 2 1, 3) := dk_132 2 1 (dk_at dksX3_greatestDebtor_1 20 rfl rfl)
theorem dX3_greatestDebtor_45 : decode cX3_greatestDebtor 45 = .ok (.goto (-41), 3) := dk_167 255 215 (dk_at dksX3_greatestDebtor_2 0 rfl rfl)
theorem dX3_greatestDebtor_48 : decode cX3_greatestDebtor 48 = .ok (.iload_n 1, 1) := dk_27 (dk_at dksX3_greatestDebtor_2 3 rfl rfl)
theorem dX3_greatestDebtor_49 : decode cX3_greatestDebtor 49 = .ok (.ireturn, 1) := dk_172 (dk_at dksX3_greatestDebtor_2 4 rfl rfl)
abbrev cX3_june : ByteArray := prog_9_method_74_code
def yX3_june : MethodName := ⟨RX3, "june", "()I"⟩
def dkwX3_june_1 : List UInt8 := [160, 0, 7, 3, 167, 0, 11, 42, 180, 0, 9, 27, 184, 0, 217, 172]
abbrev dktX3_june_1 : List UInt8 := dkwX3_june_1 ++ []
def dkwX3_june_0 : List UInt8 := [42, 3, 181, 0, 87, 42, 182, 1, 59, 60, 42, 3, 181, 0, 91, 42, 27, 182, 0, 230, 27, 2]
abbrev dktX3_june_0 : List UInt8 := dkwX3_june_0 ++ dktX3_june_1
theorem dksX3_june_0 : cX3_june.data.toList.drop 0 = dktX3_june_0 := by decide +kernel
theorem dksX3_june_1 : cX3_june.data.toList.drop 22 = dktX3_june_1 := dk_seg dksX3_june_0 22 rfl rfl
theorem dX3_june_0 : decode cX3_june 0 = .ok (.aload_n 0, 1) := dk_42 (dk_at dksX3_june_0 0 rfl rfl)
theorem dX3_june_1 : decode cX3_june 1 = .ok (.iconst 0, 1) := dk_3 (dk_at dksX3_june_0 1 rfl rfl)
theorem dX3_june_2 : decode cX3_june 2 = .ok (.putfield 87, 3) := dk_181 0 87 (dk_at dksX3_june_0 2 rfl rfl)
theorem dX3_june_5 : decode cX3_june 5 = .ok (.aload_n 0, 1) := dk_42 (dk_at dksX3_june_0 5 rfl rfl)
theorem dX3_june_6 : decode cX3_june 6 = .ok (.invokevirtual 315, 3) := dk_182 1 59 (dk_at dksX3_june_0 6 rfl rfl)
theorem dX3_june_9 : decode cX3_june 9 = .ok (.istore_n 1, 1) := dk_60 (dk_at dksX3_june_0 9 rfl rfl)
theorem dX3_june_10 : decode cX3_june 10 = .ok (.aload_n 0, 1) := dk_42 (dk_at dksX3_june_0 10 rfl rfl)
theorem dX3_june_11 : decode cX3_june 11 = .ok (.iconst 0, 1) := dk_3 (dk_at dksX3_june_0 11 rfl rfl)
theorem dX3_june_12 : decode cX3_june 12 = .ok (.putfield 91, 3) := dk_181 0 91 (dk_at dksX3_june_0 12 rfl rfl)
theorem dX3_june_15 : decode cX3_june 15 = .ok (.aload_n 0, 1) := dk_42 (dk_at dksX3_june_0 15 rfl rfl)
theorem dX3_june_16 : decode cX3_june 16 = .ok (.iload_n 1, 1) := dk_27 (dk_at dksX3_june_0 16 rfl rfl)
theorem dX3_june_17 : decode cX3_june 17 = .ok (.invokevirtual 230, 3) := dk_182 0 230 (dk_at dksX3_june_0 17 rfl rfl)
theorem dX3_june_20 : decode cX3_june 20 = .ok (.iload_n 1, 1) := dk_27 (dk_at dksX3_june_0 20 rfl rfl)
theorem dX3_june_21 : decode cX3_june 21 = .ok (.iconst (-1), 1) := dk_2 (dk_at dksX3_june_0 21 rfl rfl)
theorem dX3_june_22 : decode cX3_june 22 = .ok (.if_icmp .ne 7, 3) := dk_160 0 7 (dk_at dksX3_june_1 0 rfl rfl)
theorem dX3_june_25 : decode cX3_june 25 = .ok (.iconst 0, 1) := dk_3 (dk_at dksX3_june_1 3 rfl rfl)
theorem dX3_june_26 : decode cX3_june 26 = .ok (.goto 11, 3) := dk_167 0 11 (dk_at dksX3_june_1 4 rfl rfl)
theorem dX3_june_29 : decode cX3_june 29 = .ok (.aload_n 0, 1) := dk_42 (dk_at dksX3_june_1 7 rfl rfl)
theorem dX3_june_30 : decode cX3_june 30 = .ok (.getfield 9, 3) := dk_180 0 9 (dk_at dksX3_june_1 8 rfl rfl)
theorem dX3_june_33 : decode cX3_june 33 = .ok (.iload_n 1, 1) := dk_27 (dk_at dksX3_june_1 11 rfl rfl)
theorem dX3_june_34 : decode cX3_june 34 = .ok (.invokestatic 217, 3) := dk_184 0 217 (dk_at dksX3_june_1 12 rfl rfl)
theorem dX3_june_37 : decode cX3_june 37 = .ok (.ireturn, 1) := dk_172 (dk_at dksX3_june_1 15 rfl rfl)
abbrev cX3_hay : ByteArray := prog_9_method_77_code
def yX3_hay : MethodName := ⟨RX3, "hay", "(I)I"⟩
def dkwX3_hay_3 : List UInt8 := [167, 255, 216, 42, 3, 181, 0, 91, 42, 28, 182, 0, 230, 29, 172]
abbrev dktX3_hay_3 : List UInt8 := dkwX3_hay_3 ++ []
def dkwX3_hay_2 : List UInt8 := [180, 0, 19, 21, 4, 46, 161, 0, 10, 4, 21, 4, 120, 167, 0, 4, 3, 128, 62, 132, 4, 1]
abbrev dktX3_hay_2 : List UInt8 := dkwX3_hay_2 ++ dktX3_hay_3
def dkwX3_hay_1 : List UInt8 := [62, 3, 54, 4, 21, 4, 42, 180, 0, 94, 162, 0, 37, 29, 42, 180, 0, 59, 21, 4, 46, 42]
abbrev dktX3_hay_1 : List UInt8 := dkwX3_hay_1 ++ dktX3_hay_2
def dkwX3_hay_0 : List UInt8 := [42, 3, 181, 0, 87, 27, 3, 16, 60, 184, 0, 97, 154, 0, 5, 2, 172, 42, 27, 182, 1, 65, 61, 3]
abbrev dktX3_hay_0 : List UInt8 := dkwX3_hay_0 ++ dktX3_hay_1
theorem dksX3_hay_0 : cX3_hay.data.toList.drop 0 = dktX3_hay_0 := by decide +kernel
theorem dksX3_hay_1 : cX3_hay.data.toList.drop 24 = dktX3_hay_1 := dk_seg dksX3_hay_0 24 rfl rfl
theorem dksX3_hay_2 : cX3_hay.data.toList.drop 46 = dktX3_hay_2 := dk_seg dksX3_hay_1 22 rfl rfl
theorem dksX3_hay_3 : cX3_hay.data.toList.drop 68 = dktX3_hay_3 := dk_seg dksX3_hay_2 22 rfl rfl
theorem dX3_hay_0 : decode cX3_hay 0 = .ok (.aload_n 0, 1) := dk_42 (dk_at dksX3_hay_0 0 rfl rfl)
theorem dX3_hay_1 : decode cX3_hay 1 = .ok (.iconst 0, 1) := dk_3 (dk_at dksX3_hay_0 1 rfl rfl)
theorem dX3_hay_2 : decode cX3_hay 2 = .ok (.putfield 87, 3) := dk_181 0 87 (dk_at dksX3_hay_0 2 rfl rfl)
theorem dX3_hay_5 : decode cX3_hay 5 = .ok (.iload_n 1, 1) := dk_27 (dk_at dksX3_hay_0 5 rfl rfl)
theorem dX3_hay_6 : decode cX3_hay 6 = .ok (.iconst 0, 1) := dk_3 (dk_at dksX3_hay_0 6 rfl rfl)
theorem dX3_hay_7 : decode cX3_hay 7 = .ok (.bipush 60, 2) := dk_16 60 (dk_at dksX3_hay_0 7 rfl rfl)
theorem dX3_hay_9 : decode cX3_hay 9 = .ok (.invokestatic 97, 3) := dk_184 0 97 (dk_at dksX3_hay_0 9 rfl rfl)
theorem dX3_hay_12 : decode cX3_hay 12 = .ok (.ifCond .ne 5, 3) := dk_154 0 5 (dk_at dksX3_hay_0 12 rfl rfl)
theorem dX3_hay_15 : decode cX3_hay 15 = .ok (.iconst (-1), 1) := dk_2 (dk_at dksX3_hay_0 15 rfl rfl)
theorem dX3_hay_16 : decode cX3_hay 16 = .ok (.ireturn, 1) := dk_172 (dk_at dksX3_hay_0 16 rfl rfl)
theorem dX3_hay_17 : decode cX3_hay 17 = .ok (.aload_n 0, 1) := dk_42 (dk_at dksX3_hay_0 17 rfl rfl)
theorem dX3_hay_18 : decode cX3_hay 18 = .ok (.iload_n 1, 1) := dk_27 (dk_at dksX3_hay_0 18 rfl rfl)
theorem dX3_hay_19 : decode cX3_hay 19 = .ok (.invokevirtual 321, 3) := dk_182 1 65 (dk_at dksX3_hay_0 19 rfl rfl)
theorem dX3_hay_22 : decode cX3_hay 22 = .ok (.istore_n 2, 1) := dk_61 (dk_at dksX3_hay_0 22 rfl rfl)
theorem dX3_hay_23 : decode cX3_hay 23 = .ok (.iconst 0, 1) := dk_3 (dk_at dksX3_hay_0 23 rfl rfl)
theorem dX3_hay_24 : decode cX3_hay 24 = .ok (.istore_n 3, 1) := dk_62 (dk_at dksX3_hay_1 0 rfl rfl)
theorem dX3_hay_25 : decode cX3_hay 25 = .ok (.iconst 0, 1) := dk_3 (dk_at dksX3_hay_1 1 rfl rfl)
theorem dX3_hay_26 : decode cX3_hay 26 = .ok (.istore 4, 2) := dk_54 4 (dk_at dksX3_hay_1 2 rfl rfl)
theorem dX3_hay_28 : decode cX3_hay 28 = .ok (.iload 4, 2) := dk_21 4 (dk_at dksX3_hay_1 4 rfl rfl)
theorem dX3_hay_30 : decode cX3_hay 30 = .ok (.aload_n 0, 1) := dk_42 (dk_at dksX3_hay_1 6 rfl rfl)
theorem dX3_hay_31 : decode cX3_hay 31 = .ok (.getfield 94, 3) := dk_180 0 94 (dk_at dksX3_hay_1 7 rfl rfl)
theorem dX3_hay_34 : decode cX3_hay 34 = .ok (.if_icmp .ge 37, 3) := dk_162 0 37 (dk_at dksX3_hay_1 10 rfl rfl)
theorem dX3_hay_37 : decode cX3_hay 37 = .ok (.iload_n 3, 1) := dk_29 (dk_at dksX3_hay_1 13 rfl rfl)
theorem dX3_hay_38 : decode cX3_hay 38 = .ok (.aload_n 0, 1) := dk_42 (dk_at dksX3_hay_1 14 rfl rfl)
theorem dX3_hay_39 : decode cX3_hay 39 = .ok (.getfield 59, 3) := dk_180 0 59 (dk_at dksX3_hay_1 15 rfl rfl)
theorem dX3_hay_42 : decode cX3_hay 42 = .ok (.iload 4, 2) := dk_21 4 (dk_at dksX3_hay_1 18 rfl rfl)
theorem dX3_hay_44 : decode cX3_hay 44 = .ok (.iaload, 1) := dk_46 (dk_at dksX3_hay_1 20 rfl rfl)
theorem dX3_hay_45 : decode cX3_hay 45 = .ok (.aload_n 0, 1) := dk_42 (dk_at dksX3_hay_1 21 rfl rfl)
theorem dX3_hay_46 : decode cX3_hay 46 = .ok (.getfield 19, 3) := dk_180 0 19 (dk_at dksX3_hay_2 0 rfl rfl)
theorem dX3_hay_49 : decode cX3_hay 49 = .ok (.iload 4, 2) := dk_21 4 (dk_at dksX3_hay_2 3 rfl rfl)
theorem dX3_hay_51 : decode cX3_hay 51 = .ok (.iaload, 1) := dk_46 (dk_at dksX3_hay_2 5 rfl rfl)
theorem dX3_hay_52 : decode cX3_hay 52 = .ok (.if_icmp .lt 10, 3) := dk_161 0 10 (dk_at dksX3_hay_2 6 rfl rfl)
theorem dX3_hay_55 : decode cX3_hay 55 = .ok (.iconst 1, 1) := dk_4 (dk_at dksX3_hay_2 9 rfl rfl)
theorem dX3_hay_56 : decode cX3_hay 56 = .ok (.iload 4, 2) := dk_21 4 (dk_at dksX3_hay_2 10 rfl rfl)
theorem dX3_hay_58 : decode cX3_hay 58 = .ok (.ishl, 1) := dk_120 (dk_at dksX3_hay_2 12 rfl rfl)
theorem dX3_hay_59 : decode cX3_hay 59 = .ok (.goto 4, 3) := dk_167 0 4 (dk_at dksX3_hay_2 13 rfl rfl)
theorem dX3_hay_62 : decode cX3_hay 62 = .ok (.iconst 0, 1) := dk_3 (dk_at dksX3_hay_2 16 rfl rfl)
theorem dX3_hay_63 : decode cX3_hay 63 = .ok (.ior, 1) := dk_128 (dk_at dksX3_hay_2 17 rfl rfl)
theorem dX3_hay_64 : decode cX3_hay 64 = .ok (.istore_n 3, 1) := dk_62 (dk_at dksX3_hay_2 18 rfl rfl)
theorem dX3_hay_65 : decode cX3_hay 65 = .ok (.iinc 4 1, 3) := dk_132 4 1 (dk_at dksX3_hay_2 19 rfl rfl)
theorem dX3_hay_68 : decode cX3_hay 68 = .ok (.goto (-40), 3) := dk_167 255 216 (dk_at dksX3_hay_3 0 rfl rfl)
theorem dX3_hay_71 : decode cX3_hay 71 = .ok (.aload_n 0, 1) := dk_42 (dk_at dksX3_hay_3 3 rfl rfl)
theorem dX3_hay_72 : decode cX3_hay 72 = .ok (.iconst 0, 1) := dk_3 (dk_at dksX3_hay_3 4 rfl rfl)
theorem dX3_hay_73 : decode cX3_hay 73 = .ok (.putfield 91, 3) := dk_181 0 91 (dk_at dksX3_hay_3 5 rfl rfl)
theorem dX3_hay_76 : decode cX3_hay 76 = .ok (.aload_n 0, 1) := dk_42 (dk_at dksX3_hay_3 8 rfl rfl)
theorem dX3_hay_77 : decode cX3_hay 77 = .ok (.iload_n 2, 1) := dk_28 (dk_at dksX3_hay_3 9 rfl rfl)
theorem dX3_hay_78 : decode cX3_hay 78 = .ok (.invokevirtual 230, 3) := dk_182 0 230 (dk_at dksX3_hay_3 10 rfl rfl)
theorem dX3_hay_81 : decode cX3_hay 81 = .ok (.iload_n 3, 1) := dk_29 (dk_at dksX3_hay_3 13 rfl rfl)
theorem dX3_hay_82 : decode cX3_hay 82 = .ok (.ireturn, 1) := dk_172 (dk_at dksX3_hay_3 14 rfl rfl)
abbrev cX3_wanting : ByteArray := prog_9_method_76_code
def yX3_wanting : MethodName := ⟨RX3, "wanting", "(I)I"⟩
def dkwX3_wanting_1 : List UInt8 := [46, 42, 180, 0, 59, 29, 46, 100, 184, 0, 165, 96, 61, 132, 3, 1, 167, 255, 225, 28, 172]
abbrev dktX3_wanting_1 : List UInt8 := dkwX3_wanting_1 ++ []
def dkwX3_wanting_0 : List UInt8 := [42, 27, 182, 1, 62, 3, 61, 3, 62, 29, 42, 180, 0, 94, 162, 0, 29, 28, 3, 42, 180, 0, 19, 29]
abbrev dktX3_wanting_0 : List UInt8 := dkwX3_wanting_0 ++ dktX3_wanting_1
theorem dksX3_wanting_0 : cX3_wanting.data.toList.drop 0 = dktX3_wanting_0 := by decide +kernel
theorem dksX3_wanting_1 : cX3_wanting.data.toList.drop 24 = dktX3_wanting_1 := dk_seg dksX3_wanting_0 24 rfl rfl
theorem dX3_wanting_0 : decode cX3_wanting 0 = .ok (.aload_n 0, 1) := dk_42 (dk_at dksX3_wanting_0 0 rfl rfl)
theorem dX3_wanting_1 : decode cX3_wanting 1 = .ok (.iload_n 1, 1) := dk_27 (dk_at dksX3_wanting_0 1 rfl rfl)
theorem dX3_wanting_2 : decode cX3_wanting 2 = .ok (.invokevirtual 318, 3) := dk_182 1 62 (dk_at dksX3_wanting_0 2 rfl rfl)
theorem dX3_wanting_5 : decode cX3_wanting 5 = .ok (.iconst 0, 1) := dk_3 (dk_at dksX3_wanting_0 5 rfl rfl)
theorem dX3_wanting_6 : decode cX3_wanting 6 = .ok (.istore_n 2, 1) := dk_61 (dk_at dksX3_wanting_0 6 rfl rfl)
theorem dX3_wanting_7 : decode cX3_wanting 7 = .ok (.iconst 0, 1) := dk_3 (dk_at dksX3_wanting_0 7 rfl rfl)
theorem dX3_wanting_8 : decode cX3_wanting 8 = .ok (.istore_n 3, 1) := dk_62 (dk_at dksX3_wanting_0 8 rfl rfl)
theorem dX3_wanting_9 : decode cX3_wanting 9 = .ok (.iload_n 3, 1) := dk_29 (dk_at dksX3_wanting_0 9 rfl rfl)
theorem dX3_wanting_10 : decode cX3_wanting 10 = .ok (.aload_n 0, 1) := dk_42 (dk_at dksX3_wanting_0 10 rfl rfl)
theorem dX3_wanting_11 : decode cX3_wanting 11 = .ok (.getfield 94, 3) := dk_180 0 94 (dk_at dksX3_wanting_0 11 rfl rfl)
theorem dX3_wanting_14 : decode cX3_wanting 14 = .ok (.if_icmp .ge 29, 3) := dk_162 0 29 (dk_at dksX3_wanting_0 14 rfl rfl)
theorem dX3_wanting_17 : decode cX3_wanting 17 = .ok (.iload_n 2, 1) := dk_28 (dk_at dksX3_wanting_0 17 rfl rfl)
theorem dX3_wanting_18 : decode cX3_wanting 18 = .ok (.iconst 0, 1) := dk_3 (dk_at dksX3_wanting_0 18 rfl rfl)
theorem dX3_wanting_19 : decode cX3_wanting 19 = .ok (.aload_n 0, 1) := dk_42 (dk_at dksX3_wanting_0 19 rfl rfl)
theorem dX3_wanting_20 : decode cX3_wanting 20 = .ok (.getfield 19, 3) := dk_180 0 19 (dk_at dksX3_wanting_0 20 rfl rfl)
theorem dX3_wanting_23 : decode cX3_wanting 23 = .ok (.iload_n 3, 1) := dk_29 (dk_at dksX3_wanting_0 23 rfl rfl)
theorem dX3_wanting_24 : decode cX3_wanting 24 = .ok (.iaload, 1) := dk_46 (dk_at dksX3_wanting_1 0 rfl rfl)
theorem dX3_wanting_25 : decode cX3_wanting 25 = .ok (.aload_n 0, 1) := dk_42 (dk_at dksX3_wanting_1 1 rfl rfl)
theorem dX3_wanting_26 : decode cX3_wanting 26 = .ok (.getfield 59, 3) := dk_180 0 59 (dk_at dksX3_wanting_1 2 rfl rfl)
theorem dX3_wanting_29 : decode cX3_wanting 29 = .ok (.iload_n 3, 1) := dk_29 (dk_at dksX3_wanting_1 5 rfl rfl)
theorem dX3_wanting_30 : decode cX3_wanting 30 = .ok (.iaload, 1) := dk_46 (dk_at dksX3_wanting_1 6 rfl rfl)
theorem dX3_wanting_31 : decode cX3_wanting 31 = .ok (.isub, 1) := dk_100 (dk_at dksX3_wanting_1 7 rfl rfl)
theorem dX3_wanting_32 : decode cX3_wanting 32 = .ok (.invokestatic 165, 3) := dk_184 0 165 (dk_at dksX3_wanting_1 8 rfl rfl)
theorem dX3_wanting_35 : decode cX3_wanting 35 = .ok (.iadd, 1) := dk_96 (dk_at dksX3_wanting_1 11 rfl rfl)
theorem dX3_wanting_36 : decode cX3_wanting 36 = .ok (.istore_n 2, 1) := dk_61 (dk_at dksX3_wanting_1 12 rfl rfl)
theorem dX3_wanting_37 : decode cX3_wanting 37 = .ok (.iinc 3 1, 3) := dk_132 3 1 (dk_at dksX3_wanting_1 13 rfl rfl)
theorem dX3_wanting_40 : decode cX3_wanting 40 = .ok (.goto (-31), 3) := dk_167 255 225 (dk_at dksX3_wanting_1 16 rfl rfl)
theorem dX3_wanting_43 : decode cX3_wanting 43 = .ok (.iload_n 2, 1) := dk_28 (dk_at dksX3_wanting_1 19 rfl rfl)
theorem dX3_wanting_44 : decode cX3_wanting 44 = .ok (.ireturn, 1) := dk_172 (dk_at dksX3_wanting_1 20 rfl rfl)
abbrev cX3_goJune : ByteArray := prog_9_method_75_code
def yX3_goJune : MethodName := ⟨RX3, "goJune", "(I)V"⟩
def dkwX3_goJune_4 : List UInt8 := [92, 46, 29, 96, 79, 132, 2, 1, 167, 255, 177, 177]
abbrev dktX3_goJune_4 : List UInt8 := dkwX3_goJune_4 ++ []
def dkwX3_goJune_3 : List UInt8 := [21, 4, 92, 46, 21, 5, 96, 79, 29, 21, 5, 100, 62, 132, 4, 1, 167, 255, 206, 42, 180, 0, 59, 28]
abbrev dktX3_goJune_3 : List UInt8 := dkwX3_goJune_3 ++ dktX3_goJune_4
def dkwX3_goJune_2 : List UInt8 := [180, 0, 9, 16, 21, 16, 7, 28, 104, 96, 21, 4, 96, 46, 184, 0, 227, 54, 5, 42, 180, 0, 59]
abbrev dktX3_goJune_2 : List UInt8 := dkwX3_goJune_2 ++ dktX3_goJune_3
def dkwX3_goJune_1 : List UInt8 := [42, 180, 0, 94, 162, 0, 77, 27, 62, 3, 54, 4, 21, 4, 42, 180, 0, 94, 162, 0, 47, 29, 42]
abbrev dktX3_goJune_1 : List UInt8 := dkwX3_goJune_1 ++ dktX3_goJune_2
def dkwX3_goJune_0 : List UInt8 := [3, 61, 28, 16, 7, 162, 0, 16, 42, 180, 0, 59, 28, 3, 79, 132, 2, 1, 167, 255, 240, 3, 61, 28]
abbrev dktX3_goJune_0 : List UInt8 := dkwX3_goJune_0 ++ dktX3_goJune_1
theorem dksX3_goJune_0 : cX3_goJune.data.toList.drop 0 = dktX3_goJune_0 := by decide +kernel
theorem dksX3_goJune_1 : cX3_goJune.data.toList.drop 24 = dktX3_goJune_1 := dk_seg dksX3_goJune_0 24 rfl rfl
theorem dksX3_goJune_2 : cX3_goJune.data.toList.drop 47 = dktX3_goJune_2 := dk_seg dksX3_goJune_1 23 rfl rfl
theorem dksX3_goJune_3 : cX3_goJune.data.toList.drop 70 = dktX3_goJune_3 := dk_seg dksX3_goJune_2 23 rfl rfl
theorem dksX3_goJune_4 : cX3_goJune.data.toList.drop 94 = dktX3_goJune_4 := dk_seg dksX3_goJune_3 24 rfl rfl
theorem dX3_goJune_0 : decode cX3_goJune 0 = .ok (.iconst 0, 1) := dk_3 (dk_at dksX3_goJune_0 0 rfl rfl)
theorem dX3_goJune_1 : decode cX3_goJune 1 = .ok (.istore_n 2, 1) := dk_61 (dk_at dksX3_goJune_0 1 rfl rfl)
theorem dX3_goJune_2 : decode cX3_goJune 2 = .ok (.iload_n 2, 1) := dk_28 (dk_at dksX3_goJune_0 2 rfl rfl)
theorem dX3_goJune_3 : decode cX3_goJune 3 = .ok (.bipush 7, 2) := dk_16 7 (dk_at dksX3_goJune_0 3 rfl rfl)
theorem dX3_goJune_5 : decode cX3_goJune 5 = .ok (.if_icmp .ge 16, 3) := dk_162 0 16 (dk_at dksX3_goJune_0 5 rfl rfl)
theorem dX3_goJune_8 : decode cX3_goJune 8 = .ok (.aload_n 0, 1) := dk_42 (dk_at dksX3_goJune_0 8 rfl rfl)
theorem dX3_goJune_9 : decode cX3_goJune 9 = .ok (.getfield 59, 3) := dk_180 0 59 (dk_at dksX3_goJune_0 9 rfl rfl)
theorem dX3_goJune_12 : decode cX3_goJune 12 = .ok (.iload_n 2, 1) := dk_28 (dk_at dksX3_goJune_0 12 rfl rfl)
theorem dX3_goJune_13 : decode cX3_goJune 13 = .ok (.iconst 0, 1) := dk_3 (dk_at dksX3_goJune_0 13 rfl rfl)
theorem dX3_goJune_14 : decode cX3_goJune 14 = .ok (.iastore, 1) := dk_79 (dk_at dksX3_goJune_0 14 rfl rfl)
theorem dX3_goJune_15 : decode cX3_goJune 15 = .ok (.iinc 2 1, 3) := dk_132 2 1 (dk_at dksX3_goJune_0 15 rfl rfl)
theorem dX3_goJune_18 : decode cX3_goJune 18 = .ok (.goto (-16), 3) := dk_167 255 240 (dk_at dksX3_goJune_0 18 rfl rfl)
theorem dX3_goJune_21 : decode cX3_goJune 21 = .ok (.iconst 0, 1) := dk_3 (dk_at dksX3_goJune_0 21 rfl rfl)
theorem dX3_goJune_22 : decode cX3_goJune 22 = .ok (.istore_n 2, 1) := dk_61 (dk_at dksX3_goJune_0 22 rfl rfl)
theorem dX3_goJune_23 : decode cX3_goJune 23 = .ok (.iload_n 2, 1) := dk_28 (dk_at dksX3_goJune_0 23 rfl rfl)
theorem dX3_goJune_24 : decode cX3_goJune 24 = .ok (.aload_n 0, 1) := dk_42 (dk_at dksX3_goJune_1 0 rfl rfl)
theorem dX3_goJune_25 : decode cX3_goJune 25 = .ok (.getfield 94, 3) := dk_180 0 94 (dk_at dksX3_goJune_1 1 rfl rfl)
theorem dX3_goJune_28 : decode cX3_goJune 28 = .ok (.if_icmp .ge 77, 3) := dk_162 0 77 (dk_at dksX3_goJune_1 4 rfl rfl)
theorem dX3_goJune_31 : decode cX3_goJune 31 = .ok (.iload_n 1, 1) := dk_27 (dk_at dksX3_goJune_1 7 rfl rfl)
theorem dX3_goJune_32 : decode cX3_goJune 32 = .ok (.istore_n 3, 1) := dk_62 (dk_at dksX3_goJune_1 8 rfl rfl)
theorem dX3_goJune_33 : decode cX3_goJune 33 = .ok (.iconst 0, 1) := dk_3 (dk_at dksX3_goJune_1 9 rfl rfl)
theorem dX3_goJune_34 : decode cX3_goJune 34 = .ok (.istore 4, 2) := dk_54 4 (dk_at dksX3_goJune_1 10 rfl rfl)
theorem dX3_goJune_36 : decode cX3_goJune 36 = .ok (.iload 4, 2) := dk_21 4 (dk_at dksX3_goJune_1 12 rfl rfl)
theorem dX3_goJune_38 : decode cX3_goJune 38 = .ok (.aload_n 0, 1) := dk_42 (dk_at dksX3_goJune_1 14 rfl rfl)
theorem dX3_goJune_39 : decode cX3_goJune 39 = .ok (.getfield 94, 3) := dk_180 0 94 (dk_at dksX3_goJune_1 15 rfl rfl)
theorem dX3_goJune_42 : decode cX3_goJune 42 = .ok (.if_icmp .ge 47, 3) := dk_162 0 47 (dk_at dksX3_goJune_1 18 rfl rfl)
theorem dX3_goJune_45 : decode cX3_goJune 45 = .ok (.iload_n 3, 1) := dk_29 (dk_at dksX3_goJune_1 21 rfl rfl)
theorem dX3_goJune_46 : decode cX3_goJune 46 = .ok (.aload_n 0, 1) := dk_42 (dk_at dksX3_goJune_1 22 rfl rfl)
theorem dX3_goJune_47 : decode cX3_goJune 47 = .ok (.getfield 9, 3) := dk_180 0 9 (dk_at dksX3_goJune_2 0 rfl rfl)
theorem dX3_goJune_50 : decode cX3_goJune 50 = .ok (.bipush 21, 2) := dk_16 21 (dk_at dksX3_goJune_2 3 rfl rfl)
theorem dX3_goJune_52 : decode cX3_goJune 52 = .ok (.bipush 7, 2) := dk_16 7 (dk_at dksX3_goJune_2 5 rfl rfl)
theorem dX3_goJune_54 : decode cX3_goJune 54 = .ok (.iload_n 2, 1) := dk_28 (dk_at dksX3_goJune_2 7 rfl rfl)
theorem dX3_goJune_55 : decode cX3_goJune 55 = .ok (.imul, 1) := dk_104 (dk_at dksX3_goJune_2 8 rfl rfl)
theorem dX3_goJune_56 : decode cX3_goJune 56 = .ok (.iadd, 1) := dk_96 (dk_at dksX3_goJune_2 9 rfl rfl)
theorem dX3_goJune_57 : decode cX3_goJune 57 = .ok (.iload 4, 2) := dk_21 4 (dk_at dksX3_goJune_2 10 rfl rfl)
theorem dX3_goJune_59 : decode cX3_goJune 59 = .ok (.iadd, 1) := dk_96 (dk_at dksX3_goJune_2 12 rfl rfl)
theorem dX3_goJune_60 : decode cX3_goJune 60 = .ok (.iaload, 1) := dk_46 (dk_at dksX3_goJune_2 13 rfl rfl)
theorem dX3_goJune_61 : decode cX3_goJune 61 = .ok (.invokestatic 227, 3) := dk_184 0 227 (dk_at dksX3_goJune_2 14 rfl rfl)
theorem dX3_goJune_64 : decode cX3_goJune 64 = .ok (.istore 5, 2) := dk_54 5 (dk_at dksX3_goJune_2 17 rfl rfl)
theorem dX3_goJune_66 : decode cX3_goJune 66 = .ok (.aload_n 0, 1) := dk_42 (dk_at dksX3_goJune_2 19 rfl rfl)
theorem dX3_goJune_67 : decode cX3_goJune 67 = .ok (.getfield 59, 3) := dk_180 0 59 (dk_at dksX3_goJune_2 20 rfl rfl)
theorem dX3_goJune_70 : decode cX3_goJune 70 = .ok (.iload 4, 2) := dk_21 4 (dk_at dksX3_goJune_3 0 rfl rfl)
theorem dX3_goJune_72 : decode cX3_goJune 72 = .ok (.dup2, 1) := dk_92 (dk_at dksX3_goJune_3 2 rfl rfl)
theorem dX3_goJune_73 : decode cX3_goJune 73 = .ok (.iaload, 1) := dk_46 (dk_at dksX3_goJune_3 3 rfl rfl)
theorem dX3_goJune_74 : decode cX3_goJune 74 = .ok (.iload 5, 2) := dk_21 5 (dk_at dksX3_goJune_3 4 rfl rfl)
theorem dX3_goJune_76 : decode cX3_goJune 76 = .ok (.iadd, 1) := dk_96 (dk_at dksX3_goJune_3 6 rfl rfl)
theorem dX3_goJune_77 : decode cX3_goJune 77 = .ok (.iastore, 1) := dk_79 (dk_at dksX3_goJune_3 7 rfl rfl)
theorem dX3_goJune_78 : decode cX3_goJune 78 = .ok (.iload_n 3, 1) := dk_29 (dk_at dksX3_goJune_3 8 rfl rfl)
theorem dX3_goJune_79 : decode cX3_goJune 79 = .ok (.iload 5, 2) := dk_21 5 (dk_at dksX3_goJune_3 9 rfl rfl)
theorem dX3_goJune_81 : decode cX3_goJune 81 = .ok (.isub, 1) := dk_100 (dk_at dksX3_goJune_3 11 rfl rfl)
theorem dX3_goJune_82 : decode cX3_goJune 82 = .ok (.istore_n 3, 1) := dk_62 (dk_at dksX3_goJune_3 12 rfl rfl)
theorem dX3_goJune_83 : decode cX3_goJune 83 = .ok (.iinc 4 1, 3) := dk_132 4 1 (dk_at dksX3_goJune_3 13 rfl rfl)
theorem dX3_goJune_86 : decode cX3_goJune 86 = .ok (.goto (-50), 3) := dk_167 255 206 (dk_at dksX3_goJune_3 16 rfl rfl)
theorem dX3_goJune_89 : decode cX3_goJune 89 = .ok (.aload_n 0, 1) := dk_42 (dk_at dksX3_goJune_3 19 rfl rfl)
theorem dX3_goJune_90 : decode cX3_goJune 90 = .ok (.getfield 59, 3) := dk_180 0 59 (dk_at dksX3_goJune_3 20 rfl rfl)
theorem dX3_goJune_93 : decode cX3_goJune 93 = .ok (.iload_n 2, 1) := dk_28 (dk_at dksX3_goJune_3 23 rfl rfl)
theorem dX3_goJune_94 : decode cX3_goJune 94 = .ok (.dup2, 1) := dk_92 (dk_at dksX3_goJune_4 0 rfl rfl)
theorem dX3_goJune_95 : decode cX3_goJune 95 = .ok (.iaload, 1) := dk_46 (dk_at dksX3_goJune_4 1 rfl rfl)
theorem dX3_goJune_96 : decode cX3_goJune 96 = .ok (.iload_n 3, 1) := dk_29 (dk_at dksX3_goJune_4 2 rfl rfl)
theorem dX3_goJune_97 : decode cX3_goJune 97 = .ok (.iadd, 1) := dk_96 (dk_at dksX3_goJune_4 3 rfl rfl)
theorem dX3_goJune_98 : decode cX3_goJune 98 = .ok (.iastore, 1) := dk_79 (dk_at dksX3_goJune_4 4 rfl rfl)
theorem dX3_goJune_99 : decode cX3_goJune 99 = .ok (.iinc 2 1, 3) := dk_132 2 1 (dk_at dksX3_goJune_4 5 rfl rfl)
theorem dX3_goJune_102 : decode cX3_goJune 102 = .ok (.goto (-79), 3) := dk_167 255 177 (dk_at dksX3_goJune_4 8 rfl rfl)
theorem dX3_goJune_105 : decode cX3_goJune 105 = .ok (.return_, 1) := dk_177 (dk_at dksX3_goJune_4 11 rfl rfl)
abbrev cX3_works : ByteArray := prog_9_method_78_code
def yX3_works : MethodName := ⟨RX3, "works", "(II)I"⟩
def dkwX3_works_4 : List UInt8 := [182, 0, 230, 27, 172]
abbrev dktX3_works_4 : List UInt8 := dkwX3_works_4 ++ []
def dkwX3_works_3 : List UInt8 := [28, 100, 4, 96, 182, 0, 230, 21, 4, 172, 132, 4, 1, 167, 255, 201, 42, 3, 181, 0, 91, 42, 16, 60]
abbrev dktX3_works_3 : List UInt8 := dkwX3_works_3 ++ dktX3_works_4
def dkwX3_works_2 : List UInt8 := [27, 104, 96, 21, 4, 96, 46, 96, 62, 29, 28, 162, 0, 6, 167, 0, 20, 42, 3, 181, 0, 91, 42, 29]
abbrev dktX3_works_2 : List UInt8 := dkwX3_works_2 ++ dktX3_works_3
def dkwX3_works_1 : List UInt8 := [172, 3, 62, 3, 54, 4, 21, 4, 42, 180, 0, 94, 162, 0, 52, 29, 42, 180, 0, 9, 16, 21, 16, 7]
abbrev dktX3_works_1 : List UInt8 := dkwX3_works_1 ++ dktX3_works_2
def dkwX3_works_0 : List UInt8 := [42, 3, 181, 0, 87, 42, 27, 182, 0, 101, 153, 0, 13, 28, 4, 16, 60, 184, 0, 97, 154, 0, 5, 2]
abbrev dktX3_works_0 : List UInt8 := dkwX3_works_0 ++ dktX3_works_1
theorem dksX3_works_0 : cX3_works.data.toList.drop 0 = dktX3_works_0 := by decide +kernel
theorem dksX3_works_1 : cX3_works.data.toList.drop 24 = dktX3_works_1 := dk_seg dksX3_works_0 24 rfl rfl
theorem dksX3_works_2 : cX3_works.data.toList.drop 48 = dktX3_works_2 := dk_seg dksX3_works_1 24 rfl rfl
theorem dksX3_works_3 : cX3_works.data.toList.drop 72 = dktX3_works_3 := dk_seg dksX3_works_2 24 rfl rfl
theorem dksX3_works_4 : cX3_works.data.toList.drop 96 = dktX3_works_4 := dk_seg dksX3_works_3 24 rfl rfl
theorem dX3_works_0 : decode cX3_works 0 = .ok (.aload_n 0, 1) := dk_42 (dk_at dksX3_works_0 0 rfl rfl)
theorem dX3_works_1 : decode cX3_works 1 = .ok (.iconst 0, 1) := dk_3 (dk_at dksX3_works_0 1 rfl rfl)
theorem dX3_works_2 : decode cX3_works 2 = .ok (.putfield 87, 3) := dk_181 0 87 (dk_at dksX3_works_0 2 rfl rfl)
theorem dX3_works_5 : decode cX3_works 5 = .ok (.aload_n 0, 1) := dk_42 (dk_at dksX3_works_0 5 rfl rfl)
theorem dX3_works_6 : decode cX3_works 6 = .ok (.iload_n 1, 1) := dk_27 (dk_at dksX3_works_0 6 rfl rfl)
theorem dX3_works_7 : decode cX3_works 7 = .ok (.invokevirtual 101, 3) := dk_182 0 101 (dk_at dksX3_works_0 7 rfl rfl)
theorem dX3_works_10 : decode cX3_works 10 = .ok (.ifCond .eq 13, 3) := dk_153 0 13 (dk_at dksX3_works_0 10 rfl rfl)
theorem dX3_works_13 : decode cX3_works 13 = .ok (.iload_n 2, 1) := dk_28 (dk_at dksX3_works_0 13 rfl rfl)
theorem dX3_works_14 : decode cX3_works 14 = .ok (.iconst 1, 1) := dk_4 (dk_at dksX3_works_0 14 rfl rfl)
theorem dX3_works_15 : decode cX3_works 15 = .ok (.bipush 60, 2) := dk_16 60 (dk_at dksX3_works_0 15 rfl rfl)
theorem dX3_works_17 : decode cX3_works 17 = .ok (.invokestatic 97, 3) := dk_184 0 97 (dk_at dksX3_works_0 17 rfl rfl)
theorem dX3_works_20 : decode cX3_works 20 = .ok (.ifCond .ne 5, 3) := dk_154 0 5 (dk_at dksX3_works_0 20 rfl rfl)
theorem dX3_works_23 : decode cX3_works 23 = .ok (.iconst (-1), 1) := dk_2 (dk_at dksX3_works_0 23 rfl rfl)
theorem dX3_works_24 : decode cX3_works 24 = .ok (.ireturn, 1) := dk_172 (dk_at dksX3_works_1 0 rfl rfl)
theorem dX3_works_25 : decode cX3_works 25 = .ok (.iconst 0, 1) := dk_3 (dk_at dksX3_works_1 1 rfl rfl)
theorem dX3_works_26 : decode cX3_works 26 = .ok (.istore_n 3, 1) := dk_62 (dk_at dksX3_works_1 2 rfl rfl)
theorem dX3_works_27 : decode cX3_works 27 = .ok (.iconst 0, 1) := dk_3 (dk_at dksX3_works_1 3 rfl rfl)
theorem dX3_works_28 : decode cX3_works 28 = .ok (.istore 4, 2) := dk_54 4 (dk_at dksX3_works_1 4 rfl rfl)
theorem dX3_works_30 : decode cX3_works 30 = .ok (.iload 4, 2) := dk_21 4 (dk_at dksX3_works_1 6 rfl rfl)
theorem dX3_works_32 : decode cX3_works 32 = .ok (.aload_n 0, 1) := dk_42 (dk_at dksX3_works_1 8 rfl rfl)
theorem dX3_works_33 : decode cX3_works 33 = .ok (.getfield 94, 3) := dk_180 0 94 (dk_at dksX3_works_1 9 rfl rfl)
theorem dX3_works_36 : decode cX3_works 36 = .ok (.if_icmp .ge 52, 3) := dk_162 0 52 (dk_at dksX3_works_1 12 rfl rfl)
theorem dX3_works_39 : decode cX3_works 39 = .ok (.iload_n 3, 1) := dk_29 (dk_at dksX3_works_1 15 rfl rfl)
theorem dX3_works_40 : decode cX3_works 40 = .ok (.aload_n 0, 1) := dk_42 (dk_at dksX3_works_1 16 rfl rfl)
theorem dX3_works_41 : decode cX3_works 41 = .ok (.getfield 9, 3) := dk_180 0 9 (dk_at dksX3_works_1 17 rfl rfl)
theorem dX3_works_44 : decode cX3_works 44 = .ok (.bipush 21, 2) := dk_16 21 (dk_at dksX3_works_1 20 rfl rfl)
theorem dX3_works_46 : decode cX3_works 46 = .ok (.bipush 7, 2) := dk_16 7 (dk_at dksX3_works_1 22 rfl rfl)
theorem dX3_works_48 : decode cX3_works 48 = .ok (.iload_n 1, 1) := dk_27 (dk_at dksX3_works_2 0 rfl rfl)
theorem dX3_works_49 : decode cX3_works 49 = .ok (.imul, 1) := dk_104 (dk_at dksX3_works_2 1 rfl rfl)
theorem dX3_works_50 : decode cX3_works 50 = .ok (.iadd, 1) := dk_96 (dk_at dksX3_works_2 2 rfl rfl)
theorem dX3_works_51 : decode cX3_works 51 = .ok (.iload 4, 2) := dk_21 4 (dk_at dksX3_works_2 3 rfl rfl)
theorem dX3_works_53 : decode cX3_works 53 = .ok (.iadd, 1) := dk_96 (dk_at dksX3_works_2 5 rfl rfl)
theorem dX3_works_54 : decode cX3_works 54 = .ok (.iaload, 1) := dk_46 (dk_at dksX3_works_2 6 rfl rfl)
theorem dX3_works_55 : decode cX3_works 55 = .ok (.iadd, 1) := dk_96 (dk_at dksX3_works_2 7 rfl rfl)
theorem dX3_works_56 : decode cX3_works 56 = .ok (.istore_n 3, 1) := dk_62 (dk_at dksX3_works_2 8 rfl rfl)
theorem dX3_works_57 : decode cX3_works 57 = .ok (.iload_n 3, 1) := dk_29 (dk_at dksX3_works_2 9 rfl rfl)
theorem dX3_works_58 : decode cX3_works 58 = .ok (.iload_n 2, 1) := dk_28 (dk_at dksX3_works_2 10 rfl rfl)
theorem dX3_works_59 : decode cX3_works 59 = .ok (.if_icmp .ge 6, 3) := dk_162 0 6 (dk_at dksX3_works_2 11 rfl rfl)
theorem dX3_works_62 : decode cX3_works 62 = .ok (.goto 20, 3) := dk_167 0 20 (dk_at dksX3_works_2 14 rfl rfl)
theorem dX3_works_65 : decode cX3_works 65 = .ok (.aload_n 0, 1) := dk_42 (dk_at dksX3_works_2 17 rfl rfl)
theorem dX3_works_66 : decode cX3_works 66 = .ok (.iconst 0, 1) := dk_3 (dk_at dksX3_works_2 18 rfl rfl)
theorem dX3_works_67 : decode cX3_works 67 = .ok (.putfield 91, 3) := dk_181 0 91 (dk_at dksX3_works_2 19 rfl rfl)
theorem dX3_works_70 : decode cX3_works 70 = .ok (.aload_n 0, 1) := dk_42 (dk_at dksX3_works_2 22 rfl rfl)
theorem dX3_works_71 : decode cX3_works 71 = .ok (.iload_n 3, 1) := dk_29 (dk_at dksX3_works_2 23 rfl rfl)
theorem dX3_works_72 : decode cX3_works 72 = .ok (.iload_n 2, 1) := dk_28 (dk_at dksX3_works_3 0 rfl rfl)
theorem dX3_works_73 : decode cX3_works 73 = .ok (.isub, 1) := dk_100 (dk_at dksX3_works_3 1 rfl rfl)
theorem dX3_works_74 : decode cX3_works 74 = .ok (.iconst 1, 1) := dk_4 (dk_at dksX3_works_3 2 rfl rfl)
theorem dX3_works_75 : decode cX3_works 75 = .ok (.iadd, 1) := dk_96 (dk_at dksX3_works_3 3 rfl rfl)
theorem dX3_works_76 : decode cX3_works 76 = .ok (.invokevirtual 230, 3) := dk_182 0 230 (dk_at dksX3_works_3 4 rfl rfl)
theorem dX3_works_79 : decode cX3_works 79 = .ok (.iload 4, 2) := dk_21 4 (dk_at dksX3_works_3 7 rfl rfl)
theorem dX3_works_81 : decode cX3_works 81 = .ok (.ireturn, 1) := dk_172 (dk_at dksX3_works_3 9 rfl rfl)
theorem dX3_works_82 : decode cX3_works 82 = .ok (.iinc 4 1, 3) := dk_132 4 1 (dk_at dksX3_works_3 10 rfl rfl)
theorem dX3_works_85 : decode cX3_works 85 = .ok (.goto (-55), 3) := dk_167 255 201 (dk_at dksX3_works_3 13 rfl rfl)
theorem dX3_works_88 : decode cX3_works 88 = .ok (.aload_n 0, 1) := dk_42 (dk_at dksX3_works_3 16 rfl rfl)
theorem dX3_works_89 : decode cX3_works 89 = .ok (.iconst 0, 1) := dk_3 (dk_at dksX3_works_3 17 rfl rfl)
theorem dX3_works_90 : decode cX3_works 90 = .ok (.putfield 91, 3) := dk_181 0 91 (dk_at dksX3_works_3 18 rfl rfl)
theorem dX3_works_93 : decode cX3_works 93 = .ok (.aload_n 0, 1) := dk_42 (dk_at dksX3_works_3 21 rfl rfl)
theorem dX3_works_94 : decode cX3_works 94 = .ok (.bipush 60, 2) := dk_16 60 (dk_at dksX3_works_3 22 rfl rfl)
theorem dX3_works_96 : decode cX3_works 96 = .ok (.invokevirtual 230, 3) := dk_182 0 230 (dk_at dksX3_works_4 0 rfl rfl)
theorem dX3_works_99 : decode cX3_works 99 = .ok (.iload_n 1, 1) := dk_27 (dk_at dksX3_works_4 3 rfl rfl)
theorem dX3_works_100 : decode cX3_works 100 = .ok (.ireturn, 1) := dk_172 (dk_at dksX3_works_4 4 rfl rfl)
abbrev cX3_summer : ByteArray := prog_9_method_79_code
def yX3_summer : MethodName := ⟨RX3, "summer", "()I"⟩
def dkwX3_summer_1 : List UInt8 := [132, 1, 1, 167, 255, 237, 16, 254, 172]
abbrev dktX3_summer_1 : List UInt8 := dkwX3_summer_1 ++ []
def dkwX3_summer_0 : List UInt8 := [42, 3, 181, 0, 87, 3, 60, 27, 16, 60, 163, 0, 19, 42, 27, 182, 1, 65, 154, 0, 5, 27, 172]
abbrev dktX3_summer_0 : List UInt8 := dkwX3_summer_0 ++ dktX3_summer_1
theorem dksX3_summer_0 : cX3_summer.data.toList.drop 0 = dktX3_summer_0 := by decide +kernel
theorem dksX3_summer_1 : cX3_summer.data.toList.drop 23 = dktX3_summer_1 := dk_seg dksX3_summer_0 23 rfl rfl
theorem dX3_summer_0 : decode cX3_summer 0 = .ok (.aload_n 0, 1) := dk_42 (dk_at dksX3_summer_0 0 rfl rfl)
theorem dX3_summer_1 : decode cX3_summer 1 = .ok (.iconst 0, 1) := dk_3 (dk_at dksX3_summer_0 1 rfl rfl)
theorem dX3_summer_2 : decode cX3_summer 2 = .ok (.putfield 87, 3) := dk_181 0 87 (dk_at dksX3_summer_0 2 rfl rfl)
theorem dX3_summer_5 : decode cX3_summer 5 = .ok (.iconst 0, 1) := dk_3 (dk_at dksX3_summer_0 5 rfl rfl)
theorem dX3_summer_6 : decode cX3_summer 6 = .ok (.istore_n 1, 1) := dk_60 (dk_at dksX3_summer_0 6 rfl rfl)
theorem dX3_summer_7 : decode cX3_summer 7 = .ok (.iload_n 1, 1) := dk_27 (dk_at dksX3_summer_0 7 rfl rfl)
theorem dX3_summer_8 : decode cX3_summer 8 = .ok (.bipush 60, 2) := dk_16 60 (dk_at dksX3_summer_0 8 rfl rfl)
theorem dX3_summer_10 : decode cX3_summer 10 = .ok (.if_icmp .gt 19, 3) := dk_163 0 19 (dk_at dksX3_summer_0 10 rfl rfl)
theorem dX3_summer_13 : decode cX3_summer 13 = .ok (.aload_n 0, 1) := dk_42 (dk_at dksX3_summer_0 13 rfl rfl)
theorem dX3_summer_14 : decode cX3_summer 14 = .ok (.iload_n 1, 1) := dk_27 (dk_at dksX3_summer_0 14 rfl rfl)
theorem dX3_summer_15 : decode cX3_summer 15 = .ok (.invokevirtual 321, 3) := dk_182 1 65 (dk_at dksX3_summer_0 15 rfl rfl)
theorem dX3_summer_18 : decode cX3_summer 18 = .ok (.ifCond .ne 5, 3) := dk_154 0 5 (dk_at dksX3_summer_0 18 rfl rfl)
theorem dX3_summer_21 : decode cX3_summer 21 = .ok (.iload_n 1, 1) := dk_27 (dk_at dksX3_summer_0 21 rfl rfl)
theorem dX3_summer_22 : decode cX3_summer 22 = .ok (.ireturn, 1) := dk_172 (dk_at dksX3_summer_0 22 rfl rfl)
theorem dX3_summer_23 : decode cX3_summer 23 = .ok (.iinc 1 1, 3) := dk_132 1 1 (dk_at dksX3_summer_1 0 rfl rfl)
theorem dX3_summer_26 : decode cX3_summer 26 = .ok (.goto (-19), 3) := dk_167 255 237 (dk_at dksX3_summer_1 3 rfl rfl)
theorem dX3_summer_29 : decode cX3_summer 29 = .ok (.bipush (-2), 2) := dk_16 254 (dk_at dksX3_summer_1 6 rfl rfl)
theorem dX3_summer_31 : decode cX3_summer 31 = .ok (.ireturn, 1) := dk_172 (dk_at dksX3_summer_1 8 rfl rfl)
abbrev cX3_ahead : ByteArray := prog_9_method_82_code
def yX3_ahead : MethodName := ⟨RX3, "ahead", "(I)I"⟩
def dkwX3_ahead_2 : List UInt8 := [46, 182, 0, 230, 132, 2, 1, 167, 255, 235, 42, 180, 0, 240, 172]
abbrev dktX3_ahead_2 : List UInt8 := dkwX3_ahead_2 ++ []
def dkwX3_ahead_1 : List UInt8 := [42, 42, 180, 0, 237, 182, 0, 230, 3, 61, 28, 42, 180, 0, 94, 162, 0, 19, 42, 42, 180, 0, 38, 28]
abbrev dktX3_ahead_1 : List UInt8 := dkwX3_ahead_1 ++ dktX3_ahead_2
def dkwX3_ahead_0 : List UInt8 := [42, 3, 181, 0, 87, 27, 184, 1, 68, 154, 0, 5, 2, 172, 42, 27, 182, 1, 71, 42, 3, 181, 0, 91]
abbrev dktX3_ahead_0 : List UInt8 := dkwX3_ahead_0 ++ dktX3_ahead_1
theorem dksX3_ahead_0 : cX3_ahead.data.toList.drop 0 = dktX3_ahead_0 := by decide +kernel
theorem dksX3_ahead_1 : cX3_ahead.data.toList.drop 24 = dktX3_ahead_1 := dk_seg dksX3_ahead_0 24 rfl rfl
theorem dksX3_ahead_2 : cX3_ahead.data.toList.drop 48 = dktX3_ahead_2 := dk_seg dksX3_ahead_1 24 rfl rfl
theorem dX3_ahead_0 : decode cX3_ahead 0 = .ok (.aload_n 0, 1) := dk_42 (dk_at dksX3_ahead_0 0 rfl rfl)
theorem dX3_ahead_1 : decode cX3_ahead 1 = .ok (.iconst 0, 1) := dk_3 (dk_at dksX3_ahead_0 1 rfl rfl)
theorem dX3_ahead_2 : decode cX3_ahead 2 = .ok (.putfield 87, 3) := dk_181 0 87 (dk_at dksX3_ahead_0 2 rfl rfl)
theorem dX3_ahead_5 : decode cX3_ahead 5 = .ok (.iload_n 1, 1) := dk_27 (dk_at dksX3_ahead_0 5 rfl rfl)
theorem dX3_ahead_6 : decode cX3_ahead 6 = .ok (.invokestatic 324, 3) := dk_184 1 68 (dk_at dksX3_ahead_0 6 rfl rfl)
theorem dX3_ahead_9 : decode cX3_ahead 9 = .ok (.ifCond .ne 5, 3) := dk_154 0 5 (dk_at dksX3_ahead_0 9 rfl rfl)
theorem dX3_ahead_12 : decode cX3_ahead 12 = .ok (.iconst (-1), 1) := dk_2 (dk_at dksX3_ahead_0 12 rfl rfl)
theorem dX3_ahead_13 : decode cX3_ahead 13 = .ok (.ireturn, 1) := dk_172 (dk_at dksX3_ahead_0 13 rfl rfl)
theorem dX3_ahead_14 : decode cX3_ahead 14 = .ok (.aload_n 0, 1) := dk_42 (dk_at dksX3_ahead_0 14 rfl rfl)
theorem dX3_ahead_15 : decode cX3_ahead 15 = .ok (.iload_n 1, 1) := dk_27 (dk_at dksX3_ahead_0 15 rfl rfl)
theorem dX3_ahead_16 : decode cX3_ahead 16 = .ok (.invokevirtual 327, 3) := dk_182 1 71 (dk_at dksX3_ahead_0 16 rfl rfl)
theorem dX3_ahead_19 : decode cX3_ahead 19 = .ok (.aload_n 0, 1) := dk_42 (dk_at dksX3_ahead_0 19 rfl rfl)
theorem dX3_ahead_20 : decode cX3_ahead 20 = .ok (.iconst 0, 1) := dk_3 (dk_at dksX3_ahead_0 20 rfl rfl)
theorem dX3_ahead_21 : decode cX3_ahead 21 = .ok (.putfield 91, 3) := dk_181 0 91 (dk_at dksX3_ahead_0 21 rfl rfl)
theorem dX3_ahead_24 : decode cX3_ahead 24 = .ok (.aload_n 0, 1) := dk_42 (dk_at dksX3_ahead_1 0 rfl rfl)
theorem dX3_ahead_25 : decode cX3_ahead 25 = .ok (.aload_n 0, 1) := dk_42 (dk_at dksX3_ahead_1 1 rfl rfl)
theorem dX3_ahead_26 : decode cX3_ahead 26 = .ok (.getfield 237, 3) := dk_180 0 237 (dk_at dksX3_ahead_1 2 rfl rfl)
theorem dX3_ahead_29 : decode cX3_ahead 29 = .ok (.invokevirtual 230, 3) := dk_182 0 230 (dk_at dksX3_ahead_1 5 rfl rfl)
theorem dX3_ahead_32 : decode cX3_ahead 32 = .ok (.iconst 0, 1) := dk_3 (dk_at dksX3_ahead_1 8 rfl rfl)
theorem dX3_ahead_33 : decode cX3_ahead 33 = .ok (.istore_n 2, 1) := dk_61 (dk_at dksX3_ahead_1 9 rfl rfl)
theorem dX3_ahead_34 : decode cX3_ahead 34 = .ok (.iload_n 2, 1) := dk_28 (dk_at dksX3_ahead_1 10 rfl rfl)
theorem dX3_ahead_35 : decode cX3_ahead 35 = .ok (.aload_n 0, 1) := dk_42 (dk_at dksX3_ahead_1 11 rfl rfl)
theorem dX3_ahead_36 : decode cX3_ahead 36 = .ok (.getfield 94, 3) := dk_180 0 94 (dk_at dksX3_ahead_1 12 rfl rfl)
theorem dX3_ahead_39 : decode cX3_ahead 39 = .ok (.if_icmp .ge 19, 3) := dk_162 0 19 (dk_at dksX3_ahead_1 15 rfl rfl)
theorem dX3_ahead_42 : decode cX3_ahead 42 = .ok (.aload_n 0, 1) := dk_42 (dk_at dksX3_ahead_1 18 rfl rfl)
theorem dX3_ahead_43 : decode cX3_ahead 43 = .ok (.aload_n 0, 1) := dk_42 (dk_at dksX3_ahead_1 19 rfl rfl)
theorem dX3_ahead_44 : decode cX3_ahead 44 = .ok (.getfield 38, 3) := dk_180 0 38 (dk_at dksX3_ahead_1 20 rfl rfl)
theorem dX3_ahead_47 : decode cX3_ahead 47 = .ok (.iload_n 2, 1) := dk_28 (dk_at dksX3_ahead_1 23 rfl rfl)
theorem dX3_ahead_48 : decode cX3_ahead 48 = .ok (.iaload, 1) := dk_46 (dk_at dksX3_ahead_2 0 rfl rfl)
theorem dX3_ahead_49 : decode cX3_ahead 49 = .ok (.invokevirtual 230, 3) := dk_182 0 230 (dk_at dksX3_ahead_2 1 rfl rfl)
theorem dX3_ahead_52 : decode cX3_ahead 52 = .ok (.iinc 2 1, 3) := dk_132 2 1 (dk_at dksX3_ahead_2 4 rfl rfl)
theorem dX3_ahead_55 : decode cX3_ahead 55 = .ok (.goto (-21), 3) := dk_167 255 235 (dk_at dksX3_ahead_2 7 rfl rfl)
theorem dX3_ahead_58 : decode cX3_ahead 58 = .ok (.aload_n 0, 1) := dk_42 (dk_at dksX3_ahead_2 10 rfl rfl)
theorem dX3_ahead_59 : decode cX3_ahead 59 = .ok (.getfield 240, 3) := dk_180 0 240 (dk_at dksX3_ahead_2 11 rfl rfl)
theorem dX3_ahead_62 : decode cX3_ahead 62 = .ok (.ireturn, 1) := dk_172 (dk_at dksX3_ahead_2 14 rfl rfl)
abbrev cX3_isDays : ByteArray := prog_9_method_81_code
def yX3_isDays : MethodName := ⟨RX3, "isDays", "(I)Z"⟩
def dkwX3_isDays_0 : List UInt8 := [26, 3, 16, 60, 184, 0, 97, 172]
abbrev dktX3_isDays_0 : List UInt8 := dkwX3_isDays_0 ++ []
theorem dksX3_isDays_0 : cX3_isDays.data.toList.drop 0 = dktX3_isDays_0 := by decide +kernel
theorem dX3_isDays_0 : decode cX3_isDays 0 = .ok (.iload_n 0, 1) := dk_26 (dk_at dksX3_isDays_0 0 rfl rfl)
theorem dX3_isDays_1 : decode cX3_isDays 1 = .ok (.iconst 0, 1) := dk_3 (dk_at dksX3_isDays_0 1 rfl rfl)
theorem dX3_isDays_2 : decode cX3_isDays 2 = .ok (.bipush 60, 2) := dk_16 60 (dk_at dksX3_isDays_0 2 rfl rfl)
theorem dX3_isDays_4 : decode cX3_isDays 4 = .ok (.invokestatic 97, 3) := dk_184 0 97 (dk_at dksX3_isDays_0 4 rfl rfl)
theorem dX3_isDays_7 : decode cX3_isDays 7 = .ok (.ireturn, 1) := dk_172 (dk_at dksX3_isDays_0 7 rfl rfl)
abbrev cX3_goOn : ByteArray := prog_9_method_80_code
def yX3_goOn : MethodName := ⟨RX3, "goOn", "(I)V"⟩
def dkwX3_goOn_1 : List UInt8 := [42, 180, 0, 62, 182, 1, 4, 132, 2, 1, 167, 255, 240, 177]
abbrev dktX3_goOn_1 : List UInt8 := dkwX3_goOn_1 ++ []
def dkwX3_goOn_0 : List UInt8 := [42, 182, 1, 1, 42, 180, 0, 9, 42, 180, 0, 62, 3, 184, 0, 253, 3, 61, 28, 27, 162, 0, 17, 42]
abbrev dktX3_goOn_0 : List UInt8 := dkwX3_goOn_0 ++ dktX3_goOn_1
theorem dksX3_goOn_0 : cX3_goOn.data.toList.drop 0 = dktX3_goOn_0 := by decide +kernel
theorem dksX3_goOn_1 : cX3_goOn.data.toList.drop 24 = dktX3_goOn_1 := dk_seg dksX3_goOn_0 24 rfl rfl
theorem dX3_goOn_0 : decode cX3_goOn 0 = .ok (.aload_n 0, 1) := dk_42 (dk_at dksX3_goOn_0 0 rfl rfl)
theorem dX3_goOn_1 : decode cX3_goOn 1 = .ok (.invokevirtual 257, 3) := dk_182 1 1 (dk_at dksX3_goOn_0 1 rfl rfl)
theorem dX3_goOn_4 : decode cX3_goOn 4 = .ok (.aload_n 0, 1) := dk_42 (dk_at dksX3_goOn_0 4 rfl rfl)
theorem dX3_goOn_5 : decode cX3_goOn 5 = .ok (.getfield 9, 3) := dk_180 0 9 (dk_at dksX3_goOn_0 5 rfl rfl)
theorem dX3_goOn_8 : decode cX3_goOn 8 = .ok (.aload_n 0, 1) := dk_42 (dk_at dksX3_goOn_0 8 rfl rfl)
theorem dX3_goOn_9 : decode cX3_goOn 9 = .ok (.getfield 62, 3) := dk_180 0 62 (dk_at dksX3_goOn_0 9 rfl rfl)
theorem dX3_goOn_12 : decode cX3_goOn 12 = .ok (.iconst 0, 1) := dk_3 (dk_at dksX3_goOn_0 12 rfl rfl)
theorem dX3_goOn_13 : decode cX3_goOn 13 = .ok (.invokestatic 253, 3) := dk_184 0 253 (dk_at dksX3_goOn_0 13 rfl rfl)
theorem dX3_goOn_16 : decode cX3_goOn 16 = .ok (.iconst 0, 1) := dk_3 (dk_at dksX3_goOn_0 16 rfl rfl)
theorem dX3_goOn_17 : decode cX3_goOn 17 = .ok (.istore_n 2, 1) := dk_61 (dk_at dksX3_goOn_0 17 rfl rfl)
theorem dX3_goOn_18 : decode cX3_goOn 18 = .ok (.iload_n 2, 1) := dk_28 (dk_at dksX3_goOn_0 18 rfl rfl)
theorem dX3_goOn_19 : decode cX3_goOn 19 = .ok (.iload_n 1, 1) := dk_27 (dk_at dksX3_goOn_0 19 rfl rfl)
theorem dX3_goOn_20 : decode cX3_goOn 20 = .ok (.if_icmp .ge 17, 3) := dk_162 0 17 (dk_at dksX3_goOn_0 20 rfl rfl)
theorem dX3_goOn_23 : decode cX3_goOn 23 = .ok (.aload_n 0, 1) := dk_42 (dk_at dksX3_goOn_0 23 rfl rfl)
theorem dX3_goOn_24 : decode cX3_goOn 24 = .ok (.aload_n 0, 1) := dk_42 (dk_at dksX3_goOn_1 0 rfl rfl)
theorem dX3_goOn_25 : decode cX3_goOn 25 = .ok (.getfield 62, 3) := dk_180 0 62 (dk_at dksX3_goOn_1 1 rfl rfl)
theorem dX3_goOn_28 : decode cX3_goOn 28 = .ok (.invokevirtual 260, 3) := dk_182 1 4 (dk_at dksX3_goOn_1 4 rfl rfl)
theorem dX3_goOn_31 : decode cX3_goOn 31 = .ok (.iinc 2 1, 3) := dk_132 2 1 (dk_at dksX3_goOn_1 7 rfl rfl)
theorem dX3_goOn_34 : decode cX3_goOn 34 = .ok (.goto (-16), 3) := dk_167 255 240 (dk_at dksX3_goOn_1 10 rfl rfl)
theorem dX3_goOn_37 : decode cX3_goOn 37 = .ok (.return_, 1) := dk_177 (dk_at dksX3_goOn_1 13 rfl rfl)
abbrev cX3_slides : ByteArray := prog_9_method_83_code
def yX3_slides : MethodName := ⟨RX3, "slides", "(I)I"⟩
def dkwX3_slides_5 : List UInt8 := [167, 255, 168, 16, 254, 172]
abbrev dktX3_slides_5 : List UInt8 := dkwX3_slides_5 ++ []
def dkwX3_slides_4 : List UInt8 := [167, 0, 4, 3, 54, 4, 42, 42, 180, 0, 62, 182, 1, 4, 21, 4, 153, 0, 5, 28, 172, 132, 2, 1]
abbrev dktX3_slides_4 : List UInt8 := dkwX3_slides_4 ++ dktX3_slides_5
def dkwX3_slides_3 : List UInt8 := [5, 108, 46, 42, 42, 180, 0, 62, 16, 70, 46, 182, 0, 199, 100, 184, 0, 165, 164, 0, 7, 4]
abbrev dktX3_slides_3 : List UInt8 := dkwX3_slides_3 ++ dktX3_slides_4
def dkwX3_slides_2 : List UInt8 := [180, 0, 62, 16, 70, 46, 182, 0, 161, 96, 184, 0, 227, 184, 0, 165, 62, 29, 3, 42, 180, 0, 13, 27]
abbrev dktX3_slides_2 : List UInt8 := dkwX3_slides_2 ++ dktX3_slides_3
def dkwX3_slides_1 : List UInt8 := [184, 0, 253, 4, 61, 28, 16, 60, 163, 0, 88, 3, 17, 3, 231, 42, 180, 0, 62, 27, 46, 42, 42]
abbrev dktX3_slides_1 : List UInt8 := dkwX3_slides_1 ++ dktX3_slides_2
def dkwX3_slides_0 : List UInt8 := [42, 3, 181, 0, 87, 42, 27, 182, 1, 18, 154, 0, 5, 2, 172, 42, 180, 0, 9, 42, 180, 0, 62, 3]
abbrev dktX3_slides_0 : List UInt8 := dkwX3_slides_0 ++ dktX3_slides_1
theorem dksX3_slides_0 : cX3_slides.data.toList.drop 0 = dktX3_slides_0 := by decide +kernel
theorem dksX3_slides_1 : cX3_slides.data.toList.drop 24 = dktX3_slides_1 := dk_seg dksX3_slides_0 24 rfl rfl
theorem dksX3_slides_2 : cX3_slides.data.toList.drop 47 = dktX3_slides_2 := dk_seg dksX3_slides_1 23 rfl rfl
theorem dksX3_slides_3 : cX3_slides.data.toList.drop 71 = dktX3_slides_3 := dk_seg dksX3_slides_2 24 rfl rfl
theorem dksX3_slides_4 : cX3_slides.data.toList.drop 93 = dktX3_slides_4 := dk_seg dksX3_slides_3 22 rfl rfl
theorem dksX3_slides_5 : cX3_slides.data.toList.drop 117 = dktX3_slides_5 := dk_seg dksX3_slides_4 24 rfl rfl
theorem dX3_slides_0 : decode cX3_slides 0 = .ok (.aload_n 0, 1) := dk_42 (dk_at dksX3_slides_0 0 rfl rfl)
theorem dX3_slides_1 : decode cX3_slides 1 = .ok (.iconst 0, 1) := dk_3 (dk_at dksX3_slides_0 1 rfl rfl)
theorem dX3_slides_2 : decode cX3_slides 2 = .ok (.putfield 87, 3) := dk_181 0 87 (dk_at dksX3_slides_0 2 rfl rfl)
theorem dX3_slides_5 : decode cX3_slides 5 = .ok (.aload_n 0, 1) := dk_42 (dk_at dksX3_slides_0 5 rfl rfl)
theorem dX3_slides_6 : decode cX3_slides 6 = .ok (.iload_n 1, 1) := dk_27 (dk_at dksX3_slides_0 6 rfl rfl)
theorem dX3_slides_7 : decode cX3_slides 7 = .ok (.invokevirtual 274, 3) := dk_182 1 18 (dk_at dksX3_slides_0 7 rfl rfl)
theorem dX3_slides_10 : decode cX3_slides 10 = .ok (.ifCond .ne 5, 3) := dk_154 0 5 (dk_at dksX3_slides_0 10 rfl rfl)
theorem dX3_slides_13 : decode cX3_slides 13 = .ok (.iconst (-1), 1) := dk_2 (dk_at dksX3_slides_0 13 rfl rfl)
theorem dX3_slides_14 : decode cX3_slides 14 = .ok (.ireturn, 1) := dk_172 (dk_at dksX3_slides_0 14 rfl rfl)
theorem dX3_slides_15 : decode cX3_slides 15 = .ok (.aload_n 0, 1) := dk_42 (dk_at dksX3_slides_0 15 rfl rfl)
theorem dX3_slides_16 : decode cX3_slides 16 = .ok (.getfield 9, 3) := dk_180 0 9 (dk_at dksX3_slides_0 16 rfl rfl)
theorem dX3_slides_19 : decode cX3_slides 19 = .ok (.aload_n 0, 1) := dk_42 (dk_at dksX3_slides_0 19 rfl rfl)
theorem dX3_slides_20 : decode cX3_slides 20 = .ok (.getfield 62, 3) := dk_180 0 62 (dk_at dksX3_slides_0 20 rfl rfl)
theorem dX3_slides_23 : decode cX3_slides 23 = .ok (.iconst 0, 1) := dk_3 (dk_at dksX3_slides_0 23 rfl rfl)
theorem dX3_slides_24 : decode cX3_slides 24 = .ok (.invokestatic 253, 3) := dk_184 0 253 (dk_at dksX3_slides_1 0 rfl rfl)
theorem dX3_slides_27 : decode cX3_slides 27 = .ok (.iconst 1, 1) := dk_4 (dk_at dksX3_slides_1 3 rfl rfl)
theorem dX3_slides_28 : decode cX3_slides 28 = .ok (.istore_n 2, 1) := dk_61 (dk_at dksX3_slides_1 4 rfl rfl)
theorem dX3_slides_29 : decode cX3_slides 29 = .ok (.iload_n 2, 1) := dk_28 (dk_at dksX3_slides_1 5 rfl rfl)
theorem dX3_slides_30 : decode cX3_slides 30 = .ok (.bipush 60, 2) := dk_16 60 (dk_at dksX3_slides_1 6 rfl rfl)
theorem dX3_slides_32 : decode cX3_slides 32 = .ok (.if_icmp .gt 88, 3) := dk_163 0 88 (dk_at dksX3_slides_1 8 rfl rfl)
theorem dX3_slides_35 : decode cX3_slides 35 = .ok (.iconst 0, 1) := dk_3 (dk_at dksX3_slides_1 11 rfl rfl)
theorem dX3_slides_36 : decode cX3_slides 36 = .ok (.sipush 999, 3) := dk_17 3 231 (dk_at dksX3_slides_1 12 rfl rfl)
theorem dX3_slides_39 : decode cX3_slides 39 = .ok (.aload_n 0, 1) := dk_42 (dk_at dksX3_slides_1 15 rfl rfl)
theorem dX3_slides_40 : decode cX3_slides 40 = .ok (.getfield 62, 3) := dk_180 0 62 (dk_at dksX3_slides_1 16 rfl rfl)
theorem dX3_slides_43 : decode cX3_slides 43 = .ok (.iload_n 1, 1) := dk_27 (dk_at dksX3_slides_1 19 rfl rfl)
theorem dX3_slides_44 : decode cX3_slides 44 = .ok (.iaload, 1) := dk_46 (dk_at dksX3_slides_1 20 rfl rfl)
theorem dX3_slides_45 : decode cX3_slides 45 = .ok (.aload_n 0, 1) := dk_42 (dk_at dksX3_slides_1 21 rfl rfl)
theorem dX3_slides_46 : decode cX3_slides 46 = .ok (.aload_n 0, 1) := dk_42 (dk_at dksX3_slides_1 22 rfl rfl)
theorem dX3_slides_47 : decode cX3_slides 47 = .ok (.getfield 62, 3) := dk_180 0 62 (dk_at dksX3_slides_2 0 rfl rfl)
theorem dX3_slides_50 : decode cX3_slides 50 = .ok (.bipush 70, 2) := dk_16 70 (dk_at dksX3_slides_2 3 rfl rfl)
theorem dX3_slides_52 : decode cX3_slides 52 = .ok (.iaload, 1) := dk_46 (dk_at dksX3_slides_2 5 rfl rfl)
theorem dX3_slides_53 : decode cX3_slides 53 = .ok (.invokevirtual 161, 3) := dk_182 0 161 (dk_at dksX3_slides_2 6 rfl rfl)
theorem dX3_slides_56 : decode cX3_slides 56 = .ok (.iadd, 1) := dk_96 (dk_at dksX3_slides_2 9 rfl rfl)
theorem dX3_slides_57 : decode cX3_slides 57 = .ok (.invokestatic 227, 3) := dk_184 0 227 (dk_at dksX3_slides_2 10 rfl rfl)
theorem dX3_slides_60 : decode cX3_slides 60 = .ok (.invokestatic 165, 3) := dk_184 0 165 (dk_at dksX3_slides_2 13 rfl rfl)
theorem dX3_slides_63 : decode cX3_slides 63 = .ok (.istore_n 3, 1) := dk_62 (dk_at dksX3_slides_2 16 rfl rfl)
theorem dX3_slides_64 : decode cX3_slides 64 = .ok (.iload_n 3, 1) := dk_29 (dk_at dksX3_slides_2 17 rfl rfl)
theorem dX3_slides_65 : decode cX3_slides 65 = .ok (.iconst 0, 1) := dk_3 (dk_at dksX3_slides_2 18 rfl rfl)
theorem dX3_slides_66 : decode cX3_slides 66 = .ok (.aload_n 0, 1) := dk_42 (dk_at dksX3_slides_2 19 rfl rfl)
theorem dX3_slides_67 : decode cX3_slides 67 = .ok (.getfield 13, 3) := dk_180 0 13 (dk_at dksX3_slides_2 20 rfl rfl)
theorem dX3_slides_70 : decode cX3_slides 70 = .ok (.iload_n 1, 1) := dk_27 (dk_at dksX3_slides_2 23 rfl rfl)
theorem dX3_slides_71 : decode cX3_slides 71 = .ok (.iconst 2, 1) := dk_5 (dk_at dksX3_slides_3 0 rfl rfl)
theorem dX3_slides_72 : decode cX3_slides 72 = .ok (.idiv, 1) := dk_108 (dk_at dksX3_slides_3 1 rfl rfl)
theorem dX3_slides_73 : decode cX3_slides 73 = .ok (.iaload, 1) := dk_46 (dk_at dksX3_slides_3 2 rfl rfl)
theorem dX3_slides_74 : decode cX3_slides 74 = .ok (.aload_n 0, 1) := dk_42 (dk_at dksX3_slides_3 3 rfl rfl)
theorem dX3_slides_75 : decode cX3_slides 75 = .ok (.aload_n 0, 1) := dk_42 (dk_at dksX3_slides_3 4 rfl rfl)
theorem dX3_slides_76 : decode cX3_slides 76 = .ok (.getfield 62, 3) := dk_180 0 62 (dk_at dksX3_slides_3 5 rfl rfl)
theorem dX3_slides_79 : decode cX3_slides 79 = .ok (.bipush 70, 2) := dk_16 70 (dk_at dksX3_slides_3 8 rfl rfl)
theorem dX3_slides_81 : decode cX3_slides 81 = .ok (.iaload, 1) := dk_46 (dk_at dksX3_slides_3 10 rfl rfl)
theorem dX3_slides_82 : decode cX3_slides 82 = .ok (.invokevirtual 199, 3) := dk_182 0 199 (dk_at dksX3_slides_3 11 rfl rfl)
theorem dX3_slides_85 : decode cX3_slides 85 = .ok (.isub, 1) := dk_100 (dk_at dksX3_slides_3 14 rfl rfl)
theorem dX3_slides_86 : decode cX3_slides 86 = .ok (.invokestatic 165, 3) := dk_184 0 165 (dk_at dksX3_slides_3 15 rfl rfl)
theorem dX3_slides_89 : decode cX3_slides 89 = .ok (.if_icmp .le 7, 3) := dk_164 0 7 (dk_at dksX3_slides_3 18 rfl rfl)
theorem dX3_slides_92 : decode cX3_slides 92 = .ok (.iconst 1, 1) := dk_4 (dk_at dksX3_slides_3 21 rfl rfl)
theorem dX3_slides_93 : decode cX3_slides 93 = .ok (.goto 4, 3) := dk_167 0 4 (dk_at dksX3_slides_4 0 rfl rfl)
theorem dX3_slides_96 : decode cX3_slides 96 = .ok (.iconst 0, 1) := dk_3 (dk_at dksX3_slides_4 3 rfl rfl)
theorem dX3_slides_97 : decode cX3_slides 97 = .ok (.istore 4, 2) := dk_54 4 (dk_at dksX3_slides_4 4 rfl rfl)
theorem dX3_slides_99 : decode cX3_slides 99 = .ok (.aload_n 0, 1) := dk_42 (dk_at dksX3_slides_4 6 rfl rfl)
theorem dX3_slides_100 : decode cX3_slides 100 = .ok (.aload_n 0, 1) := dk_42 (dk_at dksX3_slides_4 7 rfl rfl)
theorem dX3_slides_101 : decode cX3_slides 101 = .ok (.getfield 62, 3) := dk_180 0 62 (dk_at dksX3_slides_4 8 rfl rfl)
theorem dX3_slides_104 : decode cX3_slides 104 = .ok (.invokevirtual 260, 3) := dk_182 1 4 (dk_at dksX3_slides_4 11 rfl rfl)
theorem dX3_slides_107 : decode cX3_slides 107 = .ok (.iload 4, 2) := dk_21 4 (dk_at dksX3_slides_4 14 rfl rfl)
theorem dX3_slides_109 : decode cX3_slides 109 = .ok (.ifCond .eq 5, 3) := dk_153 0 5 (dk_at dksX3_slides_4 16 rfl rfl)
theorem dX3_slides_112 : decode cX3_slides 112 = .ok (.iload_n 2, 1) := dk_28 (dk_at dksX3_slides_4 19 rfl rfl)
theorem dX3_slides_113 : decode cX3_slides 113 = .ok (.ireturn, 1) := dk_172 (dk_at dksX3_slides_4 20 rfl rfl)
theorem dX3_slides_114 : decode cX3_slides 114 = .ok (.iinc 2 1, 3) := dk_132 2 1 (dk_at dksX3_slides_4 21 rfl rfl)
theorem dX3_slides_117 : decode cX3_slides 117 = .ok (.goto (-88), 3) := dk_167 255 168 (dk_at dksX3_slides_5 0 rfl rfl)
theorem dX3_slides_120 : decode cX3_slides 120 = .ok (.bipush (-2), 2) := dk_16 254 (dk_at dksX3_slides_5 3 rfl rfl)
theorem dX3_slides_122 : decode cX3_slides 122 = .ok (.ireturn, 1) := dk_172 (dk_at dksX3_slides_5 5 rfl rfl)
abbrev cX3_later : ByteArray := prog_9_method_84_code
def yX3_later : MethodName := ⟨RX3, "later", "(II)I"⟩
def dkwX3_later_2 : List UInt8 := [16, 14, 29, 96, 46, 182, 0, 230, 132, 3, 1, 167, 255, 232, 42, 180, 0, 62, 27, 46, 172]
abbrev dktX3_later_2 : List UInt8 := dkwX3_later_2 ++ []
def dkwX3_later_1 : List UInt8 := [182, 1, 71, 42, 3, 181, 0, 91, 3, 62, 29, 42, 180, 0, 94, 162, 0, 22, 42, 42, 180, 0, 62]
abbrev dktX3_later_1 : List UInt8 := dkwX3_later_1 ++ dktX3_later_2
def dkwX3_later_0 : List UInt8 := [42, 3, 181, 0, 87, 42, 27, 182, 1, 18, 153, 0, 10, 28, 184, 1, 68, 154, 0, 5, 2, 172, 42, 28]
abbrev dktX3_later_0 : List UInt8 := dkwX3_later_0 ++ dktX3_later_1
theorem dksX3_later_0 : cX3_later.data.toList.drop 0 = dktX3_later_0 := by decide +kernel
theorem dksX3_later_1 : cX3_later.data.toList.drop 24 = dktX3_later_1 := dk_seg dksX3_later_0 24 rfl rfl
theorem dksX3_later_2 : cX3_later.data.toList.drop 47 = dktX3_later_2 := dk_seg dksX3_later_1 23 rfl rfl
theorem dX3_later_0 : decode cX3_later 0 = .ok (.aload_n 0, 1) := dk_42 (dk_at dksX3_later_0 0 rfl rfl)
theorem dX3_later_1 : decode cX3_later 1 = .ok (.iconst 0, 1) := dk_3 (dk_at dksX3_later_0 1 rfl rfl)
theorem dX3_later_2 : decode cX3_later 2 = .ok (.putfield 87, 3) := dk_181 0 87 (dk_at dksX3_later_0 2 rfl rfl)
theorem dX3_later_5 : decode cX3_later 5 = .ok (.aload_n 0, 1) := dk_42 (dk_at dksX3_later_0 5 rfl rfl)
theorem dX3_later_6 : decode cX3_later 6 = .ok (.iload_n 1, 1) := dk_27 (dk_at dksX3_later_0 6 rfl rfl)
theorem dX3_later_7 : decode cX3_later 7 = .ok (.invokevirtual 274, 3) := dk_182 1 18 (dk_at dksX3_later_0 7 rfl rfl)
theorem dX3_later_10 : decode cX3_later 10 = .ok (.ifCond .eq 10, 3) := dk_153 0 10 (dk_at dksX3_later_0 10 rfl rfl)
theorem dX3_later_13 : decode cX3_later 13 = .ok (.iload_n 2, 1) := dk_28 (dk_at dksX3_later_0 13 rfl rfl)
theorem dX3_later_14 : decode cX3_later 14 = .ok (.invokestatic 324, 3) := dk_184 1 68 (dk_at dksX3_later_0 14 rfl rfl)
theorem dX3_later_17 : decode cX3_later 17 = .ok (.ifCond .ne 5, 3) := dk_154 0 5 (dk_at dksX3_later_0 17 rfl rfl)
theorem dX3_later_20 : decode cX3_later 20 = .ok (.iconst (-1), 1) := dk_2 (dk_at dksX3_later_0 20 rfl rfl)
theorem dX3_later_21 : decode cX3_later 21 = .ok (.ireturn, 1) := dk_172 (dk_at dksX3_later_0 21 rfl rfl)
theorem dX3_later_22 : decode cX3_later 22 = .ok (.aload_n 0, 1) := dk_42 (dk_at dksX3_later_0 22 rfl rfl)
theorem dX3_later_23 : decode cX3_later 23 = .ok (.iload_n 2, 1) := dk_28 (dk_at dksX3_later_0 23 rfl rfl)
theorem dX3_later_24 : decode cX3_later 24 = .ok (.invokevirtual 327, 3) := dk_182 1 71 (dk_at dksX3_later_1 0 rfl rfl)
theorem dX3_later_27 : decode cX3_later 27 = .ok (.aload_n 0, 1) := dk_42 (dk_at dksX3_later_1 3 rfl rfl)
theorem dX3_later_28 : decode cX3_later 28 = .ok (.iconst 0, 1) := dk_3 (dk_at dksX3_later_1 4 rfl rfl)
theorem dX3_later_29 : decode cX3_later 29 = .ok (.putfield 91, 3) := dk_181 0 91 (dk_at dksX3_later_1 5 rfl rfl)
theorem dX3_later_32 : decode cX3_later 32 = .ok (.iconst 0, 1) := dk_3 (dk_at dksX3_later_1 8 rfl rfl)
theorem dX3_later_33 : decode cX3_later 33 = .ok (.istore_n 3, 1) := dk_62 (dk_at dksX3_later_1 9 rfl rfl)
theorem dX3_later_34 : decode cX3_later 34 = .ok (.iload_n 3, 1) := dk_29 (dk_at dksX3_later_1 10 rfl rfl)
theorem dX3_later_35 : decode cX3_later 35 = .ok (.aload_n 0, 1) := dk_42 (dk_at dksX3_later_1 11 rfl rfl)
theorem dX3_later_36 : decode cX3_later 36 = .ok (.getfield 94, 3) := dk_180 0 94 (dk_at dksX3_later_1 12 rfl rfl)
theorem dX3_later_39 : decode cX3_later 39 = .ok (.if_icmp .ge 22, 3) := dk_162 0 22 (dk_at dksX3_later_1 15 rfl rfl)
theorem dX3_later_42 : decode cX3_later 42 = .ok (.aload_n 0, 1) := dk_42 (dk_at dksX3_later_1 18 rfl rfl)
theorem dX3_later_43 : decode cX3_later 43 = .ok (.aload_n 0, 1) := dk_42 (dk_at dksX3_later_1 19 rfl rfl)
theorem dX3_later_44 : decode cX3_later 44 = .ok (.getfield 62, 3) := dk_180 0 62 (dk_at dksX3_later_1 20 rfl rfl)
theorem dX3_later_47 : decode cX3_later 47 = .ok (.bipush 14, 2) := dk_16 14 (dk_at dksX3_later_2 0 rfl rfl)
theorem dX3_later_49 : decode cX3_later 49 = .ok (.iload_n 3, 1) := dk_29 (dk_at dksX3_later_2 2 rfl rfl)
theorem dX3_later_50 : decode cX3_later 50 = .ok (.iadd, 1) := dk_96 (dk_at dksX3_later_2 3 rfl rfl)
theorem dX3_later_51 : decode cX3_later 51 = .ok (.iaload, 1) := dk_46 (dk_at dksX3_later_2 4 rfl rfl)
theorem dX3_later_52 : decode cX3_later 52 = .ok (.invokevirtual 230, 3) := dk_182 0 230 (dk_at dksX3_later_2 5 rfl rfl)
theorem dX3_later_55 : decode cX3_later 55 = .ok (.iinc 3 1, 3) := dk_132 3 1 (dk_at dksX3_later_2 8 rfl rfl)
theorem dX3_later_58 : decode cX3_later 58 = .ok (.goto (-24), 3) := dk_167 255 232 (dk_at dksX3_later_2 11 rfl rfl)
theorem dX3_later_61 : decode cX3_later 61 = .ok (.aload_n 0, 1) := dk_42 (dk_at dksX3_later_2 14 rfl rfl)
theorem dX3_later_62 : decode cX3_later 62 = .ok (.getfield 62, 3) := dk_180 0 62 (dk_at dksX3_later_2 15 rfl rfl)
theorem dX3_later_65 : decode cX3_later 65 = .ok (.iload_n 1, 1) := dk_27 (dk_at dksX3_later_2 18 rfl rfl)
theorem dX3_later_66 : decode cX3_later 66 = .ok (.iaload, 1) := dk_46 (dk_at dksX3_later_2 19 rfl rfl)
theorem dX3_later_67 : decode cX3_later 67 = .ok (.ireturn, 1) := dk_172 (dk_at dksX3_later_2 20 rfl rfl)
abbrev cX3_deepest : ByteArray := prog_9_method_85_code
def yX3_deepest : MethodName := ⟨RX3, "deepest", "(II)I"⟩
def dkwX3_deepest_4 : List UInt8 := [132, 5, 1, 167, 255, 209, 42, 3, 181, 0, 91, 42, 21, 4, 182, 0, 230, 29, 172]
abbrev dktX3_deepest_4 : List UInt8 := dkwX3_deepest_4 ++ []
def dkwX3_deepest_3 : List UInt8 := [96, 46, 29, 163, 0, 6, 167, 0, 17, 42, 180, 0, 62, 16, 14, 27, 96, 46, 62, 21, 5, 54, 4]
abbrev dktX3_deepest_3 : List UInt8 := dkwX3_deepest_3 ++ dktX3_deepest_4
def dkwX3_deepest_2 : List UInt8 := [4, 54, 5, 21, 5, 28, 163, 0, 47, 42, 42, 180, 0, 62, 182, 1, 4, 42, 180, 0, 62, 16, 14, 27]
abbrev dktX3_deepest_2 : List UInt8 := dkwX3_deepest_2 ++ dktX3_deepest_3
def dkwX3_deepest_1 : List UInt8 := [180, 0, 9, 42, 180, 0, 62, 3, 184, 0, 253, 42, 180, 0, 62, 16, 14, 27, 96, 46, 62, 3, 54, 4]
abbrev dktX3_deepest_1 : List UInt8 := dkwX3_deepest_1 ++ dktX3_deepest_2
def dkwX3_deepest_0 : List UInt8 := [42, 3, 181, 0, 87, 42, 27, 182, 0, 101, 153, 0, 10, 28, 184, 1, 68, 154, 0, 5, 2, 172, 42]
abbrev dktX3_deepest_0 : List UInt8 := dkwX3_deepest_0 ++ dktX3_deepest_1
theorem dksX3_deepest_0 : cX3_deepest.data.toList.drop 0 = dktX3_deepest_0 := by decide +kernel
theorem dksX3_deepest_1 : cX3_deepest.data.toList.drop 23 = dktX3_deepest_1 := dk_seg dksX3_deepest_0 23 rfl rfl
theorem dksX3_deepest_2 : cX3_deepest.data.toList.drop 47 = dktX3_deepest_2 := dk_seg dksX3_deepest_1 24 rfl rfl
theorem dksX3_deepest_3 : cX3_deepest.data.toList.drop 71 = dktX3_deepest_3 := dk_seg dksX3_deepest_2 24 rfl rfl
theorem dksX3_deepest_4 : cX3_deepest.data.toList.drop 94 = dktX3_deepest_4 := dk_seg dksX3_deepest_3 23 rfl rfl
theorem dX3_deepest_0 : decode cX3_deepest 0 = .ok (.aload_n 0, 1) := dk_42 (dk_at dksX3_deepest_0 0 rfl rfl)
theorem dX3_deepest_1 : decode cX3_deepest 1 = .ok (.iconst 0, 1) := dk_3 (dk_at dksX3_deepest_0 1 rfl rfl)
theorem dX3_deepest_2 : decode cX3_deepest 2 = .ok (.putfield 87, 3) := dk_181 0 87 (dk_at dksX3_deepest_0 2 rfl rfl)
theorem dX3_deepest_5 : decode cX3_deepest 5 = .ok (.aload_n 0, 1) := dk_42 (dk_at dksX3_deepest_0 5 rfl rfl)
theorem dX3_deepest_6 : decode cX3_deepest 6 = .ok (.iload_n 1, 1) := dk_27 (dk_at dksX3_deepest_0 6 rfl rfl)
theorem dX3_deepest_7 : decode cX3_deepest 7 = .ok (.invokevirtual 101, 3) := dk_182 0 101 (dk_at dksX3_deepest_0 7 rfl rfl)
theorem dX3_deepest_10 : decode cX3_deepest 10 = .ok (.ifCond .eq 10, 3) := dk_153 0 10 (dk_at dksX3_deepest_0 10 rfl rfl)
theorem dX3_deepest_13 : decode cX3_deepest 13 = .ok (.iload_n 2, 1) := dk_28 (dk_at dksX3_deepest_0 13 rfl rfl)
theorem dX3_deepest_14 : decode cX3_deepest 14 = .ok (.invokestatic 324, 3) := dk_184 1 68 (dk_at dksX3_deepest_0 14 rfl rfl)
theorem dX3_deepest_17 : decode cX3_deepest 17 = .ok (.ifCond .ne 5, 3) := dk_154 0 5 (dk_at dksX3_deepest_0 17 rfl rfl)
theorem dX3_deepest_20 : decode cX3_deepest 20 = .ok (.iconst (-1), 1) := dk_2 (dk_at dksX3_deepest_0 20 rfl rfl)
theorem dX3_deepest_21 : decode cX3_deepest 21 = .ok (.ireturn, 1) := dk_172 (dk_at dksX3_deepest_0 21 rfl rfl)
theorem dX3_deepest_22 : decode cX3_deepest 22 = .ok (.aload_n 0, 1) := dk_42 (dk_at dksX3_deepest_0 22 rfl rfl)
theorem dX3_deepest_23 : decode cX3_deepest 23 = .ok (.getfield 9, 3) := dk_180 0 9 (dk_at dksX3_deepest_1 0 rfl rfl)
theorem dX3_deepest_26 : decode cX3_deepest 26 = .ok (.aload_n 0, 1) := dk_42 (dk_at dksX3_deepest_1 3 rfl rfl)
theorem dX3_deepest_27 : decode cX3_deepest 27 = .ok (.getfield 62, 3) := dk_180 0 62 (dk_at dksX3_deepest_1 4 rfl rfl)
theorem dX3_deepest_30 : decode cX3_deepest 30 = .ok (.iconst 0, 1) := dk_3 (dk_at dksX3_deepest_1 7 rfl rfl)
theorem dX3_deepest_31 : decode cX3_deepest 31 = .ok (.invokestatic 253, 3) := dk_184 0 253 (dk_at dksX3_deepest_1 8 rfl rfl)
theorem dX3_deepest_34 : decode cX3_deepest 34 = .ok (.aload_n 0, 1) := dk_42 (dk_at dksX3_deepest_1 11 rfl rfl)
theorem dX3_deepest_35 : decode cX3_deepest 35 = .ok (.getfield 62, 3) := dk_180 0 62 (dk_at dksX3_deepest_1 12 rfl rfl)
theorem dX3_deepest_38 : decode cX3_deepest 38 = .ok (.bipush 14, 2) := dk_16 14 (dk_at dksX3_deepest_1 15 rfl rfl)
theorem dX3_deepest_40 : decode cX3_deepest 40 = .ok (.iload_n 1, 1) := dk_27 (dk_at dksX3_deepest_1 17 rfl rfl)
theorem dX3_deepest_41 : decode cX3_deepest 41 = .ok (.iadd, 1) := dk_96 (dk_at dksX3_deepest_1 18 rfl rfl)
theorem dX3_deepest_42 : decode cX3_deepest 42 = .ok (.iaload, 1) := dk_46 (dk_at dksX3_deepest_1 19 rfl rfl)
theorem dX3_deepest_43 : decode cX3_deepest 43 = .ok (.istore_n 3, 1) := dk_62 (dk_at dksX3_deepest_1 20 rfl rfl)
theorem dX3_deepest_44 : decode cX3_deepest 44 = .ok (.iconst 0, 1) := dk_3 (dk_at dksX3_deepest_1 21 rfl rfl)
theorem dX3_deepest_45 : decode cX3_deepest 45 = .ok (.istore 4, 2) := dk_54 4 (dk_at dksX3_deepest_1 22 rfl rfl)
theorem dX3_deepest_47 : decode cX3_deepest 47 = .ok (.iconst 1, 1) := dk_4 (dk_at dksX3_deepest_2 0 rfl rfl)
theorem dX3_deepest_48 : decode cX3_deepest 48 = .ok (.istore 5, 2) := dk_54 5 (dk_at dksX3_deepest_2 1 rfl rfl)
theorem dX3_deepest_50 : decode cX3_deepest 50 = .ok (.iload 5, 2) := dk_21 5 (dk_at dksX3_deepest_2 3 rfl rfl)
theorem dX3_deepest_52 : decode cX3_deepest 52 = .ok (.iload_n 2, 1) := dk_28 (dk_at dksX3_deepest_2 5 rfl rfl)
theorem dX3_deepest_53 : decode cX3_deepest 53 = .ok (.if_icmp .gt 47, 3) := dk_163 0 47 (dk_at dksX3_deepest_2 6 rfl rfl)
theorem dX3_deepest_56 : decode cX3_deepest 56 = .ok (.aload_n 0, 1) := dk_42 (dk_at dksX3_deepest_2 9 rfl rfl)
theorem dX3_deepest_57 : decode cX3_deepest 57 = .ok (.aload_n 0, 1) := dk_42 (dk_at dksX3_deepest_2 10 rfl rfl)
theorem dX3_deepest_58 : decode cX3_deepest 58 = .ok (.getfield 62, 3) := dk_180 0 62 (dk_at dksX3_deepest_2 11 rfl rfl)
theorem dX3_deepest_61 : decode cX3_deepest 61 = .ok (.invokevirtual 260, 3) := dk_182 1 4 (dk_at dksX3_deepest_2 14 rfl rfl)
theorem dX3_deepest_64 : decode cX3_deepest 64 = .ok (.aload_n 0, 1) := dk_42 (dk_at dksX3_deepest_2 17 rfl rfl)
theorem dX3_deepest_65 : decode cX3_deepest 65 = .ok (.getfield 62, 3) := dk_180 0 62 (dk_at dksX3_deepest_2 18 rfl rfl)
theorem dX3_deepest_68 : decode cX3_deepest 68 = .ok (.bipush 14, 2) := dk_16 14 (dk_at dksX3_deepest_2 21 rfl rfl)
theorem dX3_deepest_70 : decode cX3_deepest 70 = .ok (.iload_n 1, 1) := dk_27 (dk_at dksX3_deepest_2 23 rfl rfl)
theorem dX3_deepest_71 : decode cX3_deepest 71 = .ok (.iadd, 1) := dk_96 (dk_at dksX3_deepest_3 0 rfl rfl)
theorem dX3_deepest_72 : decode cX3_deepest 72 = .ok (.iaload, 1) := dk_46 (dk_at dksX3_deepest_3 1 rfl rfl)
theorem dX3_deepest_73 : decode cX3_deepest 73 = .ok (.iload_n 3, 1) := dk_29 (dk_at dksX3_deepest_3 2 rfl rfl)
theorem dX3_deepest_74 : decode cX3_deepest 74 = .ok (.if_icmp .gt 6, 3) := dk_163 0 6 (dk_at dksX3_deepest_3 3 rfl rfl)
theorem dX3_deepest_77 : decode cX3_deepest 77 = .ok (.goto 17, 3) := dk_167 0 17 (dk_at dksX3_deepest_3 6 rfl rfl)
theorem dX3_deepest_80 : decode cX3_deepest 80 = .ok (.aload_n 0, 1) := dk_42 (dk_at dksX3_deepest_3 9 rfl rfl)
theorem dX3_deepest_81 : decode cX3_deepest 81 = .ok (.getfield 62, 3) := dk_180 0 62 (dk_at dksX3_deepest_3 10 rfl rfl)
theorem dX3_deepest_84 : decode cX3_deepest 84 = .ok (.bipush 14, 2) := dk_16 14 (dk_at dksX3_deepest_3 13 rfl rfl)
theorem dX3_deepest_86 : decode cX3_deepest 86 = .ok (.iload_n 1, 1) := dk_27 (dk_at dksX3_deepest_3 15 rfl rfl)
theorem dX3_deepest_87 : decode cX3_deepest 87 = .ok (.iadd, 1) := dk_96 (dk_at dksX3_deepest_3 16 rfl rfl)
theorem dX3_deepest_88 : decode cX3_deepest 88 = .ok (.iaload, 1) := dk_46 (dk_at dksX3_deepest_3 17 rfl rfl)
theorem dX3_deepest_89 : decode cX3_deepest 89 = .ok (.istore_n 3, 1) := dk_62 (dk_at dksX3_deepest_3 18 rfl rfl)
theorem dX3_deepest_90 : decode cX3_deepest 90 = .ok (.iload 5, 2) := dk_21 5 (dk_at dksX3_deepest_3 19 rfl rfl)
theorem dX3_deepest_92 : decode cX3_deepest 92 = .ok (.istore 4, 2) := dk_54 4 (dk_at dksX3_deepest_3 21 rfl rfl)
theorem dX3_deepest_94 : decode cX3_deepest 94 = .ok (.iinc 5 1, 3) := dk_132 5 1 (dk_at dksX3_deepest_4 0 rfl rfl)
theorem dX3_deepest_97 : decode cX3_deepest 97 = .ok (.goto (-47), 3) := dk_167 255 209 (dk_at dksX3_deepest_4 3 rfl rfl)
theorem dX3_deepest_100 : decode cX3_deepest 100 = .ok (.aload_n 0, 1) := dk_42 (dk_at dksX3_deepest_4 6 rfl rfl)
theorem dX3_deepest_101 : decode cX3_deepest 101 = .ok (.iconst 0, 1) := dk_3 (dk_at dksX3_deepest_4 7 rfl rfl)
theorem dX3_deepest_102 : decode cX3_deepest 102 = .ok (.putfield 91, 3) := dk_181 0 91 (dk_at dksX3_deepest_4 8 rfl rfl)
theorem dX3_deepest_105 : decode cX3_deepest 105 = .ok (.aload_n 0, 1) := dk_42 (dk_at dksX3_deepest_4 11 rfl rfl)
theorem dX3_deepest_106 : decode cX3_deepest 106 = .ok (.iload 4, 2) := dk_21 4 (dk_at dksX3_deepest_4 12 rfl rfl)
theorem dX3_deepest_108 : decode cX3_deepest 108 = .ok (.invokevirtual 230, 3) := dk_182 0 230 (dk_at dksX3_deepest_4 14 rfl rfl)
theorem dX3_deepest_111 : decode cX3_deepest 111 = .ok (.iload_n 3, 1) := dk_29 (dk_at dksX3_deepest_4 17 rfl rfl)
theorem dX3_deepest_112 : decode cX3_deepest 112 = .ok (.ireturn, 1) := dk_172 (dk_at dksX3_deepest_4 18 rfl rfl)
abbrev cX3_lord : ByteArray := prog_9_method_86_code
def yX3_lord : MethodName := ⟨RX3, "lord", "(I)I"⟩
def dkwX3_lord_5 : List UInt8 := [28, 156, 0, 6, 16, 254, 172, 42, 3, 181, 0, 91, 42, 29, 182, 0, 230, 28, 172]
abbrev dktX3_lord_5 : List UInt8 := dkwX3_lord_5 ++ []
def dkwX3_lord_4 : List UInt8 := [167, 255, 206, 21, 5, 29, 163, 0, 6, 167, 0, 9, 21, 4, 61, 21, 5, 62, 132, 4, 1, 167, 255, 170]
abbrev dktX3_lord_4 : List UInt8 := dkwX3_lord_4 ++ dktX3_lord_5
def dkwX3_lord_3 : List UInt8 := [180, 0, 9, 16, 21, 16, 7, 21, 6, 104, 96, 21, 4, 96, 46, 100, 96, 54, 5, 132, 6, 1]
abbrev dktX3_lord_3 : List UInt8 := dkwX3_lord_3 ++ dktX3_lord_4
def dkwX3_lord_2 : List UInt8 := [162, 0, 47, 21, 5, 42, 180, 0, 62, 16, 21, 16, 7, 21, 6, 104, 96, 21, 4, 96, 46, 42]
abbrev dktX3_lord_2 : List UInt8 := dkwX3_lord_2 ++ dktX3_lord_3
def dkwX3_lord_1 : List UInt8 := [3, 54, 4, 21, 4, 42, 180, 0, 94, 162, 0, 83, 3, 54, 5, 3, 54, 6, 21, 6, 42, 180, 0, 94]
abbrev dktX3_lord_1 : List UInt8 := dkwX3_lord_1 ++ dktX3_lord_2
def dkwX3_lord_0 : List UInt8 := [42, 3, 181, 0, 87, 27, 184, 1, 68, 154, 0, 5, 2, 172, 42, 27, 182, 1, 71, 16, 254, 61, 3, 62]
abbrev dktX3_lord_0 : List UInt8 := dkwX3_lord_0 ++ dktX3_lord_1
theorem dksX3_lord_0 : cX3_lord.data.toList.drop 0 = dktX3_lord_0 := by decide +kernel
theorem dksX3_lord_1 : cX3_lord.data.toList.drop 24 = dktX3_lord_1 := dk_seg dksX3_lord_0 24 rfl rfl
theorem dksX3_lord_2 : cX3_lord.data.toList.drop 48 = dktX3_lord_2 := dk_seg dksX3_lord_1 24 rfl rfl
theorem dksX3_lord_3 : cX3_lord.data.toList.drop 70 = dktX3_lord_3 := dk_seg dksX3_lord_2 22 rfl rfl
theorem dksX3_lord_4 : cX3_lord.data.toList.drop 92 = dktX3_lord_4 := dk_seg dksX3_lord_3 22 rfl rfl
theorem dksX3_lord_5 : cX3_lord.data.toList.drop 116 = dktX3_lord_5 := dk_seg dksX3_lord_4 24 rfl rfl
theorem dX3_lord_0 : decode cX3_lord 0 = .ok (.aload_n 0, 1) := dk_42 (dk_at dksX3_lord_0 0 rfl rfl)
theorem dX3_lord_1 : decode cX3_lord 1 = .ok (.iconst 0, 1) := dk_3 (dk_at dksX3_lord_0 1 rfl rfl)
theorem dX3_lord_2 : decode cX3_lord 2 = .ok (.putfield 87, 3) := dk_181 0 87 (dk_at dksX3_lord_0 2 rfl rfl)
theorem dX3_lord_5 : decode cX3_lord 5 = .ok (.iload_n 1, 1) := dk_27 (dk_at dksX3_lord_0 5 rfl rfl)
theorem dX3_lord_6 : decode cX3_lord 6 = .ok (.invokestatic 324, 3) := dk_184 1 68 (dk_at dksX3_lord_0 6 rfl rfl)
theorem dX3_lord_9 : decode cX3_lord 9 = .ok (.ifCond .ne 5, 3) := dk_154 0 5 (dk_at dksX3_lord_0 9 rfl rfl)
theorem dX3_lord_12 : decode cX3_lord 12 = .ok (.iconst (-1), 1) := dk_2 (dk_at dksX3_lord_0 12 rfl rfl)
theorem dX3_lord_13 : decode cX3_lord 13 = .ok (.ireturn, 1) := dk_172 (dk_at dksX3_lord_0 13 rfl rfl)
theorem dX3_lord_14 : decode cX3_lord 14 = .ok (.aload_n 0, 1) := dk_42 (dk_at dksX3_lord_0 14 rfl rfl)
theorem dX3_lord_15 : decode cX3_lord 15 = .ok (.iload_n 1, 1) := dk_27 (dk_at dksX3_lord_0 15 rfl rfl)
theorem dX3_lord_16 : decode cX3_lord 16 = .ok (.invokevirtual 327, 3) := dk_182 1 71 (dk_at dksX3_lord_0 16 rfl rfl)
theorem dX3_lord_19 : decode cX3_lord 19 = .ok (.bipush (-2), 2) := dk_16 254 (dk_at dksX3_lord_0 19 rfl rfl)
theorem dX3_lord_21 : decode cX3_lord 21 = .ok (.istore_n 2, 1) := dk_61 (dk_at dksX3_lord_0 21 rfl rfl)
theorem dX3_lord_22 : decode cX3_lord 22 = .ok (.iconst 0, 1) := dk_3 (dk_at dksX3_lord_0 22 rfl rfl)
theorem dX3_lord_23 : decode cX3_lord 23 = .ok (.istore_n 3, 1) := dk_62 (dk_at dksX3_lord_0 23 rfl rfl)
theorem dX3_lord_24 : decode cX3_lord 24 = .ok (.iconst 0, 1) := dk_3 (dk_at dksX3_lord_1 0 rfl rfl)
theorem dX3_lord_25 : decode cX3_lord 25 = .ok (.istore 4, 2) := dk_54 4 (dk_at dksX3_lord_1 1 rfl rfl)
theorem dX3_lord_27 : decode cX3_lord 27 = .ok (.iload 4, 2) := dk_21 4 (dk_at dksX3_lord_1 3 rfl rfl)
theorem dX3_lord_29 : decode cX3_lord 29 = .ok (.aload_n 0, 1) := dk_42 (dk_at dksX3_lord_1 5 rfl rfl)
theorem dX3_lord_30 : decode cX3_lord 30 = .ok (.getfield 94, 3) := dk_180 0 94 (dk_at dksX3_lord_1 6 rfl rfl)
theorem dX3_lord_33 : decode cX3_lord 33 = .ok (.if_icmp .ge 83, 3) := dk_162 0 83 (dk_at dksX3_lord_1 9 rfl rfl)
theorem dX3_lord_36 : decode cX3_lord 36 = .ok (.iconst 0, 1) := dk_3 (dk_at dksX3_lord_1 12 rfl rfl)
theorem dX3_lord_37 : decode cX3_lord 37 = .ok (.istore 5, 2) := dk_54 5 (dk_at dksX3_lord_1 13 rfl rfl)
theorem dX3_lord_39 : decode cX3_lord 39 = .ok (.iconst 0, 1) := dk_3 (dk_at dksX3_lord_1 15 rfl rfl)
theorem dX3_lord_40 : decode cX3_lord 40 = .ok (.istore 6, 2) := dk_54 6 (dk_at dksX3_lord_1 16 rfl rfl)
theorem dX3_lord_42 : decode cX3_lord 42 = .ok (.iload 6, 2) := dk_21 6 (dk_at dksX3_lord_1 18 rfl rfl)
theorem dX3_lord_44 : decode cX3_lord 44 = .ok (.aload_n 0, 1) := dk_42 (dk_at dksX3_lord_1 20 rfl rfl)
theorem dX3_lord_45 : decode cX3_lord 45 = .ok (.getfield 94, 3) := dk_180 0 94 (dk_at dksX3_lord_1 21 rfl rfl)
theorem dX3_lord_48 : decode cX3_lord 48 = .ok (.if_icmp .ge 47, 3) := dk_162 0 47 (dk_at dksX3_lord_2 0 rfl rfl)
theorem dX3_lord_51 : decode cX3_lord 51 = .ok (.iload 5, 2) := dk_21 5 (dk_at dksX3_lord_2 3 rfl rfl)
theorem dX3_lord_53 : decode cX3_lord 53 = .ok (.aload_n 0, 1) := dk_42 (dk_at dksX3_lord_2 5 rfl rfl)
theorem dX3_lord_54 : decode cX3_lord 54 = .ok (.getfield 62, 3) := dk_180 0 62 (dk_at dksX3_lord_2 6 rfl rfl)
theorem dX3_lord_57 : decode cX3_lord 57 = .ok (.bipush 21, 2) := dk_16 21 (dk_at dksX3_lord_2 9 rfl rfl)
theorem dX3_lord_59 : decode cX3_lord 59 = .ok (.bipush 7, 2) := dk_16 7 (dk_at dksX3_lord_2 11 rfl rfl)
theorem dX3_lord_61 : decode cX3_lord 61 = .ok (.iload 6, 2) := dk_21 6 (dk_at dksX3_lord_2 13 rfl rfl)
theorem dX3_lord_63 : decode cX3_lord 63 = .ok (.imul, 1) := dk_104 (dk_at dksX3_lord_2 15 rfl rfl)
theorem dX3_lord_64 : decode cX3_lord 64 = .ok (.iadd, 1) := dk_96 (dk_at dksX3_lord_2 16 rfl rfl)
theorem dX3_lord_65 : decode cX3_lord 65 = .ok (.iload 4, 2) := dk_21 4 (dk_at dksX3_lord_2 17 rfl rfl)
theorem dX3_lord_67 : decode cX3_lord 67 = .ok (.iadd, 1) := dk_96 (dk_at dksX3_lord_2 19 rfl rfl)
theorem dX3_lord_68 : decode cX3_lord 68 = .ok (.iaload, 1) := dk_46 (dk_at dksX3_lord_2 20 rfl rfl)
theorem dX3_lord_69 : decode cX3_lord 69 = .ok (.aload_n 0, 1) := dk_42 (dk_at dksX3_lord_2 21 rfl rfl)
theorem dX3_lord_70 : decode cX3_lord 70 = .ok (.getfield 9, 3) := dk_180 0 9 (dk_at dksX3_lord_3 0 rfl rfl)
theorem dX3_lord_73 : decode cX3_lord 73 = .ok (.bipush 21, 2) := dk_16 21 (dk_at dksX3_lord_3 3 rfl rfl)
theorem dX3_lord_75 : decode cX3_lord 75 = .ok (.bipush 7, 2) := dk_16 7 (dk_at dksX3_lord_3 5 rfl rfl)
theorem dX3_lord_77 : decode cX3_lord 77 = .ok (.iload 6, 2) := dk_21 6 (dk_at dksX3_lord_3 7 rfl rfl)
theorem dX3_lord_79 : decode cX3_lord 79 = .ok (.imul, 1) := dk_104 (dk_at dksX3_lord_3 9 rfl rfl)
theorem dX3_lord_80 : decode cX3_lord 80 = .ok (.iadd, 1) := dk_96 (dk_at dksX3_lord_3 10 rfl rfl)
theorem dX3_lord_81 : decode cX3_lord 81 = .ok (.iload 4, 2) := dk_21 4 (dk_at dksX3_lord_3 11 rfl rfl)
theorem dX3_lord_83 : decode cX3_lord 83 = .ok (.iadd, 1) := dk_96 (dk_at dksX3_lord_3 13 rfl rfl)
theorem dX3_lord_84 : decode cX3_lord 84 = .ok (.iaload, 1) := dk_46 (dk_at dksX3_lord_3 14 rfl rfl)
theorem dX3_lord_85 : decode cX3_lord 85 = .ok (.isub, 1) := dk_100 (dk_at dksX3_lord_3 15 rfl rfl)
theorem dX3_lord_86 : decode cX3_lord 86 = .ok (.iadd, 1) := dk_96 (dk_at dksX3_lord_3 16 rfl rfl)
theorem dX3_lord_87 : decode cX3_lord 87 = .ok (.istore 5, 2) := dk_54 5 (dk_at dksX3_lord_3 17 rfl rfl)
theorem dX3_lord_89 : decode cX3_lord 89 = .ok (.iinc 6 1, 3) := dk_132 6 1 (dk_at dksX3_lord_3 19 rfl rfl)
theorem dX3_lord_92 : decode cX3_lord 92 = .ok (.goto (-50), 3) := dk_167 255 206 (dk_at dksX3_lord_4 0 rfl rfl)
theorem dX3_lord_95 : decode cX3_lord 95 = .ok (.iload 5, 2) := dk_21 5 (dk_at dksX3_lord_4 3 rfl rfl)
theorem dX3_lord_97 : decode cX3_lord 97 = .ok (.iload_n 3, 1) := dk_29 (dk_at dksX3_lord_4 5 rfl rfl)
theorem dX3_lord_98 : decode cX3_lord 98 = .ok (.if_icmp .gt 6, 3) := dk_163 0 6 (dk_at dksX3_lord_4 6 rfl rfl)
theorem dX3_lord_101 : decode cX3_lord 101 = .ok (.goto 9, 3) := dk_167 0 9 (dk_at dksX3_lord_4 9 rfl rfl)
theorem dX3_lord_104 : decode cX3_lord 104 = .ok (.iload 4, 2) := dk_21 4 (dk_at dksX3_lord_4 12 rfl rfl)
theorem dX3_lord_106 : decode cX3_lord 106 = .ok (.istore_n 2, 1) := dk_61 (dk_at dksX3_lord_4 14 rfl rfl)
theorem dX3_lord_107 : decode cX3_lord 107 = .ok (.iload 5, 2) := dk_21 5 (dk_at dksX3_lord_4 15 rfl rfl)
theorem dX3_lord_109 : decode cX3_lord 109 = .ok (.istore_n 3, 1) := dk_62 (dk_at dksX3_lord_4 17 rfl rfl)
theorem dX3_lord_110 : decode cX3_lord 110 = .ok (.iinc 4 1, 3) := dk_132 4 1 (dk_at dksX3_lord_4 18 rfl rfl)
theorem dX3_lord_113 : decode cX3_lord 113 = .ok (.goto (-86), 3) := dk_167 255 170 (dk_at dksX3_lord_4 21 rfl rfl)
theorem dX3_lord_116 : decode cX3_lord 116 = .ok (.iload_n 2, 1) := dk_28 (dk_at dksX3_lord_5 0 rfl rfl)
theorem dX3_lord_117 : decode cX3_lord 117 = .ok (.ifCond .ge 6, 3) := dk_156 0 6 (dk_at dksX3_lord_5 1 rfl rfl)
theorem dX3_lord_120 : decode cX3_lord 120 = .ok (.bipush (-2), 2) := dk_16 254 (dk_at dksX3_lord_5 4 rfl rfl)
theorem dX3_lord_122 : decode cX3_lord 122 = .ok (.ireturn, 1) := dk_172 (dk_at dksX3_lord_5 6 rfl rfl)
theorem dX3_lord_123 : decode cX3_lord 123 = .ok (.aload_n 0, 1) := dk_42 (dk_at dksX3_lord_5 7 rfl rfl)
theorem dX3_lord_124 : decode cX3_lord 124 = .ok (.iconst 0, 1) := dk_3 (dk_at dksX3_lord_5 8 rfl rfl)
theorem dX3_lord_125 : decode cX3_lord 125 = .ok (.putfield 91, 3) := dk_181 0 91 (dk_at dksX3_lord_5 9 rfl rfl)
theorem dX3_lord_128 : decode cX3_lord 128 = .ok (.aload_n 0, 1) := dk_42 (dk_at dksX3_lord_5 12 rfl rfl)
theorem dX3_lord_129 : decode cX3_lord 129 = .ok (.iload_n 3, 1) := dk_29 (dk_at dksX3_lord_5 13 rfl rfl)
theorem dX3_lord_130 : decode cX3_lord 130 = .ok (.invokevirtual 230, 3) := dk_182 0 230 (dk_at dksX3_lord_5 14 rfl rfl)
theorem dX3_lord_133 : decode cX3_lord 133 = .ok (.iload_n 2, 1) := dk_28 (dk_at dksX3_lord_5 17 rfl rfl)
theorem dX3_lord_134 : decode cX3_lord 134 = .ok (.ireturn, 1) := dk_172 (dk_at dksX3_lord_5 18 rfl rfl)
abbrev cX3_worst : ByteArray := prog_9_method_87_code
def yX3_worst : MethodName := ⟨RX3, "worst", "(I)I"⟩
def dkwX3_worst_4 : List UInt8 := [42, 29, 182, 0, 230, 28, 172]
abbrev dktX3_worst_4 : List UInt8 := dkwX3_worst_4 ++ []
def dkwX3_worst_3 : List UInt8 := [61, 42, 180, 0, 237, 62, 132, 4, 1, 167, 255, 216, 28, 156, 0, 6, 16, 254, 172, 42, 3, 181, 0, 91]
abbrev dktX3_worst_3 : List UInt8 := dkwX3_worst_3 ++ dktX3_worst_4
def dkwX3_worst_2 : List UInt8 := [182, 1, 1, 42, 42, 180, 0, 62, 182, 1, 4, 42, 180, 0, 237, 29, 163, 0, 6, 167, 0, 11, 21, 4]
abbrev dktX3_worst_2 : List UInt8 := dkwX3_worst_2 ++ dktX3_worst_3
def dkwX3_worst_1 : List UInt8 := [180, 0, 62, 3, 184, 0, 253, 16, 254, 61, 3, 62, 4, 54, 4, 21, 4, 27, 163, 0, 40, 42]
abbrev dktX3_worst_1 : List UInt8 := dkwX3_worst_1 ++ dktX3_worst_2
def dkwX3_worst_0 : List UInt8 := [42, 3, 181, 0, 87, 27, 4, 16, 60, 184, 0, 97, 154, 0, 5, 2, 172, 42, 180, 0, 9, 42]
abbrev dktX3_worst_0 : List UInt8 := dkwX3_worst_0 ++ dktX3_worst_1
theorem dksX3_worst_0 : cX3_worst.data.toList.drop 0 = dktX3_worst_0 := by decide +kernel
theorem dksX3_worst_1 : cX3_worst.data.toList.drop 22 = dktX3_worst_1 := dk_seg dksX3_worst_0 22 rfl rfl
theorem dksX3_worst_2 : cX3_worst.data.toList.drop 44 = dktX3_worst_2 := dk_seg dksX3_worst_1 22 rfl rfl
theorem dksX3_worst_3 : cX3_worst.data.toList.drop 68 = dktX3_worst_3 := dk_seg dksX3_worst_2 24 rfl rfl
theorem dksX3_worst_4 : cX3_worst.data.toList.drop 92 = dktX3_worst_4 := dk_seg dksX3_worst_3 24 rfl rfl
theorem dX3_worst_0 : decode cX3_worst 0 = .ok (.aload_n 0, 1) := dk_42 (dk_at dksX3_worst_0 0 rfl rfl)
theorem dX3_worst_1 : decode cX3_worst 1 = .ok (.iconst 0, 1) := dk_3 (dk_at dksX3_worst_0 1 rfl rfl)
theorem dX3_worst_2 : decode cX3_worst 2 = .ok (.putfield 87, 3) := dk_181 0 87 (dk_at dksX3_worst_0 2 rfl rfl)
theorem dX3_worst_5 : decode cX3_worst 5 = .ok (.iload_n 1, 1) := dk_27 (dk_at dksX3_worst_0 5 rfl rfl)
theorem dX3_worst_6 : decode cX3_worst 6 = .ok (.iconst 1, 1) := dk_4 (dk_at dksX3_worst_0 6 rfl rfl)
theorem dX3_worst_7 : decode cX3_worst 7 = .ok (.bipush 60, 2) := dk_16 60 (dk_at dksX3_worst_0 7 rfl rfl)
theorem dX3_worst_9 : decode cX3_worst 9 = .ok (.invokestatic 97, 3) := dk_184 0 97 (dk_at dksX3_worst_0 9 rfl rfl)
theorem dX3_worst_12 : decode cX3_worst 12 = .ok (.ifCond .ne 5, 3) := dk_154 0 5 (dk_at dksX3_worst_0 12 rfl rfl)
theorem dX3_worst_15 : decode cX3_worst 15 = .ok (.iconst (-1), 1) := dk_2 (dk_at dksX3_worst_0 15 rfl rfl)
theorem dX3_worst_16 : decode cX3_worst 16 = .ok (.ireturn, 1) := dk_172 (dk_at dksX3_worst_0 16 rfl rfl)
theorem dX3_worst_17 : decode cX3_worst 17 = .ok (.aload_n 0, 1) := dk_42 (dk_at dksX3_worst_0 17 rfl rfl)
theorem dX3_worst_18 : decode cX3_worst 18 = .ok (.getfield 9, 3) := dk_180 0 9 (dk_at dksX3_worst_0 18 rfl rfl)
theorem dX3_worst_21 : decode cX3_worst 21 = .ok (.aload_n 0, 1) := dk_42 (dk_at dksX3_worst_0 21 rfl rfl)
theorem dX3_worst_22 : decode cX3_worst 22 = .ok (.getfield 62, 3) := dk_180 0 62 (dk_at dksX3_worst_1 0 rfl rfl)
theorem dX3_worst_25 : decode cX3_worst 25 = .ok (.iconst 0, 1) := dk_3 (dk_at dksX3_worst_1 3 rfl rfl)
theorem dX3_worst_26 : decode cX3_worst 26 = .ok (.invokestatic 253, 3) := dk_184 0 253 (dk_at dksX3_worst_1 4 rfl rfl)
theorem dX3_worst_29 : decode cX3_worst 29 = .ok (.bipush (-2), 2) := dk_16 254 (dk_at dksX3_worst_1 7 rfl rfl)
theorem dX3_worst_31 : decode cX3_worst 31 = .ok (.istore_n 2, 1) := dk_61 (dk_at dksX3_worst_1 9 rfl rfl)
theorem dX3_worst_32 : decode cX3_worst 32 = .ok (.iconst 0, 1) := dk_3 (dk_at dksX3_worst_1 10 rfl rfl)
theorem dX3_worst_33 : decode cX3_worst 33 = .ok (.istore_n 3, 1) := dk_62 (dk_at dksX3_worst_1 11 rfl rfl)
theorem dX3_worst_34 : decode cX3_worst 34 = .ok (.iconst 1, 1) := dk_4 (dk_at dksX3_worst_1 12 rfl rfl)
theorem dX3_worst_35 : decode cX3_worst 35 = .ok (.istore 4, 2) := dk_54 4 (dk_at dksX3_worst_1 13 rfl rfl)
theorem dX3_worst_37 : decode cX3_worst 37 = .ok (.iload 4, 2) := dk_21 4 (dk_at dksX3_worst_1 15 rfl rfl)
theorem dX3_worst_39 : decode cX3_worst 39 = .ok (.iload_n 1, 1) := dk_27 (dk_at dksX3_worst_1 17 rfl rfl)
theorem dX3_worst_40 : decode cX3_worst 40 = .ok (.if_icmp .gt 40, 3) := dk_163 0 40 (dk_at dksX3_worst_1 18 rfl rfl)
theorem dX3_worst_43 : decode cX3_worst 43 = .ok (.aload_n 0, 1) := dk_42 (dk_at dksX3_worst_1 21 rfl rfl)
theorem dX3_worst_44 : decode cX3_worst 44 = .ok (.invokevirtual 257, 3) := dk_182 1 1 (dk_at dksX3_worst_2 0 rfl rfl)
theorem dX3_worst_47 : decode cX3_worst 47 = .ok (.aload_n 0, 1) := dk_42 (dk_at dksX3_worst_2 3 rfl rfl)
theorem dX3_worst_48 : decode cX3_worst 48 = .ok (.aload_n 0, 1) := dk_42 (dk_at dksX3_worst_2 4 rfl rfl)
theorem dX3_worst_49 : decode cX3_worst 49 = .ok (.getfield 62, 3) := dk_180 0 62 (dk_at dksX3_worst_2 5 rfl rfl)
theorem dX3_worst_52 : decode cX3_worst 52 = .ok (.invokevirtual 260, 3) := dk_182 1 4 (dk_at dksX3_worst_2 8 rfl rfl)
theorem dX3_worst_55 : decode cX3_worst 55 = .ok (.aload_n 0, 1) := dk_42 (dk_at dksX3_worst_2 11 rfl rfl)
theorem dX3_worst_56 : decode cX3_worst 56 = .ok (.getfield 237, 3) := dk_180 0 237 (dk_at dksX3_worst_2 12 rfl rfl)
theorem dX3_worst_59 : decode cX3_worst 59 = .ok (.iload_n 3, 1) := dk_29 (dk_at dksX3_worst_2 15 rfl rfl)
theorem dX3_worst_60 : decode cX3_worst 60 = .ok (.if_icmp .gt 6, 3) := dk_163 0 6 (dk_at dksX3_worst_2 16 rfl rfl)
theorem dX3_worst_63 : decode cX3_worst 63 = .ok (.goto 11, 3) := dk_167 0 11 (dk_at dksX3_worst_2 19 rfl rfl)
theorem dX3_worst_66 : decode cX3_worst 66 = .ok (.iload 4, 2) := dk_21 4 (dk_at dksX3_worst_2 22 rfl rfl)
theorem dX3_worst_68 : decode cX3_worst 68 = .ok (.istore_n 2, 1) := dk_61 (dk_at dksX3_worst_3 0 rfl rfl)
theorem dX3_worst_69 : decode cX3_worst 69 = .ok (.aload_n 0, 1) := dk_42 (dk_at dksX3_worst_3 1 rfl rfl)
theorem dX3_worst_70 : decode cX3_worst 70 = .ok (.getfield 237, 3) := dk_180 0 237 (dk_at dksX3_worst_3 2 rfl rfl)
theorem dX3_worst_73 : decode cX3_worst 73 = .ok (.istore_n 3, 1) := dk_62 (dk_at dksX3_worst_3 5 rfl rfl)
theorem dX3_worst_74 : decode cX3_worst 74 = .ok (.iinc 4 1, 3) := dk_132 4 1 (dk_at dksX3_worst_3 6 rfl rfl)
theorem dX3_worst_77 : decode cX3_worst 77 = .ok (.goto (-40), 3) := dk_167 255 216 (dk_at dksX3_worst_3 9 rfl rfl)
theorem dX3_worst_80 : decode cX3_worst 80 = .ok (.iload_n 2, 1) := dk_28 (dk_at dksX3_worst_3 12 rfl rfl)
theorem dX3_worst_81 : decode cX3_worst 81 = .ok (.ifCond .ge 6, 3) := dk_156 0 6 (dk_at dksX3_worst_3 13 rfl rfl)
theorem dX3_worst_84 : decode cX3_worst 84 = .ok (.bipush (-2), 2) := dk_16 254 (dk_at dksX3_worst_3 16 rfl rfl)
theorem dX3_worst_86 : decode cX3_worst 86 = .ok (.ireturn, 1) := dk_172 (dk_at dksX3_worst_3 18 rfl rfl)
theorem dX3_worst_87 : decode cX3_worst 87 = .ok (.aload_n 0, 1) := dk_42 (dk_at dksX3_worst_3 19 rfl rfl)
theorem dX3_worst_88 : decode cX3_worst 88 = .ok (.iconst 0, 1) := dk_3 (dk_at dksX3_worst_3 20 rfl rfl)
theorem dX3_worst_89 : decode cX3_worst 89 = .ok (.putfield 91, 3) := dk_181 0 91 (dk_at dksX3_worst_3 21 rfl rfl)
theorem dX3_worst_92 : decode cX3_worst 92 = .ok (.aload_n 0, 1) := dk_42 (dk_at dksX3_worst_4 0 rfl rfl)
theorem dX3_worst_93 : decode cX3_worst 93 = .ok (.iload_n 3, 1) := dk_29 (dk_at dksX3_worst_4 1 rfl rfl)
theorem dX3_worst_94 : decode cX3_worst 94 = .ok (.invokevirtual 230, 3) := dk_182 0 230 (dk_at dksX3_worst_4 2 rfl rfl)
theorem dX3_worst_97 : decode cX3_worst 97 = .ok (.iload_n 2, 1) := dk_28 (dk_at dksX3_worst_4 5 rfl rfl)
theorem dX3_worst_98 : decode cX3_worst 98 = .ok (.ireturn, 1) := dk_172 (dk_at dksX3_worst_4 6 rfl rfl)
abbrev cX3_melt : ByteArray := prog_9_method_89_code
def yX3_melt : MethodName := ⟨RX3, "melt", "()I"⟩
def dkwX3_melt_2 : List UInt8 := [167, 255, 230, 16, 254, 172]
abbrev dktX3_melt_2 : List UInt8 := dkwX3_melt_2 ++ []
def dkwX3_melt_1 : List UInt8 := [163, 0, 26, 42, 182, 1, 74, 153, 0, 5, 27, 172, 42, 42, 180, 0, 62, 182, 1, 4, 132, 1, 1]
abbrev dktX3_melt_1 : List UInt8 := dkwX3_melt_1 ++ dktX3_melt_2
def dkwX3_melt_0 : List UInt8 := [42, 3, 181, 0, 87, 42, 180, 0, 9, 42, 180, 0, 62, 3, 184, 0, 253, 3, 60, 27, 16, 60]
abbrev dktX3_melt_0 : List UInt8 := dkwX3_melt_0 ++ dktX3_melt_1
theorem dksX3_melt_0 : cX3_melt.data.toList.drop 0 = dktX3_melt_0 := by decide +kernel
theorem dksX3_melt_1 : cX3_melt.data.toList.drop 22 = dktX3_melt_1 := dk_seg dksX3_melt_0 22 rfl rfl
theorem dksX3_melt_2 : cX3_melt.data.toList.drop 45 = dktX3_melt_2 := dk_seg dksX3_melt_1 23 rfl rfl
theorem dX3_melt_0 : decode cX3_melt 0 = .ok (.aload_n 0, 1) := dk_42 (dk_at dksX3_melt_0 0 rfl rfl)
theorem dX3_melt_1 : decode cX3_melt 1 = .ok (.iconst 0, 1) := dk_3 (dk_at dksX3_melt_0 1 rfl rfl)
theorem dX3_melt_2 : decode cX3_melt 2 = .ok (.putfield 87, 3) := dk_181 0 87 (dk_at dksX3_melt_0 2 rfl rfl)
theorem dX3_melt_5 : decode cX3_melt 5 = .ok (.aload_n 0, 1) := dk_42 (dk_at dksX3_melt_0 5 rfl rfl)
theorem dX3_melt_6 : decode cX3_melt 6 = .ok (.getfield 9, 3) := dk_180 0 9 (dk_at dksX3_melt_0 6 rfl rfl)
theorem dX3_melt_9 : decode cX3_melt 9 = .ok (.aload_n 0, 1) := dk_42 (dk_at dksX3_melt_0 9 rfl rfl)
theorem dX3_melt_10 : decode cX3_melt 10 = .ok (.getfield 62, 3) := dk_180 0 62 (dk_at dksX3_melt_0 10 rfl rfl)
theorem dX3_melt_13 : decode cX3_melt 13 = .ok (.iconst 0, 1) := dk_3 (dk_at dksX3_melt_0 13 rfl rfl)
theorem dX3_melt_14 : decode cX3_melt 14 = .ok (.invokestatic 253, 3) := dk_184 0 253 (dk_at dksX3_melt_0 14 rfl rfl)
theorem dX3_melt_17 : decode cX3_melt 17 = .ok (.iconst 0, 1) := dk_3 (dk_at dksX3_melt_0 17 rfl rfl)
theorem dX3_melt_18 : decode cX3_melt 18 = .ok (.istore_n 1, 1) := dk_60 (dk_at dksX3_melt_0 18 rfl rfl)
theorem dX3_melt_19 : decode cX3_melt 19 = .ok (.iload_n 1, 1) := dk_27 (dk_at dksX3_melt_0 19 rfl rfl)
theorem dX3_melt_20 : decode cX3_melt 20 = .ok (.bipush 60, 2) := dk_16 60 (dk_at dksX3_melt_0 20 rfl rfl)
theorem dX3_melt_22 : decode cX3_melt 22 = .ok (.if_icmp .gt 26, 3) := dk_163 0 26 (dk_at dksX3_melt_1 0 rfl rfl)
theorem dX3_melt_25 : decode cX3_melt 25 = .ok (.aload_n 0, 1) := dk_42 (dk_at dksX3_melt_1 3 rfl rfl)
theorem dX3_melt_26 : decode cX3_melt 26 = .ok (.invokevirtual 330, 3) := dk_182 1 74 (dk_at dksX3_melt_1 4 rfl rfl)
theorem dX3_melt_29 : decode cX3_melt 29 = .ok (.ifCond .eq 5, 3) := dk_153 0 5 (dk_at dksX3_melt_1 7 rfl rfl)
theorem dX3_melt_32 : decode cX3_melt 32 = .ok (.iload_n 1, 1) := dk_27 (dk_at dksX3_melt_1 10 rfl rfl)
theorem dX3_melt_33 : decode cX3_melt 33 = .ok (.ireturn, 1) := dk_172 (dk_at dksX3_melt_1 11 rfl rfl)
theorem dX3_melt_34 : decode cX3_melt 34 = .ok (.aload_n 0, 1) := dk_42 (dk_at dksX3_melt_1 12 rfl rfl)
theorem dX3_melt_35 : decode cX3_melt 35 = .ok (.aload_n 0, 1) := dk_42 (dk_at dksX3_melt_1 13 rfl rfl)
theorem dX3_melt_36 : decode cX3_melt 36 = .ok (.getfield 62, 3) := dk_180 0 62 (dk_at dksX3_melt_1 14 rfl rfl)
theorem dX3_melt_39 : decode cX3_melt 39 = .ok (.invokevirtual 260, 3) := dk_182 1 4 (dk_at dksX3_melt_1 17 rfl rfl)
theorem dX3_melt_42 : decode cX3_melt 42 = .ok (.iinc 1 1, 3) := dk_132 1 1 (dk_at dksX3_melt_1 20 rfl rfl)
theorem dX3_melt_45 : decode cX3_melt 45 = .ok (.goto (-26), 3) := dk_167 255 230 (dk_at dksX3_melt_2 0 rfl rfl)
theorem dX3_melt_48 : decode cX3_melt 48 = .ok (.bipush (-2), 2) := dk_16 254 (dk_at dksX3_melt_2 3 rfl rfl)
theorem dX3_melt_50 : decode cX3_melt 50 = .ok (.ireturn, 1) := dk_172 (dk_at dksX3_melt_2 5 rfl rfl)
abbrev cX3_isBareOf : ByteArray := prog_9_method_88_code
def yX3_isBareOf : MethodName := ⟨RX3, "isBareOf", "()Z"⟩
def dkwX3_isBareOf_1 : List UInt8 := [167, 255, 236, 4, 172]
abbrev dktX3_isBareOf_1 : List UInt8 := dkwX3_isBareOf_1 ++ []
def dkwX3_isBareOf_0 : List UInt8 := [3, 60, 27, 16, 21, 162, 0, 20, 42, 180, 0, 62, 27, 46, 158, 0, 5, 3, 172, 132, 1, 1]
abbrev dktX3_isBareOf_0 : List UInt8 := dkwX3_isBareOf_0 ++ dktX3_isBareOf_1
theorem dksX3_isBareOf_0 : cX3_isBareOf.data.toList.drop 0 = dktX3_isBareOf_0 := by decide +kernel
theorem dksX3_isBareOf_1 : cX3_isBareOf.data.toList.drop 22 = dktX3_isBareOf_1 := dk_seg dksX3_isBareOf_0 22 rfl rfl
theorem dX3_isBareOf_0 : decode cX3_isBareOf 0 = .ok (.iconst 0, 1) := dk_3 (dk_at dksX3_isBareOf_0 0 rfl rfl)
theorem dX3_isBareOf_1 : decode cX3_isBareOf 1 = .ok (.istore_n 1, 1) := dk_60 (dk_at dksX3_isBareOf_0 1 rfl rfl)
theorem dX3_isBareOf_2 : decode cX3_isBareOf 2 = .ok (.iload_n 1, 1) := dk_27 (dk_at dksX3_isBareOf_0 2 rfl rfl)
theorem dX3_isBareOf_3 : decode cX3_isBareOf 3 = .ok (.bipush 21, 2) := dk_16 21 (dk_at dksX3_isBareOf_0 3 rfl rfl)
theorem dX3_isBareOf_5 : decode cX3_isBareOf 5 = .ok (.if_icmp .ge 20, 3) := dk_162 0 20 (dk_at dksX3_isBareOf_0 5 rfl rfl)
theorem dX3_isBareOf_8 : decode cX3_isBareOf 8 = .ok (.aload_n 0, 1) := dk_42 (dk_at dksX3_isBareOf_0 8 rfl rfl)
theorem dX3_isBareOf_9 : decode cX3_isBareOf 9 = .ok (.getfield 62, 3) := dk_180 0 62 (dk_at dksX3_isBareOf_0 9 rfl rfl)
theorem dX3_isBareOf_12 : decode cX3_isBareOf 12 = .ok (.iload_n 1, 1) := dk_27 (dk_at dksX3_isBareOf_0 12 rfl rfl)
theorem dX3_isBareOf_13 : decode cX3_isBareOf 13 = .ok (.iaload, 1) := dk_46 (dk_at dksX3_isBareOf_0 13 rfl rfl)
theorem dX3_isBareOf_14 : decode cX3_isBareOf 14 = .ok (.ifCond .le 5, 3) := dk_158 0 5 (dk_at dksX3_isBareOf_0 14 rfl rfl)
theorem dX3_isBareOf_17 : decode cX3_isBareOf 17 = .ok (.iconst 0, 1) := dk_3 (dk_at dksX3_isBareOf_0 17 rfl rfl)
theorem dX3_isBareOf_18 : decode cX3_isBareOf 18 = .ok (.ireturn, 1) := dk_172 (dk_at dksX3_isBareOf_0 18 rfl rfl)
theorem dX3_isBareOf_19 : decode cX3_isBareOf 19 = .ok (.iinc 1 1, 3) := dk_132 1 1 (dk_at dksX3_isBareOf_0 19 rfl rfl)
theorem dX3_isBareOf_22 : decode cX3_isBareOf 22 = .ok (.goto (-20), 3) := dk_167 255 236 (dk_at dksX3_isBareOf_1 0 rfl rfl)
theorem dX3_isBareOf_25 : decode cX3_isBareOf 25 = .ok (.iconst 1, 1) := dk_4 (dk_at dksX3_isBareOf_1 3 rfl rfl)
theorem dX3_isBareOf_26 : decode cX3_isBareOf 26 = .ok (.ireturn, 1) := dk_172 (dk_at dksX3_isBareOf_1 4 rfl rfl)
abbrev cX3_lazy : ByteArray := prog_9_method_90_code
def yX3_lazy : MethodName := ⟨RX3, "lazy", "(I)I"⟩
def dkwX3_lazy_3 : List UInt8 := [180, 0, 243, 2, 130, 126, 182, 0, 230, 28, 172]
abbrev dktX3_lazy_3 : List UInt8 := dkwX3_lazy_3 ++ []
def dkwX3_lazy_2 : List UInt8 := [128, 61, 132, 3, 1, 167, 255, 226, 42, 3, 181, 0, 91, 42, 4, 42, 180, 0, 94, 120, 4, 100, 42]
abbrev dktX3_lazy_2 : List UInt8 := dkwX3_lazy_2 ++ dktX3_lazy_3
def dkwX3_lazy_1 : List UInt8 := [42, 180, 0, 94, 162, 0, 28, 28, 42, 180, 0, 38, 29, 46, 154, 0, 9, 4, 29, 120, 167, 0, 4, 3]
abbrev dktX3_lazy_1 : List UInt8 := dkwX3_lazy_1 ++ dktX3_lazy_2
def dkwX3_lazy_0 : List UInt8 := [42, 3, 181, 0, 87, 27, 184, 1, 68, 154, 0, 5, 2, 172, 42, 27, 182, 1, 71, 3, 61, 3, 62, 29]
abbrev dktX3_lazy_0 : List UInt8 := dkwX3_lazy_0 ++ dktX3_lazy_1
theorem dksX3_lazy_0 : cX3_lazy.data.toList.drop 0 = dktX3_lazy_0 := by decide +kernel
theorem dksX3_lazy_1 : cX3_lazy.data.toList.drop 24 = dktX3_lazy_1 := dk_seg dksX3_lazy_0 24 rfl rfl
theorem dksX3_lazy_2 : cX3_lazy.data.toList.drop 48 = dktX3_lazy_2 := dk_seg dksX3_lazy_1 24 rfl rfl
theorem dksX3_lazy_3 : cX3_lazy.data.toList.drop 71 = dktX3_lazy_3 := dk_seg dksX3_lazy_2 23 rfl rfl
theorem dX3_lazy_0 : decode cX3_lazy 0 = .ok (.aload_n 0, 1) := dk_42 (dk_at dksX3_lazy_0 0 rfl rfl)
theorem dX3_lazy_1 : decode cX3_lazy 1 = .ok (.iconst 0, 1) := dk_3 (dk_at dksX3_lazy_0 1 rfl rfl)
theorem dX3_lazy_2 : decode cX3_lazy 2 = .ok (.putfield 87, 3) := dk_181 0 87 (dk_at dksX3_lazy_0 2 rfl rfl)
theorem dX3_lazy_5 : decode cX3_lazy 5 = .ok (.iload_n 1, 1) := dk_27 (dk_at dksX3_lazy_0 5 rfl rfl)
theorem dX3_lazy_6 : decode cX3_lazy 6 = .ok (.invokestatic 324, 3) := dk_184 1 68 (dk_at dksX3_lazy_0 6 rfl rfl)
theorem dX3_lazy_9 : decode cX3_lazy 9 = .ok (.ifCond .ne 5, 3) := dk_154 0 5 (dk_at dksX3_lazy_0 9 rfl rfl)
theorem dX3_lazy_12 : decode cX3_lazy 12 = .ok (.iconst (-1), 1) := dk_2 (dk_at dksX3_lazy_0 12 rfl rfl)
theorem dX3_lazy_13 : decode cX3_lazy 13 = .ok (.ireturn, 1) := dk_172 (dk_at dksX3_lazy_0 13 rfl rfl)
theorem dX3_lazy_14 : decode cX3_lazy 14 = .ok (.aload_n 0, 1) := dk_42 (dk_at dksX3_lazy_0 14 rfl rfl)
theorem dX3_lazy_15 : decode cX3_lazy 15 = .ok (.iload_n 1, 1) := dk_27 (dk_at dksX3_lazy_0 15 rfl rfl)
theorem dX3_lazy_16 : decode cX3_lazy 16 = .ok (.invokevirtual 327, 3) := dk_182 1 71 (dk_at dksX3_lazy_0 16 rfl rfl)
theorem dX3_lazy_19 : decode cX3_lazy 19 = .ok (.iconst 0, 1) := dk_3 (dk_at dksX3_lazy_0 19 rfl rfl)
theorem dX3_lazy_20 : decode cX3_lazy 20 = .ok (.istore_n 2, 1) := dk_61 (dk_at dksX3_lazy_0 20 rfl rfl)
theorem dX3_lazy_21 : decode cX3_lazy 21 = .ok (.iconst 0, 1) := dk_3 (dk_at dksX3_lazy_0 21 rfl rfl)
theorem dX3_lazy_22 : decode cX3_lazy 22 = .ok (.istore_n 3, 1) := dk_62 (dk_at dksX3_lazy_0 22 rfl rfl)
theorem dX3_lazy_23 : decode cX3_lazy 23 = .ok (.iload_n 3, 1) := dk_29 (dk_at dksX3_lazy_0 23 rfl rfl)
theorem dX3_lazy_24 : decode cX3_lazy 24 = .ok (.aload_n 0, 1) := dk_42 (dk_at dksX3_lazy_1 0 rfl rfl)
theorem dX3_lazy_25 : decode cX3_lazy 25 = .ok (.getfield 94, 3) := dk_180 0 94 (dk_at dksX3_lazy_1 1 rfl rfl)
theorem dX3_lazy_28 : decode cX3_lazy 28 = .ok (.if_icmp .ge 28, 3) := dk_162 0 28 (dk_at dksX3_lazy_1 4 rfl rfl)
theorem dX3_lazy_31 : decode cX3_lazy 31 = .ok (.iload_n 2, 1) := dk_28 (dk_at dksX3_lazy_1 7 rfl rfl)
theorem dX3_lazy_32 : decode cX3_lazy 32 = .ok (.aload_n 0, 1) := dk_42 (dk_at dksX3_lazy_1 8 rfl rfl)
theorem dX3_lazy_33 : decode cX3_lazy 33 = .ok (.getfield 38, 3) := dk_180 0 38 (dk_at dksX3_lazy_1 9 rfl rfl)
theorem dX3_lazy_36 : decode cX3_lazy 36 = .ok (.iload_n 3, 1) := dk_29 (dk_at dksX3_lazy_1 12 rfl rfl)
theorem dX3_lazy_37 : decode cX3_lazy 37 = .ok (.iaload, 1) := dk_46 (dk_at dksX3_lazy_1 13 rfl rfl)
theorem dX3_lazy_38 : decode cX3_lazy 38 = .ok (.ifCond .ne 9, 3) := dk_154 0 9 (dk_at dksX3_lazy_1 14 rfl rfl)
theorem dX3_lazy_41 : decode cX3_lazy 41 = .ok (.iconst 1, 1) := dk_4 (dk_at dksX3_lazy_1 17 rfl rfl)
theorem dX3_lazy_42 : decode cX3_lazy 42 = .ok (.iload_n 3, 1) := dk_29 (dk_at dksX3_lazy_1 18 rfl rfl)
theorem dX3_lazy_43 : decode cX3_lazy 43 = .ok (.ishl, 1) := dk_120 (dk_at dksX3_lazy_1 19 rfl rfl)
theorem dX3_lazy_44 : decode cX3_lazy 44 = .ok (.goto 4, 3) := dk_167 0 4 (dk_at dksX3_lazy_1 20 rfl rfl)
theorem dX3_lazy_47 : decode cX3_lazy 47 = .ok (.iconst 0, 1) := dk_3 (dk_at dksX3_lazy_1 23 rfl rfl)
theorem dX3_lazy_48 : decode cX3_lazy 48 = .ok (.ior, 1) := dk_128 (dk_at dksX3_lazy_2 0 rfl rfl)
theorem dX3_lazy_49 : decode cX3_lazy 49 = .ok (.istore_n 2, 1) := dk_61 (dk_at dksX3_lazy_2 1 rfl rfl)
theorem dX3_lazy_50 : decode cX3_lazy 50 = .ok (.iinc 3 1, 3) := dk_132 3 1 (dk_at dksX3_lazy_2 2 rfl rfl)
theorem dX3_lazy_53 : decode cX3_lazy 53 = .ok (.goto (-30), 3) := dk_167 255 226 (dk_at dksX3_lazy_2 5 rfl rfl)
theorem dX3_lazy_56 : decode cX3_lazy 56 = .ok (.aload_n 0, 1) := dk_42 (dk_at dksX3_lazy_2 8 rfl rfl)
theorem dX3_lazy_57 : decode cX3_lazy 57 = .ok (.iconst 0, 1) := dk_3 (dk_at dksX3_lazy_2 9 rfl rfl)
theorem dX3_lazy_58 : decode cX3_lazy 58 = .ok (.putfield 91, 3) := dk_181 0 91 (dk_at dksX3_lazy_2 10 rfl rfl)
theorem dX3_lazy_61 : decode cX3_lazy 61 = .ok (.aload_n 0, 1) := dk_42 (dk_at dksX3_lazy_2 13 rfl rfl)
theorem dX3_lazy_62 : decode cX3_lazy 62 = .ok (.iconst 1, 1) := dk_4 (dk_at dksX3_lazy_2 14 rfl rfl)
theorem dX3_lazy_63 : decode cX3_lazy 63 = .ok (.aload_n 0, 1) := dk_42 (dk_at dksX3_lazy_2 15 rfl rfl)
theorem dX3_lazy_64 : decode cX3_lazy 64 = .ok (.getfield 94, 3) := dk_180 0 94 (dk_at dksX3_lazy_2 16 rfl rfl)
theorem dX3_lazy_67 : decode cX3_lazy 67 = .ok (.ishl, 1) := dk_120 (dk_at dksX3_lazy_2 19 rfl rfl)
theorem dX3_lazy_68 : decode cX3_lazy 68 = .ok (.iconst 1, 1) := dk_4 (dk_at dksX3_lazy_2 20 rfl rfl)
theorem dX3_lazy_69 : decode cX3_lazy 69 = .ok (.isub, 1) := dk_100 (dk_at dksX3_lazy_2 21 rfl rfl)
theorem dX3_lazy_70 : decode cX3_lazy 70 = .ok (.aload_n 0, 1) := dk_42 (dk_at dksX3_lazy_2 22 rfl rfl)
theorem dX3_lazy_71 : decode cX3_lazy 71 = .ok (.getfield 243, 3) := dk_180 0 243 (dk_at dksX3_lazy_3 0 rfl rfl)
theorem dX3_lazy_74 : decode cX3_lazy 74 = .ok (.iconst (-1), 1) := dk_2 (dk_at dksX3_lazy_3 3 rfl rfl)
theorem dX3_lazy_75 : decode cX3_lazy 75 = .ok (.ixor, 1) := dk_130 (dk_at dksX3_lazy_3 4 rfl rfl)
theorem dX3_lazy_76 : decode cX3_lazy 76 = .ok (.iand, 1) := dk_126 (dk_at dksX3_lazy_3 5 rfl rfl)
theorem dX3_lazy_77 : decode cX3_lazy 77 = .ok (.invokevirtual 230, 3) := dk_182 0 230 (dk_at dksX3_lazy_3 6 rfl rfl)
theorem dX3_lazy_80 : decode cX3_lazy 80 = .ok (.iload_n 2, 1) := dk_28 (dk_at dksX3_lazy_3 9 rfl rfl)
theorem dX3_lazy_81 : decode cX3_lazy 81 = .ok (.ireturn, 1) := dk_172 (dk_at dksX3_lazy_3 10 rfl rfl)
abbrev cX3_dig : ByteArray := prog_9_method_91_code
def yX3_dig : MethodName := ⟨RX3, "dig", "(III)I"⟩
def dkwX3_dig_6 : List UInt8 := [167, 255, 214, 21, 5, 153, 0, 6, 21, 4, 172, 132, 4, 1, 167, 255, 137, 16, 254, 172]
abbrev dktX3_dig_6 : List UInt8 := dkwX3_dig_6 ++ []
def dkwX3_dig_5 : List UInt8 := [42, 180, 0, 62, 16, 14, 27, 96, 46, 28, 163, 0, 7, 4, 167, 0, 4, 3, 54, 5, 132, 6, 1]
abbrev dktX3_dig_5 : List UInt8 := dkwX3_dig_5 ++ dktX3_dig_6
def dkwX3_dig_4 : List UInt8 := [54, 5, 3, 54, 6, 21, 6, 29, 162, 0, 42, 21, 5, 153, 0, 37, 42, 42, 180, 0, 62, 182, 1, 4]
abbrev dktX3_dig_4 : List UInt8 := dkwX3_dig_4 ++ dktX3_dig_5
def dkwX3_dig_3 : List UInt8 := [46, 21, 4, 100, 79, 42, 180, 0, 62, 16, 14, 27, 96, 46, 28, 163, 0, 7, 4, 167, 0, 4, 3]
abbrev dktX3_dig_3 : List UInt8 := dkwX3_dig_3 ++ dktX3_dig_4
def dkwX3_dig_2 : List UInt8 := [163, 0, 111, 42, 180, 0, 9, 42, 180, 0, 62, 3, 184, 0, 253, 42, 180, 0, 62, 16, 14, 27, 96, 92]
abbrev dktX3_dig_2 : List UInt8 := dkwX3_dig_2 ++ dktX3_dig_3
def dkwX3_dig_1 : List UInt8 := [29, 184, 1, 68, 154, 0, 5, 2, 172, 3, 54, 4, 21, 4, 42, 180, 0, 9, 16, 14, 27, 96, 46]
abbrev dktX3_dig_1 : List UInt8 := dkwX3_dig_1 ++ dktX3_dig_2
def dkwX3_dig_0 : List UInt8 := [42, 3, 181, 0, 87, 42, 27, 182, 0, 101, 153, 0, 21, 28, 3, 17, 3, 231, 184, 0, 97, 153, 0, 10]
abbrev dktX3_dig_0 : List UInt8 := dkwX3_dig_0 ++ dktX3_dig_1
theorem dksX3_dig_0 : cX3_dig.data.toList.drop 0 = dktX3_dig_0 := by decide +kernel
theorem dksX3_dig_1 : cX3_dig.data.toList.drop 24 = dktX3_dig_1 := dk_seg dksX3_dig_0 24 rfl rfl
theorem dksX3_dig_2 : cX3_dig.data.toList.drop 47 = dktX3_dig_2 := dk_seg dksX3_dig_1 23 rfl rfl
theorem dksX3_dig_3 : cX3_dig.data.toList.drop 71 = dktX3_dig_3 := dk_seg dksX3_dig_2 24 rfl rfl
theorem dksX3_dig_4 : cX3_dig.data.toList.drop 94 = dktX3_dig_4 := dk_seg dksX3_dig_3 23 rfl rfl
theorem dksX3_dig_5 : cX3_dig.data.toList.drop 118 = dktX3_dig_5 := dk_seg dksX3_dig_4 24 rfl rfl
theorem dksX3_dig_6 : cX3_dig.data.toList.drop 141 = dktX3_dig_6 := dk_seg dksX3_dig_5 23 rfl rfl
theorem dX3_dig_0 : decode cX3_dig 0 = .ok (.aload_n 0, 1) := dk_42 (dk_at dksX3_dig_0 0 rfl rfl)
theorem dX3_dig_1 : decode cX3_dig 1 = .ok (.iconst 0, 1) := dk_3 (dk_at dksX3_dig_0 1 rfl rfl)
theorem dX3_dig_2 : decode cX3_dig 2 = .ok (.putfield 87, 3) := dk_181 0 87 (dk_at dksX3_dig_0 2 rfl rfl)
theorem dX3_dig_5 : decode cX3_dig 5 = .ok (.aload_n 0, 1) := dk_42 (dk_at dksX3_dig_0 5 rfl rfl)
theorem dX3_dig_6 : decode cX3_dig 6 = .ok (.iload_n 1, 1) := dk_27 (dk_at dksX3_dig_0 6 rfl rfl)
theorem dX3_dig_7 : decode cX3_dig 7 = .ok (.invokevirtual 101, 3) := dk_182 0 101 (dk_at dksX3_dig_0 7 rfl rfl)
theorem dX3_dig_10 : decode cX3_dig 10 = .ok (.ifCond .eq 21, 3) := dk_153 0 21 (dk_at dksX3_dig_0 10 rfl rfl)
theorem dX3_dig_13 : decode cX3_dig 13 = .ok (.iload_n 2, 1) := dk_28 (dk_at dksX3_dig_0 13 rfl rfl)
theorem dX3_dig_14 : decode cX3_dig 14 = .ok (.iconst 0, 1) := dk_3 (dk_at dksX3_dig_0 14 rfl rfl)
theorem dX3_dig_15 : decode cX3_dig 15 = .ok (.sipush 999, 3) := dk_17 3 231 (dk_at dksX3_dig_0 15 rfl rfl)
theorem dX3_dig_18 : decode cX3_dig 18 = .ok (.invokestatic 97, 3) := dk_184 0 97 (dk_at dksX3_dig_0 18 rfl rfl)
theorem dX3_dig_21 : decode cX3_dig 21 = .ok (.ifCond .eq 10, 3) := dk_153 0 10 (dk_at dksX3_dig_0 21 rfl rfl)
theorem dX3_dig_24 : decode cX3_dig 24 = .ok (.iload_n 3, 1) := dk_29 (dk_at dksX3_dig_1 0 rfl rfl)
theorem dX3_dig_25 : decode cX3_dig 25 = .ok (.invokestatic 324, 3) := dk_184 1 68 (dk_at dksX3_dig_1 1 rfl rfl)
theorem dX3_dig_28 : decode cX3_dig 28 = .ok (.ifCond .ne 5, 3) := dk_154 0 5 (dk_at dksX3_dig_1 4 rfl rfl)
theorem dX3_dig_31 : decode cX3_dig 31 = .ok (.iconst (-1), 1) := dk_2 (dk_at dksX3_dig_1 7 rfl rfl)
theorem dX3_dig_32 : decode cX3_dig 32 = .ok (.ireturn, 1) := dk_172 (dk_at dksX3_dig_1 8 rfl rfl)
theorem dX3_dig_33 : decode cX3_dig 33 = .ok (.iconst 0, 1) := dk_3 (dk_at dksX3_dig_1 9 rfl rfl)
theorem dX3_dig_34 : decode cX3_dig 34 = .ok (.istore 4, 2) := dk_54 4 (dk_at dksX3_dig_1 10 rfl rfl)
theorem dX3_dig_36 : decode cX3_dig 36 = .ok (.iload 4, 2) := dk_21 4 (dk_at dksX3_dig_1 12 rfl rfl)
theorem dX3_dig_38 : decode cX3_dig 38 = .ok (.aload_n 0, 1) := dk_42 (dk_at dksX3_dig_1 14 rfl rfl)
theorem dX3_dig_39 : decode cX3_dig 39 = .ok (.getfield 9, 3) := dk_180 0 9 (dk_at dksX3_dig_1 15 rfl rfl)
theorem dX3_dig_42 : decode cX3_dig 42 = .ok (.bipush 14, 2) := dk_16 14 (dk_at dksX3_dig_1 18 rfl rfl)
theorem dX3_dig_44 : decode cX3_dig 44 = .ok (.iload_n 1, 1) := dk_27 (dk_at dksX3_dig_1 20 rfl rfl)
theorem dX3_dig_45 : decode cX3_dig 45 = .ok (.iadd, 1) := dk_96 (dk_at dksX3_dig_1 21 rfl rfl)
theorem dX3_dig_46 : decode cX3_dig 46 = .ok (.iaload, 1) := dk_46 (dk_at dksX3_dig_1 22 rfl rfl)
theorem dX3_dig_47 : decode cX3_dig 47 = .ok (.if_icmp .gt 111, 3) := dk_163 0 111 (dk_at dksX3_dig_2 0 rfl rfl)
theorem dX3_dig_50 : decode cX3_dig 50 = .ok (.aload_n 0, 1) := dk_42 (dk_at dksX3_dig_2 3 rfl rfl)
theorem dX3_dig_51 : decode cX3_dig 51 = .ok (.getfield 9, 3) := dk_180 0 9 (dk_at dksX3_dig_2 4 rfl rfl)
theorem dX3_dig_54 : decode cX3_dig 54 = .ok (.aload_n 0, 1) := dk_42 (dk_at dksX3_dig_2 7 rfl rfl)
theorem dX3_dig_55 : decode cX3_dig 55 = .ok (.getfield 62, 3) := dk_180 0 62 (dk_at dksX3_dig_2 8 rfl rfl)
theorem dX3_dig_58 : decode cX3_dig 58 = .ok (.iconst 0, 1) := dk_3 (dk_at dksX3_dig_2 11 rfl rfl)
theorem dX3_dig_59 : decode cX3_dig 59 = .ok (.invokestatic 253, 3) := dk_184 0 253 (dk_at dksX3_dig_2 12 rfl rfl)
theorem dX3_dig_62 : decode cX3_dig 62 = .ok (.aload_n 0, 1) := dk_42 (dk_at dksX3_dig_2 15 rfl rfl)
theorem dX3_dig_63 : decode cX3_dig 63 = .ok (.getfield 62, 3) := dk_180 0 62 (dk_at dksX3_dig_2 16 rfl rfl)
theorem dX3_dig_66 : decode cX3_dig 66 = .ok (.bipush 14, 2) := dk_16 14 (dk_at dksX3_dig_2 19 rfl rfl)
theorem dX3_dig_68 : decode cX3_dig 68 = .ok (.iload_n 1, 1) := dk_27 (dk_at dksX3_dig_2 21 rfl rfl)
theorem dX3_dig_69 : decode cX3_dig 69 = .ok (.iadd, 1) := dk_96 (dk_at dksX3_dig_2 22 rfl rfl)
theorem dX3_dig_70 : decode cX3_dig 70 = .ok (.dup2, 1) := dk_92 (dk_at dksX3_dig_2 23 rfl rfl)
theorem dX3_dig_71 : decode cX3_dig 71 = .ok (.iaload, 1) := dk_46 (dk_at dksX3_dig_3 0 rfl rfl)
theorem dX3_dig_72 : decode cX3_dig 72 = .ok (.iload 4, 2) := dk_21 4 (dk_at dksX3_dig_3 1 rfl rfl)
theorem dX3_dig_74 : decode cX3_dig 74 = .ok (.isub, 1) := dk_100 (dk_at dksX3_dig_3 3 rfl rfl)
theorem dX3_dig_75 : decode cX3_dig 75 = .ok (.iastore, 1) := dk_79 (dk_at dksX3_dig_3 4 rfl rfl)
theorem dX3_dig_76 : decode cX3_dig 76 = .ok (.aload_n 0, 1) := dk_42 (dk_at dksX3_dig_3 5 rfl rfl)
theorem dX3_dig_77 : decode cX3_dig 77 = .ok (.getfield 62, 3) := dk_180 0 62 (dk_at dksX3_dig_3 6 rfl rfl)
theorem dX3_dig_80 : decode cX3_dig 80 = .ok (.bipush 14, 2) := dk_16 14 (dk_at dksX3_dig_3 9 rfl rfl)
theorem dX3_dig_82 : decode cX3_dig 82 = .ok (.iload_n 1, 1) := dk_27 (dk_at dksX3_dig_3 11 rfl rfl)
theorem dX3_dig_83 : decode cX3_dig 83 = .ok (.iadd, 1) := dk_96 (dk_at dksX3_dig_3 12 rfl rfl)
theorem dX3_dig_84 : decode cX3_dig 84 = .ok (.iaload, 1) := dk_46 (dk_at dksX3_dig_3 13 rfl rfl)
theorem dX3_dig_85 : decode cX3_dig 85 = .ok (.iload_n 2, 1) := dk_28 (dk_at dksX3_dig_3 14 rfl rfl)
theorem dX3_dig_86 : decode cX3_dig 86 = .ok (.if_icmp .gt 7, 3) := dk_163 0 7 (dk_at dksX3_dig_3 15 rfl rfl)
theorem dX3_dig_89 : decode cX3_dig 89 = .ok (.iconst 1, 1) := dk_4 (dk_at dksX3_dig_3 18 rfl rfl)
theorem dX3_dig_90 : decode cX3_dig 90 = .ok (.goto 4, 3) := dk_167 0 4 (dk_at dksX3_dig_3 19 rfl rfl)
theorem dX3_dig_93 : decode cX3_dig 93 = .ok (.iconst 0, 1) := dk_3 (dk_at dksX3_dig_3 22 rfl rfl)
theorem dX3_dig_94 : decode cX3_dig 94 = .ok (.istore 5, 2) := dk_54 5 (dk_at dksX3_dig_4 0 rfl rfl)
theorem dX3_dig_96 : decode cX3_dig 96 = .ok (.iconst 0, 1) := dk_3 (dk_at dksX3_dig_4 2 rfl rfl)
theorem dX3_dig_97 : decode cX3_dig 97 = .ok (.istore 6, 2) := dk_54 6 (dk_at dksX3_dig_4 3 rfl rfl)
theorem dX3_dig_99 : decode cX3_dig 99 = .ok (.iload 6, 2) := dk_21 6 (dk_at dksX3_dig_4 5 rfl rfl)
theorem dX3_dig_101 : decode cX3_dig 101 = .ok (.iload_n 3, 1) := dk_29 (dk_at dksX3_dig_4 7 rfl rfl)
theorem dX3_dig_102 : decode cX3_dig 102 = .ok (.if_icmp .ge 42, 3) := dk_162 0 42 (dk_at dksX3_dig_4 8 rfl rfl)
theorem dX3_dig_105 : decode cX3_dig 105 = .ok (.iload 5, 2) := dk_21 5 (dk_at dksX3_dig_4 11 rfl rfl)
theorem dX3_dig_107 : decode cX3_dig 107 = .ok (.ifCond .eq 37, 3) := dk_153 0 37 (dk_at dksX3_dig_4 13 rfl rfl)
theorem dX3_dig_110 : decode cX3_dig 110 = .ok (.aload_n 0, 1) := dk_42 (dk_at dksX3_dig_4 16 rfl rfl)
theorem dX3_dig_111 : decode cX3_dig 111 = .ok (.aload_n 0, 1) := dk_42 (dk_at dksX3_dig_4 17 rfl rfl)
theorem dX3_dig_112 : decode cX3_dig 112 = .ok (.getfield 62, 3) := dk_180 0 62 (dk_at dksX3_dig_4 18 rfl rfl)
theorem dX3_dig_115 : decode cX3_dig 115 = .ok (.invokevirtual 260, 3) := dk_182 1 4 (dk_at dksX3_dig_4 21 rfl rfl)
theorem dX3_dig_118 : decode cX3_dig 118 = .ok (.aload_n 0, 1) := dk_42 (dk_at dksX3_dig_5 0 rfl rfl)
theorem dX3_dig_119 : decode cX3_dig 119 = .ok (.getfield 62, 3) := dk_180 0 62 (dk_at dksX3_dig_5 1 rfl rfl)
theorem dX3_dig_122 : decode cX3_dig 122 = .ok (.bipush 14, 2) := dk_16 14 (dk_at dksX3_dig_5 4 rfl rfl)
theorem dX3_dig_124 : decode cX3_dig 124 = .ok (.iload_n 1, 1) := dk_27 (dk_at dksX3_dig_5 6 rfl rfl)
theorem dX3_dig_125 : decode cX3_dig 125 = .ok (.iadd, 1) := dk_96 (dk_at dksX3_dig_5 7 rfl rfl)
theorem dX3_dig_126 : decode cX3_dig 126 = .ok (.iaload, 1) := dk_46 (dk_at dksX3_dig_5 8 rfl rfl)
theorem dX3_dig_127 : decode cX3_dig 127 = .ok (.iload_n 2, 1) := dk_28 (dk_at dksX3_dig_5 9 rfl rfl)
theorem dX3_dig_128 : decode cX3_dig 128 = .ok (.if_icmp .gt 7, 3) := dk_163 0 7 (dk_at dksX3_dig_5 10 rfl rfl)
theorem dX3_dig_131 : decode cX3_dig 131 = .ok (.iconst 1, 1) := dk_4 (dk_at dksX3_dig_5 13 rfl rfl)
theorem dX3_dig_132 : decode cX3_dig 132 = .ok (.goto 4, 3) := dk_167 0 4 (dk_at dksX3_dig_5 14 rfl rfl)
theorem dX3_dig_135 : decode cX3_dig 135 = .ok (.iconst 0, 1) := dk_3 (dk_at dksX3_dig_5 17 rfl rfl)
theorem dX3_dig_136 : decode cX3_dig 136 = .ok (.istore 5, 2) := dk_54 5 (dk_at dksX3_dig_5 18 rfl rfl)
theorem dX3_dig_138 : decode cX3_dig 138 = .ok (.iinc 6 1, 3) := dk_132 6 1 (dk_at dksX3_dig_5 20 rfl rfl)
theorem dX3_dig_141 : decode cX3_dig 141 = .ok (.goto (-42), 3) := dk_167 255 214 (dk_at dksX3_dig_6 0 rfl rfl)
theorem dX3_dig_144 : decode cX3_dig 144 = .ok (.iload 5, 2) := dk_21 5 (dk_at dksX3_dig_6 3 rfl rfl)
theorem dX3_dig_146 : decode cX3_dig 146 = .ok (.ifCond .eq 6, 3) := dk_153 0 6 (dk_at dksX3_dig_6 5 rfl rfl)
theorem dX3_dig_149 : decode cX3_dig 149 = .ok (.iload 4, 2) := dk_21 4 (dk_at dksX3_dig_6 8 rfl rfl)
theorem dX3_dig_151 : decode cX3_dig 151 = .ok (.ireturn, 1) := dk_172 (dk_at dksX3_dig_6 10 rfl rfl)
theorem dX3_dig_152 : decode cX3_dig 152 = .ok (.iinc 4 1, 3) := dk_132 4 1 (dk_at dksX3_dig_6 11 rfl rfl)
theorem dX3_dig_155 : decode cX3_dig 155 = .ok (.goto (-119), 3) := dk_167 255 137 (dk_at dksX3_dig_6 14 rfl rfl)
theorem dX3_dig_158 : decode cX3_dig 158 = .ok (.bipush (-2), 2) := dk_16 254 (dk_at dksX3_dig_6 17 rfl rfl)
theorem dX3_dig_160 : decode cX3_dig 160 = .ok (.ireturn, 1) := dk_172 (dk_at dksX3_dig_6 19 rfl rfl)
abbrev cX3_bare : ByteArray := prog_9_method_92_code
def yX3_bare : MethodName := ⟨RX3, "bare", "(II)I"⟩
def dkwX3_bare_4 : List UInt8 := [180, 0, 240, 100, 172]
abbrev dktX3_bare_4 : List UInt8 := dkwX3_bare_4 ++ []
def dkwX3_bare_3 : List UInt8 := [54, 4, 21, 4, 28, 162, 0, 17, 42, 42, 180, 0, 62, 182, 1, 4, 132, 4, 1, 167, 255, 239, 29, 42]
abbrev dktX3_bare_3 : List UInt8 := dkwX3_bare_3 ++ dktX3_bare_4
def dkwX3_bare_2 : List UInt8 := [184, 0, 253, 42, 180, 0, 62, 5, 27, 104, 3, 79, 42, 180, 0, 62, 5, 27, 104, 4, 96, 3, 79, 3]
abbrev dktX3_bare_2 : List UInt8 := dkwX3_bare_2 ++ dktX3_bare_3
def dkwX3_bare_1 : List UInt8 := [172, 42, 28, 182, 1, 71, 42, 180, 0, 240, 62, 42, 182, 1, 1, 42, 180, 0, 9, 42, 180, 0, 62, 3]
abbrev dktX3_bare_1 : List UInt8 := dkwX3_bare_1 ++ dktX3_bare_2
def dkwX3_bare_0 : List UInt8 := [42, 3, 181, 0, 87, 42, 27, 182, 0, 101, 153, 0, 10, 28, 184, 1, 68, 154, 0, 8, 42, 182, 0, 214]
abbrev dktX3_bare_0 : List UInt8 := dkwX3_bare_0 ++ dktX3_bare_1
theorem dksX3_bare_0 : cX3_bare.data.toList.drop 0 = dktX3_bare_0 := by decide +kernel
theorem dksX3_bare_1 : cX3_bare.data.toList.drop 24 = dktX3_bare_1 := dk_seg dksX3_bare_0 24 rfl rfl
theorem dksX3_bare_2 : cX3_bare.data.toList.drop 48 = dktX3_bare_2 := dk_seg dksX3_bare_1 24 rfl rfl
theorem dksX3_bare_3 : cX3_bare.data.toList.drop 72 = dktX3_bare_3 := dk_seg dksX3_bare_2 24 rfl rfl
theorem dksX3_bare_4 : cX3_bare.data.toList.drop 96 = dktX3_bare_4 := dk_seg dksX3_bare_3 24 rfl rfl
theorem dX3_bare_0 : decode cX3_bare 0 = .ok (.aload_n 0, 1) := dk_42 (dk_at dksX3_bare_0 0 rfl rfl)
theorem dX3_bare_1 : decode cX3_bare 1 = .ok (.iconst 0, 1) := dk_3 (dk_at dksX3_bare_0 1 rfl rfl)
theorem dX3_bare_2 : decode cX3_bare 2 = .ok (.putfield 87, 3) := dk_181 0 87 (dk_at dksX3_bare_0 2 rfl rfl)
theorem dX3_bare_5 : decode cX3_bare 5 = .ok (.aload_n 0, 1) := dk_42 (dk_at dksX3_bare_0 5 rfl rfl)
theorem dX3_bare_6 : decode cX3_bare 6 = .ok (.iload_n 1, 1) := dk_27 (dk_at dksX3_bare_0 6 rfl rfl)
theorem dX3_bare_7 : decode cX3_bare 7 = .ok (.invokevirtual 101, 3) := dk_182 0 101 (dk_at dksX3_bare_0 7 rfl rfl)
theorem dX3_bare_10 : decode cX3_bare 10 = .ok (.ifCond .eq 10, 3) := dk_153 0 10 (dk_at dksX3_bare_0 10 rfl rfl)
theorem dX3_bare_13 : decode cX3_bare 13 = .ok (.iload_n 2, 1) := dk_28 (dk_at dksX3_bare_0 13 rfl rfl)
theorem dX3_bare_14 : decode cX3_bare 14 = .ok (.invokestatic 324, 3) := dk_184 1 68 (dk_at dksX3_bare_0 14 rfl rfl)
theorem dX3_bare_17 : decode cX3_bare 17 = .ok (.ifCond .ne 8, 3) := dk_154 0 8 (dk_at dksX3_bare_0 17 rfl rfl)
theorem dX3_bare_20 : decode cX3_bare 20 = .ok (.aload_n 0, 1) := dk_42 (dk_at dksX3_bare_0 20 rfl rfl)
theorem dX3_bare_21 : decode cX3_bare 21 = .ok (.invokevirtual 214, 3) := dk_182 0 214 (dk_at dksX3_bare_0 21 rfl rfl)
theorem dX3_bare_24 : decode cX3_bare 24 = .ok (.ireturn, 1) := dk_172 (dk_at dksX3_bare_1 0 rfl rfl)
theorem dX3_bare_25 : decode cX3_bare 25 = .ok (.aload_n 0, 1) := dk_42 (dk_at dksX3_bare_1 1 rfl rfl)
theorem dX3_bare_26 : decode cX3_bare 26 = .ok (.iload_n 2, 1) := dk_28 (dk_at dksX3_bare_1 2 rfl rfl)
theorem dX3_bare_27 : decode cX3_bare 27 = .ok (.invokevirtual 327, 3) := dk_182 1 71 (dk_at dksX3_bare_1 3 rfl rfl)
theorem dX3_bare_30 : decode cX3_bare 30 = .ok (.aload_n 0, 1) := dk_42 (dk_at dksX3_bare_1 6 rfl rfl)
theorem dX3_bare_31 : decode cX3_bare 31 = .ok (.getfield 240, 3) := dk_180 0 240 (dk_at dksX3_bare_1 7 rfl rfl)
theorem dX3_bare_34 : decode cX3_bare 34 = .ok (.istore_n 3, 1) := dk_62 (dk_at dksX3_bare_1 10 rfl rfl)
theorem dX3_bare_35 : decode cX3_bare 35 = .ok (.aload_n 0, 1) := dk_42 (dk_at dksX3_bare_1 11 rfl rfl)
theorem dX3_bare_36 : decode cX3_bare 36 = .ok (.invokevirtual 257, 3) := dk_182 1 1 (dk_at dksX3_bare_1 12 rfl rfl)
theorem dX3_bare_39 : decode cX3_bare 39 = .ok (.aload_n 0, 1) := dk_42 (dk_at dksX3_bare_1 15 rfl rfl)
theorem dX3_bare_40 : decode cX3_bare 40 = .ok (.getfield 9, 3) := dk_180 0 9 (dk_at dksX3_bare_1 16 rfl rfl)
theorem dX3_bare_43 : decode cX3_bare 43 = .ok (.aload_n 0, 1) := dk_42 (dk_at dksX3_bare_1 19 rfl rfl)
theorem dX3_bare_44 : decode cX3_bare 44 = .ok (.getfield 62, 3) := dk_180 0 62 (dk_at dksX3_bare_1 20 rfl rfl)
theorem dX3_bare_47 : decode cX3_bare 47 = .ok (.iconst 0, 1) := dk_3 (dk_at dksX3_bare_1 23 rfl rfl)
theorem dX3_bare_48 : decode cX3_bare 48 = .ok (.invokestatic 253, 3) := dk_184 0 253 (dk_at dksX3_bare_2 0 rfl rfl)
theorem dX3_bare_51 : decode cX3_bare 51 = .ok (.aload_n 0, 1) := dk_42 (dk_at dksX3_bare_2 3 rfl rfl)
theorem dX3_bare_52 : decode cX3_bare 52 = .ok (.getfield 62, 3) := dk_180 0 62 (dk_at dksX3_bare_2 4 rfl rfl)
theorem dX3_bare_55 : decode cX3_bare 55 = .ok (.iconst 2, 1) := dk_5 (dk_at dksX3_bare_2 7 rfl rfl)
theorem dX3_bare_56 : decode cX3_bare 56 = .ok (.iload_n 1, 1) := dk_27 (dk_at dksX3_bare_2 8 rfl rfl)
theorem dX3_bare_57 : decode cX3_bare 57 = .ok (.imul, 1) := dk_104 (dk_at dksX3_bare_2 9 rfl rfl)
theorem dX3_bare_58 : decode cX3_bare 58 = .ok (.iconst 0, 1) := dk_3 (dk_at dksX3_bare_2 10 rfl rfl)
theorem dX3_bare_59 : decode cX3_bare 59 = .ok (.iastore, 1) := dk_79 (dk_at dksX3_bare_2 11 rfl rfl)
theorem dX3_bare_60 : decode cX3_bare 60 = .ok (.aload_n 0, 1) := dk_42 (dk_at dksX3_bare_2 12 rfl rfl)
theorem dX3_bare_61 : decode cX3_bare 61 = .ok (.getfield 62, 3) := dk_180 0 62 (dk_at dksX3_bare_2 13 rfl rfl)
theorem dX3_bare_64 : decode cX3_bare 64 = .ok (.iconst 2, 1) := dk_5 (dk_at dksX3_bare_2 16 rfl rfl)
theorem dX3_bare_65 : decode cX3_bare 65 = .ok (.iload_n 1, 1) := dk_27 (dk_at dksX3_bare_2 17 rfl rfl)
theorem dX3_bare_66 : decode cX3_bare 66 = .ok (.imul, 1) := dk_104 (dk_at dksX3_bare_2 18 rfl rfl)
theorem dX3_bare_67 : decode cX3_bare 67 = .ok (.iconst 1, 1) := dk_4 (dk_at dksX3_bare_2 19 rfl rfl)
theorem dX3_bare_68 : decode cX3_bare 68 = .ok (.iadd, 1) := dk_96 (dk_at dksX3_bare_2 20 rfl rfl)
theorem dX3_bare_69 : decode cX3_bare 69 = .ok (.iconst 0, 1) := dk_3 (dk_at dksX3_bare_2 21 rfl rfl)
theorem dX3_bare_70 : decode cX3_bare 70 = .ok (.iastore, 1) := dk_79 (dk_at dksX3_bare_2 22 rfl rfl)
theorem dX3_bare_71 : decode cX3_bare 71 = .ok (.iconst 0, 1) := dk_3 (dk_at dksX3_bare_2 23 rfl rfl)
theorem dX3_bare_72 : decode cX3_bare 72 = .ok (.istore 4, 2) := dk_54 4 (dk_at dksX3_bare_3 0 rfl rfl)
theorem dX3_bare_74 : decode cX3_bare 74 = .ok (.iload 4, 2) := dk_21 4 (dk_at dksX3_bare_3 2 rfl rfl)
theorem dX3_bare_76 : decode cX3_bare 76 = .ok (.iload_n 2, 1) := dk_28 (dk_at dksX3_bare_3 4 rfl rfl)
theorem dX3_bare_77 : decode cX3_bare 77 = .ok (.if_icmp .ge 17, 3) := dk_162 0 17 (dk_at dksX3_bare_3 5 rfl rfl)
theorem dX3_bare_80 : decode cX3_bare 80 = .ok (.aload_n 0, 1) := dk_42 (dk_at dksX3_bare_3 8 rfl rfl)
theorem dX3_bare_81 : decode cX3_bare 81 = .ok (.aload_n 0, 1) := dk_42 (dk_at dksX3_bare_3 9 rfl rfl)
theorem dX3_bare_82 : decode cX3_bare 82 = .ok (.getfield 62, 3) := dk_180 0 62 (dk_at dksX3_bare_3 10 rfl rfl)
theorem dX3_bare_85 : decode cX3_bare 85 = .ok (.invokevirtual 260, 3) := dk_182 1 4 (dk_at dksX3_bare_3 13 rfl rfl)
theorem dX3_bare_88 : decode cX3_bare 88 = .ok (.iinc 4 1, 3) := dk_132 4 1 (dk_at dksX3_bare_3 16 rfl rfl)
theorem dX3_bare_91 : decode cX3_bare 91 = .ok (.goto (-17), 3) := dk_167 255 239 (dk_at dksX3_bare_3 19 rfl rfl)
theorem dX3_bare_94 : decode cX3_bare 94 = .ok (.iload_n 3, 1) := dk_29 (dk_at dksX3_bare_3 22 rfl rfl)
theorem dX3_bare_95 : decode cX3_bare 95 = .ok (.aload_n 0, 1) := dk_42 (dk_at dksX3_bare_3 23 rfl rfl)
theorem dX3_bare_96 : decode cX3_bare 96 = .ok (.getfield 240, 3) := dk_180 0 240 (dk_at dksX3_bare_4 0 rfl rfl)
theorem dX3_bare_99 : decode cX3_bare 99 = .ok (.isub, 1) := dk_100 (dk_at dksX3_bare_4 3 rfl rfl)
theorem dX3_bare_100 : decode cX3_bare 100 = .ok (.ireturn, 1) := dk_172 (dk_at dksX3_bare_4 4 rfl rfl)
abbrev cX3_best : ByteArray := prog_9_method_95_code
def yX3_best : MethodName := ⟨RX3, "best", "(II)I"⟩
def dkwX3_best_1 : List UInt8 := [42, 27, 28, 2, 182, 1, 80, 167, 0, 4, 2, 172]
abbrev dktX3_best_1 : List UInt8 := dkwX3_best_1 ++ []
def dkwX3_best_0 : List UInt8 := [42, 3, 181, 0, 87, 27, 4, 6, 184, 0, 97, 153, 0, 23, 28, 4, 16, 99, 184, 0, 97, 153, 0, 13]
abbrev dktX3_best_0 : List UInt8 := dkwX3_best_0 ++ dktX3_best_1
theorem dksX3_best_0 : cX3_best.data.toList.drop 0 = dktX3_best_0 := by decide +kernel
theorem dksX3_best_1 : cX3_best.data.toList.drop 24 = dktX3_best_1 := dk_seg dksX3_best_0 24 rfl rfl
theorem dX3_best_0 : decode cX3_best 0 = .ok (.aload_n 0, 1) := dk_42 (dk_at dksX3_best_0 0 rfl rfl)
theorem dX3_best_1 : decode cX3_best 1 = .ok (.iconst 0, 1) := dk_3 (dk_at dksX3_best_0 1 rfl rfl)
theorem dX3_best_2 : decode cX3_best 2 = .ok (.putfield 87, 3) := dk_181 0 87 (dk_at dksX3_best_0 2 rfl rfl)
theorem dX3_best_5 : decode cX3_best 5 = .ok (.iload_n 1, 1) := dk_27 (dk_at dksX3_best_0 5 rfl rfl)
theorem dX3_best_6 : decode cX3_best 6 = .ok (.iconst 1, 1) := dk_4 (dk_at dksX3_best_0 6 rfl rfl)
theorem dX3_best_7 : decode cX3_best 7 = .ok (.iconst 3, 1) := dk_6 (dk_at dksX3_best_0 7 rfl rfl)
theorem dX3_best_8 : decode cX3_best 8 = .ok (.invokestatic 97, 3) := dk_184 0 97 (dk_at dksX3_best_0 8 rfl rfl)
theorem dX3_best_11 : decode cX3_best 11 = .ok (.ifCond .eq 23, 3) := dk_153 0 23 (dk_at dksX3_best_0 11 rfl rfl)
theorem dX3_best_14 : decode cX3_best 14 = .ok (.iload_n 2, 1) := dk_28 (dk_at dksX3_best_0 14 rfl rfl)
theorem dX3_best_15 : decode cX3_best 15 = .ok (.iconst 1, 1) := dk_4 (dk_at dksX3_best_0 15 rfl rfl)
theorem dX3_best_16 : decode cX3_best 16 = .ok (.bipush 99, 2) := dk_16 99 (dk_at dksX3_best_0 16 rfl rfl)
theorem dX3_best_18 : decode cX3_best 18 = .ok (.invokestatic 97, 3) := dk_184 0 97 (dk_at dksX3_best_0 18 rfl rfl)
theorem dX3_best_21 : decode cX3_best 21 = .ok (.ifCond .eq 13, 3) := dk_153 0 13 (dk_at dksX3_best_0 21 rfl rfl)
theorem dX3_best_24 : decode cX3_best 24 = .ok (.aload_n 0, 1) := dk_42 (dk_at dksX3_best_1 0 rfl rfl)
theorem dX3_best_25 : decode cX3_best 25 = .ok (.iload_n 1, 1) := dk_27 (dk_at dksX3_best_1 1 rfl rfl)
theorem dX3_best_26 : decode cX3_best 26 = .ok (.iload_n 2, 1) := dk_28 (dk_at dksX3_best_1 2 rfl rfl)
theorem dX3_best_27 : decode cX3_best 27 = .ok (.iconst (-1), 1) := dk_2 (dk_at dksX3_best_1 3 rfl rfl)
theorem dX3_best_28 : decode cX3_best 28 = .ok (.invokevirtual 336, 3) := dk_182 1 80 (dk_at dksX3_best_1 4 rfl rfl)
theorem dX3_best_31 : decode cX3_best 31 = .ok (.goto 4, 3) := dk_167 0 4 (dk_at dksX3_best_1 7 rfl rfl)
theorem dX3_best_34 : decode cX3_best 34 = .ok (.iconst (-1), 1) := dk_2 (dk_at dksX3_best_1 10 rfl rfl)
theorem dX3_best_35 : decode cX3_best 35 = .ok (.ireturn, 1) := dk_172 (dk_at dksX3_best_1 11 rfl rfl)
abbrev cX3_bestBy : ByteArray := prog_9_method_94_code
def yX3_bestBy : MethodName := ⟨RX3, "bestBy", "(III)I"⟩
def dkwX3_bestBy_9 : List UInt8 := [162, 0, 20, 42, 42, 180, 0, 68, 21, 6, 46, 182, 0, 230, 132, 6, 1, 167, 255, 236, 21, 4, 172]
abbrev dktX3_bestBy_9 : List UInt8 := dkwX3_bestBy_9 ++ []
def dkwX3_bestBy_8 : List UInt8 := [79, 132, 10, 1, 167, 255, 233, 132, 6, 1, 167, 255, 88, 42, 3, 181, 0, 91, 3, 54, 6, 21, 6, 27]
abbrev dktX3_bestBy_8 : List UInt8 := dkwX3_bestBy_8 ++ dktX3_bestBy_9
def dkwX3_bestBy_7 : List UInt8 := [54, 4, 3, 54, 10, 21, 10, 27, 162, 0, 23, 42, 180, 0, 68, 21, 10, 42, 180, 0, 65, 21, 10, 46]
abbrev dktX3_bestBy_7 : List UInt8 := dkwX3_bestBy_7 ++ dktX3_bestBy_8
def dkwX3_bestBy_6 : List UInt8 := [167, 0, 55, 42, 27, 28, 29, 182, 1, 77, 54, 9, 21, 9, 21, 4, 161, 0, 6, 167, 0, 36, 21, 9]
abbrev dktX3_bestBy_6 : List UInt8 := dkwX3_bestBy_6 ++ dktX3_bestBy_7
def dkwX3_bestBy_5 : List UInt8 := [5, 108, 29, 160, 0, 7, 4, 167, 0, 4, 3, 54, 8, 132, 9, 255, 167, 255, 173, 21, 8, 154, 0, 6]
abbrev dktX3_bestBy_5 : List UInt8 := dkwX3_bestBy_5 ++ dktX3_bestBy_6
def dkwX3_bestBy_4 : List UInt8 := [180, 0, 65, 21, 9, 46, 182, 1, 18, 153, 0, 25, 29, 2, 159, 0, 16, 42, 180, 0, 65, 21, 9, 46]
abbrev dktX3_bestBy_4 : List UInt8 := dkwX3_bestBy_4 ++ dktX3_bestBy_5
def dkwX3_bestBy_3 : List UInt8 := [16, 15, 108, 54, 7, 21, 8, 153, 0, 51, 42, 180, 0, 65, 21, 9, 46, 16, 14, 159, 0, 35, 42, 42]
abbrev dktX3_bestBy_3 : List UInt8 := dkwX3_bestBy_3 ++ dktX3_bestBy_4
def dkwX3_bestBy_2 : List UInt8 := [4, 100, 54, 9, 21, 9, 155, 0, 84, 42, 180, 0, 65, 21, 9, 21, 7, 16, 15, 112, 79, 21, 7]
abbrev dktX3_bestBy_2 : List UInt8 := dkwX3_bestBy_2 ++ dktX3_bestBy_3
def dkwX3_bestBy_1 : List UInt8 := [132, 6, 1, 167, 255, 240, 3, 54, 6, 21, 6, 21, 5, 162, 0, 167, 21, 6, 54, 7, 4, 54, 8, 27]
abbrev dktX3_bestBy_1 : List UInt8 := dkwX3_bestBy_1 ++ dktX3_bestBy_2
def dkwX3_bestBy_0 : List UInt8 := [19, 1, 46, 54, 4, 4, 54, 5, 3, 54, 6, 21, 6, 27, 162, 0, 16, 21, 5, 16, 15, 104, 54, 5]
abbrev dktX3_bestBy_0 : List UInt8 := dkwX3_bestBy_0 ++ dktX3_bestBy_1
theorem dksX3_bestBy_0 : cX3_bestBy.data.toList.drop 0 = dktX3_bestBy_0 := by decide +kernel
theorem dksX3_bestBy_1 : cX3_bestBy.data.toList.drop 24 = dktX3_bestBy_1 := dk_seg dksX3_bestBy_0 24 rfl rfl
theorem dksX3_bestBy_2 : cX3_bestBy.data.toList.drop 48 = dktX3_bestBy_2 := dk_seg dksX3_bestBy_1 24 rfl rfl
theorem dksX3_bestBy_3 : cX3_bestBy.data.toList.drop 71 = dktX3_bestBy_3 := dk_seg dksX3_bestBy_2 23 rfl rfl
theorem dksX3_bestBy_4 : cX3_bestBy.data.toList.drop 95 = dktX3_bestBy_4 := dk_seg dksX3_bestBy_3 24 rfl rfl
theorem dksX3_bestBy_5 : cX3_bestBy.data.toList.drop 119 = dktX3_bestBy_5 := dk_seg dksX3_bestBy_4 24 rfl rfl
theorem dksX3_bestBy_6 : cX3_bestBy.data.toList.drop 143 = dktX3_bestBy_6 := dk_seg dksX3_bestBy_5 24 rfl rfl
theorem dksX3_bestBy_7 : cX3_bestBy.data.toList.drop 167 = dktX3_bestBy_7 := dk_seg dksX3_bestBy_6 24 rfl rfl
theorem dksX3_bestBy_8 : cX3_bestBy.data.toList.drop 191 = dktX3_bestBy_8 := dk_seg dksX3_bestBy_7 24 rfl rfl
theorem dksX3_bestBy_9 : cX3_bestBy.data.toList.drop 215 = dktX3_bestBy_9 := dk_seg dksX3_bestBy_8 24 rfl rfl
theorem dX3_bestBy_0 : decode cX3_bestBy 0 = .ok (.ldc_w 302, 3) := dk_19 1 46 (dk_at dksX3_bestBy_0 0 rfl rfl)
theorem dX3_bestBy_3 : decode cX3_bestBy 3 = .ok (.istore 4, 2) := dk_54 4 (dk_at dksX3_bestBy_0 3 rfl rfl)
theorem dX3_bestBy_5 : decode cX3_bestBy 5 = .ok (.iconst 1, 1) := dk_4 (dk_at dksX3_bestBy_0 5 rfl rfl)
theorem dX3_bestBy_6 : decode cX3_bestBy 6 = .ok (.istore 5, 2) := dk_54 5 (dk_at dksX3_bestBy_0 6 rfl rfl)
theorem dX3_bestBy_8 : decode cX3_bestBy 8 = .ok (.iconst 0, 1) := dk_3 (dk_at dksX3_bestBy_0 8 rfl rfl)
theorem dX3_bestBy_9 : decode cX3_bestBy 9 = .ok (.istore 6, 2) := dk_54 6 (dk_at dksX3_bestBy_0 9 rfl rfl)
theorem dX3_bestBy_11 : decode cX3_bestBy 11 = .ok (.iload 6, 2) := dk_21 6 (dk_at dksX3_bestBy_0 11 rfl rfl)
theorem dX3_bestBy_13 : decode cX3_bestBy 13 = .ok (.iload_n 1, 1) := dk_27 (dk_at dksX3_bestBy_0 13 rfl rfl)
theorem dX3_bestBy_14 : decode cX3_bestBy 14 = .ok (.if_icmp .ge 16, 3) := dk_162 0 16 (dk_at dksX3_bestBy_0 14 rfl rfl)
theorem dX3_bestBy_17 : decode cX3_bestBy 17 = .ok (.iload 5, 2) := dk_21 5 (dk_at dksX3_bestBy_0 17 rfl rfl)
theorem dX3_bestBy_19 : decode cX3_bestBy 19 = .ok (.bipush 15, 2) := dk_16 15 (dk_at dksX3_bestBy_0 19 rfl rfl)
theorem dX3_bestBy_21 : decode cX3_bestBy 21 = .ok (.imul, 1) := dk_104 (dk_at dksX3_bestBy_0 21 rfl rfl)
theorem dX3_bestBy_22 : decode cX3_bestBy 22 = .ok (.istore 5, 2) := dk_54 5 (dk_at dksX3_bestBy_0 22 rfl rfl)
theorem dX3_bestBy_24 : decode cX3_bestBy 24 = .ok (.iinc 6 1, 3) := dk_132 6 1 (dk_at dksX3_bestBy_1 0 rfl rfl)
theorem dX3_bestBy_27 : decode cX3_bestBy 27 = .ok (.goto (-16), 3) := dk_167 255 240 (dk_at dksX3_bestBy_1 3 rfl rfl)
theorem dX3_bestBy_30 : decode cX3_bestBy 30 = .ok (.iconst 0, 1) := dk_3 (dk_at dksX3_bestBy_1 6 rfl rfl)
theorem dX3_bestBy_31 : decode cX3_bestBy 31 = .ok (.istore 6, 2) := dk_54 6 (dk_at dksX3_bestBy_1 7 rfl rfl)
theorem dX3_bestBy_33 : decode cX3_bestBy 33 = .ok (.iload 6, 2) := dk_21 6 (dk_at dksX3_bestBy_1 9 rfl rfl)
theorem dX3_bestBy_35 : decode cX3_bestBy 35 = .ok (.iload 5, 2) := dk_21 5 (dk_at dksX3_bestBy_1 11 rfl rfl)
theorem dX3_bestBy_37 : decode cX3_bestBy 37 = .ok (.if_icmp .ge 167, 3) := dk_162 0 167 (dk_at dksX3_bestBy_1 13 rfl rfl)
theorem dX3_bestBy_40 : decode cX3_bestBy 40 = .ok (.iload 6, 2) := dk_21 6 (dk_at dksX3_bestBy_1 16 rfl rfl)
theorem dX3_bestBy_42 : decode cX3_bestBy 42 = .ok (.istore 7, 2) := dk_54 7 (dk_at dksX3_bestBy_1 18 rfl rfl)
theorem dX3_bestBy_44 : decode cX3_bestBy 44 = .ok (.iconst 1, 1) := dk_4 (dk_at dksX3_bestBy_1 20 rfl rfl)
theorem dX3_bestBy_45 : decode cX3_bestBy 45 = .ok (.istore 8, 2) := dk_54 8 (dk_at dksX3_bestBy_1 21 rfl rfl)
theorem dX3_bestBy_47 : decode cX3_bestBy 47 = .ok (.iload_n 1, 1) := dk_27 (dk_at dksX3_bestBy_1 23 rfl rfl)
theorem dX3_bestBy_48 : decode cX3_bestBy 48 = .ok (.iconst 1, 1) := dk_4 (dk_at dksX3_bestBy_2 0 rfl rfl)
theorem dX3_bestBy_49 : decode cX3_bestBy 49 = .ok (.isub, 1) := dk_100 (dk_at dksX3_bestBy_2 1 rfl rfl)
theorem dX3_bestBy_50 : decode cX3_bestBy 50 = .ok (.istore 9, 2) := dk_54 9 (dk_at dksX3_bestBy_2 2 rfl rfl)
theorem dX3_bestBy_52 : decode cX3_bestBy 52 = .ok (.iload 9, 2) := dk_21 9 (dk_at dksX3_bestBy_2 4 rfl rfl)
theorem dX3_bestBy_54 : decode cX3_bestBy 54 = .ok (.ifCond .lt 84, 3) := dk_155 0 84 (dk_at dksX3_bestBy_2 6 rfl rfl)
theorem dX3_bestBy_57 : decode cX3_bestBy 57 = .ok (.aload_n 0, 1) := dk_42 (dk_at dksX3_bestBy_2 9 rfl rfl)
theorem dX3_bestBy_58 : decode cX3_bestBy 58 = .ok (.getfield 65, 3) := dk_180 0 65 (dk_at dksX3_bestBy_2 10 rfl rfl)
theorem dX3_bestBy_61 : decode cX3_bestBy 61 = .ok (.iload 9, 2) := dk_21 9 (dk_at dksX3_bestBy_2 13 rfl rfl)
theorem dX3_bestBy_63 : decode cX3_bestBy 63 = .ok (.iload 7, 2) := dk_21 7 (dk_at dksX3_bestBy_2 15 rfl rfl)
theorem dX3_bestBy_65 : decode cX3_bestBy 65 = .ok (.bipush 15, 2) := dk_16 15 (dk_at dksX3_bestBy_2 17 rfl rfl)
theorem dX3_bestBy_67 : decode cX3_bestBy 67 = .ok (.irem, 1) := dk_112 (dk_at dksX3_bestBy_2 19 rfl rfl)
theorem dX3_bestBy_68 : decode cX3_bestBy 68 = .ok (.iastore, 1) := dk_79 (dk_at dksX3_bestBy_2 20 rfl rfl)
theorem dX3_bestBy_69 : decode cX3_bestBy 69 = .ok (.iload 7, 2) := dk_21 7 (dk_at dksX3_bestBy_2 21 rfl rfl)
theorem dX3_bestBy_71 : decode cX3_bestBy 71 = .ok (.bipush 15, 2) := dk_16 15 (dk_at dksX3_bestBy_3 0 rfl rfl)
theorem dX3_bestBy_73 : decode cX3_bestBy 73 = .ok (.idiv, 1) := dk_108 (dk_at dksX3_bestBy_3 2 rfl rfl)
theorem dX3_bestBy_74 : decode cX3_bestBy 74 = .ok (.istore 7, 2) := dk_54 7 (dk_at dksX3_bestBy_3 3 rfl rfl)
theorem dX3_bestBy_76 : decode cX3_bestBy 76 = .ok (.iload 8, 2) := dk_21 8 (dk_at dksX3_bestBy_3 5 rfl rfl)
theorem dX3_bestBy_78 : decode cX3_bestBy 78 = .ok (.ifCond .eq 51, 3) := dk_153 0 51 (dk_at dksX3_bestBy_3 7 rfl rfl)
theorem dX3_bestBy_81 : decode cX3_bestBy 81 = .ok (.aload_n 0, 1) := dk_42 (dk_at dksX3_bestBy_3 10 rfl rfl)
theorem dX3_bestBy_82 : decode cX3_bestBy 82 = .ok (.getfield 65, 3) := dk_180 0 65 (dk_at dksX3_bestBy_3 11 rfl rfl)
theorem dX3_bestBy_85 : decode cX3_bestBy 85 = .ok (.iload 9, 2) := dk_21 9 (dk_at dksX3_bestBy_3 14 rfl rfl)
theorem dX3_bestBy_87 : decode cX3_bestBy 87 = .ok (.iaload, 1) := dk_46 (dk_at dksX3_bestBy_3 16 rfl rfl)
theorem dX3_bestBy_88 : decode cX3_bestBy 88 = .ok (.bipush 14, 2) := dk_16 14 (dk_at dksX3_bestBy_3 17 rfl rfl)
theorem dX3_bestBy_90 : decode cX3_bestBy 90 = .ok (.if_icmp .eq 35, 3) := dk_159 0 35 (dk_at dksX3_bestBy_3 19 rfl rfl)
theorem dX3_bestBy_93 : decode cX3_bestBy 93 = .ok (.aload_n 0, 1) := dk_42 (dk_at dksX3_bestBy_3 22 rfl rfl)
theorem dX3_bestBy_94 : decode cX3_bestBy 94 = .ok (.aload_n 0, 1) := dk_42 (dk_at dksX3_bestBy_3 23 rfl rfl)
theorem dX3_bestBy_95 : decode cX3_bestBy 95 = .ok (.getfield 65, 3) := dk_180 0 65 (dk_at dksX3_bestBy_4 0 rfl rfl)
theorem dX3_bestBy_98 : decode cX3_bestBy 98 = .ok (.iload 9, 2) := dk_21 9 (dk_at dksX3_bestBy_4 3 rfl rfl)
theorem dX3_bestBy_100 : decode cX3_bestBy 100 = .ok (.iaload, 1) := dk_46 (dk_at dksX3_bestBy_4 5 rfl rfl)
theorem dX3_bestBy_101 : decode cX3_bestBy 101 = .ok (.invokevirtual 274, 3) := dk_182 1 18 (dk_at dksX3_bestBy_4 6 rfl rfl)
theorem dX3_bestBy_104 : decode cX3_bestBy 104 = .ok (.ifCond .eq 25, 3) := dk_153 0 25 (dk_at dksX3_bestBy_4 9 rfl rfl)
theorem dX3_bestBy_107 : decode cX3_bestBy 107 = .ok (.iload_n 3, 1) := dk_29 (dk_at dksX3_bestBy_4 12 rfl rfl)
theorem dX3_bestBy_108 : decode cX3_bestBy 108 = .ok (.iconst (-1), 1) := dk_2 (dk_at dksX3_bestBy_4 13 rfl rfl)
theorem dX3_bestBy_109 : decode cX3_bestBy 109 = .ok (.if_icmp .eq 16, 3) := dk_159 0 16 (dk_at dksX3_bestBy_4 14 rfl rfl)
theorem dX3_bestBy_112 : decode cX3_bestBy 112 = .ok (.aload_n 0, 1) := dk_42 (dk_at dksX3_bestBy_4 17 rfl rfl)
theorem dX3_bestBy_113 : decode cX3_bestBy 113 = .ok (.getfield 65, 3) := dk_180 0 65 (dk_at dksX3_bestBy_4 18 rfl rfl)
theorem dX3_bestBy_116 : decode cX3_bestBy 116 = .ok (.iload 9, 2) := dk_21 9 (dk_at dksX3_bestBy_4 21 rfl rfl)
theorem dX3_bestBy_118 : decode cX3_bestBy 118 = .ok (.iaload, 1) := dk_46 (dk_at dksX3_bestBy_4 23 rfl rfl)
theorem dX3_bestBy_119 : decode cX3_bestBy 119 = .ok (.iconst 2, 1) := dk_5 (dk_at dksX3_bestBy_5 0 rfl rfl)
theorem dX3_bestBy_120 : decode cX3_bestBy 120 = .ok (.idiv, 1) := dk_108 (dk_at dksX3_bestBy_5 1 rfl rfl)
theorem dX3_bestBy_121 : decode cX3_bestBy 121 = .ok (.iload_n 3, 1) := dk_29 (dk_at dksX3_bestBy_5 2 rfl rfl)
theorem dX3_bestBy_122 : decode cX3_bestBy 122 = .ok (.if_icmp .ne 7, 3) := dk_160 0 7 (dk_at dksX3_bestBy_5 3 rfl rfl)
theorem dX3_bestBy_125 : decode cX3_bestBy 125 = .ok (.iconst 1, 1) := dk_4 (dk_at dksX3_bestBy_5 6 rfl rfl)
theorem dX3_bestBy_126 : decode cX3_bestBy 126 = .ok (.goto 4, 3) := dk_167 0 4 (dk_at dksX3_bestBy_5 7 rfl rfl)
theorem dX3_bestBy_129 : decode cX3_bestBy 129 = .ok (.iconst 0, 1) := dk_3 (dk_at dksX3_bestBy_5 10 rfl rfl)
theorem dX3_bestBy_130 : decode cX3_bestBy 130 = .ok (.istore 8, 2) := dk_54 8 (dk_at dksX3_bestBy_5 11 rfl rfl)
theorem dX3_bestBy_132 : decode cX3_bestBy 132 = .ok (.iinc 9 (-1), 3) := dk_132 9 255 (dk_at dksX3_bestBy_5 13 rfl rfl)
theorem dX3_bestBy_135 : decode cX3_bestBy 135 = .ok (.goto (-83), 3) := dk_167 255 173 (dk_at dksX3_bestBy_5 16 rfl rfl)
theorem dX3_bestBy_138 : decode cX3_bestBy 138 = .ok (.iload 8, 2) := dk_21 8 (dk_at dksX3_bestBy_5 19 rfl rfl)
theorem dX3_bestBy_140 : decode cX3_bestBy 140 = .ok (.ifCond .ne 6, 3) := dk_154 0 6 (dk_at dksX3_bestBy_5 21 rfl rfl)
theorem dX3_bestBy_143 : decode cX3_bestBy 143 = .ok (.goto 55, 3) := dk_167 0 55 (dk_at dksX3_bestBy_6 0 rfl rfl)
theorem dX3_bestBy_146 : decode cX3_bestBy 146 = .ok (.aload_n 0, 1) := dk_42 (dk_at dksX3_bestBy_6 3 rfl rfl)
theorem dX3_bestBy_147 : decode cX3_bestBy 147 = .ok (.iload_n 1, 1) := dk_27 (dk_at dksX3_bestBy_6 4 rfl rfl)
theorem dX3_bestBy_148 : decode cX3_bestBy 148 = .ok (.iload_n 2, 1) := dk_28 (dk_at dksX3_bestBy_6 5 rfl rfl)
theorem dX3_bestBy_149 : decode cX3_bestBy 149 = .ok (.iload_n 3, 1) := dk_29 (dk_at dksX3_bestBy_6 6 rfl rfl)
theorem dX3_bestBy_150 : decode cX3_bestBy 150 = .ok (.invokevirtual 333, 3) := dk_182 1 77 (dk_at dksX3_bestBy_6 7 rfl rfl)
theorem dX3_bestBy_153 : decode cX3_bestBy 153 = .ok (.istore 9, 2) := dk_54 9 (dk_at dksX3_bestBy_6 10 rfl rfl)
theorem dX3_bestBy_155 : decode cX3_bestBy 155 = .ok (.iload 9, 2) := dk_21 9 (dk_at dksX3_bestBy_6 12 rfl rfl)
theorem dX3_bestBy_157 : decode cX3_bestBy 157 = .ok (.iload 4, 2) := dk_21 4 (dk_at dksX3_bestBy_6 14 rfl rfl)
theorem dX3_bestBy_159 : decode cX3_bestBy 159 = .ok (.if_icmp .lt 6, 3) := dk_161 0 6 (dk_at dksX3_bestBy_6 16 rfl rfl)
theorem dX3_bestBy_162 : decode cX3_bestBy 162 = .ok (.goto 36, 3) := dk_167 0 36 (dk_at dksX3_bestBy_6 19 rfl rfl)
theorem dX3_bestBy_165 : decode cX3_bestBy 165 = .ok (.iload 9, 2) := dk_21 9 (dk_at dksX3_bestBy_6 22 rfl rfl)
theorem dX3_bestBy_167 : decode cX3_bestBy 167 = .ok (.istore 4, 2) := dk_54 4 (dk_at dksX3_bestBy_7 0 rfl rfl)
theorem dX3_bestBy_169 : decode cX3_bestBy 169 = .ok (.iconst 0, 1) := dk_3 (dk_at dksX3_bestBy_7 2 rfl rfl)
theorem dX3_bestBy_170 : decode cX3_bestBy 170 = .ok (.istore 10, 2) := dk_54 10 (dk_at dksX3_bestBy_7 3 rfl rfl)
theorem dX3_bestBy_172 : decode cX3_bestBy 172 = .ok (.iload 10, 2) := dk_21 10 (dk_at dksX3_bestBy_7 5 rfl rfl)
theorem dX3_bestBy_174 : decode cX3_bestBy 174 = .ok (.iload_n 1, 1) := dk_27 (dk_at dksX3_bestBy_7 7 rfl rfl)
theorem dX3_bestBy_175 : decode cX3_bestBy 175 = .ok (.if_icmp .ge 23, 3) := dk_162 0 23 (dk_at dksX3_bestBy_7 8 rfl rfl)
theorem dX3_bestBy_178 : decode cX3_bestBy 178 = .ok (.aload_n 0, 1) := dk_42 (dk_at dksX3_bestBy_7 11 rfl rfl)
theorem dX3_bestBy_179 : decode cX3_bestBy 179 = .ok (.getfield 68, 3) := dk_180 0 68 (dk_at dksX3_bestBy_7 12 rfl rfl)
theorem dX3_bestBy_182 : decode cX3_bestBy 182 = .ok (.iload 10, 2) := dk_21 10 (dk_at dksX3_bestBy_7 15 rfl rfl)
theorem dX3_bestBy_184 : decode cX3_bestBy 184 = .ok (.aload_n 0, 1) := dk_42 (dk_at dksX3_bestBy_7 17 rfl rfl)
theorem dX3_bestBy_185 : decode cX3_bestBy 185 = .ok (.getfield 65, 3) := dk_180 0 65 (dk_at dksX3_bestBy_7 18 rfl rfl)
theorem dX3_bestBy_188 : decode cX3_bestBy 188 = .ok (.iload 10, 2) := dk_21 10 (dk_at dksX3_bestBy_7 21 rfl rfl)
theorem dX3_bestBy_190 : decode cX3_bestBy 190 = .ok (.iaload, 1) := dk_46 (dk_at dksX3_bestBy_7 23 rfl rfl)
theorem dX3_bestBy_191 : decode cX3_bestBy 191 = .ok (.iastore, 1) := dk_79 (dk_at dksX3_bestBy_8 0 rfl rfl)
theorem dX3_bestBy_192 : decode cX3_bestBy 192 = .ok (.iinc 10 1, 3) := dk_132 10 1 (dk_at dksX3_bestBy_8 1 rfl rfl)
theorem dX3_bestBy_195 : decode cX3_bestBy 195 = .ok (.goto (-23), 3) := dk_167 255 233 (dk_at dksX3_bestBy_8 4 rfl rfl)
theorem dX3_bestBy_198 : decode cX3_bestBy 198 = .ok (.iinc 6 1, 3) := dk_132 6 1 (dk_at dksX3_bestBy_8 7 rfl rfl)
theorem dX3_bestBy_201 : decode cX3_bestBy 201 = .ok (.goto (-168), 3) := dk_167 255 88 (dk_at dksX3_bestBy_8 10 rfl rfl)
theorem dX3_bestBy_204 : decode cX3_bestBy 204 = .ok (.aload_n 0, 1) := dk_42 (dk_at dksX3_bestBy_8 13 rfl rfl)
theorem dX3_bestBy_205 : decode cX3_bestBy 205 = .ok (.iconst 0, 1) := dk_3 (dk_at dksX3_bestBy_8 14 rfl rfl)
theorem dX3_bestBy_206 : decode cX3_bestBy 206 = .ok (.putfield 91, 3) := dk_181 0 91 (dk_at dksX3_bestBy_8 15 rfl rfl)
theorem dX3_bestBy_209 : decode cX3_bestBy 209 = .ok (.iconst 0, 1) := dk_3 (dk_at dksX3_bestBy_8 18 rfl rfl)
theorem dX3_bestBy_210 : decode cX3_bestBy 210 = .ok (.istore 6, 2) := dk_54 6 (dk_at dksX3_bestBy_8 19 rfl rfl)
theorem dX3_bestBy_212 : decode cX3_bestBy 212 = .ok (.iload 6, 2) := dk_21 6 (dk_at dksX3_bestBy_8 21 rfl rfl)
theorem dX3_bestBy_214 : decode cX3_bestBy 214 = .ok (.iload_n 1, 1) := dk_27 (dk_at dksX3_bestBy_8 23 rfl rfl)
theorem dX3_bestBy_215 : decode cX3_bestBy 215 = .ok (.if_icmp .ge 20, 3) := dk_162 0 20 (dk_at dksX3_bestBy_9 0 rfl rfl)
theorem dX3_bestBy_218 : decode cX3_bestBy 218 = .ok (.aload_n 0, 1) := dk_42 (dk_at dksX3_bestBy_9 3 rfl rfl)
theorem dX3_bestBy_219 : decode cX3_bestBy 219 = .ok (.aload_n 0, 1) := dk_42 (dk_at dksX3_bestBy_9 4 rfl rfl)
theorem dX3_bestBy_220 : decode cX3_bestBy 220 = .ok (.getfield 68, 3) := dk_180 0 68 (dk_at dksX3_bestBy_9 5 rfl rfl)
theorem dX3_bestBy_223 : decode cX3_bestBy 223 = .ok (.iload 6, 2) := dk_21 6 (dk_at dksX3_bestBy_9 8 rfl rfl)
theorem dX3_bestBy_225 : decode cX3_bestBy 225 = .ok (.iaload, 1) := dk_46 (dk_at dksX3_bestBy_9 10 rfl rfl)
theorem dX3_bestBy_226 : decode cX3_bestBy 226 = .ok (.invokevirtual 230, 3) := dk_182 0 230 (dk_at dksX3_bestBy_9 11 rfl rfl)
theorem dX3_bestBy_229 : decode cX3_bestBy 229 = .ok (.iinc 6 1, 3) := dk_132 6 1 (dk_at dksX3_bestBy_9 14 rfl rfl)
theorem dX3_bestBy_232 : decode cX3_bestBy 232 = .ok (.goto (-20), 3) := dk_167 255 236 (dk_at dksX3_bestBy_9 17 rfl rfl)
theorem dX3_bestBy_235 : decode cX3_bestBy 235 = .ok (.iload 4, 2) := dk_21 4 (dk_at dksX3_bestBy_9 20 rfl rfl)
theorem dX3_bestBy_237 : decode cX3_bestBy 237 = .ok (.ireturn, 1) := dk_172 (dk_at dksX3_bestBy_9 22 rfl rfl)
abbrev cX3_owedByPlan : ByteArray := prog_9_method_93_code
def yX3_owedByPlan : MethodName := ⟨RX3, "owedByPlan", "(III)I"⟩
def dkwX3_owedByPlan_4 : List UInt8 := [160, 0, 10, 42, 180, 0, 240, 167, 0, 9, 42, 180, 0, 38, 29, 46, 172]
abbrev dktX3_owedByPlan_4 : List UInt8 := dkwX3_owedByPlan_4 ++ []
def dkwX3_owedByPlan_3 : List UInt8 := [184, 0, 227, 184, 1, 24, 42, 42, 180, 0, 62, 182, 1, 4, 132, 4, 1, 167, 255, 189, 29, 2]
abbrev dktX3_owedByPlan_3 : List UInt8 := dkwX3_owedByPlan_3 ++ dktX3_owedByPlan_4
def dkwX3_owedByPlan_2 : List UInt8 := [21, 5, 46, 154, 0, 7, 19, 1, 46, 172, 42, 180, 0, 62, 21, 5, 28, 42, 180, 0, 62, 21, 5, 46]
abbrev dktX3_owedByPlan_2 : List UInt8 := dkwX3_owedByPlan_2 ++ dktX3_owedByPlan_3
def dkwX3_owedByPlan_1 : List UInt8 := [162, 0, 67, 42, 180, 0, 65, 21, 4, 46, 54, 5, 21, 5, 16, 14, 159, 0, 37, 42, 180, 0, 62]
abbrev dktX3_owedByPlan_1 : List UInt8 := dkwX3_owedByPlan_1 ++ dktX3_owedByPlan_2
def dkwX3_owedByPlan_0 : List UInt8 := [42, 182, 1, 1, 42, 180, 0, 9, 42, 180, 0, 62, 3, 184, 0, 253, 3, 54, 4, 21, 4, 27]
abbrev dktX3_owedByPlan_0 : List UInt8 := dkwX3_owedByPlan_0 ++ dktX3_owedByPlan_1
theorem dksX3_owedByPlan_0 : cX3_owedByPlan.data.toList.drop 0 = dktX3_owedByPlan_0 := by decide +kernel
theorem dksX3_owedByPlan_1 : cX3_owedByPlan.data.toList.drop 22 = dktX3_owedByPlan_1 := dk_seg dksX3_owedByPlan_0 22 rfl rfl
theorem dksX3_owedByPlan_2 : cX3_owedByPlan.data.toList.drop 45 = dktX3_owedByPlan_2 := dk_seg dksX3_owedByPlan_1 23 rfl rfl
theorem dksX3_owedByPlan_3 : cX3_owedByPlan.data.toList.drop 69 = dktX3_owedByPlan_3 := dk_seg dksX3_owedByPlan_2 24 rfl rfl
theorem dksX3_owedByPlan_4 : cX3_owedByPlan.data.toList.drop 91 = dktX3_owedByPlan_4 := dk_seg dksX3_owedByPlan_3 22 rfl rfl
theorem dX3_owedByPlan_0 : decode cX3_owedByPlan 0 = .ok (.aload_n 0, 1) := dk_42 (dk_at dksX3_owedByPlan_0 0 rfl rfl)
theorem dX3_owedByPlan_1 : decode cX3_owedByPlan 1 = .ok (.invokevirtual 257, 3) := dk_182 1 1 (dk_at dksX3_owedByPlan_0 1 rfl rfl)
theorem dX3_owedByPlan_4 : decode cX3_owedByPlan 4 = .ok (.aload_n 0, 1) := dk_42 (dk_at dksX3_owedByPlan_0 4 rfl rfl)
theorem dX3_owedByPlan_5 : decode cX3_owedByPlan 5 = .ok (.getfield 9, 3) := dk_180 0 9 (dk_at dksX3_owedByPlan_0 5 rfl rfl)
theorem dX3_owedByPlan_8 : decode cX3_owedByPlan 8 = .ok (.aload_n 0, 1) := dk_42 (dk_at dksX3_owedByPlan_0 8 rfl rfl)
theorem dX3_owedByPlan_9 : decode cX3_owedByPlan 9 = .ok (.getfield 62, 3) := dk_180 0 62 (dk_at dksX3_owedByPlan_0 9 rfl rfl)
theorem dX3_owedByPlan_12 : decode cX3_owedByPlan 12 = .ok (.iconst 0, 1) := dk_3 (dk_at dksX3_owedByPlan_0 12 rfl rfl)
theorem dX3_owedByPlan_13 : decode cX3_owedByPlan 13 = .ok (.invokestatic 253, 3) := dk_184 0 253 (dk_at dksX3_owedByPlan_0 13 rfl rfl)
theorem dX3_owedByPlan_16 : decode cX3_owedByPlan 16 = .ok (.iconst 0, 1) := dk_3 (dk_at dksX3_owedByPlan_0 16 rfl rfl)
theorem dX3_owedByPlan_17 : decode cX3_owedByPlan 17 = .ok (.istore 4, 2) := dk_54 4 (dk_at dksX3_owedByPlan_0 17 rfl rfl)
theorem dX3_owedByPlan_19 : decode cX3_owedByPlan 19 = .ok (.iload 4, 2) := dk_21 4 (dk_at dksX3_owedByPlan_0 19 rfl rfl)
theorem dX3_owedByPlan_21 : decode cX3_owedByPlan 21 = .ok (.iload_n 1, 1) := dk_27 (dk_at dksX3_owedByPlan_0 21 rfl rfl)
theorem dX3_owedByPlan_22 : decode cX3_owedByPlan 22 = .ok (.if_icmp .ge 67, 3) := dk_162 0 67 (dk_at dksX3_owedByPlan_1 0 rfl rfl)
theorem dX3_owedByPlan_25 : decode cX3_owedByPlan 25 = .ok (.aload_n 0, 1) := dk_42 (dk_at dksX3_owedByPlan_1 3 rfl rfl)
theorem dX3_owedByPlan_26 : decode cX3_owedByPlan 26 = .ok (.getfield 65, 3) := dk_180 0 65 (dk_at dksX3_owedByPlan_1 4 rfl rfl)
theorem dX3_owedByPlan_29 : decode cX3_owedByPlan 29 = .ok (.iload 4, 2) := dk_21 4 (dk_at dksX3_owedByPlan_1 7 rfl rfl)
theorem dX3_owedByPlan_31 : decode cX3_owedByPlan 31 = .ok (.iaload, 1) := dk_46 (dk_at dksX3_owedByPlan_1 9 rfl rfl)
theorem dX3_owedByPlan_32 : decode cX3_owedByPlan 32 = .ok (.istore 5, 2) := dk_54 5 (dk_at dksX3_owedByPlan_1 10 rfl rfl)
theorem dX3_owedByPlan_34 : decode cX3_owedByPlan 34 = .ok (.iload 5, 2) := dk_21 5 (dk_at dksX3_owedByPlan_1 12 rfl rfl)
theorem dX3_owedByPlan_36 : decode cX3_owedByPlan 36 = .ok (.bipush 14, 2) := dk_16 14 (dk_at dksX3_owedByPlan_1 14 rfl rfl)
theorem dX3_owedByPlan_38 : decode cX3_owedByPlan 38 = .ok (.if_icmp .eq 37, 3) := dk_159 0 37 (dk_at dksX3_owedByPlan_1 16 rfl rfl)
theorem dX3_owedByPlan_41 : decode cX3_owedByPlan 41 = .ok (.aload_n 0, 1) := dk_42 (dk_at dksX3_owedByPlan_1 19 rfl rfl)
theorem dX3_owedByPlan_42 : decode cX3_owedByPlan 42 = .ok (.getfield 62, 3) := dk_180 0 62 (dk_at dksX3_owedByPlan_1 20 rfl rfl)
theorem dX3_owedByPlan_45 : decode cX3_owedByPlan 45 = .ok (.iload 5, 2) := dk_21 5 (dk_at dksX3_owedByPlan_2 0 rfl rfl)
theorem dX3_owedByPlan_47 : decode cX3_owedByPlan 47 = .ok (.iaload, 1) := dk_46 (dk_at dksX3_owedByPlan_2 2 rfl rfl)
theorem dX3_owedByPlan_48 : decode cX3_owedByPlan 48 = .ok (.ifCond .ne 7, 3) := dk_154 0 7 (dk_at dksX3_owedByPlan_2 3 rfl rfl)
theorem dX3_owedByPlan_51 : decode cX3_owedByPlan 51 = .ok (.ldc_w 302, 3) := dk_19 1 46 (dk_at dksX3_owedByPlan_2 6 rfl rfl)
theorem dX3_owedByPlan_54 : decode cX3_owedByPlan 54 = .ok (.ireturn, 1) := dk_172 (dk_at dksX3_owedByPlan_2 9 rfl rfl)
theorem dX3_owedByPlan_55 : decode cX3_owedByPlan 55 = .ok (.aload_n 0, 1) := dk_42 (dk_at dksX3_owedByPlan_2 10 rfl rfl)
theorem dX3_owedByPlan_56 : decode cX3_owedByPlan 56 = .ok (.getfield 62, 3) := dk_180 0 62 (dk_at dksX3_owedByPlan_2 11 rfl rfl)
theorem dX3_owedByPlan_59 : decode cX3_owedByPlan 59 = .ok (.iload 5, 2) := dk_21 5 (dk_at dksX3_owedByPlan_2 14 rfl rfl)
theorem dX3_owedByPlan_61 : decode cX3_owedByPlan 61 = .ok (.iload_n 2, 1) := dk_28 (dk_at dksX3_owedByPlan_2 16 rfl rfl)
theorem dX3_owedByPlan_62 : decode cX3_owedByPlan 62 = .ok (.aload_n 0, 1) := dk_42 (dk_at dksX3_owedByPlan_2 17 rfl rfl)
theorem dX3_owedByPlan_63 : decode cX3_owedByPlan 63 = .ok (.getfield 62, 3) := dk_180 0 62 (dk_at dksX3_owedByPlan_2 18 rfl rfl)
theorem dX3_owedByPlan_66 : decode cX3_owedByPlan 66 = .ok (.iload 5, 2) := dk_21 5 (dk_at dksX3_owedByPlan_2 21 rfl rfl)
theorem dX3_owedByPlan_68 : decode cX3_owedByPlan 68 = .ok (.iaload, 1) := dk_46 (dk_at dksX3_owedByPlan_2 23 rfl rfl)
theorem dX3_owedByPlan_69 : decode cX3_owedByPlan 69 = .ok (.invokestatic 227, 3) := dk_184 0 227 (dk_at dksX3_owedByPlan_3 0 rfl rfl)
theorem dX3_owedByPlan_72 : decode cX3_owedByPlan 72 = .ok (.invokestatic 280, 3) := dk_184 1 24 (dk_at dksX3_owedByPlan_3 3 rfl rfl)
theorem dX3_owedByPlan_75 : decode cX3_owedByPlan 75 = .ok (.aload_n 0, 1) := dk_42 (dk_at dksX3_owedByPlan_3 6 rfl rfl)
theorem dX3_owedByPlan_76 : decode cX3_owedByPlan 76 = .ok (.aload_n 0, 1) := dk_42 (dk_at dksX3_owedByPlan_3 7 rfl rfl)
theorem dX3_owedByPlan_77 : decode cX3_owedByPlan 77 = .ok (.getfield 62, 3) := dk_180 0 62 (dk_at dksX3_owedByPlan_3 8 rfl rfl)
theorem dX3_owedByPlan_80 : decode cX3_owedByPlan 80 = .ok (.invokevirtual 260, 3) := dk_182 1 4 (dk_at dksX3_owedByPlan_3 11 rfl rfl)
theorem dX3_owedByPlan_83 : decode cX3_owedByPlan 83 = .ok (.iinc 4 1, 3) := dk_132 4 1 (dk_at dksX3_owedByPlan_3 14 rfl rfl)
theorem dX3_owedByPlan_86 : decode cX3_owedByPlan 86 = .ok (.goto (-67), 3) := dk_167 255 189 (dk_at dksX3_owedByPlan_3 17 rfl rfl)
theorem dX3_owedByPlan_89 : decode cX3_owedByPlan 89 = .ok (.iload_n 3, 1) := dk_29 (dk_at dksX3_owedByPlan_3 20 rfl rfl)
theorem dX3_owedByPlan_90 : decode cX3_owedByPlan 90 = .ok (.iconst (-1), 1) := dk_2 (dk_at dksX3_owedByPlan_3 21 rfl rfl)
theorem dX3_owedByPlan_91 : decode cX3_owedByPlan 91 = .ok (.if_icmp .ne 10, 3) := dk_160 0 10 (dk_at dksX3_owedByPlan_4 0 rfl rfl)
theorem dX3_owedByPlan_94 : decode cX3_owedByPlan 94 = .ok (.aload_n 0, 1) := dk_42 (dk_at dksX3_owedByPlan_4 3 rfl rfl)
theorem dX3_owedByPlan_95 : decode cX3_owedByPlan 95 = .ok (.getfield 240, 3) := dk_180 0 240 (dk_at dksX3_owedByPlan_4 4 rfl rfl)
theorem dX3_owedByPlan_98 : decode cX3_owedByPlan 98 = .ok (.goto 9, 3) := dk_167 0 9 (dk_at dksX3_owedByPlan_4 7 rfl rfl)
theorem dX3_owedByPlan_101 : decode cX3_owedByPlan 101 = .ok (.aload_n 0, 1) := dk_42 (dk_at dksX3_owedByPlan_4 10 rfl rfl)
theorem dX3_owedByPlan_102 : decode cX3_owedByPlan 102 = .ok (.getfield 38, 3) := dk_180 0 38 (dk_at dksX3_owedByPlan_4 11 rfl rfl)
theorem dX3_owedByPlan_105 : decode cX3_owedByPlan 105 = .ok (.iload_n 3, 1) := dk_29 (dk_at dksX3_owedByPlan_4 14 rfl rfl)
theorem dX3_owedByPlan_106 : decode cX3_owedByPlan 106 = .ok (.iaload, 1) := dk_46 (dk_at dksX3_owedByPlan_4 15 rfl rfl)
theorem dX3_owedByPlan_107 : decode cX3_owedByPlan 107 = .ok (.ireturn, 1) := dk_172 (dk_at dksX3_owedByPlan_4 16 rfl rfl)
abbrev cX3_own : ByteArray := prog_9_method_96_code
def yX3_own : MethodName := ⟨RX3, "own", "(III)I"⟩
def dkwX3_own_1 : List UInt8 := [16, 99, 184, 0, 97, 153, 0, 13, 42, 28, 29, 27, 182, 1, 80, 167, 0, 4, 2, 172]
abbrev dktX3_own_1 : List UInt8 := dkwX3_own_1 ++ []
def dkwX3_own_0 : List UInt8 := [42, 3, 181, 0, 87, 42, 27, 182, 0, 101, 153, 0, 32, 28, 4, 6, 184, 0, 97, 153, 0, 23, 29, 4]
abbrev dktX3_own_0 : List UInt8 := dkwX3_own_0 ++ dktX3_own_1
theorem dksX3_own_0 : cX3_own.data.toList.drop 0 = dktX3_own_0 := by decide +kernel
theorem dksX3_own_1 : cX3_own.data.toList.drop 24 = dktX3_own_1 := dk_seg dksX3_own_0 24 rfl rfl
theorem dX3_own_0 : decode cX3_own 0 = .ok (.aload_n 0, 1) := dk_42 (dk_at dksX3_own_0 0 rfl rfl)
theorem dX3_own_1 : decode cX3_own 1 = .ok (.iconst 0, 1) := dk_3 (dk_at dksX3_own_0 1 rfl rfl)
theorem dX3_own_2 : decode cX3_own 2 = .ok (.putfield 87, 3) := dk_181 0 87 (dk_at dksX3_own_0 2 rfl rfl)
theorem dX3_own_5 : decode cX3_own 5 = .ok (.aload_n 0, 1) := dk_42 (dk_at dksX3_own_0 5 rfl rfl)
theorem dX3_own_6 : decode cX3_own 6 = .ok (.iload_n 1, 1) := dk_27 (dk_at dksX3_own_0 6 rfl rfl)
theorem dX3_own_7 : decode cX3_own 7 = .ok (.invokevirtual 101, 3) := dk_182 0 101 (dk_at dksX3_own_0 7 rfl rfl)
theorem dX3_own_10 : decode cX3_own 10 = .ok (.ifCond .eq 32, 3) := dk_153 0 32 (dk_at dksX3_own_0 10 rfl rfl)
theorem dX3_own_13 : decode cX3_own 13 = .ok (.iload_n 2, 1) := dk_28 (dk_at dksX3_own_0 13 rfl rfl)
theorem dX3_own_14 : decode cX3_own 14 = .ok (.iconst 1, 1) := dk_4 (dk_at dksX3_own_0 14 rfl rfl)
theorem dX3_own_15 : decode cX3_own 15 = .ok (.iconst 3, 1) := dk_6 (dk_at dksX3_own_0 15 rfl rfl)
theorem dX3_own_16 : decode cX3_own 16 = .ok (.invokestatic 97, 3) := dk_184 0 97 (dk_at dksX3_own_0 16 rfl rfl)
theorem dX3_own_19 : decode cX3_own 19 = .ok (.ifCond .eq 23, 3) := dk_153 0 23 (dk_at dksX3_own_0 19 rfl rfl)
theorem dX3_own_22 : decode cX3_own 22 = .ok (.iload_n 3, 1) := dk_29 (dk_at dksX3_own_0 22 rfl rfl)
theorem dX3_own_23 : decode cX3_own 23 = .ok (.iconst 1, 1) := dk_4 (dk_at dksX3_own_0 23 rfl rfl)
theorem dX3_own_24 : decode cX3_own 24 = .ok (.bipush 99, 2) := dk_16 99 (dk_at dksX3_own_1 0 rfl rfl)
theorem dX3_own_26 : decode cX3_own 26 = .ok (.invokestatic 97, 3) := dk_184 0 97 (dk_at dksX3_own_1 2 rfl rfl)
theorem dX3_own_29 : decode cX3_own 29 = .ok (.ifCond .eq 13, 3) := dk_153 0 13 (dk_at dksX3_own_1 5 rfl rfl)
theorem dX3_own_32 : decode cX3_own 32 = .ok (.aload_n 0, 1) := dk_42 (dk_at dksX3_own_1 8 rfl rfl)
theorem dX3_own_33 : decode cX3_own 33 = .ok (.iload_n 2, 1) := dk_28 (dk_at dksX3_own_1 9 rfl rfl)
theorem dX3_own_34 : decode cX3_own 34 = .ok (.iload_n 3, 1) := dk_29 (dk_at dksX3_own_1 10 rfl rfl)
theorem dX3_own_35 : decode cX3_own 35 = .ok (.iload_n 1, 1) := dk_27 (dk_at dksX3_own_1 11 rfl rfl)
theorem dX3_own_36 : decode cX3_own 36 = .ok (.invokevirtual 336, 3) := dk_182 1 80 (dk_at dksX3_own_1 12 rfl rfl)
theorem dX3_own_39 : decode cX3_own 39 = .ok (.goto 4, 3) := dk_167 0 4 (dk_at dksX3_own_1 15 rfl rfl)
theorem dX3_own_42 : decode cX3_own 42 = .ok (.iconst (-1), 1) := dk_2 (dk_at dksX3_own_1 18 rfl rfl)
theorem dX3_own_43 : decode cX3_own 43 = .ok (.ireturn, 1) := dk_172 (dk_at dksX3_own_1 19 rfl rfl)
abbrev cX3_better : ByteArray := prog_9_method_98_code
def yX3_better : MethodName := ⟨RX3, "better", "(II)I"⟩
def dkwX3_better_3 : List UInt8 := [42, 180, 1, 86, 162, 0, 7, 4, 167, 0, 4, 3, 172]
abbrev dktX3_better_3 : List UInt8 := dkwX3_better_3 ++ []
def dkwX3_better_2 : List UInt8 := [3, 181, 0, 91, 42, 42, 180, 1, 83, 182, 0, 230, 42, 42, 180, 1, 86, 182, 0, 230, 42, 180, 1, 83]
abbrev dktX3_better_2 : List UInt8 := dkwX3_better_2 ++ dktX3_better_3
def dkwX3_better_1 : List UInt8 := [172, 42, 180, 0, 9, 27, 46, 154, 0, 6, 16, 254, 172, 42, 42, 180, 0, 9, 27, 28, 182, 1, 89, 42]
abbrev dktX3_better_1 : List UInt8 := dkwX3_better_1 ++ dktX3_better_2
def dkwX3_better_0 : List UInt8 := [42, 3, 181, 0, 87, 42, 27, 182, 1, 18, 153, 0, 13, 28, 4, 16, 60, 184, 0, 97, 154, 0, 5, 2]
abbrev dktX3_better_0 : List UInt8 := dkwX3_better_0 ++ dktX3_better_1
theorem dksX3_better_0 : cX3_better.data.toList.drop 0 = dktX3_better_0 := by decide +kernel
theorem dksX3_better_1 : cX3_better.data.toList.drop 24 = dktX3_better_1 := dk_seg dksX3_better_0 24 rfl rfl
theorem dksX3_better_2 : cX3_better.data.toList.drop 48 = dktX3_better_2 := dk_seg dksX3_better_1 24 rfl rfl
theorem dksX3_better_3 : cX3_better.data.toList.drop 72 = dktX3_better_3 := dk_seg dksX3_better_2 24 rfl rfl
theorem dX3_better_0 : decode cX3_better 0 = .ok (.aload_n 0, 1) := dk_42 (dk_at dksX3_better_0 0 rfl rfl)
theorem dX3_better_1 : decode cX3_better 1 = .ok (.iconst 0, 1) := dk_3 (dk_at dksX3_better_0 1 rfl rfl)
theorem dX3_better_2 : decode cX3_better 2 = .ok (.putfield 87, 3) := dk_181 0 87 (dk_at dksX3_better_0 2 rfl rfl)
theorem dX3_better_5 : decode cX3_better 5 = .ok (.aload_n 0, 1) := dk_42 (dk_at dksX3_better_0 5 rfl rfl)
theorem dX3_better_6 : decode cX3_better 6 = .ok (.iload_n 1, 1) := dk_27 (dk_at dksX3_better_0 6 rfl rfl)
theorem dX3_better_7 : decode cX3_better 7 = .ok (.invokevirtual 274, 3) := dk_182 1 18 (dk_at dksX3_better_0 7 rfl rfl)
theorem dX3_better_10 : decode cX3_better 10 = .ok (.ifCond .eq 13, 3) := dk_153 0 13 (dk_at dksX3_better_0 10 rfl rfl)
theorem dX3_better_13 : decode cX3_better 13 = .ok (.iload_n 2, 1) := dk_28 (dk_at dksX3_better_0 13 rfl rfl)
theorem dX3_better_14 : decode cX3_better 14 = .ok (.iconst 1, 1) := dk_4 (dk_at dksX3_better_0 14 rfl rfl)
theorem dX3_better_15 : decode cX3_better 15 = .ok (.bipush 60, 2) := dk_16 60 (dk_at dksX3_better_0 15 rfl rfl)
theorem dX3_better_17 : decode cX3_better 17 = .ok (.invokestatic 97, 3) := dk_184 0 97 (dk_at dksX3_better_0 17 rfl rfl)
theorem dX3_better_20 : decode cX3_better 20 = .ok (.ifCond .ne 5, 3) := dk_154 0 5 (dk_at dksX3_better_0 20 rfl rfl)
theorem dX3_better_23 : decode cX3_better 23 = .ok (.iconst (-1), 1) := dk_2 (dk_at dksX3_better_0 23 rfl rfl)
theorem dX3_better_24 : decode cX3_better 24 = .ok (.ireturn, 1) := dk_172 (dk_at dksX3_better_1 0 rfl rfl)
theorem dX3_better_25 : decode cX3_better 25 = .ok (.aload_n 0, 1) := dk_42 (dk_at dksX3_better_1 1 rfl rfl)
theorem dX3_better_26 : decode cX3_better 26 = .ok (.getfield 9, 3) := dk_180 0 9 (dk_at dksX3_better_1 2 rfl rfl)
theorem dX3_better_29 : decode cX3_better 29 = .ok (.iload_n 1, 1) := dk_27 (dk_at dksX3_better_1 5 rfl rfl)
theorem dX3_better_30 : decode cX3_better 30 = .ok (.iaload, 1) := dk_46 (dk_at dksX3_better_1 6 rfl rfl)
theorem dX3_better_31 : decode cX3_better 31 = .ok (.ifCond .ne 6, 3) := dk_154 0 6 (dk_at dksX3_better_1 7 rfl rfl)
theorem dX3_better_34 : decode cX3_better 34 = .ok (.bipush (-2), 2) := dk_16 254 (dk_at dksX3_better_1 10 rfl rfl)
theorem dX3_better_36 : decode cX3_better 36 = .ok (.ireturn, 1) := dk_172 (dk_at dksX3_better_1 12 rfl rfl)
theorem dX3_better_37 : decode cX3_better 37 = .ok (.aload_n 0, 1) := dk_42 (dk_at dksX3_better_1 13 rfl rfl)
theorem dX3_better_38 : decode cX3_better 38 = .ok (.aload_n 0, 1) := dk_42 (dk_at dksX3_better_1 14 rfl rfl)
theorem dX3_better_39 : decode cX3_better 39 = .ok (.getfield 9, 3) := dk_180 0 9 (dk_at dksX3_better_1 15 rfl rfl)
theorem dX3_better_42 : decode cX3_better 42 = .ok (.iload_n 1, 1) := dk_27 (dk_at dksX3_better_1 18 rfl rfl)
theorem dX3_better_43 : decode cX3_better 43 = .ok (.iload_n 2, 1) := dk_28 (dk_at dksX3_better_1 19 rfl rfl)
theorem dX3_better_44 : decode cX3_better 44 = .ok (.invokevirtual 345, 3) := dk_182 1 89 (dk_at dksX3_better_1 20 rfl rfl)
theorem dX3_better_47 : decode cX3_better 47 = .ok (.aload_n 0, 1) := dk_42 (dk_at dksX3_better_1 23 rfl rfl)
theorem dX3_better_48 : decode cX3_better 48 = .ok (.iconst 0, 1) := dk_3 (dk_at dksX3_better_2 0 rfl rfl)
theorem dX3_better_49 : decode cX3_better 49 = .ok (.putfield 91, 3) := dk_181 0 91 (dk_at dksX3_better_2 1 rfl rfl)
theorem dX3_better_52 : decode cX3_better 52 = .ok (.aload_n 0, 1) := dk_42 (dk_at dksX3_better_2 4 rfl rfl)
theorem dX3_better_53 : decode cX3_better 53 = .ok (.aload_n 0, 1) := dk_42 (dk_at dksX3_better_2 5 rfl rfl)
theorem dX3_better_54 : decode cX3_better 54 = .ok (.getfield 339, 3) := dk_180 1 83 (dk_at dksX3_better_2 6 rfl rfl)
theorem dX3_better_57 : decode cX3_better 57 = .ok (.invokevirtual 230, 3) := dk_182 0 230 (dk_at dksX3_better_2 9 rfl rfl)
theorem dX3_better_60 : decode cX3_better 60 = .ok (.aload_n 0, 1) := dk_42 (dk_at dksX3_better_2 12 rfl rfl)
theorem dX3_better_61 : decode cX3_better 61 = .ok (.aload_n 0, 1) := dk_42 (dk_at dksX3_better_2 13 rfl rfl)
theorem dX3_better_62 : decode cX3_better 62 = .ok (.getfield 342, 3) := dk_180 1 86 (dk_at dksX3_better_2 14 rfl rfl)
theorem dX3_better_65 : decode cX3_better 65 = .ok (.invokevirtual 230, 3) := dk_182 0 230 (dk_at dksX3_better_2 17 rfl rfl)
theorem dX3_better_68 : decode cX3_better 68 = .ok (.aload_n 0, 1) := dk_42 (dk_at dksX3_better_2 20 rfl rfl)
theorem dX3_better_69 : decode cX3_better 69 = .ok (.getfield 339, 3) := dk_180 1 83 (dk_at dksX3_better_2 21 rfl rfl)
theorem dX3_better_72 : decode cX3_better 72 = .ok (.aload_n 0, 1) := dk_42 (dk_at dksX3_better_3 0 rfl rfl)
theorem dX3_better_73 : decode cX3_better 73 = .ok (.getfield 342, 3) := dk_180 1 86 (dk_at dksX3_better_3 1 rfl rfl)
theorem dX3_better_76 : decode cX3_better 76 = .ok (.if_icmp .ge 7, 3) := dk_162 0 7 (dk_at dksX3_better_3 4 rfl rfl)
theorem dX3_better_79 : decode cX3_better 79 = .ok (.iconst 1, 1) := dk_4 (dk_at dksX3_better_3 7 rfl rfl)
theorem dX3_better_80 : decode cX3_better 80 = .ok (.goto 4, 3) := dk_167 0 4 (dk_at dksX3_better_3 8 rfl rfl)
theorem dX3_better_83 : decode cX3_better 83 = .ok (.iconst 0, 1) := dk_3 (dk_at dksX3_better_3 11 rfl rfl)
theorem dX3_better_84 : decode cX3_better 84 = .ok (.ireturn, 1) := dk_172 (dk_at dksX3_better_3 12 rfl rfl)
abbrev cX3_compare : ByteArray := prog_9_method_97_code
def yX3_compare : MethodName := ⟨RX3, "compare", "([III)V"⟩
def dkwX3_compare_4 : List UInt8 := [167, 255, 239, 42, 42, 180, 0, 38, 28, 5, 108, 46, 181, 1, 86, 177]
abbrev dktX3_compare_4 : List UInt8 := dkwX3_compare_4 ++ []
def dkwX3_compare_3 : List UInt8 := [3, 184, 0, 253, 3, 54, 4, 21, 4, 29, 162, 0, 17, 42, 42, 180, 0, 62, 182, 1, 4, 132, 4, 1]
abbrev dktX3_compare_3 : List UInt8 := dkwX3_compare_3 ++ dktX3_compare_4
def dkwX3_compare_2 : List UInt8 := [167, 255, 239, 42, 42, 180, 0, 38, 28, 5, 108, 46, 181, 1, 83, 42, 182, 1, 1, 43, 42, 180, 0, 62]
abbrev dktX3_compare_2 : List UInt8 := dkwX3_compare_2 ++ dktX3_compare_3
def dkwX3_compare_1 : List UInt8 := [182, 0, 249, 3, 54, 4, 21, 4, 29, 162, 0, 17, 42, 42, 180, 0, 62, 182, 1, 4, 132, 4, 1]
abbrev dktX3_compare_1 : List UInt8 := dkwX3_compare_1 ++ dktX3_compare_2
def dkwX3_compare_0 : List UInt8 := [42, 182, 1, 1, 43, 42, 180, 0, 62, 3, 184, 0, 253, 42, 42, 180, 0, 62, 28, 28, 5, 108, 4]
abbrev dktX3_compare_0 : List UInt8 := dkwX3_compare_0 ++ dktX3_compare_1
theorem dksX3_compare_0 : cX3_compare.data.toList.drop 0 = dktX3_compare_0 := by decide +kernel
theorem dksX3_compare_1 : cX3_compare.data.toList.drop 23 = dktX3_compare_1 := dk_seg dksX3_compare_0 23 rfl rfl
theorem dksX3_compare_2 : cX3_compare.data.toList.drop 46 = dktX3_compare_2 := dk_seg dksX3_compare_1 23 rfl rfl
theorem dksX3_compare_3 : cX3_compare.data.toList.drop 70 = dktX3_compare_3 := dk_seg dksX3_compare_2 24 rfl rfl
theorem dksX3_compare_4 : cX3_compare.data.toList.drop 94 = dktX3_compare_4 := dk_seg dksX3_compare_3 24 rfl rfl
theorem dX3_compare_0 : decode cX3_compare 0 = .ok (.aload_n 0, 1) := dk_42 (dk_at dksX3_compare_0 0 rfl rfl)
theorem dX3_compare_1 : decode cX3_compare 1 = .ok (.invokevirtual 257, 3) := dk_182 1 1 (dk_at dksX3_compare_0 1 rfl rfl)
theorem dX3_compare_4 : decode cX3_compare 4 = .ok (.aload_n 1, 1) := dk_43 (dk_at dksX3_compare_0 4 rfl rfl)
theorem dX3_compare_5 : decode cX3_compare 5 = .ok (.aload_n 0, 1) := dk_42 (dk_at dksX3_compare_0 5 rfl rfl)
theorem dX3_compare_6 : decode cX3_compare 6 = .ok (.getfield 62, 3) := dk_180 0 62 (dk_at dksX3_compare_0 6 rfl rfl)
theorem dX3_compare_9 : decode cX3_compare 9 = .ok (.iconst 0, 1) := dk_3 (dk_at dksX3_compare_0 9 rfl rfl)
theorem dX3_compare_10 : decode cX3_compare 10 = .ok (.invokestatic 253, 3) := dk_184 0 253 (dk_at dksX3_compare_0 10 rfl rfl)
theorem dX3_compare_13 : decode cX3_compare 13 = .ok (.aload_n 0, 1) := dk_42 (dk_at dksX3_compare_0 13 rfl rfl)
theorem dX3_compare_14 : decode cX3_compare 14 = .ok (.aload_n 0, 1) := dk_42 (dk_at dksX3_compare_0 14 rfl rfl)
theorem dX3_compare_15 : decode cX3_compare 15 = .ok (.getfield 62, 3) := dk_180 0 62 (dk_at dksX3_compare_0 15 rfl rfl)
theorem dX3_compare_18 : decode cX3_compare 18 = .ok (.iload_n 2, 1) := dk_28 (dk_at dksX3_compare_0 18 rfl rfl)
theorem dX3_compare_19 : decode cX3_compare 19 = .ok (.iload_n 2, 1) := dk_28 (dk_at dksX3_compare_0 19 rfl rfl)
theorem dX3_compare_20 : decode cX3_compare 20 = .ok (.iconst 2, 1) := dk_5 (dk_at dksX3_compare_0 20 rfl rfl)
theorem dX3_compare_21 : decode cX3_compare 21 = .ok (.idiv, 1) := dk_108 (dk_at dksX3_compare_0 21 rfl rfl)
theorem dX3_compare_22 : decode cX3_compare 22 = .ok (.iconst 1, 1) := dk_4 (dk_at dksX3_compare_0 22 rfl rfl)
theorem dX3_compare_23 : decode cX3_compare 23 = .ok (.invokevirtual 249, 3) := dk_182 0 249 (dk_at dksX3_compare_1 0 rfl rfl)
theorem dX3_compare_26 : decode cX3_compare 26 = .ok (.iconst 0, 1) := dk_3 (dk_at dksX3_compare_1 3 rfl rfl)
theorem dX3_compare_27 : decode cX3_compare 27 = .ok (.istore 4, 2) := dk_54 4 (dk_at dksX3_compare_1 4 rfl rfl)
theorem dX3_compare_29 : decode cX3_compare 29 = .ok (.iload 4, 2) := dk_21 4 (dk_at dksX3_compare_1 6 rfl rfl)
theorem dX3_compare_31 : decode cX3_compare 31 = .ok (.iload_n 3, 1) := dk_29 (dk_at dksX3_compare_1 8 rfl rfl)
theorem dX3_compare_32 : decode cX3_compare 32 = .ok (.if_icmp .ge 17, 3) := dk_162 0 17 (dk_at dksX3_compare_1 9 rfl rfl)
theorem dX3_compare_35 : decode cX3_compare 35 = .ok (.aload_n 0, 1) := dk_42 (dk_at dksX3_compare_1 12 rfl rfl)
theorem dX3_compare_36 : decode cX3_compare 36 = .ok (.aload_n 0, 1) := dk_42 (dk_at dksX3_compare_1 13 rfl rfl)
theorem dX3_compare_37 : decode cX3_compare 37 = .ok (.getfield 62, 3) := dk_180 0 62 (dk_at dksX3_compare_1 14 rfl rfl)
theorem dX3_compare_40 : decode cX3_compare 40 = .ok (.invokevirtual 260, 3) := dk_182 1 4 (dk_at dksX3_compare_1 17 rfl rfl)
theorem dX3_compare_43 : decode cX3_compare 43 = .ok (.iinc 4 1, 3) := dk_132 4 1 (dk_at dksX3_compare_1 20 rfl rfl)
theorem dX3_compare_46 : decode cX3_compare 46 = .ok (.goto (-17), 3) := dk_167 255 239 (dk_at dksX3_compare_2 0 rfl rfl)
theorem dX3_compare_49 : decode cX3_compare 49 = .ok (.aload_n 0, 1) := dk_42 (dk_at dksX3_compare_2 3 rfl rfl)
theorem dX3_compare_50 : decode cX3_compare 50 = .ok (.aload_n 0, 1) := dk_42 (dk_at dksX3_compare_2 4 rfl rfl)
theorem dX3_compare_51 : decode cX3_compare 51 = .ok (.getfield 38, 3) := dk_180 0 38 (dk_at dksX3_compare_2 5 rfl rfl)
theorem dX3_compare_54 : decode cX3_compare 54 = .ok (.iload_n 2, 1) := dk_28 (dk_at dksX3_compare_2 8 rfl rfl)
theorem dX3_compare_55 : decode cX3_compare 55 = .ok (.iconst 2, 1) := dk_5 (dk_at dksX3_compare_2 9 rfl rfl)
theorem dX3_compare_56 : decode cX3_compare 56 = .ok (.idiv, 1) := dk_108 (dk_at dksX3_compare_2 10 rfl rfl)
theorem dX3_compare_57 : decode cX3_compare 57 = .ok (.iaload, 1) := dk_46 (dk_at dksX3_compare_2 11 rfl rfl)
theorem dX3_compare_58 : decode cX3_compare 58 = .ok (.putfield 339, 3) := dk_181 1 83 (dk_at dksX3_compare_2 12 rfl rfl)
theorem dX3_compare_61 : decode cX3_compare 61 = .ok (.aload_n 0, 1) := dk_42 (dk_at dksX3_compare_2 15 rfl rfl)
theorem dX3_compare_62 : decode cX3_compare 62 = .ok (.invokevirtual 257, 3) := dk_182 1 1 (dk_at dksX3_compare_2 16 rfl rfl)
theorem dX3_compare_65 : decode cX3_compare 65 = .ok (.aload_n 1, 1) := dk_43 (dk_at dksX3_compare_2 19 rfl rfl)
theorem dX3_compare_66 : decode cX3_compare 66 = .ok (.aload_n 0, 1) := dk_42 (dk_at dksX3_compare_2 20 rfl rfl)
theorem dX3_compare_67 : decode cX3_compare 67 = .ok (.getfield 62, 3) := dk_180 0 62 (dk_at dksX3_compare_2 21 rfl rfl)
theorem dX3_compare_70 : decode cX3_compare 70 = .ok (.iconst 0, 1) := dk_3 (dk_at dksX3_compare_3 0 rfl rfl)
theorem dX3_compare_71 : decode cX3_compare 71 = .ok (.invokestatic 253, 3) := dk_184 0 253 (dk_at dksX3_compare_3 1 rfl rfl)
theorem dX3_compare_74 : decode cX3_compare 74 = .ok (.iconst 0, 1) := dk_3 (dk_at dksX3_compare_3 4 rfl rfl)
theorem dX3_compare_75 : decode cX3_compare 75 = .ok (.istore 4, 2) := dk_54 4 (dk_at dksX3_compare_3 5 rfl rfl)
theorem dX3_compare_77 : decode cX3_compare 77 = .ok (.iload 4, 2) := dk_21 4 (dk_at dksX3_compare_3 7 rfl rfl)
theorem dX3_compare_79 : decode cX3_compare 79 = .ok (.iload_n 3, 1) := dk_29 (dk_at dksX3_compare_3 9 rfl rfl)
theorem dX3_compare_80 : decode cX3_compare 80 = .ok (.if_icmp .ge 17, 3) := dk_162 0 17 (dk_at dksX3_compare_3 10 rfl rfl)
theorem dX3_compare_83 : decode cX3_compare 83 = .ok (.aload_n 0, 1) := dk_42 (dk_at dksX3_compare_3 13 rfl rfl)
theorem dX3_compare_84 : decode cX3_compare 84 = .ok (.aload_n 0, 1) := dk_42 (dk_at dksX3_compare_3 14 rfl rfl)
theorem dX3_compare_85 : decode cX3_compare 85 = .ok (.getfield 62, 3) := dk_180 0 62 (dk_at dksX3_compare_3 15 rfl rfl)
theorem dX3_compare_88 : decode cX3_compare 88 = .ok (.invokevirtual 260, 3) := dk_182 1 4 (dk_at dksX3_compare_3 18 rfl rfl)
theorem dX3_compare_91 : decode cX3_compare 91 = .ok (.iinc 4 1, 3) := dk_132 4 1 (dk_at dksX3_compare_3 21 rfl rfl)
theorem dX3_compare_94 : decode cX3_compare 94 = .ok (.goto (-17), 3) := dk_167 255 239 (dk_at dksX3_compare_4 0 rfl rfl)
theorem dX3_compare_97 : decode cX3_compare 97 = .ok (.aload_n 0, 1) := dk_42 (dk_at dksX3_compare_4 3 rfl rfl)
theorem dX3_compare_98 : decode cX3_compare 98 = .ok (.aload_n 0, 1) := dk_42 (dk_at dksX3_compare_4 4 rfl rfl)
theorem dX3_compare_99 : decode cX3_compare 99 = .ok (.getfield 38, 3) := dk_180 0 38 (dk_at dksX3_compare_4 5 rfl rfl)
theorem dX3_compare_102 : decode cX3_compare 102 = .ok (.iload_n 2, 1) := dk_28 (dk_at dksX3_compare_4 8 rfl rfl)
theorem dX3_compare_103 : decode cX3_compare 103 = .ok (.iconst 2, 1) := dk_5 (dk_at dksX3_compare_4 9 rfl rfl)
theorem dX3_compare_104 : decode cX3_compare 104 = .ok (.idiv, 1) := dk_108 (dk_at dksX3_compare_4 10 rfl rfl)
theorem dX3_compare_105 : decode cX3_compare 105 = .ok (.iaload, 1) := dk_46 (dk_at dksX3_compare_4 11 rfl rfl)
theorem dX3_compare_106 : decode cX3_compare 106 = .ok (.putfield 342, 3) := dk_181 1 86 (dk_at dksX3_compare_4 12 rfl rfl)
theorem dX3_compare_109 : decode cX3_compare 109 = .ok (.return_, 1) := dk_177 (dk_at dksX3_compare_4 15 rfl rfl)
abbrev cX3_rests : ByteArray := prog_9_method_99_code
def yX3_rests : MethodName := ⟨RX3, "rests", "(II)I"⟩
def dkwX3_rests_7 : List UInt8 := [167, 0, 4, 3, 182, 0, 230, 42, 21, 4, 182, 0, 230, 29, 172]
abbrev dktX3_rests_7 : List UInt8 := dkwX3_rests_7 ++ []
def dkwX3_rests_6 : List UInt8 := [54, 5, 132, 6, 1, 167, 255, 177, 167, 255, 155, 42, 3, 181, 0, 91, 42, 21, 5, 153, 0, 7, 4]
abbrev dktX3_rests_6 : List UInt8 := dkwX3_rests_6 ++ dktX3_rests_7
def dkwX3_rests_5 : List UInt8 := [42, 180, 0, 71, 21, 6, 21, 6, 5, 108, 4, 182, 0, 249, 21, 4, 4, 21, 6, 120, 128, 54, 4, 3]
abbrev dktX3_rests_5 : List UInt8 := dkwX3_rests_5 ++ dktX3_rests_6
def dkwX3_rests_4 : List UInt8 := [180, 0, 71, 21, 6, 27, 182, 1, 89, 42, 180, 1, 83, 42, 180, 1, 86, 161, 0, 6, 167, 0, 30, 42]
abbrev dktX3_rests_4 : List UInt8 := dkwX3_rests_4 ++ dktX3_rests_5
def dkwX3_rests_3 : List UInt8 := [42, 180, 0, 94, 104, 162, 0, 74, 42, 180, 0, 71, 21, 6, 46, 154, 0, 6, 167, 0, 55, 42, 42]
abbrev dktX3_rests_3 : List UInt8 := dkwX3_rests_3 ++ dktX3_rests_4
def dkwX3_rests_2 : List UInt8 := [54, 5, 29, 28, 162, 0, 102, 21, 5, 154, 0, 97, 4, 54, 5, 132, 3, 1, 3, 54, 6, 21, 6, 5]
abbrev dktX3_rests_2 : List UInt8 := dkwX3_rests_2 ++ dktX3_rests_3
def dkwX3_rests_1 : List UInt8 := [154, 0, 5, 2, 172, 42, 180, 0, 9, 42, 180, 0, 71, 3, 184, 0, 253, 3, 62, 3, 54, 4, 3]
abbrev dktX3_rests_1 : List UInt8 := dkwX3_rests_1 ++ dktX3_rests_2
def dkwX3_rests_0 : List UInt8 := [42, 3, 181, 0, 87, 27, 4, 16, 30, 184, 0, 97, 153, 0, 13, 28, 3, 16, 20, 184, 0, 97]
abbrev dktX3_rests_0 : List UInt8 := dkwX3_rests_0 ++ dktX3_rests_1
theorem dksX3_rests_0 : cX3_rests.data.toList.drop 0 = dktX3_rests_0 := by decide +kernel
theorem dksX3_rests_1 : cX3_rests.data.toList.drop 22 = dktX3_rests_1 := dk_seg dksX3_rests_0 22 rfl rfl
theorem dksX3_rests_2 : cX3_rests.data.toList.drop 45 = dktX3_rests_2 := dk_seg dksX3_rests_1 23 rfl rfl
theorem dksX3_rests_3 : cX3_rests.data.toList.drop 69 = dktX3_rests_3 := dk_seg dksX3_rests_2 24 rfl rfl
theorem dksX3_rests_4 : cX3_rests.data.toList.drop 92 = dktX3_rests_4 := dk_seg dksX3_rests_3 23 rfl rfl
theorem dksX3_rests_5 : cX3_rests.data.toList.drop 116 = dktX3_rests_5 := dk_seg dksX3_rests_4 24 rfl rfl
theorem dksX3_rests_6 : cX3_rests.data.toList.drop 140 = dktX3_rests_6 := dk_seg dksX3_rests_5 24 rfl rfl
theorem dksX3_rests_7 : cX3_rests.data.toList.drop 163 = dktX3_rests_7 := dk_seg dksX3_rests_6 23 rfl rfl
theorem dX3_rests_0 : decode cX3_rests 0 = .ok (.aload_n 0, 1) := dk_42 (dk_at dksX3_rests_0 0 rfl rfl)
theorem dX3_rests_1 : decode cX3_rests 1 = .ok (.iconst 0, 1) := dk_3 (dk_at dksX3_rests_0 1 rfl rfl)
theorem dX3_rests_2 : decode cX3_rests 2 = .ok (.putfield 87, 3) := dk_181 0 87 (dk_at dksX3_rests_0 2 rfl rfl)
theorem dX3_rests_5 : decode cX3_rests 5 = .ok (.iload_n 1, 1) := dk_27 (dk_at dksX3_rests_0 5 rfl rfl)
theorem dX3_rests_6 : decode cX3_rests 6 = .ok (.iconst 1, 1) := dk_4 (dk_at dksX3_rests_0 6 rfl rfl)
theorem dX3_rests_7 : decode cX3_rests 7 = .ok (.bipush 30, 2) := dk_16 30 (dk_at dksX3_rests_0 7 rfl rfl)
theorem dX3_rests_9 : decode cX3_rests 9 = .ok (.invokestatic 97, 3) := dk_184 0 97 (dk_at dksX3_rests_0 9 rfl rfl)
theorem dX3_rests_12 : decode cX3_rests 12 = .ok (.ifCond .eq 13, 3) := dk_153 0 13 (dk_at dksX3_rests_0 12 rfl rfl)
theorem dX3_rests_15 : decode cX3_rests 15 = .ok (.iload_n 2, 1) := dk_28 (dk_at dksX3_rests_0 15 rfl rfl)
theorem dX3_rests_16 : decode cX3_rests 16 = .ok (.iconst 0, 1) := dk_3 (dk_at dksX3_rests_0 16 rfl rfl)
theorem dX3_rests_17 : decode cX3_rests 17 = .ok (.bipush 20, 2) := dk_16 20 (dk_at dksX3_rests_0 17 rfl rfl)
theorem dX3_rests_19 : decode cX3_rests 19 = .ok (.invokestatic 97, 3) := dk_184 0 97 (dk_at dksX3_rests_0 19 rfl rfl)
theorem dX3_rests_22 : decode cX3_rests 22 = .ok (.ifCond .ne 5, 3) := dk_154 0 5 (dk_at dksX3_rests_1 0 rfl rfl)
theorem dX3_rests_25 : decode cX3_rests 25 = .ok (.iconst (-1), 1) := dk_2 (dk_at dksX3_rests_1 3 rfl rfl)
theorem dX3_rests_26 : decode cX3_rests 26 = .ok (.ireturn, 1) := dk_172 (dk_at dksX3_rests_1 4 rfl rfl)
theorem dX3_rests_27 : decode cX3_rests 27 = .ok (.aload_n 0, 1) := dk_42 (dk_at dksX3_rests_1 5 rfl rfl)
theorem dX3_rests_28 : decode cX3_rests 28 = .ok (.getfield 9, 3) := dk_180 0 9 (dk_at dksX3_rests_1 6 rfl rfl)
theorem dX3_rests_31 : decode cX3_rests 31 = .ok (.aload_n 0, 1) := dk_42 (dk_at dksX3_rests_1 9 rfl rfl)
theorem dX3_rests_32 : decode cX3_rests 32 = .ok (.getfield 71, 3) := dk_180 0 71 (dk_at dksX3_rests_1 10 rfl rfl)
theorem dX3_rests_35 : decode cX3_rests 35 = .ok (.iconst 0, 1) := dk_3 (dk_at dksX3_rests_1 13 rfl rfl)
theorem dX3_rests_36 : decode cX3_rests 36 = .ok (.invokestatic 253, 3) := dk_184 0 253 (dk_at dksX3_rests_1 14 rfl rfl)
theorem dX3_rests_39 : decode cX3_rests 39 = .ok (.iconst 0, 1) := dk_3 (dk_at dksX3_rests_1 17 rfl rfl)
theorem dX3_rests_40 : decode cX3_rests 40 = .ok (.istore_n 3, 1) := dk_62 (dk_at dksX3_rests_1 18 rfl rfl)
theorem dX3_rests_41 : decode cX3_rests 41 = .ok (.iconst 0, 1) := dk_3 (dk_at dksX3_rests_1 19 rfl rfl)
theorem dX3_rests_42 : decode cX3_rests 42 = .ok (.istore 4, 2) := dk_54 4 (dk_at dksX3_rests_1 20 rfl rfl)
theorem dX3_rests_44 : decode cX3_rests 44 = .ok (.iconst 0, 1) := dk_3 (dk_at dksX3_rests_1 22 rfl rfl)
theorem dX3_rests_45 : decode cX3_rests 45 = .ok (.istore 5, 2) := dk_54 5 (dk_at dksX3_rests_2 0 rfl rfl)
theorem dX3_rests_47 : decode cX3_rests 47 = .ok (.iload_n 3, 1) := dk_29 (dk_at dksX3_rests_2 2 rfl rfl)
theorem dX3_rests_48 : decode cX3_rests 48 = .ok (.iload_n 2, 1) := dk_28 (dk_at dksX3_rests_2 3 rfl rfl)
theorem dX3_rests_49 : decode cX3_rests 49 = .ok (.if_icmp .ge 102, 3) := dk_162 0 102 (dk_at dksX3_rests_2 4 rfl rfl)
theorem dX3_rests_52 : decode cX3_rests 52 = .ok (.iload 5, 2) := dk_21 5 (dk_at dksX3_rests_2 7 rfl rfl)
theorem dX3_rests_54 : decode cX3_rests 54 = .ok (.ifCond .ne 97, 3) := dk_154 0 97 (dk_at dksX3_rests_2 9 rfl rfl)
theorem dX3_rests_57 : decode cX3_rests 57 = .ok (.iconst 1, 1) := dk_4 (dk_at dksX3_rests_2 12 rfl rfl)
theorem dX3_rests_58 : decode cX3_rests 58 = .ok (.istore 5, 2) := dk_54 5 (dk_at dksX3_rests_2 13 rfl rfl)
theorem dX3_rests_60 : decode cX3_rests 60 = .ok (.iinc 3 1, 3) := dk_132 3 1 (dk_at dksX3_rests_2 15 rfl rfl)
theorem dX3_rests_63 : decode cX3_rests 63 = .ok (.iconst 0, 1) := dk_3 (dk_at dksX3_rests_2 18 rfl rfl)
theorem dX3_rests_64 : decode cX3_rests 64 = .ok (.istore 6, 2) := dk_54 6 (dk_at dksX3_rests_2 19 rfl rfl)
theorem dX3_rests_66 : decode cX3_rests 66 = .ok (.iload 6, 2) := dk_21 6 (dk_at dksX3_rests_2 21 rfl rfl)
theorem dX3_rests_68 : decode cX3_rests 68 = .ok (.iconst 2, 1) := dk_5 (dk_at dksX3_rests_2 23 rfl rfl)
theorem dX3_rests_69 : decode cX3_rests 69 = .ok (.aload_n 0, 1) := dk_42 (dk_at dksX3_rests_3 0 rfl rfl)
theorem dX3_rests_70 : decode cX3_rests 70 = .ok (.getfield 94, 3) := dk_180 0 94 (dk_at dksX3_rests_3 1 rfl rfl)
theorem dX3_rests_73 : decode cX3_rests 73 = .ok (.imul, 1) := dk_104 (dk_at dksX3_rests_3 4 rfl rfl)
theorem dX3_rests_74 : decode cX3_rests 74 = .ok (.if_icmp .ge 74, 3) := dk_162 0 74 (dk_at dksX3_rests_3 5 rfl rfl)
theorem dX3_rests_77 : decode cX3_rests 77 = .ok (.aload_n 0, 1) := dk_42 (dk_at dksX3_rests_3 8 rfl rfl)
theorem dX3_rests_78 : decode cX3_rests 78 = .ok (.getfield 71, 3) := dk_180 0 71 (dk_at dksX3_rests_3 9 rfl rfl)
theorem dX3_rests_81 : decode cX3_rests 81 = .ok (.iload 6, 2) := dk_21 6 (dk_at dksX3_rests_3 12 rfl rfl)
theorem dX3_rests_83 : decode cX3_rests 83 = .ok (.iaload, 1) := dk_46 (dk_at dksX3_rests_3 14 rfl rfl)
theorem dX3_rests_84 : decode cX3_rests 84 = .ok (.ifCond .ne 6, 3) := dk_154 0 6 (dk_at dksX3_rests_3 15 rfl rfl)
theorem dX3_rests_87 : decode cX3_rests 87 = .ok (.goto 55, 3) := dk_167 0 55 (dk_at dksX3_rests_3 18 rfl rfl)
theorem dX3_rests_90 : decode cX3_rests 90 = .ok (.aload_n 0, 1) := dk_42 (dk_at dksX3_rests_3 21 rfl rfl)
theorem dX3_rests_91 : decode cX3_rests 91 = .ok (.aload_n 0, 1) := dk_42 (dk_at dksX3_rests_3 22 rfl rfl)
theorem dX3_rests_92 : decode cX3_rests 92 = .ok (.getfield 71, 3) := dk_180 0 71 (dk_at dksX3_rests_4 0 rfl rfl)
theorem dX3_rests_95 : decode cX3_rests 95 = .ok (.iload 6, 2) := dk_21 6 (dk_at dksX3_rests_4 3 rfl rfl)
theorem dX3_rests_97 : decode cX3_rests 97 = .ok (.iload_n 1, 1) := dk_27 (dk_at dksX3_rests_4 5 rfl rfl)
theorem dX3_rests_98 : decode cX3_rests 98 = .ok (.invokevirtual 345, 3) := dk_182 1 89 (dk_at dksX3_rests_4 6 rfl rfl)
theorem dX3_rests_101 : decode cX3_rests 101 = .ok (.aload_n 0, 1) := dk_42 (dk_at dksX3_rests_4 9 rfl rfl)
theorem dX3_rests_102 : decode cX3_rests 102 = .ok (.getfield 339, 3) := dk_180 1 83 (dk_at dksX3_rests_4 10 rfl rfl)
theorem dX3_rests_105 : decode cX3_rests 105 = .ok (.aload_n 0, 1) := dk_42 (dk_at dksX3_rests_4 13 rfl rfl)
theorem dX3_rests_106 : decode cX3_rests 106 = .ok (.getfield 342, 3) := dk_180 1 86 (dk_at dksX3_rests_4 14 rfl rfl)
theorem dX3_rests_109 : decode cX3_rests 109 = .ok (.if_icmp .lt 6, 3) := dk_161 0 6 (dk_at dksX3_rests_4 17 rfl rfl)
theorem dX3_rests_112 : decode cX3_rests 112 = .ok (.goto 30, 3) := dk_167 0 30 (dk_at dksX3_rests_4 20 rfl rfl)
theorem dX3_rests_115 : decode cX3_rests 115 = .ok (.aload_n 0, 1) := dk_42 (dk_at dksX3_rests_4 23 rfl rfl)
theorem dX3_rests_116 : decode cX3_rests 116 = .ok (.aload_n 0, 1) := dk_42 (dk_at dksX3_rests_5 0 rfl rfl)
theorem dX3_rests_117 : decode cX3_rests 117 = .ok (.getfield 71, 3) := dk_180 0 71 (dk_at dksX3_rests_5 1 rfl rfl)
theorem dX3_rests_120 : decode cX3_rests 120 = .ok (.iload 6, 2) := dk_21 6 (dk_at dksX3_rests_5 4 rfl rfl)
theorem dX3_rests_122 : decode cX3_rests 122 = .ok (.iload 6, 2) := dk_21 6 (dk_at dksX3_rests_5 6 rfl rfl)
theorem dX3_rests_124 : decode cX3_rests 124 = .ok (.iconst 2, 1) := dk_5 (dk_at dksX3_rests_5 8 rfl rfl)
theorem dX3_rests_125 : decode cX3_rests 125 = .ok (.idiv, 1) := dk_108 (dk_at dksX3_rests_5 9 rfl rfl)
theorem dX3_rests_126 : decode cX3_rests 126 = .ok (.iconst 1, 1) := dk_4 (dk_at dksX3_rests_5 10 rfl rfl)
theorem dX3_rests_127 : decode cX3_rests 127 = .ok (.invokevirtual 249, 3) := dk_182 0 249 (dk_at dksX3_rests_5 11 rfl rfl)
theorem dX3_rests_130 : decode cX3_rests 130 = .ok (.iload 4, 2) := dk_21 4 (dk_at dksX3_rests_5 14 rfl rfl)
theorem dX3_rests_132 : decode cX3_rests 132 = .ok (.iconst 1, 1) := dk_4 (dk_at dksX3_rests_5 16 rfl rfl)
theorem dX3_rests_133 : decode cX3_rests 133 = .ok (.iload 6, 2) := dk_21 6 (dk_at dksX3_rests_5 17 rfl rfl)
theorem dX3_rests_135 : decode cX3_rests 135 = .ok (.ishl, 1) := dk_120 (dk_at dksX3_rests_5 19 rfl rfl)
theorem dX3_rests_136 : decode cX3_rests 136 = .ok (.ior, 1) := dk_128 (dk_at dksX3_rests_5 20 rfl rfl)
theorem dX3_rests_137 : decode cX3_rests 137 = .ok (.istore 4, 2) := dk_54 4 (dk_at dksX3_rests_5 21 rfl rfl)
theorem dX3_rests_139 : decode cX3_rests 139 = .ok (.iconst 0, 1) := dk_3 (dk_at dksX3_rests_5 23 rfl rfl)
theorem dX3_rests_140 : decode cX3_rests 140 = .ok (.istore 5, 2) := dk_54 5 (dk_at dksX3_rests_6 0 rfl rfl)
theorem dX3_rests_142 : decode cX3_rests 142 = .ok (.iinc 6 1, 3) := dk_132 6 1 (dk_at dksX3_rests_6 2 rfl rfl)
theorem dX3_rests_145 : decode cX3_rests 145 = .ok (.goto (-79), 3) := dk_167 255 177 (dk_at dksX3_rests_6 5 rfl rfl)
theorem dX3_rests_148 : decode cX3_rests 148 = .ok (.goto (-101), 3) := dk_167 255 155 (dk_at dksX3_rests_6 8 rfl rfl)
theorem dX3_rests_151 : decode cX3_rests 151 = .ok (.aload_n 0, 1) := dk_42 (dk_at dksX3_rests_6 11 rfl rfl)
theorem dX3_rests_152 : decode cX3_rests 152 = .ok (.iconst 0, 1) := dk_3 (dk_at dksX3_rests_6 12 rfl rfl)
theorem dX3_rests_153 : decode cX3_rests 153 = .ok (.putfield 91, 3) := dk_181 0 91 (dk_at dksX3_rests_6 13 rfl rfl)
theorem dX3_rests_156 : decode cX3_rests 156 = .ok (.aload_n 0, 1) := dk_42 (dk_at dksX3_rests_6 16 rfl rfl)
theorem dX3_rests_157 : decode cX3_rests 157 = .ok (.iload 5, 2) := dk_21 5 (dk_at dksX3_rests_6 17 rfl rfl)
theorem dX3_rests_159 : decode cX3_rests 159 = .ok (.ifCond .eq 7, 3) := dk_153 0 7 (dk_at dksX3_rests_6 19 rfl rfl)
theorem dX3_rests_162 : decode cX3_rests 162 = .ok (.iconst 1, 1) := dk_4 (dk_at dksX3_rests_6 22 rfl rfl)
theorem dX3_rests_163 : decode cX3_rests 163 = .ok (.goto 4, 3) := dk_167 0 4 (dk_at dksX3_rests_7 0 rfl rfl)
theorem dX3_rests_166 : decode cX3_rests 166 = .ok (.iconst 0, 1) := dk_3 (dk_at dksX3_rests_7 3 rfl rfl)
theorem dX3_rests_167 : decode cX3_rests 167 = .ok (.invokevirtual 230, 3) := dk_182 0 230 (dk_at dksX3_rests_7 4 rfl rfl)
theorem dX3_rests_170 : decode cX3_rests 170 = .ok (.aload_n 0, 1) := dk_42 (dk_at dksX3_rests_7 7 rfl rfl)
theorem dX3_rests_171 : decode cX3_rests 171 = .ok (.iload 4, 2) := dk_21 4 (dk_at dksX3_rests_7 8 rfl rfl)
theorem dX3_rests_173 : decode cX3_rests 173 = .ok (.invokevirtual 230, 3) := dk_182 0 230 (dk_at dksX3_rests_7 10 rfl rfl)
theorem dX3_rests_176 : decode cX3_rests 176 = .ok (.iload_n 3, 1) := dk_29 (dk_at dksX3_rests_7 13 rfl rfl)
theorem dX3_rests_177 : decode cX3_rests 177 = .ok (.ireturn, 1) := dk_172 (dk_at dksX3_rests_7 14 rfl rfl)
abbrev cX3_rough : ByteArray := prog_9_method_101_code
def yX3_rough : MethodName := ⟨RX3, "rough", "(II)I"⟩
def dkwX3_rough_5 : List UInt8 := [29, 172]
abbrev dktX3_rough_5 : List UInt8 := dkwX3_rough_5 ++ []
def dkwX3_rough_4 : List UInt8 := [132, 5, 1, 167, 255, 194, 29, 156, 0, 6, 16, 254, 172, 42, 3, 181, 0, 91, 42, 21, 4, 182, 0, 230]
abbrev dktX3_rough_4 : List UInt8 := dkwX3_rough_4 ++ dktX3_rough_5
def dkwX3_rough_3 : List UInt8 := [21, 5, 21, 6, 79, 21, 7, 21, 4, 161, 0, 6, 167, 0, 10, 21, 5, 62, 21, 7, 54, 4]
abbrev dktX3_rough_3 : List UInt8 := dkwX3_rough_3 ++ dktX3_rough_4
def dkwX3_rough_2 : List UInt8 := [21, 5, 46, 54, 6, 42, 180, 0, 13, 21, 5, 27, 79, 42, 28, 182, 1, 92, 54, 7, 42, 180, 0, 13]
abbrev dktX3_rough_2 : List UInt8 := dkwX3_rough_2 ++ dktX3_rough_3
def dkwX3_rough_1 : List UInt8 := [16, 254, 62, 19, 1, 46, 54, 4, 3, 54, 5, 21, 5, 42, 180, 0, 94, 162, 0, 59, 42, 180, 0, 13]
abbrev dktX3_rough_1 : List UInt8 := dkwX3_rough_1 ++ dktX3_rough_2
def dkwX3_rough_0 : List UInt8 := [42, 3, 181, 0, 87, 27, 4, 16, 99, 184, 0, 97, 153, 0, 10, 28, 184, 1, 68, 154, 0, 5, 2, 172]
abbrev dktX3_rough_0 : List UInt8 := dkwX3_rough_0 ++ dktX3_rough_1
theorem dksX3_rough_0 : cX3_rough.data.toList.drop 0 = dktX3_rough_0 := by decide +kernel
theorem dksX3_rough_1 : cX3_rough.data.toList.drop 24 = dktX3_rough_1 := dk_seg dksX3_rough_0 24 rfl rfl
theorem dksX3_rough_2 : cX3_rough.data.toList.drop 48 = dktX3_rough_2 := dk_seg dksX3_rough_1 24 rfl rfl
theorem dksX3_rough_3 : cX3_rough.data.toList.drop 72 = dktX3_rough_3 := dk_seg dksX3_rough_2 24 rfl rfl
theorem dksX3_rough_4 : cX3_rough.data.toList.drop 94 = dktX3_rough_4 := dk_seg dksX3_rough_3 22 rfl rfl
theorem dksX3_rough_5 : cX3_rough.data.toList.drop 118 = dktX3_rough_5 := dk_seg dksX3_rough_4 24 rfl rfl
theorem dX3_rough_0 : decode cX3_rough 0 = .ok (.aload_n 0, 1) := dk_42 (dk_at dksX3_rough_0 0 rfl rfl)
theorem dX3_rough_1 : decode cX3_rough 1 = .ok (.iconst 0, 1) := dk_3 (dk_at dksX3_rough_0 1 rfl rfl)
theorem dX3_rough_2 : decode cX3_rough 2 = .ok (.putfield 87, 3) := dk_181 0 87 (dk_at dksX3_rough_0 2 rfl rfl)
theorem dX3_rough_5 : decode cX3_rough 5 = .ok (.iload_n 1, 1) := dk_27 (dk_at dksX3_rough_0 5 rfl rfl)
theorem dX3_rough_6 : decode cX3_rough 6 = .ok (.iconst 1, 1) := dk_4 (dk_at dksX3_rough_0 6 rfl rfl)
theorem dX3_rough_7 : decode cX3_rough 7 = .ok (.bipush 99, 2) := dk_16 99 (dk_at dksX3_rough_0 7 rfl rfl)
theorem dX3_rough_9 : decode cX3_rough 9 = .ok (.invokestatic 97, 3) := dk_184 0 97 (dk_at dksX3_rough_0 9 rfl rfl)
theorem dX3_rough_12 : decode cX3_rough 12 = .ok (.ifCond .eq 10, 3) := dk_153 0 10 (dk_at dksX3_rough_0 12 rfl rfl)
theorem dX3_rough_15 : decode cX3_rough 15 = .ok (.iload_n 2, 1) := dk_28 (dk_at dksX3_rough_0 15 rfl rfl)
theorem dX3_rough_16 : decode cX3_rough 16 = .ok (.invokestatic 324, 3) := dk_184 1 68 (dk_at dksX3_rough_0 16 rfl rfl)
theorem dX3_rough_19 : decode cX3_rough 19 = .ok (.ifCond .ne 5, 3) := dk_154 0 5 (dk_at dksX3_rough_0 19 rfl rfl)
theorem dX3_rough_22 : decode cX3_rough 22 = .ok (.iconst (-1), 1) := dk_2 (dk_at dksX3_rough_0 22 rfl rfl)
theorem dX3_rough_23 : decode cX3_rough 23 = .ok (.ireturn, 1) := dk_172 (dk_at dksX3_rough_0 23 rfl rfl)
theorem dX3_rough_24 : decode cX3_rough 24 = .ok (.bipush (-2), 2) := dk_16 254 (dk_at dksX3_rough_1 0 rfl rfl)
theorem dX3_rough_26 : decode cX3_rough 26 = .ok (.istore_n 3, 1) := dk_62 (dk_at dksX3_rough_1 2 rfl rfl)
theorem dX3_rough_27 : decode cX3_rough 27 = .ok (.ldc_w 302, 3) := dk_19 1 46 (dk_at dksX3_rough_1 3 rfl rfl)
theorem dX3_rough_30 : decode cX3_rough 30 = .ok (.istore 4, 2) := dk_54 4 (dk_at dksX3_rough_1 6 rfl rfl)
theorem dX3_rough_32 : decode cX3_rough 32 = .ok (.iconst 0, 1) := dk_3 (dk_at dksX3_rough_1 8 rfl rfl)
theorem dX3_rough_33 : decode cX3_rough 33 = .ok (.istore 5, 2) := dk_54 5 (dk_at dksX3_rough_1 9 rfl rfl)
theorem dX3_rough_35 : decode cX3_rough 35 = .ok (.iload 5, 2) := dk_21 5 (dk_at dksX3_rough_1 11 rfl rfl)
theorem dX3_rough_37 : decode cX3_rough 37 = .ok (.aload_n 0, 1) := dk_42 (dk_at dksX3_rough_1 13 rfl rfl)
theorem dX3_rough_38 : decode cX3_rough 38 = .ok (.getfield 94, 3) := dk_180 0 94 (dk_at dksX3_rough_1 14 rfl rfl)
theorem dX3_rough_41 : decode cX3_rough 41 = .ok (.if_icmp .ge 59, 3) := dk_162 0 59 (dk_at dksX3_rough_1 17 rfl rfl)
theorem dX3_rough_44 : decode cX3_rough 44 = .ok (.aload_n 0, 1) := dk_42 (dk_at dksX3_rough_1 20 rfl rfl)
theorem dX3_rough_45 : decode cX3_rough 45 = .ok (.getfield 13, 3) := dk_180 0 13 (dk_at dksX3_rough_1 21 rfl rfl)
theorem dX3_rough_48 : decode cX3_rough 48 = .ok (.iload 5, 2) := dk_21 5 (dk_at dksX3_rough_2 0 rfl rfl)
theorem dX3_rough_50 : decode cX3_rough 50 = .ok (.iaload, 1) := dk_46 (dk_at dksX3_rough_2 2 rfl rfl)
theorem dX3_rough_51 : decode cX3_rough 51 = .ok (.istore 6, 2) := dk_54 6 (dk_at dksX3_rough_2 3 rfl rfl)
theorem dX3_rough_53 : decode cX3_rough 53 = .ok (.aload_n 0, 1) := dk_42 (dk_at dksX3_rough_2 5 rfl rfl)
theorem dX3_rough_54 : decode cX3_rough 54 = .ok (.getfield 13, 3) := dk_180 0 13 (dk_at dksX3_rough_2 6 rfl rfl)
theorem dX3_rough_57 : decode cX3_rough 57 = .ok (.iload 5, 2) := dk_21 5 (dk_at dksX3_rough_2 9 rfl rfl)
theorem dX3_rough_59 : decode cX3_rough 59 = .ok (.iload_n 1, 1) := dk_27 (dk_at dksX3_rough_2 11 rfl rfl)
theorem dX3_rough_60 : decode cX3_rough 60 = .ok (.iastore, 1) := dk_79 (dk_at dksX3_rough_2 12 rfl rfl)
theorem dX3_rough_61 : decode cX3_rough 61 = .ok (.aload_n 0, 1) := dk_42 (dk_at dksX3_rough_2 13 rfl rfl)
theorem dX3_rough_62 : decode cX3_rough 62 = .ok (.iload_n 2, 1) := dk_28 (dk_at dksX3_rough_2 14 rfl rfl)
theorem dX3_rough_63 : decode cX3_rough 63 = .ok (.invokevirtual 348, 3) := dk_182 1 92 (dk_at dksX3_rough_2 15 rfl rfl)
theorem dX3_rough_66 : decode cX3_rough 66 = .ok (.istore 7, 2) := dk_54 7 (dk_at dksX3_rough_2 18 rfl rfl)
theorem dX3_rough_68 : decode cX3_rough 68 = .ok (.aload_n 0, 1) := dk_42 (dk_at dksX3_rough_2 20 rfl rfl)
theorem dX3_rough_69 : decode cX3_rough 69 = .ok (.getfield 13, 3) := dk_180 0 13 (dk_at dksX3_rough_2 21 rfl rfl)
theorem dX3_rough_72 : decode cX3_rough 72 = .ok (.iload 5, 2) := dk_21 5 (dk_at dksX3_rough_3 0 rfl rfl)
theorem dX3_rough_74 : decode cX3_rough 74 = .ok (.iload 6, 2) := dk_21 6 (dk_at dksX3_rough_3 2 rfl rfl)
theorem dX3_rough_76 : decode cX3_rough 76 = .ok (.iastore, 1) := dk_79 (dk_at dksX3_rough_3 4 rfl rfl)
theorem dX3_rough_77 : decode cX3_rough 77 = .ok (.iload 7, 2) := dk_21 7 (dk_at dksX3_rough_3 5 rfl rfl)
theorem dX3_rough_79 : decode cX3_rough 79 = .ok (.iload 4, 2) := dk_21 4 (dk_at dksX3_rough_3 7 rfl rfl)
theorem dX3_rough_81 : decode cX3_rough 81 = .ok (.if_icmp .lt 6, 3) := dk_161 0 6 (dk_at dksX3_rough_3 9 rfl rfl)
theorem dX3_rough_84 : decode cX3_rough 84 = .ok (.goto 10, 3) := dk_167 0 10 (dk_at dksX3_rough_3 12 rfl rfl)
theorem dX3_rough_87 : decode cX3_rough 87 = .ok (.iload 5, 2) := dk_21 5 (dk_at dksX3_rough_3 15 rfl rfl)
theorem dX3_rough_89 : decode cX3_rough 89 = .ok (.istore_n 3, 1) := dk_62 (dk_at dksX3_rough_3 17 rfl rfl)
theorem dX3_rough_90 : decode cX3_rough 90 = .ok (.iload 7, 2) := dk_21 7 (dk_at dksX3_rough_3 18 rfl rfl)
theorem dX3_rough_92 : decode cX3_rough 92 = .ok (.istore 4, 2) := dk_54 4 (dk_at dksX3_rough_3 20 rfl rfl)
theorem dX3_rough_94 : decode cX3_rough 94 = .ok (.iinc 5 1, 3) := dk_132 5 1 (dk_at dksX3_rough_4 0 rfl rfl)
theorem dX3_rough_97 : decode cX3_rough 97 = .ok (.goto (-62), 3) := dk_167 255 194 (dk_at dksX3_rough_4 3 rfl rfl)
theorem dX3_rough_100 : decode cX3_rough 100 = .ok (.iload_n 3, 1) := dk_29 (dk_at dksX3_rough_4 6 rfl rfl)
theorem dX3_rough_101 : decode cX3_rough 101 = .ok (.ifCond .ge 6, 3) := dk_156 0 6 (dk_at dksX3_rough_4 7 rfl rfl)
theorem dX3_rough_104 : decode cX3_rough 104 = .ok (.bipush (-2), 2) := dk_16 254 (dk_at dksX3_rough_4 10 rfl rfl)
theorem dX3_rough_106 : decode cX3_rough 106 = .ok (.ireturn, 1) := dk_172 (dk_at dksX3_rough_4 12 rfl rfl)
theorem dX3_rough_107 : decode cX3_rough 107 = .ok (.aload_n 0, 1) := dk_42 (dk_at dksX3_rough_4 13 rfl rfl)
theorem dX3_rough_108 : decode cX3_rough 108 = .ok (.iconst 0, 1) := dk_3 (dk_at dksX3_rough_4 14 rfl rfl)
theorem dX3_rough_109 : decode cX3_rough 109 = .ok (.putfield 91, 3) := dk_181 0 91 (dk_at dksX3_rough_4 15 rfl rfl)
theorem dX3_rough_112 : decode cX3_rough 112 = .ok (.aload_n 0, 1) := dk_42 (dk_at dksX3_rough_4 18 rfl rfl)
theorem dX3_rough_113 : decode cX3_rough 113 = .ok (.iload 4, 2) := dk_21 4 (dk_at dksX3_rough_4 19 rfl rfl)
theorem dX3_rough_115 : decode cX3_rough 115 = .ok (.invokevirtual 230, 3) := dk_182 0 230 (dk_at dksX3_rough_4 21 rfl rfl)
theorem dX3_rough_118 : decode cX3_rough 118 = .ok (.iload_n 3, 1) := dk_29 (dk_at dksX3_rough_5 0 rfl rfl)
theorem dX3_rough_119 : decode cX3_rough 119 = .ok (.ireturn, 1) := dk_172 (dk_at dksX3_rough_5 1 rfl rfl)
abbrev cX3_owedIn : ByteArray := prog_9_method_100_code
def yX3_owedIn : MethodName := ⟨RX3, "owedIn", "(I)I"⟩
def dkwX3_owedIn_0 : List UInt8 := [42, 27, 182, 1, 71, 42, 180, 0, 240, 172]
abbrev dktX3_owedIn_0 : List UInt8 := dkwX3_owedIn_0 ++ []
theorem dksX3_owedIn_0 : cX3_owedIn.data.toList.drop 0 = dktX3_owedIn_0 := by decide +kernel
theorem dX3_owedIn_0 : decode cX3_owedIn 0 = .ok (.aload_n 0, 1) := dk_42 (dk_at dksX3_owedIn_0 0 rfl rfl)
theorem dX3_owedIn_1 : decode cX3_owedIn 1 = .ok (.iload_n 1, 1) := dk_27 (dk_at dksX3_owedIn_0 1 rfl rfl)
theorem dX3_owedIn_2 : decode cX3_owedIn 2 = .ok (.invokevirtual 327, 3) := dk_182 1 71 (dk_at dksX3_owedIn_0 2 rfl rfl)
theorem dX3_owedIn_5 : decode cX3_owedIn 5 = .ok (.aload_n 0, 1) := dk_42 (dk_at dksX3_owedIn_0 5 rfl rfl)
theorem dX3_owedIn_6 : decode cX3_owedIn 6 = .ok (.getfield 240, 3) := dk_180 0 240 (dk_at dksX3_owedIn_0 6 rfl rfl)
theorem dX3_owedIn_9 : decode cX3_owedIn 9 = .ok (.ireturn, 1) := dk_172 (dk_at dksX3_owedIn_0 9 rfl rfl)
abbrev cX3_turned : ByteArray := prog_9_method_103_code
def yX3_turned : MethodName := ⟨RX3, "turned", "(I)I"⟩
def dkwX3_turned_3 : List UInt8 := [167, 255, 210, 28, 156, 0, 6, 16, 254, 172, 42, 3, 181, 0, 91, 42, 29, 182, 0, 230, 28, 172]
abbrev dktX3_turned_3 : List UInt8 := dkwX3_turned_3 ++ []
def dkwX3_turned_2 : List UInt8 := [21, 4, 182, 1, 95, 21, 5, 29, 161, 0, 6, 167, 0, 9, 21, 4, 61, 21, 5, 62, 132, 4, 1]
abbrev dktX3_turned_2 : List UInt8 := dkwX3_turned_2 ++ dktX3_turned_3
def dkwX3_turned_1 : List UInt8 := [21, 4, 42, 180, 0, 94, 162, 0, 43, 42, 21, 4, 182, 1, 95, 42, 27, 182, 1, 92, 54, 5, 42]
abbrev dktX3_turned_1 : List UInt8 := dkwX3_turned_1 ++ dktX3_turned_2
def dkwX3_turned_0 : List UInt8 := [42, 3, 181, 0, 87, 27, 184, 1, 68, 154, 0, 5, 2, 172, 16, 254, 61, 19, 1, 46, 62, 3, 54, 4]
abbrev dktX3_turned_0 : List UInt8 := dkwX3_turned_0 ++ dktX3_turned_1
theorem dksX3_turned_0 : cX3_turned.data.toList.drop 0 = dktX3_turned_0 := by decide +kernel
theorem dksX3_turned_1 : cX3_turned.data.toList.drop 24 = dktX3_turned_1 := dk_seg dksX3_turned_0 24 rfl rfl
theorem dksX3_turned_2 : cX3_turned.data.toList.drop 47 = dktX3_turned_2 := dk_seg dksX3_turned_1 23 rfl rfl
theorem dksX3_turned_3 : cX3_turned.data.toList.drop 70 = dktX3_turned_3 := dk_seg dksX3_turned_2 23 rfl rfl
theorem dX3_turned_0 : decode cX3_turned 0 = .ok (.aload_n 0, 1) := dk_42 (dk_at dksX3_turned_0 0 rfl rfl)
theorem dX3_turned_1 : decode cX3_turned 1 = .ok (.iconst 0, 1) := dk_3 (dk_at dksX3_turned_0 1 rfl rfl)
theorem dX3_turned_2 : decode cX3_turned 2 = .ok (.putfield 87, 3) := dk_181 0 87 (dk_at dksX3_turned_0 2 rfl rfl)
theorem dX3_turned_5 : decode cX3_turned 5 = .ok (.iload_n 1, 1) := dk_27 (dk_at dksX3_turned_0 5 rfl rfl)
theorem dX3_turned_6 : decode cX3_turned 6 = .ok (.invokestatic 324, 3) := dk_184 1 68 (dk_at dksX3_turned_0 6 rfl rfl)
theorem dX3_turned_9 : decode cX3_turned 9 = .ok (.ifCond .ne 5, 3) := dk_154 0 5 (dk_at dksX3_turned_0 9 rfl rfl)
theorem dX3_turned_12 : decode cX3_turned 12 = .ok (.iconst (-1), 1) := dk_2 (dk_at dksX3_turned_0 12 rfl rfl)
theorem dX3_turned_13 : decode cX3_turned 13 = .ok (.ireturn, 1) := dk_172 (dk_at dksX3_turned_0 13 rfl rfl)
theorem dX3_turned_14 : decode cX3_turned 14 = .ok (.bipush (-2), 2) := dk_16 254 (dk_at dksX3_turned_0 14 rfl rfl)
theorem dX3_turned_16 : decode cX3_turned 16 = .ok (.istore_n 2, 1) := dk_61 (dk_at dksX3_turned_0 16 rfl rfl)
theorem dX3_turned_17 : decode cX3_turned 17 = .ok (.ldc_w 302, 3) := dk_19 1 46 (dk_at dksX3_turned_0 17 rfl rfl)
theorem dX3_turned_20 : decode cX3_turned 20 = .ok (.istore_n 3, 1) := dk_62 (dk_at dksX3_turned_0 20 rfl rfl)
theorem dX3_turned_21 : decode cX3_turned 21 = .ok (.iconst 0, 1) := dk_3 (dk_at dksX3_turned_0 21 rfl rfl)
theorem dX3_turned_22 : decode cX3_turned 22 = .ok (.istore 4, 2) := dk_54 4 (dk_at dksX3_turned_0 22 rfl rfl)
theorem dX3_turned_24 : decode cX3_turned 24 = .ok (.iload 4, 2) := dk_21 4 (dk_at dksX3_turned_1 0 rfl rfl)
theorem dX3_turned_26 : decode cX3_turned 26 = .ok (.aload_n 0, 1) := dk_42 (dk_at dksX3_turned_1 2 rfl rfl)
theorem dX3_turned_27 : decode cX3_turned 27 = .ok (.getfield 94, 3) := dk_180 0 94 (dk_at dksX3_turned_1 3 rfl rfl)
theorem dX3_turned_30 : decode cX3_turned 30 = .ok (.if_icmp .ge 43, 3) := dk_162 0 43 (dk_at dksX3_turned_1 6 rfl rfl)
theorem dX3_turned_33 : decode cX3_turned 33 = .ok (.aload_n 0, 1) := dk_42 (dk_at dksX3_turned_1 9 rfl rfl)
theorem dX3_turned_34 : decode cX3_turned 34 = .ok (.iload 4, 2) := dk_21 4 (dk_at dksX3_turned_1 10 rfl rfl)
theorem dX3_turned_36 : decode cX3_turned 36 = .ok (.invokevirtual 351, 3) := dk_182 1 95 (dk_at dksX3_turned_1 12 rfl rfl)
theorem dX3_turned_39 : decode cX3_turned 39 = .ok (.aload_n 0, 1) := dk_42 (dk_at dksX3_turned_1 15 rfl rfl)
theorem dX3_turned_40 : decode cX3_turned 40 = .ok (.iload_n 1, 1) := dk_27 (dk_at dksX3_turned_1 16 rfl rfl)
theorem dX3_turned_41 : decode cX3_turned 41 = .ok (.invokevirtual 348, 3) := dk_182 1 92 (dk_at dksX3_turned_1 17 rfl rfl)
theorem dX3_turned_44 : decode cX3_turned 44 = .ok (.istore 5, 2) := dk_54 5 (dk_at dksX3_turned_1 20 rfl rfl)
theorem dX3_turned_46 : decode cX3_turned 46 = .ok (.aload_n 0, 1) := dk_42 (dk_at dksX3_turned_1 22 rfl rfl)
theorem dX3_turned_47 : decode cX3_turned 47 = .ok (.iload 4, 2) := dk_21 4 (dk_at dksX3_turned_2 0 rfl rfl)
theorem dX3_turned_49 : decode cX3_turned 49 = .ok (.invokevirtual 351, 3) := dk_182 1 95 (dk_at dksX3_turned_2 2 rfl rfl)
theorem dX3_turned_52 : decode cX3_turned 52 = .ok (.iload 5, 2) := dk_21 5 (dk_at dksX3_turned_2 5 rfl rfl)
theorem dX3_turned_54 : decode cX3_turned 54 = .ok (.iload_n 3, 1) := dk_29 (dk_at dksX3_turned_2 7 rfl rfl)
theorem dX3_turned_55 : decode cX3_turned 55 = .ok (.if_icmp .lt 6, 3) := dk_161 0 6 (dk_at dksX3_turned_2 8 rfl rfl)
theorem dX3_turned_58 : decode cX3_turned 58 = .ok (.goto 9, 3) := dk_167 0 9 (dk_at dksX3_turned_2 11 rfl rfl)
theorem dX3_turned_61 : decode cX3_turned 61 = .ok (.iload 4, 2) := dk_21 4 (dk_at dksX3_turned_2 14 rfl rfl)
theorem dX3_turned_63 : decode cX3_turned 63 = .ok (.istore_n 2, 1) := dk_61 (dk_at dksX3_turned_2 16 rfl rfl)
theorem dX3_turned_64 : decode cX3_turned 64 = .ok (.iload 5, 2) := dk_21 5 (dk_at dksX3_turned_2 17 rfl rfl)
theorem dX3_turned_66 : decode cX3_turned 66 = .ok (.istore_n 3, 1) := dk_62 (dk_at dksX3_turned_2 19 rfl rfl)
theorem dX3_turned_67 : decode cX3_turned 67 = .ok (.iinc 4 1, 3) := dk_132 4 1 (dk_at dksX3_turned_2 20 rfl rfl)
theorem dX3_turned_70 : decode cX3_turned 70 = .ok (.goto (-46), 3) := dk_167 255 210 (dk_at dksX3_turned_3 0 rfl rfl)
theorem dX3_turned_73 : decode cX3_turned 73 = .ok (.iload_n 2, 1) := dk_28 (dk_at dksX3_turned_3 3 rfl rfl)
theorem dX3_turned_74 : decode cX3_turned 74 = .ok (.ifCond .ge 6, 3) := dk_156 0 6 (dk_at dksX3_turned_3 4 rfl rfl)
theorem dX3_turned_77 : decode cX3_turned 77 = .ok (.bipush (-2), 2) := dk_16 254 (dk_at dksX3_turned_3 7 rfl rfl)
theorem dX3_turned_79 : decode cX3_turned 79 = .ok (.ireturn, 1) := dk_172 (dk_at dksX3_turned_3 9 rfl rfl)
theorem dX3_turned_80 : decode cX3_turned 80 = .ok (.aload_n 0, 1) := dk_42 (dk_at dksX3_turned_3 10 rfl rfl)
theorem dX3_turned_81 : decode cX3_turned 81 = .ok (.iconst 0, 1) := dk_3 (dk_at dksX3_turned_3 11 rfl rfl)
theorem dX3_turned_82 : decode cX3_turned 82 = .ok (.putfield 91, 3) := dk_181 0 91 (dk_at dksX3_turned_3 12 rfl rfl)
theorem dX3_turned_85 : decode cX3_turned 85 = .ok (.aload_n 0, 1) := dk_42 (dk_at dksX3_turned_3 15 rfl rfl)
theorem dX3_turned_86 : decode cX3_turned 86 = .ok (.iload_n 3, 1) := dk_29 (dk_at dksX3_turned_3 16 rfl rfl)
theorem dX3_turned_87 : decode cX3_turned 87 = .ok (.invokevirtual 230, 3) := dk_182 0 230 (dk_at dksX3_turned_3 17 rfl rfl)
theorem dX3_turned_90 : decode cX3_turned 90 = .ok (.iload_n 2, 1) := dk_28 (dk_at dksX3_turned_3 20 rfl rfl)
theorem dX3_turned_91 : decode cX3_turned 91 = .ok (.ireturn, 1) := dk_172 (dk_at dksX3_turned_3 21 rfl rfl)
abbrev cX3_turn : ByteArray := prog_9_method_102_code
def yX3_turn : MethodName := ⟨RX3, "turn", "(I)V"⟩
def dkwX3_turn_1 : List UInt8 := [96, 46, 79, 42, 180, 0, 16, 5, 27, 104, 4, 96, 28, 79, 177]
abbrev dktX3_turn_1 : List UInt8 := dkwX3_turn_1 ++ []
def dkwX3_turn_0 : List UInt8 := [42, 180, 0, 16, 5, 27, 104, 46, 61, 42, 180, 0, 16, 5, 27, 104, 42, 180, 0, 16, 5, 27, 104, 4]
abbrev dktX3_turn_0 : List UInt8 := dkwX3_turn_0 ++ dktX3_turn_1
theorem dksX3_turn_0 : cX3_turn.data.toList.drop 0 = dktX3_turn_0 := by decide +kernel
theorem dksX3_turn_1 : cX3_turn.data.toList.drop 24 = dktX3_turn_1 := dk_seg dksX3_turn_0 24 rfl rfl
theorem dX3_turn_0 : decode cX3_turn 0 = .ok (.aload_n 0, 1) := dk_42 (dk_at dksX3_turn_0 0 rfl rfl)
theorem dX3_turn_1 : decode cX3_turn 1 = .ok (.getfield 16, 3) := dk_180 0 16 (dk_at dksX3_turn_0 1 rfl rfl)
theorem dX3_turn_4 : decode cX3_turn 4 = .ok (.iconst 2, 1) := dk_5 (dk_at dksX3_turn_0 4 rfl rfl)
theorem dX3_turn_5 : decode cX3_turn 5 = .ok (.iload_n 1, 1) := dk_27 (dk_at dksX3_turn_0 5 rfl rfl)
theorem dX3_turn_6 : decode cX3_turn 6 = .ok (.imul, 1) := dk_104 (dk_at dksX3_turn_0 6 rfl rfl)
theorem dX3_turn_7 : decode cX3_turn 7 = .ok (.iaload, 1) := dk_46 (dk_at dksX3_turn_0 7 rfl rfl)
theorem dX3_turn_8 : decode cX3_turn 8 = .ok (.istore_n 2, 1) := dk_61 (dk_at dksX3_turn_0 8 rfl rfl)
theorem dX3_turn_9 : decode cX3_turn 9 = .ok (.aload_n 0, 1) := dk_42 (dk_at dksX3_turn_0 9 rfl rfl)
theorem dX3_turn_10 : decode cX3_turn 10 = .ok (.getfield 16, 3) := dk_180 0 16 (dk_at dksX3_turn_0 10 rfl rfl)
theorem dX3_turn_13 : decode cX3_turn 13 = .ok (.iconst 2, 1) := dk_5 (dk_at dksX3_turn_0 13 rfl rfl)
theorem dX3_turn_14 : decode cX3_turn 14 = .ok (.iload_n 1, 1) := dk_27 (dk_at dksX3_turn_0 14 rfl rfl)
theorem dX3_turn_15 : decode cX3_turn 15 = .ok (.imul, 1) := dk_104 (dk_at dksX3_turn_0 15 rfl rfl)
theorem dX3_turn_16 : decode cX3_turn 16 = .ok (.aload_n 0, 1) := dk_42 (dk_at dksX3_turn_0 16 rfl rfl)
theorem dX3_turn_17 : decode cX3_turn 17 = .ok (.getfield 16, 3) := dk_180 0 16 (dk_at dksX3_turn_0 17 rfl rfl)
theorem dX3_turn_20 : decode cX3_turn 20 = .ok (.iconst 2, 1) := dk_5 (dk_at dksX3_turn_0 20 rfl rfl)
theorem dX3_turn_21 : decode cX3_turn 21 = .ok (.iload_n 1, 1) := dk_27 (dk_at dksX3_turn_0 21 rfl rfl)
theorem dX3_turn_22 : decode cX3_turn 22 = .ok (.imul, 1) := dk_104 (dk_at dksX3_turn_0 22 rfl rfl)
theorem dX3_turn_23 : decode cX3_turn 23 = .ok (.iconst 1, 1) := dk_4 (dk_at dksX3_turn_0 23 rfl rfl)
theorem dX3_turn_24 : decode cX3_turn 24 = .ok (.iadd, 1) := dk_96 (dk_at dksX3_turn_1 0 rfl rfl)
theorem dX3_turn_25 : decode cX3_turn 25 = .ok (.iaload, 1) := dk_46 (dk_at dksX3_turn_1 1 rfl rfl)
theorem dX3_turn_26 : decode cX3_turn 26 = .ok (.iastore, 1) := dk_79 (dk_at dksX3_turn_1 2 rfl rfl)
theorem dX3_turn_27 : decode cX3_turn 27 = .ok (.aload_n 0, 1) := dk_42 (dk_at dksX3_turn_1 3 rfl rfl)
theorem dX3_turn_28 : decode cX3_turn 28 = .ok (.getfield 16, 3) := dk_180 0 16 (dk_at dksX3_turn_1 4 rfl rfl)
theorem dX3_turn_31 : decode cX3_turn 31 = .ok (.iconst 2, 1) := dk_5 (dk_at dksX3_turn_1 7 rfl rfl)
theorem dX3_turn_32 : decode cX3_turn 32 = .ok (.iload_n 1, 1) := dk_27 (dk_at dksX3_turn_1 8 rfl rfl)
theorem dX3_turn_33 : decode cX3_turn 33 = .ok (.imul, 1) := dk_104 (dk_at dksX3_turn_1 9 rfl rfl)
theorem dX3_turn_34 : decode cX3_turn 34 = .ok (.iconst 1, 1) := dk_4 (dk_at dksX3_turn_1 10 rfl rfl)
theorem dX3_turn_35 : decode cX3_turn 35 = .ok (.iadd, 1) := dk_96 (dk_at dksX3_turn_1 11 rfl rfl)
theorem dX3_turn_36 : decode cX3_turn 36 = .ok (.iload_n 2, 1) := dk_28 (dk_at dksX3_turn_1 12 rfl rfl)
theorem dX3_turn_37 : decode cX3_turn 37 = .ok (.iastore, 1) := dk_79 (dk_at dksX3_turn_1 13 rfl rfl)
theorem dX3_turn_38 : decode cX3_turn 38 = .ok (.return_, 1) := dk_177 (dk_at dksX3_turn_1 14 rfl rfl)
abbrev cX3_needs : ByteArray := prog_9_method_104_code
def yX3_needs : MethodName := ⟨RX3, "needs", "(II)I"⟩
def dkwX3_needs_3 : List UInt8 := [154, 0, 7, 21, 5, 54, 4, 132, 5, 1, 167, 255, 215, 42, 180, 0, 13, 27, 29, 79, 21, 4, 172]
abbrev dktX3_needs_3 : List UInt8 := dkwX3_needs_3 ++ []
def dkwX3_needs_2 : List UInt8 := [156, 0, 35, 42, 180, 0, 13, 27, 21, 5, 79, 42, 28, 182, 1, 71, 42, 180, 0, 38, 27, 46]
abbrev dktX3_needs_2 : List UInt8 := dkwX3_needs_2 ++ dktX3_needs_3
def dkwX3_needs_1 : List UInt8 := [180, 0, 13, 27, 46, 62, 16, 254, 54, 4, 4, 54, 5, 21, 5, 16, 99, 163, 0, 40, 21, 4]
abbrev dktX3_needs_1 : List UInt8 := dkwX3_needs_1 ++ dktX3_needs_2
def dkwX3_needs_0 : List UInt8 := [42, 3, 181, 0, 87, 42, 27, 182, 0, 101, 153, 0, 10, 28, 184, 1, 68, 154, 0, 5, 2, 172, 42]
abbrev dktX3_needs_0 : List UInt8 := dkwX3_needs_0 ++ dktX3_needs_1
theorem dksX3_needs_0 : cX3_needs.data.toList.drop 0 = dktX3_needs_0 := by decide +kernel
theorem dksX3_needs_1 : cX3_needs.data.toList.drop 23 = dktX3_needs_1 := dk_seg dksX3_needs_0 23 rfl rfl
theorem dksX3_needs_2 : cX3_needs.data.toList.drop 45 = dktX3_needs_2 := dk_seg dksX3_needs_1 22 rfl rfl
theorem dksX3_needs_3 : cX3_needs.data.toList.drop 67 = dktX3_needs_3 := dk_seg dksX3_needs_2 22 rfl rfl
theorem dX3_needs_0 : decode cX3_needs 0 = .ok (.aload_n 0, 1) := dk_42 (dk_at dksX3_needs_0 0 rfl rfl)
theorem dX3_needs_1 : decode cX3_needs 1 = .ok (.iconst 0, 1) := dk_3 (dk_at dksX3_needs_0 1 rfl rfl)
theorem dX3_needs_2 : decode cX3_needs 2 = .ok (.putfield 87, 3) := dk_181 0 87 (dk_at dksX3_needs_0 2 rfl rfl)
theorem dX3_needs_5 : decode cX3_needs 5 = .ok (.aload_n 0, 1) := dk_42 (dk_at dksX3_needs_0 5 rfl rfl)
theorem dX3_needs_6 : decode cX3_needs 6 = .ok (.iload_n 1, 1) := dk_27 (dk_at dksX3_needs_0 6 rfl rfl)
theorem dX3_needs_7 : decode cX3_needs 7 = .ok (.invokevirtual 101, 3) := dk_182 0 101 (dk_at dksX3_needs_0 7 rfl rfl)
theorem dX3_needs_10 : decode cX3_needs 10 = .ok (.ifCond .eq 10, 3) := dk_153 0 10 (dk_at dksX3_needs_0 10 rfl rfl)
theorem dX3_needs_13 : decode cX3_needs 13 = .ok (.iload_n 2, 1) := dk_28 (dk_at dksX3_needs_0 13 rfl rfl)
theorem dX3_needs_14 : decode cX3_needs 14 = .ok (.invokestatic 324, 3) := dk_184 1 68 (dk_at dksX3_needs_0 14 rfl rfl)
theorem dX3_needs_17 : decode cX3_needs 17 = .ok (.ifCond .ne 5, 3) := dk_154 0 5 (dk_at dksX3_needs_0 17 rfl rfl)
theorem dX3_needs_20 : decode cX3_needs 20 = .ok (.iconst (-1), 1) := dk_2 (dk_at dksX3_needs_0 20 rfl rfl)
theorem dX3_needs_21 : decode cX3_needs 21 = .ok (.ireturn, 1) := dk_172 (dk_at dksX3_needs_0 21 rfl rfl)
theorem dX3_needs_22 : decode cX3_needs 22 = .ok (.aload_n 0, 1) := dk_42 (dk_at dksX3_needs_0 22 rfl rfl)
theorem dX3_needs_23 : decode cX3_needs 23 = .ok (.getfield 13, 3) := dk_180 0 13 (dk_at dksX3_needs_1 0 rfl rfl)
theorem dX3_needs_26 : decode cX3_needs 26 = .ok (.iload_n 1, 1) := dk_27 (dk_at dksX3_needs_1 3 rfl rfl)
theorem dX3_needs_27 : decode cX3_needs 27 = .ok (.iaload, 1) := dk_46 (dk_at dksX3_needs_1 4 rfl rfl)
theorem dX3_needs_28 : decode cX3_needs 28 = .ok (.istore_n 3, 1) := dk_62 (dk_at dksX3_needs_1 5 rfl rfl)
theorem dX3_needs_29 : decode cX3_needs 29 = .ok (.bipush (-2), 2) := dk_16 254 (dk_at dksX3_needs_1 6 rfl rfl)
theorem dX3_needs_31 : decode cX3_needs 31 = .ok (.istore 4, 2) := dk_54 4 (dk_at dksX3_needs_1 8 rfl rfl)
theorem dX3_needs_33 : decode cX3_needs 33 = .ok (.iconst 1, 1) := dk_4 (dk_at dksX3_needs_1 10 rfl rfl)
theorem dX3_needs_34 : decode cX3_needs 34 = .ok (.istore 5, 2) := dk_54 5 (dk_at dksX3_needs_1 11 rfl rfl)
theorem dX3_needs_36 : decode cX3_needs 36 = .ok (.iload 5, 2) := dk_21 5 (dk_at dksX3_needs_1 13 rfl rfl)
theorem dX3_needs_38 : decode cX3_needs 38 = .ok (.bipush 99, 2) := dk_16 99 (dk_at dksX3_needs_1 15 rfl rfl)
theorem dX3_needs_40 : decode cX3_needs 40 = .ok (.if_icmp .gt 40, 3) := dk_163 0 40 (dk_at dksX3_needs_1 17 rfl rfl)
theorem dX3_needs_43 : decode cX3_needs 43 = .ok (.iload 4, 2) := dk_21 4 (dk_at dksX3_needs_1 20 rfl rfl)
theorem dX3_needs_45 : decode cX3_needs 45 = .ok (.ifCond .ge 35, 3) := dk_156 0 35 (dk_at dksX3_needs_2 0 rfl rfl)
theorem dX3_needs_48 : decode cX3_needs 48 = .ok (.aload_n 0, 1) := dk_42 (dk_at dksX3_needs_2 3 rfl rfl)
theorem dX3_needs_49 : decode cX3_needs 49 = .ok (.getfield 13, 3) := dk_180 0 13 (dk_at dksX3_needs_2 4 rfl rfl)
theorem dX3_needs_52 : decode cX3_needs 52 = .ok (.iload_n 1, 1) := dk_27 (dk_at dksX3_needs_2 7 rfl rfl)
theorem dX3_needs_53 : decode cX3_needs 53 = .ok (.iload 5, 2) := dk_21 5 (dk_at dksX3_needs_2 8 rfl rfl)
theorem dX3_needs_55 : decode cX3_needs 55 = .ok (.iastore, 1) := dk_79 (dk_at dksX3_needs_2 10 rfl rfl)
theorem dX3_needs_56 : decode cX3_needs 56 = .ok (.aload_n 0, 1) := dk_42 (dk_at dksX3_needs_2 11 rfl rfl)
theorem dX3_needs_57 : decode cX3_needs 57 = .ok (.iload_n 2, 1) := dk_28 (dk_at dksX3_needs_2 12 rfl rfl)
theorem dX3_needs_58 : decode cX3_needs 58 = .ok (.invokevirtual 327, 3) := dk_182 1 71 (dk_at dksX3_needs_2 13 rfl rfl)
theorem dX3_needs_61 : decode cX3_needs 61 = .ok (.aload_n 0, 1) := dk_42 (dk_at dksX3_needs_2 16 rfl rfl)
theorem dX3_needs_62 : decode cX3_needs 62 = .ok (.getfield 38, 3) := dk_180 0 38 (dk_at dksX3_needs_2 17 rfl rfl)
theorem dX3_needs_65 : decode cX3_needs 65 = .ok (.iload_n 1, 1) := dk_27 (dk_at dksX3_needs_2 20 rfl rfl)
theorem dX3_needs_66 : decode cX3_needs 66 = .ok (.iaload, 1) := dk_46 (dk_at dksX3_needs_2 21 rfl rfl)
theorem dX3_needs_67 : decode cX3_needs 67 = .ok (.ifCond .ne 7, 3) := dk_154 0 7 (dk_at dksX3_needs_3 0 rfl rfl)
theorem dX3_needs_70 : decode cX3_needs 70 = .ok (.iload 5, 2) := dk_21 5 (dk_at dksX3_needs_3 3 rfl rfl)
theorem dX3_needs_72 : decode cX3_needs 72 = .ok (.istore 4, 2) := dk_54 4 (dk_at dksX3_needs_3 5 rfl rfl)
theorem dX3_needs_74 : decode cX3_needs 74 = .ok (.iinc 5 1, 3) := dk_132 5 1 (dk_at dksX3_needs_3 7 rfl rfl)
theorem dX3_needs_77 : decode cX3_needs 77 = .ok (.goto (-41), 3) := dk_167 255 215 (dk_at dksX3_needs_3 10 rfl rfl)
theorem dX3_needs_80 : decode cX3_needs 80 = .ok (.aload_n 0, 1) := dk_42 (dk_at dksX3_needs_3 13 rfl rfl)
theorem dX3_needs_81 : decode cX3_needs 81 = .ok (.getfield 13, 3) := dk_180 0 13 (dk_at dksX3_needs_3 14 rfl rfl)
theorem dX3_needs_84 : decode cX3_needs 84 = .ok (.iload_n 1, 1) := dk_27 (dk_at dksX3_needs_3 17 rfl rfl)
theorem dX3_needs_85 : decode cX3_needs 85 = .ok (.iload_n 3, 1) := dk_29 (dk_at dksX3_needs_3 18 rfl rfl)
theorem dX3_needs_86 : decode cX3_needs 86 = .ok (.iastore, 1) := dk_79 (dk_at dksX3_needs_3 19 rfl rfl)
theorem dX3_needs_87 : decode cX3_needs 87 = .ok (.iload 4, 2) := dk_21 4 (dk_at dksX3_needs_3 20 rfl rfl)
theorem dX3_needs_89 : decode cX3_needs 89 = .ok (.ireturn, 1) := dk_172 (dk_at dksX3_needs_3 22 rfl rfl)
abbrev cX3_premium : ByteArray := prog_9_method_105_code
def yX3_premium : MethodName := ⟨RX3, "premium", "(I)I"⟩
def dkwX3_premium_5 : List UInt8 := [46, 100, 172]
abbrev dktX3_premium_5 : List UInt8 := dkwX3_premium_5 ++ []
def dkwX3_premium_4 : List UInt8 := [162, 0, 7, 4, 167, 0, 4, 3, 96, 182, 0, 230, 132, 3, 1, 167, 255, 213, 28, 42, 180, 0, 29, 3]
abbrev dktX3_premium_4 : List UInt8 := dkwX3_premium_4 ++ dktX3_premium_5
def dkwX3_premium_3 : List UInt8 := [162, 0, 41, 42, 42, 180, 0, 240, 42, 180, 0, 94, 108, 29, 42, 180, 0, 240, 42, 180, 0, 94, 112]
abbrev dktX3_premium_3 : List UInt8 := dkwX3_premium_3 ++ dktX3_premium_4
def dkwX3_premium_2 : List UInt8 := [184, 0, 165, 61, 132, 3, 1, 167, 255, 234, 42, 3, 181, 0, 91, 3, 62, 29, 42, 180, 0, 94]
abbrev dktX3_premium_2 : List UInt8 := dkwX3_premium_2 ++ dktX3_premium_3
def dkwX3_premium_1 : List UInt8 := [42, 27, 182, 1, 71, 3, 61, 3, 62, 29, 42, 180, 0, 94, 162, 0, 20, 28, 42, 180, 0, 38, 29, 46]
abbrev dktX3_premium_1 : List UInt8 := dkwX3_premium_1 ++ dktX3_premium_2
def dkwX3_premium_0 : List UInt8 := [42, 3, 181, 0, 87, 42, 180, 0, 94, 153, 0, 10, 27, 184, 1, 68, 154, 0, 8, 42, 182, 0, 214, 172]
abbrev dktX3_premium_0 : List UInt8 := dkwX3_premium_0 ++ dktX3_premium_1
theorem dksX3_premium_0 : cX3_premium.data.toList.drop 0 = dktX3_premium_0 := by decide +kernel
theorem dksX3_premium_1 : cX3_premium.data.toList.drop 24 = dktX3_premium_1 := dk_seg dksX3_premium_0 24 rfl rfl
theorem dksX3_premium_2 : cX3_premium.data.toList.drop 48 = dktX3_premium_2 := dk_seg dksX3_premium_1 24 rfl rfl
theorem dksX3_premium_3 : cX3_premium.data.toList.drop 70 = dktX3_premium_3 := dk_seg dksX3_premium_2 22 rfl rfl
theorem dksX3_premium_4 : cX3_premium.data.toList.drop 93 = dktX3_premium_4 := dk_seg dksX3_premium_3 23 rfl rfl
theorem dksX3_premium_5 : cX3_premium.data.toList.drop 117 = dktX3_premium_5 := dk_seg dksX3_premium_4 24 rfl rfl
theorem dX3_premium_0 : decode cX3_premium 0 = .ok (.aload_n 0, 1) := dk_42 (dk_at dksX3_premium_0 0 rfl rfl)
theorem dX3_premium_1 : decode cX3_premium 1 = .ok (.iconst 0, 1) := dk_3 (dk_at dksX3_premium_0 1 rfl rfl)
theorem dX3_premium_2 : decode cX3_premium 2 = .ok (.putfield 87, 3) := dk_181 0 87 (dk_at dksX3_premium_0 2 rfl rfl)
theorem dX3_premium_5 : decode cX3_premium 5 = .ok (.aload_n 0, 1) := dk_42 (dk_at dksX3_premium_0 5 rfl rfl)
theorem dX3_premium_6 : decode cX3_premium 6 = .ok (.getfield 94, 3) := dk_180 0 94 (dk_at dksX3_premium_0 6 rfl rfl)
theorem dX3_premium_9 : decode cX3_premium 9 = .ok (.ifCond .eq 10, 3) := dk_153 0 10 (dk_at dksX3_premium_0 9 rfl rfl)
theorem dX3_premium_12 : decode cX3_premium 12 = .ok (.iload_n 1, 1) := dk_27 (dk_at dksX3_premium_0 12 rfl rfl)
theorem dX3_premium_13 : decode cX3_premium 13 = .ok (.invokestatic 324, 3) := dk_184 1 68 (dk_at dksX3_premium_0 13 rfl rfl)
theorem dX3_premium_16 : decode cX3_premium 16 = .ok (.ifCond .ne 8, 3) := dk_154 0 8 (dk_at dksX3_premium_0 16 rfl rfl)
theorem dX3_premium_19 : decode cX3_premium 19 = .ok (.aload_n 0, 1) := dk_42 (dk_at dksX3_premium_0 19 rfl rfl)
theorem dX3_premium_20 : decode cX3_premium 20 = .ok (.invokevirtual 214, 3) := dk_182 0 214 (dk_at dksX3_premium_0 20 rfl rfl)
theorem dX3_premium_23 : decode cX3_premium 23 = .ok (.ireturn, 1) := dk_172 (dk_at dksX3_premium_0 23 rfl rfl)
theorem dX3_premium_24 : decode cX3_premium 24 = .ok (.aload_n 0, 1) := dk_42 (dk_at dksX3_premium_1 0 rfl rfl)
theorem dX3_premium_25 : decode cX3_premium 25 = .ok (.iload_n 1, 1) := dk_27 (dk_at dksX3_premium_1 1 rfl rfl)
theorem dX3_premium_26 : decode cX3_premium 26 = .ok (.invokevirtual 327, 3) := dk_182 1 71 (dk_at dksX3_premium_1 2 rfl rfl)
theorem dX3_premium_29 : decode cX3_premium 29 = .ok (.iconst 0, 1) := dk_3 (dk_at dksX3_premium_1 5 rfl rfl)
theorem dX3_premium_30 : decode cX3_premium 30 = .ok (.istore_n 2, 1) := dk_61 (dk_at dksX3_premium_1 6 rfl rfl)
theorem dX3_premium_31 : decode cX3_premium 31 = .ok (.iconst 0, 1) := dk_3 (dk_at dksX3_premium_1 7 rfl rfl)
theorem dX3_premium_32 : decode cX3_premium 32 = .ok (.istore_n 3, 1) := dk_62 (dk_at dksX3_premium_1 8 rfl rfl)
theorem dX3_premium_33 : decode cX3_premium 33 = .ok (.iload_n 3, 1) := dk_29 (dk_at dksX3_premium_1 9 rfl rfl)
theorem dX3_premium_34 : decode cX3_premium 34 = .ok (.aload_n 0, 1) := dk_42 (dk_at dksX3_premium_1 10 rfl rfl)
theorem dX3_premium_35 : decode cX3_premium 35 = .ok (.getfield 94, 3) := dk_180 0 94 (dk_at dksX3_premium_1 11 rfl rfl)
theorem dX3_premium_38 : decode cX3_premium 38 = .ok (.if_icmp .ge 20, 3) := dk_162 0 20 (dk_at dksX3_premium_1 14 rfl rfl)
theorem dX3_premium_41 : decode cX3_premium 41 = .ok (.iload_n 2, 1) := dk_28 (dk_at dksX3_premium_1 17 rfl rfl)
theorem dX3_premium_42 : decode cX3_premium 42 = .ok (.aload_n 0, 1) := dk_42 (dk_at dksX3_premium_1 18 rfl rfl)
theorem dX3_premium_43 : decode cX3_premium 43 = .ok (.getfield 38, 3) := dk_180 0 38 (dk_at dksX3_premium_1 19 rfl rfl)
theorem dX3_premium_46 : decode cX3_premium 46 = .ok (.iload_n 3, 1) := dk_29 (dk_at dksX3_premium_1 22 rfl rfl)
theorem dX3_premium_47 : decode cX3_premium 47 = .ok (.iaload, 1) := dk_46 (dk_at dksX3_premium_1 23 rfl rfl)
theorem dX3_premium_48 : decode cX3_premium 48 = .ok (.invokestatic 165, 3) := dk_184 0 165 (dk_at dksX3_premium_2 0 rfl rfl)
theorem dX3_premium_51 : decode cX3_premium 51 = .ok (.istore_n 2, 1) := dk_61 (dk_at dksX3_premium_2 3 rfl rfl)
theorem dX3_premium_52 : decode cX3_premium 52 = .ok (.iinc 3 1, 3) := dk_132 3 1 (dk_at dksX3_premium_2 4 rfl rfl)
theorem dX3_premium_55 : decode cX3_premium 55 = .ok (.goto (-22), 3) := dk_167 255 234 (dk_at dksX3_premium_2 7 rfl rfl)
theorem dX3_premium_58 : decode cX3_premium 58 = .ok (.aload_n 0, 1) := dk_42 (dk_at dksX3_premium_2 10 rfl rfl)
theorem dX3_premium_59 : decode cX3_premium 59 = .ok (.iconst 0, 1) := dk_3 (dk_at dksX3_premium_2 11 rfl rfl)
theorem dX3_premium_60 : decode cX3_premium 60 = .ok (.putfield 91, 3) := dk_181 0 91 (dk_at dksX3_premium_2 12 rfl rfl)
theorem dX3_premium_63 : decode cX3_premium 63 = .ok (.iconst 0, 1) := dk_3 (dk_at dksX3_premium_2 15 rfl rfl)
theorem dX3_premium_64 : decode cX3_premium 64 = .ok (.istore_n 3, 1) := dk_62 (dk_at dksX3_premium_2 16 rfl rfl)
theorem dX3_premium_65 : decode cX3_premium 65 = .ok (.iload_n 3, 1) := dk_29 (dk_at dksX3_premium_2 17 rfl rfl)
theorem dX3_premium_66 : decode cX3_premium 66 = .ok (.aload_n 0, 1) := dk_42 (dk_at dksX3_premium_2 18 rfl rfl)
theorem dX3_premium_67 : decode cX3_premium 67 = .ok (.getfield 94, 3) := dk_180 0 94 (dk_at dksX3_premium_2 19 rfl rfl)
theorem dX3_premium_70 : decode cX3_premium 70 = .ok (.if_icmp .ge 41, 3) := dk_162 0 41 (dk_at dksX3_premium_3 0 rfl rfl)
theorem dX3_premium_73 : decode cX3_premium 73 = .ok (.aload_n 0, 1) := dk_42 (dk_at dksX3_premium_3 3 rfl rfl)
theorem dX3_premium_74 : decode cX3_premium 74 = .ok (.aload_n 0, 1) := dk_42 (dk_at dksX3_premium_3 4 rfl rfl)
theorem dX3_premium_75 : decode cX3_premium 75 = .ok (.getfield 240, 3) := dk_180 0 240 (dk_at dksX3_premium_3 5 rfl rfl)
theorem dX3_premium_78 : decode cX3_premium 78 = .ok (.aload_n 0, 1) := dk_42 (dk_at dksX3_premium_3 8 rfl rfl)
theorem dX3_premium_79 : decode cX3_premium 79 = .ok (.getfield 94, 3) := dk_180 0 94 (dk_at dksX3_premium_3 9 rfl rfl)
theorem dX3_premium_82 : decode cX3_premium 82 = .ok (.idiv, 1) := dk_108 (dk_at dksX3_premium_3 12 rfl rfl)
theorem dX3_premium_83 : decode cX3_premium 83 = .ok (.iload_n 3, 1) := dk_29 (dk_at dksX3_premium_3 13 rfl rfl)
theorem dX3_premium_84 : decode cX3_premium 84 = .ok (.aload_n 0, 1) := dk_42 (dk_at dksX3_premium_3 14 rfl rfl)
theorem dX3_premium_85 : decode cX3_premium 85 = .ok (.getfield 240, 3) := dk_180 0 240 (dk_at dksX3_premium_3 15 rfl rfl)
theorem dX3_premium_88 : decode cX3_premium 88 = .ok (.aload_n 0, 1) := dk_42 (dk_at dksX3_premium_3 18 rfl rfl)
theorem dX3_premium_89 : decode cX3_premium 89 = .ok (.getfield 94, 3) := dk_180 0 94 (dk_at dksX3_premium_3 19 rfl rfl)
theorem dX3_premium_92 : decode cX3_premium 92 = .ok (.irem, 1) := dk_112 (dk_at dksX3_premium_3 22 rfl rfl)
theorem dX3_premium_93 : decode cX3_premium 93 = .ok (.if_icmp .ge 7, 3) := dk_162 0 7 (dk_at dksX3_premium_4 0 rfl rfl)
theorem dX3_premium_96 : decode cX3_premium 96 = .ok (.iconst 1, 1) := dk_4 (dk_at dksX3_premium_4 3 rfl rfl)
theorem dX3_premium_97 : decode cX3_premium 97 = .ok (.goto 4, 3) := dk_167 0 4 (dk_at dksX3_premium_4 4 rfl rfl)
theorem dX3_premium_100 : decode cX3_premium 100 = .ok (.iconst 0, 1) := dk_3 (dk_at dksX3_premium_4 7 rfl rfl)
theorem dX3_premium_101 : decode cX3_premium 101 = .ok (.iadd, 1) := dk_96 (dk_at dksX3_premium_4 8 rfl rfl)
theorem dX3_premium_102 : decode cX3_premium 102 = .ok (.invokevirtual 230, 3) := dk_182 0 230 (dk_at dksX3_premium_4 9 rfl rfl)
theorem dX3_premium_105 : decode cX3_premium 105 = .ok (.iinc 3 1, 3) := dk_132 3 1 (dk_at dksX3_premium_4 12 rfl rfl)
theorem dX3_premium_108 : decode cX3_premium 108 = .ok (.goto (-43), 3) := dk_167 255 213 (dk_at dksX3_premium_4 15 rfl rfl)
theorem dX3_premium_111 : decode cX3_premium 111 = .ok (.iload_n 2, 1) := dk_28 (dk_at dksX3_premium_4 18 rfl rfl)
theorem dX3_premium_112 : decode cX3_premium 112 = .ok (.aload_n 0, 1) := dk_42 (dk_at dksX3_premium_4 19 rfl rfl)
theorem dX3_premium_113 : decode cX3_premium 113 = .ok (.getfield 29, 3) := dk_180 0 29 (dk_at dksX3_premium_4 20 rfl rfl)
theorem dX3_premium_116 : decode cX3_premium 116 = .ok (.iconst 0, 1) := dk_3 (dk_at dksX3_premium_4 23 rfl rfl)
theorem dX3_premium_117 : decode cX3_premium 117 = .ok (.iaload, 1) := dk_46 (dk_at dksX3_premium_5 0 rfl rfl)
theorem dX3_premium_118 : decode cX3_premium 118 = .ok (.isub, 1) := dk_100 (dk_at dksX3_premium_5 1 rfl rfl)
theorem dX3_premium_119 : decode cX3_premium 119 = .ok (.ireturn, 1) := dk_172 (dk_at dksX3_premium_5 2 rfl rfl)
abbrev cX3_track : ByteArray := prog_9_method_106_code
def yX3_track : MethodName := ⟨RX3, "track", "(II)I"⟩
def dkwX3_track_3 : List UInt8 := [180, 1, 98, 172]
abbrev dktX3_track_3 : List UInt8 := dkwX3_track_3 ++ []
def dkwX3_track_2 : List UInt8 := [180, 0, 74, 5, 42, 180, 1, 98, 104, 4, 96, 28, 79, 42, 89, 180, 1, 98, 4, 96, 181, 1, 98, 42]
abbrev dktX3_track_2 : List UInt8 := dkwX3_track_2 ++ dktX3_track_3
def dkwX3_track_1 : List UInt8 := [42, 180, 1, 98, 16, 20, 160, 0, 5, 2, 172, 42, 180, 0, 74, 5, 42, 180, 1, 98, 104, 27, 79, 42]
abbrev dktX3_track_1 : List UInt8 := dkwX3_track_1 ++ dktX3_track_2
def dkwX3_track_0 : List UInt8 := [42, 3, 181, 0, 87, 42, 27, 182, 0, 101, 153, 0, 23, 28, 3, 17, 3, 231, 184, 0, 97, 153, 0, 12]
abbrev dktX3_track_0 : List UInt8 := dkwX3_track_0 ++ dktX3_track_1
theorem dksX3_track_0 : cX3_track.data.toList.drop 0 = dktX3_track_0 := by decide +kernel
theorem dksX3_track_1 : cX3_track.data.toList.drop 24 = dktX3_track_1 := dk_seg dksX3_track_0 24 rfl rfl
theorem dksX3_track_2 : cX3_track.data.toList.drop 48 = dktX3_track_2 := dk_seg dksX3_track_1 24 rfl rfl
theorem dksX3_track_3 : cX3_track.data.toList.drop 72 = dktX3_track_3 := dk_seg dksX3_track_2 24 rfl rfl
theorem dX3_track_0 : decode cX3_track 0 = .ok (.aload_n 0, 1) := dk_42 (dk_at dksX3_track_0 0 rfl rfl)
theorem dX3_track_1 : decode cX3_track 1 = .ok (.iconst 0, 1) := dk_3 (dk_at dksX3_track_0 1 rfl rfl)
theorem dX3_track_2 : decode cX3_track 2 = .ok (.putfield 87, 3) := dk_181 0 87 (dk_at dksX3_track_0 2 rfl rfl)
theorem dX3_track_5 : decode cX3_track 5 = .ok (.aload_n 0, 1) := dk_42 (dk_at dksX3_track_0 5 rfl rfl)
theorem dX3_track_6 : decode cX3_track 6 = .ok (.iload_n 1, 1) := dk_27 (dk_at dksX3_track_0 6 rfl rfl)
theorem dX3_track_7 : decode cX3_track 7 = .ok (.invokevirtual 101, 3) := dk_182 0 101 (dk_at dksX3_track_0 7 rfl rfl)
theorem dX3_track_10 : decode cX3_track 10 = .ok (.ifCond .eq 23, 3) := dk_153 0 23 (dk_at dksX3_track_0 10 rfl rfl)
theorem dX3_track_13 : decode cX3_track 13 = .ok (.iload_n 2, 1) := dk_28 (dk_at dksX3_track_0 13 rfl rfl)
theorem dX3_track_14 : decode cX3_track 14 = .ok (.iconst 0, 1) := dk_3 (dk_at dksX3_track_0 14 rfl rfl)
theorem dX3_track_15 : decode cX3_track 15 = .ok (.sipush 999, 3) := dk_17 3 231 (dk_at dksX3_track_0 15 rfl rfl)
theorem dX3_track_18 : decode cX3_track 18 = .ok (.invokestatic 97, 3) := dk_184 0 97 (dk_at dksX3_track_0 18 rfl rfl)
theorem dX3_track_21 : decode cX3_track 21 = .ok (.ifCond .eq 12, 3) := dk_153 0 12 (dk_at dksX3_track_0 21 rfl rfl)
theorem dX3_track_24 : decode cX3_track 24 = .ok (.aload_n 0, 1) := dk_42 (dk_at dksX3_track_1 0 rfl rfl)
theorem dX3_track_25 : decode cX3_track 25 = .ok (.getfield 354, 3) := dk_180 1 98 (dk_at dksX3_track_1 1 rfl rfl)
theorem dX3_track_28 : decode cX3_track 28 = .ok (.bipush 20, 2) := dk_16 20 (dk_at dksX3_track_1 4 rfl rfl)
theorem dX3_track_30 : decode cX3_track 30 = .ok (.if_icmp .ne 5, 3) := dk_160 0 5 (dk_at dksX3_track_1 6 rfl rfl)
theorem dX3_track_33 : decode cX3_track 33 = .ok (.iconst (-1), 1) := dk_2 (dk_at dksX3_track_1 9 rfl rfl)
theorem dX3_track_34 : decode cX3_track 34 = .ok (.ireturn, 1) := dk_172 (dk_at dksX3_track_1 10 rfl rfl)
theorem dX3_track_35 : decode cX3_track 35 = .ok (.aload_n 0, 1) := dk_42 (dk_at dksX3_track_1 11 rfl rfl)
theorem dX3_track_36 : decode cX3_track 36 = .ok (.getfield 74, 3) := dk_180 0 74 (dk_at dksX3_track_1 12 rfl rfl)
theorem dX3_track_39 : decode cX3_track 39 = .ok (.iconst 2, 1) := dk_5 (dk_at dksX3_track_1 15 rfl rfl)
theorem dX3_track_40 : decode cX3_track 40 = .ok (.aload_n 0, 1) := dk_42 (dk_at dksX3_track_1 16 rfl rfl)
theorem dX3_track_41 : decode cX3_track 41 = .ok (.getfield 354, 3) := dk_180 1 98 (dk_at dksX3_track_1 17 rfl rfl)
theorem dX3_track_44 : decode cX3_track 44 = .ok (.imul, 1) := dk_104 (dk_at dksX3_track_1 20 rfl rfl)
theorem dX3_track_45 : decode cX3_track 45 = .ok (.iload_n 1, 1) := dk_27 (dk_at dksX3_track_1 21 rfl rfl)
theorem dX3_track_46 : decode cX3_track 46 = .ok (.iastore, 1) := dk_79 (dk_at dksX3_track_1 22 rfl rfl)
theorem dX3_track_47 : decode cX3_track 47 = .ok (.aload_n 0, 1) := dk_42 (dk_at dksX3_track_1 23 rfl rfl)
theorem dX3_track_48 : decode cX3_track 48 = .ok (.getfield 74, 3) := dk_180 0 74 (dk_at dksX3_track_2 0 rfl rfl)
theorem dX3_track_51 : decode cX3_track 51 = .ok (.iconst 2, 1) := dk_5 (dk_at dksX3_track_2 3 rfl rfl)
theorem dX3_track_52 : decode cX3_track 52 = .ok (.aload_n 0, 1) := dk_42 (dk_at dksX3_track_2 4 rfl rfl)
theorem dX3_track_53 : decode cX3_track 53 = .ok (.getfield 354, 3) := dk_180 1 98 (dk_at dksX3_track_2 5 rfl rfl)
theorem dX3_track_56 : decode cX3_track 56 = .ok (.imul, 1) := dk_104 (dk_at dksX3_track_2 8 rfl rfl)
theorem dX3_track_57 : decode cX3_track 57 = .ok (.iconst 1, 1) := dk_4 (dk_at dksX3_track_2 9 rfl rfl)
theorem dX3_track_58 : decode cX3_track 58 = .ok (.iadd, 1) := dk_96 (dk_at dksX3_track_2 10 rfl rfl)
theorem dX3_track_59 : decode cX3_track 59 = .ok (.iload_n 2, 1) := dk_28 (dk_at dksX3_track_2 11 rfl rfl)
theorem dX3_track_60 : decode cX3_track 60 = .ok (.iastore, 1) := dk_79 (dk_at dksX3_track_2 12 rfl rfl)
theorem dX3_track_61 : decode cX3_track 61 = .ok (.aload_n 0, 1) := dk_42 (dk_at dksX3_track_2 13 rfl rfl)
theorem dX3_track_62 : decode cX3_track 62 = .ok (.dup, 1) := dk_89 (dk_at dksX3_track_2 14 rfl rfl)
theorem dX3_track_63 : decode cX3_track 63 = .ok (.getfield 354, 3) := dk_180 1 98 (dk_at dksX3_track_2 15 rfl rfl)
theorem dX3_track_66 : decode cX3_track 66 = .ok (.iconst 1, 1) := dk_4 (dk_at dksX3_track_2 18 rfl rfl)
theorem dX3_track_67 : decode cX3_track 67 = .ok (.iadd, 1) := dk_96 (dk_at dksX3_track_2 19 rfl rfl)
theorem dX3_track_68 : decode cX3_track 68 = .ok (.putfield 354, 3) := dk_181 1 98 (dk_at dksX3_track_2 20 rfl rfl)
theorem dX3_track_71 : decode cX3_track 71 = .ok (.aload_n 0, 1) := dk_42 (dk_at dksX3_track_2 23 rfl rfl)
theorem dX3_track_72 : decode cX3_track 72 = .ok (.getfield 354, 3) := dk_180 1 98 (dk_at dksX3_track_3 0 rfl rfl)
theorem dX3_track_75 : decode cX3_track 75 = .ok (.ireturn, 1) := dk_172 (dk_at dksX3_track_3 3 rfl rfl)
abbrev cX3_thaw : ByteArray := prog_9_method_107_code
def yX3_thaw : MethodName := ⟨RX3, "thaw", "()I"⟩
def dkwX3_thaw_0 : List UInt8 := [42, 3, 181, 0, 87, 42, 180, 1, 98, 60, 42, 3, 181, 1, 98, 27, 172]
abbrev dktX3_thaw_0 : List UInt8 := dkwX3_thaw_0 ++ []
theorem dksX3_thaw_0 : cX3_thaw.data.toList.drop 0 = dktX3_thaw_0 := by decide +kernel
theorem dX3_thaw_0 : decode cX3_thaw 0 = .ok (.aload_n 0, 1) := dk_42 (dk_at dksX3_thaw_0 0 rfl rfl)
theorem dX3_thaw_1 : decode cX3_thaw 1 = .ok (.iconst 0, 1) := dk_3 (dk_at dksX3_thaw_0 1 rfl rfl)
theorem dX3_thaw_2 : decode cX3_thaw 2 = .ok (.putfield 87, 3) := dk_181 0 87 (dk_at dksX3_thaw_0 2 rfl rfl)
theorem dX3_thaw_5 : decode cX3_thaw 5 = .ok (.aload_n 0, 1) := dk_42 (dk_at dksX3_thaw_0 5 rfl rfl)
theorem dX3_thaw_6 : decode cX3_thaw 6 = .ok (.getfield 354, 3) := dk_180 1 98 (dk_at dksX3_thaw_0 6 rfl rfl)
theorem dX3_thaw_9 : decode cX3_thaw 9 = .ok (.istore_n 1, 1) := dk_60 (dk_at dksX3_thaw_0 9 rfl rfl)
theorem dX3_thaw_10 : decode cX3_thaw 10 = .ok (.aload_n 0, 1) := dk_42 (dk_at dksX3_thaw_0 10 rfl rfl)
theorem dX3_thaw_11 : decode cX3_thaw 11 = .ok (.iconst 0, 1) := dk_3 (dk_at dksX3_thaw_0 11 rfl rfl)
theorem dX3_thaw_12 : decode cX3_thaw 12 = .ok (.putfield 354, 3) := dk_181 1 98 (dk_at dksX3_thaw_0 12 rfl rfl)
theorem dX3_thaw_15 : decode cX3_thaw 15 = .ok (.iload_n 1, 1) := dk_27 (dk_at dksX3_thaw_0 15 rfl rfl)
theorem dX3_thaw_16 : decode cX3_thaw 16 = .ok (.ireturn, 1) := dk_172 (dk_at dksX3_thaw_0 16 rfl rfl)
abbrev cX3_suspects : ByteArray := prog_9_method_109_code
def yX3_suspects : MethodName := ⟨RX3, "suspects", "(I)I"⟩
def dkwX3_suspects_2 : List UInt8 := [167, 255, 231, 28, 172]
abbrev dktX3_suspects_2 : List UInt8 := dkwX3_suspects_2 ++ []
def dkwX3_suspects_1 : List UInt8 := [16, 31, 162, 0, 25, 27, 29, 184, 1, 101, 153, 0, 11, 28, 42, 29, 182, 1, 104, 126, 61, 132, 3, 1]
abbrev dktX3_suspects_1 : List UInt8 := dkwX3_suspects_1 ++ dktX3_suspects_2
def dkwX3_suspects_0 : List UInt8 := [42, 3, 181, 0, 87, 27, 156, 0, 5, 2, 172, 4, 42, 180, 0, 94, 120, 4, 100, 61, 3, 62, 29]
abbrev dktX3_suspects_0 : List UInt8 := dkwX3_suspects_0 ++ dktX3_suspects_1
theorem dksX3_suspects_0 : cX3_suspects.data.toList.drop 0 = dktX3_suspects_0 := by decide +kernel
theorem dksX3_suspects_1 : cX3_suspects.data.toList.drop 23 = dktX3_suspects_1 := dk_seg dksX3_suspects_0 23 rfl rfl
theorem dksX3_suspects_2 : cX3_suspects.data.toList.drop 47 = dktX3_suspects_2 := dk_seg dksX3_suspects_1 24 rfl rfl
theorem dX3_suspects_0 : decode cX3_suspects 0 = .ok (.aload_n 0, 1) := dk_42 (dk_at dksX3_suspects_0 0 rfl rfl)
theorem dX3_suspects_1 : decode cX3_suspects 1 = .ok (.iconst 0, 1) := dk_3 (dk_at dksX3_suspects_0 1 rfl rfl)
theorem dX3_suspects_2 : decode cX3_suspects 2 = .ok (.putfield 87, 3) := dk_181 0 87 (dk_at dksX3_suspects_0 2 rfl rfl)
theorem dX3_suspects_5 : decode cX3_suspects 5 = .ok (.iload_n 1, 1) := dk_27 (dk_at dksX3_suspects_0 5 rfl rfl)
theorem dX3_suspects_6 : decode cX3_suspects 6 = .ok (.ifCond .ge 5, 3) := dk_156 0 5 (dk_at dksX3_suspects_0 6 rfl rfl)
theorem dX3_suspects_9 : decode cX3_suspects 9 = .ok (.iconst (-1), 1) := dk_2 (dk_at dksX3_suspects_0 9 rfl rfl)
theorem dX3_suspects_10 : decode cX3_suspects 10 = .ok (.ireturn, 1) := dk_172 (dk_at dksX3_suspects_0 10 rfl rfl)
theorem dX3_suspects_11 : decode cX3_suspects 11 = .ok (.iconst 1, 1) := dk_4 (dk_at dksX3_suspects_0 11 rfl rfl)
theorem dX3_suspects_12 : decode cX3_suspects 12 = .ok (.aload_n 0, 1) := dk_42 (dk_at dksX3_suspects_0 12 rfl rfl)
theorem dX3_suspects_13 : decode cX3_suspects 13 = .ok (.getfield 94, 3) := dk_180 0 94 (dk_at dksX3_suspects_0 13 rfl rfl)
theorem dX3_suspects_16 : decode cX3_suspects 16 = .ok (.ishl, 1) := dk_120 (dk_at dksX3_suspects_0 16 rfl rfl)
theorem dX3_suspects_17 : decode cX3_suspects 17 = .ok (.iconst 1, 1) := dk_4 (dk_at dksX3_suspects_0 17 rfl rfl)
theorem dX3_suspects_18 : decode cX3_suspects 18 = .ok (.isub, 1) := dk_100 (dk_at dksX3_suspects_0 18 rfl rfl)
theorem dX3_suspects_19 : decode cX3_suspects 19 = .ok (.istore_n 2, 1) := dk_61 (dk_at dksX3_suspects_0 19 rfl rfl)
theorem dX3_suspects_20 : decode cX3_suspects 20 = .ok (.iconst 0, 1) := dk_3 (dk_at dksX3_suspects_0 20 rfl rfl)
theorem dX3_suspects_21 : decode cX3_suspects 21 = .ok (.istore_n 3, 1) := dk_62 (dk_at dksX3_suspects_0 21 rfl rfl)
theorem dX3_suspects_22 : decode cX3_suspects 22 = .ok (.iload_n 3, 1) := dk_29 (dk_at dksX3_suspects_0 22 rfl rfl)
theorem dX3_suspects_23 : decode cX3_suspects 23 = .ok (.bipush 31, 2) := dk_16 31 (dk_at dksX3_suspects_1 0 rfl rfl)
theorem dX3_suspects_25 : decode cX3_suspects 25 = .ok (.if_icmp .ge 25, 3) := dk_162 0 25 (dk_at dksX3_suspects_1 2 rfl rfl)
theorem dX3_suspects_28 : decode cX3_suspects 28 = .ok (.iload_n 1, 1) := dk_27 (dk_at dksX3_suspects_1 5 rfl rfl)
theorem dX3_suspects_29 : decode cX3_suspects 29 = .ok (.iload_n 3, 1) := dk_29 (dk_at dksX3_suspects_1 6 rfl rfl)
theorem dX3_suspects_30 : decode cX3_suspects 30 = .ok (.invokestatic 357, 3) := dk_184 1 101 (dk_at dksX3_suspects_1 7 rfl rfl)
theorem dX3_suspects_33 : decode cX3_suspects 33 = .ok (.ifCond .eq 11, 3) := dk_153 0 11 (dk_at dksX3_suspects_1 10 rfl rfl)
theorem dX3_suspects_36 : decode cX3_suspects 36 = .ok (.iload_n 2, 1) := dk_28 (dk_at dksX3_suspects_1 13 rfl rfl)
theorem dX3_suspects_37 : decode cX3_suspects 37 = .ok (.aload_n 0, 1) := dk_42 (dk_at dksX3_suspects_1 14 rfl rfl)
theorem dX3_suspects_38 : decode cX3_suspects 38 = .ok (.iload_n 3, 1) := dk_29 (dk_at dksX3_suspects_1 15 rfl rfl)
theorem dX3_suspects_39 : decode cX3_suspects 39 = .ok (.invokevirtual 360, 3) := dk_182 1 104 (dk_at dksX3_suspects_1 16 rfl rfl)
theorem dX3_suspects_42 : decode cX3_suspects 42 = .ok (.iand, 1) := dk_126 (dk_at dksX3_suspects_1 19 rfl rfl)
theorem dX3_suspects_43 : decode cX3_suspects 43 = .ok (.istore_n 2, 1) := dk_61 (dk_at dksX3_suspects_1 20 rfl rfl)
theorem dX3_suspects_44 : decode cX3_suspects 44 = .ok (.iinc 3 1, 3) := dk_132 3 1 (dk_at dksX3_suspects_1 21 rfl rfl)
theorem dX3_suspects_47 : decode cX3_suspects 47 = .ok (.goto (-25), 3) := dk_167 255 231 (dk_at dksX3_suspects_2 0 rfl rfl)
theorem dX3_suspects_50 : decode cX3_suspects 50 = .ok (.iload_n 2, 1) := dk_28 (dk_at dksX3_suspects_2 3 rfl rfl)
theorem dX3_suspects_51 : decode cX3_suspects 51 = .ok (.ireturn, 1) := dk_172 (dk_at dksX3_suspects_2 4 rfl rfl)
abbrev cX3_has : ByteArray := prog_9_method_4_code
def yX3_has : MethodName := ⟨RX3, "has", "(II)Z"⟩
def dkwX3_has_0 : List UInt8 := [26, 27, 122, 4, 126, 4, 160, 0, 7, 4, 167, 0, 4, 3, 172]
abbrev dktX3_has_0 : List UInt8 := dkwX3_has_0 ++ []
theorem dksX3_has_0 : cX3_has.data.toList.drop 0 = dktX3_has_0 := by decide +kernel
theorem dX3_has_0 : decode cX3_has 0 = .ok (.iload_n 0, 1) := dk_26 (dk_at dksX3_has_0 0 rfl rfl)
theorem dX3_has_1 : decode cX3_has 1 = .ok (.iload_n 1, 1) := dk_27 (dk_at dksX3_has_0 1 rfl rfl)
theorem dX3_has_2 : decode cX3_has 2 = .ok (.ishr, 1) := dk_122 (dk_at dksX3_has_0 2 rfl rfl)
theorem dX3_has_3 : decode cX3_has 3 = .ok (.iconst 1, 1) := dk_4 (dk_at dksX3_has_0 3 rfl rfl)
theorem dX3_has_4 : decode cX3_has 4 = .ok (.iand, 1) := dk_126 (dk_at dksX3_has_0 4 rfl rfl)
theorem dX3_has_5 : decode cX3_has 5 = .ok (.iconst 1, 1) := dk_4 (dk_at dksX3_has_0 5 rfl rfl)
theorem dX3_has_6 : decode cX3_has 6 = .ok (.if_icmp .ne 7, 3) := dk_160 0 7 (dk_at dksX3_has_0 6 rfl rfl)
theorem dX3_has_9 : decode cX3_has 9 = .ok (.iconst 1, 1) := dk_4 (dk_at dksX3_has_0 9 rfl rfl)
theorem dX3_has_10 : decode cX3_has 10 = .ok (.goto 4, 3) := dk_167 0 4 (dk_at dksX3_has_0 10 rfl rfl)
theorem dX3_has_13 : decode cX3_has 13 = .ok (.iconst 0, 1) := dk_3 (dk_at dksX3_has_0 13 rfl rfl)
theorem dX3_has_14 : decode cX3_has 14 = .ok (.ireturn, 1) := dk_172 (dk_at dksX3_has_0 14 rfl rfl)
abbrev cX3_outIn : ByteArray := prog_9_method_108_code
def yX3_outIn : MethodName := ⟨RX3, "outIn", "(I)I"⟩
def dkwX3_outIn_2 : List UInt8 := [167, 255, 214, 28, 172]
abbrev dktX3_outIn_2 : List UInt8 := dkwX3_outIn_2 ++ []
def dkwX3_outIn_1 : List UInt8 := [160, 0, 16, 4, 42, 180, 0, 74, 5, 29, 104, 46, 120, 167, 0, 4, 3, 128, 61, 132, 3, 1]
abbrev dktX3_outIn_1 : List UInt8 := dkwX3_outIn_1 ++ dktX3_outIn_2
def dkwX3_outIn_0 : List UInt8 := [3, 61, 3, 62, 29, 42, 180, 1, 98, 162, 0, 40, 28, 42, 180, 0, 74, 5, 29, 104, 4, 96, 46, 27]
abbrev dktX3_outIn_0 : List UInt8 := dkwX3_outIn_0 ++ dktX3_outIn_1
theorem dksX3_outIn_0 : cX3_outIn.data.toList.drop 0 = dktX3_outIn_0 := by decide +kernel
theorem dksX3_outIn_1 : cX3_outIn.data.toList.drop 24 = dktX3_outIn_1 := dk_seg dksX3_outIn_0 24 rfl rfl
theorem dksX3_outIn_2 : cX3_outIn.data.toList.drop 46 = dktX3_outIn_2 := dk_seg dksX3_outIn_1 22 rfl rfl
theorem dX3_outIn_0 : decode cX3_outIn 0 = .ok (.iconst 0, 1) := dk_3 (dk_at dksX3_outIn_0 0 rfl rfl)
theorem dX3_outIn_1 : decode cX3_outIn 1 = .ok (.istore_n 2, 1) := dk_61 (dk_at dksX3_outIn_0 1 rfl rfl)
theorem dX3_outIn_2 : decode cX3_outIn 2 = .ok (.iconst 0, 1) := dk_3 (dk_at dksX3_outIn_0 2 rfl rfl)
theorem dX3_outIn_3 : decode cX3_outIn 3 = .ok (.istore_n 3, 1) := dk_62 (dk_at dksX3_outIn_0 3 rfl rfl)
theorem dX3_outIn_4 : decode cX3_outIn 4 = .ok (.iload_n 3, 1) := dk_29 (dk_at dksX3_outIn_0 4 rfl rfl)
theorem dX3_outIn_5 : decode cX3_outIn 5 = .ok (.aload_n 0, 1) := dk_42 (dk_at dksX3_outIn_0 5 rfl rfl)
theorem dX3_outIn_6 : decode cX3_outIn 6 = .ok (.getfield 354, 3) := dk_180 1 98 (dk_at dksX3_outIn_0 6 rfl rfl)
theorem dX3_outIn_9 : decode cX3_outIn 9 = .ok (.if_icmp .ge 40, 3) := dk_162 0 40 (dk_at dksX3_outIn_0 9 rfl rfl)
theorem dX3_outIn_12 : decode cX3_outIn 12 = .ok (.iload_n 2, 1) := dk_28 (dk_at dksX3_outIn_0 12 rfl rfl)
theorem dX3_outIn_13 : decode cX3_outIn 13 = .ok (.aload_n 0, 1) := dk_42 (dk_at dksX3_outIn_0 13 rfl rfl)
theorem dX3_outIn_14 : decode cX3_outIn 14 = .ok (.getfield 74, 3) := dk_180 0 74 (dk_at dksX3_outIn_0 14 rfl rfl)
theorem dX3_outIn_17 : decode cX3_outIn 17 = .ok (.iconst 2, 1) := dk_5 (dk_at dksX3_outIn_0 17 rfl rfl)
theorem dX3_outIn_18 : decode cX3_outIn 18 = .ok (.iload_n 3, 1) := dk_29 (dk_at dksX3_outIn_0 18 rfl rfl)
theorem dX3_outIn_19 : decode cX3_outIn 19 = .ok (.imul, 1) := dk_104 (dk_at dksX3_outIn_0 19 rfl rfl)
theorem dX3_outIn_20 : decode cX3_outIn 20 = .ok (.iconst 1, 1) := dk_4 (dk_at dksX3_outIn_0 20 rfl rfl)
theorem dX3_outIn_21 : decode cX3_outIn 21 = .ok (.iadd, 1) := dk_96 (dk_at dksX3_outIn_0 21 rfl rfl)
theorem dX3_outIn_22 : decode cX3_outIn 22 = .ok (.iaload, 1) := dk_46 (dk_at dksX3_outIn_0 22 rfl rfl)
theorem dX3_outIn_23 : decode cX3_outIn 23 = .ok (.iload_n 1, 1) := dk_27 (dk_at dksX3_outIn_0 23 rfl rfl)
theorem dX3_outIn_24 : decode cX3_outIn 24 = .ok (.if_icmp .ne 16, 3) := dk_160 0 16 (dk_at dksX3_outIn_1 0 rfl rfl)
theorem dX3_outIn_27 : decode cX3_outIn 27 = .ok (.iconst 1, 1) := dk_4 (dk_at dksX3_outIn_1 3 rfl rfl)
theorem dX3_outIn_28 : decode cX3_outIn 28 = .ok (.aload_n 0, 1) := dk_42 (dk_at dksX3_outIn_1 4 rfl rfl)
theorem dX3_outIn_29 : decode cX3_outIn 29 = .ok (.getfield 74, 3) := dk_180 0 74 (dk_at dksX3_outIn_1 5 rfl rfl)
theorem dX3_outIn_32 : decode cX3_outIn 32 = .ok (.iconst 2, 1) := dk_5 (dk_at dksX3_outIn_1 8 rfl rfl)
theorem dX3_outIn_33 : decode cX3_outIn 33 = .ok (.iload_n 3, 1) := dk_29 (dk_at dksX3_outIn_1 9 rfl rfl)
theorem dX3_outIn_34 : decode cX3_outIn 34 = .ok (.imul, 1) := dk_104 (dk_at dksX3_outIn_1 10 rfl rfl)
theorem dX3_outIn_35 : decode cX3_outIn 35 = .ok (.iaload, 1) := dk_46 (dk_at dksX3_outIn_1 11 rfl rfl)
theorem dX3_outIn_36 : decode cX3_outIn 36 = .ok (.ishl, 1) := dk_120 (dk_at dksX3_outIn_1 12 rfl rfl)
theorem dX3_outIn_37 : decode cX3_outIn 37 = .ok (.goto 4, 3) := dk_167 0 4 (dk_at dksX3_outIn_1 13 rfl rfl)
theorem dX3_outIn_40 : decode cX3_outIn 40 = .ok (.iconst 0, 1) := dk_3 (dk_at dksX3_outIn_1 16 rfl rfl)
theorem dX3_outIn_41 : decode cX3_outIn 41 = .ok (.ior, 1) := dk_128 (dk_at dksX3_outIn_1 17 rfl rfl)
theorem dX3_outIn_42 : decode cX3_outIn 42 = .ok (.istore_n 2, 1) := dk_61 (dk_at dksX3_outIn_1 18 rfl rfl)
theorem dX3_outIn_43 : decode cX3_outIn 43 = .ok (.iinc 3 1, 3) := dk_132 3 1 (dk_at dksX3_outIn_1 19 rfl rfl)
theorem dX3_outIn_46 : decode cX3_outIn 46 = .ok (.goto (-42), 3) := dk_167 255 214 (dk_at dksX3_outIn_2 0 rfl rfl)
theorem dX3_outIn_49 : decode cX3_outIn 49 = .ok (.iload_n 2, 1) := dk_28 (dk_at dksX3_outIn_2 3 rfl rfl)
theorem dX3_outIn_50 : decode cX3_outIn 50 = .ok (.ireturn, 1) := dk_172 (dk_at dksX3_outIn_2 4 rfl rfl)
abbrev cX3_gang : ByteArray := prog_9_method_110_code
def yX3_gang : MethodName := ⟨RX3, "gang", "(I)I"⟩
def dkwX3_gang_5 : List UInt8 := [42, 28, 182, 0, 230, 28, 184, 1, 107, 172]
abbrev dktX3_gang_5 : List UInt8 := dkwX3_gang_5 ++ []
def dkwX3_gang_4 : List UInt8 := [153, 0, 5, 29, 61, 132, 3, 1, 167, 255, 169, 28, 2, 160, 0, 6, 16, 254, 172, 42, 3, 181, 0, 91]
abbrev dktX3_gang_4 : List UInt8 := dkwX3_gang_4 ++ dktX3_gang_5
def dkwX3_gang_3 : List UInt8 := [182, 1, 104, 29, 126, 153, 0, 7, 4, 167, 0, 4, 3, 54, 4, 132, 5, 1, 167, 255, 214, 21, 4]
abbrev dktX3_gang_3 : List UInt8 := dkwX3_gang_3 ++ dktX3_gang_4
def dkwX3_gang_2 : List UInt8 := [21, 5, 16, 31, 162, 0, 41, 21, 4, 153, 0, 27, 27, 21, 5, 184, 1, 101, 153, 0, 14, 42, 21, 5]
abbrev dktX3_gang_2 : List UInt8 := dkwX3_gang_2 ++ dktX3_gang_3
def dkwX3_gang_1 : List UInt8 := [159, 0, 17, 29, 184, 1, 107, 28, 184, 1, 107, 161, 0, 6, 167, 0, 61, 4, 54, 4, 3, 54, 5]
abbrev dktX3_gang_1 : List UInt8 := dkwX3_gang_1 ++ dktX3_gang_2
def dkwX3_gang_0 : List UInt8 := [42, 3, 181, 0, 87, 27, 156, 0, 5, 2, 172, 2, 61, 3, 62, 29, 17, 0, 128, 162, 0, 86, 28, 2]
abbrev dktX3_gang_0 : List UInt8 := dkwX3_gang_0 ++ dktX3_gang_1
theorem dksX3_gang_0 : cX3_gang.data.toList.drop 0 = dktX3_gang_0 := by decide +kernel
theorem dksX3_gang_1 : cX3_gang.data.toList.drop 24 = dktX3_gang_1 := dk_seg dksX3_gang_0 24 rfl rfl
theorem dksX3_gang_2 : cX3_gang.data.toList.drop 47 = dktX3_gang_2 := dk_seg dksX3_gang_1 23 rfl rfl
theorem dksX3_gang_3 : cX3_gang.data.toList.drop 71 = dktX3_gang_3 := dk_seg dksX3_gang_2 24 rfl rfl
theorem dksX3_gang_4 : cX3_gang.data.toList.drop 94 = dktX3_gang_4 := dk_seg dksX3_gang_3 23 rfl rfl
theorem dksX3_gang_5 : cX3_gang.data.toList.drop 118 = dktX3_gang_5 := dk_seg dksX3_gang_4 24 rfl rfl
theorem dX3_gang_0 : decode cX3_gang 0 = .ok (.aload_n 0, 1) := dk_42 (dk_at dksX3_gang_0 0 rfl rfl)
theorem dX3_gang_1 : decode cX3_gang 1 = .ok (.iconst 0, 1) := dk_3 (dk_at dksX3_gang_0 1 rfl rfl)
theorem dX3_gang_2 : decode cX3_gang 2 = .ok (.putfield 87, 3) := dk_181 0 87 (dk_at dksX3_gang_0 2 rfl rfl)
theorem dX3_gang_5 : decode cX3_gang 5 = .ok (.iload_n 1, 1) := dk_27 (dk_at dksX3_gang_0 5 rfl rfl)
theorem dX3_gang_6 : decode cX3_gang 6 = .ok (.ifCond .ge 5, 3) := dk_156 0 5 (dk_at dksX3_gang_0 6 rfl rfl)
theorem dX3_gang_9 : decode cX3_gang 9 = .ok (.iconst (-1), 1) := dk_2 (dk_at dksX3_gang_0 9 rfl rfl)
theorem dX3_gang_10 : decode cX3_gang 10 = .ok (.ireturn, 1) := dk_172 (dk_at dksX3_gang_0 10 rfl rfl)
theorem dX3_gang_11 : decode cX3_gang 11 = .ok (.iconst (-1), 1) := dk_2 (dk_at dksX3_gang_0 11 rfl rfl)
theorem dX3_gang_12 : decode cX3_gang 12 = .ok (.istore_n 2, 1) := dk_61 (dk_at dksX3_gang_0 12 rfl rfl)
theorem dX3_gang_13 : decode cX3_gang 13 = .ok (.iconst 0, 1) := dk_3 (dk_at dksX3_gang_0 13 rfl rfl)
theorem dX3_gang_14 : decode cX3_gang 14 = .ok (.istore_n 3, 1) := dk_62 (dk_at dksX3_gang_0 14 rfl rfl)
theorem dX3_gang_15 : decode cX3_gang 15 = .ok (.iload_n 3, 1) := dk_29 (dk_at dksX3_gang_0 15 rfl rfl)
theorem dX3_gang_16 : decode cX3_gang 16 = .ok (.sipush 128, 3) := dk_17 0 128 (dk_at dksX3_gang_0 16 rfl rfl)
theorem dX3_gang_19 : decode cX3_gang 19 = .ok (.if_icmp .ge 86, 3) := dk_162 0 86 (dk_at dksX3_gang_0 19 rfl rfl)
theorem dX3_gang_22 : decode cX3_gang 22 = .ok (.iload_n 2, 1) := dk_28 (dk_at dksX3_gang_0 22 rfl rfl)
theorem dX3_gang_23 : decode cX3_gang 23 = .ok (.iconst (-1), 1) := dk_2 (dk_at dksX3_gang_0 23 rfl rfl)
theorem dX3_gang_24 : decode cX3_gang 24 = .ok (.if_icmp .eq 17, 3) := dk_159 0 17 (dk_at dksX3_gang_1 0 rfl rfl)
theorem dX3_gang_27 : decode cX3_gang 27 = .ok (.iload_n 3, 1) := dk_29 (dk_at dksX3_gang_1 3 rfl rfl)
theorem dX3_gang_28 : decode cX3_gang 28 = .ok (.invokestatic 363, 3) := dk_184 1 107 (dk_at dksX3_gang_1 4 rfl rfl)
theorem dX3_gang_31 : decode cX3_gang 31 = .ok (.iload_n 2, 1) := dk_28 (dk_at dksX3_gang_1 7 rfl rfl)
theorem dX3_gang_32 : decode cX3_gang 32 = .ok (.invokestatic 363, 3) := dk_184 1 107 (dk_at dksX3_gang_1 8 rfl rfl)
theorem dX3_gang_35 : decode cX3_gang 35 = .ok (.if_icmp .lt 6, 3) := dk_161 0 6 (dk_at dksX3_gang_1 11 rfl rfl)
theorem dX3_gang_38 : decode cX3_gang 38 = .ok (.goto 61, 3) := dk_167 0 61 (dk_at dksX3_gang_1 14 rfl rfl)
theorem dX3_gang_41 : decode cX3_gang 41 = .ok (.iconst 1, 1) := dk_4 (dk_at dksX3_gang_1 17 rfl rfl)
theorem dX3_gang_42 : decode cX3_gang 42 = .ok (.istore 4, 2) := dk_54 4 (dk_at dksX3_gang_1 18 rfl rfl)
theorem dX3_gang_44 : decode cX3_gang 44 = .ok (.iconst 0, 1) := dk_3 (dk_at dksX3_gang_1 20 rfl rfl)
theorem dX3_gang_45 : decode cX3_gang 45 = .ok (.istore 5, 2) := dk_54 5 (dk_at dksX3_gang_1 21 rfl rfl)
theorem dX3_gang_47 : decode cX3_gang 47 = .ok (.iload 5, 2) := dk_21 5 (dk_at dksX3_gang_2 0 rfl rfl)
theorem dX3_gang_49 : decode cX3_gang 49 = .ok (.bipush 31, 2) := dk_16 31 (dk_at dksX3_gang_2 2 rfl rfl)
theorem dX3_gang_51 : decode cX3_gang 51 = .ok (.if_icmp .ge 41, 3) := dk_162 0 41 (dk_at dksX3_gang_2 4 rfl rfl)
theorem dX3_gang_54 : decode cX3_gang 54 = .ok (.iload 4, 2) := dk_21 4 (dk_at dksX3_gang_2 7 rfl rfl)
theorem dX3_gang_56 : decode cX3_gang 56 = .ok (.ifCond .eq 27, 3) := dk_153 0 27 (dk_at dksX3_gang_2 9 rfl rfl)
theorem dX3_gang_59 : decode cX3_gang 59 = .ok (.iload_n 1, 1) := dk_27 (dk_at dksX3_gang_2 12 rfl rfl)
theorem dX3_gang_60 : decode cX3_gang 60 = .ok (.iload 5, 2) := dk_21 5 (dk_at dksX3_gang_2 13 rfl rfl)
theorem dX3_gang_62 : decode cX3_gang 62 = .ok (.invokestatic 357, 3) := dk_184 1 101 (dk_at dksX3_gang_2 15 rfl rfl)
theorem dX3_gang_65 : decode cX3_gang 65 = .ok (.ifCond .eq 14, 3) := dk_153 0 14 (dk_at dksX3_gang_2 18 rfl rfl)
theorem dX3_gang_68 : decode cX3_gang 68 = .ok (.aload_n 0, 1) := dk_42 (dk_at dksX3_gang_2 21 rfl rfl)
theorem dX3_gang_69 : decode cX3_gang 69 = .ok (.iload 5, 2) := dk_21 5 (dk_at dksX3_gang_2 22 rfl rfl)
theorem dX3_gang_71 : decode cX3_gang 71 = .ok (.invokevirtual 360, 3) := dk_182 1 104 (dk_at dksX3_gang_3 0 rfl rfl)
theorem dX3_gang_74 : decode cX3_gang 74 = .ok (.iload_n 3, 1) := dk_29 (dk_at dksX3_gang_3 3 rfl rfl)
theorem dX3_gang_75 : decode cX3_gang 75 = .ok (.iand, 1) := dk_126 (dk_at dksX3_gang_3 4 rfl rfl)
theorem dX3_gang_76 : decode cX3_gang 76 = .ok (.ifCond .eq 7, 3) := dk_153 0 7 (dk_at dksX3_gang_3 5 rfl rfl)
theorem dX3_gang_79 : decode cX3_gang 79 = .ok (.iconst 1, 1) := dk_4 (dk_at dksX3_gang_3 8 rfl rfl)
theorem dX3_gang_80 : decode cX3_gang 80 = .ok (.goto 4, 3) := dk_167 0 4 (dk_at dksX3_gang_3 9 rfl rfl)
theorem dX3_gang_83 : decode cX3_gang 83 = .ok (.iconst 0, 1) := dk_3 (dk_at dksX3_gang_3 12 rfl rfl)
theorem dX3_gang_84 : decode cX3_gang 84 = .ok (.istore 4, 2) := dk_54 4 (dk_at dksX3_gang_3 13 rfl rfl)
theorem dX3_gang_86 : decode cX3_gang 86 = .ok (.iinc 5 1, 3) := dk_132 5 1 (dk_at dksX3_gang_3 15 rfl rfl)
theorem dX3_gang_89 : decode cX3_gang 89 = .ok (.goto (-42), 3) := dk_167 255 214 (dk_at dksX3_gang_3 18 rfl rfl)
theorem dX3_gang_92 : decode cX3_gang 92 = .ok (.iload 4, 2) := dk_21 4 (dk_at dksX3_gang_3 21 rfl rfl)
theorem dX3_gang_94 : decode cX3_gang 94 = .ok (.ifCond .eq 5, 3) := dk_153 0 5 (dk_at dksX3_gang_4 0 rfl rfl)
theorem dX3_gang_97 : decode cX3_gang 97 = .ok (.iload_n 3, 1) := dk_29 (dk_at dksX3_gang_4 3 rfl rfl)
theorem dX3_gang_98 : decode cX3_gang 98 = .ok (.istore_n 2, 1) := dk_61 (dk_at dksX3_gang_4 4 rfl rfl)
theorem dX3_gang_99 : decode cX3_gang 99 = .ok (.iinc 3 1, 3) := dk_132 3 1 (dk_at dksX3_gang_4 5 rfl rfl)
theorem dX3_gang_102 : decode cX3_gang 102 = .ok (.goto (-87), 3) := dk_167 255 169 (dk_at dksX3_gang_4 8 rfl rfl)
theorem dX3_gang_105 : decode cX3_gang 105 = .ok (.iload_n 2, 1) := dk_28 (dk_at dksX3_gang_4 11 rfl rfl)
theorem dX3_gang_106 : decode cX3_gang 106 = .ok (.iconst (-1), 1) := dk_2 (dk_at dksX3_gang_4 12 rfl rfl)
theorem dX3_gang_107 : decode cX3_gang 107 = .ok (.if_icmp .ne 6, 3) := dk_160 0 6 (dk_at dksX3_gang_4 13 rfl rfl)
theorem dX3_gang_110 : decode cX3_gang 110 = .ok (.bipush (-2), 2) := dk_16 254 (dk_at dksX3_gang_4 16 rfl rfl)
theorem dX3_gang_112 : decode cX3_gang 112 = .ok (.ireturn, 1) := dk_172 (dk_at dksX3_gang_4 18 rfl rfl)
theorem dX3_gang_113 : decode cX3_gang 113 = .ok (.aload_n 0, 1) := dk_42 (dk_at dksX3_gang_4 19 rfl rfl)
theorem dX3_gang_114 : decode cX3_gang 114 = .ok (.iconst 0, 1) := dk_3 (dk_at dksX3_gang_4 20 rfl rfl)
theorem dX3_gang_115 : decode cX3_gang 115 = .ok (.putfield 91, 3) := dk_181 0 91 (dk_at dksX3_gang_4 21 rfl rfl)
theorem dX3_gang_118 : decode cX3_gang 118 = .ok (.aload_n 0, 1) := dk_42 (dk_at dksX3_gang_5 0 rfl rfl)
theorem dX3_gang_119 : decode cX3_gang 119 = .ok (.iload_n 2, 1) := dk_28 (dk_at dksX3_gang_5 1 rfl rfl)
theorem dX3_gang_120 : decode cX3_gang 120 = .ok (.invokevirtual 230, 3) := dk_182 0 230 (dk_at dksX3_gang_5 2 rfl rfl)
theorem dX3_gang_123 : decode cX3_gang 123 = .ok (.iload_n 2, 1) := dk_28 (dk_at dksX3_gang_5 5 rfl rfl)
theorem dX3_gang_124 : decode cX3_gang 124 = .ok (.invokestatic 363, 3) := dk_184 1 107 (dk_at dksX3_gang_5 6 rfl rfl)
theorem dX3_gang_127 : decode cX3_gang 127 = .ok (.ireturn, 1) := dk_172 (dk_at dksX3_gang_5 9 rfl rfl)
abbrev cX3_keep : ByteArray := prog_9_method_111_code
def yX3_keep : MethodName := ⟨RX3, "keep", "(I)Z"⟩
def dkwX3_keep_2 : List UInt8 := [4, 172]
abbrev dktX3_keep_2 : List UInt8 := dkwX3_keep_2 ++ []
def dkwX3_keep_1 : List UInt8 := [180, 0, 84, 27, 42, 180, 0, 154, 79, 42, 180, 0, 9, 42, 180, 0, 77, 16, 71, 27, 104, 184, 0, 253]
abbrev dktX3_keep_1 : List UInt8 := dkwX3_keep_1 ++ dktX3_keep_2
def dkwX3_keep_0 : List UInt8 := [42, 3, 181, 0, 87, 27, 3, 4, 184, 0, 97, 154, 0, 5, 3, 172, 42, 180, 0, 80, 27, 4, 84, 42]
abbrev dktX3_keep_0 : List UInt8 := dkwX3_keep_0 ++ dktX3_keep_1
theorem dksX3_keep_0 : cX3_keep.data.toList.drop 0 = dktX3_keep_0 := by decide +kernel
theorem dksX3_keep_1 : cX3_keep.data.toList.drop 24 = dktX3_keep_1 := dk_seg dksX3_keep_0 24 rfl rfl
theorem dksX3_keep_2 : cX3_keep.data.toList.drop 48 = dktX3_keep_2 := dk_seg dksX3_keep_1 24 rfl rfl
theorem dX3_keep_0 : decode cX3_keep 0 = .ok (.aload_n 0, 1) := dk_42 (dk_at dksX3_keep_0 0 rfl rfl)
theorem dX3_keep_1 : decode cX3_keep 1 = .ok (.iconst 0, 1) := dk_3 (dk_at dksX3_keep_0 1 rfl rfl)
theorem dX3_keep_2 : decode cX3_keep 2 = .ok (.putfield 87, 3) := dk_181 0 87 (dk_at dksX3_keep_0 2 rfl rfl)
theorem dX3_keep_5 : decode cX3_keep 5 = .ok (.iload_n 1, 1) := dk_27 (dk_at dksX3_keep_0 5 rfl rfl)
theorem dX3_keep_6 : decode cX3_keep 6 = .ok (.iconst 0, 1) := dk_3 (dk_at dksX3_keep_0 6 rfl rfl)
theorem dX3_keep_7 : decode cX3_keep 7 = .ok (.iconst 1, 1) := dk_4 (dk_at dksX3_keep_0 7 rfl rfl)
theorem dX3_keep_8 : decode cX3_keep 8 = .ok (.invokestatic 97, 3) := dk_184 0 97 (dk_at dksX3_keep_0 8 rfl rfl)
theorem dX3_keep_11 : decode cX3_keep 11 = .ok (.ifCond .ne 5, 3) := dk_154 0 5 (dk_at dksX3_keep_0 11 rfl rfl)
theorem dX3_keep_14 : decode cX3_keep 14 = .ok (.iconst 0, 1) := dk_3 (dk_at dksX3_keep_0 14 rfl rfl)
theorem dX3_keep_15 : decode cX3_keep 15 = .ok (.ireturn, 1) := dk_172 (dk_at dksX3_keep_0 15 rfl rfl)
theorem dX3_keep_16 : decode cX3_keep 16 = .ok (.aload_n 0, 1) := dk_42 (dk_at dksX3_keep_0 16 rfl rfl)
theorem dX3_keep_17 : decode cX3_keep 17 = .ok (.getfield 80, 3) := dk_180 0 80 (dk_at dksX3_keep_0 17 rfl rfl)
theorem dX3_keep_20 : decode cX3_keep 20 = .ok (.iload_n 1, 1) := dk_27 (dk_at dksX3_keep_0 20 rfl rfl)
theorem dX3_keep_21 : decode cX3_keep 21 = .ok (.iconst 1, 1) := dk_4 (dk_at dksX3_keep_0 21 rfl rfl)
theorem dX3_keep_22 : decode cX3_keep 22 = .ok (.bastore, 1) := dk_84 (dk_at dksX3_keep_0 22 rfl rfl)
theorem dX3_keep_23 : decode cX3_keep 23 = .ok (.aload_n 0, 1) := dk_42 (dk_at dksX3_keep_0 23 rfl rfl)
theorem dX3_keep_24 : decode cX3_keep 24 = .ok (.getfield 84, 3) := dk_180 0 84 (dk_at dksX3_keep_1 0 rfl rfl)
theorem dX3_keep_27 : decode cX3_keep 27 = .ok (.iload_n 1, 1) := dk_27 (dk_at dksX3_keep_1 3 rfl rfl)
theorem dX3_keep_28 : decode cX3_keep 28 = .ok (.aload_n 0, 1) := dk_42 (dk_at dksX3_keep_1 4 rfl rfl)
theorem dX3_keep_29 : decode cX3_keep 29 = .ok (.getfield 154, 3) := dk_180 0 154 (dk_at dksX3_keep_1 5 rfl rfl)
theorem dX3_keep_32 : decode cX3_keep 32 = .ok (.iastore, 1) := dk_79 (dk_at dksX3_keep_1 8 rfl rfl)
theorem dX3_keep_33 : decode cX3_keep 33 = .ok (.aload_n 0, 1) := dk_42 (dk_at dksX3_keep_1 9 rfl rfl)
theorem dX3_keep_34 : decode cX3_keep 34 = .ok (.getfield 9, 3) := dk_180 0 9 (dk_at dksX3_keep_1 10 rfl rfl)
theorem dX3_keep_37 : decode cX3_keep 37 = .ok (.aload_n 0, 1) := dk_42 (dk_at dksX3_keep_1 13 rfl rfl)
theorem dX3_keep_38 : decode cX3_keep 38 = .ok (.getfield 77, 3) := dk_180 0 77 (dk_at dksX3_keep_1 14 rfl rfl)
theorem dX3_keep_41 : decode cX3_keep 41 = .ok (.bipush 71, 2) := dk_16 71 (dk_at dksX3_keep_1 17 rfl rfl)
theorem dX3_keep_43 : decode cX3_keep 43 = .ok (.iload_n 1, 1) := dk_27 (dk_at dksX3_keep_1 19 rfl rfl)
theorem dX3_keep_44 : decode cX3_keep 44 = .ok (.imul, 1) := dk_104 (dk_at dksX3_keep_1 20 rfl rfl)
theorem dX3_keep_45 : decode cX3_keep 45 = .ok (.invokestatic 253, 3) := dk_184 0 253 (dk_at dksX3_keep_1 21 rfl rfl)
theorem dX3_keep_48 : decode cX3_keep 48 = .ok (.iconst 1, 1) := dk_4 (dk_at dksX3_keep_2 0 rfl rfl)
theorem dX3_keep_49 : decode cX3_keep 49 = .ok (.ireturn, 1) := dk_172 (dk_at dksX3_keep_2 1 rfl rfl)
abbrev cX3_again : ByteArray := prog_9_method_112_code
def yX3_again : MethodName := ⟨RX3, "again", "(I)Z"⟩
def dkwX3_again_3 : List UInt8 := [181, 0, 151, 4, 172]
abbrev dktX3_again_3 : List UInt8 := dkwX3_again_3 ++ []
def dkwX3_again_2 : List UInt8 := [180, 0, 9, 28, 42, 180, 0, 77, 16, 71, 27, 104, 28, 96, 46, 79, 132, 2, 1, 167, 255, 230, 42, 3]
abbrev dktX3_again_2 : List UInt8 := dkwX3_again_2 ++ dktX3_again_3
def dkwX3_again_1 : List UInt8 := [180, 0, 84, 27, 46, 42, 180, 0, 154, 159, 0, 5, 3, 172, 3, 61, 28, 16, 71, 162, 0, 26, 42]
abbrev dktX3_again_1 : List UInt8 := dkwX3_again_1 ++ dktX3_again_2
def dkwX3_again_0 : List UInt8 := [42, 3, 181, 0, 87, 27, 3, 4, 184, 0, 97, 153, 0, 25, 42, 180, 0, 80, 27, 51, 153, 0, 16, 42]
abbrev dktX3_again_0 : List UInt8 := dkwX3_again_0 ++ dktX3_again_1
theorem dksX3_again_0 : cX3_again.data.toList.drop 0 = dktX3_again_0 := by decide +kernel
theorem dksX3_again_1 : cX3_again.data.toList.drop 24 = dktX3_again_1 := dk_seg dksX3_again_0 24 rfl rfl
theorem dksX3_again_2 : cX3_again.data.toList.drop 47 = dktX3_again_2 := dk_seg dksX3_again_1 23 rfl rfl
theorem dksX3_again_3 : cX3_again.data.toList.drop 71 = dktX3_again_3 := dk_seg dksX3_again_2 24 rfl rfl
theorem dX3_again_0 : decode cX3_again 0 = .ok (.aload_n 0, 1) := dk_42 (dk_at dksX3_again_0 0 rfl rfl)
theorem dX3_again_1 : decode cX3_again 1 = .ok (.iconst 0, 1) := dk_3 (dk_at dksX3_again_0 1 rfl rfl)
theorem dX3_again_2 : decode cX3_again 2 = .ok (.putfield 87, 3) := dk_181 0 87 (dk_at dksX3_again_0 2 rfl rfl)
theorem dX3_again_5 : decode cX3_again 5 = .ok (.iload_n 1, 1) := dk_27 (dk_at dksX3_again_0 5 rfl rfl)
theorem dX3_again_6 : decode cX3_again 6 = .ok (.iconst 0, 1) := dk_3 (dk_at dksX3_again_0 6 rfl rfl)
theorem dX3_again_7 : decode cX3_again 7 = .ok (.iconst 1, 1) := dk_4 (dk_at dksX3_again_0 7 rfl rfl)
theorem dX3_again_8 : decode cX3_again 8 = .ok (.invokestatic 97, 3) := dk_184 0 97 (dk_at dksX3_again_0 8 rfl rfl)
theorem dX3_again_11 : decode cX3_again 11 = .ok (.ifCond .eq 25, 3) := dk_153 0 25 (dk_at dksX3_again_0 11 rfl rfl)
theorem dX3_again_14 : decode cX3_again 14 = .ok (.aload_n 0, 1) := dk_42 (dk_at dksX3_again_0 14 rfl rfl)
theorem dX3_again_15 : decode cX3_again 15 = .ok (.getfield 80, 3) := dk_180 0 80 (dk_at dksX3_again_0 15 rfl rfl)
theorem dX3_again_18 : decode cX3_again 18 = .ok (.iload_n 1, 1) := dk_27 (dk_at dksX3_again_0 18 rfl rfl)
theorem dX3_again_19 : decode cX3_again 19 = .ok (.baload, 1) := dk_51 (dk_at dksX3_again_0 19 rfl rfl)
theorem dX3_again_20 : decode cX3_again 20 = .ok (.ifCond .eq 16, 3) := dk_153 0 16 (dk_at dksX3_again_0 20 rfl rfl)
theorem dX3_again_23 : decode cX3_again 23 = .ok (.aload_n 0, 1) := dk_42 (dk_at dksX3_again_0 23 rfl rfl)
theorem dX3_again_24 : decode cX3_again 24 = .ok (.getfield 84, 3) := dk_180 0 84 (dk_at dksX3_again_1 0 rfl rfl)
theorem dX3_again_27 : decode cX3_again 27 = .ok (.iload_n 1, 1) := dk_27 (dk_at dksX3_again_1 3 rfl rfl)
theorem dX3_again_28 : decode cX3_again 28 = .ok (.iaload, 1) := dk_46 (dk_at dksX3_again_1 4 rfl rfl)
theorem dX3_again_29 : decode cX3_again 29 = .ok (.aload_n 0, 1) := dk_42 (dk_at dksX3_again_1 5 rfl rfl)
theorem dX3_again_30 : decode cX3_again 30 = .ok (.getfield 154, 3) := dk_180 0 154 (dk_at dksX3_again_1 6 rfl rfl)
theorem dX3_again_33 : decode cX3_again 33 = .ok (.if_icmp .eq 5, 3) := dk_159 0 5 (dk_at dksX3_again_1 9 rfl rfl)
theorem dX3_again_36 : decode cX3_again 36 = .ok (.iconst 0, 1) := dk_3 (dk_at dksX3_again_1 12 rfl rfl)
theorem dX3_again_37 : decode cX3_again 37 = .ok (.ireturn, 1) := dk_172 (dk_at dksX3_again_1 13 rfl rfl)
theorem dX3_again_38 : decode cX3_again 38 = .ok (.iconst 0, 1) := dk_3 (dk_at dksX3_again_1 14 rfl rfl)
theorem dX3_again_39 : decode cX3_again 39 = .ok (.istore_n 2, 1) := dk_61 (dk_at dksX3_again_1 15 rfl rfl)
theorem dX3_again_40 : decode cX3_again 40 = .ok (.iload_n 2, 1) := dk_28 (dk_at dksX3_again_1 16 rfl rfl)
theorem dX3_again_41 : decode cX3_again 41 = .ok (.bipush 71, 2) := dk_16 71 (dk_at dksX3_again_1 17 rfl rfl)
theorem dX3_again_43 : decode cX3_again 43 = .ok (.if_icmp .ge 26, 3) := dk_162 0 26 (dk_at dksX3_again_1 19 rfl rfl)
theorem dX3_again_46 : decode cX3_again 46 = .ok (.aload_n 0, 1) := dk_42 (dk_at dksX3_again_1 22 rfl rfl)
theorem dX3_again_47 : decode cX3_again 47 = .ok (.getfield 9, 3) := dk_180 0 9 (dk_at dksX3_again_2 0 rfl rfl)
theorem dX3_again_50 : decode cX3_again 50 = .ok (.iload_n 2, 1) := dk_28 (dk_at dksX3_again_2 3 rfl rfl)
theorem dX3_again_51 : decode cX3_again 51 = .ok (.aload_n 0, 1) := dk_42 (dk_at dksX3_again_2 4 rfl rfl)
theorem dX3_again_52 : decode cX3_again 52 = .ok (.getfield 77, 3) := dk_180 0 77 (dk_at dksX3_again_2 5 rfl rfl)
theorem dX3_again_55 : decode cX3_again 55 = .ok (.bipush 71, 2) := dk_16 71 (dk_at dksX3_again_2 8 rfl rfl)
theorem dX3_again_57 : decode cX3_again 57 = .ok (.iload_n 1, 1) := dk_27 (dk_at dksX3_again_2 10 rfl rfl)
theorem dX3_again_58 : decode cX3_again 58 = .ok (.imul, 1) := dk_104 (dk_at dksX3_again_2 11 rfl rfl)
theorem dX3_again_59 : decode cX3_again 59 = .ok (.iload_n 2, 1) := dk_28 (dk_at dksX3_again_2 12 rfl rfl)
theorem dX3_again_60 : decode cX3_again 60 = .ok (.iadd, 1) := dk_96 (dk_at dksX3_again_2 13 rfl rfl)
theorem dX3_again_61 : decode cX3_again 61 = .ok (.iaload, 1) := dk_46 (dk_at dksX3_again_2 14 rfl rfl)
theorem dX3_again_62 : decode cX3_again 62 = .ok (.iastore, 1) := dk_79 (dk_at dksX3_again_2 15 rfl rfl)
theorem dX3_again_63 : decode cX3_again 63 = .ok (.iinc 2 1, 3) := dk_132 2 1 (dk_at dksX3_again_2 16 rfl rfl)
theorem dX3_again_66 : decode cX3_again 66 = .ok (.goto (-26), 3) := dk_167 255 230 (dk_at dksX3_again_2 19 rfl rfl)
theorem dX3_again_69 : decode cX3_again 69 = .ok (.aload_n 0, 1) := dk_42 (dk_at dksX3_again_2 22 rfl rfl)
theorem dX3_again_70 : decode cX3_again 70 = .ok (.iconst 0, 1) := dk_3 (dk_at dksX3_again_2 23 rfl rfl)
theorem dX3_again_71 : decode cX3_again 71 = .ok (.putfield 151, 3) := dk_181 0 151 (dk_at dksX3_again_3 0 rfl rfl)
theorem dX3_again_74 : decode cX3_again 74 = .ok (.iconst 1, 1) := dk_4 (dk_at dksX3_again_3 3 rfl rfl)
theorem dX3_again_75 : decode cX3_again 75 = .ok (.ireturn, 1) := dk_172 (dk_at dksX3_again_3 4 rfl rfl)
abbrev cX3_count : ByteArray := prog_9_method_113_code
def yX3_count : MethodName := ⟨RX3, "count", "(I)I"⟩
def dkwX3_count_5 : List UInt8 := [172, 42, 180, 0, 105, 172, 2, 172]
abbrev dktX3_count_5 : List UInt8 := dkwX3_count_5 ++ []
def dkwX3_count_4 : List UInt8 := [42, 182, 1, 56, 172, 42, 180, 0, 157, 172, 42, 180, 0, 151, 172, 42, 180, 1, 98, 172, 42, 180, 0, 91]
abbrev dktX3_count_4 : List UInt8 := dkwX3_count_4 ++ dktX3_count_5
def dkwX3_count_3 : List UInt8 := [180, 0, 9, 29, 46, 96, 61, 132, 3, 1, 167, 255, 238, 28, 172, 42, 42, 180, 0, 9, 182, 1, 8, 172]
abbrev dktX3_count_3 : List UInt8 := dkwX3_count_3 ++ dktX3_count_4
def dkwX3_count_2 : List UInt8 := [42, 180, 0, 94, 172, 42, 180, 0, 9, 16, 70, 46, 172, 3, 62, 29, 16, 14, 162, 0, 18, 28, 42]
abbrev dktX3_count_2 : List UInt8 := dkwX3_count_2 ++ dktX3_count_3
def dkwX3_count_1 : List UInt8 := [170, 0, 0, 0, 0, 0, 0, 133, 0, 0, 0, 0, 0, 0, 0, 9, 0, 0, 0, 56, 0, 0, 0, 61, 0, 0, 0, 69, 0, 0, 0, 94, 0, 0, 0, 103, 0, 0, 0, 108, 0, 0, 0, 113, 0, 0, 0, 118, 0, 0, 0, 123, 0, 0, 0, 128]
abbrev dktX3_count_1 : List UInt8 := dkwX3_count_1 ++ dktX3_count_2
def dkwX3_count_0 : List UInt8 := [42, 3, 181, 0, 87, 3, 61, 27]
abbrev dktX3_count_0 : List UInt8 := dkwX3_count_0 ++ dktX3_count_1
theorem dksX3_count_0 : cX3_count.data.toList.drop 0 = dktX3_count_0 := by decide +kernel
theorem dksX3_count_1 : cX3_count.data.toList.drop 8 = dktX3_count_1 := dk_seg dksX3_count_0 8 rfl rfl
theorem dksX3_count_2 : cX3_count.data.toList.drop 64 = dktX3_count_2 := dk_seg dksX3_count_1 56 rfl rfl
theorem dksX3_count_3 : cX3_count.data.toList.drop 87 = dktX3_count_3 := dk_seg dksX3_count_2 23 rfl rfl
theorem dksX3_count_4 : cX3_count.data.toList.drop 111 = dktX3_count_4 := dk_seg dksX3_count_3 24 rfl rfl
theorem dksX3_count_5 : cX3_count.data.toList.drop 135 = dktX3_count_5 := dk_seg dksX3_count_4 24 rfl rfl
theorem dX3_count_0 : decode cX3_count 0 = .ok (.aload_n 0, 1) := dk_42 (dk_at dksX3_count_0 0 rfl rfl)
theorem dX3_count_1 : decode cX3_count 1 = .ok (.iconst 0, 1) := dk_3 (dk_at dksX3_count_0 1 rfl rfl)
theorem dX3_count_2 : decode cX3_count 2 = .ok (.putfield 87, 3) := dk_181 0 87 (dk_at dksX3_count_0 2 rfl rfl)
theorem dX3_count_5 : decode cX3_count 5 = .ok (.iconst 0, 1) := dk_3 (dk_at dksX3_count_0 5 rfl rfl)
theorem dX3_count_6 : decode cX3_count 6 = .ok (.istore_n 2, 1) := dk_61 (dk_at dksX3_count_0 6 rfl rfl)
theorem dX3_count_7 : decode cX3_count 7 = .ok (.iload_n 1, 1) := dk_27 (dk_at dksX3_count_0 7 rfl rfl)
theorem dX3_count_8 : decode cX3_count 8 = .ok (.tableswitch 133 0 9 #[56, 61, 69, 94, 103, 108, 113, 118, 123, 128], 56) := by decide +kernel
theorem dX3_count_64 : decode cX3_count 64 = .ok (.aload_n 0, 1) := dk_42 (dk_at dksX3_count_2 0 rfl rfl)
theorem dX3_count_65 : decode cX3_count 65 = .ok (.getfield 94, 3) := dk_180 0 94 (dk_at dksX3_count_2 1 rfl rfl)
theorem dX3_count_68 : decode cX3_count 68 = .ok (.ireturn, 1) := dk_172 (dk_at dksX3_count_2 4 rfl rfl)
theorem dX3_count_69 : decode cX3_count 69 = .ok (.aload_n 0, 1) := dk_42 (dk_at dksX3_count_2 5 rfl rfl)
theorem dX3_count_70 : decode cX3_count 70 = .ok (.getfield 9, 3) := dk_180 0 9 (dk_at dksX3_count_2 6 rfl rfl)
theorem dX3_count_73 : decode cX3_count 73 = .ok (.bipush 70, 2) := dk_16 70 (dk_at dksX3_count_2 9 rfl rfl)
theorem dX3_count_75 : decode cX3_count 75 = .ok (.iaload, 1) := dk_46 (dk_at dksX3_count_2 11 rfl rfl)
theorem dX3_count_76 : decode cX3_count 76 = .ok (.ireturn, 1) := dk_172 (dk_at dksX3_count_2 12 rfl rfl)
theorem dX3_count_77 : decode cX3_count 77 = .ok (.iconst 0, 1) := dk_3 (dk_at dksX3_count_2 13 rfl rfl)
theorem dX3_count_78 : decode cX3_count 78 = .ok (.istore_n 3, 1) := dk_62 (dk_at dksX3_count_2 14 rfl rfl)
theorem dX3_count_79 : decode cX3_count 79 = .ok (.iload_n 3, 1) := dk_29 (dk_at dksX3_count_2 15 rfl rfl)
theorem dX3_count_80 : decode cX3_count 80 = .ok (.bipush 14, 2) := dk_16 14 (dk_at dksX3_count_2 16 rfl rfl)
theorem dX3_count_82 : decode cX3_count 82 = .ok (.if_icmp .ge 18, 3) := dk_162 0 18 (dk_at dksX3_count_2 18 rfl rfl)
theorem dX3_count_85 : decode cX3_count 85 = .ok (.iload_n 2, 1) := dk_28 (dk_at dksX3_count_2 21 rfl rfl)
theorem dX3_count_86 : decode cX3_count 86 = .ok (.aload_n 0, 1) := dk_42 (dk_at dksX3_count_2 22 rfl rfl)
theorem dX3_count_87 : decode cX3_count 87 = .ok (.getfield 9, 3) := dk_180 0 9 (dk_at dksX3_count_3 0 rfl rfl)
theorem dX3_count_90 : decode cX3_count 90 = .ok (.iload_n 3, 1) := dk_29 (dk_at dksX3_count_3 3 rfl rfl)
theorem dX3_count_91 : decode cX3_count 91 = .ok (.iaload, 1) := dk_46 (dk_at dksX3_count_3 4 rfl rfl)
theorem dX3_count_92 : decode cX3_count 92 = .ok (.iadd, 1) := dk_96 (dk_at dksX3_count_3 5 rfl rfl)
theorem dX3_count_93 : decode cX3_count 93 = .ok (.istore_n 2, 1) := dk_61 (dk_at dksX3_count_3 6 rfl rfl)
theorem dX3_count_94 : decode cX3_count 94 = .ok (.iinc 3 1, 3) := dk_132 3 1 (dk_at dksX3_count_3 7 rfl rfl)
theorem dX3_count_97 : decode cX3_count 97 = .ok (.goto (-18), 3) := dk_167 255 238 (dk_at dksX3_count_3 10 rfl rfl)
theorem dX3_count_100 : decode cX3_count 100 = .ok (.iload_n 2, 1) := dk_28 (dk_at dksX3_count_3 13 rfl rfl)
theorem dX3_count_101 : decode cX3_count 101 = .ok (.ireturn, 1) := dk_172 (dk_at dksX3_count_3 14 rfl rfl)
theorem dX3_count_102 : decode cX3_count 102 = .ok (.aload_n 0, 1) := dk_42 (dk_at dksX3_count_3 15 rfl rfl)
theorem dX3_count_103 : decode cX3_count 103 = .ok (.aload_n 0, 1) := dk_42 (dk_at dksX3_count_3 16 rfl rfl)
theorem dX3_count_104 : decode cX3_count 104 = .ok (.getfield 9, 3) := dk_180 0 9 (dk_at dksX3_count_3 17 rfl rfl)
theorem dX3_count_107 : decode cX3_count 107 = .ok (.invokevirtual 264, 3) := dk_182 1 8 (dk_at dksX3_count_3 20 rfl rfl)
theorem dX3_count_110 : decode cX3_count 110 = .ok (.ireturn, 1) := dk_172 (dk_at dksX3_count_3 23 rfl rfl)
theorem dX3_count_111 : decode cX3_count 111 = .ok (.aload_n 0, 1) := dk_42 (dk_at dksX3_count_4 0 rfl rfl)
theorem dX3_count_112 : decode cX3_count 112 = .ok (.invokevirtual 312, 3) := dk_182 1 56 (dk_at dksX3_count_4 1 rfl rfl)
theorem dX3_count_115 : decode cX3_count 115 = .ok (.ireturn, 1) := dk_172 (dk_at dksX3_count_4 4 rfl rfl)
theorem dX3_count_116 : decode cX3_count 116 = .ok (.aload_n 0, 1) := dk_42 (dk_at dksX3_count_4 5 rfl rfl)
theorem dX3_count_117 : decode cX3_count 117 = .ok (.getfield 157, 3) := dk_180 0 157 (dk_at dksX3_count_4 6 rfl rfl)
theorem dX3_count_120 : decode cX3_count 120 = .ok (.ireturn, 1) := dk_172 (dk_at dksX3_count_4 9 rfl rfl)
theorem dX3_count_121 : decode cX3_count 121 = .ok (.aload_n 0, 1) := dk_42 (dk_at dksX3_count_4 10 rfl rfl)
theorem dX3_count_122 : decode cX3_count 122 = .ok (.getfield 151, 3) := dk_180 0 151 (dk_at dksX3_count_4 11 rfl rfl)
theorem dX3_count_125 : decode cX3_count 125 = .ok (.ireturn, 1) := dk_172 (dk_at dksX3_count_4 14 rfl rfl)
theorem dX3_count_126 : decode cX3_count 126 = .ok (.aload_n 0, 1) := dk_42 (dk_at dksX3_count_4 15 rfl rfl)
theorem dX3_count_127 : decode cX3_count 127 = .ok (.getfield 354, 3) := dk_180 1 98 (dk_at dksX3_count_4 16 rfl rfl)
theorem dX3_count_130 : decode cX3_count 130 = .ok (.ireturn, 1) := dk_172 (dk_at dksX3_count_4 19 rfl rfl)
theorem dX3_count_131 : decode cX3_count 131 = .ok (.aload_n 0, 1) := dk_42 (dk_at dksX3_count_4 20 rfl rfl)
theorem dX3_count_132 : decode cX3_count 132 = .ok (.getfield 91, 3) := dk_180 0 91 (dk_at dksX3_count_4 21 rfl rfl)
theorem dX3_count_135 : decode cX3_count 135 = .ok (.ireturn, 1) := dk_172 (dk_at dksX3_count_5 0 rfl rfl)
theorem dX3_count_136 : decode cX3_count 136 = .ok (.aload_n 0, 1) := dk_42 (dk_at dksX3_count_5 1 rfl rfl)
theorem dX3_count_137 : decode cX3_count 137 = .ok (.getfield 105, 3) := dk_180 0 105 (dk_at dksX3_count_5 2 rfl rfl)
theorem dX3_count_140 : decode cX3_count 140 = .ok (.ireturn, 1) := dk_172 (dk_at dksX3_count_5 5 rfl rfl)
theorem dX3_count_141 : decode cX3_count 141 = .ok (.iconst (-1), 1) := dk_2 (dk_at dksX3_count_5 6 rfl rfl)
theorem dX3_count_142 : decode cX3_count 142 = .ok (.ireturn, 1) := dk_172 (dk_at dksX3_count_5 7 rfl rfl)
abbrev cX3_row : ByteArray := prog_9_method_114_code
def yX3_row : MethodName := ⟨RX3, "row", "(I)I"⟩
def dkwX3_row_1 : List UInt8 := [46, 167, 0, 7, 42, 182, 0, 214, 172]
abbrev dktX3_row_1 : List UInt8 := dkwX3_row_1 ++ []
def dkwX3_row_0 : List UInt8 := [42, 3, 181, 0, 87, 27, 3, 42, 180, 0, 91, 4, 100, 184, 0, 97, 153, 0, 12, 42, 180, 0, 29, 27]
abbrev dktX3_row_0 : List UInt8 := dkwX3_row_0 ++ dktX3_row_1
theorem dksX3_row_0 : cX3_row.data.toList.drop 0 = dktX3_row_0 := by decide +kernel
theorem dksX3_row_1 : cX3_row.data.toList.drop 24 = dktX3_row_1 := dk_seg dksX3_row_0 24 rfl rfl
theorem dX3_row_0 : decode cX3_row 0 = .ok (.aload_n 0, 1) := dk_42 (dk_at dksX3_row_0 0 rfl rfl)
theorem dX3_row_1 : decode cX3_row 1 = .ok (.iconst 0, 1) := dk_3 (dk_at dksX3_row_0 1 rfl rfl)
theorem dX3_row_2 : decode cX3_row 2 = .ok (.putfield 87, 3) := dk_181 0 87 (dk_at dksX3_row_0 2 rfl rfl)
theorem dX3_row_5 : decode cX3_row 5 = .ok (.iload_n 1, 1) := dk_27 (dk_at dksX3_row_0 5 rfl rfl)
theorem dX3_row_6 : decode cX3_row 6 = .ok (.iconst 0, 1) := dk_3 (dk_at dksX3_row_0 6 rfl rfl)
theorem dX3_row_7 : decode cX3_row 7 = .ok (.aload_n 0, 1) := dk_42 (dk_at dksX3_row_0 7 rfl rfl)
theorem dX3_row_8 : decode cX3_row 8 = .ok (.getfield 91, 3) := dk_180 0 91 (dk_at dksX3_row_0 8 rfl rfl)
theorem dX3_row_11 : decode cX3_row 11 = .ok (.iconst 1, 1) := dk_4 (dk_at dksX3_row_0 11 rfl rfl)
theorem dX3_row_12 : decode cX3_row 12 = .ok (.isub, 1) := dk_100 (dk_at dksX3_row_0 12 rfl rfl)
theorem dX3_row_13 : decode cX3_row 13 = .ok (.invokestatic 97, 3) := dk_184 0 97 (dk_at dksX3_row_0 13 rfl rfl)
theorem dX3_row_16 : decode cX3_row 16 = .ok (.ifCond .eq 12, 3) := dk_153 0 12 (dk_at dksX3_row_0 16 rfl rfl)
theorem dX3_row_19 : decode cX3_row 19 = .ok (.aload_n 0, 1) := dk_42 (dk_at dksX3_row_0 19 rfl rfl)
theorem dX3_row_20 : decode cX3_row 20 = .ok (.getfield 29, 3) := dk_180 0 29 (dk_at dksX3_row_0 20 rfl rfl)
theorem dX3_row_23 : decode cX3_row 23 = .ok (.iload_n 1, 1) := dk_27 (dk_at dksX3_row_0 23 rfl rfl)
theorem dX3_row_24 : decode cX3_row 24 = .ok (.iaload, 1) := dk_46 (dk_at dksX3_row_1 0 rfl rfl)
theorem dX3_row_25 : decode cX3_row 25 = .ok (.goto 7, 3) := dk_167 0 7 (dk_at dksX3_row_1 1 rfl rfl)
theorem dX3_row_28 : decode cX3_row 28 = .ok (.aload_n 0, 1) := dk_42 (dk_at dksX3_row_1 4 rfl rfl)
theorem dX3_row_29 : decode cX3_row 29 = .ok (.invokevirtual 214, 3) := dk_182 0 214 (dk_at dksX3_row_1 5 rfl rfl)
theorem dX3_row_32 : decode cX3_row 32 = .ok (.ireturn, 1) := dk_172 (dk_at dksX3_row_1 8 rfl rfl)
theorem q91 : (Jvm.Cond.initialized "SnowForSummerModel") ∈ lw_all := lw_g (lw_at lw_m1 3 rfl) rfl
theorem q1034 : (Jvm.Cond.instantiable "SnowForSummerModel" (52 : Nat)) ∈ lw_all := lw_g (lw_at lw_m4 226 rfl) rfl
theorem q1036 : (Jvm.Cond.instanceMethod ({ cls := "SnowForSummerModel", name := "<init>", desc := "()V" } : Jvm.MethodName)) ∈ lw_all := lw_g (lw_at lw_m4 228 rfl) rfl
theorem q1037 : (Jvm.Cond.code ({ cls := "SnowForSummerModel", name := "<init>", desc := "()V" } : Jvm.MethodName) prog_9_method_1_code (1 : Nat) (Option.none : Option Jvm.ClassFile.FieldType)) ∈ lw_all := lw_g (lw_at lw_m4 229 rfl) rfl
theorem q1038 : (Jvm.Cond.methodLink "SnowForSummerModel" (3 : Nat) ({ cls := "java/lang/Object", name := "<init>", desc := "()V" } : Jvm.MethodName)) ∈ lw_all := lw_g (lw_at lw_m4 230 rfl) rfl
theorem q1039 : (Jvm.Cond.fieldLink "SnowForSummerModel" (9 : Nat) "SnowForSummerModel" "now" "[I") ∈ lw_all := lw_g (lw_at lw_m4 231 rfl) rfl
theorem q1040 : (Jvm.Cond.fieldLink "SnowForSummerModel" (94 : Nat) "SnowForSummerModel" "houses" "I") ∈ lw_all := lw_g (lw_at lw_m4 232 rfl) rfl
theorem q1041 : (Jvm.Cond.fieldLink "SnowForSummerModel" (13 : Nat) "SnowForSummerModel" "hold" "[I") ∈ lw_all := lw_g (lw_at lw_m4 233 rfl) rfl
theorem q1042 : (Jvm.Cond.fieldLink "SnowForSummerModel" (16 : Nat) "SnowForSummerModel" "below" "[I") ∈ lw_all := lw_g (lw_at lw_m4 234 rfl) rfl
theorem q1043 : (Jvm.Cond.fieldLink "SnowForSummerModel" (19 : Nat) "SnowForSummerModel" "hay" "[I") ∈ lw_all := lw_g (lw_at lw_m4 235 rfl) rfl
theorem q1044 : (Jvm.Cond.fieldLink "SnowForSummerModel" (22 : Nat) "SnowForSummerModel" "weather" "[I") ∈ lw_all := lw_g (lw_at lw_m4 236 rfl) rfl
theorem q1045 : (Jvm.Cond.fieldLink "SnowForSummerModel" (157 : Nat) "SnowForSummerModel" "weatherMany" "I") ∈ lw_all := lw_g (lw_at lw_m4 237 rfl) rfl
theorem q1046 : (Jvm.Cond.fieldLink "SnowForSummerModel" (25 : Nat) "SnowForSummerModel" "text" "[B") ∈ lw_all := lw_g (lw_at lw_m4 238 rfl) rfl
theorem q1047 : (Jvm.Cond.fieldLink "SnowForSummerModel" (105 : Nat) "SnowForSummerModel" "typed" "I") ∈ lw_all := lw_g (lw_at lw_m4 239 rfl) rfl
theorem q1048 : (Jvm.Cond.fieldLink "SnowForSummerModel" (29 : Nat) "SnowForSummerModel" "row" "[I") ∈ lw_all := lw_g (lw_at lw_m5 0 rfl) rfl
theorem q1049 : (Jvm.Cond.fieldLink "SnowForSummerModel" (91 : Nat) "SnowForSummerModel" "rowMany" "I") ∈ lw_all := lw_g (lw_at lw_m5 1 rfl) rfl
theorem q1050 : (Jvm.Cond.fieldLink "SnowForSummerModel" (87 : Nat) "SnowForSummerModel" "thrown" "I") ∈ lw_all := lw_g (lw_at lw_m5 2 rfl) rfl
theorem q1051 : (Jvm.Cond.fieldLink "SnowForSummerModel" (108 : Nat) "SnowForSummerModel" "read" "[B") ∈ lw_all := lw_g (lw_at lw_m5 3 rfl) rfl
theorem q1052 : (Jvm.Cond.fieldLink "SnowForSummerModel" (111 : Nat) "SnowForSummerModel" "length" "I") ∈ lw_all := lw_g (lw_at lw_m5 4 rfl) rfl
theorem q1053 : (Jvm.Cond.fieldLink "SnowForSummerModel" (114 : Nat) "SnowForSummerModel" "top" "I") ∈ lw_all := lw_g (lw_at lw_m5 5 rfl) rfl
theorem q1054 : (Jvm.Cond.fieldLink "SnowForSummerModel" (117 : Nat) "SnowForSummerModel" "at" "I") ∈ lw_all := lw_g (lw_at lw_m5 6 rfl) rfl
theorem q1055 : (Jvm.Cond.fieldLink "SnowForSummerModel" (120 : Nat) "SnowForSummerModel" "wrong" "I") ∈ lw_all := lw_g (lw_at lw_m5 7 rfl) rfl
theorem q1056 : (Jvm.Cond.fieldLink "SnowForSummerModel" (32 : Nat) "SnowForSummerModel" "comes" "[I") ∈ lw_all := lw_g (lw_at lw_m5 8 rfl) rfl
theorem q1057 : (Jvm.Cond.fieldLink "SnowForSummerModel" (35 : Nat) "SnowForSummerModel" "rule" "[B") ∈ lw_all := lw_g (lw_at lw_m5 9 rfl) rfl
theorem q1058 : (Jvm.Cond.fieldLink "SnowForSummerModel" (211 : Nat) "SnowForSummerModel" "ruleSize" "I") ∈ lw_all := lw_g (lw_at lw_m5 10 rfl) rfl
theorem q1059 : (Jvm.Cond.fieldLink "SnowForSummerModel" (183 : Nat) "SnowForSummerModel" "isAsked" "Z") ∈ lw_all := lw_g (lw_at lw_m5 11 rfl) rfl
theorem q1060 : (Jvm.Cond.fieldLink "SnowForSummerModel" (190 : Nat) "SnowForSummerModel" "askedInches" "I") ∈ lw_all := lw_g (lw_at lw_m5 12 rfl) rfl
theorem q1061 : (Jvm.Cond.fieldLink "SnowForSummerModel" (193 : Nat) "SnowForSummerModel" "askedPath" "I") ∈ lw_all := lw_g (lw_at lw_m5 13 rfl) rfl
theorem q1062 : (Jvm.Cond.fieldLink "SnowForSummerModel" (196 : Nat) "SnowForSummerModel" "askedDay" "I") ∈ lw_all := lw_g (lw_at lw_m5 14 rfl) rfl
theorem q1063 : (Jvm.Cond.fieldLink "SnowForSummerModel" (202 : Nat) "SnowForSummerModel" "askedRoof" "I") ∈ lw_all := lw_g (lw_at lw_m5 15 rfl) rfl
theorem q1064 : (Jvm.Cond.fieldLink "SnowForSummerModel" (208 : Nat) "SnowForSummerModel" "askedBelow" "I") ∈ lw_all := lw_g (lw_at lw_m5 16 rfl) rfl
theorem q1065 : (Jvm.Cond.fieldLink "SnowForSummerModel" (205 : Nat) "SnowForSummerModel" "askedLoose" "I") ∈ lw_all := lw_g (lw_at lw_m5 17 rfl) rfl
theorem q1066 : (Jvm.Cond.fieldLink "SnowForSummerModel" (237 : Nat) "SnowForSummerModel" "slidesMany" "I") ∈ lw_all := lw_g (lw_at lw_m5 18 rfl) rfl
theorem q1067 : (Jvm.Cond.fieldLink "SnowForSummerModel" (240 : Nat) "SnowForSummerModel" "owedNow" "I") ∈ lw_all := lw_g (lw_at lw_m5 19 rfl) rfl
theorem q1068 : (Jvm.Cond.fieldLink "SnowForSummerModel" (38 : Nat) "SnowForSummerModel" "owedBy" "[I") ∈ lw_all := lw_g (lw_at lw_m5 20 rfl) rfl
theorem q1069 : (Jvm.Cond.fieldLink "SnowForSummerModel" (243 : Nat) "SnowForSummerModel" "slidInto" "I") ∈ lw_all := lw_g (lw_at lw_m5 21 rfl) rfl
theorem q1070 : (Jvm.Cond.fieldLink "SnowForSummerModel" (41 : Nat) "SnowForSummerModel" "undos" "[I") ∈ lw_all := lw_g (lw_at lw_m5 22 rfl) rfl
theorem q1071 : (Jvm.Cond.fieldLink "SnowForSummerModel" (151 : Nat) "SnowForSummerModel" "undoMany" "I") ∈ lw_all := lw_g (lw_at lw_m5 23 rfl) rfl
theorem q1072 : (Jvm.Cond.fieldLink "SnowForSummerModel" (44 : Nat) "SnowForSummerModel" "aside" "[I") ∈ lw_all := lw_g (lw_at lw_m5 24 rfl) rfl
theorem q1073 : (Jvm.Cond.fieldLink "SnowForSummerModel" (47 : Nat) "SnowForSummerModel" "acts" "[I") ∈ lw_all := lw_g (lw_at lw_m5 25 rfl) rfl
theorem q1074 : (Jvm.Cond.fieldLink "SnowForSummerModel" (50 : Nat) "SnowForSummerModel" "ring" "[I") ∈ lw_all := lw_g (lw_at lw_m5 26 rfl) rfl
theorem q1075 : (Jvm.Cond.fieldLink "SnowForSummerModel" (53 : Nat) "SnowForSummerModel" "bestRing" "[I") ∈ lw_all := lw_g (lw_at lw_m5 27 rfl) rfl
theorem q1076 : (Jvm.Cond.fieldLink "SnowForSummerModel" (296 : Nat) "SnowForSummerModel" "bestLength" "I") ∈ lw_all := lw_g (lw_at lw_m5 28 rfl) rfl
theorem q1077 : (Jvm.Cond.fieldLink "SnowForSummerModel" (56 : Nat) "SnowForSummerModel" "nets" "[I") ∈ lw_all := lw_g (lw_at lw_m5 29 rfl) rfl
theorem q1078 : (Jvm.Cond.fieldLink "SnowForSummerModel" (59 : Nat) "SnowForSummerModel" "worked" "[I") ∈ lw_all := lw_g (lw_at lw_m5 30 rfl) rfl
theorem q1079 : (Jvm.Cond.fieldLink "SnowForSummerModel" (62 : Nat) "SnowForSummerModel" "then" "[I") ∈ lw_all := lw_g (lw_at lw_m5 31 rfl) rfl
theorem q1080 : (Jvm.Cond.fieldLink "SnowForSummerModel" (65 : Nat) "SnowForSummerModel" "plan" "[I") ∈ lw_all := lw_g (lw_at lw_m5 32 rfl) rfl
theorem q1081 : (Jvm.Cond.fieldLink "SnowForSummerModel" (68 : Nat) "SnowForSummerModel" "bestPlan" "[I") ∈ lw_all := lw_g (lw_at lw_m5 33 rfl) rfl
theorem q1082 : (Jvm.Cond.fieldLink "SnowForSummerModel" (71 : Nat) "SnowForSummerModel" "tried" "[I") ∈ lw_all := lw_g (lw_at lw_m5 34 rfl) rfl
theorem q1083 : (Jvm.Cond.fieldLink "SnowForSummerModel" (339 : Nat) "SnowForSummerModel" "setOff" "I") ∈ lw_all := lw_g (lw_at lw_m5 35 rfl) rfl
theorem q1084 : (Jvm.Cond.fieldLink "SnowForSummerModel" (342 : Nat) "SnowForSummerModel" "letLie" "I") ∈ lw_all := lw_g (lw_at lw_m5 36 rfl) rfl
theorem q1085 : (Jvm.Cond.fieldLink "SnowForSummerModel" (74 : Nat) "SnowForSummerModel" "tracks" "[I") ∈ lw_all := lw_g (lw_at lw_m5 37 rfl) rfl
theorem q1086 : (Jvm.Cond.fieldLink "SnowForSummerModel" (354 : Nat) "SnowForSummerModel" "trackMany" "I") ∈ lw_all := lw_g (lw_at lw_m5 38 rfl) rfl
theorem q1087 : (Jvm.Cond.fieldLink "SnowForSummerModel" (154 : Nat) "SnowForSummerModel" "came" "I") ∈ lw_all := lw_g (lw_at lw_m5 39 rfl) rfl
theorem q1088 : (Jvm.Cond.fieldLink "SnowForSummerModel" (77 : Nat) "SnowForSummerModel" "kept" "[I") ∈ lw_all := lw_g (lw_at lw_m5 40 rfl) rfl
theorem q1089 : (Jvm.Cond.fieldLink "SnowForSummerModel" (80 : Nat) "SnowForSummerModel" "isKept" "[Z") ∈ lw_all := lw_g (lw_at lw_m5 41 rfl) rfl
theorem q1090 : (Jvm.Cond.fieldLink "SnowForSummerModel" (84 : Nat) "SnowForSummerModel" "keptCame" "[I") ∈ lw_all := lw_g (lw_at lw_m5 42 rfl) rfl
theorem q1091 : (Jvm.Cond.laysFinal "SnowForSummerModel" "SnowForSummerModel" "now" "[I") ∈ lw_all := lw_g (lw_at lw_m5 43 rfl) rfl
theorem q1092 : (Jvm.Cond.soleField "SnowForSummerModel" "now") ∈ lw_all := lw_g (lw_at lw_m5 44 rfl) rfl
theorem q1093 : (Jvm.Cond.lays "SnowForSummerModel" "SnowForSummerModel" "houses" "I") ∈ lw_all := lw_g (lw_at lw_m5 45 rfl) rfl
theorem q1094 : (Jvm.Cond.soleField "SnowForSummerModel" "houses") ∈ lw_all := lw_g (lw_at lw_m5 46 rfl) rfl
theorem q1095 : (Jvm.Cond.laysFinal "SnowForSummerModel" "SnowForSummerModel" "hold" "[I") ∈ lw_all := lw_g (lw_at lw_m5 47 rfl) rfl
theorem q1096 : (Jvm.Cond.soleField "SnowForSummerModel" "hold") ∈ lw_all := lw_g (lw_at lw_m5 48 rfl) rfl
theorem q1097 : (Jvm.Cond.laysFinal "SnowForSummerModel" "SnowForSummerModel" "below" "[I") ∈ lw_all := lw_g (lw_at lw_m5 49 rfl) rfl
theorem q1098 : (Jvm.Cond.soleField "SnowForSummerModel" "below") ∈ lw_all := lw_g (lw_at lw_m5 50 rfl) rfl
theorem q1099 : (Jvm.Cond.laysFinal "SnowForSummerModel" "SnowForSummerModel" "hay" "[I") ∈ lw_all := lw_g (lw_at lw_m5 51 rfl) rfl
theorem q1100 : (Jvm.Cond.soleField "SnowForSummerModel" "hay") ∈ lw_all := lw_g (lw_at lw_m5 52 rfl) rfl
theorem q1101 : (Jvm.Cond.laysFinal "SnowForSummerModel" "SnowForSummerModel" "weather" "[I") ∈ lw_all := lw_g (lw_at lw_m5 53 rfl) rfl
theorem q1102 : (Jvm.Cond.soleField "SnowForSummerModel" "weather") ∈ lw_all := lw_g (lw_at lw_m5 54 rfl) rfl
theorem q1103 : (Jvm.Cond.lays "SnowForSummerModel" "SnowForSummerModel" "weatherMany" "I") ∈ lw_all := lw_g (lw_at lw_m5 55 rfl) rfl
theorem q1104 : (Jvm.Cond.soleField "SnowForSummerModel" "weatherMany") ∈ lw_all := lw_g (lw_at lw_m5 56 rfl) rfl
theorem q1105 : (Jvm.Cond.laysFinal "SnowForSummerModel" "SnowForSummerModel" "text" "[B") ∈ lw_all := lw_g (lw_at lw_m5 57 rfl) rfl
theorem q1106 : (Jvm.Cond.soleField "SnowForSummerModel" "text") ∈ lw_all := lw_g (lw_at lw_m5 58 rfl) rfl
theorem q1107 : (Jvm.Cond.lays "SnowForSummerModel" "SnowForSummerModel" "typed" "I") ∈ lw_all := lw_g (lw_at lw_m5 59 rfl) rfl
theorem q1108 : (Jvm.Cond.soleField "SnowForSummerModel" "typed") ∈ lw_all := lw_g (lw_at lw_m5 60 rfl) rfl
theorem q1109 : (Jvm.Cond.laysFinal "SnowForSummerModel" "SnowForSummerModel" "row" "[I") ∈ lw_all := lw_g (lw_at lw_m5 61 rfl) rfl
theorem q1110 : (Jvm.Cond.soleField "SnowForSummerModel" "row") ∈ lw_all := lw_g (lw_at lw_m5 62 rfl) rfl
theorem q1111 : (Jvm.Cond.lays "SnowForSummerModel" "SnowForSummerModel" "rowMany" "I") ∈ lw_all := lw_g (lw_at lw_m5 63 rfl) rfl
theorem q1112 : (Jvm.Cond.soleField "SnowForSummerModel" "rowMany") ∈ lw_all := lw_g (lw_at lw_m5 64 rfl) rfl
theorem q1113 : (Jvm.Cond.lays "SnowForSummerModel" "SnowForSummerModel" "thrown" "I") ∈ lw_all := lw_g (lw_at lw_m5 65 rfl) rfl
theorem q1114 : (Jvm.Cond.soleField "SnowForSummerModel" "thrown") ∈ lw_all := lw_g (lw_at lw_m5 66 rfl) rfl
theorem q1115 : (Jvm.Cond.lays "SnowForSummerModel" "SnowForSummerModel" "read" "[B") ∈ lw_all := lw_g (lw_at lw_m5 67 rfl) rfl
theorem q1116 : (Jvm.Cond.soleField "SnowForSummerModel" "read") ∈ lw_all := lw_g (lw_at lw_m5 68 rfl) rfl
theorem q1117 : (Jvm.Cond.lays "SnowForSummerModel" "SnowForSummerModel" "length" "I") ∈ lw_all := lw_g (lw_at lw_m5 69 rfl) rfl
theorem q1118 : (Jvm.Cond.soleField "SnowForSummerModel" "length") ∈ lw_all := lw_g (lw_at lw_m5 70 rfl) rfl
theorem q1119 : (Jvm.Cond.lays "SnowForSummerModel" "SnowForSummerModel" "top" "I") ∈ lw_all := lw_g (lw_at lw_m5 71 rfl) rfl
theorem q1120 : (Jvm.Cond.soleField "SnowForSummerModel" "top") ∈ lw_all := lw_g (lw_at lw_m5 72 rfl) rfl
theorem q1121 : (Jvm.Cond.lays "SnowForSummerModel" "SnowForSummerModel" "at" "I") ∈ lw_all := lw_g (lw_at lw_m5 73 rfl) rfl
theorem q1122 : (Jvm.Cond.soleField "SnowForSummerModel" "at") ∈ lw_all := lw_g (lw_at lw_m5 74 rfl) rfl
theorem q1123 : (Jvm.Cond.lays "SnowForSummerModel" "SnowForSummerModel" "wrong" "I") ∈ lw_all := lw_g (lw_at lw_m5 75 rfl) rfl
theorem q1124 : (Jvm.Cond.soleField "SnowForSummerModel" "wrong") ∈ lw_all := lw_g (lw_at lw_m5 76 rfl) rfl
theorem q1125 : (Jvm.Cond.laysFinal "SnowForSummerModel" "SnowForSummerModel" "comes" "[I") ∈ lw_all := lw_g (lw_at lw_m5 77 rfl) rfl
theorem q1126 : (Jvm.Cond.soleField "SnowForSummerModel" "comes") ∈ lw_all := lw_g (lw_at lw_m5 78 rfl) rfl
theorem q1127 : (Jvm.Cond.laysFinal "SnowForSummerModel" "SnowForSummerModel" "rule" "[B") ∈ lw_all := lw_g (lw_at lw_m5 79 rfl) rfl
theorem q1128 : (Jvm.Cond.soleField "SnowForSummerModel" "rule") ∈ lw_all := lw_g (lw_at lw_m5 80 rfl) rfl
theorem q1129 : (Jvm.Cond.lays "SnowForSummerModel" "SnowForSummerModel" "ruleSize" "I") ∈ lw_all := lw_g (lw_at lw_m5 81 rfl) rfl
theorem q1130 : (Jvm.Cond.soleField "SnowForSummerModel" "ruleSize") ∈ lw_all := lw_g (lw_at lw_m5 82 rfl) rfl
theorem q1131 : (Jvm.Cond.lays "SnowForSummerModel" "SnowForSummerModel" "isAsked" "Z") ∈ lw_all := lw_g (lw_at lw_m5 83 rfl) rfl
theorem q1132 : (Jvm.Cond.soleField "SnowForSummerModel" "isAsked") ∈ lw_all := lw_g (lw_at lw_m5 84 rfl) rfl
theorem q1133 : (Jvm.Cond.lays "SnowForSummerModel" "SnowForSummerModel" "askedInches" "I") ∈ lw_all := lw_g (lw_at lw_m5 85 rfl) rfl
theorem q1134 : (Jvm.Cond.soleField "SnowForSummerModel" "askedInches") ∈ lw_all := lw_g (lw_at lw_m5 86 rfl) rfl
theorem q1135 : (Jvm.Cond.lays "SnowForSummerModel" "SnowForSummerModel" "askedPath" "I") ∈ lw_all := lw_g (lw_at lw_m5 87 rfl) rfl
theorem q1136 : (Jvm.Cond.soleField "SnowForSummerModel" "askedPath") ∈ lw_all := lw_g (lw_at lw_m5 88 rfl) rfl
theorem q1137 : (Jvm.Cond.lays "SnowForSummerModel" "SnowForSummerModel" "askedDay" "I") ∈ lw_all := lw_g (lw_at lw_m5 89 rfl) rfl
theorem q1138 : (Jvm.Cond.soleField "SnowForSummerModel" "askedDay") ∈ lw_all := lw_g (lw_at lw_m5 90 rfl) rfl
theorem q1139 : (Jvm.Cond.lays "SnowForSummerModel" "SnowForSummerModel" "askedRoof" "I") ∈ lw_all := lw_g (lw_at lw_m5 91 rfl) rfl
theorem q1140 : (Jvm.Cond.soleField "SnowForSummerModel" "askedRoof") ∈ lw_all := lw_g (lw_at lw_m5 92 rfl) rfl
theorem q1141 : (Jvm.Cond.lays "SnowForSummerModel" "SnowForSummerModel" "askedBelow" "I") ∈ lw_all := lw_g (lw_at lw_m5 93 rfl) rfl
theorem q1142 : (Jvm.Cond.soleField "SnowForSummerModel" "askedBelow") ∈ lw_all := lw_g (lw_at lw_m5 94 rfl) rfl
theorem q1143 : (Jvm.Cond.lays "SnowForSummerModel" "SnowForSummerModel" "askedLoose" "I") ∈ lw_all := lw_g (lw_at lw_m5 95 rfl) rfl
theorem q1144 : (Jvm.Cond.soleField "SnowForSummerModel" "askedLoose") ∈ lw_all := lw_g (lw_at lw_m5 96 rfl) rfl
theorem q1145 : (Jvm.Cond.lays "SnowForSummerModel" "SnowForSummerModel" "slidesMany" "I") ∈ lw_all := lw_g (lw_at lw_m5 97 rfl) rfl
theorem q1146 : (Jvm.Cond.soleField "SnowForSummerModel" "slidesMany") ∈ lw_all := lw_g (lw_at lw_m5 98 rfl) rfl
theorem q1147 : (Jvm.Cond.lays "SnowForSummerModel" "SnowForSummerModel" "owedNow" "I") ∈ lw_all := lw_g (lw_at lw_m5 99 rfl) rfl
theorem q1148 : (Jvm.Cond.soleField "SnowForSummerModel" "owedNow") ∈ lw_all := lw_g (lw_at lw_m5 100 rfl) rfl
theorem q1149 : (Jvm.Cond.laysFinal "SnowForSummerModel" "SnowForSummerModel" "owedBy" "[I") ∈ lw_all := lw_g (lw_at lw_m5 101 rfl) rfl
theorem q1150 : (Jvm.Cond.soleField "SnowForSummerModel" "owedBy") ∈ lw_all := lw_g (lw_at lw_m5 102 rfl) rfl
theorem q1151 : (Jvm.Cond.lays "SnowForSummerModel" "SnowForSummerModel" "slidInto" "I") ∈ lw_all := lw_g (lw_at lw_m5 103 rfl) rfl
theorem q1152 : (Jvm.Cond.soleField "SnowForSummerModel" "slidInto") ∈ lw_all := lw_g (lw_at lw_m5 104 rfl) rfl
theorem q1153 : (Jvm.Cond.laysFinal "SnowForSummerModel" "SnowForSummerModel" "undos" "[I") ∈ lw_all := lw_g (lw_at lw_m5 105 rfl) rfl
theorem q1154 : (Jvm.Cond.soleField "SnowForSummerModel" "undos") ∈ lw_all := lw_g (lw_at lw_m5 106 rfl) rfl
theorem q1155 : (Jvm.Cond.lays "SnowForSummerModel" "SnowForSummerModel" "undoMany" "I") ∈ lw_all := lw_g (lw_at lw_m5 107 rfl) rfl
theorem q1156 : (Jvm.Cond.soleField "SnowForSummerModel" "undoMany") ∈ lw_all := lw_g (lw_at lw_m5 108 rfl) rfl
theorem q1157 : (Jvm.Cond.laysFinal "SnowForSummerModel" "SnowForSummerModel" "aside" "[I") ∈ lw_all := lw_g (lw_at lw_m5 109 rfl) rfl
theorem q1158 : (Jvm.Cond.soleField "SnowForSummerModel" "aside") ∈ lw_all := lw_g (lw_at lw_m5 110 rfl) rfl
theorem q1159 : (Jvm.Cond.laysFinal "SnowForSummerModel" "SnowForSummerModel" "acts" "[I") ∈ lw_all := lw_g (lw_at lw_m5 111 rfl) rfl
theorem q1160 : (Jvm.Cond.soleField "SnowForSummerModel" "acts") ∈ lw_all := lw_g (lw_at lw_m5 112 rfl) rfl
theorem q1161 : (Jvm.Cond.laysFinal "SnowForSummerModel" "SnowForSummerModel" "ring" "[I") ∈ lw_all := lw_g (lw_at lw_m5 113 rfl) rfl
theorem q1162 : (Jvm.Cond.soleField "SnowForSummerModel" "ring") ∈ lw_all := lw_g (lw_at lw_m5 114 rfl) rfl
theorem q1163 : (Jvm.Cond.laysFinal "SnowForSummerModel" "SnowForSummerModel" "bestRing" "[I") ∈ lw_all := lw_g (lw_at lw_m5 115 rfl) rfl
theorem q1164 : (Jvm.Cond.soleField "SnowForSummerModel" "bestRing") ∈ lw_all := lw_g (lw_at lw_m5 116 rfl) rfl
theorem q1165 : (Jvm.Cond.lays "SnowForSummerModel" "SnowForSummerModel" "bestLength" "I") ∈ lw_all := lw_g (lw_at lw_m5 117 rfl) rfl
theorem q1166 : (Jvm.Cond.soleField "SnowForSummerModel" "bestLength") ∈ lw_all := lw_g (lw_at lw_m5 118 rfl) rfl
theorem q1167 : (Jvm.Cond.laysFinal "SnowForSummerModel" "SnowForSummerModel" "nets" "[I") ∈ lw_all := lw_g (lw_at lw_m5 119 rfl) rfl
theorem q1168 : (Jvm.Cond.soleField "SnowForSummerModel" "nets") ∈ lw_all := lw_g (lw_at lw_m5 120 rfl) rfl
theorem q1169 : (Jvm.Cond.laysFinal "SnowForSummerModel" "SnowForSummerModel" "worked" "[I") ∈ lw_all := lw_g (lw_at lw_m5 121 rfl) rfl
theorem q1170 : (Jvm.Cond.soleField "SnowForSummerModel" "worked") ∈ lw_all := lw_g (lw_at lw_m5 122 rfl) rfl
theorem q1171 : (Jvm.Cond.laysFinal "SnowForSummerModel" "SnowForSummerModel" "then" "[I") ∈ lw_all := lw_g (lw_at lw_m5 123 rfl) rfl
theorem q1172 : (Jvm.Cond.soleField "SnowForSummerModel" "then") ∈ lw_all := lw_g (lw_at lw_m5 124 rfl) rfl
theorem q1173 : (Jvm.Cond.laysFinal "SnowForSummerModel" "SnowForSummerModel" "plan" "[I") ∈ lw_all := lw_g (lw_at lw_m5 125 rfl) rfl
theorem q1174 : (Jvm.Cond.soleField "SnowForSummerModel" "plan") ∈ lw_all := lw_g (lw_at lw_m5 126 rfl) rfl
theorem q1175 : (Jvm.Cond.laysFinal "SnowForSummerModel" "SnowForSummerModel" "bestPlan" "[I") ∈ lw_all := lw_g (lw_at lw_m5 127 rfl) rfl
theorem q1176 : (Jvm.Cond.soleField "SnowForSummerModel" "bestPlan") ∈ lw_all := lw_g (lw_at lw_m5 128 rfl) rfl
theorem q1177 : (Jvm.Cond.laysFinal "SnowForSummerModel" "SnowForSummerModel" "tried" "[I") ∈ lw_all := lw_g (lw_at lw_m5 129 rfl) rfl
theorem q1178 : (Jvm.Cond.soleField "SnowForSummerModel" "tried") ∈ lw_all := lw_g (lw_at lw_m5 130 rfl) rfl
theorem q1179 : (Jvm.Cond.lays "SnowForSummerModel" "SnowForSummerModel" "setOff" "I") ∈ lw_all := lw_g (lw_at lw_m5 131 rfl) rfl
theorem q1180 : (Jvm.Cond.soleField "SnowForSummerModel" "setOff") ∈ lw_all := lw_g (lw_at lw_m5 132 rfl) rfl
theorem q1181 : (Jvm.Cond.lays "SnowForSummerModel" "SnowForSummerModel" "letLie" "I") ∈ lw_all := lw_g (lw_at lw_m5 133 rfl) rfl
theorem q1182 : (Jvm.Cond.soleField "SnowForSummerModel" "letLie") ∈ lw_all := lw_g (lw_at lw_m5 134 rfl) rfl
theorem q1183 : (Jvm.Cond.laysFinal "SnowForSummerModel" "SnowForSummerModel" "tracks" "[I") ∈ lw_all := lw_g (lw_at lw_m5 135 rfl) rfl
theorem q1184 : (Jvm.Cond.soleField "SnowForSummerModel" "tracks") ∈ lw_all := lw_g (lw_at lw_m5 136 rfl) rfl
theorem q1185 : (Jvm.Cond.lays "SnowForSummerModel" "SnowForSummerModel" "trackMany" "I") ∈ lw_all := lw_g (lw_at lw_m5 137 rfl) rfl
theorem q1186 : (Jvm.Cond.soleField "SnowForSummerModel" "trackMany") ∈ lw_all := lw_g (lw_at lw_m5 138 rfl) rfl
theorem q1187 : (Jvm.Cond.lays "SnowForSummerModel" "SnowForSummerModel" "came" "I") ∈ lw_all := lw_g (lw_at lw_m5 139 rfl) rfl
theorem q1188 : (Jvm.Cond.soleField "SnowForSummerModel" "came") ∈ lw_all := lw_g (lw_at lw_m5 140 rfl) rfl
theorem q1189 : (Jvm.Cond.laysFinal "SnowForSummerModel" "SnowForSummerModel" "kept" "[I") ∈ lw_all := lw_g (lw_at lw_m5 141 rfl) rfl
theorem q1190 : (Jvm.Cond.soleField "SnowForSummerModel" "kept") ∈ lw_all := lw_g (lw_at lw_m5 142 rfl) rfl
theorem q1191 : (Jvm.Cond.laysFinal "SnowForSummerModel" "SnowForSummerModel" "isKept" "[Z") ∈ lw_all := lw_g (lw_at lw_m5 143 rfl) rfl
theorem q1192 : (Jvm.Cond.soleField "SnowForSummerModel" "isKept") ∈ lw_all := lw_g (lw_at lw_m5 144 rfl) rfl
theorem q1193 : (Jvm.Cond.laysFinal "SnowForSummerModel" "SnowForSummerModel" "keptCame" "[I") ∈ lw_all := lw_g (lw_at lw_m5 145 rfl) rfl
theorem q1194 : (Jvm.Cond.soleField "SnowForSummerModel" "keptCame") ∈ lw_all := lw_g (lw_at lw_m5 146 rfl) rfl
theorem q1195 : (Jvm.Cond.superclass "SnowForSummerModel" "java/lang/Object") ∈ lw_all := lw_g (lw_at lw_m5 147 rfl) rfl
theorem q1198 : (Jvm.Cond.instanceMethod ({ cls := "SnowForSummerModel", name := "thrown", desc := "()I" } : Jvm.MethodName)) ∈ lw_all := lw_g (lw_at lw_m5 150 rfl) rfl
theorem q1199 : (Jvm.Cond.selects "SnowForSummerModel" ({ cls := "SnowForSummerModel", name := "thrown", desc := "()I" } : Jvm.MethodName) ({ cls := "SnowForSummerModel", name := "thrown", desc := "()I" } : Jvm.MethodName)) ∈ lw_all := lw_g (lw_at lw_m5 151 rfl) rfl
theorem q1200 : (Jvm.Cond.code ({ cls := "SnowForSummerModel", name := "thrown", desc := "()I" } : Jvm.MethodName) prog_9_method_2_code (1 : Nat) (Option.some Jvm.ClassFile.FieldType.int)) ∈ lw_all := lw_g (lw_at lw_m5 152 rfl) rfl
theorem q1202 : (Jvm.Cond.instanceMethod ({ cls := "SnowForSummerModel", name := "sign", desc := "(I)I" } : Jvm.MethodName)) ∈ lw_all := lw_g (lw_at lw_m5 154 rfl) rfl
theorem q1203 : (Jvm.Cond.selects "SnowForSummerModel" ({ cls := "SnowForSummerModel", name := "sign", desc := "(I)I" } : Jvm.MethodName) ({ cls := "SnowForSummerModel", name := "sign", desc := "(I)I" } : Jvm.MethodName)) ∈ lw_all := lw_g (lw_at lw_m5 155 rfl) rfl
theorem q1204 : (Jvm.Cond.code ({ cls := "SnowForSummerModel", name := "sign", desc := "(I)I" } : Jvm.MethodName) prog_9_method_10_code (3 : Nat) (Option.some Jvm.ClassFile.FieldType.int)) ∈ lw_all := lw_g (lw_at lw_m5 156 rfl) rfl
theorem q1206 : (Jvm.Cond.instanceMethod ({ cls := "SnowForSummerModel", name := "end", desc := "(I)Z" } : Jvm.MethodName)) ∈ lw_all := lw_g (lw_at lw_m5 158 rfl) rfl
theorem q1207 : (Jvm.Cond.selects "SnowForSummerModel" ({ cls := "SnowForSummerModel", name := "end", desc := "(I)Z" } : Jvm.MethodName) ({ cls := "SnowForSummerModel", name := "end", desc := "(I)Z" } : Jvm.MethodName)) ∈ lw_all := lw_g (lw_at lw_m5 159 rfl) rfl
theorem q1208 : (Jvm.Cond.code ({ cls := "SnowForSummerModel", name := "end", desc := "(I)Z" } : Jvm.MethodName) prog_9_method_11_code (2 : Nat) (Option.some Jvm.ClassFile.FieldType.boolean)) ∈ lw_all := lw_g (lw_at lw_m5 160 rfl) rfl
theorem q1209 : (Jvm.Cond.methodLink "SnowForSummerModel" (97 : Nat) ({ cls := "SnowForSummerModel", name := "in", desc := "(III)Z" } : Jvm.MethodName)) ∈ lw_all := lw_g (lw_at lw_m5 161 rfl) rfl
theorem q1210 : (Jvm.Cond.static ({ cls := "SnowForSummerModel", name := "in", desc := "(III)Z" } : Jvm.MethodName)) ∈ lw_all := lw_g (lw_at lw_m5 162 rfl) rfl
theorem q1211 : (Jvm.Cond.code ({ cls := "SnowForSummerModel", name := "in", desc := "(III)Z" } : Jvm.MethodName) prog_9_method_3_code (3 : Nat) (Option.some Jvm.ClassFile.FieldType.boolean)) ∈ lw_all := lw_g (lw_at lw_m5 163 rfl) rfl
theorem q1213 : (Jvm.Cond.instanceMethod ({ cls := "SnowForSummerModel", name := "town", desc := "()I" } : Jvm.MethodName)) ∈ lw_all := lw_g (lw_at lw_m5 165 rfl) rfl
theorem q1214 : (Jvm.Cond.selects "SnowForSummerModel" ({ cls := "SnowForSummerModel", name := "town", desc := "()I" } : Jvm.MethodName) ({ cls := "SnowForSummerModel", name := "town", desc := "()I" } : Jvm.MethodName)) ∈ lw_all := lw_g (lw_at lw_m5 166 rfl) rfl
theorem q1215 : (Jvm.Cond.code ({ cls := "SnowForSummerModel", name := "town", desc := "()I" } : Jvm.MethodName) prog_9_method_19_code (4 : Nat) (Option.some Jvm.ClassFile.FieldType.int)) ∈ lw_all := lw_g (lw_at lw_m5 167 rfl) rfl
theorem q1216 : (Jvm.Cond.methodLink "SnowForSummerModel" (139 : Nat) ({ cls := "SnowForSummerModel", name := "begin", desc := "([BII)V" } : Jvm.MethodName)) ∈ lw_all := lw_g (lw_at lw_m5 168 rfl) rfl
theorem q1217 : (Jvm.Cond.privateMethod ({ cls := "SnowForSummerModel", name := "begin", desc := "([BII)V" } : Jvm.MethodName)) ∈ lw_tbl := lw_at lw_m5 169 rfl
theorem q1218 : (Jvm.Cond.instanceMethod ({ cls := "SnowForSummerModel", name := "begin", desc := "([BII)V" } : Jvm.MethodName)) ∈ lw_all := lw_g (lw_at lw_m5 170 rfl) rfl
theorem q1219 : (Jvm.Cond.code ({ cls := "SnowForSummerModel", name := "begin", desc := "([BII)V" } : Jvm.MethodName) prog_9_method_12_code (4 : Nat) (Option.none : Option Jvm.ClassFile.FieldType)) ∈ lw_all := lw_g (lw_at lw_m5 171 rfl) rfl
theorem q1220 : (Jvm.Cond.methodLink "SnowForSummerModel" (123 : Nat) ({ cls := "SnowForSummerModel", name := "fine", desc := "()Z" } : Jvm.MethodName)) ∈ lw_all := lw_g (lw_at lw_m5 172 rfl) rfl
theorem q1221 : (Jvm.Cond.privateMethod ({ cls := "SnowForSummerModel", name := "fine", desc := "()Z" } : Jvm.MethodName)) ∈ lw_tbl := lw_at lw_m5 173 rfl
theorem q1222 : (Jvm.Cond.instanceMethod ({ cls := "SnowForSummerModel", name := "fine", desc := "()Z" } : Jvm.MethodName)) ∈ lw_all := lw_g (lw_at lw_m5 174 rfl) rfl
theorem q1223 : (Jvm.Cond.code ({ cls := "SnowForSummerModel", name := "fine", desc := "()Z" } : Jvm.MethodName) prog_9_method_14_code (1 : Nat) (Option.some Jvm.ClassFile.FieldType.boolean)) ∈ lw_all := lw_g (lw_at lw_m5 175 rfl) rfl
theorem q1224 : (Jvm.Cond.methodLink "SnowForSummerModel" (135 : Nat) ({ cls := "SnowForSummerModel", name := "fault", desc := "(I)V" } : Jvm.MethodName)) ∈ lw_all := lw_g (lw_at lw_m5 176 rfl) rfl
theorem q1225 : (Jvm.Cond.privateMethod ({ cls := "SnowForSummerModel", name := "fault", desc := "(I)V" } : Jvm.MethodName)) ∈ lw_tbl := lw_at lw_m5 177 rfl
theorem q1226 : (Jvm.Cond.instanceMethod ({ cls := "SnowForSummerModel", name := "fault", desc := "(I)V" } : Jvm.MethodName)) ∈ lw_all := lw_g (lw_at lw_m5 178 rfl) rfl
theorem q1227 : (Jvm.Cond.code ({ cls := "SnowForSummerModel", name := "fault", desc := "(I)V" } : Jvm.MethodName) prog_9_method_15_code (2 : Nat) (Option.none : Option Jvm.ClassFile.FieldType)) ∈ lw_all := lw_g (lw_at lw_m5 179 rfl) rfl
theorem q1228 : (Jvm.Cond.methodLink "SnowForSummerModel" (143 : Nat) ({ cls := "SnowForSummerModel", name := "number", desc := "(III)I" } : Jvm.MethodName)) ∈ lw_all := lw_g (lw_at lw_m5 180 rfl) rfl
theorem q1229 : (Jvm.Cond.privateMethod ({ cls := "SnowForSummerModel", name := "number", desc := "(III)I" } : Jvm.MethodName)) ∈ lw_tbl := lw_at lw_m5 181 rfl
theorem q1230 : (Jvm.Cond.instanceMethod ({ cls := "SnowForSummerModel", name := "number", desc := "(III)I" } : Jvm.MethodName)) ∈ lw_all := lw_g (lw_at lw_m5 182 rfl) rfl
theorem q1231 : (Jvm.Cond.code ({ cls := "SnowForSummerModel", name := "number", desc := "(III)I" } : Jvm.MethodName) prog_9_method_18_code (6 : Nat) (Option.some Jvm.ClassFile.FieldType.int)) ∈ lw_all := lw_g (lw_at lw_m5 183 rfl) rfl
theorem q1232 : (Jvm.Cond.methodLink "SnowForSummerModel" (127 : Nat) ({ cls := "SnowForSummerModel", name := "here", desc := "()I" } : Jvm.MethodName)) ∈ lw_all := lw_g (lw_at lw_m5 184 rfl) rfl
theorem q1233 : (Jvm.Cond.privateMethod ({ cls := "SnowForSummerModel", name := "here", desc := "()I" } : Jvm.MethodName)) ∈ lw_tbl := lw_at lw_m5 185 rfl
theorem q1234 : (Jvm.Cond.instanceMethod ({ cls := "SnowForSummerModel", name := "here", desc := "()I" } : Jvm.MethodName)) ∈ lw_all := lw_g (lw_at lw_m5 186 rfl) rfl
theorem q1235 : (Jvm.Cond.code ({ cls := "SnowForSummerModel", name := "here", desc := "()I" } : Jvm.MethodName) prog_9_method_13_code (1 : Nat) (Option.some Jvm.ClassFile.FieldType.int)) ∈ lw_all := lw_g (lw_at lw_m5 187 rfl) rfl
theorem q1236 : (Jvm.Cond.methodLink "SnowForSummerModel" (147 : Nat) ({ cls := "SnowForSummerModel", name := "need", desc := "(C)V" } : Jvm.MethodName)) ∈ lw_all := lw_g (lw_at lw_m5 188 rfl) rfl
theorem q1237 : (Jvm.Cond.privateMethod ({ cls := "SnowForSummerModel", name := "need", desc := "(C)V" } : Jvm.MethodName)) ∈ lw_tbl := lw_at lw_m5 189 rfl
theorem q1238 : (Jvm.Cond.instanceMethod ({ cls := "SnowForSummerModel", name := "need", desc := "(C)V" } : Jvm.MethodName)) ∈ lw_all := lw_g (lw_at lw_m5 190 rfl) rfl
theorem q1239 : (Jvm.Cond.code ({ cls := "SnowForSummerModel", name := "need", desc := "(C)V" } : Jvm.MethodName) prog_9_method_17_code (2 : Nat) (Option.none : Option Jvm.ClassFile.FieldType)) ∈ lw_all := lw_g (lw_at lw_m5 191 rfl) rfl
theorem q1240 : (Jvm.Cond.methodLink "SnowForSummerModel" (131 : Nat) ({ cls := "SnowForSummerModel", name := "passes", desc := "(C)Z" } : Jvm.MethodName)) ∈ lw_all := lw_g (lw_at lw_m5 192 rfl) rfl
theorem q1241 : (Jvm.Cond.privateMethod ({ cls := "SnowForSummerModel", name := "passes", desc := "(C)Z" } : Jvm.MethodName)) ∈ lw_tbl := lw_at lw_m5 193 rfl
theorem q1242 : (Jvm.Cond.instanceMethod ({ cls := "SnowForSummerModel", name := "passes", desc := "(C)Z" } : Jvm.MethodName)) ∈ lw_all := lw_g (lw_at lw_m5 194 rfl) rfl
theorem q1243 : (Jvm.Cond.code ({ cls := "SnowForSummerModel", name := "passes", desc := "(C)Z" } : Jvm.MethodName) prog_9_method_16_code (2 : Nat) (Option.some Jvm.ClassFile.FieldType.boolean)) ∈ lw_all := lw_g (lw_at lw_m5 195 rfl) rfl
theorem q1245 : (Jvm.Cond.instanceMethod ({ cls := "SnowForSummerModel", name := "weather", desc := "()I" } : Jvm.MethodName)) ∈ lw_all := lw_g (lw_at lw_m5 197 rfl) rfl
theorem q1246 : (Jvm.Cond.selects "SnowForSummerModel" ({ cls := "SnowForSummerModel", name := "weather", desc := "()I" } : Jvm.MethodName) ({ cls := "SnowForSummerModel", name := "weather", desc := "()I" } : Jvm.MethodName)) ∈ lw_all := lw_g (lw_at lw_m5 198 rfl) rfl
theorem q1247 : (Jvm.Cond.code ({ cls := "SnowForSummerModel", name := "weather", desc := "()I" } : Jvm.MethodName) prog_9_method_20_code (3 : Nat) (Option.some Jvm.ClassFile.FieldType.int)) ∈ lw_all := lw_g (lw_at lw_m5 199 rfl) rfl
theorem q1249 : (Jvm.Cond.instanceMethod ({ cls := "SnowForSummerModel", name := "winter", desc := "(II)I" } : Jvm.MethodName)) ∈ lw_all := lw_g (lw_at lw_m5 201 rfl) rfl
theorem q1250 : (Jvm.Cond.selects "SnowForSummerModel" ({ cls := "SnowForSummerModel", name := "winter", desc := "(II)I" } : Jvm.MethodName) ({ cls := "SnowForSummerModel", name := "winter", desc := "(II)I" } : Jvm.MethodName)) ∈ lw_all := lw_g (lw_at lw_m5 202 rfl) rfl
theorem q1251 : (Jvm.Cond.code ({ cls := "SnowForSummerModel", name := "winter", desc := "(II)I" } : Jvm.MethodName) prog_9_method_21_code (7 : Nat) (Option.some Jvm.ClassFile.FieldType.int)) ∈ lw_all := lw_g (lw_at lw_m5 203 rfl) rfl
theorem q1252 : (Jvm.Cond.constant "SnowForSummerModel" (160 : Nat) (1103515245 : Int32)) ∈ lw_all := lw_g (lw_at lw_m5 204 rfl) rfl
theorem q1254 : (Jvm.Cond.instanceMethod ({ cls := "SnowForSummerModel", name := "falls", desc := "(I)I" } : Jvm.MethodName)) ∈ lw_all := lw_g (lw_at lw_m5 206 rfl) rfl
theorem q1255 : (Jvm.Cond.selects "SnowForSummerModel" ({ cls := "SnowForSummerModel", name := "falls", desc := "(I)I" } : Jvm.MethodName) ({ cls := "SnowForSummerModel", name := "falls", desc := "(I)I" } : Jvm.MethodName)) ∈ lw_all := lw_g (lw_at lw_m5 207 rfl) rfl
theorem q1256 : (Jvm.Cond.code ({ cls := "SnowForSummerModel", name := "falls", desc := "(I)I" } : Jvm.MethodName) prog_9_method_24_code (2 : Nat) (Option.some Jvm.ClassFile.FieldType.int)) ∈ lw_all := lw_g (lw_at lw_m5 208 rfl) rfl
theorem q1257 : (Jvm.Cond.methodLink "SnowForSummerModel" (161 : Nat) ({ cls := "SnowForSummerModel", name := "weatherOf", desc := "(I)I" } : Jvm.MethodName)) ∈ lw_all := lw_g (lw_at lw_m5 209 rfl) rfl
theorem q1258 : (Jvm.Cond.privateMethod ({ cls := "SnowForSummerModel", name := "weatherOf", desc := "(I)I" } : Jvm.MethodName)) ∈ lw_tbl := lw_at lw_m5 210 rfl
theorem q1259 : (Jvm.Cond.instanceMethod ({ cls := "SnowForSummerModel", name := "weatherOf", desc := "(I)I" } : Jvm.MethodName)) ∈ lw_all := lw_g (lw_at lw_m5 211 rfl) rfl
theorem q1260 : (Jvm.Cond.code ({ cls := "SnowForSummerModel", name := "weatherOf", desc := "(I)I" } : Jvm.MethodName) prog_9_method_22_code (2 : Nat) (Option.some Jvm.ClassFile.FieldType.int)) ∈ lw_all := lw_g (lw_at lw_m5 212 rfl) rfl
theorem q1262 : (Jvm.Cond.instanceMethod ({ cls := "SnowForSummerModel", name := "rule", desc := "()I" } : Jvm.MethodName)) ∈ lw_all := lw_g (lw_at lw_m5 214 rfl) rfl
theorem q1263 : (Jvm.Cond.selects "SnowForSummerModel" ({ cls := "SnowForSummerModel", name := "rule", desc := "()I" } : Jvm.MethodName) ({ cls := "SnowForSummerModel", name := "rule", desc := "()I" } : Jvm.MethodName)) ∈ lw_all := lw_g (lw_at lw_m5 215 rfl) rfl
theorem q1264 : (Jvm.Cond.code ({ cls := "SnowForSummerModel", name := "rule", desc := "()I" } : Jvm.MethodName) prog_9_method_30_code (3 : Nat) (Option.some Jvm.ClassFile.FieldType.int)) ∈ lw_all := lw_g (lw_at lw_m5 216 rfl) rfl
theorem q1265 : (Jvm.Cond.methodLink "SnowForSummerModel" (180 : Nat) ({ cls := "SnowForSummerModel", name := "held", desc := "(I)I" } : Jvm.MethodName)) ∈ lw_all := lw_g (lw_at lw_m5 217 rfl) rfl
theorem q1266 : (Jvm.Cond.privateMethod ({ cls := "SnowForSummerModel", name := "held", desc := "(I)I" } : Jvm.MethodName)) ∈ lw_tbl := lw_at lw_m5 218 rfl
theorem q1267 : (Jvm.Cond.instanceMethod ({ cls := "SnowForSummerModel", name := "held", desc := "(I)I" } : Jvm.MethodName)) ∈ lw_all := lw_g (lw_at lw_m5 219 rfl) rfl
theorem q1268 : (Jvm.Cond.code ({ cls := "SnowForSummerModel", name := "held", desc := "(I)I" } : Jvm.MethodName) prog_9_method_25_code (3 : Nat) (Option.some Jvm.ClassFile.FieldType.int)) ∈ lw_all := lw_g (lw_at lw_m5 220 rfl) rfl
theorem q1269 : (Jvm.Cond.methodLink "SnowForSummerModel" (171 : Nat) ({ cls := "SnowForSummerModel", name := "sum", desc := "(I)I" } : Jvm.MethodName)) ∈ lw_all := lw_g (lw_at lw_m5 221 rfl) rfl
theorem q1270 : (Jvm.Cond.privateMethod ({ cls := "SnowForSummerModel", name := "sum", desc := "(I)I" } : Jvm.MethodName)) ∈ lw_tbl := lw_at lw_m5 222 rfl
theorem q1271 : (Jvm.Cond.instanceMethod ({ cls := "SnowForSummerModel", name := "sum", desc := "(I)I" } : Jvm.MethodName)) ∈ lw_all := lw_g (lw_at lw_m5 223 rfl) rfl
theorem q1272 : (Jvm.Cond.code ({ cls := "SnowForSummerModel", name := "sum", desc := "(I)I" } : Jvm.MethodName) prog_9_method_26_code (5 : Nat) (Option.some Jvm.ClassFile.FieldType.int)) ∈ lw_all := lw_g (lw_at lw_m5 224 rfl) rfl
theorem q1273 : (Jvm.Cond.methodLink "SnowForSummerModel" (174 : Nat) ({ cls := "SnowForSummerModel", name := "product", desc := "(I)I" } : Jvm.MethodName)) ∈ lw_all := lw_g (lw_at lw_m5 225 rfl) rfl
theorem q1274 : (Jvm.Cond.privateMethod ({ cls := "SnowForSummerModel", name := "product", desc := "(I)I" } : Jvm.MethodName)) ∈ lw_tbl := lw_at lw_m5 226 rfl
theorem q1275 : (Jvm.Cond.instanceMethod ({ cls := "SnowForSummerModel", name := "product", desc := "(I)I" } : Jvm.MethodName)) ∈ lw_all := lw_g (lw_at lw_m5 227 rfl) rfl
theorem q1276 : (Jvm.Cond.code ({ cls := "SnowForSummerModel", name := "product", desc := "(I)I" } : Jvm.MethodName) prog_9_method_27_code (5 : Nat) (Option.some Jvm.ClassFile.FieldType.int)) ∈ lw_all := lw_g (lw_at lw_m5 228 rfl) rfl
theorem q1277 : (Jvm.Cond.methodLink "SnowForSummerModel" (177 : Nat) ({ cls := "SnowForSummerModel", name := "thing", desc := "(I)I" } : Jvm.MethodName)) ∈ lw_all := lw_g (lw_at lw_m5 229 rfl) rfl
theorem q1278 : (Jvm.Cond.privateMethod ({ cls := "SnowForSummerModel", name := "thing", desc := "(I)I" } : Jvm.MethodName)) ∈ lw_tbl := lw_at lw_m5 230 rfl
theorem q1279 : (Jvm.Cond.instanceMethod ({ cls := "SnowForSummerModel", name := "thing", desc := "(I)I" } : Jvm.MethodName)) ∈ lw_all := lw_g (lw_at lw_m5 231 rfl) rfl
theorem q1280 : (Jvm.Cond.code ({ cls := "SnowForSummerModel", name := "thing", desc := "(I)I" } : Jvm.MethodName) prog_9_method_28_code (4 : Nat) (Option.some Jvm.ClassFile.FieldType.int)) ∈ lw_all := lw_g (lw_at lw_m5 232 rfl) rfl
theorem q1281 : (Jvm.Cond.methodLink "SnowForSummerModel" (187 : Nat) ({ cls := "SnowForSummerModel", name := "letter", desc := "(I)I" } : Jvm.MethodName)) ∈ lw_all := lw_g (lw_at lw_m5 233 rfl) rfl
theorem q1282 : (Jvm.Cond.privateMethod ({ cls := "SnowForSummerModel", name := "letter", desc := "(I)I" } : Jvm.MethodName)) ∈ lw_tbl := lw_at lw_m5 234 rfl
theorem q1283 : (Jvm.Cond.instanceMethod ({ cls := "SnowForSummerModel", name := "letter", desc := "(I)I" } : Jvm.MethodName)) ∈ lw_all := lw_g (lw_at lw_m5 235 rfl) rfl
theorem q1284 : (Jvm.Cond.code ({ cls := "SnowForSummerModel", name := "letter", desc := "(I)I" } : Jvm.MethodName) prog_9_method_29_code (2 : Nat) (Option.some Jvm.ClassFile.FieldType.int)) ∈ lw_all := lw_g (lw_at lw_m5 236 rfl) rfl
theorem q1285 : (Jvm.Cond.methodLink "SnowForSummerModel" (199 : Nat) ({ cls := "SnowForSummerModel", name := "thawOf", desc := "(I)I" } : Jvm.MethodName)) ∈ lw_all := lw_g (lw_at lw_m5 237 rfl) rfl
theorem q1286 : (Jvm.Cond.privateMethod ({ cls := "SnowForSummerModel", name := "thawOf", desc := "(I)I" } : Jvm.MethodName)) ∈ lw_tbl := lw_at lw_m5 238 rfl
theorem q1287 : (Jvm.Cond.instanceMethod ({ cls := "SnowForSummerModel", name := "thawOf", desc := "(I)I" } : Jvm.MethodName)) ∈ lw_all := lw_g (lw_at lw_m5 239 rfl) rfl
theorem q1288 : (Jvm.Cond.code ({ cls := "SnowForSummerModel", name := "thawOf", desc := "(I)I" } : Jvm.MethodName) prog_9_method_23_code (2 : Nat) (Option.some Jvm.ClassFile.FieldType.int)) ∈ lw_all := lw_g (lw_at lw_m6 0 rfl) rfl
theorem q1289 : (Jvm.Cond.methodLink "SnowForSummerModel" (165 : Nat) ({ cls := "java/lang/Math", name := "max", desc := "(II)I" } : Jvm.MethodName)) ∈ lw_all := lw_g (lw_at lw_m6 1 rfl) rfl
theorem q1291 : (Jvm.Cond.instanceMethod ({ cls := "SnowForSummerModel", name := "of", desc := "(II)I" } : Jvm.MethodName)) ∈ lw_all := lw_g (lw_at lw_m6 3 rfl) rfl
theorem q1292 : (Jvm.Cond.selects "SnowForSummerModel" ({ cls := "SnowForSummerModel", name := "of", desc := "(II)I" } : Jvm.MethodName) ({ cls := "SnowForSummerModel", name := "of", desc := "(II)I" } : Jvm.MethodName)) ∈ lw_all := lw_g (lw_at lw_m6 4 rfl) rfl
theorem q1293 : (Jvm.Cond.code ({ cls := "SnowForSummerModel", name := "of", desc := "(II)I" } : Jvm.MethodName) prog_9_method_32_code (3 : Nat) (Option.some Jvm.ClassFile.FieldType.int)) ∈ lw_all := lw_g (lw_at lw_m6 5 rfl) rfl
theorem q1294 : (Jvm.Cond.methodLink "SnowForSummerModel" (101 : Nat) ({ cls := "SnowForSummerModel", name := "isHouse", desc := "(I)Z" } : Jvm.MethodName)) ∈ lw_all := lw_g (lw_at lw_m6 6 rfl) rfl
theorem q1295 : (Jvm.Cond.privateMethod ({ cls := "SnowForSummerModel", name := "isHouse", desc := "(I)Z" } : Jvm.MethodName)) ∈ lw_tbl := lw_at lw_m6 7 rfl
theorem q1296 : (Jvm.Cond.instanceMethod ({ cls := "SnowForSummerModel", name := "isHouse", desc := "(I)Z" } : Jvm.MethodName)) ∈ lw_all := lw_g (lw_at lw_m6 8 rfl) rfl
theorem q1297 : (Jvm.Cond.code ({ cls := "SnowForSummerModel", name := "isHouse", desc := "(I)Z" } : Jvm.MethodName) prog_9_method_7_code (2 : Nat) (Option.some Jvm.ClassFile.FieldType.boolean)) ∈ lw_all := lw_g (lw_at lw_m6 9 rfl) rfl
theorem q1298 : (Jvm.Cond.methodLink "SnowForSummerModel" (214 : Nat) ({ cls := "SnowForSummerModel", name := "lost", desc := "()I" } : Jvm.MethodName)) ∈ lw_all := lw_g (lw_at lw_m6 10 rfl) rfl
theorem q1299 : (Jvm.Cond.privateMethod ({ cls := "SnowForSummerModel", name := "lost", desc := "()I" } : Jvm.MethodName)) ∈ lw_tbl := lw_at lw_m6 11 rfl
theorem q1300 : (Jvm.Cond.instanceMethod ({ cls := "SnowForSummerModel", name := "lost", desc := "()I" } : Jvm.MethodName)) ∈ lw_all := lw_g (lw_at lw_m6 12 rfl) rfl
theorem q1301 : (Jvm.Cond.code ({ cls := "SnowForSummerModel", name := "lost", desc := "()I" } : Jvm.MethodName) prog_9_method_5_code (1 : Nat) (Option.some Jvm.ClassFile.FieldType.int)) ∈ lw_all := lw_g (lw_at lw_m6 13 rfl) rfl
theorem q1302 : (Jvm.Cond.methodLink "SnowForSummerModel" (217 : Nat) ({ cls := "SnowForSummerModel", name := "owes", desc := "([II)I" } : Jvm.MethodName)) ∈ lw_all := lw_g (lw_at lw_m6 14 rfl) rfl
theorem q1303 : (Jvm.Cond.static ({ cls := "SnowForSummerModel", name := "owes", desc := "([II)I" } : Jvm.MethodName)) ∈ lw_all := lw_g (lw_at lw_m6 15 rfl) rfl
theorem q1304 : (Jvm.Cond.code ({ cls := "SnowForSummerModel", name := "owes", desc := "([II)I" } : Jvm.MethodName) prog_9_method_33_code (4 : Nat) (Option.some Jvm.ClassFile.FieldType.int)) ∈ lw_all := lw_g (lw_at lw_m6 16 rfl) rfl
theorem q1305 : (Jvm.Cond.methodLink "SnowForSummerModel" (221 : Nat) ({ cls := "SnowForSummerModel", name := "owed", desc := "(I)I" } : Jvm.MethodName)) ∈ lw_all := lw_g (lw_at lw_m6 17 rfl) rfl
theorem q1306 : (Jvm.Cond.privateMethod ({ cls := "SnowForSummerModel", name := "owed", desc := "(I)I" } : Jvm.MethodName)) ∈ lw_tbl := lw_at lw_m6 18 rfl
theorem q1307 : (Jvm.Cond.instanceMethod ({ cls := "SnowForSummerModel", name := "owed", desc := "(I)I" } : Jvm.MethodName)) ∈ lw_all := lw_g (lw_at lw_m6 19 rfl) rfl
theorem q1308 : (Jvm.Cond.code ({ cls := "SnowForSummerModel", name := "owed", desc := "(I)I" } : Jvm.MethodName) prog_9_method_34_code (4 : Nat) (Option.some Jvm.ClassFile.FieldType.int)) ∈ lw_all := lw_g (lw_at lw_m6 20 rfl) rfl
theorem q1310 : (Jvm.Cond.instanceMethod ({ cls := "SnowForSummerModel", name := "set", desc := "(III)I" } : Jvm.MethodName)) ∈ lw_all := lw_g (lw_at lw_m6 22 rfl) rfl
theorem q1311 : (Jvm.Cond.selects "SnowForSummerModel" ({ cls := "SnowForSummerModel", name := "set", desc := "(III)I" } : Jvm.MethodName) ({ cls := "SnowForSummerModel", name := "set", desc := "(III)I" } : Jvm.MethodName)) ∈ lw_all := lw_g (lw_at lw_m6 23 rfl) rfl
theorem q1312 : (Jvm.Cond.code ({ cls := "SnowForSummerModel", name := "set", desc := "(III)I" } : Jvm.MethodName) prog_9_method_35_code (5 : Nat) (Option.some Jvm.ClassFile.FieldType.int)) ∈ lw_all := lw_g (lw_at lw_m6 24 rfl) rfl
theorem q1313 : (Jvm.Cond.methodLink "SnowForSummerModel" (224 : Nat) ({ cls := "SnowForSummerModel", name := "of", desc := "(II)I" } : Jvm.MethodName)) ∈ lw_all := lw_g (lw_at lw_m6 25 rfl) rfl
theorem q1315 : (Jvm.Cond.instanceMethod ({ cls := "SnowForSummerModel", name := "sheet", desc := "(IIII)I" } : Jvm.MethodName)) ∈ lw_all := lw_g (lw_at lw_m6 27 rfl) rfl
theorem q1316 : (Jvm.Cond.selects "SnowForSummerModel" ({ cls := "SnowForSummerModel", name := "sheet", desc := "(IIII)I" } : Jvm.MethodName) ({ cls := "SnowForSummerModel", name := "sheet", desc := "(IIII)I" } : Jvm.MethodName)) ∈ lw_all := lw_g (lw_at lw_m6 28 rfl) rfl
theorem q1317 : (Jvm.Cond.code ({ cls := "SnowForSummerModel", name := "sheet", desc := "(IIII)I" } : Jvm.MethodName) prog_9_method_36_code (9 : Nat) (Option.some Jvm.ClassFile.FieldType.int)) ∈ lw_all := lw_g (lw_at lw_m6 29 rfl) rfl
theorem q1318 : (Jvm.Cond.methodLink "SnowForSummerModel" (227 : Nat) ({ cls := "java/lang/Math", name := "min", desc := "(II)I" } : Jvm.MethodName)) ∈ lw_all := lw_g (lw_at lw_m6 30 rfl) rfl
theorem q1320 : (Jvm.Cond.instanceMethod ({ cls := "SnowForSummerModel", name := "above", desc := "(I)I" } : Jvm.MethodName)) ∈ lw_all := lw_g (lw_at lw_m6 32 rfl) rfl
theorem q1321 : (Jvm.Cond.selects "SnowForSummerModel" ({ cls := "SnowForSummerModel", name := "above", desc := "(I)I" } : Jvm.MethodName) ({ cls := "SnowForSummerModel", name := "above", desc := "(I)I" } : Jvm.MethodName)) ∈ lw_all := lw_g (lw_at lw_m6 33 rfl) rfl
theorem q1322 : (Jvm.Cond.code ({ cls := "SnowForSummerModel", name := "above", desc := "(I)I" } : Jvm.MethodName) prog_9_method_37_code (7 : Nat) (Option.some Jvm.ClassFile.FieldType.int)) ∈ lw_all := lw_g (lw_at lw_m6 34 rfl) rfl
theorem q1323 : (Jvm.Cond.methodLink "SnowForSummerModel" (230 : Nat) ({ cls := "SnowForSummerModel", name := "tell", desc := "(I)V" } : Jvm.MethodName)) ∈ lw_all := lw_g (lw_at lw_m6 35 rfl) rfl
theorem q1324 : (Jvm.Cond.privateMethod ({ cls := "SnowForSummerModel", name := "tell", desc := "(I)V" } : Jvm.MethodName)) ∈ lw_tbl := lw_at lw_m6 36 rfl
theorem q1325 : (Jvm.Cond.instanceMethod ({ cls := "SnowForSummerModel", name := "tell", desc := "(I)V" } : Jvm.MethodName)) ∈ lw_all := lw_g (lw_at lw_m6 37 rfl) rfl
theorem q1326 : (Jvm.Cond.code ({ cls := "SnowForSummerModel", name := "tell", desc := "(I)V" } : Jvm.MethodName) prog_9_method_6_code (2 : Nat) (Option.none : Option Jvm.ClassFile.FieldType)) ∈ lw_all := lw_g (lw_at lw_m6 38 rfl) rfl
theorem q1328 : (Jvm.Cond.instanceMethod ({ cls := "SnowForSummerModel", name := "debt", desc := "(II)I" } : Jvm.MethodName)) ∈ lw_all := lw_g (lw_at lw_m6 40 rfl) rfl
theorem q1329 : (Jvm.Cond.selects "SnowForSummerModel" ({ cls := "SnowForSummerModel", name := "debt", desc := "(II)I" } : Jvm.MethodName) ({ cls := "SnowForSummerModel", name := "debt", desc := "(II)I" } : Jvm.MethodName)) ∈ lw_all := lw_g (lw_at lw_m6 41 rfl) rfl
theorem q1330 : (Jvm.Cond.code ({ cls := "SnowForSummerModel", name := "debt", desc := "(II)I" } : Jvm.MethodName) prog_9_method_38_code (3 : Nat) (Option.some Jvm.ClassFile.FieldType.int)) ∈ lw_all := lw_g (lw_at lw_m6 42 rfl) rfl
theorem q1331 : (Jvm.Cond.methodLink "SnowForSummerModel" (233 : Nat) ({ cls := "SnowForSummerModel", name := "areTwo", desc := "(II)Z" } : Jvm.MethodName)) ∈ lw_all := lw_g (lw_at lw_m6 43 rfl) rfl
theorem q1332 : (Jvm.Cond.privateMethod ({ cls := "SnowForSummerModel", name := "areTwo", desc := "(II)Z" } : Jvm.MethodName)) ∈ lw_tbl := lw_at lw_m6 44 rfl
theorem q1333 : (Jvm.Cond.instanceMethod ({ cls := "SnowForSummerModel", name := "areTwo", desc := "(II)Z" } : Jvm.MethodName)) ∈ lw_all := lw_g (lw_at lw_m6 45 rfl) rfl
theorem q1334 : (Jvm.Cond.code ({ cls := "SnowForSummerModel", name := "areTwo", desc := "(II)Z" } : Jvm.MethodName) prog_9_method_8_code (3 : Nat) (Option.some Jvm.ClassFile.FieldType.boolean)) ∈ lw_all := lw_g (lw_at lw_m6 46 rfl) rfl
theorem q1336 : (Jvm.Cond.instanceMethod ({ cls := "SnowForSummerModel", name := "day", desc := "()I" } : Jvm.MethodName)) ∈ lw_all := lw_g (lw_at lw_m6 48 rfl) rfl
theorem q1337 : (Jvm.Cond.selects "SnowForSummerModel" ({ cls := "SnowForSummerModel", name := "day", desc := "()I" } : Jvm.MethodName) ({ cls := "SnowForSummerModel", name := "day", desc := "()I" } : Jvm.MethodName)) ∈ lw_all := lw_g (lw_at lw_m6 49 rfl) rfl
theorem q1338 : (Jvm.Cond.code ({ cls := "SnowForSummerModel", name := "day", desc := "()I" } : Jvm.MethodName) prog_9_method_46_code (1 : Nat) (Option.some Jvm.ClassFile.FieldType.int)) ∈ lw_all := lw_g (lw_at lw_m6 50 rfl) rfl
theorem q1339 : (Jvm.Cond.methodLink "SnowForSummerModel" (268 : Nat) ({ cls := "SnowForSummerModel", name := "remember", desc := "([I)V" } : Jvm.MethodName)) ∈ lw_all := lw_g (lw_at lw_m6 51 rfl) rfl
theorem q1340 : (Jvm.Cond.privateMethod ({ cls := "SnowForSummerModel", name := "remember", desc := "([I)V" } : Jvm.MethodName)) ∈ lw_tbl := lw_at lw_m6 52 rfl
theorem q1341 : (Jvm.Cond.instanceMethod ({ cls := "SnowForSummerModel", name := "remember", desc := "([I)V" } : Jvm.MethodName)) ∈ lw_all := lw_g (lw_at lw_m6 53 rfl) rfl
theorem q1342 : (Jvm.Cond.code ({ cls := "SnowForSummerModel", name := "remember", desc := "([I)V" } : Jvm.MethodName) prog_9_method_43_code (3 : Nat) (Option.none : Option Jvm.ClassFile.FieldType)) ∈ lw_all := lw_g (lw_at lw_m6 54 rfl) rfl
theorem q1343 : (Jvm.Cond.methodLink "SnowForSummerModel" (253 : Nat) ({ cls := "SnowForSummerModel", name := "lay", desc := "([I[II)V" } : Jvm.MethodName)) ∈ lw_all := lw_g (lw_at lw_m6 55 rfl) rfl
theorem q1344 : (Jvm.Cond.static ({ cls := "SnowForSummerModel", name := "lay", desc := "([I[II)V" } : Jvm.MethodName)) ∈ lw_all := lw_g (lw_at lw_m6 56 rfl) rfl
theorem q1345 : (Jvm.Cond.code ({ cls := "SnowForSummerModel", name := "lay", desc := "([I[II)V" } : Jvm.MethodName) prog_9_method_42_code (4 : Nat) (Option.none : Option Jvm.ClassFile.FieldType)) ∈ lw_all := lw_g (lw_at lw_m6 57 rfl) rfl
theorem q1346 : (Jvm.Cond.methodLink "SnowForSummerModel" (271 : Nat) ({ cls := "SnowForSummerModel", name := "tellDays", desc := "(I)I" } : Jvm.MethodName)) ∈ lw_all := lw_g (lw_at lw_m6 58 rfl) rfl
theorem q1347 : (Jvm.Cond.privateMethod ({ cls := "SnowForSummerModel", name := "tellDays", desc := "(I)I" } : Jvm.MethodName)) ∈ lw_tbl := lw_at lw_m6 59 rfl
theorem q1348 : (Jvm.Cond.instanceMethod ({ cls := "SnowForSummerModel", name := "tellDays", desc := "(I)I" } : Jvm.MethodName)) ∈ lw_all := lw_g (lw_at lw_m6 60 rfl) rfl
theorem q1349 : (Jvm.Cond.code ({ cls := "SnowForSummerModel", name := "tellDays", desc := "(I)I" } : Jvm.MethodName) prog_9_method_45_code (3 : Nat) (Option.some Jvm.ClassFile.FieldType.int)) ∈ lw_all := lw_g (lw_at lw_m6 61 rfl) rfl
theorem q1350 : (Jvm.Cond.methodLink "SnowForSummerModel" (257 : Nat) ({ cls := "SnowForSummerModel", name := "beginCount", desc := "()V" } : Jvm.MethodName)) ∈ lw_all := lw_g (lw_at lw_m6 62 rfl) rfl
theorem q1351 : (Jvm.Cond.privateMethod ({ cls := "SnowForSummerModel", name := "beginCount", desc := "()V" } : Jvm.MethodName)) ∈ lw_tbl := lw_at lw_m6 63 rfl
theorem q1352 : (Jvm.Cond.instanceMethod ({ cls := "SnowForSummerModel", name := "beginCount", desc := "()V" } : Jvm.MethodName)) ∈ lw_all := lw_g (lw_at lw_m6 64 rfl) rfl
theorem q1353 : (Jvm.Cond.code ({ cls := "SnowForSummerModel", name := "beginCount", desc := "()V" } : Jvm.MethodName) prog_9_method_39_code (2 : Nat) (Option.none : Option Jvm.ClassFile.FieldType)) ∈ lw_all := lw_g (lw_at lw_m6 65 rfl) rfl
theorem q1354 : (Jvm.Cond.methodLink "SnowForSummerModel" (260 : Nat) ({ cls := "SnowForSummerModel", name := "goDay", desc := "([I)V" } : Jvm.MethodName)) ∈ lw_all := lw_g (lw_at lw_m6 66 rfl) rfl
theorem q1355 : (Jvm.Cond.privateMethod ({ cls := "SnowForSummerModel", name := "goDay", desc := "([I)V" } : Jvm.MethodName)) ∈ lw_tbl := lw_at lw_m6 67 rfl
theorem q1356 : (Jvm.Cond.instanceMethod ({ cls := "SnowForSummerModel", name := "goDay", desc := "([I)V" } : Jvm.MethodName)) ∈ lw_all := lw_g (lw_at lw_m6 68 rfl) rfl
theorem q1357 : (Jvm.Cond.code ({ cls := "SnowForSummerModel", name := "goDay", desc := "([I)V" } : Jvm.MethodName) prog_9_method_41_code (4 : Nat) (Option.none : Option Jvm.ClassFile.FieldType)) ∈ lw_all := lw_g (lw_at lw_m6 69 rfl) rfl
theorem q1358 : (Jvm.Cond.methodLink "SnowForSummerModel" (249 : Nat) ({ cls := "SnowForSummerModel", name := "slide", desc := "([IIII)V" } : Jvm.MethodName)) ∈ lw_all := lw_g (lw_at lw_m6 70 rfl) rfl
theorem q1359 : (Jvm.Cond.privateMethod ({ cls := "SnowForSummerModel", name := "slide", desc := "([IIII)V" } : Jvm.MethodName)) ∈ lw_tbl := lw_at lw_m6 71 rfl
theorem q1360 : (Jvm.Cond.instanceMethod ({ cls := "SnowForSummerModel", name := "slide", desc := "([IIII)V" } : Jvm.MethodName)) ∈ lw_all := lw_g (lw_at lw_m6 72 rfl) rfl
theorem q1361 : (Jvm.Cond.code ({ cls := "SnowForSummerModel", name := "slide", desc := "([IIII)V" } : Jvm.MethodName) prog_9_method_40_code (9 : Nat) (Option.none : Option Jvm.ClassFile.FieldType)) ∈ lw_all := lw_g (lw_at lw_m6 73 rfl) rfl
theorem q1362 : (Jvm.Cond.methodLink "SnowForSummerModel" (246 : Nat) ({ cls := "SnowForSummerModel", name := "ruled", desc := "()I" } : Jvm.MethodName)) ∈ lw_all := lw_g (lw_at lw_m6 74 rfl) rfl
theorem q1363 : (Jvm.Cond.privateMethod ({ cls := "SnowForSummerModel", name := "ruled", desc := "()I" } : Jvm.MethodName)) ∈ lw_tbl := lw_at lw_m6 75 rfl
theorem q1364 : (Jvm.Cond.instanceMethod ({ cls := "SnowForSummerModel", name := "ruled", desc := "()I" } : Jvm.MethodName)) ∈ lw_all := lw_g (lw_at lw_m6 76 rfl) rfl
theorem q1365 : (Jvm.Cond.code ({ cls := "SnowForSummerModel", name := "ruled", desc := "()I" } : Jvm.MethodName) prog_9_method_31_code (1 : Nat) (Option.some Jvm.ClassFile.FieldType.int)) ∈ lw_all := lw_g (lw_at lw_m6 77 rfl) rfl
theorem q1366 : (Jvm.Cond.methodLink "SnowForSummerModel" (264 : Nat) ({ cls := "SnowForSummerModel", name := "paths", desc := "([I)I" } : Jvm.MethodName)) ∈ lw_all := lw_g (lw_at lw_m6 78 rfl) rfl
theorem q1367 : (Jvm.Cond.privateMethod ({ cls := "SnowForSummerModel", name := "paths", desc := "([I)I" } : Jvm.MethodName)) ∈ lw_tbl := lw_at lw_m6 79 rfl
theorem q1368 : (Jvm.Cond.instanceMethod ({ cls := "SnowForSummerModel", name := "paths", desc := "([I)I" } : Jvm.MethodName)) ∈ lw_all := lw_g (lw_at lw_m6 80 rfl) rfl
theorem q1369 : (Jvm.Cond.code ({ cls := "SnowForSummerModel", name := "paths", desc := "([I)I" } : Jvm.MethodName) prog_9_method_44_code (4 : Nat) (Option.some Jvm.ClassFile.FieldType.int)) ∈ lw_all := lw_g (lw_at lw_m6 81 rfl) rfl
theorem q1371 : (Jvm.Cond.instanceMethod ({ cls := "SnowForSummerModel", name := "days", desc := "(I)I" } : Jvm.MethodName)) ∈ lw_all := lw_g (lw_at lw_m6 83 rfl) rfl
theorem q1372 : (Jvm.Cond.selects "SnowForSummerModel" ({ cls := "SnowForSummerModel", name := "days", desc := "(I)I" } : Jvm.MethodName) ({ cls := "SnowForSummerModel", name := "days", desc := "(I)I" } : Jvm.MethodName)) ∈ lw_all := lw_g (lw_at lw_m6 84 rfl) rfl
theorem q1373 : (Jvm.Cond.code ({ cls := "SnowForSummerModel", name := "days", desc := "(I)I" } : Jvm.MethodName) prog_9_method_47_code (2 : Nat) (Option.some Jvm.ClassFile.FieldType.int)) ∈ lw_all := lw_g (lw_at lw_m6 85 rfl) rfl
theorem q1375 : (Jvm.Cond.instanceMethod ({ cls := "SnowForSummerModel", name := "sweep", desc := "(II)I" } : Jvm.MethodName)) ∈ lw_all := lw_g (lw_at lw_m6 87 rfl) rfl
theorem q1376 : (Jvm.Cond.selects "SnowForSummerModel" ({ cls := "SnowForSummerModel", name := "sweep", desc := "(II)I" } : Jvm.MethodName) ({ cls := "SnowForSummerModel", name := "sweep", desc := "(II)I" } : Jvm.MethodName)) ∈ lw_all := lw_g (lw_at lw_m6 88 rfl) rfl
theorem q1377 : (Jvm.Cond.code ({ cls := "SnowForSummerModel", name := "sweep", desc := "(II)I" } : Jvm.MethodName) prog_9_method_50_code (4 : Nat) (Option.some Jvm.ClassFile.FieldType.int)) ∈ lw_all := lw_g (lw_at lw_m6 89 rfl) rfl
theorem q1378 : (Jvm.Cond.methodLink "SnowForSummerModel" (277 : Nat) ({ cls := "SnowForSummerModel", name := "sweepRefusal", desc := "(II)I" } : Jvm.MethodName)) ∈ lw_all := lw_g (lw_at lw_m6 90 rfl) rfl
theorem q1379 : (Jvm.Cond.privateMethod ({ cls := "SnowForSummerModel", name := "sweepRefusal", desc := "(II)I" } : Jvm.MethodName)) ∈ lw_tbl := lw_at lw_m6 91 rfl
theorem q1380 : (Jvm.Cond.instanceMethod ({ cls := "SnowForSummerModel", name := "sweepRefusal", desc := "(II)I" } : Jvm.MethodName)) ∈ lw_all := lw_g (lw_at lw_m6 92 rfl) rfl
theorem q1381 : (Jvm.Cond.code ({ cls := "SnowForSummerModel", name := "sweepRefusal", desc := "(II)I" } : Jvm.MethodName) prog_9_method_49_code (3 : Nat) (Option.some Jvm.ClassFile.FieldType.int)) ∈ lw_all := lw_g (lw_at lw_m6 93 rfl) rfl
theorem q1382 : (Jvm.Cond.methodLink "SnowForSummerModel" (274 : Nat) ({ cls := "SnowForSummerModel", name := "isSide", desc := "(I)Z" } : Jvm.MethodName)) ∈ lw_all := lw_g (lw_at lw_m6 94 rfl) rfl
theorem q1383 : (Jvm.Cond.privateMethod ({ cls := "SnowForSummerModel", name := "isSide", desc := "(I)Z" } : Jvm.MethodName)) ∈ lw_tbl := lw_at lw_m6 95 rfl
theorem q1384 : (Jvm.Cond.instanceMethod ({ cls := "SnowForSummerModel", name := "isSide", desc := "(I)Z" } : Jvm.MethodName)) ∈ lw_all := lw_g (lw_at lw_m6 96 rfl) rfl
theorem q1385 : (Jvm.Cond.code ({ cls := "SnowForSummerModel", name := "isSide", desc := "(I)Z" } : Jvm.MethodName) prog_9_method_9_code (2 : Nat) (Option.some Jvm.ClassFile.FieldType.boolean)) ∈ lw_all := lw_g (lw_at lw_m6 97 rfl) rfl
theorem q1386 : (Jvm.Cond.methodLink "SnowForSummerModel" (280 : Nat) ({ cls := "SnowForSummerModel", name := "sweeps", desc := "([III)V" } : Jvm.MethodName)) ∈ lw_all := lw_g (lw_at lw_m6 98 rfl) rfl
theorem q1387 : (Jvm.Cond.static ({ cls := "SnowForSummerModel", name := "sweeps", desc := "([III)V" } : Jvm.MethodName)) ∈ lw_all := lw_g (lw_at lw_m6 99 rfl) rfl
theorem q1388 : (Jvm.Cond.code ({ cls := "SnowForSummerModel", name := "sweeps", desc := "([III)V" } : Jvm.MethodName) prog_9_method_48_code (4 : Nat) (Option.none : Option Jvm.ClassFile.FieldType)) ∈ lw_all := lw_g (lw_at lw_m6 100 rfl) rfl
theorem q1390 : (Jvm.Cond.instanceMethod ({ cls := "SnowForSummerModel", name := "clear", desc := "(II)I" } : Jvm.MethodName)) ∈ lw_all := lw_g (lw_at lw_m6 102 rfl) rfl
theorem q1391 : (Jvm.Cond.selects "SnowForSummerModel" ({ cls := "SnowForSummerModel", name := "clear", desc := "(II)I" } : Jvm.MethodName) ({ cls := "SnowForSummerModel", name := "clear", desc := "(II)I" } : Jvm.MethodName)) ∈ lw_all := lw_g (lw_at lw_m6 103 rfl) rfl
theorem q1392 : (Jvm.Cond.code ({ cls := "SnowForSummerModel", name := "clear", desc := "(II)I" } : Jvm.MethodName) prog_9_method_52_code (4 : Nat) (Option.some Jvm.ClassFile.FieldType.int)) ∈ lw_all := lw_g (lw_at lw_m6 104 rfl) rfl
theorem q1393 : (Jvm.Cond.methodLink "SnowForSummerModel" (284 : Nat) ({ cls := "SnowForSummerModel", name := "clearRefusal", desc := "(II)I" } : Jvm.MethodName)) ∈ lw_all := lw_g (lw_at lw_m6 105 rfl) rfl
theorem q1394 : (Jvm.Cond.privateMethod ({ cls := "SnowForSummerModel", name := "clearRefusal", desc := "(II)I" } : Jvm.MethodName)) ∈ lw_tbl := lw_at lw_m6 106 rfl
theorem q1395 : (Jvm.Cond.instanceMethod ({ cls := "SnowForSummerModel", name := "clearRefusal", desc := "(II)I" } : Jvm.MethodName)) ∈ lw_all := lw_g (lw_at lw_m6 107 rfl) rfl
theorem q1396 : (Jvm.Cond.code ({ cls := "SnowForSummerModel", name := "clearRefusal", desc := "(II)I" } : Jvm.MethodName) prog_9_method_51_code (3 : Nat) (Option.some Jvm.ClassFile.FieldType.int)) ∈ lw_all := lw_g (lw_at lw_m6 108 rfl) rfl
theorem q1398 : (Jvm.Cond.instanceMethod ({ cls := "SnowForSummerModel", name := "wind", desc := "(II)I" } : Jvm.MethodName)) ∈ lw_all := lw_g (lw_at lw_m6 110 rfl) rfl
theorem q1399 : (Jvm.Cond.selects "SnowForSummerModel" ({ cls := "SnowForSummerModel", name := "wind", desc := "(II)I" } : Jvm.MethodName) ({ cls := "SnowForSummerModel", name := "wind", desc := "(II)I" } : Jvm.MethodName)) ∈ lw_all := lw_g (lw_at lw_m6 111 rfl) rfl
theorem q1400 : (Jvm.Cond.code ({ cls := "SnowForSummerModel", name := "wind", desc := "(II)I" } : Jvm.MethodName) prog_9_method_53_code (6 : Nat) (Option.some Jvm.ClassFile.FieldType.int)) ∈ lw_all := lw_g (lw_at lw_m6 112 rfl) rfl
theorem q1402 : (Jvm.Cond.instanceMethod ({ cls := "SnowForSummerModel", name := "loose", desc := "(II)I" } : Jvm.MethodName)) ∈ lw_all := lw_g (lw_at lw_m6 114 rfl) rfl
theorem q1403 : (Jvm.Cond.selects "SnowForSummerModel" ({ cls := "SnowForSummerModel", name := "loose", desc := "(II)I" } : Jvm.MethodName) ({ cls := "SnowForSummerModel", name := "loose", desc := "(II)I" } : Jvm.MethodName)) ∈ lw_all := lw_g (lw_at lw_m6 115 rfl) rfl
theorem q1404 : (Jvm.Cond.code ({ cls := "SnowForSummerModel", name := "loose", desc := "(II)I" } : Jvm.MethodName) prog_9_method_55_code (5 : Nat) (Option.some Jvm.ClassFile.FieldType.int)) ∈ lw_all := lw_g (lw_at lw_m6 116 rfl) rfl
theorem q1405 : (Jvm.Cond.methodLink "SnowForSummerModel" (287 : Nat) ({ cls := "SnowForSummerModel", name := "looseRefusal", desc := "(II)I" } : Jvm.MethodName)) ∈ lw_all := lw_g (lw_at lw_m6 117 rfl) rfl
theorem q1406 : (Jvm.Cond.privateMethod ({ cls := "SnowForSummerModel", name := "looseRefusal", desc := "(II)I" } : Jvm.MethodName)) ∈ lw_tbl := lw_at lw_m6 118 rfl
theorem q1407 : (Jvm.Cond.instanceMethod ({ cls := "SnowForSummerModel", name := "looseRefusal", desc := "(II)I" } : Jvm.MethodName)) ∈ lw_all := lw_g (lw_at lw_m6 119 rfl) rfl
theorem q1408 : (Jvm.Cond.code ({ cls := "SnowForSummerModel", name := "looseRefusal", desc := "(II)I" } : Jvm.MethodName) prog_9_method_54_code (3 : Nat) (Option.some Jvm.ClassFile.FieldType.int)) ∈ lw_all := lw_g (lw_at lw_m6 120 rfl) rfl
theorem q1410 : (Jvm.Cond.instanceMethod ({ cls := "SnowForSummerModel", name := "work", desc := "(III)I" } : Jvm.MethodName)) ∈ lw_all := lw_g (lw_at lw_m6 122 rfl) rfl
theorem q1411 : (Jvm.Cond.selects "SnowForSummerModel" ({ cls := "SnowForSummerModel", name := "work", desc := "(III)I" } : Jvm.MethodName) ({ cls := "SnowForSummerModel", name := "work", desc := "(III)I" } : Jvm.MethodName)) ∈ lw_all := lw_g (lw_at lw_m6 123 rfl) rfl
theorem q1412 : (Jvm.Cond.code ({ cls := "SnowForSummerModel", name := "work", desc := "(III)I" } : Jvm.MethodName) prog_9_method_56_code (5 : Nat) (Option.some Jvm.ClassFile.FieldType.int)) ∈ lw_all := lw_g (lw_at lw_m6 124 rfl) rfl
theorem q1414 : (Jvm.Cond.instanceMethod ({ cls := "SnowForSummerModel", name := "night", desc := "()I" } : Jvm.MethodName)) ∈ lw_all := lw_g (lw_at lw_m6 126 rfl) rfl
theorem q1415 : (Jvm.Cond.selects "SnowForSummerModel" ({ cls := "SnowForSummerModel", name := "night", desc := "()I" } : Jvm.MethodName) ({ cls := "SnowForSummerModel", name := "night", desc := "()I" } : Jvm.MethodName)) ∈ lw_all := lw_g (lw_at lw_m6 127 rfl) rfl
theorem q1416 : (Jvm.Cond.code ({ cls := "SnowForSummerModel", name := "night", desc := "()I" } : Jvm.MethodName) prog_9_method_57_code (4 : Nat) (Option.some Jvm.ClassFile.FieldType.int)) ∈ lw_all := lw_g (lw_at lw_m6 128 rfl) rfl
theorem q1417 : (Jvm.Cond.methodLink "SnowForSummerModel" (290 : Nat) ({ cls := "SnowForSummerModel", name := "readAct", desc := "(I)V" } : Jvm.MethodName)) ∈ lw_all := lw_g (lw_at lw_m6 129 rfl) rfl
theorem q1418 : (Jvm.Cond.privateMethod ({ cls := "SnowForSummerModel", name := "readAct", desc := "(I)V" } : Jvm.MethodName)) ∈ lw_tbl := lw_at lw_m6 130 rfl
theorem q1419 : (Jvm.Cond.instanceMethod ({ cls := "SnowForSummerModel", name := "readAct", desc := "(I)V" } : Jvm.MethodName)) ∈ lw_all := lw_g (lw_at lw_m6 131 rfl) rfl
theorem q1420 : (Jvm.Cond.code ({ cls := "SnowForSummerModel", name := "readAct", desc := "(I)V" } : Jvm.MethodName) prog_9_method_58_code (3 : Nat) (Option.none : Option Jvm.ClassFile.FieldType)) ∈ lw_all := lw_g (lw_at lw_m6 132 rfl) rfl
theorem q1421 : (Jvm.Cond.methodLink "SnowForSummerModel" (293 : Nat) ({ cls := "SnowForSummerModel", name := "act", desc := "(I)Z" } : Jvm.MethodName)) ∈ lw_all := lw_g (lw_at lw_m6 133 rfl) rfl
theorem q1422 : (Jvm.Cond.privateMethod ({ cls := "SnowForSummerModel", name := "act", desc := "(I)Z" } : Jvm.MethodName)) ∈ lw_tbl := lw_at lw_m6 134 rfl
theorem q1423 : (Jvm.Cond.instanceMethod ({ cls := "SnowForSummerModel", name := "act", desc := "(I)Z" } : Jvm.MethodName)) ∈ lw_all := lw_g (lw_at lw_m6 135 rfl) rfl
theorem q1424 : (Jvm.Cond.code ({ cls := "SnowForSummerModel", name := "act", desc := "(I)Z" } : Jvm.MethodName) prog_9_method_59_code (6 : Nat) (Option.some Jvm.ClassFile.FieldType.boolean)) ∈ lw_all := lw_g (lw_at lw_m6 136 rfl) rfl
theorem q1426 : (Jvm.Cond.instanceMethod ({ cls := "SnowForSummerModel", name := "undo", desc := "()I" } : Jvm.MethodName)) ∈ lw_all := lw_g (lw_at lw_m6 138 rfl) rfl
theorem q1427 : (Jvm.Cond.selects "SnowForSummerModel" ({ cls := "SnowForSummerModel", name := "undo", desc := "()I" } : Jvm.MethodName) ({ cls := "SnowForSummerModel", name := "undo", desc := "()I" } : Jvm.MethodName)) ∈ lw_all := lw_g (lw_at lw_m6 139 rfl) rfl
theorem q1428 : (Jvm.Cond.code ({ cls := "SnowForSummerModel", name := "undo", desc := "()I" } : Jvm.MethodName) prog_9_method_60_code (2 : Nat) (Option.some Jvm.ClassFile.FieldType.int)) ∈ lw_all := lw_g (lw_at lw_m6 140 rfl) rfl
theorem q1430 : (Jvm.Cond.instanceMethod ({ cls := "SnowForSummerModel", name := "ring", desc := "()I" } : Jvm.MethodName)) ∈ lw_all := lw_g (lw_at lw_m6 142 rfl) rfl
theorem q1431 : (Jvm.Cond.selects "SnowForSummerModel" ({ cls := "SnowForSummerModel", name := "ring", desc := "()I" } : Jvm.MethodName) ({ cls := "SnowForSummerModel", name := "ring", desc := "()I" } : Jvm.MethodName)) ∈ lw_all := lw_g (lw_at lw_m6 143 rfl) rfl
theorem q1432 : (Jvm.Cond.code ({ cls := "SnowForSummerModel", name := "ring", desc := "()I" } : Jvm.MethodName) prog_9_method_64_code (3 : Nat) (Option.some Jvm.ClassFile.FieldType.int)) ∈ lw_all := lw_g (lw_at lw_m6 144 rfl) rfl
theorem q1433 : (Jvm.Cond.methodLink "SnowForSummerModel" (303 : Nat) ({ cls := "SnowForSummerModel", name := "findRing", desc := "()I" } : Jvm.MethodName)) ∈ lw_all := lw_g (lw_at lw_m6 145 rfl) rfl
theorem q1434 : (Jvm.Cond.privateMethod ({ cls := "SnowForSummerModel", name := "findRing", desc := "()I" } : Jvm.MethodName)) ∈ lw_tbl := lw_at lw_m6 146 rfl
theorem q1435 : (Jvm.Cond.instanceMethod ({ cls := "SnowForSummerModel", name := "findRing", desc := "()I" } : Jvm.MethodName)) ∈ lw_all := lw_g (lw_at lw_m6 147 rfl) rfl
theorem q1436 : (Jvm.Cond.code ({ cls := "SnowForSummerModel", name := "findRing", desc := "()I" } : Jvm.MethodName) prog_9_method_62_code (3 : Nat) (Option.some Jvm.ClassFile.FieldType.int)) ∈ lw_all := lw_g (lw_at lw_m6 148 rfl) rfl
theorem q1437 : (Jvm.Cond.constant "SnowForSummerModel" (302 : Nat) (1000000 : Int32)) ∈ lw_all := lw_g (lw_at lw_m6 149 rfl) rfl
theorem q1438 : (Jvm.Cond.methodLink "SnowForSummerModel" (299 : Nat) ({ cls := "SnowForSummerModel", name := "goRing", desc := "(I)V" } : Jvm.MethodName)) ∈ lw_all := lw_g (lw_at lw_m6 150 rfl) rfl
theorem q1439 : (Jvm.Cond.privateMethod ({ cls := "SnowForSummerModel", name := "goRing", desc := "(I)V" } : Jvm.MethodName)) ∈ lw_tbl := lw_at lw_m6 151 rfl
theorem q1440 : (Jvm.Cond.instanceMethod ({ cls := "SnowForSummerModel", name := "goRing", desc := "(I)V" } : Jvm.MethodName)) ∈ lw_all := lw_g (lw_at lw_m6 152 rfl) rfl
theorem q1441 : (Jvm.Cond.code ({ cls := "SnowForSummerModel", name := "goRing", desc := "(I)V" } : Jvm.MethodName) prog_9_method_61_code (5 : Nat) (Option.none : Option Jvm.ClassFile.FieldType)) ∈ lw_all := lw_g (lw_at lw_m6 153 rfl) rfl
theorem q1443 : (Jvm.Cond.instanceMethod ({ cls := "SnowForSummerModel", name := "cancel", desc := "()I" } : Jvm.MethodName)) ∈ lw_all := lw_g (lw_at lw_m6 155 rfl) rfl
theorem q1444 : (Jvm.Cond.selects "SnowForSummerModel" ({ cls := "SnowForSummerModel", name := "cancel", desc := "()I" } : Jvm.MethodName) ({ cls := "SnowForSummerModel", name := "cancel", desc := "()I" } : Jvm.MethodName)) ∈ lw_all := lw_g (lw_at lw_m6 156 rfl) rfl
theorem q1445 : (Jvm.Cond.code ({ cls := "SnowForSummerModel", name := "cancel", desc := "()I" } : Jvm.MethodName) prog_9_method_65_code (2 : Nat) (Option.some Jvm.ClassFile.FieldType.int)) ∈ lw_all := lw_g (lw_at lw_m6 157 rfl) rfl
theorem q1446 : (Jvm.Cond.methodLink "SnowForSummerModel" (306 : Nat) ({ cls := "SnowForSummerModel", name := "clearRing", desc := "(I)I" } : Jvm.MethodName)) ∈ lw_all := lw_g (lw_at lw_m6 158 rfl) rfl
theorem q1447 : (Jvm.Cond.privateMethod ({ cls := "SnowForSummerModel", name := "clearRing", desc := "(I)I" } : Jvm.MethodName)) ∈ lw_tbl := lw_at lw_m6 159 rfl
theorem q1448 : (Jvm.Cond.instanceMethod ({ cls := "SnowForSummerModel", name := "clearRing", desc := "(I)I" } : Jvm.MethodName)) ∈ lw_all := lw_g (lw_at lw_m6 160 rfl) rfl
theorem q1449 : (Jvm.Cond.code ({ cls := "SnowForSummerModel", name := "clearRing", desc := "(I)I" } : Jvm.MethodName) prog_9_method_63_code (3 : Nat) (Option.some Jvm.ClassFile.FieldType.int)) ∈ lw_all := lw_g (lw_at lw_m6 161 rfl) rfl
theorem q1451 : (Jvm.Cond.instanceMethod ({ cls := "SnowForSummerModel", name := "rings", desc := "()I" } : Jvm.MethodName)) ∈ lw_all := lw_g (lw_at lw_m6 163 rfl) rfl
theorem q1452 : (Jvm.Cond.selects "SnowForSummerModel" ({ cls := "SnowForSummerModel", name := "rings", desc := "()I" } : Jvm.MethodName) ({ cls := "SnowForSummerModel", name := "rings", desc := "()I" } : Jvm.MethodName)) ∈ lw_all := lw_g (lw_at lw_m6 164 rfl) rfl
theorem q1453 : (Jvm.Cond.code ({ cls := "SnowForSummerModel", name := "rings", desc := "()I" } : Jvm.MethodName) prog_9_method_66_code (4 : Nat) (Option.some Jvm.ClassFile.FieldType.int)) ∈ lw_all := lw_g (lw_at lw_m6 165 rfl) rfl
theorem q1455 : (Jvm.Cond.instanceMethod ({ cls := "SnowForSummerModel", name := "net", desc := "(I)I" } : Jvm.MethodName)) ∈ lw_all := lw_g (lw_at lw_m6 167 rfl) rfl
theorem q1456 : (Jvm.Cond.selects "SnowForSummerModel" ({ cls := "SnowForSummerModel", name := "net", desc := "(I)I" } : Jvm.MethodName) ({ cls := "SnowForSummerModel", name := "net", desc := "(I)I" } : Jvm.MethodName)) ∈ lw_all := lw_g (lw_at lw_m6 168 rfl) rfl
theorem q1457 : (Jvm.Cond.code ({ cls := "SnowForSummerModel", name := "net", desc := "(I)I" } : Jvm.MethodName) prog_9_method_68_code (2 : Nat) (Option.some Jvm.ClassFile.FieldType.int)) ∈ lw_all := lw_g (lw_at lw_m6 169 rfl) rfl
theorem q1458 : (Jvm.Cond.methodLink "SnowForSummerModel" (309 : Nat) ({ cls := "SnowForSummerModel", name := "netOf", desc := "(I)I" } : Jvm.MethodName)) ∈ lw_all := lw_g (lw_at lw_m6 170 rfl) rfl
theorem q1459 : (Jvm.Cond.privateMethod ({ cls := "SnowForSummerModel", name := "netOf", desc := "(I)I" } : Jvm.MethodName)) ∈ lw_tbl := lw_at lw_m6 171 rfl
theorem q1460 : (Jvm.Cond.instanceMethod ({ cls := "SnowForSummerModel", name := "netOf", desc := "(I)I" } : Jvm.MethodName)) ∈ lw_all := lw_g (lw_at lw_m6 172 rfl) rfl
theorem q1461 : (Jvm.Cond.code ({ cls := "SnowForSummerModel", name := "netOf", desc := "(I)I" } : Jvm.MethodName) prog_9_method_67_code (2 : Nat) (Option.some Jvm.ClassFile.FieldType.int)) ∈ lw_all := lw_g (lw_at lw_m6 173 rfl) rfl
theorem q1463 : (Jvm.Cond.instanceMethod ({ cls := "SnowForSummerModel", name := "least", desc := "()I" } : Jvm.MethodName)) ∈ lw_all := lw_g (lw_at lw_m6 175 rfl) rfl
theorem q1464 : (Jvm.Cond.selects "SnowForSummerModel" ({ cls := "SnowForSummerModel", name := "least", desc := "()I" } : Jvm.MethodName) ({ cls := "SnowForSummerModel", name := "least", desc := "()I" } : Jvm.MethodName)) ∈ lw_all := lw_g (lw_at lw_m6 176 rfl) rfl
theorem q1465 : (Jvm.Cond.code ({ cls := "SnowForSummerModel", name := "least", desc := "()I" } : Jvm.MethodName) prog_9_method_70_code (3 : Nat) (Option.some Jvm.ClassFile.FieldType.int)) ∈ lw_all := lw_g (lw_at lw_m6 177 rfl) rfl
theorem q1466 : (Jvm.Cond.methodLink "SnowForSummerModel" (312 : Nat) ({ cls := "SnowForSummerModel", name := "allOwed", desc := "()I" } : Jvm.MethodName)) ∈ lw_all := lw_g (lw_at lw_m6 178 rfl) rfl
theorem q1467 : (Jvm.Cond.privateMethod ({ cls := "SnowForSummerModel", name := "allOwed", desc := "()I" } : Jvm.MethodName)) ∈ lw_tbl := lw_at lw_m6 179 rfl
theorem q1468 : (Jvm.Cond.instanceMethod ({ cls := "SnowForSummerModel", name := "allOwed", desc := "()I" } : Jvm.MethodName)) ∈ lw_all := lw_g (lw_at lw_m6 180 rfl) rfl
theorem q1469 : (Jvm.Cond.code ({ cls := "SnowForSummerModel", name := "allOwed", desc := "()I" } : Jvm.MethodName) prog_9_method_69_code (3 : Nat) (Option.some Jvm.ClassFile.FieldType.int)) ∈ lw_all := lw_g (lw_at lw_m6 181 rfl) rfl
theorem q1471 : (Jvm.Cond.instanceMethod ({ cls := "SnowForSummerModel", name := "even", desc := "()I" } : Jvm.MethodName)) ∈ lw_all := lw_g (lw_at lw_m6 183 rfl) rfl
theorem q1472 : (Jvm.Cond.selects "SnowForSummerModel" ({ cls := "SnowForSummerModel", name := "even", desc := "()I" } : Jvm.MethodName) ({ cls := "SnowForSummerModel", name := "even", desc := "()I" } : Jvm.MethodName)) ∈ lw_all := lw_g (lw_at lw_m6 184 rfl) rfl
theorem q1473 : (Jvm.Cond.code ({ cls := "SnowForSummerModel", name := "even", desc := "()I" } : Jvm.MethodName) prog_9_method_71_code (6 : Nat) (Option.some Jvm.ClassFile.FieldType.int)) ∈ lw_all := lw_g (lw_at lw_m6 185 rfl) rfl
theorem q1475 : (Jvm.Cond.instanceMethod ({ cls := "SnowForSummerModel", name := "debtor", desc := "()I" } : Jvm.MethodName)) ∈ lw_all := lw_g (lw_at lw_m6 187 rfl) rfl
theorem q1476 : (Jvm.Cond.selects "SnowForSummerModel" ({ cls := "SnowForSummerModel", name := "debtor", desc := "()I" } : Jvm.MethodName) ({ cls := "SnowForSummerModel", name := "debtor", desc := "()I" } : Jvm.MethodName)) ∈ lw_all := lw_g (lw_at lw_m6 188 rfl) rfl
theorem q1477 : (Jvm.Cond.code ({ cls := "SnowForSummerModel", name := "debtor", desc := "()I" } : Jvm.MethodName) prog_9_method_73_code (4 : Nat) (Option.some Jvm.ClassFile.FieldType.int)) ∈ lw_all := lw_g (lw_at lw_m6 189 rfl) rfl
theorem q1478 : (Jvm.Cond.methodLink "SnowForSummerModel" (315 : Nat) ({ cls := "SnowForSummerModel", name := "greatestDebtor", desc := "()I" } : Jvm.MethodName)) ∈ lw_all := lw_g (lw_at lw_m6 190 rfl) rfl
theorem q1479 : (Jvm.Cond.privateMethod ({ cls := "SnowForSummerModel", name := "greatestDebtor", desc := "()I" } : Jvm.MethodName)) ∈ lw_tbl := lw_at lw_m6 191 rfl
theorem q1480 : (Jvm.Cond.instanceMethod ({ cls := "SnowForSummerModel", name := "greatestDebtor", desc := "()I" } : Jvm.MethodName)) ∈ lw_all := lw_g (lw_at lw_m6 192 rfl) rfl
theorem q1481 : (Jvm.Cond.code ({ cls := "SnowForSummerModel", name := "greatestDebtor", desc := "()I" } : Jvm.MethodName) prog_9_method_72_code (3 : Nat) (Option.some Jvm.ClassFile.FieldType.int)) ∈ lw_all := lw_g (lw_at lw_m6 193 rfl) rfl
theorem q1483 : (Jvm.Cond.instanceMethod ({ cls := "SnowForSummerModel", name := "june", desc := "()I" } : Jvm.MethodName)) ∈ lw_all := lw_g (lw_at lw_m6 195 rfl) rfl
theorem q1484 : (Jvm.Cond.selects "SnowForSummerModel" ({ cls := "SnowForSummerModel", name := "june", desc := "()I" } : Jvm.MethodName) ({ cls := "SnowForSummerModel", name := "june", desc := "()I" } : Jvm.MethodName)) ∈ lw_all := lw_g (lw_at lw_m6 196 rfl) rfl
theorem q1485 : (Jvm.Cond.code ({ cls := "SnowForSummerModel", name := "june", desc := "()I" } : Jvm.MethodName) prog_9_method_74_code (2 : Nat) (Option.some Jvm.ClassFile.FieldType.int)) ∈ lw_all := lw_g (lw_at lw_m6 197 rfl) rfl
theorem q1487 : (Jvm.Cond.instanceMethod ({ cls := "SnowForSummerModel", name := "hay", desc := "(I)I" } : Jvm.MethodName)) ∈ lw_all := lw_g (lw_at lw_m6 199 rfl) rfl
theorem q1488 : (Jvm.Cond.selects "SnowForSummerModel" ({ cls := "SnowForSummerModel", name := "hay", desc := "(I)I" } : Jvm.MethodName) ({ cls := "SnowForSummerModel", name := "hay", desc := "(I)I" } : Jvm.MethodName)) ∈ lw_all := lw_g (lw_at lw_m6 200 rfl) rfl
theorem q1489 : (Jvm.Cond.code ({ cls := "SnowForSummerModel", name := "hay", desc := "(I)I" } : Jvm.MethodName) prog_9_method_77_code (5 : Nat) (Option.some Jvm.ClassFile.FieldType.int)) ∈ lw_all := lw_g (lw_at lw_m6 201 rfl) rfl
theorem q1490 : (Jvm.Cond.methodLink "SnowForSummerModel" (321 : Nat) ({ cls := "SnowForSummerModel", name := "wanting", desc := "(I)I" } : Jvm.MethodName)) ∈ lw_all := lw_g (lw_at lw_m6 202 rfl) rfl
theorem q1491 : (Jvm.Cond.privateMethod ({ cls := "SnowForSummerModel", name := "wanting", desc := "(I)I" } : Jvm.MethodName)) ∈ lw_tbl := lw_at lw_m6 203 rfl
theorem q1492 : (Jvm.Cond.instanceMethod ({ cls := "SnowForSummerModel", name := "wanting", desc := "(I)I" } : Jvm.MethodName)) ∈ lw_all := lw_g (lw_at lw_m6 204 rfl) rfl
theorem q1493 : (Jvm.Cond.code ({ cls := "SnowForSummerModel", name := "wanting", desc := "(I)I" } : Jvm.MethodName) prog_9_method_76_code (4 : Nat) (Option.some Jvm.ClassFile.FieldType.int)) ∈ lw_all := lw_g (lw_at lw_m6 205 rfl) rfl
theorem q1494 : (Jvm.Cond.methodLink "SnowForSummerModel" (318 : Nat) ({ cls := "SnowForSummerModel", name := "goJune", desc := "(I)V" } : Jvm.MethodName)) ∈ lw_all := lw_g (lw_at lw_m6 206 rfl) rfl
theorem q1495 : (Jvm.Cond.privateMethod ({ cls := "SnowForSummerModel", name := "goJune", desc := "(I)V" } : Jvm.MethodName)) ∈ lw_tbl := lw_at lw_m6 207 rfl
theorem q1496 : (Jvm.Cond.instanceMethod ({ cls := "SnowForSummerModel", name := "goJune", desc := "(I)V" } : Jvm.MethodName)) ∈ lw_all := lw_g (lw_at lw_m6 208 rfl) rfl
theorem q1497 : (Jvm.Cond.code ({ cls := "SnowForSummerModel", name := "goJune", desc := "(I)V" } : Jvm.MethodName) prog_9_method_75_code (6 : Nat) (Option.none : Option Jvm.ClassFile.FieldType)) ∈ lw_all := lw_g (lw_at lw_m6 209 rfl) rfl
theorem q1499 : (Jvm.Cond.instanceMethod ({ cls := "SnowForSummerModel", name := "works", desc := "(II)I" } : Jvm.MethodName)) ∈ lw_all := lw_g (lw_at lw_m6 211 rfl) rfl
theorem q1500 : (Jvm.Cond.selects "SnowForSummerModel" ({ cls := "SnowForSummerModel", name := "works", desc := "(II)I" } : Jvm.MethodName) ({ cls := "SnowForSummerModel", name := "works", desc := "(II)I" } : Jvm.MethodName)) ∈ lw_all := lw_g (lw_at lw_m6 212 rfl) rfl
theorem q1501 : (Jvm.Cond.code ({ cls := "SnowForSummerModel", name := "works", desc := "(II)I" } : Jvm.MethodName) prog_9_method_78_code (5 : Nat) (Option.some Jvm.ClassFile.FieldType.int)) ∈ lw_all := lw_g (lw_at lw_m6 213 rfl) rfl
theorem q1503 : (Jvm.Cond.instanceMethod ({ cls := "SnowForSummerModel", name := "summer", desc := "()I" } : Jvm.MethodName)) ∈ lw_all := lw_g (lw_at lw_m6 215 rfl) rfl
theorem q1504 : (Jvm.Cond.selects "SnowForSummerModel" ({ cls := "SnowForSummerModel", name := "summer", desc := "()I" } : Jvm.MethodName) ({ cls := "SnowForSummerModel", name := "summer", desc := "()I" } : Jvm.MethodName)) ∈ lw_all := lw_g (lw_at lw_m6 216 rfl) rfl
theorem q1505 : (Jvm.Cond.code ({ cls := "SnowForSummerModel", name := "summer", desc := "()I" } : Jvm.MethodName) prog_9_method_79_code (2 : Nat) (Option.some Jvm.ClassFile.FieldType.int)) ∈ lw_all := lw_g (lw_at lw_m6 217 rfl) rfl
theorem q1507 : (Jvm.Cond.instanceMethod ({ cls := "SnowForSummerModel", name := "ahead", desc := "(I)I" } : Jvm.MethodName)) ∈ lw_all := lw_g (lw_at lw_m6 219 rfl) rfl
theorem q1508 : (Jvm.Cond.selects "SnowForSummerModel" ({ cls := "SnowForSummerModel", name := "ahead", desc := "(I)I" } : Jvm.MethodName) ({ cls := "SnowForSummerModel", name := "ahead", desc := "(I)I" } : Jvm.MethodName)) ∈ lw_all := lw_g (lw_at lw_m6 220 rfl) rfl
theorem q1509 : (Jvm.Cond.code ({ cls := "SnowForSummerModel", name := "ahead", desc := "(I)I" } : Jvm.MethodName) prog_9_method_82_code (3 : Nat) (Option.some Jvm.ClassFile.FieldType.int)) ∈ lw_all := lw_g (lw_at lw_m6 221 rfl) rfl
theorem q1510 : (Jvm.Cond.methodLink "SnowForSummerModel" (324 : Nat) ({ cls := "SnowForSummerModel", name := "isDays", desc := "(I)Z" } : Jvm.MethodName)) ∈ lw_all := lw_g (lw_at lw_m6 222 rfl) rfl
theorem q1511 : (Jvm.Cond.static ({ cls := "SnowForSummerModel", name := "isDays", desc := "(I)Z" } : Jvm.MethodName)) ∈ lw_all := lw_g (lw_at lw_m6 223 rfl) rfl
theorem q1512 : (Jvm.Cond.code ({ cls := "SnowForSummerModel", name := "isDays", desc := "(I)Z" } : Jvm.MethodName) prog_9_method_81_code (1 : Nat) (Option.some Jvm.ClassFile.FieldType.boolean)) ∈ lw_all := lw_g (lw_at lw_m6 224 rfl) rfl
theorem q1513 : (Jvm.Cond.methodLink "SnowForSummerModel" (327 : Nat) ({ cls := "SnowForSummerModel", name := "goOn", desc := "(I)V" } : Jvm.MethodName)) ∈ lw_all := lw_g (lw_at lw_m6 225 rfl) rfl
theorem q1514 : (Jvm.Cond.privateMethod ({ cls := "SnowForSummerModel", name := "goOn", desc := "(I)V" } : Jvm.MethodName)) ∈ lw_tbl := lw_at lw_m6 226 rfl
theorem q1515 : (Jvm.Cond.instanceMethod ({ cls := "SnowForSummerModel", name := "goOn", desc := "(I)V" } : Jvm.MethodName)) ∈ lw_all := lw_g (lw_at lw_m6 227 rfl) rfl
theorem q1516 : (Jvm.Cond.code ({ cls := "SnowForSummerModel", name := "goOn", desc := "(I)V" } : Jvm.MethodName) prog_9_method_80_code (3 : Nat) (Option.none : Option Jvm.ClassFile.FieldType)) ∈ lw_all := lw_g (lw_at lw_m6 228 rfl) rfl
theorem q1518 : (Jvm.Cond.instanceMethod ({ cls := "SnowForSummerModel", name := "slides", desc := "(I)I" } : Jvm.MethodName)) ∈ lw_all := lw_g (lw_at lw_m6 230 rfl) rfl
theorem q1519 : (Jvm.Cond.selects "SnowForSummerModel" ({ cls := "SnowForSummerModel", name := "slides", desc := "(I)I" } : Jvm.MethodName) ({ cls := "SnowForSummerModel", name := "slides", desc := "(I)I" } : Jvm.MethodName)) ∈ lw_all := lw_g (lw_at lw_m6 231 rfl) rfl
theorem q1520 : (Jvm.Cond.code ({ cls := "SnowForSummerModel", name := "slides", desc := "(I)I" } : Jvm.MethodName) prog_9_method_83_code (5 : Nat) (Option.some Jvm.ClassFile.FieldType.int)) ∈ lw_all := lw_g (lw_at lw_m6 232 rfl) rfl
theorem q1522 : (Jvm.Cond.instanceMethod ({ cls := "SnowForSummerModel", name := "later", desc := "(II)I" } : Jvm.MethodName)) ∈ lw_all := lw_g (lw_at lw_m6 234 rfl) rfl
theorem q1523 : (Jvm.Cond.selects "SnowForSummerModel" ({ cls := "SnowForSummerModel", name := "later", desc := "(II)I" } : Jvm.MethodName) ({ cls := "SnowForSummerModel", name := "later", desc := "(II)I" } : Jvm.MethodName)) ∈ lw_all := lw_g (lw_at lw_m6 235 rfl) rfl
theorem q1524 : (Jvm.Cond.code ({ cls := "SnowForSummerModel", name := "later", desc := "(II)I" } : Jvm.MethodName) prog_9_method_84_code (4 : Nat) (Option.some Jvm.ClassFile.FieldType.int)) ∈ lw_all := lw_g (lw_at lw_m6 236 rfl) rfl
theorem q1526 : (Jvm.Cond.instanceMethod ({ cls := "SnowForSummerModel", name := "deepest", desc := "(II)I" } : Jvm.MethodName)) ∈ lw_all := lw_g (lw_at lw_m6 238 rfl) rfl
theorem q1527 : (Jvm.Cond.selects "SnowForSummerModel" ({ cls := "SnowForSummerModel", name := "deepest", desc := "(II)I" } : Jvm.MethodName) ({ cls := "SnowForSummerModel", name := "deepest", desc := "(II)I" } : Jvm.MethodName)) ∈ lw_all := lw_g (lw_at lw_m6 239 rfl) rfl
theorem q1528 : (Jvm.Cond.code ({ cls := "SnowForSummerModel", name := "deepest", desc := "(II)I" } : Jvm.MethodName) prog_9_method_85_code (6 : Nat) (Option.some Jvm.ClassFile.FieldType.int)) ∈ lw_all := lw_g (lw_at lw_m7 0 rfl) rfl
theorem q1530 : (Jvm.Cond.instanceMethod ({ cls := "SnowForSummerModel", name := "lord", desc := "(I)I" } : Jvm.MethodName)) ∈ lw_all := lw_g (lw_at lw_m7 2 rfl) rfl
theorem q1531 : (Jvm.Cond.selects "SnowForSummerModel" ({ cls := "SnowForSummerModel", name := "lord", desc := "(I)I" } : Jvm.MethodName) ({ cls := "SnowForSummerModel", name := "lord", desc := "(I)I" } : Jvm.MethodName)) ∈ lw_all := lw_g (lw_at lw_m7 3 rfl) rfl
theorem q1532 : (Jvm.Cond.code ({ cls := "SnowForSummerModel", name := "lord", desc := "(I)I" } : Jvm.MethodName) prog_9_method_86_code (7 : Nat) (Option.some Jvm.ClassFile.FieldType.int)) ∈ lw_all := lw_g (lw_at lw_m7 4 rfl) rfl
theorem q1534 : (Jvm.Cond.instanceMethod ({ cls := "SnowForSummerModel", name := "worst", desc := "(I)I" } : Jvm.MethodName)) ∈ lw_all := lw_g (lw_at lw_m7 6 rfl) rfl
theorem q1535 : (Jvm.Cond.selects "SnowForSummerModel" ({ cls := "SnowForSummerModel", name := "worst", desc := "(I)I" } : Jvm.MethodName) ({ cls := "SnowForSummerModel", name := "worst", desc := "(I)I" } : Jvm.MethodName)) ∈ lw_all := lw_g (lw_at lw_m7 7 rfl) rfl
theorem q1536 : (Jvm.Cond.code ({ cls := "SnowForSummerModel", name := "worst", desc := "(I)I" } : Jvm.MethodName) prog_9_method_87_code (5 : Nat) (Option.some Jvm.ClassFile.FieldType.int)) ∈ lw_all := lw_g (lw_at lw_m7 8 rfl) rfl
theorem q1538 : (Jvm.Cond.instanceMethod ({ cls := "SnowForSummerModel", name := "melt", desc := "()I" } : Jvm.MethodName)) ∈ lw_all := lw_g (lw_at lw_m7 10 rfl) rfl
theorem q1539 : (Jvm.Cond.selects "SnowForSummerModel" ({ cls := "SnowForSummerModel", name := "melt", desc := "()I" } : Jvm.MethodName) ({ cls := "SnowForSummerModel", name := "melt", desc := "()I" } : Jvm.MethodName)) ∈ lw_all := lw_g (lw_at lw_m7 11 rfl) rfl
theorem q1540 : (Jvm.Cond.code ({ cls := "SnowForSummerModel", name := "melt", desc := "()I" } : Jvm.MethodName) prog_9_method_89_code (2 : Nat) (Option.some Jvm.ClassFile.FieldType.int)) ∈ lw_all := lw_g (lw_at lw_m7 12 rfl) rfl
theorem q1541 : (Jvm.Cond.methodLink "SnowForSummerModel" (330 : Nat) ({ cls := "SnowForSummerModel", name := "isBareOf", desc := "()Z" } : Jvm.MethodName)) ∈ lw_all := lw_g (lw_at lw_m7 13 rfl) rfl
theorem q1542 : (Jvm.Cond.privateMethod ({ cls := "SnowForSummerModel", name := "isBareOf", desc := "()Z" } : Jvm.MethodName)) ∈ lw_tbl := lw_at lw_m7 14 rfl
theorem q1543 : (Jvm.Cond.instanceMethod ({ cls := "SnowForSummerModel", name := "isBareOf", desc := "()Z" } : Jvm.MethodName)) ∈ lw_all := lw_g (lw_at lw_m7 15 rfl) rfl
theorem q1544 : (Jvm.Cond.code ({ cls := "SnowForSummerModel", name := "isBareOf", desc := "()Z" } : Jvm.MethodName) prog_9_method_88_code (2 : Nat) (Option.some Jvm.ClassFile.FieldType.boolean)) ∈ lw_all := lw_g (lw_at lw_m7 16 rfl) rfl
theorem q1546 : (Jvm.Cond.instanceMethod ({ cls := "SnowForSummerModel", name := "lazy", desc := "(I)I" } : Jvm.MethodName)) ∈ lw_all := lw_g (lw_at lw_m7 18 rfl) rfl
theorem q1547 : (Jvm.Cond.selects "SnowForSummerModel" ({ cls := "SnowForSummerModel", name := "lazy", desc := "(I)I" } : Jvm.MethodName) ({ cls := "SnowForSummerModel", name := "lazy", desc := "(I)I" } : Jvm.MethodName)) ∈ lw_all := lw_g (lw_at lw_m7 19 rfl) rfl
theorem q1548 : (Jvm.Cond.code ({ cls := "SnowForSummerModel", name := "lazy", desc := "(I)I" } : Jvm.MethodName) prog_9_method_90_code (4 : Nat) (Option.some Jvm.ClassFile.FieldType.int)) ∈ lw_all := lw_g (lw_at lw_m7 20 rfl) rfl
theorem q1550 : (Jvm.Cond.instanceMethod ({ cls := "SnowForSummerModel", name := "dig", desc := "(III)I" } : Jvm.MethodName)) ∈ lw_all := lw_g (lw_at lw_m7 22 rfl) rfl
theorem q1551 : (Jvm.Cond.selects "SnowForSummerModel" ({ cls := "SnowForSummerModel", name := "dig", desc := "(III)I" } : Jvm.MethodName) ({ cls := "SnowForSummerModel", name := "dig", desc := "(III)I" } : Jvm.MethodName)) ∈ lw_all := lw_g (lw_at lw_m7 23 rfl) rfl
theorem q1552 : (Jvm.Cond.code ({ cls := "SnowForSummerModel", name := "dig", desc := "(III)I" } : Jvm.MethodName) prog_9_method_91_code (7 : Nat) (Option.some Jvm.ClassFile.FieldType.int)) ∈ lw_all := lw_g (lw_at lw_m7 24 rfl) rfl
theorem q1554 : (Jvm.Cond.instanceMethod ({ cls := "SnowForSummerModel", name := "bare", desc := "(II)I" } : Jvm.MethodName)) ∈ lw_all := lw_g (lw_at lw_m7 26 rfl) rfl
theorem q1555 : (Jvm.Cond.selects "SnowForSummerModel" ({ cls := "SnowForSummerModel", name := "bare", desc := "(II)I" } : Jvm.MethodName) ({ cls := "SnowForSummerModel", name := "bare", desc := "(II)I" } : Jvm.MethodName)) ∈ lw_all := lw_g (lw_at lw_m7 27 rfl) rfl
theorem q1556 : (Jvm.Cond.code ({ cls := "SnowForSummerModel", name := "bare", desc := "(II)I" } : Jvm.MethodName) prog_9_method_92_code (5 : Nat) (Option.some Jvm.ClassFile.FieldType.int)) ∈ lw_all := lw_g (lw_at lw_m7 28 rfl) rfl
theorem q1558 : (Jvm.Cond.instanceMethod ({ cls := "SnowForSummerModel", name := "best", desc := "(II)I" } : Jvm.MethodName)) ∈ lw_all := lw_g (lw_at lw_m7 30 rfl) rfl
theorem q1559 : (Jvm.Cond.selects "SnowForSummerModel" ({ cls := "SnowForSummerModel", name := "best", desc := "(II)I" } : Jvm.MethodName) ({ cls := "SnowForSummerModel", name := "best", desc := "(II)I" } : Jvm.MethodName)) ∈ lw_all := lw_g (lw_at lw_m7 31 rfl) rfl
theorem q1560 : (Jvm.Cond.code ({ cls := "SnowForSummerModel", name := "best", desc := "(II)I" } : Jvm.MethodName) prog_9_method_95_code (3 : Nat) (Option.some Jvm.ClassFile.FieldType.int)) ∈ lw_all := lw_g (lw_at lw_m7 32 rfl) rfl
theorem q1561 : (Jvm.Cond.methodLink "SnowForSummerModel" (336 : Nat) ({ cls := "SnowForSummerModel", name := "bestBy", desc := "(III)I" } : Jvm.MethodName)) ∈ lw_all := lw_g (lw_at lw_m7 33 rfl) rfl
theorem q1562 : (Jvm.Cond.privateMethod ({ cls := "SnowForSummerModel", name := "bestBy", desc := "(III)I" } : Jvm.MethodName)) ∈ lw_tbl := lw_at lw_m7 34 rfl
theorem q1563 : (Jvm.Cond.instanceMethod ({ cls := "SnowForSummerModel", name := "bestBy", desc := "(III)I" } : Jvm.MethodName)) ∈ lw_all := lw_g (lw_at lw_m7 35 rfl) rfl
theorem q1564 : (Jvm.Cond.code ({ cls := "SnowForSummerModel", name := "bestBy", desc := "(III)I" } : Jvm.MethodName) prog_9_method_94_code (11 : Nat) (Option.some Jvm.ClassFile.FieldType.int)) ∈ lw_all := lw_g (lw_at lw_m7 36 rfl) rfl
theorem q1565 : (Jvm.Cond.methodLink "SnowForSummerModel" (333 : Nat) ({ cls := "SnowForSummerModel", name := "owedByPlan", desc := "(III)I" } : Jvm.MethodName)) ∈ lw_all := lw_g (lw_at lw_m7 37 rfl) rfl
theorem q1566 : (Jvm.Cond.privateMethod ({ cls := "SnowForSummerModel", name := "owedByPlan", desc := "(III)I" } : Jvm.MethodName)) ∈ lw_tbl := lw_at lw_m7 38 rfl
theorem q1567 : (Jvm.Cond.instanceMethod ({ cls := "SnowForSummerModel", name := "owedByPlan", desc := "(III)I" } : Jvm.MethodName)) ∈ lw_all := lw_g (lw_at lw_m7 39 rfl) rfl
theorem q1568 : (Jvm.Cond.code ({ cls := "SnowForSummerModel", name := "owedByPlan", desc := "(III)I" } : Jvm.MethodName) prog_9_method_93_code (6 : Nat) (Option.some Jvm.ClassFile.FieldType.int)) ∈ lw_all := lw_g (lw_at lw_m7 40 rfl) rfl
theorem q1570 : (Jvm.Cond.instanceMethod ({ cls := "SnowForSummerModel", name := "own", desc := "(III)I" } : Jvm.MethodName)) ∈ lw_all := lw_g (lw_at lw_m7 42 rfl) rfl
theorem q1571 : (Jvm.Cond.selects "SnowForSummerModel" ({ cls := "SnowForSummerModel", name := "own", desc := "(III)I" } : Jvm.MethodName) ({ cls := "SnowForSummerModel", name := "own", desc := "(III)I" } : Jvm.MethodName)) ∈ lw_all := lw_g (lw_at lw_m7 43 rfl) rfl
theorem q1572 : (Jvm.Cond.code ({ cls := "SnowForSummerModel", name := "own", desc := "(III)I" } : Jvm.MethodName) prog_9_method_96_code (4 : Nat) (Option.some Jvm.ClassFile.FieldType.int)) ∈ lw_all := lw_g (lw_at lw_m7 44 rfl) rfl
theorem q1574 : (Jvm.Cond.instanceMethod ({ cls := "SnowForSummerModel", name := "better", desc := "(II)I" } : Jvm.MethodName)) ∈ lw_all := lw_g (lw_at lw_m7 46 rfl) rfl
theorem q1575 : (Jvm.Cond.selects "SnowForSummerModel" ({ cls := "SnowForSummerModel", name := "better", desc := "(II)I" } : Jvm.MethodName) ({ cls := "SnowForSummerModel", name := "better", desc := "(II)I" } : Jvm.MethodName)) ∈ lw_all := lw_g (lw_at lw_m7 47 rfl) rfl
theorem q1576 : (Jvm.Cond.code ({ cls := "SnowForSummerModel", name := "better", desc := "(II)I" } : Jvm.MethodName) prog_9_method_98_code (3 : Nat) (Option.some Jvm.ClassFile.FieldType.int)) ∈ lw_all := lw_g (lw_at lw_m7 48 rfl) rfl
theorem q1577 : (Jvm.Cond.methodLink "SnowForSummerModel" (345 : Nat) ({ cls := "SnowForSummerModel", name := "compare", desc := "([III)V" } : Jvm.MethodName)) ∈ lw_all := lw_g (lw_at lw_m7 49 rfl) rfl
theorem q1578 : (Jvm.Cond.privateMethod ({ cls := "SnowForSummerModel", name := "compare", desc := "([III)V" } : Jvm.MethodName)) ∈ lw_tbl := lw_at lw_m7 50 rfl
theorem q1579 : (Jvm.Cond.instanceMethod ({ cls := "SnowForSummerModel", name := "compare", desc := "([III)V" } : Jvm.MethodName)) ∈ lw_all := lw_g (lw_at lw_m7 51 rfl) rfl
theorem q1580 : (Jvm.Cond.code ({ cls := "SnowForSummerModel", name := "compare", desc := "([III)V" } : Jvm.MethodName) prog_9_method_97_code (5 : Nat) (Option.none : Option Jvm.ClassFile.FieldType)) ∈ lw_all := lw_g (lw_at lw_m7 52 rfl) rfl
theorem q1582 : (Jvm.Cond.instanceMethod ({ cls := "SnowForSummerModel", name := "rests", desc := "(II)I" } : Jvm.MethodName)) ∈ lw_all := lw_g (lw_at lw_m7 54 rfl) rfl
theorem q1583 : (Jvm.Cond.selects "SnowForSummerModel" ({ cls := "SnowForSummerModel", name := "rests", desc := "(II)I" } : Jvm.MethodName) ({ cls := "SnowForSummerModel", name := "rests", desc := "(II)I" } : Jvm.MethodName)) ∈ lw_all := lw_g (lw_at lw_m7 55 rfl) rfl
theorem q1584 : (Jvm.Cond.code ({ cls := "SnowForSummerModel", name := "rests", desc := "(II)I" } : Jvm.MethodName) prog_9_method_99_code (7 : Nat) (Option.some Jvm.ClassFile.FieldType.int)) ∈ lw_all := lw_g (lw_at lw_m7 56 rfl) rfl
theorem q1586 : (Jvm.Cond.instanceMethod ({ cls := "SnowForSummerModel", name := "rough", desc := "(II)I" } : Jvm.MethodName)) ∈ lw_all := lw_g (lw_at lw_m7 58 rfl) rfl
theorem q1587 : (Jvm.Cond.selects "SnowForSummerModel" ({ cls := "SnowForSummerModel", name := "rough", desc := "(II)I" } : Jvm.MethodName) ({ cls := "SnowForSummerModel", name := "rough", desc := "(II)I" } : Jvm.MethodName)) ∈ lw_all := lw_g (lw_at lw_m7 59 rfl) rfl
theorem q1588 : (Jvm.Cond.code ({ cls := "SnowForSummerModel", name := "rough", desc := "(II)I" } : Jvm.MethodName) prog_9_method_101_code (8 : Nat) (Option.some Jvm.ClassFile.FieldType.int)) ∈ lw_all := lw_g (lw_at lw_m7 60 rfl) rfl
theorem q1589 : (Jvm.Cond.methodLink "SnowForSummerModel" (348 : Nat) ({ cls := "SnowForSummerModel", name := "owedIn", desc := "(I)I" } : Jvm.MethodName)) ∈ lw_all := lw_g (lw_at lw_m7 61 rfl) rfl
theorem q1590 : (Jvm.Cond.privateMethod ({ cls := "SnowForSummerModel", name := "owedIn", desc := "(I)I" } : Jvm.MethodName)) ∈ lw_tbl := lw_at lw_m7 62 rfl
theorem q1591 : (Jvm.Cond.instanceMethod ({ cls := "SnowForSummerModel", name := "owedIn", desc := "(I)I" } : Jvm.MethodName)) ∈ lw_all := lw_g (lw_at lw_m7 63 rfl) rfl
theorem q1592 : (Jvm.Cond.code ({ cls := "SnowForSummerModel", name := "owedIn", desc := "(I)I" } : Jvm.MethodName) prog_9_method_100_code (2 : Nat) (Option.some Jvm.ClassFile.FieldType.int)) ∈ lw_all := lw_g (lw_at lw_m7 64 rfl) rfl
theorem q1594 : (Jvm.Cond.instanceMethod ({ cls := "SnowForSummerModel", name := "turned", desc := "(I)I" } : Jvm.MethodName)) ∈ lw_all := lw_g (lw_at lw_m7 66 rfl) rfl
theorem q1595 : (Jvm.Cond.selects "SnowForSummerModel" ({ cls := "SnowForSummerModel", name := "turned", desc := "(I)I" } : Jvm.MethodName) ({ cls := "SnowForSummerModel", name := "turned", desc := "(I)I" } : Jvm.MethodName)) ∈ lw_all := lw_g (lw_at lw_m7 67 rfl) rfl
theorem q1596 : (Jvm.Cond.code ({ cls := "SnowForSummerModel", name := "turned", desc := "(I)I" } : Jvm.MethodName) prog_9_method_103_code (6 : Nat) (Option.some Jvm.ClassFile.FieldType.int)) ∈ lw_all := lw_g (lw_at lw_m7 68 rfl) rfl
theorem q1597 : (Jvm.Cond.methodLink "SnowForSummerModel" (351 : Nat) ({ cls := "SnowForSummerModel", name := "turn", desc := "(I)V" } : Jvm.MethodName)) ∈ lw_all := lw_g (lw_at lw_m7 69 rfl) rfl
theorem q1598 : (Jvm.Cond.privateMethod ({ cls := "SnowForSummerModel", name := "turn", desc := "(I)V" } : Jvm.MethodName)) ∈ lw_tbl := lw_at lw_m7 70 rfl
theorem q1599 : (Jvm.Cond.instanceMethod ({ cls := "SnowForSummerModel", name := "turn", desc := "(I)V" } : Jvm.MethodName)) ∈ lw_all := lw_g (lw_at lw_m7 71 rfl) rfl
theorem q1600 : (Jvm.Cond.code ({ cls := "SnowForSummerModel", name := "turn", desc := "(I)V" } : Jvm.MethodName) prog_9_method_102_code (3 : Nat) (Option.none : Option Jvm.ClassFile.FieldType)) ∈ lw_all := lw_g (lw_at lw_m7 72 rfl) rfl
theorem q1602 : (Jvm.Cond.instanceMethod ({ cls := "SnowForSummerModel", name := "needs", desc := "(II)I" } : Jvm.MethodName)) ∈ lw_all := lw_g (lw_at lw_m7 74 rfl) rfl
theorem q1603 : (Jvm.Cond.selects "SnowForSummerModel" ({ cls := "SnowForSummerModel", name := "needs", desc := "(II)I" } : Jvm.MethodName) ({ cls := "SnowForSummerModel", name := "needs", desc := "(II)I" } : Jvm.MethodName)) ∈ lw_all := lw_g (lw_at lw_m7 75 rfl) rfl
theorem q1604 : (Jvm.Cond.code ({ cls := "SnowForSummerModel", name := "needs", desc := "(II)I" } : Jvm.MethodName) prog_9_method_104_code (6 : Nat) (Option.some Jvm.ClassFile.FieldType.int)) ∈ lw_all := lw_g (lw_at lw_m7 76 rfl) rfl
theorem q1606 : (Jvm.Cond.instanceMethod ({ cls := "SnowForSummerModel", name := "premium", desc := "(I)I" } : Jvm.MethodName)) ∈ lw_all := lw_g (lw_at lw_m7 78 rfl) rfl
theorem q1607 : (Jvm.Cond.selects "SnowForSummerModel" ({ cls := "SnowForSummerModel", name := "premium", desc := "(I)I" } : Jvm.MethodName) ({ cls := "SnowForSummerModel", name := "premium", desc := "(I)I" } : Jvm.MethodName)) ∈ lw_all := lw_g (lw_at lw_m7 79 rfl) rfl
theorem q1608 : (Jvm.Cond.code ({ cls := "SnowForSummerModel", name := "premium", desc := "(I)I" } : Jvm.MethodName) prog_9_method_105_code (4 : Nat) (Option.some Jvm.ClassFile.FieldType.int)) ∈ lw_all := lw_g (lw_at lw_m7 80 rfl) rfl
theorem q1610 : (Jvm.Cond.instanceMethod ({ cls := "SnowForSummerModel", name := "track", desc := "(II)I" } : Jvm.MethodName)) ∈ lw_all := lw_g (lw_at lw_m7 82 rfl) rfl
theorem q1611 : (Jvm.Cond.selects "SnowForSummerModel" ({ cls := "SnowForSummerModel", name := "track", desc := "(II)I" } : Jvm.MethodName) ({ cls := "SnowForSummerModel", name := "track", desc := "(II)I" } : Jvm.MethodName)) ∈ lw_all := lw_g (lw_at lw_m7 83 rfl) rfl
theorem q1612 : (Jvm.Cond.code ({ cls := "SnowForSummerModel", name := "track", desc := "(II)I" } : Jvm.MethodName) prog_9_method_106_code (3 : Nat) (Option.some Jvm.ClassFile.FieldType.int)) ∈ lw_all := lw_g (lw_at lw_m7 84 rfl) rfl
theorem q1614 : (Jvm.Cond.instanceMethod ({ cls := "SnowForSummerModel", name := "thaw", desc := "()I" } : Jvm.MethodName)) ∈ lw_all := lw_g (lw_at lw_m7 86 rfl) rfl
theorem q1615 : (Jvm.Cond.selects "SnowForSummerModel" ({ cls := "SnowForSummerModel", name := "thaw", desc := "()I" } : Jvm.MethodName) ({ cls := "SnowForSummerModel", name := "thaw", desc := "()I" } : Jvm.MethodName)) ∈ lw_all := lw_g (lw_at lw_m7 87 rfl) rfl
theorem q1616 : (Jvm.Cond.code ({ cls := "SnowForSummerModel", name := "thaw", desc := "()I" } : Jvm.MethodName) prog_9_method_107_code (2 : Nat) (Option.some Jvm.ClassFile.FieldType.int)) ∈ lw_all := lw_g (lw_at lw_m7 88 rfl) rfl
theorem q1618 : (Jvm.Cond.instanceMethod ({ cls := "SnowForSummerModel", name := "suspects", desc := "(I)I" } : Jvm.MethodName)) ∈ lw_all := lw_g (lw_at lw_m7 90 rfl) rfl
theorem q1619 : (Jvm.Cond.selects "SnowForSummerModel" ({ cls := "SnowForSummerModel", name := "suspects", desc := "(I)I" } : Jvm.MethodName) ({ cls := "SnowForSummerModel", name := "suspects", desc := "(I)I" } : Jvm.MethodName)) ∈ lw_all := lw_g (lw_at lw_m7 91 rfl) rfl
theorem q1620 : (Jvm.Cond.code ({ cls := "SnowForSummerModel", name := "suspects", desc := "(I)I" } : Jvm.MethodName) prog_9_method_109_code (4 : Nat) (Option.some Jvm.ClassFile.FieldType.int)) ∈ lw_all := lw_g (lw_at lw_m7 92 rfl) rfl
theorem q1621 : (Jvm.Cond.methodLink "SnowForSummerModel" (357 : Nat) ({ cls := "SnowForSummerModel", name := "has", desc := "(II)Z" } : Jvm.MethodName)) ∈ lw_all := lw_g (lw_at lw_m7 93 rfl) rfl
theorem q1622 : (Jvm.Cond.static ({ cls := "SnowForSummerModel", name := "has", desc := "(II)Z" } : Jvm.MethodName)) ∈ lw_all := lw_g (lw_at lw_m7 94 rfl) rfl
theorem q1623 : (Jvm.Cond.code ({ cls := "SnowForSummerModel", name := "has", desc := "(II)Z" } : Jvm.MethodName) prog_9_method_4_code (2 : Nat) (Option.some Jvm.ClassFile.FieldType.boolean)) ∈ lw_all := lw_g (lw_at lw_m7 95 rfl) rfl
theorem q1624 : (Jvm.Cond.methodLink "SnowForSummerModel" (360 : Nat) ({ cls := "SnowForSummerModel", name := "outIn", desc := "(I)I" } : Jvm.MethodName)) ∈ lw_all := lw_g (lw_at lw_m7 96 rfl) rfl
theorem q1625 : (Jvm.Cond.privateMethod ({ cls := "SnowForSummerModel", name := "outIn", desc := "(I)I" } : Jvm.MethodName)) ∈ lw_tbl := lw_at lw_m7 97 rfl
theorem q1626 : (Jvm.Cond.instanceMethod ({ cls := "SnowForSummerModel", name := "outIn", desc := "(I)I" } : Jvm.MethodName)) ∈ lw_all := lw_g (lw_at lw_m7 98 rfl) rfl
theorem q1627 : (Jvm.Cond.code ({ cls := "SnowForSummerModel", name := "outIn", desc := "(I)I" } : Jvm.MethodName) prog_9_method_108_code (4 : Nat) (Option.some Jvm.ClassFile.FieldType.int)) ∈ lw_all := lw_g (lw_at lw_m7 99 rfl) rfl
theorem q1629 : (Jvm.Cond.instanceMethod ({ cls := "SnowForSummerModel", name := "gang", desc := "(I)I" } : Jvm.MethodName)) ∈ lw_all := lw_g (lw_at lw_m7 101 rfl) rfl
theorem q1630 : (Jvm.Cond.selects "SnowForSummerModel" ({ cls := "SnowForSummerModel", name := "gang", desc := "(I)I" } : Jvm.MethodName) ({ cls := "SnowForSummerModel", name := "gang", desc := "(I)I" } : Jvm.MethodName)) ∈ lw_all := lw_g (lw_at lw_m7 102 rfl) rfl
theorem q1631 : (Jvm.Cond.code ({ cls := "SnowForSummerModel", name := "gang", desc := "(I)I" } : Jvm.MethodName) prog_9_method_110_code (6 : Nat) (Option.some Jvm.ClassFile.FieldType.int)) ∈ lw_all := lw_g (lw_at lw_m7 103 rfl) rfl
theorem q1632 : (Jvm.Cond.methodLink "SnowForSummerModel" (363 : Nat) ({ cls := "java/lang/Integer", name := "bitCount", desc := "(I)I" } : Jvm.MethodName)) ∈ lw_all := lw_g (lw_at lw_m7 104 rfl) rfl
theorem q1634 : (Jvm.Cond.instanceMethod ({ cls := "SnowForSummerModel", name := "keep", desc := "(I)Z" } : Jvm.MethodName)) ∈ lw_all := lw_g (lw_at lw_m7 106 rfl) rfl
theorem q1635 : (Jvm.Cond.selects "SnowForSummerModel" ({ cls := "SnowForSummerModel", name := "keep", desc := "(I)Z" } : Jvm.MethodName) ({ cls := "SnowForSummerModel", name := "keep", desc := "(I)Z" } : Jvm.MethodName)) ∈ lw_all := lw_g (lw_at lw_m7 107 rfl) rfl
theorem q1636 : (Jvm.Cond.code ({ cls := "SnowForSummerModel", name := "keep", desc := "(I)Z" } : Jvm.MethodName) prog_9_method_111_code (2 : Nat) (Option.some Jvm.ClassFile.FieldType.boolean)) ∈ lw_all := lw_g (lw_at lw_m7 108 rfl) rfl
theorem q1638 : (Jvm.Cond.instanceMethod ({ cls := "SnowForSummerModel", name := "again", desc := "(I)Z" } : Jvm.MethodName)) ∈ lw_all := lw_g (lw_at lw_m7 110 rfl) rfl
theorem q1639 : (Jvm.Cond.selects "SnowForSummerModel" ({ cls := "SnowForSummerModel", name := "again", desc := "(I)Z" } : Jvm.MethodName) ({ cls := "SnowForSummerModel", name := "again", desc := "(I)Z" } : Jvm.MethodName)) ∈ lw_all := lw_g (lw_at lw_m7 111 rfl) rfl
theorem q1640 : (Jvm.Cond.code ({ cls := "SnowForSummerModel", name := "again", desc := "(I)Z" } : Jvm.MethodName) prog_9_method_112_code (3 : Nat) (Option.some Jvm.ClassFile.FieldType.boolean)) ∈ lw_all := lw_g (lw_at lw_m7 112 rfl) rfl
theorem q1642 : (Jvm.Cond.instanceMethod ({ cls := "SnowForSummerModel", name := "count", desc := "(I)I" } : Jvm.MethodName)) ∈ lw_all := lw_g (lw_at lw_m7 114 rfl) rfl
theorem q1643 : (Jvm.Cond.selects "SnowForSummerModel" ({ cls := "SnowForSummerModel", name := "count", desc := "(I)I" } : Jvm.MethodName) ({ cls := "SnowForSummerModel", name := "count", desc := "(I)I" } : Jvm.MethodName)) ∈ lw_all := lw_g (lw_at lw_m7 115 rfl) rfl
theorem q1644 : (Jvm.Cond.code ({ cls := "SnowForSummerModel", name := "count", desc := "(I)I" } : Jvm.MethodName) prog_9_method_113_code (4 : Nat) (Option.some Jvm.ClassFile.FieldType.int)) ∈ lw_all := lw_g (lw_at lw_m7 116 rfl) rfl
theorem q1646 : (Jvm.Cond.instanceMethod ({ cls := "SnowForSummerModel", name := "row", desc := "(I)I" } : Jvm.MethodName)) ∈ lw_all := lw_g (lw_at lw_m7 118 rfl) rfl
theorem q1647 : (Jvm.Cond.selects "SnowForSummerModel" ({ cls := "SnowForSummerModel", name := "row", desc := "(I)I" } : Jvm.MethodName) ({ cls := "SnowForSummerModel", name := "row", desc := "(I)I" } : Jvm.MethodName)) ∈ lw_all := lw_g (lw_at lw_m7 119 rfl) rfl
theorem q1648 : (Jvm.Cond.code ({ cls := "SnowForSummerModel", name := "row", desc := "(I)I" } : Jvm.MethodName) prog_9_method_114_code (2 : Nat) (Option.some Jvm.ClassFile.FieldType.int)) ∈ lw_all := lw_g (lw_at lw_m7 120 rfl) rfl
theorem q1653 : (Jvm.Cond.castable "SnowForSummerModel" "java/lang/Object") ∈ lw_tbl := lw_at lw_m7 125 rfl
theorem in_X3 : ∀ w ∈ wsX30, w ∈ lw_all := lw_in wsX30 [1091, 1093, 1095, 1097, 1099, 1101, 1103, 1105, 1107, 1109, 1111, 1113, 1115, 1117, 1119, 1121, 1123, 1125, 1127, 1129, 1131, 1133, 1135, 1137, 1139, 1141, 1143, 1145, 1147, 1149, 1151, 1153, 1155, 1157, 1159, 1161, 1163, 1165, 1167, 1169, 1171, 1173, 1175, 1177, 1179, 1181, 1183, 1185, 1187, 1189, 1191, 1193] (by decide +kernel) (by decide +kernel)
