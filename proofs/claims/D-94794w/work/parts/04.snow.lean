/-! SnowForSummer -/
set_option maxRecDepth 100000
def RX1 : String := "SnowForSummer"
def TX1 : u_T := fun k => match k with
  | 0 => ("SnowForSummer", "now", "LSnowForSummer$Town;", true)
  | 1 => ("SnowForSummer", "tried", "LSnowForSummer$Town;", true)
  | 2 => ("SnowForSummer", "other", "LSnowForSummer$Town;", true)
  | 3 => ("SnowForSummer", "hold", "[I", true)
  | 4 => ("SnowForSummer", "below", "[I", true)
  | 5 => ("SnowForSummer", "hay", "[I", true)
  | 6 => ("SnowForSummer", "weather", "[I", true)
  | 7 => ("SnowForSummer", "houses", "I", false)
  | 8 => ("SnowForSummer", "weatherMany", "I", false)
  | 9 => ("SnowForSummer", "text", "[I", true)
  | 10 => ("SnowForSummer", "signMany", "I", false)
  | 11 => ("SnowForSummer", "at", "I", false)
  | 12 => ("SnowForSummer", "end", "I", false)
  | 13 => ("SnowForSummer", "nest", "I", false)
  | 14 => ("SnowForSummer", "readHold", "[I", true)
  | 15 => ("SnowForSummer", "readBelow", "[I", true)
  | 16 => ("SnowForSummer", "readHay", "[I", true)
  | 17 => ("SnowForSummer", "readHouses", "I", false)
  | 18 => ("SnowForSummer", "readWeather", "[I", true)
  | 19 => ("SnowForSummer", "askedDeep", "I", false)
  | 20 => ("SnowForSummer", "askedPath", "I", false)
  | 21 => ("SnowForSummer", "askedThaw", "I", false)
  | 22 => ("SnowForSummer", "askedDay", "I", false)
  | 23 => ("SnowForSummer", "askedLoose", "I", false)
  | 24 => ("SnowForSummer", "askedHouse", "I", false)
  | 25 => ("SnowForSummer", "askedBelow", "I", false)
  | 26 => ("SnowForSummer", "rule", "LSnowForSummer$Node;", false)
  | 27 => ("SnowForSummer", "undone", "[LSnowForSummer$Town;", true)
  | 28 => ("SnowForSummer", "undoMany", "I", false)
  | 29 => ("SnowForSummer", "hitBits", "I", false)
  | 30 => ("SnowForSummer", "actSign", "[I", true)
  | 31 => ("SnowForSummer", "actOne", "[I", true)
  | 32 => ("SnowForSummer", "actTwo", "[I", true)
  | 33 => ("SnowForSummer", "actMany", "[I", true)
  | 34 => ("SnowForSummer", "acts", "I", false)
  | 35 => ("SnowForSummer", "ring", "[I", true)
  | 36 => ("SnowForSummer", "ringLong", "I", false)
  | 37 => ("SnowForSummer", "nets", "[I", true)
  | 38 => ("SnowForSummer", "ofDay", "[LSnowForSummer$Town;", true)
  | 39 => ("SnowForSummer", "swept", "[I", true)
  | 40 => ("SnowForSummer", "bestSwept", "[I", true)
  | 41 => ("SnowForSummer", "bestOwed", "I", false)
  | 42 => ("SnowForSummer", "sweeper", "I", false)
  | 43 => ("SnowForSummer", "owedLoose", "I", false)
  | 44 => ("SnowForSummer", "owedElse", "I", false)
  | 45 => ("SnowForSummer", "trackHouse", "[I", true)
  | 46 => ("SnowForSummer", "trackDay", "[I", true)
  | 47 => ("SnowForSummer", "tracks", "I", false)
  | 48 => ("SnowForSummer", "kept", "[LSnowForSummer$Town;", true)
  | 49 => ("SnowForSummer", "keptHouses", "[I", true)
  | 50 => ("SnowForSummer", "row", "[I", true)
  | _ => ("SnowForSummer", "rowMany", "I", false)
def tyX1 : Nat → FieldType := fun k => match k with
  | 0 => .object "SnowForSummer$Town"
  | 1 => .object "SnowForSummer$Town"
  | 2 => .object "SnowForSummer$Town"
  | 3 => .array .int
  | 4 => .array .int
  | 5 => .array .int
  | 6 => .array .int
  | 7 => .int
  | 8 => .int
  | 9 => .array .int
  | 10 => .int
  | 11 => .int
  | 12 => .int
  | 13 => .int
  | 14 => .array .int
  | 15 => .array .int
  | 16 => .array .int
  | 17 => .int
  | 18 => .array .int
  | 19 => .int
  | 20 => .int
  | 21 => .int
  | 22 => .int
  | 23 => .int
  | 24 => .int
  | 25 => .int
  | 26 => .object "SnowForSummer$Node"
  | 27 => .array (.object "SnowForSummer$Town")
  | 28 => .int
  | 29 => .int
  | 30 => .array .int
  | 31 => .array .int
  | 32 => .array .int
  | 33 => .array .int
  | 34 => .int
  | 35 => .array .int
  | 36 => .int
  | 37 => .array .int
  | 38 => .array (.object "SnowForSummer$Town")
  | 39 => .array .int
  | 40 => .array .int
  | 41 => .int
  | 42 => .int
  | 43 => .int
  | 44 => .int
  | 45 => .array .int
  | 46 => .array .int
  | 47 => .int
  | 48 => .array (.object "SnowForSummer$Town")
  | 49 => .array .int
  | 50 => .array .int
  | _ => .int
abbrev wsX10 : List Cond := u_ws RX1 TX1 52
set_option maxRecDepth 100000 in
theorem nmX1 : ∀ a, a < 52 → ∀ b, b < 52 → a ≠ b → (TX1 a).2.1 ≠ (TX1 b).2.1 := by decide +kernel
set_option maxRecDepth 100000 in
theorem tyX1_ok : ∀ k, k < 52 → parseFieldDescriptor (TX1 k).2.2.1 = some (tyX1 k) := by decide +kernel
abbrev cX1_init : ByteArray := prog_1_method_1_code
def yX1_init : MethodName := ⟨RX1, "<init>", "()V"⟩
def dkwX1_init_11 : List UInt8 := [16, 16, 188, 10, 181, 0, 93, 177]
abbrev dktX1_init_11 : List UInt8 := dkwX1_init_11 ++ []
def dkwX1_init_10 : List UInt8 := [16, 20, 188, 10, 181, 0, 84, 42, 5, 189, 0, 9, 181, 0, 87, 42, 5, 188, 10, 181, 0, 90, 42]
abbrev dktX1_init_10 : List UInt8 := dkwX1_init_10 ++ dktX1_init_11
def dkwX1_init_9 : List UInt8 := [42, 6, 188, 10, 181, 0, 75, 42, 6, 188, 10, 181, 0, 78, 42, 16, 20, 188, 10, 181, 0, 81, 42]
abbrev dktX1_init_9 : List UInt8 := dkwX1_init_9 ++ dktX1_init_10
def dkwX1_init_8 : List UInt8 := [83, 89, 5, 187, 0, 9, 89, 183, 0, 11, 83, 89, 6, 187, 0, 9, 89, 183, 0, 11, 83, 181, 0, 72]
abbrev dktX1_init_8 : List UInt8 := dkwX1_init_8 ++ dktX1_init_9
def dkwX1_init_7 : List UInt8 := [42, 7, 189, 0, 9, 89, 3, 187, 0, 9, 89, 183, 0, 11, 83, 89, 4, 187, 0, 9, 89, 183, 0, 11]
abbrev dktX1_init_7 : List UInt8 := dkwX1_init_7 ++ dktX1_init_8
def dkwX1_init_6 : List UInt8 := [42, 16, 30, 188, 10, 181, 0, 63, 42, 16, 7, 188, 10, 181, 0, 66, 42, 16, 7, 188, 10, 181, 0, 69]
abbrev dktX1_init_6 : List UInt8 := dkwX1_init_6 ++ dktX1_init_7
def dkwX1_init_5 : List UInt8 := [42, 16, 30, 188, 10, 181, 0, 54, 42, 16, 30, 188, 10, 181, 0, 57, 42, 16, 30, 188, 10, 181, 0, 60]
abbrev dktX1_init_5 : List UInt8 := dkwX1_init_5 ++ dktX1_init_6
def dkwX1_init_4 : List UInt8 := [16, 7, 188, 10, 181, 0, 44, 42, 16, 40, 188, 10, 181, 0, 47, 42, 16, 12, 189, 0, 9, 181, 0, 50]
abbrev dktX1_init_4 : List UInt8 := dkwX1_init_4 ++ dktX1_init_5
def dkwX1_init_3 : List UInt8 := [16, 80, 188, 10, 181, 0, 35, 42, 16, 7, 188, 10, 181, 0, 38, 42, 16, 14, 188, 10, 181, 0, 41, 42]
abbrev dktX1_init_3 : List UInt8 := dkwX1_init_3 ++ dktX1_init_4
def dkwX1_init_2 : List UInt8 := [16, 14, 188, 10, 181, 0, 26, 42, 16, 7, 188, 10, 181, 0, 29, 42, 16, 40, 188, 10, 181, 0, 32, 42]
abbrev dktX1_init_2 : List UInt8 := dkwX1_init_2 ++ dktX1_init_3
def dkwX1_init_1 : List UInt8 := [181, 0, 16, 42, 187, 0, 9, 89, 183, 0, 11, 181, 0, 19, 42, 16, 7, 188, 10, 181, 0, 22, 42]
abbrev dktX1_init_1 : List UInt8 := dkwX1_init_1 ++ dktX1_init_2
def dkwX1_init_0 : List UInt8 := [42, 183, 0, 3, 42, 187, 0, 9, 89, 183, 0, 11, 181, 0, 12, 42, 187, 0, 9, 89, 183, 0, 11]
abbrev dktX1_init_0 : List UInt8 := dkwX1_init_0 ++ dktX1_init_1
theorem dksX1_init_0 : cX1_init.data.toList.drop 0 = dktX1_init_0 := by decide +kernel
theorem dksX1_init_1 : cX1_init.data.toList.drop 23 = dktX1_init_1 := dk_seg dksX1_init_0 23 rfl rfl
theorem dksX1_init_2 : cX1_init.data.toList.drop 46 = dktX1_init_2 := dk_seg dksX1_init_1 23 rfl rfl
theorem dksX1_init_3 : cX1_init.data.toList.drop 70 = dktX1_init_3 := dk_seg dksX1_init_2 24 rfl rfl
theorem dksX1_init_4 : cX1_init.data.toList.drop 94 = dktX1_init_4 := dk_seg dksX1_init_3 24 rfl rfl
theorem dksX1_init_5 : cX1_init.data.toList.drop 118 = dktX1_init_5 := dk_seg dksX1_init_4 24 rfl rfl
theorem dksX1_init_6 : cX1_init.data.toList.drop 142 = dktX1_init_6 := dk_seg dksX1_init_5 24 rfl rfl
theorem dksX1_init_7 : cX1_init.data.toList.drop 166 = dktX1_init_7 := dk_seg dksX1_init_6 24 rfl rfl
theorem dksX1_init_8 : cX1_init.data.toList.drop 190 = dktX1_init_8 := dk_seg dksX1_init_7 24 rfl rfl
theorem dksX1_init_9 : cX1_init.data.toList.drop 214 = dktX1_init_9 := dk_seg dksX1_init_8 24 rfl rfl
theorem dksX1_init_10 : cX1_init.data.toList.drop 237 = dktX1_init_10 := dk_seg dksX1_init_9 23 rfl rfl
theorem dksX1_init_11 : cX1_init.data.toList.drop 260 = dktX1_init_11 := dk_seg dksX1_init_10 23 rfl rfl
theorem dX1_init_0 : decode cX1_init 0 = .ok (.aload_n 0, 1) := dk_42 (dk_at dksX1_init_0 0 rfl rfl)
theorem dX1_init_1 : decode cX1_init 1 = .ok (.invokespecial 3, 3) := dk_183 0 3 (dk_at dksX1_init_0 1 rfl rfl)
theorem dX1_init_4 : decode cX1_init 4 = .ok (.aload_n 0, 1) := dk_42 (dk_at dksX1_init_0 4 rfl rfl)
theorem dX1_init_5 : decode cX1_init 5 = .ok (.new 9, 3) := dk_187 0 9 (dk_at dksX1_init_0 5 rfl rfl)
theorem dX1_init_8 : decode cX1_init 8 = .ok (.dup, 1) := dk_89 (dk_at dksX1_init_0 8 rfl rfl)
theorem dX1_init_9 : decode cX1_init 9 = .ok (.invokespecial 11, 3) := dk_183 0 11 (dk_at dksX1_init_0 9 rfl rfl)
theorem dX1_init_12 : decode cX1_init 12 = .ok (.putfield 12, 3) := dk_181 0 12 (dk_at dksX1_init_0 12 rfl rfl)
theorem dX1_init_15 : decode cX1_init 15 = .ok (.aload_n 0, 1) := dk_42 (dk_at dksX1_init_0 15 rfl rfl)
theorem dX1_init_16 : decode cX1_init 16 = .ok (.new 9, 3) := dk_187 0 9 (dk_at dksX1_init_0 16 rfl rfl)
theorem dX1_init_19 : decode cX1_init 19 = .ok (.dup, 1) := dk_89 (dk_at dksX1_init_0 19 rfl rfl)
theorem dX1_init_20 : decode cX1_init 20 = .ok (.invokespecial 11, 3) := dk_183 0 11 (dk_at dksX1_init_0 20 rfl rfl)
theorem dX1_init_23 : decode cX1_init 23 = .ok (.putfield 16, 3) := dk_181 0 16 (dk_at dksX1_init_1 0 rfl rfl)
theorem dX1_init_26 : decode cX1_init 26 = .ok (.aload_n 0, 1) := dk_42 (dk_at dksX1_init_1 3 rfl rfl)
theorem dX1_init_27 : decode cX1_init 27 = .ok (.new 9, 3) := dk_187 0 9 (dk_at dksX1_init_1 4 rfl rfl)
theorem dX1_init_30 : decode cX1_init 30 = .ok (.dup, 1) := dk_89 (dk_at dksX1_init_1 7 rfl rfl)
theorem dX1_init_31 : decode cX1_init 31 = .ok (.invokespecial 11, 3) := dk_183 0 11 (dk_at dksX1_init_1 8 rfl rfl)
theorem dX1_init_34 : decode cX1_init 34 = .ok (.putfield 19, 3) := dk_181 0 19 (dk_at dksX1_init_1 11 rfl rfl)
theorem dX1_init_37 : decode cX1_init 37 = .ok (.aload_n 0, 1) := dk_42 (dk_at dksX1_init_1 14 rfl rfl)
theorem dX1_init_38 : decode cX1_init 38 = .ok (.bipush 7, 2) := dk_16 7 (dk_at dksX1_init_1 15 rfl rfl)
theorem dX1_init_40 : decode cX1_init 40 = .ok (.newarray .int, 2) := dk_188_10 (dk_at dksX1_init_1 17 rfl rfl)
theorem dX1_init_42 : decode cX1_init 42 = .ok (.putfield 22, 3) := dk_181 0 22 (dk_at dksX1_init_1 19 rfl rfl)
theorem dX1_init_45 : decode cX1_init 45 = .ok (.aload_n 0, 1) := dk_42 (dk_at dksX1_init_1 22 rfl rfl)
theorem dX1_init_46 : decode cX1_init 46 = .ok (.bipush 14, 2) := dk_16 14 (dk_at dksX1_init_2 0 rfl rfl)
theorem dX1_init_48 : decode cX1_init 48 = .ok (.newarray .int, 2) := dk_188_10 (dk_at dksX1_init_2 2 rfl rfl)
theorem dX1_init_50 : decode cX1_init 50 = .ok (.putfield 26, 3) := dk_181 0 26 (dk_at dksX1_init_2 4 rfl rfl)
theorem dX1_init_53 : decode cX1_init 53 = .ok (.aload_n 0, 1) := dk_42 (dk_at dksX1_init_2 7 rfl rfl)
theorem dX1_init_54 : decode cX1_init 54 = .ok (.bipush 7, 2) := dk_16 7 (dk_at dksX1_init_2 8 rfl rfl)
theorem dX1_init_56 : decode cX1_init 56 = .ok (.newarray .int, 2) := dk_188_10 (dk_at dksX1_init_2 10 rfl rfl)
theorem dX1_init_58 : decode cX1_init 58 = .ok (.putfield 29, 3) := dk_181 0 29 (dk_at dksX1_init_2 12 rfl rfl)
theorem dX1_init_61 : decode cX1_init 61 = .ok (.aload_n 0, 1) := dk_42 (dk_at dksX1_init_2 15 rfl rfl)
theorem dX1_init_62 : decode cX1_init 62 = .ok (.bipush 40, 2) := dk_16 40 (dk_at dksX1_init_2 16 rfl rfl)
theorem dX1_init_64 : decode cX1_init 64 = .ok (.newarray .int, 2) := dk_188_10 (dk_at dksX1_init_2 18 rfl rfl)
theorem dX1_init_66 : decode cX1_init 66 = .ok (.putfield 32, 3) := dk_181 0 32 (dk_at dksX1_init_2 20 rfl rfl)
theorem dX1_init_69 : decode cX1_init 69 = .ok (.aload_n 0, 1) := dk_42 (dk_at dksX1_init_2 23 rfl rfl)
theorem dX1_init_70 : decode cX1_init 70 = .ok (.bipush 80, 2) := dk_16 80 (dk_at dksX1_init_3 0 rfl rfl)
theorem dX1_init_72 : decode cX1_init 72 = .ok (.newarray .int, 2) := dk_188_10 (dk_at dksX1_init_3 2 rfl rfl)
theorem dX1_init_74 : decode cX1_init 74 = .ok (.putfield 35, 3) := dk_181 0 35 (dk_at dksX1_init_3 4 rfl rfl)
theorem dX1_init_77 : decode cX1_init 77 = .ok (.aload_n 0, 1) := dk_42 (dk_at dksX1_init_3 7 rfl rfl)
theorem dX1_init_78 : decode cX1_init 78 = .ok (.bipush 7, 2) := dk_16 7 (dk_at dksX1_init_3 8 rfl rfl)
theorem dX1_init_80 : decode cX1_init 80 = .ok (.newarray .int, 2) := dk_188_10 (dk_at dksX1_init_3 10 rfl rfl)
theorem dX1_init_82 : decode cX1_init 82 = .ok (.putfield 38, 3) := dk_181 0 38 (dk_at dksX1_init_3 12 rfl rfl)
theorem dX1_init_85 : decode cX1_init 85 = .ok (.aload_n 0, 1) := dk_42 (dk_at dksX1_init_3 15 rfl rfl)
theorem dX1_init_86 : decode cX1_init 86 = .ok (.bipush 14, 2) := dk_16 14 (dk_at dksX1_init_3 16 rfl rfl)
theorem dX1_init_88 : decode cX1_init 88 = .ok (.newarray .int, 2) := dk_188_10 (dk_at dksX1_init_3 18 rfl rfl)
theorem dX1_init_90 : decode cX1_init 90 = .ok (.putfield 41, 3) := dk_181 0 41 (dk_at dksX1_init_3 20 rfl rfl)
theorem dX1_init_93 : decode cX1_init 93 = .ok (.aload_n 0, 1) := dk_42 (dk_at dksX1_init_3 23 rfl rfl)
theorem dX1_init_94 : decode cX1_init 94 = .ok (.bipush 7, 2) := dk_16 7 (dk_at dksX1_init_4 0 rfl rfl)
theorem dX1_init_96 : decode cX1_init 96 = .ok (.newarray .int, 2) := dk_188_10 (dk_at dksX1_init_4 2 rfl rfl)
theorem dX1_init_98 : decode cX1_init 98 = .ok (.putfield 44, 3) := dk_181 0 44 (dk_at dksX1_init_4 4 rfl rfl)
theorem dX1_init_101 : decode cX1_init 101 = .ok (.aload_n 0, 1) := dk_42 (dk_at dksX1_init_4 7 rfl rfl)
theorem dX1_init_102 : decode cX1_init 102 = .ok (.bipush 40, 2) := dk_16 40 (dk_at dksX1_init_4 8 rfl rfl)
theorem dX1_init_104 : decode cX1_init 104 = .ok (.newarray .int, 2) := dk_188_10 (dk_at dksX1_init_4 10 rfl rfl)
theorem dX1_init_106 : decode cX1_init 106 = .ok (.putfield 47, 3) := dk_181 0 47 (dk_at dksX1_init_4 12 rfl rfl)
theorem dX1_init_109 : decode cX1_init 109 = .ok (.aload_n 0, 1) := dk_42 (dk_at dksX1_init_4 15 rfl rfl)
theorem dX1_init_110 : decode cX1_init 110 = .ok (.bipush 12, 2) := dk_16 12 (dk_at dksX1_init_4 16 rfl rfl)
theorem dX1_init_112 : decode cX1_init 112 = .ok (.anewarray 9, 3) := dk_189 0 9 (dk_at dksX1_init_4 18 rfl rfl)
theorem dX1_init_115 : decode cX1_init 115 = .ok (.putfield 50, 3) := dk_181 0 50 (dk_at dksX1_init_4 21 rfl rfl)
theorem dX1_init_118 : decode cX1_init 118 = .ok (.aload_n 0, 1) := dk_42 (dk_at dksX1_init_5 0 rfl rfl)
theorem dX1_init_119 : decode cX1_init 119 = .ok (.bipush 30, 2) := dk_16 30 (dk_at dksX1_init_5 1 rfl rfl)
theorem dX1_init_121 : decode cX1_init 121 = .ok (.newarray .int, 2) := dk_188_10 (dk_at dksX1_init_5 3 rfl rfl)
theorem dX1_init_123 : decode cX1_init 123 = .ok (.putfield 54, 3) := dk_181 0 54 (dk_at dksX1_init_5 5 rfl rfl)
theorem dX1_init_126 : decode cX1_init 126 = .ok (.aload_n 0, 1) := dk_42 (dk_at dksX1_init_5 8 rfl rfl)
theorem dX1_init_127 : decode cX1_init 127 = .ok (.bipush 30, 2) := dk_16 30 (dk_at dksX1_init_5 9 rfl rfl)
theorem dX1_init_129 : decode cX1_init 129 = .ok (.newarray .int, 2) := dk_188_10 (dk_at dksX1_init_5 11 rfl rfl)
theorem dX1_init_131 : decode cX1_init 131 = .ok (.putfield 57, 3) := dk_181 0 57 (dk_at dksX1_init_5 13 rfl rfl)
theorem dX1_init_134 : decode cX1_init 134 = .ok (.aload_n 0, 1) := dk_42 (dk_at dksX1_init_5 16 rfl rfl)
theorem dX1_init_135 : decode cX1_init 135 = .ok (.bipush 30, 2) := dk_16 30 (dk_at dksX1_init_5 17 rfl rfl)
theorem dX1_init_137 : decode cX1_init 137 = .ok (.newarray .int, 2) := dk_188_10 (dk_at dksX1_init_5 19 rfl rfl)
theorem dX1_init_139 : decode cX1_init 139 = .ok (.putfield 60, 3) := dk_181 0 60 (dk_at dksX1_init_5 21 rfl rfl)
theorem dX1_init_142 : decode cX1_init 142 = .ok (.aload_n 0, 1) := dk_42 (dk_at dksX1_init_6 0 rfl rfl)
theorem dX1_init_143 : decode cX1_init 143 = .ok (.bipush 30, 2) := dk_16 30 (dk_at dksX1_init_6 1 rfl rfl)
theorem dX1_init_145 : decode cX1_init 145 = .ok (.newarray .int, 2) := dk_188_10 (dk_at dksX1_init_6 3 rfl rfl)
theorem dX1_init_147 : decode cX1_init 147 = .ok (.putfield 63, 3) := dk_181 0 63 (dk_at dksX1_init_6 5 rfl rfl)
theorem dX1_init_150 : decode cX1_init 150 = .ok (.aload_n 0, 1) := dk_42 (dk_at dksX1_init_6 8 rfl rfl)
theorem dX1_init_151 : decode cX1_init 151 = .ok (.bipush 7, 2) := dk_16 7 (dk_at dksX1_init_6 9 rfl rfl)
theorem dX1_init_153 : decode cX1_init 153 = .ok (.newarray .int, 2) := dk_188_10 (dk_at dksX1_init_6 11 rfl rfl)
theorem dX1_init_155 : decode cX1_init 155 = .ok (.putfield 66, 3) := dk_181 0 66 (dk_at dksX1_init_6 13 rfl rfl)
theorem dX1_init_158 : decode cX1_init 158 = .ok (.aload_n 0, 1) := dk_42 (dk_at dksX1_init_6 16 rfl rfl)
theorem dX1_init_159 : decode cX1_init 159 = .ok (.bipush 7, 2) := dk_16 7 (dk_at dksX1_init_6 17 rfl rfl)
theorem dX1_init_161 : decode cX1_init 161 = .ok (.newarray .int, 2) := dk_188_10 (dk_at dksX1_init_6 19 rfl rfl)
theorem dX1_init_163 : decode cX1_init 163 = .ok (.putfield 69, 3) := dk_181 0 69 (dk_at dksX1_init_6 21 rfl rfl)
theorem dX1_init_166 : decode cX1_init 166 = .ok (.aload_n 0, 1) := dk_42 (dk_at dksX1_init_7 0 rfl rfl)
theorem dX1_init_167 : decode cX1_init 167 = .ok (.iconst 4, 1) := dk_7 (dk_at dksX1_init_7 1 rfl rfl)
theorem dX1_init_168 : decode cX1_init 168 = .ok (.anewarray 9, 3) := dk_189 0 9 (dk_at dksX1_init_7 2 rfl rfl)
theorem dX1_init_171 : decode cX1_init 171 = .ok (.dup, 1) := dk_89 (dk_at dksX1_init_7 5 rfl rfl)
theorem dX1_init_172 : decode cX1_init 172 = .ok (.iconst 0, 1) := dk_3 (dk_at dksX1_init_7 6 rfl rfl)
theorem dX1_init_173 : decode cX1_init 173 = .ok (.new 9, 3) := dk_187 0 9 (dk_at dksX1_init_7 7 rfl rfl)
theorem dX1_init_176 : decode cX1_init 176 = .ok (.dup, 1) := dk_89 (dk_at dksX1_init_7 10 rfl rfl)
theorem dX1_init_177 : decode cX1_init 177 = .ok (.invokespecial 11, 3) := dk_183 0 11 (dk_at dksX1_init_7 11 rfl rfl)
theorem dX1_init_180 : decode cX1_init 180 = .ok (.aastore, 1) := dk_83 (dk_at dksX1_init_7 14 rfl rfl)
theorem dX1_init_181 : decode cX1_init 181 = .ok (.dup, 1) := dk_89 (dk_at dksX1_init_7 15 rfl rfl)
theorem dX1_init_182 : decode cX1_init 182 = .ok (.iconst 1, 1) := dk_4 (dk_at dksX1_init_7 16 rfl rfl)
theorem dX1_init_183 : decode cX1_init 183 = .ok (.new 9, 3) := dk_187 0 9 (dk_at dksX1_init_7 17 rfl rfl)
theorem dX1_init_186 : decode cX1_init 186 = .ok (.dup, 1) := dk_89 (dk_at dksX1_init_7 20 rfl rfl)
theorem dX1_init_187 : decode cX1_init 187 = .ok (.invokespecial 11, 3) := dk_183 0 11 (dk_at dksX1_init_7 21 rfl rfl)
theorem dX1_init_190 : decode cX1_init 190 = .ok (.aastore, 1) := dk_83 (dk_at dksX1_init_8 0 rfl rfl)
theorem dX1_init_191 : decode cX1_init 191 = .ok (.dup, 1) := dk_89 (dk_at dksX1_init_8 1 rfl rfl)
theorem dX1_init_192 : decode cX1_init 192 = .ok (.iconst 2, 1) := dk_5 (dk_at dksX1_init_8 2 rfl rfl)
theorem dX1_init_193 : decode cX1_init 193 = .ok (.new 9, 3) := dk_187 0 9 (dk_at dksX1_init_8 3 rfl rfl)
theorem dX1_init_196 : decode cX1_init 196 = .ok (.dup, 1) := dk_89 (dk_at dksX1_init_8 6 rfl rfl)
theorem dX1_init_197 : decode cX1_init 197 = .ok (.invokespecial 11, 3) := dk_183 0 11 (dk_at dksX1_init_8 7 rfl rfl)
theorem dX1_init_200 : decode cX1_init 200 = .ok (.aastore, 1) := dk_83 (dk_at dksX1_init_8 10 rfl rfl)
theorem dX1_init_201 : decode cX1_init 201 = .ok (.dup, 1) := dk_89 (dk_at dksX1_init_8 11 rfl rfl)
theorem dX1_init_202 : decode cX1_init 202 = .ok (.iconst 3, 1) := dk_6 (dk_at dksX1_init_8 12 rfl rfl)
theorem dX1_init_203 : decode cX1_init 203 = .ok (.new 9, 3) := dk_187 0 9 (dk_at dksX1_init_8 13 rfl rfl)
theorem dX1_init_206 : decode cX1_init 206 = .ok (.dup, 1) := dk_89 (dk_at dksX1_init_8 16 rfl rfl)
theorem dX1_init_207 : decode cX1_init 207 = .ok (.invokespecial 11, 3) := dk_183 0 11 (dk_at dksX1_init_8 17 rfl rfl)
theorem dX1_init_210 : decode cX1_init 210 = .ok (.aastore, 1) := dk_83 (dk_at dksX1_init_8 20 rfl rfl)
theorem dX1_init_211 : decode cX1_init 211 = .ok (.putfield 72, 3) := dk_181 0 72 (dk_at dksX1_init_8 21 rfl rfl)
theorem dX1_init_214 : decode cX1_init 214 = .ok (.aload_n 0, 1) := dk_42 (dk_at dksX1_init_9 0 rfl rfl)
theorem dX1_init_215 : decode cX1_init 215 = .ok (.iconst 3, 1) := dk_6 (dk_at dksX1_init_9 1 rfl rfl)
theorem dX1_init_216 : decode cX1_init 216 = .ok (.newarray .int, 2) := dk_188_10 (dk_at dksX1_init_9 2 rfl rfl)
theorem dX1_init_218 : decode cX1_init 218 = .ok (.putfield 75, 3) := dk_181 0 75 (dk_at dksX1_init_9 4 rfl rfl)
theorem dX1_init_221 : decode cX1_init 221 = .ok (.aload_n 0, 1) := dk_42 (dk_at dksX1_init_9 7 rfl rfl)
theorem dX1_init_222 : decode cX1_init 222 = .ok (.iconst 3, 1) := dk_6 (dk_at dksX1_init_9 8 rfl rfl)
theorem dX1_init_223 : decode cX1_init 223 = .ok (.newarray .int, 2) := dk_188_10 (dk_at dksX1_init_9 9 rfl rfl)
theorem dX1_init_225 : decode cX1_init 225 = .ok (.putfield 78, 3) := dk_181 0 78 (dk_at dksX1_init_9 11 rfl rfl)
theorem dX1_init_228 : decode cX1_init 228 = .ok (.aload_n 0, 1) := dk_42 (dk_at dksX1_init_9 14 rfl rfl)
theorem dX1_init_229 : decode cX1_init 229 = .ok (.bipush 20, 2) := dk_16 20 (dk_at dksX1_init_9 15 rfl rfl)
theorem dX1_init_231 : decode cX1_init 231 = .ok (.newarray .int, 2) := dk_188_10 (dk_at dksX1_init_9 17 rfl rfl)
theorem dX1_init_233 : decode cX1_init 233 = .ok (.putfield 81, 3) := dk_181 0 81 (dk_at dksX1_init_9 19 rfl rfl)
theorem dX1_init_236 : decode cX1_init 236 = .ok (.aload_n 0, 1) := dk_42 (dk_at dksX1_init_9 22 rfl rfl)
theorem dX1_init_237 : decode cX1_init 237 = .ok (.bipush 20, 2) := dk_16 20 (dk_at dksX1_init_10 0 rfl rfl)
theorem dX1_init_239 : decode cX1_init 239 = .ok (.newarray .int, 2) := dk_188_10 (dk_at dksX1_init_10 2 rfl rfl)
theorem dX1_init_241 : decode cX1_init 241 = .ok (.putfield 84, 3) := dk_181 0 84 (dk_at dksX1_init_10 4 rfl rfl)
theorem dX1_init_244 : decode cX1_init 244 = .ok (.aload_n 0, 1) := dk_42 (dk_at dksX1_init_10 7 rfl rfl)
theorem dX1_init_245 : decode cX1_init 245 = .ok (.iconst 2, 1) := dk_5 (dk_at dksX1_init_10 8 rfl rfl)
theorem dX1_init_246 : decode cX1_init 246 = .ok (.anewarray 9, 3) := dk_189 0 9 (dk_at dksX1_init_10 9 rfl rfl)
theorem dX1_init_249 : decode cX1_init 249 = .ok (.putfield 87, 3) := dk_181 0 87 (dk_at dksX1_init_10 12 rfl rfl)
theorem dX1_init_252 : decode cX1_init 252 = .ok (.aload_n 0, 1) := dk_42 (dk_at dksX1_init_10 15 rfl rfl)
theorem dX1_init_253 : decode cX1_init 253 = .ok (.iconst 2, 1) := dk_5 (dk_at dksX1_init_10 16 rfl rfl)
theorem dX1_init_254 : decode cX1_init 254 = .ok (.newarray .int, 2) := dk_188_10 (dk_at dksX1_init_10 17 rfl rfl)
theorem dX1_init_256 : decode cX1_init 256 = .ok (.putfield 90, 3) := dk_181 0 90 (dk_at dksX1_init_10 19 rfl rfl)
theorem dX1_init_259 : decode cX1_init 259 = .ok (.aload_n 0, 1) := dk_42 (dk_at dksX1_init_10 22 rfl rfl)
theorem dX1_init_260 : decode cX1_init 260 = .ok (.bipush 16, 2) := dk_16 16 (dk_at dksX1_init_11 0 rfl rfl)
theorem dX1_init_262 : decode cX1_init 262 = .ok (.newarray .int, 2) := dk_188_10 (dk_at dksX1_init_11 2 rfl rfl)
theorem dX1_init_264 : decode cX1_init 264 = .ok (.putfield 93, 3) := dk_181 0 93 (dk_at dksX1_init_11 4 rfl rfl)
theorem dX1_init_267 : decode cX1_init 267 = .ok (.return_, 1) := dk_177 (dk_at dksX1_init_11 7 rfl rfl)
abbrev cX1_sign : ByteArray := prog_1_method_9_code
def yX1_sign : MethodName := ⟨RX1, "sign", "(I)I"⟩
def dkwX1_sign_2 : List UInt8 := [167, 255, 224, 42, 89, 180, 0, 121, 7, 96, 181, 0, 121, 42, 180, 0, 121, 172]
abbrev dktX1_sign_2 : List UInt8 := dkwX1_sign_2 ++ []
def dkwX1_sign_1 : List UInt8 := [180, 0, 121, 28, 96, 27, 16, 24, 16, 8, 28, 104, 100, 122, 17, 0, 255, 126, 79, 132, 2, 1]
abbrev dktX1_sign_1 : List UInt8 := dkwX1_sign_1 ++ dktX1_sign_2
def dkwX1_sign_0 : List UInt8 := [42, 180, 0, 121, 16, 76, 164, 0, 5, 2, 172, 3, 61, 28, 7, 162, 0, 33, 42, 180, 0, 35, 42]
abbrev dktX1_sign_0 : List UInt8 := dkwX1_sign_0 ++ dktX1_sign_1
theorem dksX1_sign_0 : cX1_sign.data.toList.drop 0 = dktX1_sign_0 := by decide +kernel
theorem dksX1_sign_1 : cX1_sign.data.toList.drop 23 = dktX1_sign_1 := dk_seg dksX1_sign_0 23 rfl rfl
theorem dksX1_sign_2 : cX1_sign.data.toList.drop 45 = dktX1_sign_2 := dk_seg dksX1_sign_1 22 rfl rfl
theorem dX1_sign_0 : decode cX1_sign 0 = .ok (.aload_n 0, 1) := dk_42 (dk_at dksX1_sign_0 0 rfl rfl)
theorem dX1_sign_1 : decode cX1_sign 1 = .ok (.getfield 121, 3) := dk_180 0 121 (dk_at dksX1_sign_0 1 rfl rfl)
theorem dX1_sign_4 : decode cX1_sign 4 = .ok (.bipush 76, 2) := dk_16 76 (dk_at dksX1_sign_0 4 rfl rfl)
theorem dX1_sign_6 : decode cX1_sign 6 = .ok (.if_icmp .le 5, 3) := dk_164 0 5 (dk_at dksX1_sign_0 6 rfl rfl)
theorem dX1_sign_9 : decode cX1_sign 9 = .ok (.iconst (-1), 1) := dk_2 (dk_at dksX1_sign_0 9 rfl rfl)
theorem dX1_sign_10 : decode cX1_sign 10 = .ok (.ireturn, 1) := dk_172 (dk_at dksX1_sign_0 10 rfl rfl)
theorem dX1_sign_11 : decode cX1_sign 11 = .ok (.iconst 0, 1) := dk_3 (dk_at dksX1_sign_0 11 rfl rfl)
theorem dX1_sign_12 : decode cX1_sign 12 = .ok (.istore_n 2, 1) := dk_61 (dk_at dksX1_sign_0 12 rfl rfl)
theorem dX1_sign_13 : decode cX1_sign 13 = .ok (.iload_n 2, 1) := dk_28 (dk_at dksX1_sign_0 13 rfl rfl)
theorem dX1_sign_14 : decode cX1_sign 14 = .ok (.iconst 4, 1) := dk_7 (dk_at dksX1_sign_0 14 rfl rfl)
theorem dX1_sign_15 : decode cX1_sign 15 = .ok (.if_icmp .ge 33, 3) := dk_162 0 33 (dk_at dksX1_sign_0 15 rfl rfl)
theorem dX1_sign_18 : decode cX1_sign 18 = .ok (.aload_n 0, 1) := dk_42 (dk_at dksX1_sign_0 18 rfl rfl)
theorem dX1_sign_19 : decode cX1_sign 19 = .ok (.getfield 35, 3) := dk_180 0 35 (dk_at dksX1_sign_0 19 rfl rfl)
theorem dX1_sign_22 : decode cX1_sign 22 = .ok (.aload_n 0, 1) := dk_42 (dk_at dksX1_sign_0 22 rfl rfl)
theorem dX1_sign_23 : decode cX1_sign 23 = .ok (.getfield 121, 3) := dk_180 0 121 (dk_at dksX1_sign_1 0 rfl rfl)
theorem dX1_sign_26 : decode cX1_sign 26 = .ok (.iload_n 2, 1) := dk_28 (dk_at dksX1_sign_1 3 rfl rfl)
theorem dX1_sign_27 : decode cX1_sign 27 = .ok (.iadd, 1) := dk_96 (dk_at dksX1_sign_1 4 rfl rfl)
theorem dX1_sign_28 : decode cX1_sign 28 = .ok (.iload_n 1, 1) := dk_27 (dk_at dksX1_sign_1 5 rfl rfl)
theorem dX1_sign_29 : decode cX1_sign 29 = .ok (.bipush 24, 2) := dk_16 24 (dk_at dksX1_sign_1 6 rfl rfl)
theorem dX1_sign_31 : decode cX1_sign 31 = .ok (.bipush 8, 2) := dk_16 8 (dk_at dksX1_sign_1 8 rfl rfl)
theorem dX1_sign_33 : decode cX1_sign 33 = .ok (.iload_n 2, 1) := dk_28 (dk_at dksX1_sign_1 10 rfl rfl)
theorem dX1_sign_34 : decode cX1_sign 34 = .ok (.imul, 1) := dk_104 (dk_at dksX1_sign_1 11 rfl rfl)
theorem dX1_sign_35 : decode cX1_sign 35 = .ok (.isub, 1) := dk_100 (dk_at dksX1_sign_1 12 rfl rfl)
theorem dX1_sign_36 : decode cX1_sign 36 = .ok (.ishr, 1) := dk_122 (dk_at dksX1_sign_1 13 rfl rfl)
theorem dX1_sign_37 : decode cX1_sign 37 = .ok (.sipush 255, 3) := dk_17 0 255 (dk_at dksX1_sign_1 14 rfl rfl)
theorem dX1_sign_40 : decode cX1_sign 40 = .ok (.iand, 1) := dk_126 (dk_at dksX1_sign_1 17 rfl rfl)
theorem dX1_sign_41 : decode cX1_sign 41 = .ok (.iastore, 1) := dk_79 (dk_at dksX1_sign_1 18 rfl rfl)
theorem dX1_sign_42 : decode cX1_sign 42 = .ok (.iinc 2 1, 3) := dk_132 2 1 (dk_at dksX1_sign_1 19 rfl rfl)
theorem dX1_sign_45 : decode cX1_sign 45 = .ok (.goto (-32), 3) := dk_167 255 224 (dk_at dksX1_sign_2 0 rfl rfl)
theorem dX1_sign_48 : decode cX1_sign 48 = .ok (.aload_n 0, 1) := dk_42 (dk_at dksX1_sign_2 3 rfl rfl)
theorem dX1_sign_49 : decode cX1_sign 49 = .ok (.dup, 1) := dk_89 (dk_at dksX1_sign_2 4 rfl rfl)
theorem dX1_sign_50 : decode cX1_sign 50 = .ok (.getfield 121, 3) := dk_180 0 121 (dk_at dksX1_sign_2 5 rfl rfl)
theorem dX1_sign_53 : decode cX1_sign 53 = .ok (.iconst 4, 1) := dk_7 (dk_at dksX1_sign_2 8 rfl rfl)
theorem dX1_sign_54 : decode cX1_sign 54 = .ok (.iadd, 1) := dk_96 (dk_at dksX1_sign_2 9 rfl rfl)
theorem dX1_sign_55 : decode cX1_sign 55 = .ok (.putfield 121, 3) := dk_181 0 121 (dk_at dksX1_sign_2 10 rfl rfl)
theorem dX1_sign_58 : decode cX1_sign 58 = .ok (.aload_n 0, 1) := dk_42 (dk_at dksX1_sign_2 13 rfl rfl)
theorem dX1_sign_59 : decode cX1_sign 59 = .ok (.getfield 121, 3) := dk_180 0 121 (dk_at dksX1_sign_2 14 rfl rfl)
theorem dX1_sign_62 : decode cX1_sign 62 = .ok (.ireturn, 1) := dk_172 (dk_at dksX1_sign_2 17 rfl rfl)
abbrev cX1_end : ByteArray := prog_1_method_10_code
def yX1_end : MethodName := ⟨RX1, "end", "(I)Z"⟩
def dkwX1_end_0 : List UInt8 := [27, 133, 9, 42, 180, 0, 121, 133, 184, 0, 100, 154, 0, 5, 3, 172, 42, 27, 181, 0, 121, 4, 172]
abbrev dktX1_end_0 : List UInt8 := dkwX1_end_0 ++ []
theorem dksX1_end_0 : cX1_end.data.toList.drop 0 = dktX1_end_0 := by decide +kernel
theorem dX1_end_0 : decode cX1_end 0 = .ok (.iload_n 1, 1) := dk_27 (dk_at dksX1_end_0 0 rfl rfl)
theorem dX1_end_1 : decode cX1_end 1 = .ok (.i2l, 1) := dk_133 (dk_at dksX1_end_0 1 rfl rfl)
theorem dX1_end_2 : decode cX1_end 2 = .ok (.lconst 0, 1) := dk_9 (dk_at dksX1_end_0 2 rfl rfl)
theorem dX1_end_3 : decode cX1_end 3 = .ok (.aload_n 0, 1) := dk_42 (dk_at dksX1_end_0 3 rfl rfl)
theorem dX1_end_4 : decode cX1_end 4 = .ok (.getfield 121, 3) := dk_180 0 121 (dk_at dksX1_end_0 4 rfl rfl)
theorem dX1_end_7 : decode cX1_end 7 = .ok (.i2l, 1) := dk_133 (dk_at dksX1_end_0 7 rfl rfl)
theorem dX1_end_8 : decode cX1_end 8 = .ok (.invokestatic 100, 3) := dk_184 0 100 (dk_at dksX1_end_0 8 rfl rfl)
theorem dX1_end_11 : decode cX1_end 11 = .ok (.ifCond .ne 5, 3) := dk_154 0 5 (dk_at dksX1_end_0 11 rfl rfl)
theorem dX1_end_14 : decode cX1_end 14 = .ok (.iconst 0, 1) := dk_3 (dk_at dksX1_end_0 14 rfl rfl)
theorem dX1_end_15 : decode cX1_end 15 = .ok (.ireturn, 1) := dk_172 (dk_at dksX1_end_0 15 rfl rfl)
theorem dX1_end_16 : decode cX1_end 16 = .ok (.aload_n 0, 1) := dk_42 (dk_at dksX1_end_0 16 rfl rfl)
theorem dX1_end_17 : decode cX1_end 17 = .ok (.iload_n 1, 1) := dk_27 (dk_at dksX1_end_0 17 rfl rfl)
theorem dX1_end_18 : decode cX1_end 18 = .ok (.putfield 121, 3) := dk_181 0 121 (dk_at dksX1_end_0 18 rfl rfl)
theorem dX1_end_21 : decode cX1_end 21 = .ok (.iconst 1, 1) := dk_4 (dk_at dksX1_end_0 21 rfl rfl)
theorem dX1_end_22 : decode cX1_end 22 = .ok (.ireturn, 1) := dk_172 (dk_at dksX1_end_0 22 rfl rfl)
abbrev cX1_in : ByteArray := prog_1_method_2_code
def yX1_in : MethodName := ⟨RX1, "in", "(JJJ)Z"⟩
def dkwX1_in_0 : List UInt8 := [30, 32, 148, 155, 0, 14, 30, 22, 4, 148, 157, 0, 7, 4, 167, 0, 4, 3, 172]
abbrev dktX1_in_0 : List UInt8 := dkwX1_in_0 ++ []
theorem dksX1_in_0 : cX1_in.data.toList.drop 0 = dktX1_in_0 := by decide +kernel
theorem dX1_in_0 : decode cX1_in 0 = .ok (.lload_n 0, 1) := dk_30 (dk_at dksX1_in_0 0 rfl rfl)
theorem dX1_in_1 : decode cX1_in 1 = .ok (.lload_n 2, 1) := dk_32 (dk_at dksX1_in_0 1 rfl rfl)
theorem dX1_in_2 : decode cX1_in 2 = .ok (.lcmp, 1) := dk_148 (dk_at dksX1_in_0 2 rfl rfl)
theorem dX1_in_3 : decode cX1_in 3 = .ok (.ifCond .lt 14, 3) := dk_155 0 14 (dk_at dksX1_in_0 3 rfl rfl)
theorem dX1_in_6 : decode cX1_in 6 = .ok (.lload_n 0, 1) := dk_30 (dk_at dksX1_in_0 6 rfl rfl)
theorem dX1_in_7 : decode cX1_in 7 = .ok (.lload 4, 2) := dk_22 4 (dk_at dksX1_in_0 7 rfl rfl)
theorem dX1_in_9 : decode cX1_in 9 = .ok (.lcmp, 1) := dk_148 (dk_at dksX1_in_0 9 rfl rfl)
theorem dX1_in_10 : decode cX1_in 10 = .ok (.ifCond .gt 7, 3) := dk_157 0 7 (dk_at dksX1_in_0 10 rfl rfl)
theorem dX1_in_13 : decode cX1_in 13 = .ok (.iconst 1, 1) := dk_4 (dk_at dksX1_in_0 13 rfl rfl)
theorem dX1_in_14 : decode cX1_in 14 = .ok (.goto 4, 3) := dk_167 0 4 (dk_at dksX1_in_0 14 rfl rfl)
theorem dX1_in_17 : decode cX1_in 17 = .ok (.iconst 0, 1) := dk_3 (dk_at dksX1_in_0 17 rfl rfl)
theorem dX1_in_18 : decode cX1_in 18 = .ok (.ireturn, 1) := dk_172 (dk_at dksX1_in_0 18 rfl rfl)
abbrev cX1_town : ByteArray := prog_1_method_19_code
def yX1_town : MethodName := ⟨RX1, "town", "()I"⟩
def dkwX1_town_7 : List UInt8 := [79, 132, 6, 1, 167, 255, 176, 42, 42, 180, 0, 153, 181, 0, 96, 42, 3, 181, 0, 173, 21, 5, 172]
abbrev dktX1_town_7 : List UInt8 := dkwX1_town_7 ++ []
def dkwX1_town_6 : List UInt8 := [180, 0, 41, 5, 21, 6, 104, 4, 96, 46, 79, 42, 180, 0, 29, 21, 6, 42, 180, 0, 44, 21, 6, 46]
abbrev dktX1_town_6 : List UInt8 := dkwX1_town_6 ++ dktX1_town_7
def dkwX1_town_5 : List UInt8 := [104, 42, 180, 0, 41, 5, 21, 6, 104, 46, 79, 42, 180, 0, 26, 5, 21, 6, 104, 4, 96, 42]
abbrev dktX1_town_5 : List UInt8 := dkwX1_town_5 ++ dktX1_town_6
def dkwX1_town_4 : List UInt8 := [162, 0, 77, 42, 180, 0, 22, 21, 6, 42, 180, 0, 38, 21, 6, 46, 79, 42, 180, 0, 26, 5, 21, 6]
abbrev dktX1_town_4 : List UInt8 := dkwX1_town_4 ++ dktX1_town_5
def dkwX1_town_3 : List UInt8 := [42, 180, 0, 153, 42, 180, 0, 96, 100, 54, 5, 42, 180, 0, 96, 54, 6, 21, 6, 42, 180, 0, 153]
abbrev dktX1_town_3 : List UInt8 := dkwX1_town_3 ++ dktX1_town_4
def dkwX1_town_2 : List UInt8 := [167, 0, 4, 3, 62, 167, 255, 228, 42, 27, 28, 182, 0, 169, 54, 4, 21, 4, 156, 0, 6, 21, 4, 172]
abbrev dktX1_town_2 : List UInt8 := dkwX1_town_2 ++ dktX1_town_3
def dkwX1_town_1 : List UInt8 := [62, 29, 153, 0, 30, 42, 182, 0, 166, 61, 28, 153, 0, 16, 42, 16, 59, 182, 0, 160, 153, 0, 7, 4]
abbrev dktX1_town_1 : List UInt8 := dkwX1_town_1 ++ dktX1_town_2
def dkwX1_town_0 : List UInt8 := [42, 16, 76, 182, 0, 163, 60, 27, 154, 0, 5, 3, 172, 42, 42, 180, 0, 96, 181, 0, 153, 4, 61, 4]
abbrev dktX1_town_0 : List UInt8 := dkwX1_town_0 ++ dktX1_town_1
theorem dksX1_town_0 : cX1_town.data.toList.drop 0 = dktX1_town_0 := by decide +kernel
theorem dksX1_town_1 : cX1_town.data.toList.drop 24 = dktX1_town_1 := dk_seg dksX1_town_0 24 rfl rfl
theorem dksX1_town_2 : cX1_town.data.toList.drop 48 = dktX1_town_2 := dk_seg dksX1_town_1 24 rfl rfl
theorem dksX1_town_3 : cX1_town.data.toList.drop 72 = dktX1_town_3 := dk_seg dksX1_town_2 24 rfl rfl
theorem dksX1_town_4 : cX1_town.data.toList.drop 95 = dktX1_town_4 := dk_seg dksX1_town_3 23 rfl rfl
theorem dksX1_town_5 : cX1_town.data.toList.drop 119 = dktX1_town_5 := dk_seg dksX1_town_4 24 rfl rfl
theorem dksX1_town_6 : cX1_town.data.toList.drop 141 = dktX1_town_6 := dk_seg dksX1_town_5 22 rfl rfl
theorem dksX1_town_7 : cX1_town.data.toList.drop 165 = dktX1_town_7 := dk_seg dksX1_town_6 24 rfl rfl
theorem dX1_town_0 : decode cX1_town 0 = .ok (.aload_n 0, 1) := dk_42 (dk_at dksX1_town_0 0 rfl rfl)
theorem dX1_town_1 : decode cX1_town 1 = .ok (.bipush 76, 2) := dk_16 76 (dk_at dksX1_town_0 1 rfl rfl)
theorem dX1_town_3 : decode cX1_town 3 = .ok (.invokevirtual 163, 3) := dk_182 0 163 (dk_at dksX1_town_0 3 rfl rfl)
theorem dX1_town_6 : decode cX1_town 6 = .ok (.istore_n 1, 1) := dk_60 (dk_at dksX1_town_0 6 rfl rfl)
theorem dX1_town_7 : decode cX1_town 7 = .ok (.iload_n 1, 1) := dk_27 (dk_at dksX1_town_0 7 rfl rfl)
theorem dX1_town_8 : decode cX1_town 8 = .ok (.ifCond .ne 5, 3) := dk_154 0 5 (dk_at dksX1_town_0 8 rfl rfl)
theorem dX1_town_11 : decode cX1_town 11 = .ok (.iconst 0, 1) := dk_3 (dk_at dksX1_town_0 11 rfl rfl)
theorem dX1_town_12 : decode cX1_town 12 = .ok (.ireturn, 1) := dk_172 (dk_at dksX1_town_0 12 rfl rfl)
theorem dX1_town_13 : decode cX1_town 13 = .ok (.aload_n 0, 1) := dk_42 (dk_at dksX1_town_0 13 rfl rfl)
theorem dX1_town_14 : decode cX1_town 14 = .ok (.aload_n 0, 1) := dk_42 (dk_at dksX1_town_0 14 rfl rfl)
theorem dX1_town_15 : decode cX1_town 15 = .ok (.getfield 96, 3) := dk_180 0 96 (dk_at dksX1_town_0 15 rfl rfl)
theorem dX1_town_18 : decode cX1_town 18 = .ok (.putfield 153, 3) := dk_181 0 153 (dk_at dksX1_town_0 18 rfl rfl)
theorem dX1_town_21 : decode cX1_town 21 = .ok (.iconst 1, 1) := dk_4 (dk_at dksX1_town_0 21 rfl rfl)
theorem dX1_town_22 : decode cX1_town 22 = .ok (.istore_n 2, 1) := dk_61 (dk_at dksX1_town_0 22 rfl rfl)
theorem dX1_town_23 : decode cX1_town 23 = .ok (.iconst 1, 1) := dk_4 (dk_at dksX1_town_0 23 rfl rfl)
theorem dX1_town_24 : decode cX1_town 24 = .ok (.istore_n 3, 1) := dk_62 (dk_at dksX1_town_1 0 rfl rfl)
theorem dX1_town_25 : decode cX1_town 25 = .ok (.iload_n 3, 1) := dk_29 (dk_at dksX1_town_1 1 rfl rfl)
theorem dX1_town_26 : decode cX1_town 26 = .ok (.ifCond .eq 30, 3) := dk_153 0 30 (dk_at dksX1_town_1 2 rfl rfl)
theorem dX1_town_29 : decode cX1_town 29 = .ok (.aload_n 0, 1) := dk_42 (dk_at dksX1_town_1 5 rfl rfl)
theorem dX1_town_30 : decode cX1_town 30 = .ok (.invokevirtual 166, 3) := dk_182 0 166 (dk_at dksX1_town_1 6 rfl rfl)
theorem dX1_town_33 : decode cX1_town 33 = .ok (.istore_n 2, 1) := dk_61 (dk_at dksX1_town_1 9 rfl rfl)
theorem dX1_town_34 : decode cX1_town 34 = .ok (.iload_n 2, 1) := dk_28 (dk_at dksX1_town_1 10 rfl rfl)
theorem dX1_town_35 : decode cX1_town 35 = .ok (.ifCond .eq 16, 3) := dk_153 0 16 (dk_at dksX1_town_1 11 rfl rfl)
theorem dX1_town_38 : decode cX1_town 38 = .ok (.aload_n 0, 1) := dk_42 (dk_at dksX1_town_1 14 rfl rfl)
theorem dX1_town_39 : decode cX1_town 39 = .ok (.bipush 59, 2) := dk_16 59 (dk_at dksX1_town_1 15 rfl rfl)
theorem dX1_town_41 : decode cX1_town 41 = .ok (.invokevirtual 160, 3) := dk_182 0 160 (dk_at dksX1_town_1 17 rfl rfl)
theorem dX1_town_44 : decode cX1_town 44 = .ok (.ifCond .eq 7, 3) := dk_153 0 7 (dk_at dksX1_town_1 20 rfl rfl)
theorem dX1_town_47 : decode cX1_town 47 = .ok (.iconst 1, 1) := dk_4 (dk_at dksX1_town_1 23 rfl rfl)
theorem dX1_town_48 : decode cX1_town 48 = .ok (.goto 4, 3) := dk_167 0 4 (dk_at dksX1_town_2 0 rfl rfl)
theorem dX1_town_51 : decode cX1_town 51 = .ok (.iconst 0, 1) := dk_3 (dk_at dksX1_town_2 3 rfl rfl)
theorem dX1_town_52 : decode cX1_town 52 = .ok (.istore_n 3, 1) := dk_62 (dk_at dksX1_town_2 4 rfl rfl)
theorem dX1_town_53 : decode cX1_town 53 = .ok (.goto (-28), 3) := dk_167 255 228 (dk_at dksX1_town_2 5 rfl rfl)
theorem dX1_town_56 : decode cX1_town 56 = .ok (.aload_n 0, 1) := dk_42 (dk_at dksX1_town_2 8 rfl rfl)
theorem dX1_town_57 : decode cX1_town 57 = .ok (.iload_n 1, 1) := dk_27 (dk_at dksX1_town_2 9 rfl rfl)
theorem dX1_town_58 : decode cX1_town 58 = .ok (.iload_n 2, 1) := dk_28 (dk_at dksX1_town_2 10 rfl rfl)
theorem dX1_town_59 : decode cX1_town 59 = .ok (.invokevirtual 169, 3) := dk_182 0 169 (dk_at dksX1_town_2 11 rfl rfl)
theorem dX1_town_62 : decode cX1_town 62 = .ok (.istore 4, 2) := dk_54 4 (dk_at dksX1_town_2 14 rfl rfl)
theorem dX1_town_64 : decode cX1_town 64 = .ok (.iload 4, 2) := dk_21 4 (dk_at dksX1_town_2 16 rfl rfl)
theorem dX1_town_66 : decode cX1_town 66 = .ok (.ifCond .ge 6, 3) := dk_156 0 6 (dk_at dksX1_town_2 18 rfl rfl)
theorem dX1_town_69 : decode cX1_town 69 = .ok (.iload 4, 2) := dk_21 4 (dk_at dksX1_town_2 21 rfl rfl)
theorem dX1_town_71 : decode cX1_town 71 = .ok (.ireturn, 1) := dk_172 (dk_at dksX1_town_2 23 rfl rfl)
theorem dX1_town_72 : decode cX1_town 72 = .ok (.aload_n 0, 1) := dk_42 (dk_at dksX1_town_3 0 rfl rfl)
theorem dX1_town_73 : decode cX1_town 73 = .ok (.getfield 153, 3) := dk_180 0 153 (dk_at dksX1_town_3 1 rfl rfl)
theorem dX1_town_76 : decode cX1_town 76 = .ok (.aload_n 0, 1) := dk_42 (dk_at dksX1_town_3 4 rfl rfl)
theorem dX1_town_77 : decode cX1_town 77 = .ok (.getfield 96, 3) := dk_180 0 96 (dk_at dksX1_town_3 5 rfl rfl)
theorem dX1_town_80 : decode cX1_town 80 = .ok (.isub, 1) := dk_100 (dk_at dksX1_town_3 8 rfl rfl)
theorem dX1_town_81 : decode cX1_town 81 = .ok (.istore 5, 2) := dk_54 5 (dk_at dksX1_town_3 9 rfl rfl)
theorem dX1_town_83 : decode cX1_town 83 = .ok (.aload_n 0, 1) := dk_42 (dk_at dksX1_town_3 11 rfl rfl)
theorem dX1_town_84 : decode cX1_town 84 = .ok (.getfield 96, 3) := dk_180 0 96 (dk_at dksX1_town_3 12 rfl rfl)
theorem dX1_town_87 : decode cX1_town 87 = .ok (.istore 6, 2) := dk_54 6 (dk_at dksX1_town_3 15 rfl rfl)
theorem dX1_town_89 : decode cX1_town 89 = .ok (.iload 6, 2) := dk_21 6 (dk_at dksX1_town_3 17 rfl rfl)
theorem dX1_town_91 : decode cX1_town 91 = .ok (.aload_n 0, 1) := dk_42 (dk_at dksX1_town_3 19 rfl rfl)
theorem dX1_town_92 : decode cX1_town 92 = .ok (.getfield 153, 3) := dk_180 0 153 (dk_at dksX1_town_3 20 rfl rfl)
theorem dX1_town_95 : decode cX1_town 95 = .ok (.if_icmp .ge 77, 3) := dk_162 0 77 (dk_at dksX1_town_4 0 rfl rfl)
theorem dX1_town_98 : decode cX1_town 98 = .ok (.aload_n 0, 1) := dk_42 (dk_at dksX1_town_4 3 rfl rfl)
theorem dX1_town_99 : decode cX1_town 99 = .ok (.getfield 22, 3) := dk_180 0 22 (dk_at dksX1_town_4 4 rfl rfl)
theorem dX1_town_102 : decode cX1_town 102 = .ok (.iload 6, 2) := dk_21 6 (dk_at dksX1_town_4 7 rfl rfl)
theorem dX1_town_104 : decode cX1_town 104 = .ok (.aload_n 0, 1) := dk_42 (dk_at dksX1_town_4 9 rfl rfl)
theorem dX1_town_105 : decode cX1_town 105 = .ok (.getfield 38, 3) := dk_180 0 38 (dk_at dksX1_town_4 10 rfl rfl)
theorem dX1_town_108 : decode cX1_town 108 = .ok (.iload 6, 2) := dk_21 6 (dk_at dksX1_town_4 13 rfl rfl)
theorem dX1_town_110 : decode cX1_town 110 = .ok (.iaload, 1) := dk_46 (dk_at dksX1_town_4 15 rfl rfl)
theorem dX1_town_111 : decode cX1_town 111 = .ok (.iastore, 1) := dk_79 (dk_at dksX1_town_4 16 rfl rfl)
theorem dX1_town_112 : decode cX1_town 112 = .ok (.aload_n 0, 1) := dk_42 (dk_at dksX1_town_4 17 rfl rfl)
theorem dX1_town_113 : decode cX1_town 113 = .ok (.getfield 26, 3) := dk_180 0 26 (dk_at dksX1_town_4 18 rfl rfl)
theorem dX1_town_116 : decode cX1_town 116 = .ok (.iconst 2, 1) := dk_5 (dk_at dksX1_town_4 21 rfl rfl)
theorem dX1_town_117 : decode cX1_town 117 = .ok (.iload 6, 2) := dk_21 6 (dk_at dksX1_town_4 22 rfl rfl)
theorem dX1_town_119 : decode cX1_town 119 = .ok (.imul, 1) := dk_104 (dk_at dksX1_town_5 0 rfl rfl)
theorem dX1_town_120 : decode cX1_town 120 = .ok (.aload_n 0, 1) := dk_42 (dk_at dksX1_town_5 1 rfl rfl)
theorem dX1_town_121 : decode cX1_town 121 = .ok (.getfield 41, 3) := dk_180 0 41 (dk_at dksX1_town_5 2 rfl rfl)
theorem dX1_town_124 : decode cX1_town 124 = .ok (.iconst 2, 1) := dk_5 (dk_at dksX1_town_5 5 rfl rfl)
theorem dX1_town_125 : decode cX1_town 125 = .ok (.iload 6, 2) := dk_21 6 (dk_at dksX1_town_5 6 rfl rfl)
theorem dX1_town_127 : decode cX1_town 127 = .ok (.imul, 1) := dk_104 (dk_at dksX1_town_5 8 rfl rfl)
theorem dX1_town_128 : decode cX1_town 128 = .ok (.iaload, 1) := dk_46 (dk_at dksX1_town_5 9 rfl rfl)
theorem dX1_town_129 : decode cX1_town 129 = .ok (.iastore, 1) := dk_79 (dk_at dksX1_town_5 10 rfl rfl)
theorem dX1_town_130 : decode cX1_town 130 = .ok (.aload_n 0, 1) := dk_42 (dk_at dksX1_town_5 11 rfl rfl)
theorem dX1_town_131 : decode cX1_town 131 = .ok (.getfield 26, 3) := dk_180 0 26 (dk_at dksX1_town_5 12 rfl rfl)
theorem dX1_town_134 : decode cX1_town 134 = .ok (.iconst 2, 1) := dk_5 (dk_at dksX1_town_5 15 rfl rfl)
theorem dX1_town_135 : decode cX1_town 135 = .ok (.iload 6, 2) := dk_21 6 (dk_at dksX1_town_5 16 rfl rfl)
theorem dX1_town_137 : decode cX1_town 137 = .ok (.imul, 1) := dk_104 (dk_at dksX1_town_5 18 rfl rfl)
theorem dX1_town_138 : decode cX1_town 138 = .ok (.iconst 1, 1) := dk_4 (dk_at dksX1_town_5 19 rfl rfl)
theorem dX1_town_139 : decode cX1_town 139 = .ok (.iadd, 1) := dk_96 (dk_at dksX1_town_5 20 rfl rfl)
theorem dX1_town_140 : decode cX1_town 140 = .ok (.aload_n 0, 1) := dk_42 (dk_at dksX1_town_5 21 rfl rfl)
theorem dX1_town_141 : decode cX1_town 141 = .ok (.getfield 41, 3) := dk_180 0 41 (dk_at dksX1_town_6 0 rfl rfl)
theorem dX1_town_144 : decode cX1_town 144 = .ok (.iconst 2, 1) := dk_5 (dk_at dksX1_town_6 3 rfl rfl)
theorem dX1_town_145 : decode cX1_town 145 = .ok (.iload 6, 2) := dk_21 6 (dk_at dksX1_town_6 4 rfl rfl)
theorem dX1_town_147 : decode cX1_town 147 = .ok (.imul, 1) := dk_104 (dk_at dksX1_town_6 6 rfl rfl)
theorem dX1_town_148 : decode cX1_town 148 = .ok (.iconst 1, 1) := dk_4 (dk_at dksX1_town_6 7 rfl rfl)
theorem dX1_town_149 : decode cX1_town 149 = .ok (.iadd, 1) := dk_96 (dk_at dksX1_town_6 8 rfl rfl)
theorem dX1_town_150 : decode cX1_town 150 = .ok (.iaload, 1) := dk_46 (dk_at dksX1_town_6 9 rfl rfl)
theorem dX1_town_151 : decode cX1_town 151 = .ok (.iastore, 1) := dk_79 (dk_at dksX1_town_6 10 rfl rfl)
theorem dX1_town_152 : decode cX1_town 152 = .ok (.aload_n 0, 1) := dk_42 (dk_at dksX1_town_6 11 rfl rfl)
theorem dX1_town_153 : decode cX1_town 153 = .ok (.getfield 29, 3) := dk_180 0 29 (dk_at dksX1_town_6 12 rfl rfl)
theorem dX1_town_156 : decode cX1_town 156 = .ok (.iload 6, 2) := dk_21 6 (dk_at dksX1_town_6 15 rfl rfl)
theorem dX1_town_158 : decode cX1_town 158 = .ok (.aload_n 0, 1) := dk_42 (dk_at dksX1_town_6 17 rfl rfl)
theorem dX1_town_159 : decode cX1_town 159 = .ok (.getfield 44, 3) := dk_180 0 44 (dk_at dksX1_town_6 18 rfl rfl)
theorem dX1_town_162 : decode cX1_town 162 = .ok (.iload 6, 2) := dk_21 6 (dk_at dksX1_town_6 21 rfl rfl)
theorem dX1_town_164 : decode cX1_town 164 = .ok (.iaload, 1) := dk_46 (dk_at dksX1_town_6 23 rfl rfl)
theorem dX1_town_165 : decode cX1_town 165 = .ok (.iastore, 1) := dk_79 (dk_at dksX1_town_7 0 rfl rfl)
theorem dX1_town_166 : decode cX1_town 166 = .ok (.iinc 6 1, 3) := dk_132 6 1 (dk_at dksX1_town_7 1 rfl rfl)
theorem dX1_town_169 : decode cX1_town 169 = .ok (.goto (-80), 3) := dk_167 255 176 (dk_at dksX1_town_7 4 rfl rfl)
theorem dX1_town_172 : decode cX1_town 172 = .ok (.aload_n 0, 1) := dk_42 (dk_at dksX1_town_7 7 rfl rfl)
theorem dX1_town_173 : decode cX1_town 173 = .ok (.aload_n 0, 1) := dk_42 (dk_at dksX1_town_7 8 rfl rfl)
theorem dX1_town_174 : decode cX1_town 174 = .ok (.getfield 153, 3) := dk_180 0 153 (dk_at dksX1_town_7 9 rfl rfl)
theorem dX1_town_177 : decode cX1_town 177 = .ok (.putfield 96, 3) := dk_181 0 96 (dk_at dksX1_town_7 12 rfl rfl)
theorem dX1_town_180 : decode cX1_town 180 = .ok (.aload_n 0, 1) := dk_42 (dk_at dksX1_town_7 15 rfl rfl)
theorem dX1_town_181 : decode cX1_town 181 = .ok (.iconst 0, 1) := dk_3 (dk_at dksX1_town_7 16 rfl rfl)
theorem dX1_town_182 : decode cX1_town 182 = .ok (.putfield 173, 3) := dk_181 0 173 (dk_at dksX1_town_7 17 rfl rfl)
theorem dX1_town_185 : decode cX1_town 185 = .ok (.iload 5, 2) := dk_21 5 (dk_at dksX1_town_7 20 rfl rfl)
theorem dX1_town_187 : decode cX1_town 187 = .ok (.ireturn, 1) := dk_172 (dk_at dksX1_town_7 22 rfl rfl)
abbrev cX1_begins : ByteArray := prog_1_method_11_code
def yX1_begins : MethodName := ⟨RX1, "begins", "(I)I"⟩
def dkwX1_begins_1 : List UInt8 := [184, 0, 130, 181, 0, 133, 28, 172]
abbrev dktX1_begins_1 : List UInt8 := dkwX1_begins_1 ++ []
def dkwX1_begins_0 : List UInt8 := [42, 180, 0, 121, 61, 42, 3, 181, 0, 121, 42, 3, 181, 0, 124, 42, 3, 181, 0, 127, 42, 28, 27]
abbrev dktX1_begins_0 : List UInt8 := dkwX1_begins_0 ++ dktX1_begins_1
theorem dksX1_begins_0 : cX1_begins.data.toList.drop 0 = dktX1_begins_0 := by decide +kernel
theorem dksX1_begins_1 : cX1_begins.data.toList.drop 23 = dktX1_begins_1 := dk_seg dksX1_begins_0 23 rfl rfl
theorem dX1_begins_0 : decode cX1_begins 0 = .ok (.aload_n 0, 1) := dk_42 (dk_at dksX1_begins_0 0 rfl rfl)
theorem dX1_begins_1 : decode cX1_begins 1 = .ok (.getfield 121, 3) := dk_180 0 121 (dk_at dksX1_begins_0 1 rfl rfl)
theorem dX1_begins_4 : decode cX1_begins 4 = .ok (.istore_n 2, 1) := dk_61 (dk_at dksX1_begins_0 4 rfl rfl)
theorem dX1_begins_5 : decode cX1_begins 5 = .ok (.aload_n 0, 1) := dk_42 (dk_at dksX1_begins_0 5 rfl rfl)
theorem dX1_begins_6 : decode cX1_begins 6 = .ok (.iconst 0, 1) := dk_3 (dk_at dksX1_begins_0 6 rfl rfl)
theorem dX1_begins_7 : decode cX1_begins 7 = .ok (.putfield 121, 3) := dk_181 0 121 (dk_at dksX1_begins_0 7 rfl rfl)
theorem dX1_begins_10 : decode cX1_begins 10 = .ok (.aload_n 0, 1) := dk_42 (dk_at dksX1_begins_0 10 rfl rfl)
theorem dX1_begins_11 : decode cX1_begins 11 = .ok (.iconst 0, 1) := dk_3 (dk_at dksX1_begins_0 11 rfl rfl)
theorem dX1_begins_12 : decode cX1_begins 12 = .ok (.putfield 124, 3) := dk_181 0 124 (dk_at dksX1_begins_0 12 rfl rfl)
theorem dX1_begins_15 : decode cX1_begins 15 = .ok (.aload_n 0, 1) := dk_42 (dk_at dksX1_begins_0 15 rfl rfl)
theorem dX1_begins_16 : decode cX1_begins 16 = .ok (.iconst 0, 1) := dk_3 (dk_at dksX1_begins_0 16 rfl rfl)
theorem dX1_begins_17 : decode cX1_begins 17 = .ok (.putfield 127, 3) := dk_181 0 127 (dk_at dksX1_begins_0 17 rfl rfl)
theorem dX1_begins_20 : decode cX1_begins 20 = .ok (.aload_n 0, 1) := dk_42 (dk_at dksX1_begins_0 20 rfl rfl)
theorem dX1_begins_21 : decode cX1_begins 21 = .ok (.iload_n 2, 1) := dk_28 (dk_at dksX1_begins_0 21 rfl rfl)
theorem dX1_begins_22 : decode cX1_begins 22 = .ok (.iload_n 1, 1) := dk_27 (dk_at dksX1_begins_0 22 rfl rfl)
theorem dX1_begins_23 : decode cX1_begins 23 = .ok (.invokestatic 130, 3) := dk_184 0 130 (dk_at dksX1_begins_1 0 rfl rfl)
theorem dX1_begins_26 : decode cX1_begins 26 = .ok (.putfield 133, 3) := dk_181 0 133 (dk_at dksX1_begins_1 3 rfl rfl)
theorem dX1_begins_29 : decode cX1_begins 29 = .ok (.iload_n 2, 1) := dk_28 (dk_at dksX1_begins_1 6 rfl rfl)
theorem dX1_begins_30 : decode cX1_begins 30 = .ok (.ireturn, 1) := dk_172 (dk_at dksX1_begins_1 7 rfl rfl)
abbrev cX1_readsHouse : ByteArray := prog_1_method_18_code
def yX1_readsHouse : MethodName := ⟨RX1, "readsHouse", "()Z"⟩
def dkwX1_readsHouse_6 : List UInt8 := [27, 46, 155, 0, 7, 4, 167, 0, 4, 3, 172]
abbrev dktX1_readsHouse_6 : List UInt8 := dkwX1_readsHouse_6 ++ []
def dkwX1_readsHouse_5 : List UInt8 := [16, 30, 182, 0, 156, 167, 0, 4, 3, 79, 42, 89, 180, 0, 153, 4, 96, 181, 0, 153, 42, 180, 0, 44]
abbrev dktX1_readsHouse_5 : List UInt8 := dkwX1_readsHouse_5 ++ dktX1_readsHouse_6
def dkwX1_readsHouse_4 : List UInt8 := [132, 2, 1, 167, 255, 215, 42, 180, 0, 44, 27, 42, 16, 42, 182, 0, 160, 153, 0, 14, 42, 5, 3]
abbrev dktX1_readsHouse_4 : List UInt8 := dkwX1_readsHouse_4 ++ dktX1_readsHouse_5
def dkwX1_readsHouse_3 : List UInt8 := [42, 4, 3, 16, 6, 182, 0, 156, 79, 42, 180, 0, 41, 5, 27, 104, 28, 96, 46, 156, 0, 5, 3, 172]
abbrev dktX1_readsHouse_3 : List UInt8 := dkwX1_readsHouse_3 ++ dktX1_readsHouse_4
def dkwX1_readsHouse_2 : List UInt8 := [182, 0, 160, 154, 0, 5, 3, 172, 3, 61, 28, 5, 162, 0, 42, 42, 180, 0, 41, 5, 27, 104, 28, 96]
abbrev dktX1_readsHouse_2 : List UInt8 := dkwX1_readsHouse_2 ++ dktX1_readsHouse_3
def dkwX1_readsHouse_1 : List UInt8 := [27, 42, 5, 4, 16, 99, 182, 0, 156, 79, 42, 180, 0, 38, 27, 46, 155, 0, 12, 42, 16, 44]
abbrev dktX1_readsHouse_1 : List UInt8 := dkwX1_readsHouse_1 ++ dktX1_readsHouse_2
def dkwX1_readsHouse_0 : List UInt8 := [42, 180, 0, 153, 60, 42, 182, 0, 149, 153, 0, 9, 27, 16, 7, 160, 0, 5, 3, 172, 42, 180, 0, 38]
abbrev dktX1_readsHouse_0 : List UInt8 := dkwX1_readsHouse_0 ++ dktX1_readsHouse_1
theorem dksX1_readsHouse_0 : cX1_readsHouse.data.toList.drop 0 = dktX1_readsHouse_0 := by decide +kernel
theorem dksX1_readsHouse_1 : cX1_readsHouse.data.toList.drop 24 = dktX1_readsHouse_1 := dk_seg dksX1_readsHouse_0 24 rfl rfl
theorem dksX1_readsHouse_2 : cX1_readsHouse.data.toList.drop 46 = dktX1_readsHouse_2 := dk_seg dksX1_readsHouse_1 22 rfl rfl
theorem dksX1_readsHouse_3 : cX1_readsHouse.data.toList.drop 70 = dktX1_readsHouse_3 := dk_seg dksX1_readsHouse_2 24 rfl rfl
theorem dksX1_readsHouse_4 : cX1_readsHouse.data.toList.drop 94 = dktX1_readsHouse_4 := dk_seg dksX1_readsHouse_3 24 rfl rfl
theorem dksX1_readsHouse_5 : cX1_readsHouse.data.toList.drop 117 = dktX1_readsHouse_5 := dk_seg dksX1_readsHouse_4 23 rfl rfl
theorem dksX1_readsHouse_6 : cX1_readsHouse.data.toList.drop 141 = dktX1_readsHouse_6 := dk_seg dksX1_readsHouse_5 24 rfl rfl
theorem dX1_readsHouse_0 : decode cX1_readsHouse 0 = .ok (.aload_n 0, 1) := dk_42 (dk_at dksX1_readsHouse_0 0 rfl rfl)
theorem dX1_readsHouse_1 : decode cX1_readsHouse 1 = .ok (.getfield 153, 3) := dk_180 0 153 (dk_at dksX1_readsHouse_0 1 rfl rfl)
theorem dX1_readsHouse_4 : decode cX1_readsHouse 4 = .ok (.istore_n 1, 1) := dk_60 (dk_at dksX1_readsHouse_0 4 rfl rfl)
theorem dX1_readsHouse_5 : decode cX1_readsHouse 5 = .ok (.aload_n 0, 1) := dk_42 (dk_at dksX1_readsHouse_0 5 rfl rfl)
theorem dX1_readsHouse_6 : decode cX1_readsHouse 6 = .ok (.invokevirtual 149, 3) := dk_182 0 149 (dk_at dksX1_readsHouse_0 6 rfl rfl)
theorem dX1_readsHouse_9 : decode cX1_readsHouse 9 = .ok (.ifCond .eq 9, 3) := dk_153 0 9 (dk_at dksX1_readsHouse_0 9 rfl rfl)
theorem dX1_readsHouse_12 : decode cX1_readsHouse 12 = .ok (.iload_n 1, 1) := dk_27 (dk_at dksX1_readsHouse_0 12 rfl rfl)
theorem dX1_readsHouse_13 : decode cX1_readsHouse 13 = .ok (.bipush 7, 2) := dk_16 7 (dk_at dksX1_readsHouse_0 13 rfl rfl)
theorem dX1_readsHouse_15 : decode cX1_readsHouse 15 = .ok (.if_icmp .ne 5, 3) := dk_160 0 5 (dk_at dksX1_readsHouse_0 15 rfl rfl)
theorem dX1_readsHouse_18 : decode cX1_readsHouse 18 = .ok (.iconst 0, 1) := dk_3 (dk_at dksX1_readsHouse_0 18 rfl rfl)
theorem dX1_readsHouse_19 : decode cX1_readsHouse 19 = .ok (.ireturn, 1) := dk_172 (dk_at dksX1_readsHouse_0 19 rfl rfl)
theorem dX1_readsHouse_20 : decode cX1_readsHouse 20 = .ok (.aload_n 0, 1) := dk_42 (dk_at dksX1_readsHouse_0 20 rfl rfl)
theorem dX1_readsHouse_21 : decode cX1_readsHouse 21 = .ok (.getfield 38, 3) := dk_180 0 38 (dk_at dksX1_readsHouse_0 21 rfl rfl)
theorem dX1_readsHouse_24 : decode cX1_readsHouse 24 = .ok (.iload_n 1, 1) := dk_27 (dk_at dksX1_readsHouse_1 0 rfl rfl)
theorem dX1_readsHouse_25 : decode cX1_readsHouse 25 = .ok (.aload_n 0, 1) := dk_42 (dk_at dksX1_readsHouse_1 1 rfl rfl)
theorem dX1_readsHouse_26 : decode cX1_readsHouse 26 = .ok (.iconst 2, 1) := dk_5 (dk_at dksX1_readsHouse_1 2 rfl rfl)
theorem dX1_readsHouse_27 : decode cX1_readsHouse 27 = .ok (.iconst 1, 1) := dk_4 (dk_at dksX1_readsHouse_1 3 rfl rfl)
theorem dX1_readsHouse_28 : decode cX1_readsHouse 28 = .ok (.bipush 99, 2) := dk_16 99 (dk_at dksX1_readsHouse_1 4 rfl rfl)
theorem dX1_readsHouse_30 : decode cX1_readsHouse 30 = .ok (.invokevirtual 156, 3) := dk_182 0 156 (dk_at dksX1_readsHouse_1 6 rfl rfl)
theorem dX1_readsHouse_33 : decode cX1_readsHouse 33 = .ok (.iastore, 1) := dk_79 (dk_at dksX1_readsHouse_1 9 rfl rfl)
theorem dX1_readsHouse_34 : decode cX1_readsHouse 34 = .ok (.aload_n 0, 1) := dk_42 (dk_at dksX1_readsHouse_1 10 rfl rfl)
theorem dX1_readsHouse_35 : decode cX1_readsHouse 35 = .ok (.getfield 38, 3) := dk_180 0 38 (dk_at dksX1_readsHouse_1 11 rfl rfl)
theorem dX1_readsHouse_38 : decode cX1_readsHouse 38 = .ok (.iload_n 1, 1) := dk_27 (dk_at dksX1_readsHouse_1 14 rfl rfl)
theorem dX1_readsHouse_39 : decode cX1_readsHouse 39 = .ok (.iaload, 1) := dk_46 (dk_at dksX1_readsHouse_1 15 rfl rfl)
theorem dX1_readsHouse_40 : decode cX1_readsHouse 40 = .ok (.ifCond .lt 12, 3) := dk_155 0 12 (dk_at dksX1_readsHouse_1 16 rfl rfl)
theorem dX1_readsHouse_43 : decode cX1_readsHouse 43 = .ok (.aload_n 0, 1) := dk_42 (dk_at dksX1_readsHouse_1 19 rfl rfl)
theorem dX1_readsHouse_44 : decode cX1_readsHouse 44 = .ok (.bipush 44, 2) := dk_16 44 (dk_at dksX1_readsHouse_1 20 rfl rfl)
theorem dX1_readsHouse_46 : decode cX1_readsHouse 46 = .ok (.invokevirtual 160, 3) := dk_182 0 160 (dk_at dksX1_readsHouse_2 0 rfl rfl)
theorem dX1_readsHouse_49 : decode cX1_readsHouse 49 = .ok (.ifCond .ne 5, 3) := dk_154 0 5 (dk_at dksX1_readsHouse_2 3 rfl rfl)
theorem dX1_readsHouse_52 : decode cX1_readsHouse 52 = .ok (.iconst 0, 1) := dk_3 (dk_at dksX1_readsHouse_2 6 rfl rfl)
theorem dX1_readsHouse_53 : decode cX1_readsHouse 53 = .ok (.ireturn, 1) := dk_172 (dk_at dksX1_readsHouse_2 7 rfl rfl)
theorem dX1_readsHouse_54 : decode cX1_readsHouse 54 = .ok (.iconst 0, 1) := dk_3 (dk_at dksX1_readsHouse_2 8 rfl rfl)
theorem dX1_readsHouse_55 : decode cX1_readsHouse 55 = .ok (.istore_n 2, 1) := dk_61 (dk_at dksX1_readsHouse_2 9 rfl rfl)
theorem dX1_readsHouse_56 : decode cX1_readsHouse 56 = .ok (.iload_n 2, 1) := dk_28 (dk_at dksX1_readsHouse_2 10 rfl rfl)
theorem dX1_readsHouse_57 : decode cX1_readsHouse 57 = .ok (.iconst 2, 1) := dk_5 (dk_at dksX1_readsHouse_2 11 rfl rfl)
theorem dX1_readsHouse_58 : decode cX1_readsHouse 58 = .ok (.if_icmp .ge 42, 3) := dk_162 0 42 (dk_at dksX1_readsHouse_2 12 rfl rfl)
theorem dX1_readsHouse_61 : decode cX1_readsHouse 61 = .ok (.aload_n 0, 1) := dk_42 (dk_at dksX1_readsHouse_2 15 rfl rfl)
theorem dX1_readsHouse_62 : decode cX1_readsHouse 62 = .ok (.getfield 41, 3) := dk_180 0 41 (dk_at dksX1_readsHouse_2 16 rfl rfl)
theorem dX1_readsHouse_65 : decode cX1_readsHouse 65 = .ok (.iconst 2, 1) := dk_5 (dk_at dksX1_readsHouse_2 19 rfl rfl)
theorem dX1_readsHouse_66 : decode cX1_readsHouse 66 = .ok (.iload_n 1, 1) := dk_27 (dk_at dksX1_readsHouse_2 20 rfl rfl)
theorem dX1_readsHouse_67 : decode cX1_readsHouse 67 = .ok (.imul, 1) := dk_104 (dk_at dksX1_readsHouse_2 21 rfl rfl)
theorem dX1_readsHouse_68 : decode cX1_readsHouse 68 = .ok (.iload_n 2, 1) := dk_28 (dk_at dksX1_readsHouse_2 22 rfl rfl)
theorem dX1_readsHouse_69 : decode cX1_readsHouse 69 = .ok (.iadd, 1) := dk_96 (dk_at dksX1_readsHouse_2 23 rfl rfl)
theorem dX1_readsHouse_70 : decode cX1_readsHouse 70 = .ok (.aload_n 0, 1) := dk_42 (dk_at dksX1_readsHouse_3 0 rfl rfl)
theorem dX1_readsHouse_71 : decode cX1_readsHouse 71 = .ok (.iconst 1, 1) := dk_4 (dk_at dksX1_readsHouse_3 1 rfl rfl)
theorem dX1_readsHouse_72 : decode cX1_readsHouse 72 = .ok (.iconst 0, 1) := dk_3 (dk_at dksX1_readsHouse_3 2 rfl rfl)
theorem dX1_readsHouse_73 : decode cX1_readsHouse 73 = .ok (.bipush 6, 2) := dk_16 6 (dk_at dksX1_readsHouse_3 3 rfl rfl)
theorem dX1_readsHouse_75 : decode cX1_readsHouse 75 = .ok (.invokevirtual 156, 3) := dk_182 0 156 (dk_at dksX1_readsHouse_3 5 rfl rfl)
theorem dX1_readsHouse_78 : decode cX1_readsHouse 78 = .ok (.iastore, 1) := dk_79 (dk_at dksX1_readsHouse_3 8 rfl rfl)
theorem dX1_readsHouse_79 : decode cX1_readsHouse 79 = .ok (.aload_n 0, 1) := dk_42 (dk_at dksX1_readsHouse_3 9 rfl rfl)
theorem dX1_readsHouse_80 : decode cX1_readsHouse 80 = .ok (.getfield 41, 3) := dk_180 0 41 (dk_at dksX1_readsHouse_3 10 rfl rfl)
theorem dX1_readsHouse_83 : decode cX1_readsHouse 83 = .ok (.iconst 2, 1) := dk_5 (dk_at dksX1_readsHouse_3 13 rfl rfl)
theorem dX1_readsHouse_84 : decode cX1_readsHouse 84 = .ok (.iload_n 1, 1) := dk_27 (dk_at dksX1_readsHouse_3 14 rfl rfl)
theorem dX1_readsHouse_85 : decode cX1_readsHouse 85 = .ok (.imul, 1) := dk_104 (dk_at dksX1_readsHouse_3 15 rfl rfl)
theorem dX1_readsHouse_86 : decode cX1_readsHouse 86 = .ok (.iload_n 2, 1) := dk_28 (dk_at dksX1_readsHouse_3 16 rfl rfl)
theorem dX1_readsHouse_87 : decode cX1_readsHouse 87 = .ok (.iadd, 1) := dk_96 (dk_at dksX1_readsHouse_3 17 rfl rfl)
theorem dX1_readsHouse_88 : decode cX1_readsHouse 88 = .ok (.iaload, 1) := dk_46 (dk_at dksX1_readsHouse_3 18 rfl rfl)
theorem dX1_readsHouse_89 : decode cX1_readsHouse 89 = .ok (.ifCond .ge 5, 3) := dk_156 0 5 (dk_at dksX1_readsHouse_3 19 rfl rfl)
theorem dX1_readsHouse_92 : decode cX1_readsHouse 92 = .ok (.iconst 0, 1) := dk_3 (dk_at dksX1_readsHouse_3 22 rfl rfl)
theorem dX1_readsHouse_93 : decode cX1_readsHouse 93 = .ok (.ireturn, 1) := dk_172 (dk_at dksX1_readsHouse_3 23 rfl rfl)
theorem dX1_readsHouse_94 : decode cX1_readsHouse 94 = .ok (.iinc 2 1, 3) := dk_132 2 1 (dk_at dksX1_readsHouse_4 0 rfl rfl)
theorem dX1_readsHouse_97 : decode cX1_readsHouse 97 = .ok (.goto (-41), 3) := dk_167 255 215 (dk_at dksX1_readsHouse_4 3 rfl rfl)
theorem dX1_readsHouse_100 : decode cX1_readsHouse 100 = .ok (.aload_n 0, 1) := dk_42 (dk_at dksX1_readsHouse_4 6 rfl rfl)
theorem dX1_readsHouse_101 : decode cX1_readsHouse 101 = .ok (.getfield 44, 3) := dk_180 0 44 (dk_at dksX1_readsHouse_4 7 rfl rfl)
theorem dX1_readsHouse_104 : decode cX1_readsHouse 104 = .ok (.iload_n 1, 1) := dk_27 (dk_at dksX1_readsHouse_4 10 rfl rfl)
theorem dX1_readsHouse_105 : decode cX1_readsHouse 105 = .ok (.aload_n 0, 1) := dk_42 (dk_at dksX1_readsHouse_4 11 rfl rfl)
theorem dX1_readsHouse_106 : decode cX1_readsHouse 106 = .ok (.bipush 42, 2) := dk_16 42 (dk_at dksX1_readsHouse_4 12 rfl rfl)
theorem dX1_readsHouse_108 : decode cX1_readsHouse 108 = .ok (.invokevirtual 160, 3) := dk_182 0 160 (dk_at dksX1_readsHouse_4 14 rfl rfl)
theorem dX1_readsHouse_111 : decode cX1_readsHouse 111 = .ok (.ifCond .eq 14, 3) := dk_153 0 14 (dk_at dksX1_readsHouse_4 17 rfl rfl)
theorem dX1_readsHouse_114 : decode cX1_readsHouse 114 = .ok (.aload_n 0, 1) := dk_42 (dk_at dksX1_readsHouse_4 20 rfl rfl)
theorem dX1_readsHouse_115 : decode cX1_readsHouse 115 = .ok (.iconst 2, 1) := dk_5 (dk_at dksX1_readsHouse_4 21 rfl rfl)
theorem dX1_readsHouse_116 : decode cX1_readsHouse 116 = .ok (.iconst 0, 1) := dk_3 (dk_at dksX1_readsHouse_4 22 rfl rfl)
theorem dX1_readsHouse_117 : decode cX1_readsHouse 117 = .ok (.bipush 30, 2) := dk_16 30 (dk_at dksX1_readsHouse_5 0 rfl rfl)
theorem dX1_readsHouse_119 : decode cX1_readsHouse 119 = .ok (.invokevirtual 156, 3) := dk_182 0 156 (dk_at dksX1_readsHouse_5 2 rfl rfl)
theorem dX1_readsHouse_122 : decode cX1_readsHouse 122 = .ok (.goto 4, 3) := dk_167 0 4 (dk_at dksX1_readsHouse_5 5 rfl rfl)
theorem dX1_readsHouse_125 : decode cX1_readsHouse 125 = .ok (.iconst 0, 1) := dk_3 (dk_at dksX1_readsHouse_5 8 rfl rfl)
theorem dX1_readsHouse_126 : decode cX1_readsHouse 126 = .ok (.iastore, 1) := dk_79 (dk_at dksX1_readsHouse_5 9 rfl rfl)
theorem dX1_readsHouse_127 : decode cX1_readsHouse 127 = .ok (.aload_n 0, 1) := dk_42 (dk_at dksX1_readsHouse_5 10 rfl rfl)
theorem dX1_readsHouse_128 : decode cX1_readsHouse 128 = .ok (.dup, 1) := dk_89 (dk_at dksX1_readsHouse_5 11 rfl rfl)
theorem dX1_readsHouse_129 : decode cX1_readsHouse 129 = .ok (.getfield 153, 3) := dk_180 0 153 (dk_at dksX1_readsHouse_5 12 rfl rfl)
theorem dX1_readsHouse_132 : decode cX1_readsHouse 132 = .ok (.iconst 1, 1) := dk_4 (dk_at dksX1_readsHouse_5 15 rfl rfl)
theorem dX1_readsHouse_133 : decode cX1_readsHouse 133 = .ok (.iadd, 1) := dk_96 (dk_at dksX1_readsHouse_5 16 rfl rfl)
theorem dX1_readsHouse_134 : decode cX1_readsHouse 134 = .ok (.putfield 153, 3) := dk_181 0 153 (dk_at dksX1_readsHouse_5 17 rfl rfl)
theorem dX1_readsHouse_137 : decode cX1_readsHouse 137 = .ok (.aload_n 0, 1) := dk_42 (dk_at dksX1_readsHouse_5 20 rfl rfl)
theorem dX1_readsHouse_138 : decode cX1_readsHouse 138 = .ok (.getfield 44, 3) := dk_180 0 44 (dk_at dksX1_readsHouse_5 21 rfl rfl)
theorem dX1_readsHouse_141 : decode cX1_readsHouse 141 = .ok (.iload_n 1, 1) := dk_27 (dk_at dksX1_readsHouse_6 0 rfl rfl)
theorem dX1_readsHouse_142 : decode cX1_readsHouse 142 = .ok (.iaload, 1) := dk_46 (dk_at dksX1_readsHouse_6 1 rfl rfl)
theorem dX1_readsHouse_143 : decode cX1_readsHouse 143 = .ok (.ifCond .lt 7, 3) := dk_155 0 7 (dk_at dksX1_readsHouse_6 2 rfl rfl)
theorem dX1_readsHouse_146 : decode cX1_readsHouse 146 = .ok (.iconst 1, 1) := dk_4 (dk_at dksX1_readsHouse_6 5 rfl rfl)
theorem dX1_readsHouse_147 : decode cX1_readsHouse 147 = .ok (.goto 4, 3) := dk_167 0 4 (dk_at dksX1_readsHouse_6 6 rfl rfl)
theorem dX1_readsHouse_150 : decode cX1_readsHouse 150 = .ok (.iconst 0, 1) := dk_3 (dk_at dksX1_readsHouse_6 9 rfl rfl)
theorem dX1_readsHouse_151 : decode cX1_readsHouse 151 = .ok (.ireturn, 1) := dk_172 (dk_at dksX1_readsHouse_6 10 rfl rfl)
abbrev cX1_isDigit : ByteArray := prog_1_method_15_code
def yX1_isDigit : MethodName := ⟨RX1, "isDigit", "()Z"⟩
def dkwX1_isDigit_1 : List UInt8 := [20, 0, 147, 184, 0, 100, 153, 0, 7, 4, 167, 0, 4, 3, 172]
abbrev dktX1_isDigit_1 : List UInt8 := dkwX1_isDigit_1 ++ []
def dkwX1_isDigit_0 : List UInt8 := [42, 180, 0, 124, 42, 180, 0, 133, 162, 0, 29, 42, 180, 0, 35, 42, 180, 0, 124, 46, 133, 20, 0, 145]
abbrev dktX1_isDigit_0 : List UInt8 := dkwX1_isDigit_0 ++ dktX1_isDigit_1
theorem dksX1_isDigit_0 : cX1_isDigit.data.toList.drop 0 = dktX1_isDigit_0 := by decide +kernel
theorem dksX1_isDigit_1 : cX1_isDigit.data.toList.drop 24 = dktX1_isDigit_1 := dk_seg dksX1_isDigit_0 24 rfl rfl
theorem dX1_isDigit_0 : decode cX1_isDigit 0 = .ok (.aload_n 0, 1) := dk_42 (dk_at dksX1_isDigit_0 0 rfl rfl)
theorem dX1_isDigit_1 : decode cX1_isDigit 1 = .ok (.getfield 124, 3) := dk_180 0 124 (dk_at dksX1_isDigit_0 1 rfl rfl)
theorem dX1_isDigit_4 : decode cX1_isDigit 4 = .ok (.aload_n 0, 1) := dk_42 (dk_at dksX1_isDigit_0 4 rfl rfl)
theorem dX1_isDigit_5 : decode cX1_isDigit 5 = .ok (.getfield 133, 3) := dk_180 0 133 (dk_at dksX1_isDigit_0 5 rfl rfl)
theorem dX1_isDigit_8 : decode cX1_isDigit 8 = .ok (.if_icmp .ge 29, 3) := dk_162 0 29 (dk_at dksX1_isDigit_0 8 rfl rfl)
theorem dX1_isDigit_11 : decode cX1_isDigit 11 = .ok (.aload_n 0, 1) := dk_42 (dk_at dksX1_isDigit_0 11 rfl rfl)
theorem dX1_isDigit_12 : decode cX1_isDigit 12 = .ok (.getfield 35, 3) := dk_180 0 35 (dk_at dksX1_isDigit_0 12 rfl rfl)
theorem dX1_isDigit_15 : decode cX1_isDigit 15 = .ok (.aload_n 0, 1) := dk_42 (dk_at dksX1_isDigit_0 15 rfl rfl)
theorem dX1_isDigit_16 : decode cX1_isDigit 16 = .ok (.getfield 124, 3) := dk_180 0 124 (dk_at dksX1_isDigit_0 16 rfl rfl)
theorem dX1_isDigit_19 : decode cX1_isDigit 19 = .ok (.iaload, 1) := dk_46 (dk_at dksX1_isDigit_0 19 rfl rfl)
theorem dX1_isDigit_20 : decode cX1_isDigit 20 = .ok (.i2l, 1) := dk_133 (dk_at dksX1_isDigit_0 20 rfl rfl)
theorem dX1_isDigit_21 : decode cX1_isDigit 21 = .ok (.ldc2_w 145, 3) := dk_20 0 145 (dk_at dksX1_isDigit_0 21 rfl rfl)
theorem dX1_isDigit_24 : decode cX1_isDigit 24 = .ok (.ldc2_w 147, 3) := dk_20 0 147 (dk_at dksX1_isDigit_1 0 rfl rfl)
theorem dX1_isDigit_27 : decode cX1_isDigit 27 = .ok (.invokestatic 100, 3) := dk_184 0 100 (dk_at dksX1_isDigit_1 3 rfl rfl)
theorem dX1_isDigit_30 : decode cX1_isDigit 30 = .ok (.ifCond .eq 7, 3) := dk_153 0 7 (dk_at dksX1_isDigit_1 6 rfl rfl)
theorem dX1_isDigit_33 : decode cX1_isDigit 33 = .ok (.iconst 1, 1) := dk_4 (dk_at dksX1_isDigit_1 9 rfl rfl)
theorem dX1_isDigit_34 : decode cX1_isDigit 34 = .ok (.goto 4, 3) := dk_167 0 4 (dk_at dksX1_isDigit_1 10 rfl rfl)
theorem dX1_isDigit_37 : decode cX1_isDigit 37 = .ok (.iconst 0, 1) := dk_3 (dk_at dksX1_isDigit_1 13 rfl rfl)
theorem dX1_isDigit_38 : decode cX1_isDigit 38 = .ok (.ireturn, 1) := dk_172 (dk_at dksX1_isDigit_1 14 rfl rfl)
abbrev cX1_number : ByteArray := prog_1_method_16_code
def yX1_number : MethodName := ⟨RX1, "number", "(III)I"⟩
def dkwX1_number_3 : List UInt8 := [133, 184, 0, 100, 153, 0, 6, 21, 4, 172, 42, 89, 180, 0, 124, 4, 100, 181, 0, 124, 2, 172]
abbrev dktX1_number_3 : List UInt8 := dkwX1_number_3 ++ []
def dkwX1_number_2 : List UInt8 := [54, 4, 42, 89, 180, 0, 124, 4, 96, 181, 0, 124, 132, 5, 1, 167, 255, 210, 21, 4, 133, 28, 133, 29]
abbrev dktX1_number_2 : List UInt8 := dkwX1_number_2 ++ dktX1_number_3
def dkwX1_number_1 : List UInt8 := [182, 0, 149, 153, 0, 39, 16, 10, 21, 4, 104, 42, 180, 0, 35, 42, 180, 0, 124, 46, 96, 16, 48, 100]
abbrev dktX1_number_1 : List UInt8 := dkwX1_number_1 ++ dktX1_number_2
def dkwX1_number_0 : List UInt8 := [42, 182, 0, 149, 154, 0, 5, 2, 172, 3, 54, 4, 3, 54, 5, 21, 5, 27, 162, 0, 46, 42]
abbrev dktX1_number_0 : List UInt8 := dkwX1_number_0 ++ dktX1_number_1
theorem dksX1_number_0 : cX1_number.data.toList.drop 0 = dktX1_number_0 := by decide +kernel
theorem dksX1_number_1 : cX1_number.data.toList.drop 22 = dktX1_number_1 := dk_seg dksX1_number_0 22 rfl rfl
theorem dksX1_number_2 : cX1_number.data.toList.drop 46 = dktX1_number_2 := dk_seg dksX1_number_1 24 rfl rfl
theorem dksX1_number_3 : cX1_number.data.toList.drop 70 = dktX1_number_3 := dk_seg dksX1_number_2 24 rfl rfl
theorem dX1_number_0 : decode cX1_number 0 = .ok (.aload_n 0, 1) := dk_42 (dk_at dksX1_number_0 0 rfl rfl)
theorem dX1_number_1 : decode cX1_number 1 = .ok (.invokevirtual 149, 3) := dk_182 0 149 (dk_at dksX1_number_0 1 rfl rfl)
theorem dX1_number_4 : decode cX1_number 4 = .ok (.ifCond .ne 5, 3) := dk_154 0 5 (dk_at dksX1_number_0 4 rfl rfl)
theorem dX1_number_7 : decode cX1_number 7 = .ok (.iconst (-1), 1) := dk_2 (dk_at dksX1_number_0 7 rfl rfl)
theorem dX1_number_8 : decode cX1_number 8 = .ok (.ireturn, 1) := dk_172 (dk_at dksX1_number_0 8 rfl rfl)
theorem dX1_number_9 : decode cX1_number 9 = .ok (.iconst 0, 1) := dk_3 (dk_at dksX1_number_0 9 rfl rfl)
theorem dX1_number_10 : decode cX1_number 10 = .ok (.istore 4, 2) := dk_54 4 (dk_at dksX1_number_0 10 rfl rfl)
theorem dX1_number_12 : decode cX1_number 12 = .ok (.iconst 0, 1) := dk_3 (dk_at dksX1_number_0 12 rfl rfl)
theorem dX1_number_13 : decode cX1_number 13 = .ok (.istore 5, 2) := dk_54 5 (dk_at dksX1_number_0 13 rfl rfl)
theorem dX1_number_15 : decode cX1_number 15 = .ok (.iload 5, 2) := dk_21 5 (dk_at dksX1_number_0 15 rfl rfl)
theorem dX1_number_17 : decode cX1_number 17 = .ok (.iload_n 1, 1) := dk_27 (dk_at dksX1_number_0 17 rfl rfl)
theorem dX1_number_18 : decode cX1_number 18 = .ok (.if_icmp .ge 46, 3) := dk_162 0 46 (dk_at dksX1_number_0 18 rfl rfl)
theorem dX1_number_21 : decode cX1_number 21 = .ok (.aload_n 0, 1) := dk_42 (dk_at dksX1_number_0 21 rfl rfl)
theorem dX1_number_22 : decode cX1_number 22 = .ok (.invokevirtual 149, 3) := dk_182 0 149 (dk_at dksX1_number_1 0 rfl rfl)
theorem dX1_number_25 : decode cX1_number 25 = .ok (.ifCond .eq 39, 3) := dk_153 0 39 (dk_at dksX1_number_1 3 rfl rfl)
theorem dX1_number_28 : decode cX1_number 28 = .ok (.bipush 10, 2) := dk_16 10 (dk_at dksX1_number_1 6 rfl rfl)
theorem dX1_number_30 : decode cX1_number 30 = .ok (.iload 4, 2) := dk_21 4 (dk_at dksX1_number_1 8 rfl rfl)
theorem dX1_number_32 : decode cX1_number 32 = .ok (.imul, 1) := dk_104 (dk_at dksX1_number_1 10 rfl rfl)
theorem dX1_number_33 : decode cX1_number 33 = .ok (.aload_n 0, 1) := dk_42 (dk_at dksX1_number_1 11 rfl rfl)
theorem dX1_number_34 : decode cX1_number 34 = .ok (.getfield 35, 3) := dk_180 0 35 (dk_at dksX1_number_1 12 rfl rfl)
theorem dX1_number_37 : decode cX1_number 37 = .ok (.aload_n 0, 1) := dk_42 (dk_at dksX1_number_1 15 rfl rfl)
theorem dX1_number_38 : decode cX1_number 38 = .ok (.getfield 124, 3) := dk_180 0 124 (dk_at dksX1_number_1 16 rfl rfl)
theorem dX1_number_41 : decode cX1_number 41 = .ok (.iaload, 1) := dk_46 (dk_at dksX1_number_1 19 rfl rfl)
theorem dX1_number_42 : decode cX1_number 42 = .ok (.iadd, 1) := dk_96 (dk_at dksX1_number_1 20 rfl rfl)
theorem dX1_number_43 : decode cX1_number 43 = .ok (.bipush 48, 2) := dk_16 48 (dk_at dksX1_number_1 21 rfl rfl)
theorem dX1_number_45 : decode cX1_number 45 = .ok (.isub, 1) := dk_100 (dk_at dksX1_number_1 23 rfl rfl)
theorem dX1_number_46 : decode cX1_number 46 = .ok (.istore 4, 2) := dk_54 4 (dk_at dksX1_number_2 0 rfl rfl)
theorem dX1_number_48 : decode cX1_number 48 = .ok (.aload_n 0, 1) := dk_42 (dk_at dksX1_number_2 2 rfl rfl)
theorem dX1_number_49 : decode cX1_number 49 = .ok (.dup, 1) := dk_89 (dk_at dksX1_number_2 3 rfl rfl)
theorem dX1_number_50 : decode cX1_number 50 = .ok (.getfield 124, 3) := dk_180 0 124 (dk_at dksX1_number_2 4 rfl rfl)
theorem dX1_number_53 : decode cX1_number 53 = .ok (.iconst 1, 1) := dk_4 (dk_at dksX1_number_2 7 rfl rfl)
theorem dX1_number_54 : decode cX1_number 54 = .ok (.iadd, 1) := dk_96 (dk_at dksX1_number_2 8 rfl rfl)
theorem dX1_number_55 : decode cX1_number 55 = .ok (.putfield 124, 3) := dk_181 0 124 (dk_at dksX1_number_2 9 rfl rfl)
theorem dX1_number_58 : decode cX1_number 58 = .ok (.iinc 5 1, 3) := dk_132 5 1 (dk_at dksX1_number_2 12 rfl rfl)
theorem dX1_number_61 : decode cX1_number 61 = .ok (.goto (-46), 3) := dk_167 255 210 (dk_at dksX1_number_2 15 rfl rfl)
theorem dX1_number_64 : decode cX1_number 64 = .ok (.iload 4, 2) := dk_21 4 (dk_at dksX1_number_2 18 rfl rfl)
theorem dX1_number_66 : decode cX1_number 66 = .ok (.i2l, 1) := dk_133 (dk_at dksX1_number_2 20 rfl rfl)
theorem dX1_number_67 : decode cX1_number 67 = .ok (.iload_n 2, 1) := dk_28 (dk_at dksX1_number_2 21 rfl rfl)
theorem dX1_number_68 : decode cX1_number 68 = .ok (.i2l, 1) := dk_133 (dk_at dksX1_number_2 22 rfl rfl)
theorem dX1_number_69 : decode cX1_number 69 = .ok (.iload_n 3, 1) := dk_29 (dk_at dksX1_number_2 23 rfl rfl)
theorem dX1_number_70 : decode cX1_number 70 = .ok (.i2l, 1) := dk_133 (dk_at dksX1_number_3 0 rfl rfl)
theorem dX1_number_71 : decode cX1_number 71 = .ok (.invokestatic 100, 3) := dk_184 0 100 (dk_at dksX1_number_3 1 rfl rfl)
theorem dX1_number_74 : decode cX1_number 74 = .ok (.ifCond .eq 6, 3) := dk_153 0 6 (dk_at dksX1_number_3 4 rfl rfl)
theorem dX1_number_77 : decode cX1_number 77 = .ok (.iload 4, 2) := dk_21 4 (dk_at dksX1_number_3 7 rfl rfl)
theorem dX1_number_79 : decode cX1_number 79 = .ok (.ireturn, 1) := dk_172 (dk_at dksX1_number_3 9 rfl rfl)
theorem dX1_number_80 : decode cX1_number 80 = .ok (.aload_n 0, 1) := dk_42 (dk_at dksX1_number_3 10 rfl rfl)
theorem dX1_number_81 : decode cX1_number 81 = .ok (.dup, 1) := dk_89 (dk_at dksX1_number_3 11 rfl rfl)
theorem dX1_number_82 : decode cX1_number 82 = .ok (.getfield 124, 3) := dk_180 0 124 (dk_at dksX1_number_3 12 rfl rfl)
theorem dX1_number_85 : decode cX1_number 85 = .ok (.iconst 1, 1) := dk_4 (dk_at dksX1_number_3 15 rfl rfl)
theorem dX1_number_86 : decode cX1_number 86 = .ok (.isub, 1) := dk_100 (dk_at dksX1_number_3 16 rfl rfl)
theorem dX1_number_87 : decode cX1_number 87 = .ok (.putfield 124, 3) := dk_181 0 124 (dk_at dksX1_number_3 17 rfl rfl)
theorem dX1_number_90 : decode cX1_number 90 = .ok (.iconst (-1), 1) := dk_2 (dk_at dksX1_number_3 20 rfl rfl)
theorem dX1_number_91 : decode cX1_number 91 = .ok (.ireturn, 1) := dk_172 (dk_at dksX1_number_3 21 rfl rfl)
abbrev cX1_takes : ByteArray := prog_1_method_13_code
def yX1_takes : MethodName := ⟨RX1, "takes", "(C)Z"⟩
def dkwX1_takes_1 : List UInt8 := [28, 172]
abbrev dktX1_takes_1 : List UInt8 := dkwX1_takes_1 ++ []
def dkwX1_takes_0 : List UInt8 := [42, 27, 182, 0, 136, 61, 42, 89, 180, 0, 124, 28, 153, 0, 7, 4, 167, 0, 4, 3, 96, 181, 0, 124]
abbrev dktX1_takes_0 : List UInt8 := dkwX1_takes_0 ++ dktX1_takes_1
theorem dksX1_takes_0 : cX1_takes.data.toList.drop 0 = dktX1_takes_0 := by decide +kernel
theorem dksX1_takes_1 : cX1_takes.data.toList.drop 24 = dktX1_takes_1 := dk_seg dksX1_takes_0 24 rfl rfl
theorem dX1_takes_0 : decode cX1_takes 0 = .ok (.aload_n 0, 1) := dk_42 (dk_at dksX1_takes_0 0 rfl rfl)
theorem dX1_takes_1 : decode cX1_takes 1 = .ok (.iload_n 1, 1) := dk_27 (dk_at dksX1_takes_0 1 rfl rfl)
theorem dX1_takes_2 : decode cX1_takes 2 = .ok (.invokevirtual 136, 3) := dk_182 0 136 (dk_at dksX1_takes_0 2 rfl rfl)
theorem dX1_takes_5 : decode cX1_takes 5 = .ok (.istore_n 2, 1) := dk_61 (dk_at dksX1_takes_0 5 rfl rfl)
theorem dX1_takes_6 : decode cX1_takes 6 = .ok (.aload_n 0, 1) := dk_42 (dk_at dksX1_takes_0 6 rfl rfl)
theorem dX1_takes_7 : decode cX1_takes 7 = .ok (.dup, 1) := dk_89 (dk_at dksX1_takes_0 7 rfl rfl)
theorem dX1_takes_8 : decode cX1_takes 8 = .ok (.getfield 124, 3) := dk_180 0 124 (dk_at dksX1_takes_0 8 rfl rfl)
theorem dX1_takes_11 : decode cX1_takes 11 = .ok (.iload_n 2, 1) := dk_28 (dk_at dksX1_takes_0 11 rfl rfl)
theorem dX1_takes_12 : decode cX1_takes 12 = .ok (.ifCond .eq 7, 3) := dk_153 0 7 (dk_at dksX1_takes_0 12 rfl rfl)
theorem dX1_takes_15 : decode cX1_takes 15 = .ok (.iconst 1, 1) := dk_4 (dk_at dksX1_takes_0 15 rfl rfl)
theorem dX1_takes_16 : decode cX1_takes 16 = .ok (.goto 4, 3) := dk_167 0 4 (dk_at dksX1_takes_0 16 rfl rfl)
theorem dX1_takes_19 : decode cX1_takes 19 = .ok (.iconst 0, 1) := dk_3 (dk_at dksX1_takes_0 19 rfl rfl)
theorem dX1_takes_20 : decode cX1_takes 20 = .ok (.iadd, 1) := dk_96 (dk_at dksX1_takes_0 20 rfl rfl)
theorem dX1_takes_21 : decode cX1_takes 21 = .ok (.putfield 124, 3) := dk_181 0 124 (dk_at dksX1_takes_0 21 rfl rfl)
theorem dX1_takes_24 : decode cX1_takes 24 = .ok (.iload_n 2, 1) := dk_28 (dk_at dksX1_takes_1 0 rfl rfl)
theorem dX1_takes_25 : decode cX1_takes 25 = .ok (.ireturn, 1) := dk_172 (dk_at dksX1_takes_1 1 rfl rfl)
abbrev cX1_isAt : ByteArray := prog_1_method_12_code
def yX1_isAt : MethodName := ⟨RX1, "isAt", "(C)Z"⟩
def dkwX1_isAt_1 : List UInt8 := [4, 167, 0, 4, 3, 172]
abbrev dktX1_isAt_1 : List UInt8 := dkwX1_isAt_1 ++ []
def dkwX1_isAt_0 : List UInt8 := [42, 180, 0, 124, 42, 180, 0, 133, 162, 0, 20, 42, 180, 0, 35, 42, 180, 0, 124, 46, 27, 160, 0, 7]
abbrev dktX1_isAt_0 : List UInt8 := dkwX1_isAt_0 ++ dktX1_isAt_1
theorem dksX1_isAt_0 : cX1_isAt.data.toList.drop 0 = dktX1_isAt_0 := by decide +kernel
theorem dksX1_isAt_1 : cX1_isAt.data.toList.drop 24 = dktX1_isAt_1 := dk_seg dksX1_isAt_0 24 rfl rfl
theorem dX1_isAt_0 : decode cX1_isAt 0 = .ok (.aload_n 0, 1) := dk_42 (dk_at dksX1_isAt_0 0 rfl rfl)
theorem dX1_isAt_1 : decode cX1_isAt 1 = .ok (.getfield 124, 3) := dk_180 0 124 (dk_at dksX1_isAt_0 1 rfl rfl)
theorem dX1_isAt_4 : decode cX1_isAt 4 = .ok (.aload_n 0, 1) := dk_42 (dk_at dksX1_isAt_0 4 rfl rfl)
theorem dX1_isAt_5 : decode cX1_isAt 5 = .ok (.getfield 133, 3) := dk_180 0 133 (dk_at dksX1_isAt_0 5 rfl rfl)
theorem dX1_isAt_8 : decode cX1_isAt 8 = .ok (.if_icmp .ge 20, 3) := dk_162 0 20 (dk_at dksX1_isAt_0 8 rfl rfl)
theorem dX1_isAt_11 : decode cX1_isAt 11 = .ok (.aload_n 0, 1) := dk_42 (dk_at dksX1_isAt_0 11 rfl rfl)
theorem dX1_isAt_12 : decode cX1_isAt 12 = .ok (.getfield 35, 3) := dk_180 0 35 (dk_at dksX1_isAt_0 12 rfl rfl)
theorem dX1_isAt_15 : decode cX1_isAt 15 = .ok (.aload_n 0, 1) := dk_42 (dk_at dksX1_isAt_0 15 rfl rfl)
theorem dX1_isAt_16 : decode cX1_isAt 16 = .ok (.getfield 124, 3) := dk_180 0 124 (dk_at dksX1_isAt_0 16 rfl rfl)
theorem dX1_isAt_19 : decode cX1_isAt 19 = .ok (.iaload, 1) := dk_46 (dk_at dksX1_isAt_0 19 rfl rfl)
theorem dX1_isAt_20 : decode cX1_isAt 20 = .ok (.iload_n 1, 1) := dk_27 (dk_at dksX1_isAt_0 20 rfl rfl)
theorem dX1_isAt_21 : decode cX1_isAt 21 = .ok (.if_icmp .ne 7, 3) := dk_160 0 7 (dk_at dksX1_isAt_0 21 rfl rfl)
theorem dX1_isAt_24 : decode cX1_isAt 24 = .ok (.iconst 1, 1) := dk_4 (dk_at dksX1_isAt_1 0 rfl rfl)
theorem dX1_isAt_25 : decode cX1_isAt 25 = .ok (.goto 4, 3) := dk_167 0 4 (dk_at dksX1_isAt_1 1 rfl rfl)
theorem dX1_isAt_28 : decode cX1_isAt 28 = .ok (.iconst 0, 1) := dk_3 (dk_at dksX1_isAt_1 4 rfl rfl)
theorem dX1_isAt_29 : decode cX1_isAt 29 = .ok (.ireturn, 1) := dk_172 (dk_at dksX1_isAt_1 5 rfl rfl)
abbrev cX1_faultOf : ByteArray := prog_1_method_17_code
def yX1_faultOf : MethodName := ⟨RX1, "faultOf", "(IZ)I"⟩
def dkwX1_faultOf_2 : List UInt8 := [180, 0, 133, 100, 172, 29, 153, 0, 7, 3, 167, 0, 9, 2, 42, 180, 0, 124, 100, 172]
abbrev dktX1_faultOf_2 : List UInt8 := dkwX1_faultOf_2 ++ []
def dkwX1_faultOf_1 : List UInt8 := [180, 0, 133, 164, 0, 25, 29, 154, 0, 14, 42, 180, 0, 124, 42, 180, 0, 133, 160, 0, 10, 2, 42]
abbrev dktX1_faultOf_1 : List UInt8 := dkwX1_faultOf_1 ++ dktX1_faultOf_2
def dkwX1_faultOf_0 : List UInt8 := [28, 153, 0, 18, 42, 180, 0, 124, 42, 180, 0, 133, 160, 0, 7, 4, 167, 0, 4, 3, 62, 27, 42]
abbrev dktX1_faultOf_0 : List UInt8 := dkwX1_faultOf_0 ++ dktX1_faultOf_1
theorem dksX1_faultOf_0 : cX1_faultOf.data.toList.drop 0 = dktX1_faultOf_0 := by decide +kernel
theorem dksX1_faultOf_1 : cX1_faultOf.data.toList.drop 23 = dktX1_faultOf_1 := dk_seg dksX1_faultOf_0 23 rfl rfl
theorem dksX1_faultOf_2 : cX1_faultOf.data.toList.drop 46 = dktX1_faultOf_2 := dk_seg dksX1_faultOf_1 23 rfl rfl
theorem dX1_faultOf_0 : decode cX1_faultOf 0 = .ok (.iload_n 2, 1) := dk_28 (dk_at dksX1_faultOf_0 0 rfl rfl)
theorem dX1_faultOf_1 : decode cX1_faultOf 1 = .ok (.ifCond .eq 18, 3) := dk_153 0 18 (dk_at dksX1_faultOf_0 1 rfl rfl)
theorem dX1_faultOf_4 : decode cX1_faultOf 4 = .ok (.aload_n 0, 1) := dk_42 (dk_at dksX1_faultOf_0 4 rfl rfl)
theorem dX1_faultOf_5 : decode cX1_faultOf 5 = .ok (.getfield 124, 3) := dk_180 0 124 (dk_at dksX1_faultOf_0 5 rfl rfl)
theorem dX1_faultOf_8 : decode cX1_faultOf 8 = .ok (.aload_n 0, 1) := dk_42 (dk_at dksX1_faultOf_0 8 rfl rfl)
theorem dX1_faultOf_9 : decode cX1_faultOf 9 = .ok (.getfield 133, 3) := dk_180 0 133 (dk_at dksX1_faultOf_0 9 rfl rfl)
theorem dX1_faultOf_12 : decode cX1_faultOf 12 = .ok (.if_icmp .ne 7, 3) := dk_160 0 7 (dk_at dksX1_faultOf_0 12 rfl rfl)
theorem dX1_faultOf_15 : decode cX1_faultOf 15 = .ok (.iconst 1, 1) := dk_4 (dk_at dksX1_faultOf_0 15 rfl rfl)
theorem dX1_faultOf_16 : decode cX1_faultOf 16 = .ok (.goto 4, 3) := dk_167 0 4 (dk_at dksX1_faultOf_0 16 rfl rfl)
theorem dX1_faultOf_19 : decode cX1_faultOf 19 = .ok (.iconst 0, 1) := dk_3 (dk_at dksX1_faultOf_0 19 rfl rfl)
theorem dX1_faultOf_20 : decode cX1_faultOf 20 = .ok (.istore_n 3, 1) := dk_62 (dk_at dksX1_faultOf_0 20 rfl rfl)
theorem dX1_faultOf_21 : decode cX1_faultOf 21 = .ok (.iload_n 1, 1) := dk_27 (dk_at dksX1_faultOf_0 21 rfl rfl)
theorem dX1_faultOf_22 : decode cX1_faultOf 22 = .ok (.aload_n 0, 1) := dk_42 (dk_at dksX1_faultOf_0 22 rfl rfl)
theorem dX1_faultOf_23 : decode cX1_faultOf 23 = .ok (.getfield 133, 3) := dk_180 0 133 (dk_at dksX1_faultOf_1 0 rfl rfl)
theorem dX1_faultOf_26 : decode cX1_faultOf 26 = .ok (.if_icmp .le 25, 3) := dk_164 0 25 (dk_at dksX1_faultOf_1 3 rfl rfl)
theorem dX1_faultOf_29 : decode cX1_faultOf 29 = .ok (.iload_n 3, 1) := dk_29 (dk_at dksX1_faultOf_1 6 rfl rfl)
theorem dX1_faultOf_30 : decode cX1_faultOf 30 = .ok (.ifCond .ne 14, 3) := dk_154 0 14 (dk_at dksX1_faultOf_1 7 rfl rfl)
theorem dX1_faultOf_33 : decode cX1_faultOf 33 = .ok (.aload_n 0, 1) := dk_42 (dk_at dksX1_faultOf_1 10 rfl rfl)
theorem dX1_faultOf_34 : decode cX1_faultOf 34 = .ok (.getfield 124, 3) := dk_180 0 124 (dk_at dksX1_faultOf_1 11 rfl rfl)
theorem dX1_faultOf_37 : decode cX1_faultOf 37 = .ok (.aload_n 0, 1) := dk_42 (dk_at dksX1_faultOf_1 14 rfl rfl)
theorem dX1_faultOf_38 : decode cX1_faultOf 38 = .ok (.getfield 133, 3) := dk_180 0 133 (dk_at dksX1_faultOf_1 15 rfl rfl)
theorem dX1_faultOf_41 : decode cX1_faultOf 41 = .ok (.if_icmp .ne 10, 3) := dk_160 0 10 (dk_at dksX1_faultOf_1 18 rfl rfl)
theorem dX1_faultOf_44 : decode cX1_faultOf 44 = .ok (.iconst (-1), 1) := dk_2 (dk_at dksX1_faultOf_1 21 rfl rfl)
theorem dX1_faultOf_45 : decode cX1_faultOf 45 = .ok (.aload_n 0, 1) := dk_42 (dk_at dksX1_faultOf_1 22 rfl rfl)
theorem dX1_faultOf_46 : decode cX1_faultOf 46 = .ok (.getfield 133, 3) := dk_180 0 133 (dk_at dksX1_faultOf_2 0 rfl rfl)
theorem dX1_faultOf_49 : decode cX1_faultOf 49 = .ok (.isub, 1) := dk_100 (dk_at dksX1_faultOf_2 3 rfl rfl)
theorem dX1_faultOf_50 : decode cX1_faultOf 50 = .ok (.ireturn, 1) := dk_172 (dk_at dksX1_faultOf_2 4 rfl rfl)
theorem dX1_faultOf_51 : decode cX1_faultOf 51 = .ok (.iload_n 3, 1) := dk_29 (dk_at dksX1_faultOf_2 5 rfl rfl)
theorem dX1_faultOf_52 : decode cX1_faultOf 52 = .ok (.ifCond .eq 7, 3) := dk_153 0 7 (dk_at dksX1_faultOf_2 6 rfl rfl)
theorem dX1_faultOf_55 : decode cX1_faultOf 55 = .ok (.iconst 0, 1) := dk_3 (dk_at dksX1_faultOf_2 9 rfl rfl)
theorem dX1_faultOf_56 : decode cX1_faultOf 56 = .ok (.goto 9, 3) := dk_167 0 9 (dk_at dksX1_faultOf_2 10 rfl rfl)
theorem dX1_faultOf_59 : decode cX1_faultOf 59 = .ok (.iconst (-1), 1) := dk_2 (dk_at dksX1_faultOf_2 13 rfl rfl)
theorem dX1_faultOf_60 : decode cX1_faultOf 60 = .ok (.aload_n 0, 1) := dk_42 (dk_at dksX1_faultOf_2 14 rfl rfl)
theorem dX1_faultOf_61 : decode cX1_faultOf 61 = .ok (.getfield 124, 3) := dk_180 0 124 (dk_at dksX1_faultOf_2 15 rfl rfl)
theorem dX1_faultOf_64 : decode cX1_faultOf 64 = .ok (.isub, 1) := dk_100 (dk_at dksX1_faultOf_2 18 rfl rfl)
theorem dX1_faultOf_65 : decode cX1_faultOf 65 = .ok (.ireturn, 1) := dk_172 (dk_at dksX1_faultOf_2 19 rfl rfl)
abbrev cX1_weather : ByteArray := prog_1_method_20_code
def yX1_weather : MethodName := ⟨RX1, "weather", "()I"⟩
def dkwX1_weather_4 : List UInt8 := [180, 0, 32, 3, 28, 184, 0, 182, 42, 28, 181, 0, 108, 28, 172]
abbrev dktX1_weather_4 : List UInt8 := dkwX1_weather_4 ++ []
def dkwX1_weather_3 : List UInt8 := [167, 255, 194, 42, 27, 4, 182, 0, 169, 62, 29, 156, 0, 5, 29, 172, 42, 180, 0, 47, 3, 42]
abbrev dktX1_weather_3 : List UInt8 := dkwX1_weather_3 ++ dktX1_weather_4
def dkwX1_weather_2 : List UInt8 := [180, 0, 35, 42, 180, 0, 124, 46, 100, 79, 132, 2, 1, 42, 89, 180, 0, 124, 4, 96, 181, 0, 124]
abbrev dktX1_weather_2 : List UInt8 := dkwX1_weather_2 ++ dktX1_weather_3
def dkwX1_weather_1 : List UInt8 := [182, 0, 149, 153, 0, 18, 42, 180, 0, 35, 42, 180, 0, 124, 46, 16, 48, 100, 167, 0, 15, 16, 96, 42]
abbrev dktX1_weather_1 : List UInt8 := dkwX1_weather_1 ++ dktX1_weather_2
def dkwX1_weather_0 : List UInt8 := [42, 16, 40, 182, 0, 163, 60, 3, 61, 42, 18, 176, 182, 0, 178, 153, 0, 59, 42, 180, 0, 47, 28, 42]
abbrev dktX1_weather_0 : List UInt8 := dkwX1_weather_0 ++ dktX1_weather_1
theorem dksX1_weather_0 : cX1_weather.data.toList.drop 0 = dktX1_weather_0 := by decide +kernel
theorem dksX1_weather_1 : cX1_weather.data.toList.drop 24 = dktX1_weather_1 := dk_seg dksX1_weather_0 24 rfl rfl
theorem dksX1_weather_2 : cX1_weather.data.toList.drop 48 = dktX1_weather_2 := dk_seg dksX1_weather_1 24 rfl rfl
theorem dksX1_weather_3 : cX1_weather.data.toList.drop 71 = dktX1_weather_3 := dk_seg dksX1_weather_2 23 rfl rfl
theorem dksX1_weather_4 : cX1_weather.data.toList.drop 93 = dktX1_weather_4 := dk_seg dksX1_weather_3 22 rfl rfl
theorem dX1_weather_0 : decode cX1_weather 0 = .ok (.aload_n 0, 1) := dk_42 (dk_at dksX1_weather_0 0 rfl rfl)
theorem dX1_weather_1 : decode cX1_weather 1 = .ok (.bipush 40, 2) := dk_16 40 (dk_at dksX1_weather_0 1 rfl rfl)
theorem dX1_weather_3 : decode cX1_weather 3 = .ok (.invokevirtual 163, 3) := dk_182 0 163 (dk_at dksX1_weather_0 3 rfl rfl)
theorem dX1_weather_6 : decode cX1_weather 6 = .ok (.istore_n 1, 1) := dk_60 (dk_at dksX1_weather_0 6 rfl rfl)
theorem dX1_weather_7 : decode cX1_weather 7 = .ok (.iconst 0, 1) := dk_3 (dk_at dksX1_weather_0 7 rfl rfl)
theorem dX1_weather_8 : decode cX1_weather 8 = .ok (.istore_n 2, 1) := dk_61 (dk_at dksX1_weather_0 8 rfl rfl)
theorem dX1_weather_9 : decode cX1_weather 9 = .ok (.aload_n 0, 1) := dk_42 (dk_at dksX1_weather_0 9 rfl rfl)
theorem dX1_weather_10 : decode cX1_weather 10 = .ok (.ldc 176, 2) := dk_18 176 (dk_at dksX1_weather_0 10 rfl rfl)
theorem dX1_weather_12 : decode cX1_weather 12 = .ok (.invokevirtual 178, 3) := dk_182 0 178 (dk_at dksX1_weather_0 12 rfl rfl)
theorem dX1_weather_15 : decode cX1_weather 15 = .ok (.ifCond .eq 59, 3) := dk_153 0 59 (dk_at dksX1_weather_0 15 rfl rfl)
theorem dX1_weather_18 : decode cX1_weather 18 = .ok (.aload_n 0, 1) := dk_42 (dk_at dksX1_weather_0 18 rfl rfl)
theorem dX1_weather_19 : decode cX1_weather 19 = .ok (.getfield 47, 3) := dk_180 0 47 (dk_at dksX1_weather_0 19 rfl rfl)
theorem dX1_weather_22 : decode cX1_weather 22 = .ok (.iload_n 2, 1) := dk_28 (dk_at dksX1_weather_0 22 rfl rfl)
theorem dX1_weather_23 : decode cX1_weather 23 = .ok (.aload_n 0, 1) := dk_42 (dk_at dksX1_weather_0 23 rfl rfl)
theorem dX1_weather_24 : decode cX1_weather 24 = .ok (.invokevirtual 149, 3) := dk_182 0 149 (dk_at dksX1_weather_1 0 rfl rfl)
theorem dX1_weather_27 : decode cX1_weather 27 = .ok (.ifCond .eq 18, 3) := dk_153 0 18 (dk_at dksX1_weather_1 3 rfl rfl)
theorem dX1_weather_30 : decode cX1_weather 30 = .ok (.aload_n 0, 1) := dk_42 (dk_at dksX1_weather_1 6 rfl rfl)
theorem dX1_weather_31 : decode cX1_weather 31 = .ok (.getfield 35, 3) := dk_180 0 35 (dk_at dksX1_weather_1 7 rfl rfl)
theorem dX1_weather_34 : decode cX1_weather 34 = .ok (.aload_n 0, 1) := dk_42 (dk_at dksX1_weather_1 10 rfl rfl)
theorem dX1_weather_35 : decode cX1_weather 35 = .ok (.getfield 124, 3) := dk_180 0 124 (dk_at dksX1_weather_1 11 rfl rfl)
theorem dX1_weather_38 : decode cX1_weather 38 = .ok (.iaload, 1) := dk_46 (dk_at dksX1_weather_1 14 rfl rfl)
theorem dX1_weather_39 : decode cX1_weather 39 = .ok (.bipush 48, 2) := dk_16 48 (dk_at dksX1_weather_1 15 rfl rfl)
theorem dX1_weather_41 : decode cX1_weather 41 = .ok (.isub, 1) := dk_100 (dk_at dksX1_weather_1 17 rfl rfl)
theorem dX1_weather_42 : decode cX1_weather 42 = .ok (.goto 15, 3) := dk_167 0 15 (dk_at dksX1_weather_1 18 rfl rfl)
theorem dX1_weather_45 : decode cX1_weather 45 = .ok (.bipush 96, 2) := dk_16 96 (dk_at dksX1_weather_1 21 rfl rfl)
theorem dX1_weather_47 : decode cX1_weather 47 = .ok (.aload_n 0, 1) := dk_42 (dk_at dksX1_weather_1 23 rfl rfl)
theorem dX1_weather_48 : decode cX1_weather 48 = .ok (.getfield 35, 3) := dk_180 0 35 (dk_at dksX1_weather_2 0 rfl rfl)
theorem dX1_weather_51 : decode cX1_weather 51 = .ok (.aload_n 0, 1) := dk_42 (dk_at dksX1_weather_2 3 rfl rfl)
theorem dX1_weather_52 : decode cX1_weather 52 = .ok (.getfield 124, 3) := dk_180 0 124 (dk_at dksX1_weather_2 4 rfl rfl)
theorem dX1_weather_55 : decode cX1_weather 55 = .ok (.iaload, 1) := dk_46 (dk_at dksX1_weather_2 7 rfl rfl)
theorem dX1_weather_56 : decode cX1_weather 56 = .ok (.isub, 1) := dk_100 (dk_at dksX1_weather_2 8 rfl rfl)
theorem dX1_weather_57 : decode cX1_weather 57 = .ok (.iastore, 1) := dk_79 (dk_at dksX1_weather_2 9 rfl rfl)
theorem dX1_weather_58 : decode cX1_weather 58 = .ok (.iinc 2 1, 3) := dk_132 2 1 (dk_at dksX1_weather_2 10 rfl rfl)
theorem dX1_weather_61 : decode cX1_weather 61 = .ok (.aload_n 0, 1) := dk_42 (dk_at dksX1_weather_2 13 rfl rfl)
theorem dX1_weather_62 : decode cX1_weather 62 = .ok (.dup, 1) := dk_89 (dk_at dksX1_weather_2 14 rfl rfl)
theorem dX1_weather_63 : decode cX1_weather 63 = .ok (.getfield 124, 3) := dk_180 0 124 (dk_at dksX1_weather_2 15 rfl rfl)
theorem dX1_weather_66 : decode cX1_weather 66 = .ok (.iconst 1, 1) := dk_4 (dk_at dksX1_weather_2 18 rfl rfl)
theorem dX1_weather_67 : decode cX1_weather 67 = .ok (.iadd, 1) := dk_96 (dk_at dksX1_weather_2 19 rfl rfl)
theorem dX1_weather_68 : decode cX1_weather 68 = .ok (.putfield 124, 3) := dk_181 0 124 (dk_at dksX1_weather_2 20 rfl rfl)
theorem dX1_weather_71 : decode cX1_weather 71 = .ok (.goto (-62), 3) := dk_167 255 194 (dk_at dksX1_weather_3 0 rfl rfl)
theorem dX1_weather_74 : decode cX1_weather 74 = .ok (.aload_n 0, 1) := dk_42 (dk_at dksX1_weather_3 3 rfl rfl)
theorem dX1_weather_75 : decode cX1_weather 75 = .ok (.iload_n 1, 1) := dk_27 (dk_at dksX1_weather_3 4 rfl rfl)
theorem dX1_weather_76 : decode cX1_weather 76 = .ok (.iconst 1, 1) := dk_4 (dk_at dksX1_weather_3 5 rfl rfl)
theorem dX1_weather_77 : decode cX1_weather 77 = .ok (.invokevirtual 169, 3) := dk_182 0 169 (dk_at dksX1_weather_3 6 rfl rfl)
theorem dX1_weather_80 : decode cX1_weather 80 = .ok (.istore_n 3, 1) := dk_62 (dk_at dksX1_weather_3 9 rfl rfl)
theorem dX1_weather_81 : decode cX1_weather 81 = .ok (.iload_n 3, 1) := dk_29 (dk_at dksX1_weather_3 10 rfl rfl)
theorem dX1_weather_82 : decode cX1_weather 82 = .ok (.ifCond .ge 5, 3) := dk_156 0 5 (dk_at dksX1_weather_3 11 rfl rfl)
theorem dX1_weather_85 : decode cX1_weather 85 = .ok (.iload_n 3, 1) := dk_29 (dk_at dksX1_weather_3 14 rfl rfl)
theorem dX1_weather_86 : decode cX1_weather 86 = .ok (.ireturn, 1) := dk_172 (dk_at dksX1_weather_3 15 rfl rfl)
theorem dX1_weather_87 : decode cX1_weather 87 = .ok (.aload_n 0, 1) := dk_42 (dk_at dksX1_weather_3 16 rfl rfl)
theorem dX1_weather_88 : decode cX1_weather 88 = .ok (.getfield 47, 3) := dk_180 0 47 (dk_at dksX1_weather_3 17 rfl rfl)
theorem dX1_weather_91 : decode cX1_weather 91 = .ok (.iconst 0, 1) := dk_3 (dk_at dksX1_weather_3 20 rfl rfl)
theorem dX1_weather_92 : decode cX1_weather 92 = .ok (.aload_n 0, 1) := dk_42 (dk_at dksX1_weather_3 21 rfl rfl)
theorem dX1_weather_93 : decode cX1_weather 93 = .ok (.getfield 32, 3) := dk_180 0 32 (dk_at dksX1_weather_4 0 rfl rfl)
theorem dX1_weather_96 : decode cX1_weather 96 = .ok (.iconst 0, 1) := dk_3 (dk_at dksX1_weather_4 3 rfl rfl)
theorem dX1_weather_97 : decode cX1_weather 97 = .ok (.iload_n 2, 1) := dk_28 (dk_at dksX1_weather_4 4 rfl rfl)
theorem dX1_weather_98 : decode cX1_weather 98 = .ok (.invokestatic 182, 3) := dk_184 0 182 (dk_at dksX1_weather_4 5 rfl rfl)
theorem dX1_weather_101 : decode cX1_weather 101 = .ok (.aload_n 0, 1) := dk_42 (dk_at dksX1_weather_4 8 rfl rfl)
theorem dX1_weather_102 : decode cX1_weather 102 = .ok (.iload_n 2, 1) := dk_28 (dk_at dksX1_weather_4 9 rfl rfl)
theorem dX1_weather_103 : decode cX1_weather 103 = .ok (.putfield 108, 3) := dk_181 0 108 (dk_at dksX1_weather_4 10 rfl rfl)
theorem dX1_weather_106 : decode cX1_weather 106 = .ok (.iload_n 2, 1) := dk_28 (dk_at dksX1_weather_4 13 rfl rfl)
theorem dX1_weather_107 : decode cX1_weather 107 = .ok (.ireturn, 1) := dk_172 (dk_at dksX1_weather_4 14 rfl rfl)
abbrev cX1_isOf : ByteArray := prog_1_method_14_code
def yX1_isOf : MethodName := ⟨RX1, "isOf", "(Ljava/lang/String;)Z"⟩
def dkwX1_isOf_1 : List UInt8 := [42, 180, 0, 35, 42, 180, 0, 124, 46, 182, 0, 140, 155, 0, 7, 4, 167, 0, 4, 3, 172]
abbrev dktX1_isOf_1 : List UInt8 := dkwX1_isOf_1 ++ []
def dkwX1_isOf_0 : List UInt8 := [42, 180, 0, 124, 42, 180, 0, 133, 162, 0, 35, 42, 180, 0, 35, 42, 180, 0, 124, 46, 158, 0, 23, 43]
abbrev dktX1_isOf_0 : List UInt8 := dkwX1_isOf_0 ++ dktX1_isOf_1
theorem dksX1_isOf_0 : cX1_isOf.data.toList.drop 0 = dktX1_isOf_0 := by decide +kernel
theorem dksX1_isOf_1 : cX1_isOf.data.toList.drop 24 = dktX1_isOf_1 := dk_seg dksX1_isOf_0 24 rfl rfl
theorem dX1_isOf_0 : decode cX1_isOf 0 = .ok (.aload_n 0, 1) := dk_42 (dk_at dksX1_isOf_0 0 rfl rfl)
theorem dX1_isOf_1 : decode cX1_isOf 1 = .ok (.getfield 124, 3) := dk_180 0 124 (dk_at dksX1_isOf_0 1 rfl rfl)
theorem dX1_isOf_4 : decode cX1_isOf 4 = .ok (.aload_n 0, 1) := dk_42 (dk_at dksX1_isOf_0 4 rfl rfl)
theorem dX1_isOf_5 : decode cX1_isOf 5 = .ok (.getfield 133, 3) := dk_180 0 133 (dk_at dksX1_isOf_0 5 rfl rfl)
theorem dX1_isOf_8 : decode cX1_isOf 8 = .ok (.if_icmp .ge 35, 3) := dk_162 0 35 (dk_at dksX1_isOf_0 8 rfl rfl)
theorem dX1_isOf_11 : decode cX1_isOf 11 = .ok (.aload_n 0, 1) := dk_42 (dk_at dksX1_isOf_0 11 rfl rfl)
theorem dX1_isOf_12 : decode cX1_isOf 12 = .ok (.getfield 35, 3) := dk_180 0 35 (dk_at dksX1_isOf_0 12 rfl rfl)
theorem dX1_isOf_15 : decode cX1_isOf 15 = .ok (.aload_n 0, 1) := dk_42 (dk_at dksX1_isOf_0 15 rfl rfl)
theorem dX1_isOf_16 : decode cX1_isOf 16 = .ok (.getfield 124, 3) := dk_180 0 124 (dk_at dksX1_isOf_0 16 rfl rfl)
theorem dX1_isOf_19 : decode cX1_isOf 19 = .ok (.iaload, 1) := dk_46 (dk_at dksX1_isOf_0 19 rfl rfl)
theorem dX1_isOf_20 : decode cX1_isOf 20 = .ok (.ifCond .le 23, 3) := dk_158 0 23 (dk_at dksX1_isOf_0 20 rfl rfl)
theorem dX1_isOf_23 : decode cX1_isOf 23 = .ok (.aload_n 1, 1) := dk_43 (dk_at dksX1_isOf_0 23 rfl rfl)
theorem dX1_isOf_24 : decode cX1_isOf 24 = .ok (.aload_n 0, 1) := dk_42 (dk_at dksX1_isOf_1 0 rfl rfl)
theorem dX1_isOf_25 : decode cX1_isOf 25 = .ok (.getfield 35, 3) := dk_180 0 35 (dk_at dksX1_isOf_1 1 rfl rfl)
theorem dX1_isOf_28 : decode cX1_isOf 28 = .ok (.aload_n 0, 1) := dk_42 (dk_at dksX1_isOf_1 4 rfl rfl)
theorem dX1_isOf_29 : decode cX1_isOf 29 = .ok (.getfield 124, 3) := dk_180 0 124 (dk_at dksX1_isOf_1 5 rfl rfl)
theorem dX1_isOf_32 : decode cX1_isOf 32 = .ok (.iaload, 1) := dk_46 (dk_at dksX1_isOf_1 8 rfl rfl)
theorem dX1_isOf_33 : decode cX1_isOf 33 = .ok (.invokevirtual 140, 3) := dk_182 0 140 (dk_at dksX1_isOf_1 9 rfl rfl)
theorem dX1_isOf_36 : decode cX1_isOf 36 = .ok (.ifCond .lt 7, 3) := dk_155 0 7 (dk_at dksX1_isOf_1 12 rfl rfl)
theorem dX1_isOf_39 : decode cX1_isOf 39 = .ok (.iconst 1, 1) := dk_4 (dk_at dksX1_isOf_1 15 rfl rfl)
theorem dX1_isOf_40 : decode cX1_isOf 40 = .ok (.goto 4, 3) := dk_167 0 4 (dk_at dksX1_isOf_1 16 rfl rfl)
theorem dX1_isOf_43 : decode cX1_isOf 43 = .ok (.iconst 0, 1) := dk_3 (dk_at dksX1_isOf_1 19 rfl rfl)
theorem dX1_isOf_44 : decode cX1_isOf 44 = .ok (.ireturn, 1) := dk_172 (dk_at dksX1_isOf_1 20 rfl rfl)
abbrev cX1_winter : ByteArray := prog_1_method_21_code
def yX1_winter : MethodName := ⟨RX1, "winter", "(II)I"⟩
def dkwX1_winter_4 : List UInt8 := [167, 255, 185, 42, 28, 181, 0, 108, 21, 4, 172]
abbrev dktX1_winter_4 : List UInt8 := dkwX1_winter_4 ++ []
def dkwX1_winter_3 : List UInt8 := [21, 4, 42, 180, 0, 32, 21, 5, 46, 158, 0, 7, 4, 167, 0, 4, 3, 96, 54, 4, 132, 5, 1]
abbrev dktX1_winter_3 : List UInt8 := dkwX1_winter_3 ++ dktX1_winter_4
def dkwX1_winter_2 : List UInt8 := [180, 0, 32, 21, 5, 21, 6, 16, 10, 162, 0, 8, 21, 6, 167, 0, 8, 16, 9, 21, 6, 100, 79]
abbrev dktX1_winter_2 : List UInt8 := dkwX1_winter_2 ++ dktX1_winter_3
def dkwX1_winter_1 : List UInt8 := [28, 162, 0, 71, 29, 18, 190, 104, 17, 48, 57, 96, 62, 29, 16, 16, 124, 16, 16, 112, 54, 6, 42]
abbrev dktX1_winter_1 : List UInt8 := dkwX1_winter_1 ++ dktX1_winter_2
def dkwX1_winter_0 : List UInt8 := [28, 133, 10, 20, 0, 188, 184, 0, 100, 154, 0, 5, 2, 172, 27, 62, 3, 54, 4, 3, 54, 5, 21, 5]
abbrev dktX1_winter_0 : List UInt8 := dkwX1_winter_0 ++ dktX1_winter_1
theorem dksX1_winter_0 : cX1_winter.data.toList.drop 0 = dktX1_winter_0 := by decide +kernel
theorem dksX1_winter_1 : cX1_winter.data.toList.drop 24 = dktX1_winter_1 := dk_seg dksX1_winter_0 24 rfl rfl
theorem dksX1_winter_2 : cX1_winter.data.toList.drop 47 = dktX1_winter_2 := dk_seg dksX1_winter_1 23 rfl rfl
theorem dksX1_winter_3 : cX1_winter.data.toList.drop 70 = dktX1_winter_3 := dk_seg dksX1_winter_2 23 rfl rfl
theorem dksX1_winter_4 : cX1_winter.data.toList.drop 93 = dktX1_winter_4 := dk_seg dksX1_winter_3 23 rfl rfl
theorem dX1_winter_0 : decode cX1_winter 0 = .ok (.iload_n 2, 1) := dk_28 (dk_at dksX1_winter_0 0 rfl rfl)
theorem dX1_winter_1 : decode cX1_winter 1 = .ok (.i2l, 1) := dk_133 (dk_at dksX1_winter_0 1 rfl rfl)
theorem dX1_winter_2 : decode cX1_winter 2 = .ok (.lconst 1, 1) := dk_10 (dk_at dksX1_winter_0 2 rfl rfl)
theorem dX1_winter_3 : decode cX1_winter 3 = .ok (.ldc2_w 188, 3) := dk_20 0 188 (dk_at dksX1_winter_0 3 rfl rfl)
theorem dX1_winter_6 : decode cX1_winter 6 = .ok (.invokestatic 100, 3) := dk_184 0 100 (dk_at dksX1_winter_0 6 rfl rfl)
theorem dX1_winter_9 : decode cX1_winter 9 = .ok (.ifCond .ne 5, 3) := dk_154 0 5 (dk_at dksX1_winter_0 9 rfl rfl)
theorem dX1_winter_12 : decode cX1_winter 12 = .ok (.iconst (-1), 1) := dk_2 (dk_at dksX1_winter_0 12 rfl rfl)
theorem dX1_winter_13 : decode cX1_winter 13 = .ok (.ireturn, 1) := dk_172 (dk_at dksX1_winter_0 13 rfl rfl)
theorem dX1_winter_14 : decode cX1_winter 14 = .ok (.iload_n 1, 1) := dk_27 (dk_at dksX1_winter_0 14 rfl rfl)
theorem dX1_winter_15 : decode cX1_winter 15 = .ok (.istore_n 3, 1) := dk_62 (dk_at dksX1_winter_0 15 rfl rfl)
theorem dX1_winter_16 : decode cX1_winter 16 = .ok (.iconst 0, 1) := dk_3 (dk_at dksX1_winter_0 16 rfl rfl)
theorem dX1_winter_17 : decode cX1_winter 17 = .ok (.istore 4, 2) := dk_54 4 (dk_at dksX1_winter_0 17 rfl rfl)
theorem dX1_winter_19 : decode cX1_winter 19 = .ok (.iconst 0, 1) := dk_3 (dk_at dksX1_winter_0 19 rfl rfl)
theorem dX1_winter_20 : decode cX1_winter 20 = .ok (.istore 5, 2) := dk_54 5 (dk_at dksX1_winter_0 20 rfl rfl)
theorem dX1_winter_22 : decode cX1_winter 22 = .ok (.iload 5, 2) := dk_21 5 (dk_at dksX1_winter_0 22 rfl rfl)
theorem dX1_winter_24 : decode cX1_winter 24 = .ok (.iload_n 2, 1) := dk_28 (dk_at dksX1_winter_1 0 rfl rfl)
theorem dX1_winter_25 : decode cX1_winter 25 = .ok (.if_icmp .ge 71, 3) := dk_162 0 71 (dk_at dksX1_winter_1 1 rfl rfl)
theorem dX1_winter_28 : decode cX1_winter 28 = .ok (.iload_n 3, 1) := dk_29 (dk_at dksX1_winter_1 4 rfl rfl)
theorem dX1_winter_29 : decode cX1_winter 29 = .ok (.ldc 190, 2) := dk_18 190 (dk_at dksX1_winter_1 5 rfl rfl)
theorem dX1_winter_31 : decode cX1_winter 31 = .ok (.imul, 1) := dk_104 (dk_at dksX1_winter_1 7 rfl rfl)
theorem dX1_winter_32 : decode cX1_winter 32 = .ok (.sipush 12345, 3) := dk_17 48 57 (dk_at dksX1_winter_1 8 rfl rfl)
theorem dX1_winter_35 : decode cX1_winter 35 = .ok (.iadd, 1) := dk_96 (dk_at dksX1_winter_1 11 rfl rfl)
theorem dX1_winter_36 : decode cX1_winter 36 = .ok (.istore_n 3, 1) := dk_62 (dk_at dksX1_winter_1 12 rfl rfl)
theorem dX1_winter_37 : decode cX1_winter 37 = .ok (.iload_n 3, 1) := dk_29 (dk_at dksX1_winter_1 13 rfl rfl)
theorem dX1_winter_38 : decode cX1_winter 38 = .ok (.bipush 16, 2) := dk_16 16 (dk_at dksX1_winter_1 14 rfl rfl)
theorem dX1_winter_40 : decode cX1_winter 40 = .ok (.iushr, 1) := dk_124 (dk_at dksX1_winter_1 16 rfl rfl)
theorem dX1_winter_41 : decode cX1_winter 41 = .ok (.bipush 16, 2) := dk_16 16 (dk_at dksX1_winter_1 17 rfl rfl)
theorem dX1_winter_43 : decode cX1_winter 43 = .ok (.irem, 1) := dk_112 (dk_at dksX1_winter_1 19 rfl rfl)
theorem dX1_winter_44 : decode cX1_winter 44 = .ok (.istore 6, 2) := dk_54 6 (dk_at dksX1_winter_1 20 rfl rfl)
theorem dX1_winter_46 : decode cX1_winter 46 = .ok (.aload_n 0, 1) := dk_42 (dk_at dksX1_winter_1 22 rfl rfl)
theorem dX1_winter_47 : decode cX1_winter 47 = .ok (.getfield 32, 3) := dk_180 0 32 (dk_at dksX1_winter_2 0 rfl rfl)
theorem dX1_winter_50 : decode cX1_winter 50 = .ok (.iload 5, 2) := dk_21 5 (dk_at dksX1_winter_2 3 rfl rfl)
theorem dX1_winter_52 : decode cX1_winter 52 = .ok (.iload 6, 2) := dk_21 6 (dk_at dksX1_winter_2 5 rfl rfl)
theorem dX1_winter_54 : decode cX1_winter 54 = .ok (.bipush 10, 2) := dk_16 10 (dk_at dksX1_winter_2 7 rfl rfl)
theorem dX1_winter_56 : decode cX1_winter 56 = .ok (.if_icmp .ge 8, 3) := dk_162 0 8 (dk_at dksX1_winter_2 9 rfl rfl)
theorem dX1_winter_59 : decode cX1_winter 59 = .ok (.iload 6, 2) := dk_21 6 (dk_at dksX1_winter_2 12 rfl rfl)
theorem dX1_winter_61 : decode cX1_winter 61 = .ok (.goto 8, 3) := dk_167 0 8 (dk_at dksX1_winter_2 14 rfl rfl)
theorem dX1_winter_64 : decode cX1_winter 64 = .ok (.bipush 9, 2) := dk_16 9 (dk_at dksX1_winter_2 17 rfl rfl)
theorem dX1_winter_66 : decode cX1_winter 66 = .ok (.iload 6, 2) := dk_21 6 (dk_at dksX1_winter_2 19 rfl rfl)
theorem dX1_winter_68 : decode cX1_winter 68 = .ok (.isub, 1) := dk_100 (dk_at dksX1_winter_2 21 rfl rfl)
theorem dX1_winter_69 : decode cX1_winter 69 = .ok (.iastore, 1) := dk_79 (dk_at dksX1_winter_2 22 rfl rfl)
theorem dX1_winter_70 : decode cX1_winter 70 = .ok (.iload 4, 2) := dk_21 4 (dk_at dksX1_winter_3 0 rfl rfl)
theorem dX1_winter_72 : decode cX1_winter 72 = .ok (.aload_n 0, 1) := dk_42 (dk_at dksX1_winter_3 2 rfl rfl)
theorem dX1_winter_73 : decode cX1_winter 73 = .ok (.getfield 32, 3) := dk_180 0 32 (dk_at dksX1_winter_3 3 rfl rfl)
theorem dX1_winter_76 : decode cX1_winter 76 = .ok (.iload 5, 2) := dk_21 5 (dk_at dksX1_winter_3 6 rfl rfl)
theorem dX1_winter_78 : decode cX1_winter 78 = .ok (.iaload, 1) := dk_46 (dk_at dksX1_winter_3 8 rfl rfl)
theorem dX1_winter_79 : decode cX1_winter 79 = .ok (.ifCond .le 7, 3) := dk_158 0 7 (dk_at dksX1_winter_3 9 rfl rfl)
theorem dX1_winter_82 : decode cX1_winter 82 = .ok (.iconst 1, 1) := dk_4 (dk_at dksX1_winter_3 12 rfl rfl)
theorem dX1_winter_83 : decode cX1_winter 83 = .ok (.goto 4, 3) := dk_167 0 4 (dk_at dksX1_winter_3 13 rfl rfl)
theorem dX1_winter_86 : decode cX1_winter 86 = .ok (.iconst 0, 1) := dk_3 (dk_at dksX1_winter_3 16 rfl rfl)
theorem dX1_winter_87 : decode cX1_winter 87 = .ok (.iadd, 1) := dk_96 (dk_at dksX1_winter_3 17 rfl rfl)
theorem dX1_winter_88 : decode cX1_winter 88 = .ok (.istore 4, 2) := dk_54 4 (dk_at dksX1_winter_3 18 rfl rfl)
theorem dX1_winter_90 : decode cX1_winter 90 = .ok (.iinc 5 1, 3) := dk_132 5 1 (dk_at dksX1_winter_3 20 rfl rfl)
theorem dX1_winter_93 : decode cX1_winter 93 = .ok (.goto (-71), 3) := dk_167 255 185 (dk_at dksX1_winter_4 0 rfl rfl)
theorem dX1_winter_96 : decode cX1_winter 96 = .ok (.aload_n 0, 1) := dk_42 (dk_at dksX1_winter_4 3 rfl rfl)
theorem dX1_winter_97 : decode cX1_winter 97 = .ok (.iload_n 2, 1) := dk_28 (dk_at dksX1_winter_4 4 rfl rfl)
theorem dX1_winter_98 : decode cX1_winter 98 = .ok (.putfield 108, 3) := dk_181 0 108 (dk_at dksX1_winter_4 5 rfl rfl)
theorem dX1_winter_101 : decode cX1_winter 101 = .ok (.iload 4, 2) := dk_21 4 (dk_at dksX1_winter_4 8 rfl rfl)
theorem dX1_winter_103 : decode cX1_winter 103 = .ok (.ireturn, 1) := dk_172 (dk_at dksX1_winter_4 10 rfl rfl)
abbrev cX1_falls : ByteArray := prog_1_method_22_code
def yX1_falls : MethodName := ⟨RX1, "falls", "(I)I"⟩
def dkwX1_falls_0 : List UInt8 := [27, 133, 9, 20, 0, 191, 184, 0, 100, 153, 0, 11, 42, 27, 182, 0, 111, 167, 0, 5, 16, 246, 172]
abbrev dktX1_falls_0 : List UInt8 := dkwX1_falls_0 ++ []
theorem dksX1_falls_0 : cX1_falls.data.toList.drop 0 = dktX1_falls_0 := by decide +kernel
theorem dX1_falls_0 : decode cX1_falls 0 = .ok (.iload_n 1, 1) := dk_27 (dk_at dksX1_falls_0 0 rfl rfl)
theorem dX1_falls_1 : decode cX1_falls 1 = .ok (.i2l, 1) := dk_133 (dk_at dksX1_falls_0 1 rfl rfl)
theorem dX1_falls_2 : decode cX1_falls 2 = .ok (.lconst 0, 1) := dk_9 (dk_at dksX1_falls_0 2 rfl rfl)
theorem dX1_falls_3 : decode cX1_falls 3 = .ok (.ldc2_w 191, 3) := dk_20 0 191 (dk_at dksX1_falls_0 3 rfl rfl)
theorem dX1_falls_6 : decode cX1_falls 6 = .ok (.invokestatic 100, 3) := dk_184 0 100 (dk_at dksX1_falls_0 6 rfl rfl)
theorem dX1_falls_9 : decode cX1_falls 9 = .ok (.ifCond .eq 11, 3) := dk_153 0 11 (dk_at dksX1_falls_0 9 rfl rfl)
theorem dX1_falls_12 : decode cX1_falls 12 = .ok (.aload_n 0, 1) := dk_42 (dk_at dksX1_falls_0 12 rfl rfl)
theorem dX1_falls_13 : decode cX1_falls 13 = .ok (.iload_n 1, 1) := dk_27 (dk_at dksX1_falls_0 13 rfl rfl)
theorem dX1_falls_14 : decode cX1_falls 14 = .ok (.invokevirtual 111, 3) := dk_182 0 111 (dk_at dksX1_falls_0 14 rfl rfl)
theorem dX1_falls_17 : decode cX1_falls 17 = .ok (.goto 5, 3) := dk_167 0 5 (dk_at dksX1_falls_0 17 rfl rfl)
theorem dX1_falls_20 : decode cX1_falls 20 = .ok (.bipush (-10), 2) := dk_16 246 (dk_at dksX1_falls_0 20 rfl rfl)
theorem dX1_falls_22 : decode cX1_falls 22 = .ok (.ireturn, 1) := dk_172 (dk_at dksX1_falls_0 22 rfl rfl)
abbrev cX1_fallsIn : ByteArray := prog_1_method_7_code
def yX1_fallsIn : MethodName := ⟨RX1, "fallsIn", "(I)I"⟩
def dkwX1_fallsIn_0 : List UInt8 := [42, 180, 0, 108, 154, 0, 7, 3, 167, 0, 14, 42, 180, 0, 32, 27, 42, 180, 0, 108, 112, 46, 172]
abbrev dktX1_fallsIn_0 : List UInt8 := dkwX1_fallsIn_0 ++ []
theorem dksX1_fallsIn_0 : cX1_fallsIn.data.toList.drop 0 = dktX1_fallsIn_0 := by decide +kernel
theorem dX1_fallsIn_0 : decode cX1_fallsIn 0 = .ok (.aload_n 0, 1) := dk_42 (dk_at dksX1_fallsIn_0 0 rfl rfl)
theorem dX1_fallsIn_1 : decode cX1_fallsIn 1 = .ok (.getfield 108, 3) := dk_180 0 108 (dk_at dksX1_fallsIn_0 1 rfl rfl)
theorem dX1_fallsIn_4 : decode cX1_fallsIn 4 = .ok (.ifCond .ne 7, 3) := dk_154 0 7 (dk_at dksX1_fallsIn_0 4 rfl rfl)
theorem dX1_fallsIn_7 : decode cX1_fallsIn 7 = .ok (.iconst 0, 1) := dk_3 (dk_at dksX1_fallsIn_0 7 rfl rfl)
theorem dX1_fallsIn_8 : decode cX1_fallsIn 8 = .ok (.goto 14, 3) := dk_167 0 14 (dk_at dksX1_fallsIn_0 8 rfl rfl)
theorem dX1_fallsIn_11 : decode cX1_fallsIn 11 = .ok (.aload_n 0, 1) := dk_42 (dk_at dksX1_fallsIn_0 11 rfl rfl)
theorem dX1_fallsIn_12 : decode cX1_fallsIn 12 = .ok (.getfield 32, 3) := dk_180 0 32 (dk_at dksX1_fallsIn_0 12 rfl rfl)
theorem dX1_fallsIn_15 : decode cX1_fallsIn 15 = .ok (.iload_n 1, 1) := dk_27 (dk_at dksX1_fallsIn_0 15 rfl rfl)
theorem dX1_fallsIn_16 : decode cX1_fallsIn 16 = .ok (.aload_n 0, 1) := dk_42 (dk_at dksX1_fallsIn_0 16 rfl rfl)
theorem dX1_fallsIn_17 : decode cX1_fallsIn 17 = .ok (.getfield 108, 3) := dk_180 0 108 (dk_at dksX1_fallsIn_0 17 rfl rfl)
theorem dX1_fallsIn_20 : decode cX1_fallsIn 20 = .ok (.irem, 1) := dk_112 (dk_at dksX1_fallsIn_0 20 rfl rfl)
theorem dX1_fallsIn_21 : decode cX1_fallsIn 21 = .ok (.iaload, 1) := dk_46 (dk_at dksX1_fallsIn_0 21 rfl rfl)
theorem dX1_fallsIn_22 : decode cX1_fallsIn 22 = .ok (.ireturn, 1) := dk_172 (dk_at dksX1_fallsIn_0 22 rfl rfl)
abbrev cX1_rule : ByteArray := prog_1_method_26_code
def yX1_rule : MethodName := ⟨RX1, "rule", "()I"⟩
def dkwX1_rule_2 : List UInt8 := [154, 0, 8, 42, 44, 181, 0, 231, 29, 172]
abbrev dktX1_rule_2 : List UInt8 := dkwX1_rule_2 ++ []
def dkwX1_rule_1 : List UInt8 := [154, 0, 7, 3, 167, 0, 17, 42, 27, 44, 198, 0, 7, 4, 167, 0, 4, 3, 182, 0, 169, 62, 29]
abbrev dktX1_rule_1 : List UInt8 := dkwX1_rule_1 ++ dktX1_rule_2
def dkwX1_rule_0 : List UInt8 := [42, 16, 40, 182, 0, 163, 60, 27, 154, 0, 7, 1, 167, 0, 8, 42, 3, 182, 0, 212, 77, 27]
abbrev dktX1_rule_0 : List UInt8 := dkwX1_rule_0 ++ dktX1_rule_1
theorem dksX1_rule_0 : cX1_rule.data.toList.drop 0 = dktX1_rule_0 := by decide +kernel
theorem dksX1_rule_1 : cX1_rule.data.toList.drop 22 = dktX1_rule_1 := dk_seg dksX1_rule_0 22 rfl rfl
theorem dksX1_rule_2 : cX1_rule.data.toList.drop 45 = dktX1_rule_2 := dk_seg dksX1_rule_1 23 rfl rfl
theorem dX1_rule_0 : decode cX1_rule 0 = .ok (.aload_n 0, 1) := dk_42 (dk_at dksX1_rule_0 0 rfl rfl)
theorem dX1_rule_1 : decode cX1_rule 1 = .ok (.bipush 40, 2) := dk_16 40 (dk_at dksX1_rule_0 1 rfl rfl)
theorem dX1_rule_3 : decode cX1_rule 3 = .ok (.invokevirtual 163, 3) := dk_182 0 163 (dk_at dksX1_rule_0 3 rfl rfl)
theorem dX1_rule_6 : decode cX1_rule 6 = .ok (.istore_n 1, 1) := dk_60 (dk_at dksX1_rule_0 6 rfl rfl)
theorem dX1_rule_7 : decode cX1_rule 7 = .ok (.iload_n 1, 1) := dk_27 (dk_at dksX1_rule_0 7 rfl rfl)
theorem dX1_rule_8 : decode cX1_rule 8 = .ok (.ifCond .ne 7, 3) := dk_154 0 7 (dk_at dksX1_rule_0 8 rfl rfl)
theorem dX1_rule_11 : decode cX1_rule 11 = .ok (.aconst_null, 1) := dk_1 (dk_at dksX1_rule_0 11 rfl rfl)
theorem dX1_rule_12 : decode cX1_rule 12 = .ok (.goto 8, 3) := dk_167 0 8 (dk_at dksX1_rule_0 12 rfl rfl)
theorem dX1_rule_15 : decode cX1_rule 15 = .ok (.aload_n 0, 1) := dk_42 (dk_at dksX1_rule_0 15 rfl rfl)
theorem dX1_rule_16 : decode cX1_rule 16 = .ok (.iconst 0, 1) := dk_3 (dk_at dksX1_rule_0 16 rfl rfl)
theorem dX1_rule_17 : decode cX1_rule 17 = .ok (.invokevirtual 212, 3) := dk_182 0 212 (dk_at dksX1_rule_0 17 rfl rfl)
theorem dX1_rule_20 : decode cX1_rule 20 = .ok (.astore_n 2, 1) := dk_77 (dk_at dksX1_rule_0 20 rfl rfl)
theorem dX1_rule_21 : decode cX1_rule 21 = .ok (.iload_n 1, 1) := dk_27 (dk_at dksX1_rule_0 21 rfl rfl)
theorem dX1_rule_22 : decode cX1_rule 22 = .ok (.ifCond .ne 7, 3) := dk_154 0 7 (dk_at dksX1_rule_1 0 rfl rfl)
theorem dX1_rule_25 : decode cX1_rule 25 = .ok (.iconst 0, 1) := dk_3 (dk_at dksX1_rule_1 3 rfl rfl)
theorem dX1_rule_26 : decode cX1_rule 26 = .ok (.goto 17, 3) := dk_167 0 17 (dk_at dksX1_rule_1 4 rfl rfl)
theorem dX1_rule_29 : decode cX1_rule 29 = .ok (.aload_n 0, 1) := dk_42 (dk_at dksX1_rule_1 7 rfl rfl)
theorem dX1_rule_30 : decode cX1_rule 30 = .ok (.iload_n 1, 1) := dk_27 (dk_at dksX1_rule_1 8 rfl rfl)
theorem dX1_rule_31 : decode cX1_rule 31 = .ok (.aload_n 2, 1) := dk_44 (dk_at dksX1_rule_1 9 rfl rfl)
theorem dX1_rule_32 : decode cX1_rule 32 = .ok (.ifnull 7, 3) := dk_198 0 7 (dk_at dksX1_rule_1 10 rfl rfl)
theorem dX1_rule_35 : decode cX1_rule 35 = .ok (.iconst 1, 1) := dk_4 (dk_at dksX1_rule_1 13 rfl rfl)
theorem dX1_rule_36 : decode cX1_rule 36 = .ok (.goto 4, 3) := dk_167 0 4 (dk_at dksX1_rule_1 14 rfl rfl)
theorem dX1_rule_39 : decode cX1_rule 39 = .ok (.iconst 0, 1) := dk_3 (dk_at dksX1_rule_1 17 rfl rfl)
theorem dX1_rule_40 : decode cX1_rule 40 = .ok (.invokevirtual 169, 3) := dk_182 0 169 (dk_at dksX1_rule_1 18 rfl rfl)
theorem dX1_rule_43 : decode cX1_rule 43 = .ok (.istore_n 3, 1) := dk_62 (dk_at dksX1_rule_1 21 rfl rfl)
theorem dX1_rule_44 : decode cX1_rule 44 = .ok (.iload_n 3, 1) := dk_29 (dk_at dksX1_rule_1 22 rfl rfl)
theorem dX1_rule_45 : decode cX1_rule 45 = .ok (.ifCond .ne 8, 3) := dk_154 0 8 (dk_at dksX1_rule_2 0 rfl rfl)
theorem dX1_rule_48 : decode cX1_rule 48 = .ok (.aload_n 0, 1) := dk_42 (dk_at dksX1_rule_2 3 rfl rfl)
theorem dX1_rule_49 : decode cX1_rule 49 = .ok (.aload_n 2, 1) := dk_44 (dk_at dksX1_rule_2 4 rfl rfl)
theorem dX1_rule_50 : decode cX1_rule 50 = .ok (.putfield 231, 3) := dk_181 0 231 (dk_at dksX1_rule_2 5 rfl rfl)
theorem dX1_rule_53 : decode cX1_rule 53 = .ok (.iload_n 3, 1) := dk_29 (dk_at dksX1_rule_2 8 rfl rfl)
theorem dX1_rule_54 : decode cX1_rule 54 = .ok (.ireturn, 1) := dk_172 (dk_at dksX1_rule_2 9 rfl rfl)
abbrev cX1_reads : ByteArray := prog_1_method_25_code
def yX1_reads : MethodName := ⟨RX1, "reads", "(I)LSnowForSummer$Node;"⟩
def dkwX1_reads_4 : List UInt8 := [158, 0, 7, 4, 167, 0, 4, 3, 62, 167, 255, 173, 44, 176]
abbrev dktX1_reads_4 : List UInt8 := dkwX1_reads_4 ++ []
def dkwX1_reads_3 : List UInt8 := [199, 0, 7, 1, 167, 0, 16, 187, 0, 226, 89, 42, 21, 4, 44, 25, 5, 183, 0, 228, 77, 27]
abbrev dktX1_reads_3 : List UInt8 := dkwX1_reads_3 ++ dktX1_reads_4
def dkwX1_reads_2 : List UInt8 := [146, 54, 4, 42, 89, 180, 0, 124, 4, 96, 181, 0, 124, 42, 27, 4, 96, 182, 0, 212, 58, 5, 25, 5]
abbrev dktX1_reads_2 : List UInt8 := dkwX1_reads_2 ++ dktX1_reads_3
def dkwX1_reads_1 : List UInt8 := [29, 153, 0, 81, 42, 27, 184, 0, 222, 182, 0, 178, 153, 0, 70, 42, 180, 0, 35, 42, 180, 0, 124, 46]
abbrev dktX1_reads_1 : List UInt8 := dkwX1_reads_1 ++ dktX1_reads_2
def dkwX1_reads_0 : List UInt8 := [27, 6, 160, 0, 8, 42, 182, 0, 193, 176, 42, 27, 4, 96, 182, 0, 212, 77, 4, 62, 44, 198, 0, 85]
abbrev dktX1_reads_0 : List UInt8 := dkwX1_reads_0 ++ dktX1_reads_1
theorem dksX1_reads_0 : cX1_reads.data.toList.drop 0 = dktX1_reads_0 := by decide +kernel
theorem dksX1_reads_1 : cX1_reads.data.toList.drop 24 = dktX1_reads_1 := dk_seg dksX1_reads_0 24 rfl rfl
theorem dksX1_reads_2 : cX1_reads.data.toList.drop 48 = dktX1_reads_2 := dk_seg dksX1_reads_1 24 rfl rfl
theorem dksX1_reads_3 : cX1_reads.data.toList.drop 72 = dktX1_reads_3 := dk_seg dksX1_reads_2 24 rfl rfl
theorem dksX1_reads_4 : cX1_reads.data.toList.drop 94 = dktX1_reads_4 := dk_seg dksX1_reads_3 22 rfl rfl
theorem dX1_reads_0 : decode cX1_reads 0 = .ok (.iload_n 1, 1) := dk_27 (dk_at dksX1_reads_0 0 rfl rfl)
theorem dX1_reads_1 : decode cX1_reads 1 = .ok (.iconst 3, 1) := dk_6 (dk_at dksX1_reads_0 1 rfl rfl)
theorem dX1_reads_2 : decode cX1_reads 2 = .ok (.if_icmp .ne 8, 3) := dk_160 0 8 (dk_at dksX1_reads_0 2 rfl rfl)
theorem dX1_reads_5 : decode cX1_reads 5 = .ok (.aload_n 0, 1) := dk_42 (dk_at dksX1_reads_0 5 rfl rfl)
theorem dX1_reads_6 : decode cX1_reads 6 = .ok (.invokevirtual 193, 3) := dk_182 0 193 (dk_at dksX1_reads_0 6 rfl rfl)
theorem dX1_reads_9 : decode cX1_reads 9 = .ok (.areturn, 1) := dk_176 (dk_at dksX1_reads_0 9 rfl rfl)
theorem dX1_reads_10 : decode cX1_reads 10 = .ok (.aload_n 0, 1) := dk_42 (dk_at dksX1_reads_0 10 rfl rfl)
theorem dX1_reads_11 : decode cX1_reads 11 = .ok (.iload_n 1, 1) := dk_27 (dk_at dksX1_reads_0 11 rfl rfl)
theorem dX1_reads_12 : decode cX1_reads 12 = .ok (.iconst 1, 1) := dk_4 (dk_at dksX1_reads_0 12 rfl rfl)
theorem dX1_reads_13 : decode cX1_reads 13 = .ok (.iadd, 1) := dk_96 (dk_at dksX1_reads_0 13 rfl rfl)
theorem dX1_reads_14 : decode cX1_reads 14 = .ok (.invokevirtual 212, 3) := dk_182 0 212 (dk_at dksX1_reads_0 14 rfl rfl)
theorem dX1_reads_17 : decode cX1_reads 17 = .ok (.astore_n 2, 1) := dk_77 (dk_at dksX1_reads_0 17 rfl rfl)
theorem dX1_reads_18 : decode cX1_reads 18 = .ok (.iconst 1, 1) := dk_4 (dk_at dksX1_reads_0 18 rfl rfl)
theorem dX1_reads_19 : decode cX1_reads 19 = .ok (.istore_n 3, 1) := dk_62 (dk_at dksX1_reads_0 19 rfl rfl)
theorem dX1_reads_20 : decode cX1_reads 20 = .ok (.aload_n 2, 1) := dk_44 (dk_at dksX1_reads_0 20 rfl rfl)
theorem dX1_reads_21 : decode cX1_reads 21 = .ok (.ifnull 85, 3) := dk_198 0 85 (dk_at dksX1_reads_0 21 rfl rfl)
theorem dX1_reads_24 : decode cX1_reads 24 = .ok (.iload_n 3, 1) := dk_29 (dk_at dksX1_reads_1 0 rfl rfl)
theorem dX1_reads_25 : decode cX1_reads 25 = .ok (.ifCond .eq 81, 3) := dk_153 0 81 (dk_at dksX1_reads_1 1 rfl rfl)
theorem dX1_reads_28 : decode cX1_reads 28 = .ok (.aload_n 0, 1) := dk_42 (dk_at dksX1_reads_1 4 rfl rfl)
theorem dX1_reads_29 : decode cX1_reads 29 = .ok (.iload_n 1, 1) := dk_27 (dk_at dksX1_reads_1 5 rfl rfl)
theorem dX1_reads_30 : decode cX1_reads 30 = .ok (.invokestatic 222, 3) := dk_184 0 222 (dk_at dksX1_reads_1 6 rfl rfl)
theorem dX1_reads_33 : decode cX1_reads 33 = .ok (.invokevirtual 178, 3) := dk_182 0 178 (dk_at dksX1_reads_1 9 rfl rfl)
theorem dX1_reads_36 : decode cX1_reads 36 = .ok (.ifCond .eq 70, 3) := dk_153 0 70 (dk_at dksX1_reads_1 12 rfl rfl)
theorem dX1_reads_39 : decode cX1_reads 39 = .ok (.aload_n 0, 1) := dk_42 (dk_at dksX1_reads_1 15 rfl rfl)
theorem dX1_reads_40 : decode cX1_reads 40 = .ok (.getfield 35, 3) := dk_180 0 35 (dk_at dksX1_reads_1 16 rfl rfl)
theorem dX1_reads_43 : decode cX1_reads 43 = .ok (.aload_n 0, 1) := dk_42 (dk_at dksX1_reads_1 19 rfl rfl)
theorem dX1_reads_44 : decode cX1_reads 44 = .ok (.getfield 124, 3) := dk_180 0 124 (dk_at dksX1_reads_1 20 rfl rfl)
theorem dX1_reads_47 : decode cX1_reads 47 = .ok (.iaload, 1) := dk_46 (dk_at dksX1_reads_1 23 rfl rfl)
theorem dX1_reads_48 : decode cX1_reads 48 = .ok (.i2c, 1) := dk_146 (dk_at dksX1_reads_2 0 rfl rfl)
theorem dX1_reads_49 : decode cX1_reads 49 = .ok (.istore 4, 2) := dk_54 4 (dk_at dksX1_reads_2 1 rfl rfl)
theorem dX1_reads_51 : decode cX1_reads 51 = .ok (.aload_n 0, 1) := dk_42 (dk_at dksX1_reads_2 3 rfl rfl)
theorem dX1_reads_52 : decode cX1_reads 52 = .ok (.dup, 1) := dk_89 (dk_at dksX1_reads_2 4 rfl rfl)
theorem dX1_reads_53 : decode cX1_reads 53 = .ok (.getfield 124, 3) := dk_180 0 124 (dk_at dksX1_reads_2 5 rfl rfl)
theorem dX1_reads_56 : decode cX1_reads 56 = .ok (.iconst 1, 1) := dk_4 (dk_at dksX1_reads_2 8 rfl rfl)
theorem dX1_reads_57 : decode cX1_reads 57 = .ok (.iadd, 1) := dk_96 (dk_at dksX1_reads_2 9 rfl rfl)
theorem dX1_reads_58 : decode cX1_reads 58 = .ok (.putfield 124, 3) := dk_181 0 124 (dk_at dksX1_reads_2 10 rfl rfl)
theorem dX1_reads_61 : decode cX1_reads 61 = .ok (.aload_n 0, 1) := dk_42 (dk_at dksX1_reads_2 13 rfl rfl)
theorem dX1_reads_62 : decode cX1_reads 62 = .ok (.iload_n 1, 1) := dk_27 (dk_at dksX1_reads_2 14 rfl rfl)
theorem dX1_reads_63 : decode cX1_reads 63 = .ok (.iconst 1, 1) := dk_4 (dk_at dksX1_reads_2 15 rfl rfl)
theorem dX1_reads_64 : decode cX1_reads 64 = .ok (.iadd, 1) := dk_96 (dk_at dksX1_reads_2 16 rfl rfl)
theorem dX1_reads_65 : decode cX1_reads 65 = .ok (.invokevirtual 212, 3) := dk_182 0 212 (dk_at dksX1_reads_2 17 rfl rfl)
theorem dX1_reads_68 : decode cX1_reads 68 = .ok (.astore 5, 2) := dk_58 5 (dk_at dksX1_reads_2 20 rfl rfl)
theorem dX1_reads_70 : decode cX1_reads 70 = .ok (.aload 5, 2) := dk_25 5 (dk_at dksX1_reads_2 22 rfl rfl)
theorem dX1_reads_72 : decode cX1_reads 72 = .ok (.ifnonnull 7, 3) := dk_199 0 7 (dk_at dksX1_reads_3 0 rfl rfl)
theorem dX1_reads_75 : decode cX1_reads 75 = .ok (.aconst_null, 1) := dk_1 (dk_at dksX1_reads_3 3 rfl rfl)
theorem dX1_reads_76 : decode cX1_reads 76 = .ok (.goto 16, 3) := dk_167 0 16 (dk_at dksX1_reads_3 4 rfl rfl)
theorem dX1_reads_79 : decode cX1_reads 79 = .ok (.new 226, 3) := dk_187 0 226 (dk_at dksX1_reads_3 7 rfl rfl)
theorem dX1_reads_82 : decode cX1_reads 82 = .ok (.dup, 1) := dk_89 (dk_at dksX1_reads_3 10 rfl rfl)
theorem dX1_reads_83 : decode cX1_reads 83 = .ok (.aload_n 0, 1) := dk_42 (dk_at dksX1_reads_3 11 rfl rfl)
theorem dX1_reads_84 : decode cX1_reads 84 = .ok (.iload 4, 2) := dk_21 4 (dk_at dksX1_reads_3 12 rfl rfl)
theorem dX1_reads_86 : decode cX1_reads 86 = .ok (.aload_n 2, 1) := dk_44 (dk_at dksX1_reads_3 14 rfl rfl)
theorem dX1_reads_87 : decode cX1_reads 87 = .ok (.aload 5, 2) := dk_25 5 (dk_at dksX1_reads_3 15 rfl rfl)
theorem dX1_reads_89 : decode cX1_reads 89 = .ok (.invokespecial 228, 3) := dk_183 0 228 (dk_at dksX1_reads_3 17 rfl rfl)
theorem dX1_reads_92 : decode cX1_reads 92 = .ok (.astore_n 2, 1) := dk_77 (dk_at dksX1_reads_3 20 rfl rfl)
theorem dX1_reads_93 : decode cX1_reads 93 = .ok (.iload_n 1, 1) := dk_27 (dk_at dksX1_reads_3 21 rfl rfl)
theorem dX1_reads_94 : decode cX1_reads 94 = .ok (.ifCond .le 7, 3) := dk_158 0 7 (dk_at dksX1_reads_4 0 rfl rfl)
theorem dX1_reads_97 : decode cX1_reads 97 = .ok (.iconst 1, 1) := dk_4 (dk_at dksX1_reads_4 3 rfl rfl)
theorem dX1_reads_98 : decode cX1_reads 98 = .ok (.goto 4, 3) := dk_167 0 4 (dk_at dksX1_reads_4 4 rfl rfl)
theorem dX1_reads_101 : decode cX1_reads 101 = .ok (.iconst 0, 1) := dk_3 (dk_at dksX1_reads_4 7 rfl rfl)
theorem dX1_reads_102 : decode cX1_reads 102 = .ok (.istore_n 3, 1) := dk_62 (dk_at dksX1_reads_4 8 rfl rfl)
theorem dX1_reads_103 : decode cX1_reads 103 = .ok (.goto (-83), 3) := dk_167 255 173 (dk_at dksX1_reads_4 9 rfl rfl)
theorem dX1_reads_106 : decode cX1_reads 106 = .ok (.aload_n 2, 1) := dk_44 (dk_at dksX1_reads_4 12 rfl rfl)
theorem dX1_reads_107 : decode cX1_reads 107 = .ok (.areturn, 1) := dk_176 (dk_at dksX1_reads_4 13 rfl rfl)
abbrev cX1_readsThing : ByteArray := prog_1_method_23_code
def yX1_readsThing : MethodName := ⟨RX1, "readsThing", "()LSnowForSummer$Node;"⟩
def dkwX1_readsThing_7 : List UInt8 := [181, 0, 127, 43, 176]
abbrev dktX1_readsThing_7 : List UInt8 := dkwX1_readsThing_7 ++ []
def dkwX1_readsThing_6 : List UInt8 := [76, 43, 198, 0, 12, 42, 16, 41, 182, 0, 160, 154, 0, 5, 1, 176, 42, 89, 180, 0, 127, 4, 100]
abbrev dktX1_readsThing_6 : List UInt8 := dkwX1_readsThing_6 ++ dktX1_readsThing_7
def dkwX1_readsThing_5 : List UInt8 := [89, 180, 0, 124, 4, 96, 181, 0, 124, 42, 89, 180, 0, 127, 4, 96, 181, 0, 127, 42, 3, 182, 0, 212]
abbrev dktX1_readsThing_5 : List UInt8 := dkwX1_readsThing_5 ++ dktX1_readsThing_6
def dkwX1_readsThing_4 : List UInt8 := [183, 0, 211, 176, 42, 16, 40, 182, 0, 136, 153, 0, 11, 42, 180, 0, 127, 7, 160, 0, 5, 1, 176, 42]
abbrev dktX1_readsThing_4 : List UInt8 := dkwX1_readsThing_4 ++ dktX1_readsThing_5
def dkwX1_readsThing_3 : List UInt8 := [180, 0, 124, 4, 96, 181, 0, 124, 187, 0, 209, 89, 42, 42, 180, 0, 35, 42, 180, 0, 124, 4, 100, 46]
abbrev dktX1_readsThing_3 : List UInt8 := dkwX1_readsThing_3 ++ dktX1_readsThing_4
def dkwX1_readsThing_2 : List UInt8 := [3, 17, 3, 231, 182, 0, 156, 183, 0, 204, 176, 42, 18, 207, 182, 0, 178, 153, 0, 33, 42, 89]
abbrev dktX1_readsThing_2 : List UInt8 := dkwX1_readsThing_2 ++ dktX1_readsThing_3
def dkwX1_readsThing_1 : List UInt8 := [187, 0, 197, 89, 42, 43, 183, 0, 199, 176, 42, 182, 0, 149, 153, 0, 21, 187, 0, 202, 89, 42, 42, 6]
abbrev dktX1_readsThing_1 : List UInt8 := dkwX1_readsThing_1 ++ dktX1_readsThing_2
def dkwX1_readsThing_0 : List UInt8 := [42, 16, 45, 182, 0, 160, 153, 0, 26, 42, 182, 0, 193, 76, 43, 199, 0, 7, 1, 167, 0, 12]
abbrev dktX1_readsThing_0 : List UInt8 := dkwX1_readsThing_0 ++ dktX1_readsThing_1
theorem dksX1_readsThing_0 : cX1_readsThing.data.toList.drop 0 = dktX1_readsThing_0 := by decide +kernel
theorem dksX1_readsThing_1 : cX1_readsThing.data.toList.drop 22 = dktX1_readsThing_1 := dk_seg dksX1_readsThing_0 22 rfl rfl
theorem dksX1_readsThing_2 : cX1_readsThing.data.toList.drop 46 = dktX1_readsThing_2 := dk_seg dksX1_readsThing_1 24 rfl rfl
theorem dksX1_readsThing_3 : cX1_readsThing.data.toList.drop 68 = dktX1_readsThing_3 := dk_seg dksX1_readsThing_2 22 rfl rfl
theorem dksX1_readsThing_4 : cX1_readsThing.data.toList.drop 92 = dktX1_readsThing_4 := dk_seg dksX1_readsThing_3 24 rfl rfl
theorem dksX1_readsThing_5 : cX1_readsThing.data.toList.drop 116 = dktX1_readsThing_5 := dk_seg dksX1_readsThing_4 24 rfl rfl
theorem dksX1_readsThing_6 : cX1_readsThing.data.toList.drop 140 = dktX1_readsThing_6 := dk_seg dksX1_readsThing_5 24 rfl rfl
theorem dksX1_readsThing_7 : cX1_readsThing.data.toList.drop 163 = dktX1_readsThing_7 := dk_seg dksX1_readsThing_6 23 rfl rfl
theorem dX1_readsThing_0 : decode cX1_readsThing 0 = .ok (.aload_n 0, 1) := dk_42 (dk_at dksX1_readsThing_0 0 rfl rfl)
theorem dX1_readsThing_1 : decode cX1_readsThing 1 = .ok (.bipush 45, 2) := dk_16 45 (dk_at dksX1_readsThing_0 1 rfl rfl)
theorem dX1_readsThing_3 : decode cX1_readsThing 3 = .ok (.invokevirtual 160, 3) := dk_182 0 160 (dk_at dksX1_readsThing_0 3 rfl rfl)
theorem dX1_readsThing_6 : decode cX1_readsThing 6 = .ok (.ifCond .eq 26, 3) := dk_153 0 26 (dk_at dksX1_readsThing_0 6 rfl rfl)
theorem dX1_readsThing_9 : decode cX1_readsThing 9 = .ok (.aload_n 0, 1) := dk_42 (dk_at dksX1_readsThing_0 9 rfl rfl)
theorem dX1_readsThing_10 : decode cX1_readsThing 10 = .ok (.invokevirtual 193, 3) := dk_182 0 193 (dk_at dksX1_readsThing_0 10 rfl rfl)
theorem dX1_readsThing_13 : decode cX1_readsThing 13 = .ok (.astore_n 1, 1) := dk_76 (dk_at dksX1_readsThing_0 13 rfl rfl)
theorem dX1_readsThing_14 : decode cX1_readsThing 14 = .ok (.aload_n 1, 1) := dk_43 (dk_at dksX1_readsThing_0 14 rfl rfl)
theorem dX1_readsThing_15 : decode cX1_readsThing 15 = .ok (.ifnonnull 7, 3) := dk_199 0 7 (dk_at dksX1_readsThing_0 15 rfl rfl)
theorem dX1_readsThing_18 : decode cX1_readsThing 18 = .ok (.aconst_null, 1) := dk_1 (dk_at dksX1_readsThing_0 18 rfl rfl)
theorem dX1_readsThing_19 : decode cX1_readsThing 19 = .ok (.goto 12, 3) := dk_167 0 12 (dk_at dksX1_readsThing_0 19 rfl rfl)
theorem dX1_readsThing_22 : decode cX1_readsThing 22 = .ok (.new 197, 3) := dk_187 0 197 (dk_at dksX1_readsThing_1 0 rfl rfl)
theorem dX1_readsThing_25 : decode cX1_readsThing 25 = .ok (.dup, 1) := dk_89 (dk_at dksX1_readsThing_1 3 rfl rfl)
theorem dX1_readsThing_26 : decode cX1_readsThing 26 = .ok (.aload_n 0, 1) := dk_42 (dk_at dksX1_readsThing_1 4 rfl rfl)
theorem dX1_readsThing_27 : decode cX1_readsThing 27 = .ok (.aload_n 1, 1) := dk_43 (dk_at dksX1_readsThing_1 5 rfl rfl)
theorem dX1_readsThing_28 : decode cX1_readsThing 28 = .ok (.invokespecial 199, 3) := dk_183 0 199 (dk_at dksX1_readsThing_1 6 rfl rfl)
theorem dX1_readsThing_31 : decode cX1_readsThing 31 = .ok (.areturn, 1) := dk_176 (dk_at dksX1_readsThing_1 9 rfl rfl)
theorem dX1_readsThing_32 : decode cX1_readsThing 32 = .ok (.aload_n 0, 1) := dk_42 (dk_at dksX1_readsThing_1 10 rfl rfl)
theorem dX1_readsThing_33 : decode cX1_readsThing 33 = .ok (.invokevirtual 149, 3) := dk_182 0 149 (dk_at dksX1_readsThing_1 11 rfl rfl)
theorem dX1_readsThing_36 : decode cX1_readsThing 36 = .ok (.ifCond .eq 21, 3) := dk_153 0 21 (dk_at dksX1_readsThing_1 14 rfl rfl)
theorem dX1_readsThing_39 : decode cX1_readsThing 39 = .ok (.new 202, 3) := dk_187 0 202 (dk_at dksX1_readsThing_1 17 rfl rfl)
theorem dX1_readsThing_42 : decode cX1_readsThing 42 = .ok (.dup, 1) := dk_89 (dk_at dksX1_readsThing_1 20 rfl rfl)
theorem dX1_readsThing_43 : decode cX1_readsThing 43 = .ok (.aload_n 0, 1) := dk_42 (dk_at dksX1_readsThing_1 21 rfl rfl)
theorem dX1_readsThing_44 : decode cX1_readsThing 44 = .ok (.aload_n 0, 1) := dk_42 (dk_at dksX1_readsThing_1 22 rfl rfl)
theorem dX1_readsThing_45 : decode cX1_readsThing 45 = .ok (.iconst 3, 1) := dk_6 (dk_at dksX1_readsThing_1 23 rfl rfl)
theorem dX1_readsThing_46 : decode cX1_readsThing 46 = .ok (.iconst 0, 1) := dk_3 (dk_at dksX1_readsThing_2 0 rfl rfl)
theorem dX1_readsThing_47 : decode cX1_readsThing 47 = .ok (.sipush 999, 3) := dk_17 3 231 (dk_at dksX1_readsThing_2 1 rfl rfl)
theorem dX1_readsThing_50 : decode cX1_readsThing 50 = .ok (.invokevirtual 156, 3) := dk_182 0 156 (dk_at dksX1_readsThing_2 4 rfl rfl)
theorem dX1_readsThing_53 : decode cX1_readsThing 53 = .ok (.invokespecial 204, 3) := dk_183 0 204 (dk_at dksX1_readsThing_2 7 rfl rfl)
theorem dX1_readsThing_56 : decode cX1_readsThing 56 = .ok (.areturn, 1) := dk_176 (dk_at dksX1_readsThing_2 10 rfl rfl)
theorem dX1_readsThing_57 : decode cX1_readsThing 57 = .ok (.aload_n 0, 1) := dk_42 (dk_at dksX1_readsThing_2 11 rfl rfl)
theorem dX1_readsThing_58 : decode cX1_readsThing 58 = .ok (.ldc 207, 2) := dk_18 207 (dk_at dksX1_readsThing_2 12 rfl rfl)
theorem dX1_readsThing_60 : decode cX1_readsThing 60 = .ok (.invokevirtual 178, 3) := dk_182 0 178 (dk_at dksX1_readsThing_2 14 rfl rfl)
theorem dX1_readsThing_63 : decode cX1_readsThing 63 = .ok (.ifCond .eq 33, 3) := dk_153 0 33 (dk_at dksX1_readsThing_2 17 rfl rfl)
theorem dX1_readsThing_66 : decode cX1_readsThing 66 = .ok (.aload_n 0, 1) := dk_42 (dk_at dksX1_readsThing_2 20 rfl rfl)
theorem dX1_readsThing_67 : decode cX1_readsThing 67 = .ok (.dup, 1) := dk_89 (dk_at dksX1_readsThing_2 21 rfl rfl)
theorem dX1_readsThing_68 : decode cX1_readsThing 68 = .ok (.getfield 124, 3) := dk_180 0 124 (dk_at dksX1_readsThing_3 0 rfl rfl)
theorem dX1_readsThing_71 : decode cX1_readsThing 71 = .ok (.iconst 1, 1) := dk_4 (dk_at dksX1_readsThing_3 3 rfl rfl)
theorem dX1_readsThing_72 : decode cX1_readsThing 72 = .ok (.iadd, 1) := dk_96 (dk_at dksX1_readsThing_3 4 rfl rfl)
theorem dX1_readsThing_73 : decode cX1_readsThing 73 = .ok (.putfield 124, 3) := dk_181 0 124 (dk_at dksX1_readsThing_3 5 rfl rfl)
theorem dX1_readsThing_76 : decode cX1_readsThing 76 = .ok (.new 209, 3) := dk_187 0 209 (dk_at dksX1_readsThing_3 8 rfl rfl)
theorem dX1_readsThing_79 : decode cX1_readsThing 79 = .ok (.dup, 1) := dk_89 (dk_at dksX1_readsThing_3 11 rfl rfl)
theorem dX1_readsThing_80 : decode cX1_readsThing 80 = .ok (.aload_n 0, 1) := dk_42 (dk_at dksX1_readsThing_3 12 rfl rfl)
theorem dX1_readsThing_81 : decode cX1_readsThing 81 = .ok (.aload_n 0, 1) := dk_42 (dk_at dksX1_readsThing_3 13 rfl rfl)
theorem dX1_readsThing_82 : decode cX1_readsThing 82 = .ok (.getfield 35, 3) := dk_180 0 35 (dk_at dksX1_readsThing_3 14 rfl rfl)
theorem dX1_readsThing_85 : decode cX1_readsThing 85 = .ok (.aload_n 0, 1) := dk_42 (dk_at dksX1_readsThing_3 17 rfl rfl)
theorem dX1_readsThing_86 : decode cX1_readsThing 86 = .ok (.getfield 124, 3) := dk_180 0 124 (dk_at dksX1_readsThing_3 18 rfl rfl)
theorem dX1_readsThing_89 : decode cX1_readsThing 89 = .ok (.iconst 1, 1) := dk_4 (dk_at dksX1_readsThing_3 21 rfl rfl)
theorem dX1_readsThing_90 : decode cX1_readsThing 90 = .ok (.isub, 1) := dk_100 (dk_at dksX1_readsThing_3 22 rfl rfl)
theorem dX1_readsThing_91 : decode cX1_readsThing 91 = .ok (.iaload, 1) := dk_46 (dk_at dksX1_readsThing_3 23 rfl rfl)
theorem dX1_readsThing_92 : decode cX1_readsThing 92 = .ok (.invokespecial 211, 3) := dk_183 0 211 (dk_at dksX1_readsThing_4 0 rfl rfl)
theorem dX1_readsThing_95 : decode cX1_readsThing 95 = .ok (.areturn, 1) := dk_176 (dk_at dksX1_readsThing_4 3 rfl rfl)
theorem dX1_readsThing_96 : decode cX1_readsThing 96 = .ok (.aload_n 0, 1) := dk_42 (dk_at dksX1_readsThing_4 4 rfl rfl)
theorem dX1_readsThing_97 : decode cX1_readsThing 97 = .ok (.bipush 40, 2) := dk_16 40 (dk_at dksX1_readsThing_4 5 rfl rfl)
theorem dX1_readsThing_99 : decode cX1_readsThing 99 = .ok (.invokevirtual 136, 3) := dk_182 0 136 (dk_at dksX1_readsThing_4 7 rfl rfl)
theorem dX1_readsThing_102 : decode cX1_readsThing 102 = .ok (.ifCond .eq 11, 3) := dk_153 0 11 (dk_at dksX1_readsThing_4 10 rfl rfl)
theorem dX1_readsThing_105 : decode cX1_readsThing 105 = .ok (.aload_n 0, 1) := dk_42 (dk_at dksX1_readsThing_4 13 rfl rfl)
theorem dX1_readsThing_106 : decode cX1_readsThing 106 = .ok (.getfield 127, 3) := dk_180 0 127 (dk_at dksX1_readsThing_4 14 rfl rfl)
theorem dX1_readsThing_109 : decode cX1_readsThing 109 = .ok (.iconst 4, 1) := dk_7 (dk_at dksX1_readsThing_4 17 rfl rfl)
theorem dX1_readsThing_110 : decode cX1_readsThing 110 = .ok (.if_icmp .ne 5, 3) := dk_160 0 5 (dk_at dksX1_readsThing_4 18 rfl rfl)
theorem dX1_readsThing_113 : decode cX1_readsThing 113 = .ok (.aconst_null, 1) := dk_1 (dk_at dksX1_readsThing_4 21 rfl rfl)
theorem dX1_readsThing_114 : decode cX1_readsThing 114 = .ok (.areturn, 1) := dk_176 (dk_at dksX1_readsThing_4 22 rfl rfl)
theorem dX1_readsThing_115 : decode cX1_readsThing 115 = .ok (.aload_n 0, 1) := dk_42 (dk_at dksX1_readsThing_4 23 rfl rfl)
theorem dX1_readsThing_116 : decode cX1_readsThing 116 = .ok (.dup, 1) := dk_89 (dk_at dksX1_readsThing_5 0 rfl rfl)
theorem dX1_readsThing_117 : decode cX1_readsThing 117 = .ok (.getfield 124, 3) := dk_180 0 124 (dk_at dksX1_readsThing_5 1 rfl rfl)
theorem dX1_readsThing_120 : decode cX1_readsThing 120 = .ok (.iconst 1, 1) := dk_4 (dk_at dksX1_readsThing_5 4 rfl rfl)
theorem dX1_readsThing_121 : decode cX1_readsThing 121 = .ok (.iadd, 1) := dk_96 (dk_at dksX1_readsThing_5 5 rfl rfl)
theorem dX1_readsThing_122 : decode cX1_readsThing 122 = .ok (.putfield 124, 3) := dk_181 0 124 (dk_at dksX1_readsThing_5 6 rfl rfl)
theorem dX1_readsThing_125 : decode cX1_readsThing 125 = .ok (.aload_n 0, 1) := dk_42 (dk_at dksX1_readsThing_5 9 rfl rfl)
theorem dX1_readsThing_126 : decode cX1_readsThing 126 = .ok (.dup, 1) := dk_89 (dk_at dksX1_readsThing_5 10 rfl rfl)
theorem dX1_readsThing_127 : decode cX1_readsThing 127 = .ok (.getfield 127, 3) := dk_180 0 127 (dk_at dksX1_readsThing_5 11 rfl rfl)
theorem dX1_readsThing_130 : decode cX1_readsThing 130 = .ok (.iconst 1, 1) := dk_4 (dk_at dksX1_readsThing_5 14 rfl rfl)
theorem dX1_readsThing_131 : decode cX1_readsThing 131 = .ok (.iadd, 1) := dk_96 (dk_at dksX1_readsThing_5 15 rfl rfl)
theorem dX1_readsThing_132 : decode cX1_readsThing 132 = .ok (.putfield 127, 3) := dk_181 0 127 (dk_at dksX1_readsThing_5 16 rfl rfl)
theorem dX1_readsThing_135 : decode cX1_readsThing 135 = .ok (.aload_n 0, 1) := dk_42 (dk_at dksX1_readsThing_5 19 rfl rfl)
theorem dX1_readsThing_136 : decode cX1_readsThing 136 = .ok (.iconst 0, 1) := dk_3 (dk_at dksX1_readsThing_5 20 rfl rfl)
theorem dX1_readsThing_137 : decode cX1_readsThing 137 = .ok (.invokevirtual 212, 3) := dk_182 0 212 (dk_at dksX1_readsThing_5 21 rfl rfl)
theorem dX1_readsThing_140 : decode cX1_readsThing 140 = .ok (.astore_n 1, 1) := dk_76 (dk_at dksX1_readsThing_6 0 rfl rfl)
theorem dX1_readsThing_141 : decode cX1_readsThing 141 = .ok (.aload_n 1, 1) := dk_43 (dk_at dksX1_readsThing_6 1 rfl rfl)
theorem dX1_readsThing_142 : decode cX1_readsThing 142 = .ok (.ifnull 12, 3) := dk_198 0 12 (dk_at dksX1_readsThing_6 2 rfl rfl)
theorem dX1_readsThing_145 : decode cX1_readsThing 145 = .ok (.aload_n 0, 1) := dk_42 (dk_at dksX1_readsThing_6 5 rfl rfl)
theorem dX1_readsThing_146 : decode cX1_readsThing 146 = .ok (.bipush 41, 2) := dk_16 41 (dk_at dksX1_readsThing_6 6 rfl rfl)
theorem dX1_readsThing_148 : decode cX1_readsThing 148 = .ok (.invokevirtual 160, 3) := dk_182 0 160 (dk_at dksX1_readsThing_6 8 rfl rfl)
theorem dX1_readsThing_151 : decode cX1_readsThing 151 = .ok (.ifCond .ne 5, 3) := dk_154 0 5 (dk_at dksX1_readsThing_6 11 rfl rfl)
theorem dX1_readsThing_154 : decode cX1_readsThing 154 = .ok (.aconst_null, 1) := dk_1 (dk_at dksX1_readsThing_6 14 rfl rfl)
theorem dX1_readsThing_155 : decode cX1_readsThing 155 = .ok (.areturn, 1) := dk_176 (dk_at dksX1_readsThing_6 15 rfl rfl)
theorem dX1_readsThing_156 : decode cX1_readsThing 156 = .ok (.aload_n 0, 1) := dk_42 (dk_at dksX1_readsThing_6 16 rfl rfl)
theorem dX1_readsThing_157 : decode cX1_readsThing 157 = .ok (.dup, 1) := dk_89 (dk_at dksX1_readsThing_6 17 rfl rfl)
theorem dX1_readsThing_158 : decode cX1_readsThing 158 = .ok (.getfield 127, 3) := dk_180 0 127 (dk_at dksX1_readsThing_6 18 rfl rfl)
theorem dX1_readsThing_161 : decode cX1_readsThing 161 = .ok (.iconst 1, 1) := dk_4 (dk_at dksX1_readsThing_6 21 rfl rfl)
theorem dX1_readsThing_162 : decode cX1_readsThing 162 = .ok (.isub, 1) := dk_100 (dk_at dksX1_readsThing_6 22 rfl rfl)
theorem dX1_readsThing_163 : decode cX1_readsThing 163 = .ok (.putfield 127, 3) := dk_181 0 127 (dk_at dksX1_readsThing_7 0 rfl rfl)
theorem dX1_readsThing_166 : decode cX1_readsThing 166 = .ok (.aload_n 1, 1) := dk_43 (dk_at dksX1_readsThing_7 3 rfl rfl)
theorem dX1_readsThing_167 : decode cX1_readsThing 167 = .ok (.areturn, 1) := dk_176 (dk_at dksX1_readsThing_7 4 rfl rfl)
abbrev cX1_acts : ByteArray := prog_1_method_24_code
def yX1_acts : MethodName := ⟨RX1, "acts", "(I)Ljava/lang/String;"⟩
def dkwX1_acts_0 : List UInt8 := [26, 154, 0, 8, 18, 216, 167, 0, 15, 26, 4, 160, 0, 8, 18, 218, 167, 0, 5, 18, 220, 176]
abbrev dktX1_acts_0 : List UInt8 := dkwX1_acts_0 ++ []
theorem dksX1_acts_0 : cX1_acts.data.toList.drop 0 = dktX1_acts_0 := by decide +kernel
theorem dX1_acts_0 : decode cX1_acts 0 = .ok (.iload_n 0, 1) := dk_26 (dk_at dksX1_acts_0 0 rfl rfl)
theorem dX1_acts_1 : decode cX1_acts 1 = .ok (.ifCond .ne 8, 3) := dk_154 0 8 (dk_at dksX1_acts_0 1 rfl rfl)
theorem dX1_acts_4 : decode cX1_acts 4 = .ok (.ldc 216, 2) := dk_18 216 (dk_at dksX1_acts_0 4 rfl rfl)
theorem dX1_acts_6 : decode cX1_acts 6 = .ok (.goto 15, 3) := dk_167 0 15 (dk_at dksX1_acts_0 6 rfl rfl)
theorem dX1_acts_9 : decode cX1_acts 9 = .ok (.iload_n 0, 1) := dk_26 (dk_at dksX1_acts_0 9 rfl rfl)
theorem dX1_acts_10 : decode cX1_acts 10 = .ok (.iconst 1, 1) := dk_4 (dk_at dksX1_acts_0 10 rfl rfl)
theorem dX1_acts_11 : decode cX1_acts 11 = .ok (.if_icmp .ne 8, 3) := dk_160 0 8 (dk_at dksX1_acts_0 11 rfl rfl)
theorem dX1_acts_14 : decode cX1_acts 14 = .ok (.ldc 218, 2) := dk_18 218 (dk_at dksX1_acts_0 14 rfl rfl)
theorem dX1_acts_16 : decode cX1_acts 16 = .ok (.goto 5, 3) := dk_167 0 5 (dk_at dksX1_acts_0 16 rfl rfl)
theorem dX1_acts_19 : decode cX1_acts 19 = .ok (.ldc 220, 2) := dk_18 220 (dk_at dksX1_acts_0 19 rfl rfl)
theorem dX1_acts_21 : decode cX1_acts 21 = .ok (.areturn, 1) := dk_176 (dk_at dksX1_acts_0 21 rfl rfl)
abbrev cX1_set : ByteArray := prog_1_method_29_code
def yX1_set : MethodName := ⟨RX1, "set", "(III)I"⟩
def dkwX1_set_8 : List UInt8 := [167, 0, 4, 2, 172]
abbrev dktX1_set_8 : List UInt8 := dkwX1_set_8 ++ []
def dkwX1_set_7 : List UInt8 := [160, 0, 27, 29, 133, 9, 20, 1, 4, 184, 0, 100, 153, 0, 15, 42, 180, 0, 29, 27, 29, 184, 0, 252]
abbrev dktX1_set_7 : List UInt8 := dkwX1_set_7 ++ dktX1_set_8
def dkwX1_set_6 : List UInt8 := [42, 180, 0, 26, 5, 27, 104, 28, 96, 7, 100, 29, 184, 0, 252, 167, 0, 4, 2, 172, 28, 16, 6]
abbrev dktX1_set_6 : List UInt8 := dkwX1_set_6 ++ dktX1_set_7
def dkwX1_set_5 : List UInt8 := [2, 172, 28, 7, 159, 0, 8, 28, 8, 160, 0, 35, 29, 133, 9, 20, 1, 2, 184, 0, 100, 153, 0, 21]
abbrev dktX1_set_5 : List UInt8 := dkwX1_set_5 ++ dktX1_set_6
def dkwX1_set_4 : List UInt8 := [20, 1, 0, 184, 0, 100, 153, 0, 18, 42, 180, 0, 12, 180, 0, 241, 27, 29, 184, 0, 252, 167, 0, 4]
abbrev dktX1_set_4 : List UInt8 := dkwX1_set_4 ++ dktX1_set_5
def dkwX1_set_3 : List UInt8 := [104, 28, 96, 4, 100, 29, 184, 0, 252, 167, 0, 4, 2, 172, 28, 6, 160, 0, 32, 29, 133, 9]
abbrev dktX1_set_3 : List UInt8 := dkwX1_set_3 ++ dktX1_set_4
def dkwX1_set_2 : List UInt8 := [160, 0, 38, 29, 133, 9, 20, 1, 0, 184, 0, 100, 153, 0, 24, 42, 180, 0, 12, 180, 0, 238, 5, 27]
abbrev dktX1_set_2 : List UInt8 := dkwX1_set_2 ++ dktX1_set_3
def dkwX1_set_1 : List UInt8 := [153, 0, 15, 42, 180, 0, 22, 27, 29, 184, 0, 252, 167, 0, 4, 2, 172, 28, 4, 159, 0, 8, 28, 5]
abbrev dktX1_set_1 : List UInt8 := dkwX1_set_1 ++ dktX1_set_2
def dkwX1_set_0 : List UInt8 := [42, 27, 182, 0, 104, 154, 0, 5, 2, 172, 28, 154, 0, 29, 29, 133, 10, 20, 0, 250, 184, 0, 100]
abbrev dktX1_set_0 : List UInt8 := dkwX1_set_0 ++ dktX1_set_1
theorem dksX1_set_0 : cX1_set.data.toList.drop 0 = dktX1_set_0 := by decide +kernel
theorem dksX1_set_1 : cX1_set.data.toList.drop 23 = dktX1_set_1 := dk_seg dksX1_set_0 23 rfl rfl
theorem dksX1_set_2 : cX1_set.data.toList.drop 47 = dktX1_set_2 := dk_seg dksX1_set_1 24 rfl rfl
theorem dksX1_set_3 : cX1_set.data.toList.drop 71 = dktX1_set_3 := dk_seg dksX1_set_2 24 rfl rfl
theorem dksX1_set_4 : cX1_set.data.toList.drop 93 = dktX1_set_4 := dk_seg dksX1_set_3 22 rfl rfl
theorem dksX1_set_5 : cX1_set.data.toList.drop 117 = dktX1_set_5 := dk_seg dksX1_set_4 24 rfl rfl
theorem dksX1_set_6 : cX1_set.data.toList.drop 141 = dktX1_set_6 := dk_seg dksX1_set_5 24 rfl rfl
theorem dksX1_set_7 : cX1_set.data.toList.drop 164 = dktX1_set_7 := dk_seg dksX1_set_6 23 rfl rfl
theorem dksX1_set_8 : cX1_set.data.toList.drop 188 = dktX1_set_8 := dk_seg dksX1_set_7 24 rfl rfl
theorem dX1_set_0 : decode cX1_set 0 = .ok (.aload_n 0, 1) := dk_42 (dk_at dksX1_set_0 0 rfl rfl)
theorem dX1_set_1 : decode cX1_set 1 = .ok (.iload_n 1, 1) := dk_27 (dk_at dksX1_set_0 1 rfl rfl)
theorem dX1_set_2 : decode cX1_set 2 = .ok (.invokevirtual 104, 3) := dk_182 0 104 (dk_at dksX1_set_0 2 rfl rfl)
theorem dX1_set_5 : decode cX1_set 5 = .ok (.ifCond .ne 5, 3) := dk_154 0 5 (dk_at dksX1_set_0 5 rfl rfl)
theorem dX1_set_8 : decode cX1_set 8 = .ok (.iconst (-1), 1) := dk_2 (dk_at dksX1_set_0 8 rfl rfl)
theorem dX1_set_9 : decode cX1_set 9 = .ok (.ireturn, 1) := dk_172 (dk_at dksX1_set_0 9 rfl rfl)
theorem dX1_set_10 : decode cX1_set 10 = .ok (.iload_n 2, 1) := dk_28 (dk_at dksX1_set_0 10 rfl rfl)
theorem dX1_set_11 : decode cX1_set 11 = .ok (.ifCond .ne 29, 3) := dk_154 0 29 (dk_at dksX1_set_0 11 rfl rfl)
theorem dX1_set_14 : decode cX1_set 14 = .ok (.iload_n 3, 1) := dk_29 (dk_at dksX1_set_0 14 rfl rfl)
theorem dX1_set_15 : decode cX1_set 15 = .ok (.i2l, 1) := dk_133 (dk_at dksX1_set_0 15 rfl rfl)
theorem dX1_set_16 : decode cX1_set 16 = .ok (.lconst 1, 1) := dk_10 (dk_at dksX1_set_0 16 rfl rfl)
theorem dX1_set_17 : decode cX1_set 17 = .ok (.ldc2_w 250, 3) := dk_20 0 250 (dk_at dksX1_set_0 17 rfl rfl)
theorem dX1_set_20 : decode cX1_set 20 = .ok (.invokestatic 100, 3) := dk_184 0 100 (dk_at dksX1_set_0 20 rfl rfl)
theorem dX1_set_23 : decode cX1_set 23 = .ok (.ifCond .eq 15, 3) := dk_153 0 15 (dk_at dksX1_set_1 0 rfl rfl)
theorem dX1_set_26 : decode cX1_set 26 = .ok (.aload_n 0, 1) := dk_42 (dk_at dksX1_set_1 3 rfl rfl)
theorem dX1_set_27 : decode cX1_set 27 = .ok (.getfield 22, 3) := dk_180 0 22 (dk_at dksX1_set_1 4 rfl rfl)
theorem dX1_set_30 : decode cX1_set 30 = .ok (.iload_n 1, 1) := dk_27 (dk_at dksX1_set_1 7 rfl rfl)
theorem dX1_set_31 : decode cX1_set 31 = .ok (.iload_n 3, 1) := dk_29 (dk_at dksX1_set_1 8 rfl rfl)
theorem dX1_set_32 : decode cX1_set 32 = .ok (.invokestatic 252, 3) := dk_184 0 252 (dk_at dksX1_set_1 9 rfl rfl)
theorem dX1_set_35 : decode cX1_set 35 = .ok (.goto 4, 3) := dk_167 0 4 (dk_at dksX1_set_1 12 rfl rfl)
theorem dX1_set_38 : decode cX1_set 38 = .ok (.iconst (-1), 1) := dk_2 (dk_at dksX1_set_1 15 rfl rfl)
theorem dX1_set_39 : decode cX1_set 39 = .ok (.ireturn, 1) := dk_172 (dk_at dksX1_set_1 16 rfl rfl)
theorem dX1_set_40 : decode cX1_set 40 = .ok (.iload_n 2, 1) := dk_28 (dk_at dksX1_set_1 17 rfl rfl)
theorem dX1_set_41 : decode cX1_set 41 = .ok (.iconst 1, 1) := dk_4 (dk_at dksX1_set_1 18 rfl rfl)
theorem dX1_set_42 : decode cX1_set 42 = .ok (.if_icmp .eq 8, 3) := dk_159 0 8 (dk_at dksX1_set_1 19 rfl rfl)
theorem dX1_set_45 : decode cX1_set 45 = .ok (.iload_n 2, 1) := dk_28 (dk_at dksX1_set_1 22 rfl rfl)
theorem dX1_set_46 : decode cX1_set 46 = .ok (.iconst 2, 1) := dk_5 (dk_at dksX1_set_1 23 rfl rfl)
theorem dX1_set_47 : decode cX1_set 47 = .ok (.if_icmp .ne 38, 3) := dk_160 0 38 (dk_at dksX1_set_2 0 rfl rfl)
theorem dX1_set_50 : decode cX1_set 50 = .ok (.iload_n 3, 1) := dk_29 (dk_at dksX1_set_2 3 rfl rfl)
theorem dX1_set_51 : decode cX1_set 51 = .ok (.i2l, 1) := dk_133 (dk_at dksX1_set_2 4 rfl rfl)
theorem dX1_set_52 : decode cX1_set 52 = .ok (.lconst 0, 1) := dk_9 (dk_at dksX1_set_2 5 rfl rfl)
theorem dX1_set_53 : decode cX1_set 53 = .ok (.ldc2_w 256, 3) := dk_20 1 0 (dk_at dksX1_set_2 6 rfl rfl)
theorem dX1_set_56 : decode cX1_set 56 = .ok (.invokestatic 100, 3) := dk_184 0 100 (dk_at dksX1_set_2 9 rfl rfl)
theorem dX1_set_59 : decode cX1_set 59 = .ok (.ifCond .eq 24, 3) := dk_153 0 24 (dk_at dksX1_set_2 12 rfl rfl)
theorem dX1_set_62 : decode cX1_set 62 = .ok (.aload_n 0, 1) := dk_42 (dk_at dksX1_set_2 15 rfl rfl)
theorem dX1_set_63 : decode cX1_set 63 = .ok (.getfield 12, 3) := dk_180 0 12 (dk_at dksX1_set_2 16 rfl rfl)
theorem dX1_set_66 : decode cX1_set 66 = .ok (.getfield 238, 3) := dk_180 0 238 (dk_at dksX1_set_2 19 rfl rfl)
theorem dX1_set_69 : decode cX1_set 69 = .ok (.iconst 2, 1) := dk_5 (dk_at dksX1_set_2 22 rfl rfl)
theorem dX1_set_70 : decode cX1_set 70 = .ok (.iload_n 1, 1) := dk_27 (dk_at dksX1_set_2 23 rfl rfl)
theorem dX1_set_71 : decode cX1_set 71 = .ok (.imul, 1) := dk_104 (dk_at dksX1_set_3 0 rfl rfl)
theorem dX1_set_72 : decode cX1_set 72 = .ok (.iload_n 2, 1) := dk_28 (dk_at dksX1_set_3 1 rfl rfl)
theorem dX1_set_73 : decode cX1_set 73 = .ok (.iadd, 1) := dk_96 (dk_at dksX1_set_3 2 rfl rfl)
theorem dX1_set_74 : decode cX1_set 74 = .ok (.iconst 1, 1) := dk_4 (dk_at dksX1_set_3 3 rfl rfl)
theorem dX1_set_75 : decode cX1_set 75 = .ok (.isub, 1) := dk_100 (dk_at dksX1_set_3 4 rfl rfl)
theorem dX1_set_76 : decode cX1_set 76 = .ok (.iload_n 3, 1) := dk_29 (dk_at dksX1_set_3 5 rfl rfl)
theorem dX1_set_77 : decode cX1_set 77 = .ok (.invokestatic 252, 3) := dk_184 0 252 (dk_at dksX1_set_3 6 rfl rfl)
theorem dX1_set_80 : decode cX1_set 80 = .ok (.goto 4, 3) := dk_167 0 4 (dk_at dksX1_set_3 9 rfl rfl)
theorem dX1_set_83 : decode cX1_set 83 = .ok (.iconst (-1), 1) := dk_2 (dk_at dksX1_set_3 12 rfl rfl)
theorem dX1_set_84 : decode cX1_set 84 = .ok (.ireturn, 1) := dk_172 (dk_at dksX1_set_3 13 rfl rfl)
theorem dX1_set_85 : decode cX1_set 85 = .ok (.iload_n 2, 1) := dk_28 (dk_at dksX1_set_3 14 rfl rfl)
theorem dX1_set_86 : decode cX1_set 86 = .ok (.iconst 3, 1) := dk_6 (dk_at dksX1_set_3 15 rfl rfl)
theorem dX1_set_87 : decode cX1_set 87 = .ok (.if_icmp .ne 32, 3) := dk_160 0 32 (dk_at dksX1_set_3 16 rfl rfl)
theorem dX1_set_90 : decode cX1_set 90 = .ok (.iload_n 3, 1) := dk_29 (dk_at dksX1_set_3 19 rfl rfl)
theorem dX1_set_91 : decode cX1_set 91 = .ok (.i2l, 1) := dk_133 (dk_at dksX1_set_3 20 rfl rfl)
theorem dX1_set_92 : decode cX1_set 92 = .ok (.lconst 0, 1) := dk_9 (dk_at dksX1_set_3 21 rfl rfl)
theorem dX1_set_93 : decode cX1_set 93 = .ok (.ldc2_w 256, 3) := dk_20 1 0 (dk_at dksX1_set_4 0 rfl rfl)
theorem dX1_set_96 : decode cX1_set 96 = .ok (.invokestatic 100, 3) := dk_184 0 100 (dk_at dksX1_set_4 3 rfl rfl)
theorem dX1_set_99 : decode cX1_set 99 = .ok (.ifCond .eq 18, 3) := dk_153 0 18 (dk_at dksX1_set_4 6 rfl rfl)
theorem dX1_set_102 : decode cX1_set 102 = .ok (.aload_n 0, 1) := dk_42 (dk_at dksX1_set_4 9 rfl rfl)
theorem dX1_set_103 : decode cX1_set 103 = .ok (.getfield 12, 3) := dk_180 0 12 (dk_at dksX1_set_4 10 rfl rfl)
theorem dX1_set_106 : decode cX1_set 106 = .ok (.getfield 241, 3) := dk_180 0 241 (dk_at dksX1_set_4 13 rfl rfl)
theorem dX1_set_109 : decode cX1_set 109 = .ok (.iload_n 1, 1) := dk_27 (dk_at dksX1_set_4 16 rfl rfl)
theorem dX1_set_110 : decode cX1_set 110 = .ok (.iload_n 3, 1) := dk_29 (dk_at dksX1_set_4 17 rfl rfl)
theorem dX1_set_111 : decode cX1_set 111 = .ok (.invokestatic 252, 3) := dk_184 0 252 (dk_at dksX1_set_4 18 rfl rfl)
theorem dX1_set_114 : decode cX1_set 114 = .ok (.goto 4, 3) := dk_167 0 4 (dk_at dksX1_set_4 21 rfl rfl)
theorem dX1_set_117 : decode cX1_set 117 = .ok (.iconst (-1), 1) := dk_2 (dk_at dksX1_set_5 0 rfl rfl)
theorem dX1_set_118 : decode cX1_set 118 = .ok (.ireturn, 1) := dk_172 (dk_at dksX1_set_5 1 rfl rfl)
theorem dX1_set_119 : decode cX1_set 119 = .ok (.iload_n 2, 1) := dk_28 (dk_at dksX1_set_5 2 rfl rfl)
theorem dX1_set_120 : decode cX1_set 120 = .ok (.iconst 4, 1) := dk_7 (dk_at dksX1_set_5 3 rfl rfl)
theorem dX1_set_121 : decode cX1_set 121 = .ok (.if_icmp .eq 8, 3) := dk_159 0 8 (dk_at dksX1_set_5 4 rfl rfl)
theorem dX1_set_124 : decode cX1_set 124 = .ok (.iload_n 2, 1) := dk_28 (dk_at dksX1_set_5 7 rfl rfl)
theorem dX1_set_125 : decode cX1_set 125 = .ok (.iconst 5, 1) := dk_8 (dk_at dksX1_set_5 8 rfl rfl)
theorem dX1_set_126 : decode cX1_set 126 = .ok (.if_icmp .ne 35, 3) := dk_160 0 35 (dk_at dksX1_set_5 9 rfl rfl)
theorem dX1_set_129 : decode cX1_set 129 = .ok (.iload_n 3, 1) := dk_29 (dk_at dksX1_set_5 12 rfl rfl)
theorem dX1_set_130 : decode cX1_set 130 = .ok (.i2l, 1) := dk_133 (dk_at dksX1_set_5 13 rfl rfl)
theorem dX1_set_131 : decode cX1_set 131 = .ok (.lconst 0, 1) := dk_9 (dk_at dksX1_set_5 14 rfl rfl)
theorem dX1_set_132 : decode cX1_set 132 = .ok (.ldc2_w 258, 3) := dk_20 1 2 (dk_at dksX1_set_5 15 rfl rfl)
theorem dX1_set_135 : decode cX1_set 135 = .ok (.invokestatic 100, 3) := dk_184 0 100 (dk_at dksX1_set_5 18 rfl rfl)
theorem dX1_set_138 : decode cX1_set 138 = .ok (.ifCond .eq 21, 3) := dk_153 0 21 (dk_at dksX1_set_5 21 rfl rfl)
theorem dX1_set_141 : decode cX1_set 141 = .ok (.aload_n 0, 1) := dk_42 (dk_at dksX1_set_6 0 rfl rfl)
theorem dX1_set_142 : decode cX1_set 142 = .ok (.getfield 26, 3) := dk_180 0 26 (dk_at dksX1_set_6 1 rfl rfl)
theorem dX1_set_145 : decode cX1_set 145 = .ok (.iconst 2, 1) := dk_5 (dk_at dksX1_set_6 4 rfl rfl)
theorem dX1_set_146 : decode cX1_set 146 = .ok (.iload_n 1, 1) := dk_27 (dk_at dksX1_set_6 5 rfl rfl)
theorem dX1_set_147 : decode cX1_set 147 = .ok (.imul, 1) := dk_104 (dk_at dksX1_set_6 6 rfl rfl)
theorem dX1_set_148 : decode cX1_set 148 = .ok (.iload_n 2, 1) := dk_28 (dk_at dksX1_set_6 7 rfl rfl)
theorem dX1_set_149 : decode cX1_set 149 = .ok (.iadd, 1) := dk_96 (dk_at dksX1_set_6 8 rfl rfl)
theorem dX1_set_150 : decode cX1_set 150 = .ok (.iconst 4, 1) := dk_7 (dk_at dksX1_set_6 9 rfl rfl)
theorem dX1_set_151 : decode cX1_set 151 = .ok (.isub, 1) := dk_100 (dk_at dksX1_set_6 10 rfl rfl)
theorem dX1_set_152 : decode cX1_set 152 = .ok (.iload_n 3, 1) := dk_29 (dk_at dksX1_set_6 11 rfl rfl)
theorem dX1_set_153 : decode cX1_set 153 = .ok (.invokestatic 252, 3) := dk_184 0 252 (dk_at dksX1_set_6 12 rfl rfl)
theorem dX1_set_156 : decode cX1_set 156 = .ok (.goto 4, 3) := dk_167 0 4 (dk_at dksX1_set_6 15 rfl rfl)
theorem dX1_set_159 : decode cX1_set 159 = .ok (.iconst (-1), 1) := dk_2 (dk_at dksX1_set_6 18 rfl rfl)
theorem dX1_set_160 : decode cX1_set 160 = .ok (.ireturn, 1) := dk_172 (dk_at dksX1_set_6 19 rfl rfl)
theorem dX1_set_161 : decode cX1_set 161 = .ok (.iload_n 2, 1) := dk_28 (dk_at dksX1_set_6 20 rfl rfl)
theorem dX1_set_162 : decode cX1_set 162 = .ok (.bipush 6, 2) := dk_16 6 (dk_at dksX1_set_6 21 rfl rfl)
theorem dX1_set_164 : decode cX1_set 164 = .ok (.if_icmp .ne 27, 3) := dk_160 0 27 (dk_at dksX1_set_7 0 rfl rfl)
theorem dX1_set_167 : decode cX1_set 167 = .ok (.iload_n 3, 1) := dk_29 (dk_at dksX1_set_7 3 rfl rfl)
theorem dX1_set_168 : decode cX1_set 168 = .ok (.i2l, 1) := dk_133 (dk_at dksX1_set_7 4 rfl rfl)
theorem dX1_set_169 : decode cX1_set 169 = .ok (.lconst 0, 1) := dk_9 (dk_at dksX1_set_7 5 rfl rfl)
theorem dX1_set_170 : decode cX1_set 170 = .ok (.ldc2_w 260, 3) := dk_20 1 4 (dk_at dksX1_set_7 6 rfl rfl)
theorem dX1_set_173 : decode cX1_set 173 = .ok (.invokestatic 100, 3) := dk_184 0 100 (dk_at dksX1_set_7 9 rfl rfl)
theorem dX1_set_176 : decode cX1_set 176 = .ok (.ifCond .eq 15, 3) := dk_153 0 15 (dk_at dksX1_set_7 12 rfl rfl)
theorem dX1_set_179 : decode cX1_set 179 = .ok (.aload_n 0, 1) := dk_42 (dk_at dksX1_set_7 15 rfl rfl)
theorem dX1_set_180 : decode cX1_set 180 = .ok (.getfield 29, 3) := dk_180 0 29 (dk_at dksX1_set_7 16 rfl rfl)
theorem dX1_set_183 : decode cX1_set 183 = .ok (.iload_n 1, 1) := dk_27 (dk_at dksX1_set_7 19 rfl rfl)
theorem dX1_set_184 : decode cX1_set 184 = .ok (.iload_n 3, 1) := dk_29 (dk_at dksX1_set_7 20 rfl rfl)
theorem dX1_set_185 : decode cX1_set 185 = .ok (.invokestatic 252, 3) := dk_184 0 252 (dk_at dksX1_set_7 21 rfl rfl)
theorem dX1_set_188 : decode cX1_set 188 = .ok (.goto 4, 3) := dk_167 0 4 (dk_at dksX1_set_8 0 rfl rfl)
theorem dX1_set_191 : decode cX1_set 191 = .ok (.iconst (-1), 1) := dk_2 (dk_at dksX1_set_8 3 rfl rfl)
theorem dX1_set_192 : decode cX1_set 192 = .ok (.ireturn, 1) := dk_172 (dk_at dksX1_set_8 4 rfl rfl)
abbrev cX1_isHouse : ByteArray := prog_1_method_4_code
def yX1_isHouse : MethodName := ⟨RX1, "isHouse", "(I)Z"⟩
def dkwX1_isHouse_0 : List UInt8 := [27, 133, 9, 42, 180, 0, 96, 4, 100, 133, 184, 0, 100, 172]
abbrev dktX1_isHouse_0 : List UInt8 := dkwX1_isHouse_0 ++ []
theorem dksX1_isHouse_0 : cX1_isHouse.data.toList.drop 0 = dktX1_isHouse_0 := by decide +kernel
theorem dX1_isHouse_0 : decode cX1_isHouse 0 = .ok (.iload_n 1, 1) := dk_27 (dk_at dksX1_isHouse_0 0 rfl rfl)
theorem dX1_isHouse_1 : decode cX1_isHouse 1 = .ok (.i2l, 1) := dk_133 (dk_at dksX1_isHouse_0 1 rfl rfl)
theorem dX1_isHouse_2 : decode cX1_isHouse 2 = .ok (.lconst 0, 1) := dk_9 (dk_at dksX1_isHouse_0 2 rfl rfl)
theorem dX1_isHouse_3 : decode cX1_isHouse 3 = .ok (.aload_n 0, 1) := dk_42 (dk_at dksX1_isHouse_0 3 rfl rfl)
theorem dX1_isHouse_4 : decode cX1_isHouse 4 = .ok (.getfield 96, 3) := dk_180 0 96 (dk_at dksX1_isHouse_0 4 rfl rfl)
theorem dX1_isHouse_7 : decode cX1_isHouse 7 = .ok (.iconst 1, 1) := dk_4 (dk_at dksX1_isHouse_0 7 rfl rfl)
theorem dX1_isHouse_8 : decode cX1_isHouse 8 = .ok (.isub, 1) := dk_100 (dk_at dksX1_isHouse_0 8 rfl rfl)
theorem dX1_isHouse_9 : decode cX1_isHouse 9 = .ok (.i2l, 1) := dk_133 (dk_at dksX1_isHouse_0 9 rfl rfl)
theorem dX1_isHouse_10 : decode cX1_isHouse 10 = .ok (.invokestatic 100, 3) := dk_184 0 100 (dk_at dksX1_isHouse_0 10 rfl rfl)
theorem dX1_isHouse_13 : decode cX1_isHouse 13 = .ok (.ireturn, 1) := dk_172 (dk_at dksX1_isHouse_0 13 rfl rfl)
abbrev cX1_puts : ByteArray := prog_1_method_28_code
def yX1_puts : MethodName := ⟨RX1, "puts", "([III)I"⟩
def dkwX1_puts_0 : List UInt8 := [42, 27, 46, 62, 42, 27, 28, 79, 29, 172]
abbrev dktX1_puts_0 : List UInt8 := dkwX1_puts_0 ++ []
theorem dksX1_puts_0 : cX1_puts.data.toList.drop 0 = dktX1_puts_0 := by decide +kernel
theorem dX1_puts_0 : decode cX1_puts 0 = .ok (.aload_n 0, 1) := dk_42 (dk_at dksX1_puts_0 0 rfl rfl)
theorem dX1_puts_1 : decode cX1_puts 1 = .ok (.iload_n 1, 1) := dk_27 (dk_at dksX1_puts_0 1 rfl rfl)
theorem dX1_puts_2 : decode cX1_puts 2 = .ok (.iaload, 1) := dk_46 (dk_at dksX1_puts_0 2 rfl rfl)
theorem dX1_puts_3 : decode cX1_puts 3 = .ok (.istore_n 3, 1) := dk_62 (dk_at dksX1_puts_0 3 rfl rfl)
theorem dX1_puts_4 : decode cX1_puts 4 = .ok (.aload_n 0, 1) := dk_42 (dk_at dksX1_puts_0 4 rfl rfl)
theorem dX1_puts_5 : decode cX1_puts 5 = .ok (.iload_n 1, 1) := dk_27 (dk_at dksX1_puts_0 5 rfl rfl)
theorem dX1_puts_6 : decode cX1_puts 6 = .ok (.iload_n 2, 1) := dk_28 (dk_at dksX1_puts_0 6 rfl rfl)
theorem dX1_puts_7 : decode cX1_puts 7 = .ok (.iastore, 1) := dk_79 (dk_at dksX1_puts_0 7 rfl rfl)
theorem dX1_puts_8 : decode cX1_puts 8 = .ok (.iload_n 3, 1) := dk_29 (dk_at dksX1_puts_0 8 rfl rfl)
theorem dX1_puts_9 : decode cX1_puts 9 = .ok (.ireturn, 1) := dk_172 (dk_at dksX1_puts_0 9 rfl rfl)
abbrev cX1_sheet : ByteArray := prog_1_method_30_code
def yX1_sheet : MethodName := ⟨RX1, "sheet", "(IIII)I"⟩
def dkwX1_sheet_6 : List UInt8 := [167, 255, 158, 27, 6, 160, 0, 8, 16, 253, 167, 0, 5, 21, 5, 172]
abbrev dktX1_sheet_6 : List UInt8 := dkwX1_sheet_6 ++ []
def dkwX1_sheet_5 : List UInt8 := [180, 0, 12, 180, 0, 238, 21, 7, 46, 96, 54, 5, 21, 6, 21, 4, 96, 54, 6, 132, 7, 1]
abbrev dktX1_sheet_5 : List UInt8 := dkwX1_sheet_5 ++ dktX1_sheet_6
def dkwX1_sheet_4 : List UInt8 := [28, 161, 0, 7, 3, 167, 0, 15, 3, 17, 3, 231, 21, 8, 184, 0, 130, 184, 0, 115, 79, 21, 5, 42]
abbrev dktX1_sheet_4 : List UInt8 := dkwX1_sheet_4 ++ dktX1_sheet_5
def dkwX1_sheet_3 : List UInt8 := [147, 167, 0, 5, 21, 6, 54, 8, 42, 180, 0, 12, 180, 0, 238, 21, 7, 27, 6, 159, 0, 9, 21, 7]
abbrev dktX1_sheet_3 : List UInt8 := dkwX1_sheet_3 ++ dktX1_sheet_4
def dkwX1_sheet_2 : List UInt8 := [180, 0, 96, 104, 162, 0, 93, 27, 154, 0, 9, 21, 6, 145, 167, 0, 16, 27, 4, 160, 0, 9, 21, 6]
abbrev dktX1_sheet_2 : List UInt8 := dkwX1_sheet_2 ++ dktX1_sheet_3
def dkwX1_sheet_1 : List UInt8 := [159, 0, 10, 28, 156, 0, 6, 16, 254, 172, 3, 54, 5, 29, 54, 6, 3, 54, 7, 21, 7, 5, 42]
abbrev dktX1_sheet_1 : List UInt8 := dkwX1_sheet_1 ++ dktX1_sheet_2
def dkwX1_sheet_0 : List UInt8 := [27, 133, 9, 20, 1, 6, 184, 0, 100, 153, 0, 9, 28, 16, 14, 164, 0, 5, 2, 172, 27, 6]
abbrev dktX1_sheet_0 : List UInt8 := dkwX1_sheet_0 ++ dktX1_sheet_1
theorem dksX1_sheet_0 : cX1_sheet.data.toList.drop 0 = dktX1_sheet_0 := by decide +kernel
theorem dksX1_sheet_1 : cX1_sheet.data.toList.drop 22 = dktX1_sheet_1 := dk_seg dksX1_sheet_0 22 rfl rfl
theorem dksX1_sheet_2 : cX1_sheet.data.toList.drop 45 = dktX1_sheet_2 := dk_seg dksX1_sheet_1 23 rfl rfl
theorem dksX1_sheet_3 : cX1_sheet.data.toList.drop 69 = dktX1_sheet_3 := dk_seg dksX1_sheet_2 24 rfl rfl
theorem dksX1_sheet_4 : cX1_sheet.data.toList.drop 93 = dktX1_sheet_4 := dk_seg dksX1_sheet_3 24 rfl rfl
theorem dksX1_sheet_5 : cX1_sheet.data.toList.drop 117 = dktX1_sheet_5 := dk_seg dksX1_sheet_4 24 rfl rfl
theorem dksX1_sheet_6 : cX1_sheet.data.toList.drop 139 = dktX1_sheet_6 := dk_seg dksX1_sheet_5 22 rfl rfl
theorem dX1_sheet_0 : decode cX1_sheet 0 = .ok (.iload_n 1, 1) := dk_27 (dk_at dksX1_sheet_0 0 rfl rfl)
theorem dX1_sheet_1 : decode cX1_sheet 1 = .ok (.i2l, 1) := dk_133 (dk_at dksX1_sheet_0 1 rfl rfl)
theorem dX1_sheet_2 : decode cX1_sheet 2 = .ok (.lconst 0, 1) := dk_9 (dk_at dksX1_sheet_0 2 rfl rfl)
theorem dX1_sheet_3 : decode cX1_sheet 3 = .ok (.ldc2_w 262, 3) := dk_20 1 6 (dk_at dksX1_sheet_0 3 rfl rfl)
theorem dX1_sheet_6 : decode cX1_sheet 6 = .ok (.invokestatic 100, 3) := dk_184 0 100 (dk_at dksX1_sheet_0 6 rfl rfl)
theorem dX1_sheet_9 : decode cX1_sheet 9 = .ok (.ifCond .eq 9, 3) := dk_153 0 9 (dk_at dksX1_sheet_0 9 rfl rfl)
theorem dX1_sheet_12 : decode cX1_sheet 12 = .ok (.iload_n 2, 1) := dk_28 (dk_at dksX1_sheet_0 12 rfl rfl)
theorem dX1_sheet_13 : decode cX1_sheet 13 = .ok (.bipush 14, 2) := dk_16 14 (dk_at dksX1_sheet_0 13 rfl rfl)
theorem dX1_sheet_15 : decode cX1_sheet 15 = .ok (.if_icmp .le 5, 3) := dk_164 0 5 (dk_at dksX1_sheet_0 15 rfl rfl)
theorem dX1_sheet_18 : decode cX1_sheet 18 = .ok (.iconst (-1), 1) := dk_2 (dk_at dksX1_sheet_0 18 rfl rfl)
theorem dX1_sheet_19 : decode cX1_sheet 19 = .ok (.ireturn, 1) := dk_172 (dk_at dksX1_sheet_0 19 rfl rfl)
theorem dX1_sheet_20 : decode cX1_sheet 20 = .ok (.iload_n 1, 1) := dk_27 (dk_at dksX1_sheet_0 20 rfl rfl)
theorem dX1_sheet_21 : decode cX1_sheet 21 = .ok (.iconst 3, 1) := dk_6 (dk_at dksX1_sheet_0 21 rfl rfl)
theorem dX1_sheet_22 : decode cX1_sheet 22 = .ok (.if_icmp .eq 10, 3) := dk_159 0 10 (dk_at dksX1_sheet_1 0 rfl rfl)
theorem dX1_sheet_25 : decode cX1_sheet 25 = .ok (.iload_n 2, 1) := dk_28 (dk_at dksX1_sheet_1 3 rfl rfl)
theorem dX1_sheet_26 : decode cX1_sheet 26 = .ok (.ifCond .ge 6, 3) := dk_156 0 6 (dk_at dksX1_sheet_1 4 rfl rfl)
theorem dX1_sheet_29 : decode cX1_sheet 29 = .ok (.bipush (-2), 2) := dk_16 254 (dk_at dksX1_sheet_1 7 rfl rfl)
theorem dX1_sheet_31 : decode cX1_sheet 31 = .ok (.ireturn, 1) := dk_172 (dk_at dksX1_sheet_1 9 rfl rfl)
theorem dX1_sheet_32 : decode cX1_sheet 32 = .ok (.iconst 0, 1) := dk_3 (dk_at dksX1_sheet_1 10 rfl rfl)
theorem dX1_sheet_33 : decode cX1_sheet 33 = .ok (.istore 5, 2) := dk_54 5 (dk_at dksX1_sheet_1 11 rfl rfl)
theorem dX1_sheet_35 : decode cX1_sheet 35 = .ok (.iload_n 3, 1) := dk_29 (dk_at dksX1_sheet_1 13 rfl rfl)
theorem dX1_sheet_36 : decode cX1_sheet 36 = .ok (.istore 6, 2) := dk_54 6 (dk_at dksX1_sheet_1 14 rfl rfl)
theorem dX1_sheet_38 : decode cX1_sheet 38 = .ok (.iconst 0, 1) := dk_3 (dk_at dksX1_sheet_1 16 rfl rfl)
theorem dX1_sheet_39 : decode cX1_sheet 39 = .ok (.istore 7, 2) := dk_54 7 (dk_at dksX1_sheet_1 17 rfl rfl)
theorem dX1_sheet_41 : decode cX1_sheet 41 = .ok (.iload 7, 2) := dk_21 7 (dk_at dksX1_sheet_1 19 rfl rfl)
theorem dX1_sheet_43 : decode cX1_sheet 43 = .ok (.iconst 2, 1) := dk_5 (dk_at dksX1_sheet_1 21 rfl rfl)
theorem dX1_sheet_44 : decode cX1_sheet 44 = .ok (.aload_n 0, 1) := dk_42 (dk_at dksX1_sheet_1 22 rfl rfl)
theorem dX1_sheet_45 : decode cX1_sheet 45 = .ok (.getfield 96, 3) := dk_180 0 96 (dk_at dksX1_sheet_2 0 rfl rfl)
theorem dX1_sheet_48 : decode cX1_sheet 48 = .ok (.imul, 1) := dk_104 (dk_at dksX1_sheet_2 3 rfl rfl)
theorem dX1_sheet_49 : decode cX1_sheet 49 = .ok (.if_icmp .ge 93, 3) := dk_162 0 93 (dk_at dksX1_sheet_2 4 rfl rfl)
theorem dX1_sheet_52 : decode cX1_sheet 52 = .ok (.iload_n 1, 1) := dk_27 (dk_at dksX1_sheet_2 7 rfl rfl)
theorem dX1_sheet_53 : decode cX1_sheet 53 = .ok (.ifCond .ne 9, 3) := dk_154 0 9 (dk_at dksX1_sheet_2 8 rfl rfl)
theorem dX1_sheet_56 : decode cX1_sheet 56 = .ok (.iload 6, 2) := dk_21 6 (dk_at dksX1_sheet_2 11 rfl rfl)
theorem dX1_sheet_58 : decode cX1_sheet 58 = .ok (.i2b, 1) := dk_145 (dk_at dksX1_sheet_2 13 rfl rfl)
theorem dX1_sheet_59 : decode cX1_sheet 59 = .ok (.goto 16, 3) := dk_167 0 16 (dk_at dksX1_sheet_2 14 rfl rfl)
theorem dX1_sheet_62 : decode cX1_sheet 62 = .ok (.iload_n 1, 1) := dk_27 (dk_at dksX1_sheet_2 17 rfl rfl)
theorem dX1_sheet_63 : decode cX1_sheet 63 = .ok (.iconst 1, 1) := dk_4 (dk_at dksX1_sheet_2 18 rfl rfl)
theorem dX1_sheet_64 : decode cX1_sheet 64 = .ok (.if_icmp .ne 9, 3) := dk_160 0 9 (dk_at dksX1_sheet_2 19 rfl rfl)
theorem dX1_sheet_67 : decode cX1_sheet 67 = .ok (.iload 6, 2) := dk_21 6 (dk_at dksX1_sheet_2 22 rfl rfl)
theorem dX1_sheet_69 : decode cX1_sheet 69 = .ok (.i2s, 1) := dk_147 (dk_at dksX1_sheet_3 0 rfl rfl)
theorem dX1_sheet_70 : decode cX1_sheet 70 = .ok (.goto 5, 3) := dk_167 0 5 (dk_at dksX1_sheet_3 1 rfl rfl)
theorem dX1_sheet_73 : decode cX1_sheet 73 = .ok (.iload 6, 2) := dk_21 6 (dk_at dksX1_sheet_3 4 rfl rfl)
theorem dX1_sheet_75 : decode cX1_sheet 75 = .ok (.istore 8, 2) := dk_54 8 (dk_at dksX1_sheet_3 6 rfl rfl)
theorem dX1_sheet_77 : decode cX1_sheet 77 = .ok (.aload_n 0, 1) := dk_42 (dk_at dksX1_sheet_3 8 rfl rfl)
theorem dX1_sheet_78 : decode cX1_sheet 78 = .ok (.getfield 12, 3) := dk_180 0 12 (dk_at dksX1_sheet_3 9 rfl rfl)
theorem dX1_sheet_81 : decode cX1_sheet 81 = .ok (.getfield 238, 3) := dk_180 0 238 (dk_at dksX1_sheet_3 12 rfl rfl)
theorem dX1_sheet_84 : decode cX1_sheet 84 = .ok (.iload 7, 2) := dk_21 7 (dk_at dksX1_sheet_3 15 rfl rfl)
theorem dX1_sheet_86 : decode cX1_sheet 86 = .ok (.iload_n 1, 1) := dk_27 (dk_at dksX1_sheet_3 17 rfl rfl)
theorem dX1_sheet_87 : decode cX1_sheet 87 = .ok (.iconst 3, 1) := dk_6 (dk_at dksX1_sheet_3 18 rfl rfl)
theorem dX1_sheet_88 : decode cX1_sheet 88 = .ok (.if_icmp .eq 9, 3) := dk_159 0 9 (dk_at dksX1_sheet_3 19 rfl rfl)
theorem dX1_sheet_91 : decode cX1_sheet 91 = .ok (.iload 7, 2) := dk_21 7 (dk_at dksX1_sheet_3 22 rfl rfl)
theorem dX1_sheet_93 : decode cX1_sheet 93 = .ok (.iload_n 2, 1) := dk_28 (dk_at dksX1_sheet_4 0 rfl rfl)
theorem dX1_sheet_94 : decode cX1_sheet 94 = .ok (.if_icmp .lt 7, 3) := dk_161 0 7 (dk_at dksX1_sheet_4 1 rfl rfl)
theorem dX1_sheet_97 : decode cX1_sheet 97 = .ok (.iconst 0, 1) := dk_3 (dk_at dksX1_sheet_4 4 rfl rfl)
theorem dX1_sheet_98 : decode cX1_sheet 98 = .ok (.goto 15, 3) := dk_167 0 15 (dk_at dksX1_sheet_4 5 rfl rfl)
theorem dX1_sheet_101 : decode cX1_sheet 101 = .ok (.iconst 0, 1) := dk_3 (dk_at dksX1_sheet_4 8 rfl rfl)
theorem dX1_sheet_102 : decode cX1_sheet 102 = .ok (.sipush 999, 3) := dk_17 3 231 (dk_at dksX1_sheet_4 9 rfl rfl)
theorem dX1_sheet_105 : decode cX1_sheet 105 = .ok (.iload 8, 2) := dk_21 8 (dk_at dksX1_sheet_4 12 rfl rfl)
theorem dX1_sheet_107 : decode cX1_sheet 107 = .ok (.invokestatic 130, 3) := dk_184 0 130 (dk_at dksX1_sheet_4 14 rfl rfl)
theorem dX1_sheet_110 : decode cX1_sheet 110 = .ok (.invokestatic 115, 3) := dk_184 0 115 (dk_at dksX1_sheet_4 17 rfl rfl)
theorem dX1_sheet_113 : decode cX1_sheet 113 = .ok (.iastore, 1) := dk_79 (dk_at dksX1_sheet_4 20 rfl rfl)
theorem dX1_sheet_114 : decode cX1_sheet 114 = .ok (.iload 5, 2) := dk_21 5 (dk_at dksX1_sheet_4 21 rfl rfl)
theorem dX1_sheet_116 : decode cX1_sheet 116 = .ok (.aload_n 0, 1) := dk_42 (dk_at dksX1_sheet_4 23 rfl rfl)
theorem dX1_sheet_117 : decode cX1_sheet 117 = .ok (.getfield 12, 3) := dk_180 0 12 (dk_at dksX1_sheet_5 0 rfl rfl)
theorem dX1_sheet_120 : decode cX1_sheet 120 = .ok (.getfield 238, 3) := dk_180 0 238 (dk_at dksX1_sheet_5 3 rfl rfl)
theorem dX1_sheet_123 : decode cX1_sheet 123 = .ok (.iload 7, 2) := dk_21 7 (dk_at dksX1_sheet_5 6 rfl rfl)
theorem dX1_sheet_125 : decode cX1_sheet 125 = .ok (.iaload, 1) := dk_46 (dk_at dksX1_sheet_5 8 rfl rfl)
theorem dX1_sheet_126 : decode cX1_sheet 126 = .ok (.iadd, 1) := dk_96 (dk_at dksX1_sheet_5 9 rfl rfl)
theorem dX1_sheet_127 : decode cX1_sheet 127 = .ok (.istore 5, 2) := dk_54 5 (dk_at dksX1_sheet_5 10 rfl rfl)
theorem dX1_sheet_129 : decode cX1_sheet 129 = .ok (.iload 6, 2) := dk_21 6 (dk_at dksX1_sheet_5 12 rfl rfl)
theorem dX1_sheet_131 : decode cX1_sheet 131 = .ok (.iload 4, 2) := dk_21 4 (dk_at dksX1_sheet_5 14 rfl rfl)
theorem dX1_sheet_133 : decode cX1_sheet 133 = .ok (.iadd, 1) := dk_96 (dk_at dksX1_sheet_5 16 rfl rfl)
theorem dX1_sheet_134 : decode cX1_sheet 134 = .ok (.istore 6, 2) := dk_54 6 (dk_at dksX1_sheet_5 17 rfl rfl)
theorem dX1_sheet_136 : decode cX1_sheet 136 = .ok (.iinc 7 1, 3) := dk_132 7 1 (dk_at dksX1_sheet_5 19 rfl rfl)
theorem dX1_sheet_139 : decode cX1_sheet 139 = .ok (.goto (-98), 3) := dk_167 255 158 (dk_at dksX1_sheet_6 0 rfl rfl)
theorem dX1_sheet_142 : decode cX1_sheet 142 = .ok (.iload_n 1, 1) := dk_27 (dk_at dksX1_sheet_6 3 rfl rfl)
theorem dX1_sheet_143 : decode cX1_sheet 143 = .ok (.iconst 3, 1) := dk_6 (dk_at dksX1_sheet_6 4 rfl rfl)
theorem dX1_sheet_144 : decode cX1_sheet 144 = .ok (.if_icmp .ne 8, 3) := dk_160 0 8 (dk_at dksX1_sheet_6 5 rfl rfl)
theorem dX1_sheet_147 : decode cX1_sheet 147 = .ok (.bipush (-3), 2) := dk_16 253 (dk_at dksX1_sheet_6 8 rfl rfl)
theorem dX1_sheet_149 : decode cX1_sheet 149 = .ok (.goto 5, 3) := dk_167 0 5 (dk_at dksX1_sheet_6 10 rfl rfl)
theorem dX1_sheet_152 : decode cX1_sheet 152 = .ok (.iload 5, 2) := dk_21 5 (dk_at dksX1_sheet_6 13 rfl rfl)
theorem dX1_sheet_154 : decode cX1_sheet 154 = .ok (.ireturn, 1) := dk_172 (dk_at dksX1_sheet_6 15 rfl rfl)
abbrev cX1_above : ByteArray := prog_1_method_31_code
def yX1_above : MethodName := ⟨RX1, "above", "(I)I"⟩
def dkwX1_above_5 : List UInt8 := [167, 255, 159, 42, 3, 181, 1, 8, 42, 29, 182, 1, 11, 42, 21, 4, 182, 1, 11, 28, 172]
abbrev dktX1_above_5 : List UInt8 := dkwX1_above_5 ++ []
def dkwX1_above_4 : List UInt8 := [180, 0, 12, 180, 0, 238, 21, 4, 46, 164, 0, 8, 21, 5, 167, 0, 5, 21, 4, 54, 4, 132, 5, 1]
abbrev dktX1_above_4 : List UInt8 := dkwX1_above_4 ++ dktX1_above_5
def dkwX1_above_3 : List UInt8 := [96, 62, 42, 180, 0, 12, 180, 0, 238, 21, 5, 46, 21, 4, 156, 0, 7, 3, 167, 0, 13, 42]
abbrev dktX1_above_3 : List UInt8 := dkwX1_above_3 ++ dktX1_above_4
def dkwX1_above_2 : List UInt8 := [160, 0, 6, 167, 0, 64, 28, 4, 21, 5, 120, 128, 61, 29, 42, 180, 0, 12, 180, 0, 238, 21, 5, 46]
abbrev dktX1_above_2 : List UInt8 := dkwX1_above_2 ++ dktX1_above_3
def dkwX1_above_1 : List UInt8 := [180, 0, 96, 104, 162, 0, 92, 42, 180, 0, 26, 21, 5, 46, 27, 160, 0, 75, 21, 5, 5, 108, 27]
abbrev dktX1_above_1 : List UInt8 := dkwX1_above_1 ++ dktX1_above_2
def dkwX1_above_0 : List UInt8 := [42, 27, 182, 0, 104, 154, 0, 5, 2, 172, 3, 61, 3, 62, 2, 54, 4, 3, 54, 5, 21, 5, 5, 42]
abbrev dktX1_above_0 : List UInt8 := dkwX1_above_0 ++ dktX1_above_1
theorem dksX1_above_0 : cX1_above.data.toList.drop 0 = dktX1_above_0 := by decide +kernel
theorem dksX1_above_1 : cX1_above.data.toList.drop 24 = dktX1_above_1 := dk_seg dksX1_above_0 24 rfl rfl
theorem dksX1_above_2 : cX1_above.data.toList.drop 47 = dktX1_above_2 := dk_seg dksX1_above_1 23 rfl rfl
theorem dksX1_above_3 : cX1_above.data.toList.drop 71 = dktX1_above_3 := dk_seg dksX1_above_2 24 rfl rfl
theorem dksX1_above_4 : cX1_above.data.toList.drop 93 = dktX1_above_4 := dk_seg dksX1_above_3 22 rfl rfl
theorem dksX1_above_5 : cX1_above.data.toList.drop 117 = dktX1_above_5 := dk_seg dksX1_above_4 24 rfl rfl
theorem dX1_above_0 : decode cX1_above 0 = .ok (.aload_n 0, 1) := dk_42 (dk_at dksX1_above_0 0 rfl rfl)
theorem dX1_above_1 : decode cX1_above 1 = .ok (.iload_n 1, 1) := dk_27 (dk_at dksX1_above_0 1 rfl rfl)
theorem dX1_above_2 : decode cX1_above 2 = .ok (.invokevirtual 104, 3) := dk_182 0 104 (dk_at dksX1_above_0 2 rfl rfl)
theorem dX1_above_5 : decode cX1_above 5 = .ok (.ifCond .ne 5, 3) := dk_154 0 5 (dk_at dksX1_above_0 5 rfl rfl)
theorem dX1_above_8 : decode cX1_above 8 = .ok (.iconst (-1), 1) := dk_2 (dk_at dksX1_above_0 8 rfl rfl)
theorem dX1_above_9 : decode cX1_above 9 = .ok (.ireturn, 1) := dk_172 (dk_at dksX1_above_0 9 rfl rfl)
theorem dX1_above_10 : decode cX1_above 10 = .ok (.iconst 0, 1) := dk_3 (dk_at dksX1_above_0 10 rfl rfl)
theorem dX1_above_11 : decode cX1_above 11 = .ok (.istore_n 2, 1) := dk_61 (dk_at dksX1_above_0 11 rfl rfl)
theorem dX1_above_12 : decode cX1_above 12 = .ok (.iconst 0, 1) := dk_3 (dk_at dksX1_above_0 12 rfl rfl)
theorem dX1_above_13 : decode cX1_above 13 = .ok (.istore_n 3, 1) := dk_62 (dk_at dksX1_above_0 13 rfl rfl)
theorem dX1_above_14 : decode cX1_above 14 = .ok (.iconst (-1), 1) := dk_2 (dk_at dksX1_above_0 14 rfl rfl)
theorem dX1_above_15 : decode cX1_above 15 = .ok (.istore 4, 2) := dk_54 4 (dk_at dksX1_above_0 15 rfl rfl)
theorem dX1_above_17 : decode cX1_above 17 = .ok (.iconst 0, 1) := dk_3 (dk_at dksX1_above_0 17 rfl rfl)
theorem dX1_above_18 : decode cX1_above 18 = .ok (.istore 5, 2) := dk_54 5 (dk_at dksX1_above_0 18 rfl rfl)
theorem dX1_above_20 : decode cX1_above 20 = .ok (.iload 5, 2) := dk_21 5 (dk_at dksX1_above_0 20 rfl rfl)
theorem dX1_above_22 : decode cX1_above 22 = .ok (.iconst 2, 1) := dk_5 (dk_at dksX1_above_0 22 rfl rfl)
theorem dX1_above_23 : decode cX1_above 23 = .ok (.aload_n 0, 1) := dk_42 (dk_at dksX1_above_0 23 rfl rfl)
theorem dX1_above_24 : decode cX1_above 24 = .ok (.getfield 96, 3) := dk_180 0 96 (dk_at dksX1_above_1 0 rfl rfl)
theorem dX1_above_27 : decode cX1_above 27 = .ok (.imul, 1) := dk_104 (dk_at dksX1_above_1 3 rfl rfl)
theorem dX1_above_28 : decode cX1_above 28 = .ok (.if_icmp .ge 92, 3) := dk_162 0 92 (dk_at dksX1_above_1 4 rfl rfl)
theorem dX1_above_31 : decode cX1_above 31 = .ok (.aload_n 0, 1) := dk_42 (dk_at dksX1_above_1 7 rfl rfl)
theorem dX1_above_32 : decode cX1_above 32 = .ok (.getfield 26, 3) := dk_180 0 26 (dk_at dksX1_above_1 8 rfl rfl)
theorem dX1_above_35 : decode cX1_above 35 = .ok (.iload 5, 2) := dk_21 5 (dk_at dksX1_above_1 11 rfl rfl)
theorem dX1_above_37 : decode cX1_above 37 = .ok (.iaload, 1) := dk_46 (dk_at dksX1_above_1 13 rfl rfl)
theorem dX1_above_38 : decode cX1_above 38 = .ok (.iload_n 1, 1) := dk_27 (dk_at dksX1_above_1 14 rfl rfl)
theorem dX1_above_39 : decode cX1_above 39 = .ok (.if_icmp .ne 75, 3) := dk_160 0 75 (dk_at dksX1_above_1 15 rfl rfl)
theorem dX1_above_42 : decode cX1_above 42 = .ok (.iload 5, 2) := dk_21 5 (dk_at dksX1_above_1 18 rfl rfl)
theorem dX1_above_44 : decode cX1_above 44 = .ok (.iconst 2, 1) := dk_5 (dk_at dksX1_above_1 20 rfl rfl)
theorem dX1_above_45 : decode cX1_above 45 = .ok (.idiv, 1) := dk_108 (dk_at dksX1_above_1 21 rfl rfl)
theorem dX1_above_46 : decode cX1_above 46 = .ok (.iload_n 1, 1) := dk_27 (dk_at dksX1_above_1 22 rfl rfl)
theorem dX1_above_47 : decode cX1_above 47 = .ok (.if_icmp .ne 6, 3) := dk_160 0 6 (dk_at dksX1_above_2 0 rfl rfl)
theorem dX1_above_50 : decode cX1_above 50 = .ok (.goto 64, 3) := dk_167 0 64 (dk_at dksX1_above_2 3 rfl rfl)
theorem dX1_above_53 : decode cX1_above 53 = .ok (.iload_n 2, 1) := dk_28 (dk_at dksX1_above_2 6 rfl rfl)
theorem dX1_above_54 : decode cX1_above 54 = .ok (.iconst 1, 1) := dk_4 (dk_at dksX1_above_2 7 rfl rfl)
theorem dX1_above_55 : decode cX1_above 55 = .ok (.iload 5, 2) := dk_21 5 (dk_at dksX1_above_2 8 rfl rfl)
theorem dX1_above_57 : decode cX1_above 57 = .ok (.ishl, 1) := dk_120 (dk_at dksX1_above_2 10 rfl rfl)
theorem dX1_above_58 : decode cX1_above 58 = .ok (.ior, 1) := dk_128 (dk_at dksX1_above_2 11 rfl rfl)
theorem dX1_above_59 : decode cX1_above 59 = .ok (.istore_n 2, 1) := dk_61 (dk_at dksX1_above_2 12 rfl rfl)
theorem dX1_above_60 : decode cX1_above 60 = .ok (.iload_n 3, 1) := dk_29 (dk_at dksX1_above_2 13 rfl rfl)
theorem dX1_above_61 : decode cX1_above 61 = .ok (.aload_n 0, 1) := dk_42 (dk_at dksX1_above_2 14 rfl rfl)
theorem dX1_above_62 : decode cX1_above 62 = .ok (.getfield 12, 3) := dk_180 0 12 (dk_at dksX1_above_2 15 rfl rfl)
theorem dX1_above_65 : decode cX1_above 65 = .ok (.getfield 238, 3) := dk_180 0 238 (dk_at dksX1_above_2 18 rfl rfl)
theorem dX1_above_68 : decode cX1_above 68 = .ok (.iload 5, 2) := dk_21 5 (dk_at dksX1_above_2 21 rfl rfl)
theorem dX1_above_70 : decode cX1_above 70 = .ok (.iaload, 1) := dk_46 (dk_at dksX1_above_2 23 rfl rfl)
theorem dX1_above_71 : decode cX1_above 71 = .ok (.iadd, 1) := dk_96 (dk_at dksX1_above_3 0 rfl rfl)
theorem dX1_above_72 : decode cX1_above 72 = .ok (.istore_n 3, 1) := dk_62 (dk_at dksX1_above_3 1 rfl rfl)
theorem dX1_above_73 : decode cX1_above 73 = .ok (.aload_n 0, 1) := dk_42 (dk_at dksX1_above_3 2 rfl rfl)
theorem dX1_above_74 : decode cX1_above 74 = .ok (.getfield 12, 3) := dk_180 0 12 (dk_at dksX1_above_3 3 rfl rfl)
theorem dX1_above_77 : decode cX1_above 77 = .ok (.getfield 238, 3) := dk_180 0 238 (dk_at dksX1_above_3 6 rfl rfl)
theorem dX1_above_80 : decode cX1_above 80 = .ok (.iload 5, 2) := dk_21 5 (dk_at dksX1_above_3 9 rfl rfl)
theorem dX1_above_82 : decode cX1_above 82 = .ok (.iaload, 1) := dk_46 (dk_at dksX1_above_3 11 rfl rfl)
theorem dX1_above_83 : decode cX1_above 83 = .ok (.iload 4, 2) := dk_21 4 (dk_at dksX1_above_3 12 rfl rfl)
theorem dX1_above_85 : decode cX1_above 85 = .ok (.ifCond .ge 7, 3) := dk_156 0 7 (dk_at dksX1_above_3 14 rfl rfl)
theorem dX1_above_88 : decode cX1_above 88 = .ok (.iconst 0, 1) := dk_3 (dk_at dksX1_above_3 17 rfl rfl)
theorem dX1_above_89 : decode cX1_above 89 = .ok (.goto 13, 3) := dk_167 0 13 (dk_at dksX1_above_3 18 rfl rfl)
theorem dX1_above_92 : decode cX1_above 92 = .ok (.aload_n 0, 1) := dk_42 (dk_at dksX1_above_3 21 rfl rfl)
theorem dX1_above_93 : decode cX1_above 93 = .ok (.getfield 12, 3) := dk_180 0 12 (dk_at dksX1_above_4 0 rfl rfl)
theorem dX1_above_96 : decode cX1_above 96 = .ok (.getfield 238, 3) := dk_180 0 238 (dk_at dksX1_above_4 3 rfl rfl)
theorem dX1_above_99 : decode cX1_above 99 = .ok (.iload 4, 2) := dk_21 4 (dk_at dksX1_above_4 6 rfl rfl)
theorem dX1_above_101 : decode cX1_above 101 = .ok (.iaload, 1) := dk_46 (dk_at dksX1_above_4 8 rfl rfl)
theorem dX1_above_102 : decode cX1_above 102 = .ok (.if_icmp .le 8, 3) := dk_164 0 8 (dk_at dksX1_above_4 9 rfl rfl)
theorem dX1_above_105 : decode cX1_above 105 = .ok (.iload 5, 2) := dk_21 5 (dk_at dksX1_above_4 12 rfl rfl)
theorem dX1_above_107 : decode cX1_above 107 = .ok (.goto 5, 3) := dk_167 0 5 (dk_at dksX1_above_4 14 rfl rfl)
theorem dX1_above_110 : decode cX1_above 110 = .ok (.iload 4, 2) := dk_21 4 (dk_at dksX1_above_4 17 rfl rfl)
theorem dX1_above_112 : decode cX1_above 112 = .ok (.istore 4, 2) := dk_54 4 (dk_at dksX1_above_4 19 rfl rfl)
theorem dX1_above_114 : decode cX1_above 114 = .ok (.iinc 5 1, 3) := dk_132 5 1 (dk_at dksX1_above_4 21 rfl rfl)
theorem dX1_above_117 : decode cX1_above 117 = .ok (.goto (-97), 3) := dk_167 255 159 (dk_at dksX1_above_5 0 rfl rfl)
theorem dX1_above_120 : decode cX1_above 120 = .ok (.aload_n 0, 1) := dk_42 (dk_at dksX1_above_5 3 rfl rfl)
theorem dX1_above_121 : decode cX1_above 121 = .ok (.iconst 0, 1) := dk_3 (dk_at dksX1_above_5 4 rfl rfl)
theorem dX1_above_122 : decode cX1_above 122 = .ok (.putfield 264, 3) := dk_181 1 8 (dk_at dksX1_above_5 5 rfl rfl)
theorem dX1_above_125 : decode cX1_above 125 = .ok (.aload_n 0, 1) := dk_42 (dk_at dksX1_above_5 8 rfl rfl)
theorem dX1_above_126 : decode cX1_above 126 = .ok (.iload_n 3, 1) := dk_29 (dk_at dksX1_above_5 9 rfl rfl)
theorem dX1_above_127 : decode cX1_above 127 = .ok (.invokevirtual 267, 3) := dk_182 1 11 (dk_at dksX1_above_5 10 rfl rfl)
theorem dX1_above_130 : decode cX1_above 130 = .ok (.aload_n 0, 1) := dk_42 (dk_at dksX1_above_5 13 rfl rfl)
theorem dX1_above_131 : decode cX1_above 131 = .ok (.iload 4, 2) := dk_21 4 (dk_at dksX1_above_5 14 rfl rfl)
theorem dX1_above_133 : decode cX1_above 133 = .ok (.invokevirtual 267, 3) := dk_182 1 11 (dk_at dksX1_above_5 16 rfl rfl)
theorem dX1_above_136 : decode cX1_above 136 = .ok (.iload_n 2, 1) := dk_28 (dk_at dksX1_above_5 19 rfl rfl)
theorem dX1_above_137 : decode cX1_above 137 = .ok (.ireturn, 1) := dk_172 (dk_at dksX1_above_5 20 rfl rfl)
abbrev cX1_tells : ByteArray := prog_1_method_103_code
def yX1_tells : MethodName := ⟨RX1, "tells", "(I)V"⟩
def dkwX1_tells_0 : List UInt8 := [42, 180, 0, 93, 42, 180, 1, 8, 27, 79, 42, 89, 180, 1, 8, 4, 96, 181, 1, 8, 177]
abbrev dktX1_tells_0 : List UInt8 := dkwX1_tells_0 ++ []
theorem dksX1_tells_0 : cX1_tells.data.toList.drop 0 = dktX1_tells_0 := by decide +kernel
theorem dX1_tells_0 : decode cX1_tells 0 = .ok (.aload_n 0, 1) := dk_42 (dk_at dksX1_tells_0 0 rfl rfl)
theorem dX1_tells_1 : decode cX1_tells 1 = .ok (.getfield 93, 3) := dk_180 0 93 (dk_at dksX1_tells_0 1 rfl rfl)
theorem dX1_tells_4 : decode cX1_tells 4 = .ok (.aload_n 0, 1) := dk_42 (dk_at dksX1_tells_0 4 rfl rfl)
theorem dX1_tells_5 : decode cX1_tells 5 = .ok (.getfield 264, 3) := dk_180 1 8 (dk_at dksX1_tells_0 5 rfl rfl)
theorem dX1_tells_8 : decode cX1_tells 8 = .ok (.iload_n 1, 1) := dk_27 (dk_at dksX1_tells_0 8 rfl rfl)
theorem dX1_tells_9 : decode cX1_tells 9 = .ok (.iastore, 1) := dk_79 (dk_at dksX1_tells_0 9 rfl rfl)
theorem dX1_tells_10 : decode cX1_tells 10 = .ok (.aload_n 0, 1) := dk_42 (dk_at dksX1_tells_0 10 rfl rfl)
theorem dX1_tells_11 : decode cX1_tells 11 = .ok (.dup, 1) := dk_89 (dk_at dksX1_tells_0 11 rfl rfl)
theorem dX1_tells_12 : decode cX1_tells 12 = .ok (.getfield 264, 3) := dk_180 1 8 (dk_at dksX1_tells_0 12 rfl rfl)
theorem dX1_tells_15 : decode cX1_tells 15 = .ok (.iconst 1, 1) := dk_4 (dk_at dksX1_tells_0 15 rfl rfl)
theorem dX1_tells_16 : decode cX1_tells 16 = .ok (.iadd, 1) := dk_96 (dk_at dksX1_tells_0 16 rfl rfl)
theorem dX1_tells_17 : decode cX1_tells 17 = .ok (.putfield 264, 3) := dk_181 1 8 (dk_at dksX1_tells_0 17 rfl rfl)
theorem dX1_tells_20 : decode cX1_tells 20 = .ok (.return_, 1) := dk_177 (dk_at dksX1_tells_0 20 rfl rfl)
abbrev cX1_debt : ByteArray := prog_1_method_32_code
def yX1_debt : MethodName := ⟨RX1, "debt", "(II)I"⟩
def dkwX1_debt_1 : List UInt8 := [167, 0, 4, 2, 172]
abbrev dktX1_debt_1 : List UInt8 := dkwX1_debt_1 ++ []
def dkwX1_debt_0 : List UInt8 := [42, 27, 28, 182, 1, 15, 153, 0, 20, 42, 180, 0, 12, 180, 1, 19, 16, 7, 27, 104, 28, 96, 46]
abbrev dktX1_debt_0 : List UInt8 := dkwX1_debt_0 ++ dktX1_debt_1
theorem dksX1_debt_0 : cX1_debt.data.toList.drop 0 = dktX1_debt_0 := by decide +kernel
theorem dksX1_debt_1 : cX1_debt.data.toList.drop 23 = dktX1_debt_1 := dk_seg dksX1_debt_0 23 rfl rfl
theorem dX1_debt_0 : decode cX1_debt 0 = .ok (.aload_n 0, 1) := dk_42 (dk_at dksX1_debt_0 0 rfl rfl)
theorem dX1_debt_1 : decode cX1_debt 1 = .ok (.iload_n 1, 1) := dk_27 (dk_at dksX1_debt_0 1 rfl rfl)
theorem dX1_debt_2 : decode cX1_debt 2 = .ok (.iload_n 2, 1) := dk_28 (dk_at dksX1_debt_0 2 rfl rfl)
theorem dX1_debt_3 : decode cX1_debt 3 = .ok (.invokevirtual 271, 3) := dk_182 1 15 (dk_at dksX1_debt_0 3 rfl rfl)
theorem dX1_debt_6 : decode cX1_debt 6 = .ok (.ifCond .eq 20, 3) := dk_153 0 20 (dk_at dksX1_debt_0 6 rfl rfl)
theorem dX1_debt_9 : decode cX1_debt 9 = .ok (.aload_n 0, 1) := dk_42 (dk_at dksX1_debt_0 9 rfl rfl)
theorem dX1_debt_10 : decode cX1_debt 10 = .ok (.getfield 12, 3) := dk_180 0 12 (dk_at dksX1_debt_0 10 rfl rfl)
theorem dX1_debt_13 : decode cX1_debt 13 = .ok (.getfield 275, 3) := dk_180 1 19 (dk_at dksX1_debt_0 13 rfl rfl)
theorem dX1_debt_16 : decode cX1_debt 16 = .ok (.bipush 7, 2) := dk_16 7 (dk_at dksX1_debt_0 16 rfl rfl)
theorem dX1_debt_18 : decode cX1_debt 18 = .ok (.iload_n 1, 1) := dk_27 (dk_at dksX1_debt_0 18 rfl rfl)
theorem dX1_debt_19 : decode cX1_debt 19 = .ok (.imul, 1) := dk_104 (dk_at dksX1_debt_0 19 rfl rfl)
theorem dX1_debt_20 : decode cX1_debt 20 = .ok (.iload_n 2, 1) := dk_28 (dk_at dksX1_debt_0 20 rfl rfl)
theorem dX1_debt_21 : decode cX1_debt 21 = .ok (.iadd, 1) := dk_96 (dk_at dksX1_debt_0 21 rfl rfl)
theorem dX1_debt_22 : decode cX1_debt 22 = .ok (.iaload, 1) := dk_46 (dk_at dksX1_debt_0 22 rfl rfl)
theorem dX1_debt_23 : decode cX1_debt 23 = .ok (.goto 4, 3) := dk_167 0 4 (dk_at dksX1_debt_1 0 rfl rfl)
theorem dX1_debt_26 : decode cX1_debt 26 = .ok (.iconst (-1), 1) := dk_2 (dk_at dksX1_debt_1 3 rfl rfl)
theorem dX1_debt_27 : decode cX1_debt 27 = .ok (.ireturn, 1) := dk_172 (dk_at dksX1_debt_1 4 rfl rfl)
abbrev cX1_areTwo : ByteArray := prog_1_method_6_code
def yX1_areTwo : MethodName := ⟨RX1, "areTwo", "(II)Z"⟩
def dkwX1_areTwo_1 : List UInt8 := [167, 0, 4, 3, 172]
abbrev dktX1_areTwo_1 : List UInt8 := dkwX1_areTwo_1 ++ []
def dkwX1_areTwo_0 : List UInt8 := [42, 27, 182, 0, 104, 153, 0, 20, 42, 28, 182, 0, 104, 153, 0, 12, 27, 28, 159, 0, 7, 4]
abbrev dktX1_areTwo_0 : List UInt8 := dkwX1_areTwo_0 ++ dktX1_areTwo_1
theorem dksX1_areTwo_0 : cX1_areTwo.data.toList.drop 0 = dktX1_areTwo_0 := by decide +kernel
theorem dksX1_areTwo_1 : cX1_areTwo.data.toList.drop 22 = dktX1_areTwo_1 := dk_seg dksX1_areTwo_0 22 rfl rfl
theorem dX1_areTwo_0 : decode cX1_areTwo 0 = .ok (.aload_n 0, 1) := dk_42 (dk_at dksX1_areTwo_0 0 rfl rfl)
theorem dX1_areTwo_1 : decode cX1_areTwo 1 = .ok (.iload_n 1, 1) := dk_27 (dk_at dksX1_areTwo_0 1 rfl rfl)
theorem dX1_areTwo_2 : decode cX1_areTwo 2 = .ok (.invokevirtual 104, 3) := dk_182 0 104 (dk_at dksX1_areTwo_0 2 rfl rfl)
theorem dX1_areTwo_5 : decode cX1_areTwo 5 = .ok (.ifCond .eq 20, 3) := dk_153 0 20 (dk_at dksX1_areTwo_0 5 rfl rfl)
theorem dX1_areTwo_8 : decode cX1_areTwo 8 = .ok (.aload_n 0, 1) := dk_42 (dk_at dksX1_areTwo_0 8 rfl rfl)
theorem dX1_areTwo_9 : decode cX1_areTwo 9 = .ok (.iload_n 2, 1) := dk_28 (dk_at dksX1_areTwo_0 9 rfl rfl)
theorem dX1_areTwo_10 : decode cX1_areTwo 10 = .ok (.invokevirtual 104, 3) := dk_182 0 104 (dk_at dksX1_areTwo_0 10 rfl rfl)
theorem dX1_areTwo_13 : decode cX1_areTwo 13 = .ok (.ifCond .eq 12, 3) := dk_153 0 12 (dk_at dksX1_areTwo_0 13 rfl rfl)
theorem dX1_areTwo_16 : decode cX1_areTwo 16 = .ok (.iload_n 1, 1) := dk_27 (dk_at dksX1_areTwo_0 16 rfl rfl)
theorem dX1_areTwo_17 : decode cX1_areTwo 17 = .ok (.iload_n 2, 1) := dk_28 (dk_at dksX1_areTwo_0 17 rfl rfl)
theorem dX1_areTwo_18 : decode cX1_areTwo 18 = .ok (.if_icmp .eq 7, 3) := dk_159 0 7 (dk_at dksX1_areTwo_0 18 rfl rfl)
theorem dX1_areTwo_21 : decode cX1_areTwo 21 = .ok (.iconst 1, 1) := dk_4 (dk_at dksX1_areTwo_0 21 rfl rfl)
theorem dX1_areTwo_22 : decode cX1_areTwo 22 = .ok (.goto 4, 3) := dk_167 0 4 (dk_at dksX1_areTwo_1 0 rfl rfl)
theorem dX1_areTwo_25 : decode cX1_areTwo 25 = .ok (.iconst 0, 1) := dk_3 (dk_at dksX1_areTwo_1 3 rfl rfl)
theorem dX1_areTwo_26 : decode cX1_areTwo 26 = .ok (.ireturn, 1) := dk_172 (dk_at dksX1_areTwo_1 4 rfl rfl)
abbrev cX1_undo : ByteArray := prog_1_method_35_code
def yX1_undo : MethodName := ⟨RX1, "undo", "()I"⟩
def dkwX1_undo_1 : List UInt8 := [180, 0, 50, 42, 180, 0, 173, 50, 182, 1, 26, 42, 180, 0, 173, 172]
abbrev dktX1_undo_1 : List UInt8 := dkwX1_undo_1 ++ []
def dkwX1_undo_0 : List UInt8 := [42, 180, 0, 173, 154, 0, 5, 2, 172, 42, 89, 180, 0, 173, 4, 100, 181, 0, 173, 42, 180, 0, 12, 42]
abbrev dktX1_undo_0 : List UInt8 := dkwX1_undo_0 ++ dktX1_undo_1
theorem dksX1_undo_0 : cX1_undo.data.toList.drop 0 = dktX1_undo_0 := by decide +kernel
theorem dksX1_undo_1 : cX1_undo.data.toList.drop 24 = dktX1_undo_1 := dk_seg dksX1_undo_0 24 rfl rfl
theorem dX1_undo_0 : decode cX1_undo 0 = .ok (.aload_n 0, 1) := dk_42 (dk_at dksX1_undo_0 0 rfl rfl)
theorem dX1_undo_1 : decode cX1_undo 1 = .ok (.getfield 173, 3) := dk_180 0 173 (dk_at dksX1_undo_0 1 rfl rfl)
theorem dX1_undo_4 : decode cX1_undo 4 = .ok (.ifCond .ne 5, 3) := dk_154 0 5 (dk_at dksX1_undo_0 4 rfl rfl)
theorem dX1_undo_7 : decode cX1_undo 7 = .ok (.iconst (-1), 1) := dk_2 (dk_at dksX1_undo_0 7 rfl rfl)
theorem dX1_undo_8 : decode cX1_undo 8 = .ok (.ireturn, 1) := dk_172 (dk_at dksX1_undo_0 8 rfl rfl)
theorem dX1_undo_9 : decode cX1_undo 9 = .ok (.aload_n 0, 1) := dk_42 (dk_at dksX1_undo_0 9 rfl rfl)
theorem dX1_undo_10 : decode cX1_undo 10 = .ok (.dup, 1) := dk_89 (dk_at dksX1_undo_0 10 rfl rfl)
theorem dX1_undo_11 : decode cX1_undo 11 = .ok (.getfield 173, 3) := dk_180 0 173 (dk_at dksX1_undo_0 11 rfl rfl)
theorem dX1_undo_14 : decode cX1_undo 14 = .ok (.iconst 1, 1) := dk_4 (dk_at dksX1_undo_0 14 rfl rfl)
theorem dX1_undo_15 : decode cX1_undo 15 = .ok (.isub, 1) := dk_100 (dk_at dksX1_undo_0 15 rfl rfl)
theorem dX1_undo_16 : decode cX1_undo 16 = .ok (.putfield 173, 3) := dk_181 0 173 (dk_at dksX1_undo_0 16 rfl rfl)
theorem dX1_undo_19 : decode cX1_undo 19 = .ok (.aload_n 0, 1) := dk_42 (dk_at dksX1_undo_0 19 rfl rfl)
theorem dX1_undo_20 : decode cX1_undo 20 = .ok (.getfield 12, 3) := dk_180 0 12 (dk_at dksX1_undo_0 20 rfl rfl)
theorem dX1_undo_23 : decode cX1_undo 23 = .ok (.aload_n 0, 1) := dk_42 (dk_at dksX1_undo_0 23 rfl rfl)
theorem dX1_undo_24 : decode cX1_undo 24 = .ok (.getfield 50, 3) := dk_180 0 50 (dk_at dksX1_undo_1 0 rfl rfl)
theorem dX1_undo_27 : decode cX1_undo 27 = .ok (.aload_n 0, 1) := dk_42 (dk_at dksX1_undo_1 3 rfl rfl)
theorem dX1_undo_28 : decode cX1_undo 28 = .ok (.getfield 173, 3) := dk_180 0 173 (dk_at dksX1_undo_1 4 rfl rfl)
theorem dX1_undo_31 : decode cX1_undo 31 = .ok (.aaload, 1) := dk_50 (dk_at dksX1_undo_1 7 rfl rfl)
theorem dX1_undo_32 : decode cX1_undo 32 = .ok (.invokevirtual 282, 3) := dk_182 1 26 (dk_at dksX1_undo_1 8 rfl rfl)
theorem dX1_undo_35 : decode cX1_undo 35 = .ok (.aload_n 0, 1) := dk_42 (dk_at dksX1_undo_1 11 rfl rfl)
theorem dX1_undo_36 : decode cX1_undo 36 = .ok (.getfield 173, 3) := dk_180 0 173 (dk_at dksX1_undo_1 12 rfl rfl)
theorem dX1_undo_39 : decode cX1_undo 39 = .ok (.ireturn, 1) := dk_172 (dk_at dksX1_undo_1 15 rfl rfl)
abbrev cX1_day : ByteArray := prog_1_method_40_code
def yX1_day : MethodName := ⟨RX1, "day", "()I"⟩
def dkwX1_day_1 : List UInt8 := [182, 1, 89, 172]
abbrev dktX1_day_1 : List UInt8 := dkwX1_day_1 ++ []
def dkwX1_day_0 : List UInt8 := [42, 182, 1, 84, 42, 180, 0, 12, 182, 1, 86, 42, 42, 180, 0, 12, 182, 1, 75, 42, 42, 180, 0, 12]
abbrev dktX1_day_0 : List UInt8 := dkwX1_day_0 ++ dktX1_day_1
theorem dksX1_day_0 : cX1_day.data.toList.drop 0 = dktX1_day_0 := by decide +kernel
theorem dksX1_day_1 : cX1_day.data.toList.drop 24 = dktX1_day_1 := dk_seg dksX1_day_0 24 rfl rfl
theorem dX1_day_0 : decode cX1_day 0 = .ok (.aload_n 0, 1) := dk_42 (dk_at dksX1_day_0 0 rfl rfl)
theorem dX1_day_1 : decode cX1_day 1 = .ok (.invokevirtual 340, 3) := dk_182 1 84 (dk_at dksX1_day_0 1 rfl rfl)
theorem dX1_day_4 : decode cX1_day 4 = .ok (.aload_n 0, 1) := dk_42 (dk_at dksX1_day_0 4 rfl rfl)
theorem dX1_day_5 : decode cX1_day 5 = .ok (.getfield 12, 3) := dk_180 0 12 (dk_at dksX1_day_0 5 rfl rfl)
theorem dX1_day_8 : decode cX1_day 8 = .ok (.invokevirtual 342, 3) := dk_182 1 86 (dk_at dksX1_day_0 8 rfl rfl)
theorem dX1_day_11 : decode cX1_day 11 = .ok (.aload_n 0, 1) := dk_42 (dk_at dksX1_day_0 11 rfl rfl)
theorem dX1_day_12 : decode cX1_day 12 = .ok (.aload_n 0, 1) := dk_42 (dk_at dksX1_day_0 12 rfl rfl)
theorem dX1_day_13 : decode cX1_day 13 = .ok (.getfield 12, 3) := dk_180 0 12 (dk_at dksX1_day_0 13 rfl rfl)
theorem dX1_day_16 : decode cX1_day 16 = .ok (.invokevirtual 331, 3) := dk_182 1 75 (dk_at dksX1_day_0 16 rfl rfl)
theorem dX1_day_19 : decode cX1_day 19 = .ok (.aload_n 0, 1) := dk_42 (dk_at dksX1_day_0 19 rfl rfl)
theorem dX1_day_20 : decode cX1_day 20 = .ok (.aload_n 0, 1) := dk_42 (dk_at dksX1_day_0 20 rfl rfl)
theorem dX1_day_21 : decode cX1_day 21 = .ok (.getfield 12, 3) := dk_180 0 12 (dk_at dksX1_day_0 21 rfl rfl)
theorem dX1_day_24 : decode cX1_day 24 = .ok (.invokevirtual 345, 3) := dk_182 1 89 (dk_at dksX1_day_1 0 rfl rfl)
theorem dX1_day_27 : decode cX1_day 27 = .ok (.ireturn, 1) := dk_172 (dk_at dksX1_day_1 3 rfl rfl)
abbrev cX1_putsBy : ByteArray := prog_1_method_33_code
def yX1_putsBy : MethodName := ⟨RX1, "putsBy", "()V"⟩
def dkwX1_putsBy_0 : List UInt8 := [42, 42, 180, 0, 12, 182, 1, 22, 177]
abbrev dktX1_putsBy_0 : List UInt8 := dkwX1_putsBy_0 ++ []
theorem dksX1_putsBy_0 : cX1_putsBy.data.toList.drop 0 = dktX1_putsBy_0 := by decide +kernel
theorem dX1_putsBy_0 : decode cX1_putsBy 0 = .ok (.aload_n 0, 1) := dk_42 (dk_at dksX1_putsBy_0 0 rfl rfl)
theorem dX1_putsBy_1 : decode cX1_putsBy 1 = .ok (.aload_n 0, 1) := dk_42 (dk_at dksX1_putsBy_0 1 rfl rfl)
theorem dX1_putsBy_2 : decode cX1_putsBy 2 = .ok (.getfield 12, 3) := dk_180 0 12 (dk_at dksX1_putsBy_0 2 rfl rfl)
theorem dX1_putsBy_5 : decode cX1_putsBy 5 = .ok (.invokevirtual 278, 3) := dk_182 1 22 (dk_at dksX1_putsBy_0 5 rfl rfl)
theorem dX1_putsBy_8 : decode cX1_putsBy 8 = .ok (.return_, 1) := dk_177 (dk_at dksX1_putsBy_0 8 rfl rfl)
abbrev cX1_putsBy_2 : ByteArray := prog_1_method_34_code
def yX1_putsBy_2 : MethodName := ⟨RX1, "putsBy", "(LSnowForSummer$Town;)V"⟩
def dkwX1_putsBy_2_4 : List UInt8 := [180, 0, 173, 50, 43, 182, 1, 26, 42, 89, 180, 0, 173, 4, 96, 181, 0, 173, 177]
abbrev dktX1_putsBy_2_4 : List UInt8 := dkwX1_putsBy_2_4 ++ []
def dkwX1_putsBy_2_3 : List UInt8 := [199, 0, 19, 42, 180, 0, 50, 42, 180, 0, 173, 187, 0, 9, 89, 183, 0, 11, 83, 42, 180, 0, 50, 42]
abbrev dktX1_putsBy_2_3 : List UInt8 := dkwX1_putsBy_2_3 ++ dktX1_putsBy_2_4
def dkwX1_putsBy_2_2 : List UInt8 := [16, 11, 44, 83, 42, 89, 180, 0, 173, 4, 100, 181, 0, 173, 42, 180, 0, 50, 42, 180, 0, 173, 50]
abbrev dktX1_putsBy_2_2 : List UInt8 := dkwX1_putsBy_2_2 ++ dktX1_putsBy_2_3
def dkwX1_putsBy_2_1 : List UInt8 := [42, 180, 0, 50, 29, 4, 100, 42, 180, 0, 50, 29, 50, 83, 132, 3, 1, 167, 255, 233, 42, 180, 0, 50]
abbrev dktX1_putsBy_2_1 : List UInt8 := dkwX1_putsBy_2_1 ++ dktX1_putsBy_2_2
def dkwX1_putsBy_2_0 : List UInt8 := [42, 180, 0, 173, 16, 12, 160, 0, 56, 42, 180, 0, 50, 3, 50, 77, 4, 62, 29, 16, 12, 162, 0, 23]
abbrev dktX1_putsBy_2_0 : List UInt8 := dkwX1_putsBy_2_0 ++ dktX1_putsBy_2_1
theorem dksX1_putsBy_2_0 : cX1_putsBy_2.data.toList.drop 0 = dktX1_putsBy_2_0 := by decide +kernel
theorem dksX1_putsBy_2_1 : cX1_putsBy_2.data.toList.drop 24 = dktX1_putsBy_2_1 := dk_seg dksX1_putsBy_2_0 24 rfl rfl
theorem dksX1_putsBy_2_2 : cX1_putsBy_2.data.toList.drop 48 = dktX1_putsBy_2_2 := dk_seg dksX1_putsBy_2_1 24 rfl rfl
theorem dksX1_putsBy_2_3 : cX1_putsBy_2.data.toList.drop 71 = dktX1_putsBy_2_3 := dk_seg dksX1_putsBy_2_2 23 rfl rfl
theorem dksX1_putsBy_2_4 : cX1_putsBy_2.data.toList.drop 95 = dktX1_putsBy_2_4 := dk_seg dksX1_putsBy_2_3 24 rfl rfl
theorem dX1_putsBy_2_0 : decode cX1_putsBy_2 0 = .ok (.aload_n 0, 1) := dk_42 (dk_at dksX1_putsBy_2_0 0 rfl rfl)
theorem dX1_putsBy_2_1 : decode cX1_putsBy_2 1 = .ok (.getfield 173, 3) := dk_180 0 173 (dk_at dksX1_putsBy_2_0 1 rfl rfl)
theorem dX1_putsBy_2_4 : decode cX1_putsBy_2 4 = .ok (.bipush 12, 2) := dk_16 12 (dk_at dksX1_putsBy_2_0 4 rfl rfl)
theorem dX1_putsBy_2_6 : decode cX1_putsBy_2 6 = .ok (.if_icmp .ne 56, 3) := dk_160 0 56 (dk_at dksX1_putsBy_2_0 6 rfl rfl)
theorem dX1_putsBy_2_9 : decode cX1_putsBy_2 9 = .ok (.aload_n 0, 1) := dk_42 (dk_at dksX1_putsBy_2_0 9 rfl rfl)
theorem dX1_putsBy_2_10 : decode cX1_putsBy_2 10 = .ok (.getfield 50, 3) := dk_180 0 50 (dk_at dksX1_putsBy_2_0 10 rfl rfl)
theorem dX1_putsBy_2_13 : decode cX1_putsBy_2 13 = .ok (.iconst 0, 1) := dk_3 (dk_at dksX1_putsBy_2_0 13 rfl rfl)
theorem dX1_putsBy_2_14 : decode cX1_putsBy_2 14 = .ok (.aaload, 1) := dk_50 (dk_at dksX1_putsBy_2_0 14 rfl rfl)
theorem dX1_putsBy_2_15 : decode cX1_putsBy_2 15 = .ok (.astore_n 2, 1) := dk_77 (dk_at dksX1_putsBy_2_0 15 rfl rfl)
theorem dX1_putsBy_2_16 : decode cX1_putsBy_2 16 = .ok (.iconst 1, 1) := dk_4 (dk_at dksX1_putsBy_2_0 16 rfl rfl)
theorem dX1_putsBy_2_17 : decode cX1_putsBy_2 17 = .ok (.istore_n 3, 1) := dk_62 (dk_at dksX1_putsBy_2_0 17 rfl rfl)
theorem dX1_putsBy_2_18 : decode cX1_putsBy_2 18 = .ok (.iload_n 3, 1) := dk_29 (dk_at dksX1_putsBy_2_0 18 rfl rfl)
theorem dX1_putsBy_2_19 : decode cX1_putsBy_2 19 = .ok (.bipush 12, 2) := dk_16 12 (dk_at dksX1_putsBy_2_0 19 rfl rfl)
theorem dX1_putsBy_2_21 : decode cX1_putsBy_2 21 = .ok (.if_icmp .ge 23, 3) := dk_162 0 23 (dk_at dksX1_putsBy_2_0 21 rfl rfl)
theorem dX1_putsBy_2_24 : decode cX1_putsBy_2 24 = .ok (.aload_n 0, 1) := dk_42 (dk_at dksX1_putsBy_2_1 0 rfl rfl)
theorem dX1_putsBy_2_25 : decode cX1_putsBy_2 25 = .ok (.getfield 50, 3) := dk_180 0 50 (dk_at dksX1_putsBy_2_1 1 rfl rfl)
theorem dX1_putsBy_2_28 : decode cX1_putsBy_2 28 = .ok (.iload_n 3, 1) := dk_29 (dk_at dksX1_putsBy_2_1 4 rfl rfl)
theorem dX1_putsBy_2_29 : decode cX1_putsBy_2 29 = .ok (.iconst 1, 1) := dk_4 (dk_at dksX1_putsBy_2_1 5 rfl rfl)
theorem dX1_putsBy_2_30 : decode cX1_putsBy_2 30 = .ok (.isub, 1) := dk_100 (dk_at dksX1_putsBy_2_1 6 rfl rfl)
theorem dX1_putsBy_2_31 : decode cX1_putsBy_2 31 = .ok (.aload_n 0, 1) := dk_42 (dk_at dksX1_putsBy_2_1 7 rfl rfl)
theorem dX1_putsBy_2_32 : decode cX1_putsBy_2 32 = .ok (.getfield 50, 3) := dk_180 0 50 (dk_at dksX1_putsBy_2_1 8 rfl rfl)
theorem dX1_putsBy_2_35 : decode cX1_putsBy_2 35 = .ok (.iload_n 3, 1) := dk_29 (dk_at dksX1_putsBy_2_1 11 rfl rfl)
theorem dX1_putsBy_2_36 : decode cX1_putsBy_2 36 = .ok (.aaload, 1) := dk_50 (dk_at dksX1_putsBy_2_1 12 rfl rfl)
theorem dX1_putsBy_2_37 : decode cX1_putsBy_2 37 = .ok (.aastore, 1) := dk_83 (dk_at dksX1_putsBy_2_1 13 rfl rfl)
theorem dX1_putsBy_2_38 : decode cX1_putsBy_2 38 = .ok (.iinc 3 1, 3) := dk_132 3 1 (dk_at dksX1_putsBy_2_1 14 rfl rfl)
theorem dX1_putsBy_2_41 : decode cX1_putsBy_2 41 = .ok (.goto (-23), 3) := dk_167 255 233 (dk_at dksX1_putsBy_2_1 17 rfl rfl)
theorem dX1_putsBy_2_44 : decode cX1_putsBy_2 44 = .ok (.aload_n 0, 1) := dk_42 (dk_at dksX1_putsBy_2_1 20 rfl rfl)
theorem dX1_putsBy_2_45 : decode cX1_putsBy_2 45 = .ok (.getfield 50, 3) := dk_180 0 50 (dk_at dksX1_putsBy_2_1 21 rfl rfl)
theorem dX1_putsBy_2_48 : decode cX1_putsBy_2 48 = .ok (.bipush 11, 2) := dk_16 11 (dk_at dksX1_putsBy_2_2 0 rfl rfl)
theorem dX1_putsBy_2_50 : decode cX1_putsBy_2 50 = .ok (.aload_n 2, 1) := dk_44 (dk_at dksX1_putsBy_2_2 2 rfl rfl)
theorem dX1_putsBy_2_51 : decode cX1_putsBy_2 51 = .ok (.aastore, 1) := dk_83 (dk_at dksX1_putsBy_2_2 3 rfl rfl)
theorem dX1_putsBy_2_52 : decode cX1_putsBy_2 52 = .ok (.aload_n 0, 1) := dk_42 (dk_at dksX1_putsBy_2_2 4 rfl rfl)
theorem dX1_putsBy_2_53 : decode cX1_putsBy_2 53 = .ok (.dup, 1) := dk_89 (dk_at dksX1_putsBy_2_2 5 rfl rfl)
theorem dX1_putsBy_2_54 : decode cX1_putsBy_2 54 = .ok (.getfield 173, 3) := dk_180 0 173 (dk_at dksX1_putsBy_2_2 6 rfl rfl)
theorem dX1_putsBy_2_57 : decode cX1_putsBy_2 57 = .ok (.iconst 1, 1) := dk_4 (dk_at dksX1_putsBy_2_2 9 rfl rfl)
theorem dX1_putsBy_2_58 : decode cX1_putsBy_2 58 = .ok (.isub, 1) := dk_100 (dk_at dksX1_putsBy_2_2 10 rfl rfl)
theorem dX1_putsBy_2_59 : decode cX1_putsBy_2 59 = .ok (.putfield 173, 3) := dk_181 0 173 (dk_at dksX1_putsBy_2_2 11 rfl rfl)
theorem dX1_putsBy_2_62 : decode cX1_putsBy_2 62 = .ok (.aload_n 0, 1) := dk_42 (dk_at dksX1_putsBy_2_2 14 rfl rfl)
theorem dX1_putsBy_2_63 : decode cX1_putsBy_2 63 = .ok (.getfield 50, 3) := dk_180 0 50 (dk_at dksX1_putsBy_2_2 15 rfl rfl)
theorem dX1_putsBy_2_66 : decode cX1_putsBy_2 66 = .ok (.aload_n 0, 1) := dk_42 (dk_at dksX1_putsBy_2_2 18 rfl rfl)
theorem dX1_putsBy_2_67 : decode cX1_putsBy_2 67 = .ok (.getfield 173, 3) := dk_180 0 173 (dk_at dksX1_putsBy_2_2 19 rfl rfl)
theorem dX1_putsBy_2_70 : decode cX1_putsBy_2 70 = .ok (.aaload, 1) := dk_50 (dk_at dksX1_putsBy_2_2 22 rfl rfl)
theorem dX1_putsBy_2_71 : decode cX1_putsBy_2 71 = .ok (.ifnonnull 19, 3) := dk_199 0 19 (dk_at dksX1_putsBy_2_3 0 rfl rfl)
theorem dX1_putsBy_2_74 : decode cX1_putsBy_2 74 = .ok (.aload_n 0, 1) := dk_42 (dk_at dksX1_putsBy_2_3 3 rfl rfl)
theorem dX1_putsBy_2_75 : decode cX1_putsBy_2 75 = .ok (.getfield 50, 3) := dk_180 0 50 (dk_at dksX1_putsBy_2_3 4 rfl rfl)
theorem dX1_putsBy_2_78 : decode cX1_putsBy_2 78 = .ok (.aload_n 0, 1) := dk_42 (dk_at dksX1_putsBy_2_3 7 rfl rfl)
theorem dX1_putsBy_2_79 : decode cX1_putsBy_2 79 = .ok (.getfield 173, 3) := dk_180 0 173 (dk_at dksX1_putsBy_2_3 8 rfl rfl)
theorem dX1_putsBy_2_82 : decode cX1_putsBy_2 82 = .ok (.new 9, 3) := dk_187 0 9 (dk_at dksX1_putsBy_2_3 11 rfl rfl)
theorem dX1_putsBy_2_85 : decode cX1_putsBy_2 85 = .ok (.dup, 1) := dk_89 (dk_at dksX1_putsBy_2_3 14 rfl rfl)
theorem dX1_putsBy_2_86 : decode cX1_putsBy_2 86 = .ok (.invokespecial 11, 3) := dk_183 0 11 (dk_at dksX1_putsBy_2_3 15 rfl rfl)
theorem dX1_putsBy_2_89 : decode cX1_putsBy_2 89 = .ok (.aastore, 1) := dk_83 (dk_at dksX1_putsBy_2_3 18 rfl rfl)
theorem dX1_putsBy_2_90 : decode cX1_putsBy_2 90 = .ok (.aload_n 0, 1) := dk_42 (dk_at dksX1_putsBy_2_3 19 rfl rfl)
theorem dX1_putsBy_2_91 : decode cX1_putsBy_2 91 = .ok (.getfield 50, 3) := dk_180 0 50 (dk_at dksX1_putsBy_2_3 20 rfl rfl)
theorem dX1_putsBy_2_94 : decode cX1_putsBy_2 94 = .ok (.aload_n 0, 1) := dk_42 (dk_at dksX1_putsBy_2_3 23 rfl rfl)
theorem dX1_putsBy_2_95 : decode cX1_putsBy_2 95 = .ok (.getfield 173, 3) := dk_180 0 173 (dk_at dksX1_putsBy_2_4 0 rfl rfl)
theorem dX1_putsBy_2_98 : decode cX1_putsBy_2 98 = .ok (.aaload, 1) := dk_50 (dk_at dksX1_putsBy_2_4 3 rfl rfl)
theorem dX1_putsBy_2_99 : decode cX1_putsBy_2 99 = .ok (.aload_n 1, 1) := dk_43 (dk_at dksX1_putsBy_2_4 4 rfl rfl)
theorem dX1_putsBy_2_100 : decode cX1_putsBy_2 100 = .ok (.invokevirtual 282, 3) := dk_182 1 26 (dk_at dksX1_putsBy_2_4 5 rfl rfl)
theorem dX1_putsBy_2_103 : decode cX1_putsBy_2 103 = .ok (.aload_n 0, 1) := dk_42 (dk_at dksX1_putsBy_2_4 8 rfl rfl)
theorem dX1_putsBy_2_104 : decode cX1_putsBy_2 104 = .ok (.dup, 1) := dk_89 (dk_at dksX1_putsBy_2_4 9 rfl rfl)
theorem dX1_putsBy_2_105 : decode cX1_putsBy_2 105 = .ok (.getfield 173, 3) := dk_180 0 173 (dk_at dksX1_putsBy_2_4 10 rfl rfl)
theorem dX1_putsBy_2_108 : decode cX1_putsBy_2 108 = .ok (.iconst 1, 1) := dk_4 (dk_at dksX1_putsBy_2_4 13 rfl rfl)
theorem dX1_putsBy_2_109 : decode cX1_putsBy_2 109 = .ok (.iadd, 1) := dk_96 (dk_at dksX1_putsBy_2_4 14 rfl rfl)
theorem dX1_putsBy_2_110 : decode cX1_putsBy_2 110 = .ok (.putfield 173, 3) := dk_181 0 173 (dk_at dksX1_putsBy_2_4 15 rfl rfl)
theorem dX1_putsBy_2_113 : decode cX1_putsBy_2 113 = .ok (.return_, 1) := dk_177 (dk_at dksX1_putsBy_2_4 18 rfl rfl)
abbrev cX1_dayGoes : ByteArray := prog_1_method_37_code
def yX1_dayGoes : MethodName := ⟨RX1, "dayGoes", "(LSnowForSummer$Town;)V"⟩
def dkwX1_dayGoes_7 : List UInt8 := [4, 96, 181, 1, 41, 177]
abbrev dktX1_dayGoes_7 : List UInt8 := dkwX1_dayGoes_7 ++ []
def dkwX1_dayGoes_6 : List UInt8 := [42, 43, 21, 4, 21, 4, 5, 108, 3, 182, 1, 71, 87, 132, 4, 1, 167, 255, 204, 43, 89, 180, 1, 41]
abbrev dktX1_dayGoes_6 : List UInt8 := dkwX1_dayGoes_6 ++ dktX1_dayGoes_7
def dkwX1_dayGoes_5 : List UInt8 := [180, 0, 238, 21, 4, 46, 3, 42, 180, 0, 22, 21, 4, 5, 108, 46, 29, 100, 184, 0, 115, 164, 0, 16]
abbrev dktX1_dayGoes_5 : List UInt8 := dkwX1_dayGoes_5 ++ dktX1_dayGoes_6
def dkwX1_dayGoes_4 : List UInt8 := [42, 43, 180, 1, 41, 182, 1, 44, 62, 3, 54, 4, 21, 4, 5, 42, 180, 0, 96, 104, 162, 0, 47, 43]
abbrev dktX1_dayGoes_4 : List UInt8 := dkwX1_dayGoes_4 ++ dktX1_dayGoes_5
def dkwX1_dayGoes_3 : List UInt8 := [17, 3, 231, 43, 180, 0, 241, 29, 46, 28, 96, 184, 0, 130, 184, 0, 115, 79, 132, 3, 1, 167, 255, 221]
abbrev dktX1_dayGoes_3 : List UInt8 := dkwX1_dayGoes_3 ++ dktX1_dayGoes_4
def dkwX1_dayGoes_2 : List UInt8 := [132, 3, 1, 167, 255, 219, 3, 62, 29, 42, 180, 0, 96, 162, 0, 33, 43, 180, 0, 241, 29, 3]
abbrev dktX1_dayGoes_2 : List UInt8 := dkwX1_dayGoes_2 ++ dktX1_dayGoes_3
def dkwX1_dayGoes_1 : List UInt8 := [180, 0, 238, 29, 3, 17, 3, 231, 43, 180, 0, 238, 29, 46, 28, 96, 184, 0, 130, 184, 0, 115, 79]
abbrev dktX1_dayGoes_1 : List UInt8 := dkwX1_dayGoes_1 ++ dktX1_dayGoes_2
def dkwX1_dayGoes_0 : List UInt8 := [42, 43, 180, 1, 41, 182, 0, 111, 61, 3, 62, 29, 5, 42, 180, 0, 96, 104, 162, 0, 33, 43]
abbrev dktX1_dayGoes_0 : List UInt8 := dkwX1_dayGoes_0 ++ dktX1_dayGoes_1
theorem dksX1_dayGoes_0 : cX1_dayGoes.data.toList.drop 0 = dktX1_dayGoes_0 := by decide +kernel
theorem dksX1_dayGoes_1 : cX1_dayGoes.data.toList.drop 22 = dktX1_dayGoes_1 := dk_seg dksX1_dayGoes_0 22 rfl rfl
theorem dksX1_dayGoes_2 : cX1_dayGoes.data.toList.drop 45 = dktX1_dayGoes_2 := dk_seg dksX1_dayGoes_1 23 rfl rfl
theorem dksX1_dayGoes_3 : cX1_dayGoes.data.toList.drop 67 = dktX1_dayGoes_3 := dk_seg dksX1_dayGoes_2 22 rfl rfl
theorem dksX1_dayGoes_4 : cX1_dayGoes.data.toList.drop 91 = dktX1_dayGoes_4 := dk_seg dksX1_dayGoes_3 24 rfl rfl
theorem dksX1_dayGoes_5 : cX1_dayGoes.data.toList.drop 115 = dktX1_dayGoes_5 := dk_seg dksX1_dayGoes_4 24 rfl rfl
theorem dksX1_dayGoes_6 : cX1_dayGoes.data.toList.drop 139 = dktX1_dayGoes_6 := dk_seg dksX1_dayGoes_5 24 rfl rfl
theorem dksX1_dayGoes_7 : cX1_dayGoes.data.toList.drop 163 = dktX1_dayGoes_7 := dk_seg dksX1_dayGoes_6 24 rfl rfl
theorem dX1_dayGoes_0 : decode cX1_dayGoes 0 = .ok (.aload_n 0, 1) := dk_42 (dk_at dksX1_dayGoes_0 0 rfl rfl)
theorem dX1_dayGoes_1 : decode cX1_dayGoes 1 = .ok (.aload_n 1, 1) := dk_43 (dk_at dksX1_dayGoes_0 1 rfl rfl)
theorem dX1_dayGoes_2 : decode cX1_dayGoes 2 = .ok (.getfield 297, 3) := dk_180 1 41 (dk_at dksX1_dayGoes_0 2 rfl rfl)
theorem dX1_dayGoes_5 : decode cX1_dayGoes 5 = .ok (.invokevirtual 111, 3) := dk_182 0 111 (dk_at dksX1_dayGoes_0 5 rfl rfl)
theorem dX1_dayGoes_8 : decode cX1_dayGoes 8 = .ok (.istore_n 2, 1) := dk_61 (dk_at dksX1_dayGoes_0 8 rfl rfl)
theorem dX1_dayGoes_9 : decode cX1_dayGoes 9 = .ok (.iconst 0, 1) := dk_3 (dk_at dksX1_dayGoes_0 9 rfl rfl)
theorem dX1_dayGoes_10 : decode cX1_dayGoes 10 = .ok (.istore_n 3, 1) := dk_62 (dk_at dksX1_dayGoes_0 10 rfl rfl)
theorem dX1_dayGoes_11 : decode cX1_dayGoes 11 = .ok (.iload_n 3, 1) := dk_29 (dk_at dksX1_dayGoes_0 11 rfl rfl)
theorem dX1_dayGoes_12 : decode cX1_dayGoes 12 = .ok (.iconst 2, 1) := dk_5 (dk_at dksX1_dayGoes_0 12 rfl rfl)
theorem dX1_dayGoes_13 : decode cX1_dayGoes 13 = .ok (.aload_n 0, 1) := dk_42 (dk_at dksX1_dayGoes_0 13 rfl rfl)
theorem dX1_dayGoes_14 : decode cX1_dayGoes 14 = .ok (.getfield 96, 3) := dk_180 0 96 (dk_at dksX1_dayGoes_0 14 rfl rfl)
theorem dX1_dayGoes_17 : decode cX1_dayGoes 17 = .ok (.imul, 1) := dk_104 (dk_at dksX1_dayGoes_0 17 rfl rfl)
theorem dX1_dayGoes_18 : decode cX1_dayGoes 18 = .ok (.if_icmp .ge 33, 3) := dk_162 0 33 (dk_at dksX1_dayGoes_0 18 rfl rfl)
theorem dX1_dayGoes_21 : decode cX1_dayGoes 21 = .ok (.aload_n 1, 1) := dk_43 (dk_at dksX1_dayGoes_0 21 rfl rfl)
theorem dX1_dayGoes_22 : decode cX1_dayGoes 22 = .ok (.getfield 238, 3) := dk_180 0 238 (dk_at dksX1_dayGoes_1 0 rfl rfl)
theorem dX1_dayGoes_25 : decode cX1_dayGoes 25 = .ok (.iload_n 3, 1) := dk_29 (dk_at dksX1_dayGoes_1 3 rfl rfl)
theorem dX1_dayGoes_26 : decode cX1_dayGoes 26 = .ok (.iconst 0, 1) := dk_3 (dk_at dksX1_dayGoes_1 4 rfl rfl)
theorem dX1_dayGoes_27 : decode cX1_dayGoes 27 = .ok (.sipush 999, 3) := dk_17 3 231 (dk_at dksX1_dayGoes_1 5 rfl rfl)
theorem dX1_dayGoes_30 : decode cX1_dayGoes 30 = .ok (.aload_n 1, 1) := dk_43 (dk_at dksX1_dayGoes_1 8 rfl rfl)
theorem dX1_dayGoes_31 : decode cX1_dayGoes 31 = .ok (.getfield 238, 3) := dk_180 0 238 (dk_at dksX1_dayGoes_1 9 rfl rfl)
theorem dX1_dayGoes_34 : decode cX1_dayGoes 34 = .ok (.iload_n 3, 1) := dk_29 (dk_at dksX1_dayGoes_1 12 rfl rfl)
theorem dX1_dayGoes_35 : decode cX1_dayGoes 35 = .ok (.iaload, 1) := dk_46 (dk_at dksX1_dayGoes_1 13 rfl rfl)
theorem dX1_dayGoes_36 : decode cX1_dayGoes 36 = .ok (.iload_n 2, 1) := dk_28 (dk_at dksX1_dayGoes_1 14 rfl rfl)
theorem dX1_dayGoes_37 : decode cX1_dayGoes 37 = .ok (.iadd, 1) := dk_96 (dk_at dksX1_dayGoes_1 15 rfl rfl)
theorem dX1_dayGoes_38 : decode cX1_dayGoes 38 = .ok (.invokestatic 130, 3) := dk_184 0 130 (dk_at dksX1_dayGoes_1 16 rfl rfl)
theorem dX1_dayGoes_41 : decode cX1_dayGoes 41 = .ok (.invokestatic 115, 3) := dk_184 0 115 (dk_at dksX1_dayGoes_1 19 rfl rfl)
theorem dX1_dayGoes_44 : decode cX1_dayGoes 44 = .ok (.iastore, 1) := dk_79 (dk_at dksX1_dayGoes_1 22 rfl rfl)
theorem dX1_dayGoes_45 : decode cX1_dayGoes 45 = .ok (.iinc 3 1, 3) := dk_132 3 1 (dk_at dksX1_dayGoes_2 0 rfl rfl)
theorem dX1_dayGoes_48 : decode cX1_dayGoes 48 = .ok (.goto (-37), 3) := dk_167 255 219 (dk_at dksX1_dayGoes_2 3 rfl rfl)
theorem dX1_dayGoes_51 : decode cX1_dayGoes 51 = .ok (.iconst 0, 1) := dk_3 (dk_at dksX1_dayGoes_2 6 rfl rfl)
theorem dX1_dayGoes_52 : decode cX1_dayGoes 52 = .ok (.istore_n 3, 1) := dk_62 (dk_at dksX1_dayGoes_2 7 rfl rfl)
theorem dX1_dayGoes_53 : decode cX1_dayGoes 53 = .ok (.iload_n 3, 1) := dk_29 (dk_at dksX1_dayGoes_2 8 rfl rfl)
theorem dX1_dayGoes_54 : decode cX1_dayGoes 54 = .ok (.aload_n 0, 1) := dk_42 (dk_at dksX1_dayGoes_2 9 rfl rfl)
theorem dX1_dayGoes_55 : decode cX1_dayGoes 55 = .ok (.getfield 96, 3) := dk_180 0 96 (dk_at dksX1_dayGoes_2 10 rfl rfl)
theorem dX1_dayGoes_58 : decode cX1_dayGoes 58 = .ok (.if_icmp .ge 33, 3) := dk_162 0 33 (dk_at dksX1_dayGoes_2 13 rfl rfl)
theorem dX1_dayGoes_61 : decode cX1_dayGoes 61 = .ok (.aload_n 1, 1) := dk_43 (dk_at dksX1_dayGoes_2 16 rfl rfl)
theorem dX1_dayGoes_62 : decode cX1_dayGoes 62 = .ok (.getfield 241, 3) := dk_180 0 241 (dk_at dksX1_dayGoes_2 17 rfl rfl)
theorem dX1_dayGoes_65 : decode cX1_dayGoes 65 = .ok (.iload_n 3, 1) := dk_29 (dk_at dksX1_dayGoes_2 20 rfl rfl)
theorem dX1_dayGoes_66 : decode cX1_dayGoes 66 = .ok (.iconst 0, 1) := dk_3 (dk_at dksX1_dayGoes_2 21 rfl rfl)
theorem dX1_dayGoes_67 : decode cX1_dayGoes 67 = .ok (.sipush 999, 3) := dk_17 3 231 (dk_at dksX1_dayGoes_3 0 rfl rfl)
theorem dX1_dayGoes_70 : decode cX1_dayGoes 70 = .ok (.aload_n 1, 1) := dk_43 (dk_at dksX1_dayGoes_3 3 rfl rfl)
theorem dX1_dayGoes_71 : decode cX1_dayGoes 71 = .ok (.getfield 241, 3) := dk_180 0 241 (dk_at dksX1_dayGoes_3 4 rfl rfl)
theorem dX1_dayGoes_74 : decode cX1_dayGoes 74 = .ok (.iload_n 3, 1) := dk_29 (dk_at dksX1_dayGoes_3 7 rfl rfl)
theorem dX1_dayGoes_75 : decode cX1_dayGoes 75 = .ok (.iaload, 1) := dk_46 (dk_at dksX1_dayGoes_3 8 rfl rfl)
theorem dX1_dayGoes_76 : decode cX1_dayGoes 76 = .ok (.iload_n 2, 1) := dk_28 (dk_at dksX1_dayGoes_3 9 rfl rfl)
theorem dX1_dayGoes_77 : decode cX1_dayGoes 77 = .ok (.iadd, 1) := dk_96 (dk_at dksX1_dayGoes_3 10 rfl rfl)
theorem dX1_dayGoes_78 : decode cX1_dayGoes 78 = .ok (.invokestatic 130, 3) := dk_184 0 130 (dk_at dksX1_dayGoes_3 11 rfl rfl)
theorem dX1_dayGoes_81 : decode cX1_dayGoes 81 = .ok (.invokestatic 115, 3) := dk_184 0 115 (dk_at dksX1_dayGoes_3 14 rfl rfl)
theorem dX1_dayGoes_84 : decode cX1_dayGoes 84 = .ok (.iastore, 1) := dk_79 (dk_at dksX1_dayGoes_3 17 rfl rfl)
theorem dX1_dayGoes_85 : decode cX1_dayGoes 85 = .ok (.iinc 3 1, 3) := dk_132 3 1 (dk_at dksX1_dayGoes_3 18 rfl rfl)
theorem dX1_dayGoes_88 : decode cX1_dayGoes 88 = .ok (.goto (-35), 3) := dk_167 255 221 (dk_at dksX1_dayGoes_3 21 rfl rfl)
theorem dX1_dayGoes_91 : decode cX1_dayGoes 91 = .ok (.aload_n 0, 1) := dk_42 (dk_at dksX1_dayGoes_4 0 rfl rfl)
theorem dX1_dayGoes_92 : decode cX1_dayGoes 92 = .ok (.aload_n 1, 1) := dk_43 (dk_at dksX1_dayGoes_4 1 rfl rfl)
theorem dX1_dayGoes_93 : decode cX1_dayGoes 93 = .ok (.getfield 297, 3) := dk_180 1 41 (dk_at dksX1_dayGoes_4 2 rfl rfl)
theorem dX1_dayGoes_96 : decode cX1_dayGoes 96 = .ok (.invokevirtual 300, 3) := dk_182 1 44 (dk_at dksX1_dayGoes_4 5 rfl rfl)
theorem dX1_dayGoes_99 : decode cX1_dayGoes 99 = .ok (.istore_n 3, 1) := dk_62 (dk_at dksX1_dayGoes_4 8 rfl rfl)
theorem dX1_dayGoes_100 : decode cX1_dayGoes 100 = .ok (.iconst 0, 1) := dk_3 (dk_at dksX1_dayGoes_4 9 rfl rfl)
theorem dX1_dayGoes_101 : decode cX1_dayGoes 101 = .ok (.istore 4, 2) := dk_54 4 (dk_at dksX1_dayGoes_4 10 rfl rfl)
theorem dX1_dayGoes_103 : decode cX1_dayGoes 103 = .ok (.iload 4, 2) := dk_21 4 (dk_at dksX1_dayGoes_4 12 rfl rfl)
theorem dX1_dayGoes_105 : decode cX1_dayGoes 105 = .ok (.iconst 2, 1) := dk_5 (dk_at dksX1_dayGoes_4 14 rfl rfl)
theorem dX1_dayGoes_106 : decode cX1_dayGoes 106 = .ok (.aload_n 0, 1) := dk_42 (dk_at dksX1_dayGoes_4 15 rfl rfl)
theorem dX1_dayGoes_107 : decode cX1_dayGoes 107 = .ok (.getfield 96, 3) := dk_180 0 96 (dk_at dksX1_dayGoes_4 16 rfl rfl)
theorem dX1_dayGoes_110 : decode cX1_dayGoes 110 = .ok (.imul, 1) := dk_104 (dk_at dksX1_dayGoes_4 19 rfl rfl)
theorem dX1_dayGoes_111 : decode cX1_dayGoes 111 = .ok (.if_icmp .ge 47, 3) := dk_162 0 47 (dk_at dksX1_dayGoes_4 20 rfl rfl)
theorem dX1_dayGoes_114 : decode cX1_dayGoes 114 = .ok (.aload_n 1, 1) := dk_43 (dk_at dksX1_dayGoes_4 23 rfl rfl)
theorem dX1_dayGoes_115 : decode cX1_dayGoes 115 = .ok (.getfield 238, 3) := dk_180 0 238 (dk_at dksX1_dayGoes_5 0 rfl rfl)
theorem dX1_dayGoes_118 : decode cX1_dayGoes 118 = .ok (.iload 4, 2) := dk_21 4 (dk_at dksX1_dayGoes_5 3 rfl rfl)
theorem dX1_dayGoes_120 : decode cX1_dayGoes 120 = .ok (.iaload, 1) := dk_46 (dk_at dksX1_dayGoes_5 5 rfl rfl)
theorem dX1_dayGoes_121 : decode cX1_dayGoes 121 = .ok (.iconst 0, 1) := dk_3 (dk_at dksX1_dayGoes_5 6 rfl rfl)
theorem dX1_dayGoes_122 : decode cX1_dayGoes 122 = .ok (.aload_n 0, 1) := dk_42 (dk_at dksX1_dayGoes_5 7 rfl rfl)
theorem dX1_dayGoes_123 : decode cX1_dayGoes 123 = .ok (.getfield 22, 3) := dk_180 0 22 (dk_at dksX1_dayGoes_5 8 rfl rfl)
theorem dX1_dayGoes_126 : decode cX1_dayGoes 126 = .ok (.iload 4, 2) := dk_21 4 (dk_at dksX1_dayGoes_5 11 rfl rfl)
theorem dX1_dayGoes_128 : decode cX1_dayGoes 128 = .ok (.iconst 2, 1) := dk_5 (dk_at dksX1_dayGoes_5 13 rfl rfl)
theorem dX1_dayGoes_129 : decode cX1_dayGoes 129 = .ok (.idiv, 1) := dk_108 (dk_at dksX1_dayGoes_5 14 rfl rfl)
theorem dX1_dayGoes_130 : decode cX1_dayGoes 130 = .ok (.iaload, 1) := dk_46 (dk_at dksX1_dayGoes_5 15 rfl rfl)
theorem dX1_dayGoes_131 : decode cX1_dayGoes 131 = .ok (.iload_n 3, 1) := dk_29 (dk_at dksX1_dayGoes_5 16 rfl rfl)
theorem dX1_dayGoes_132 : decode cX1_dayGoes 132 = .ok (.isub, 1) := dk_100 (dk_at dksX1_dayGoes_5 17 rfl rfl)
theorem dX1_dayGoes_133 : decode cX1_dayGoes 133 = .ok (.invokestatic 115, 3) := dk_184 0 115 (dk_at dksX1_dayGoes_5 18 rfl rfl)
theorem dX1_dayGoes_136 : decode cX1_dayGoes 136 = .ok (.if_icmp .le 16, 3) := dk_164 0 16 (dk_at dksX1_dayGoes_5 21 rfl rfl)
theorem dX1_dayGoes_139 : decode cX1_dayGoes 139 = .ok (.aload_n 0, 1) := dk_42 (dk_at dksX1_dayGoes_6 0 rfl rfl)
theorem dX1_dayGoes_140 : decode cX1_dayGoes 140 = .ok (.aload_n 1, 1) := dk_43 (dk_at dksX1_dayGoes_6 1 rfl rfl)
theorem dX1_dayGoes_141 : decode cX1_dayGoes 141 = .ok (.iload 4, 2) := dk_21 4 (dk_at dksX1_dayGoes_6 2 rfl rfl)
theorem dX1_dayGoes_143 : decode cX1_dayGoes 143 = .ok (.iload 4, 2) := dk_21 4 (dk_at dksX1_dayGoes_6 4 rfl rfl)
theorem dX1_dayGoes_145 : decode cX1_dayGoes 145 = .ok (.iconst 2, 1) := dk_5 (dk_at dksX1_dayGoes_6 6 rfl rfl)
theorem dX1_dayGoes_146 : decode cX1_dayGoes 146 = .ok (.idiv, 1) := dk_108 (dk_at dksX1_dayGoes_6 7 rfl rfl)
theorem dX1_dayGoes_147 : decode cX1_dayGoes 147 = .ok (.iconst 0, 1) := dk_3 (dk_at dksX1_dayGoes_6 8 rfl rfl)
theorem dX1_dayGoes_148 : decode cX1_dayGoes 148 = .ok (.invokevirtual 327, 3) := dk_182 1 71 (dk_at dksX1_dayGoes_6 9 rfl rfl)
theorem dX1_dayGoes_151 : decode cX1_dayGoes 151 = .ok (.pop, 1) := dk_87 (dk_at dksX1_dayGoes_6 12 rfl rfl)
theorem dX1_dayGoes_152 : decode cX1_dayGoes 152 = .ok (.iinc 4 1, 3) := dk_132 4 1 (dk_at dksX1_dayGoes_6 13 rfl rfl)
theorem dX1_dayGoes_155 : decode cX1_dayGoes 155 = .ok (.goto (-52), 3) := dk_167 255 204 (dk_at dksX1_dayGoes_6 16 rfl rfl)
theorem dX1_dayGoes_158 : decode cX1_dayGoes 158 = .ok (.aload_n 1, 1) := dk_43 (dk_at dksX1_dayGoes_6 19 rfl rfl)
theorem dX1_dayGoes_159 : decode cX1_dayGoes 159 = .ok (.dup, 1) := dk_89 (dk_at dksX1_dayGoes_6 20 rfl rfl)
theorem dX1_dayGoes_160 : decode cX1_dayGoes 160 = .ok (.getfield 297, 3) := dk_180 1 41 (dk_at dksX1_dayGoes_6 21 rfl rfl)
theorem dX1_dayGoes_163 : decode cX1_dayGoes 163 = .ok (.iconst 1, 1) := dk_4 (dk_at dksX1_dayGoes_7 0 rfl rfl)
theorem dX1_dayGoes_164 : decode cX1_dayGoes 164 = .ok (.iadd, 1) := dk_96 (dk_at dksX1_dayGoes_7 1 rfl rfl)
theorem dX1_dayGoes_165 : decode cX1_dayGoes 165 = .ok (.putfield 297, 3) := dk_181 1 41 (dk_at dksX1_dayGoes_7 2 rfl rfl)
theorem dX1_dayGoes_168 : decode cX1_dayGoes 168 = .ok (.return_, 1) := dk_177 (dk_at dksX1_dayGoes_7 5 rfl rfl)
abbrev cX1_thawsIn : ByteArray := prog_1_method_8_code
def yX1_thawsIn : MethodName := ⟨RX1, "thawsIn", "(I)I"⟩
def dkwX1_thawsIn_0 : List UInt8 := [3, 42, 27, 182, 0, 111, 116, 184, 0, 115, 172]
abbrev dktX1_thawsIn_0 : List UInt8 := dkwX1_thawsIn_0 ++ []
theorem dksX1_thawsIn_0 : cX1_thawsIn.data.toList.drop 0 = dktX1_thawsIn_0 := by decide +kernel
theorem dX1_thawsIn_0 : decode cX1_thawsIn 0 = .ok (.iconst 0, 1) := dk_3 (dk_at dksX1_thawsIn_0 0 rfl rfl)
theorem dX1_thawsIn_1 : decode cX1_thawsIn 1 = .ok (.aload_n 0, 1) := dk_42 (dk_at dksX1_thawsIn_0 1 rfl rfl)
theorem dX1_thawsIn_2 : decode cX1_thawsIn 2 = .ok (.iload_n 1, 1) := dk_27 (dk_at dksX1_thawsIn_0 2 rfl rfl)
theorem dX1_thawsIn_3 : decode cX1_thawsIn 3 = .ok (.invokevirtual 111, 3) := dk_182 0 111 (dk_at dksX1_thawsIn_0 3 rfl rfl)
theorem dX1_thawsIn_6 : decode cX1_thawsIn 6 = .ok (.ineg, 1) := dk_116 (dk_at dksX1_thawsIn_0 6 rfl rfl)
theorem dX1_thawsIn_7 : decode cX1_thawsIn 7 = .ok (.invokestatic 115, 3) := dk_184 0 115 (dk_at dksX1_thawsIn_0 7 rfl rfl)
theorem dX1_thawsIn_10 : decode cX1_thawsIn 10 = .ok (.ireturn, 1) := dk_172 (dk_at dksX1_thawsIn_0 10 rfl rfl)
abbrev cX1_slide : ByteArray := prog_1_method_36_code
def yX1_slide : MethodName := ⟨RX1, "slide", "(LSnowForSummer$Town;IIZ)I"⟩
def dkwX1_slide_10 : List UInt8 := [21, 6, 46, 21, 5, 96, 184, 0, 130, 79, 21, 5, 172]
abbrev dktX1_slide_10 : List UInt8 := dkwX1_slide_10 ++ []
def dkwX1_slide_9 : List UInt8 := [180, 1, 68, 29, 92, 46, 21, 7, 96, 79, 43, 180, 0, 241, 21, 6, 17, 3, 231, 43, 180, 0, 241]
abbrev dktX1_slide_9 : List UInt8 := dkwX1_slide_9 ++ dktX1_slide_10
def dkwX1_slide_8 : List UInt8 := [21, 8, 46, 100, 184, 0, 130, 54, 9, 43, 180, 1, 19, 21, 8, 92, 46, 21, 9, 96, 79, 43]
abbrev dktX1_slide_8 : List UInt8 := dkwX1_slide_8 ++ dktX1_slide_9
def dkwX1_slide_7 : List UInt8 := [184, 0, 115, 54, 7, 16, 7, 29, 104, 21, 6, 96, 54, 8, 21, 7, 17, 39, 15, 43, 180, 1, 19]
abbrev dktX1_slide_7 : List UInt8 := dkwX1_slide_7 ++ dktX1_slide_8
def dkwX1_slide_6 : List UInt8 := [42, 180, 0, 231, 199, 0, 8, 21, 5, 167, 0, 10, 42, 180, 0, 231, 182, 1, 62, 184, 0, 130]
abbrev dktX1_slide_6 : List UInt8 := dkwX1_slide_6 ++ dktX1_slide_7
def dkwX1_slide_5 : List UInt8 := [4, 167, 0, 4, 3, 181, 1, 53, 42, 28, 5, 108, 181, 1, 56, 42, 21, 6, 181, 1, 59, 3, 16, 99]
abbrev dktX1_slide_5 : List UInt8 := dkwX1_slide_5 ++ dktX1_slide_6
def dkwX1_slide_4 : List UInt8 := [43, 180, 1, 41, 182, 1, 44, 181, 1, 47, 42, 43, 180, 1, 41, 181, 1, 50, 42, 21, 4, 153, 0, 7]
abbrev dktX1_slide_4 : List UInt8 := dkwX1_slide_4 ++ dktX1_slide_5
def dkwX1_slide_3 : List UInt8 := [21, 6, 159, 0, 147, 42, 21, 5, 181, 1, 35, 42, 43, 180, 0, 241, 21, 6, 46, 181, 1, 38, 42, 42]
abbrev dktX1_slide_3 : List UInt8 := dkwX1_slide_3 ++ dktX1_slide_4
def dkwX1_slide_2 : List UInt8 := [5, 108, 159, 0, 16, 42, 89, 180, 1, 32, 4, 21, 6, 120, 128, 181, 1, 32, 21, 5, 158, 0, 153, 29]
abbrev dktX1_slide_2 : List UInt8 := dkwX1_slide_2 ++ dktX1_slide_3
def dkwX1_slide_1 : List UInt8 := [89, 180, 1, 29, 4, 96, 181, 1, 29, 42, 21, 6, 182, 0, 104, 154, 0, 6, 21, 5, 172, 21, 6, 28]
abbrev dktX1_slide_1 : List UInt8 := dkwX1_slide_1 ++ dktX1_slide_2
def dkwX1_slide_0 : List UInt8 := [43, 180, 0, 238, 28, 46, 54, 5, 42, 180, 0, 26, 28, 46, 54, 6, 43, 180, 0, 238, 28, 3, 79, 43]
abbrev dktX1_slide_0 : List UInt8 := dkwX1_slide_0 ++ dktX1_slide_1
theorem dksX1_slide_0 : cX1_slide.data.toList.drop 0 = dktX1_slide_0 := by decide +kernel
theorem dksX1_slide_1 : cX1_slide.data.toList.drop 24 = dktX1_slide_1 := dk_seg dksX1_slide_0 24 rfl rfl
theorem dksX1_slide_2 : cX1_slide.data.toList.drop 48 = dktX1_slide_2 := dk_seg dksX1_slide_1 24 rfl rfl
theorem dksX1_slide_3 : cX1_slide.data.toList.drop 72 = dktX1_slide_3 := dk_seg dksX1_slide_2 24 rfl rfl
theorem dksX1_slide_4 : cX1_slide.data.toList.drop 96 = dktX1_slide_4 := dk_seg dksX1_slide_3 24 rfl rfl
theorem dksX1_slide_5 : cX1_slide.data.toList.drop 120 = dktX1_slide_5 := dk_seg dksX1_slide_4 24 rfl rfl
theorem dksX1_slide_6 : cX1_slide.data.toList.drop 144 = dktX1_slide_6 := dk_seg dksX1_slide_5 24 rfl rfl
theorem dksX1_slide_7 : cX1_slide.data.toList.drop 166 = dktX1_slide_7 := dk_seg dksX1_slide_6 22 rfl rfl
theorem dksX1_slide_8 : cX1_slide.data.toList.drop 189 = dktX1_slide_8 := dk_seg dksX1_slide_7 23 rfl rfl
theorem dksX1_slide_9 : cX1_slide.data.toList.drop 211 = dktX1_slide_9 := dk_seg dksX1_slide_8 22 rfl rfl
theorem dksX1_slide_10 : cX1_slide.data.toList.drop 234 = dktX1_slide_10 := dk_seg dksX1_slide_9 23 rfl rfl
theorem dX1_slide_0 : decode cX1_slide 0 = .ok (.aload_n 1, 1) := dk_43 (dk_at dksX1_slide_0 0 rfl rfl)
theorem dX1_slide_1 : decode cX1_slide 1 = .ok (.getfield 238, 3) := dk_180 0 238 (dk_at dksX1_slide_0 1 rfl rfl)
theorem dX1_slide_4 : decode cX1_slide 4 = .ok (.iload_n 2, 1) := dk_28 (dk_at dksX1_slide_0 4 rfl rfl)
theorem dX1_slide_5 : decode cX1_slide 5 = .ok (.iaload, 1) := dk_46 (dk_at dksX1_slide_0 5 rfl rfl)
theorem dX1_slide_6 : decode cX1_slide 6 = .ok (.istore 5, 2) := dk_54 5 (dk_at dksX1_slide_0 6 rfl rfl)
theorem dX1_slide_8 : decode cX1_slide 8 = .ok (.aload_n 0, 1) := dk_42 (dk_at dksX1_slide_0 8 rfl rfl)
theorem dX1_slide_9 : decode cX1_slide 9 = .ok (.getfield 26, 3) := dk_180 0 26 (dk_at dksX1_slide_0 9 rfl rfl)
theorem dX1_slide_12 : decode cX1_slide 12 = .ok (.iload_n 2, 1) := dk_28 (dk_at dksX1_slide_0 12 rfl rfl)
theorem dX1_slide_13 : decode cX1_slide 13 = .ok (.iaload, 1) := dk_46 (dk_at dksX1_slide_0 13 rfl rfl)
theorem dX1_slide_14 : decode cX1_slide 14 = .ok (.istore 6, 2) := dk_54 6 (dk_at dksX1_slide_0 14 rfl rfl)
theorem dX1_slide_16 : decode cX1_slide 16 = .ok (.aload_n 1, 1) := dk_43 (dk_at dksX1_slide_0 16 rfl rfl)
theorem dX1_slide_17 : decode cX1_slide 17 = .ok (.getfield 238, 3) := dk_180 0 238 (dk_at dksX1_slide_0 17 rfl rfl)
theorem dX1_slide_20 : decode cX1_slide 20 = .ok (.iload_n 2, 1) := dk_28 (dk_at dksX1_slide_0 20 rfl rfl)
theorem dX1_slide_21 : decode cX1_slide 21 = .ok (.iconst 0, 1) := dk_3 (dk_at dksX1_slide_0 21 rfl rfl)
theorem dX1_slide_22 : decode cX1_slide 22 = .ok (.iastore, 1) := dk_79 (dk_at dksX1_slide_0 22 rfl rfl)
theorem dX1_slide_23 : decode cX1_slide 23 = .ok (.aload_n 1, 1) := dk_43 (dk_at dksX1_slide_0 23 rfl rfl)
theorem dX1_slide_24 : decode cX1_slide 24 = .ok (.dup, 1) := dk_89 (dk_at dksX1_slide_1 0 rfl rfl)
theorem dX1_slide_25 : decode cX1_slide 25 = .ok (.getfield 285, 3) := dk_180 1 29 (dk_at dksX1_slide_1 1 rfl rfl)
theorem dX1_slide_28 : decode cX1_slide 28 = .ok (.iconst 1, 1) := dk_4 (dk_at dksX1_slide_1 4 rfl rfl)
theorem dX1_slide_29 : decode cX1_slide 29 = .ok (.iadd, 1) := dk_96 (dk_at dksX1_slide_1 5 rfl rfl)
theorem dX1_slide_30 : decode cX1_slide 30 = .ok (.putfield 285, 3) := dk_181 1 29 (dk_at dksX1_slide_1 6 rfl rfl)
theorem dX1_slide_33 : decode cX1_slide 33 = .ok (.aload_n 0, 1) := dk_42 (dk_at dksX1_slide_1 9 rfl rfl)
theorem dX1_slide_34 : decode cX1_slide 34 = .ok (.iload 6, 2) := dk_21 6 (dk_at dksX1_slide_1 10 rfl rfl)
theorem dX1_slide_36 : decode cX1_slide 36 = .ok (.invokevirtual 104, 3) := dk_182 0 104 (dk_at dksX1_slide_1 12 rfl rfl)
theorem dX1_slide_39 : decode cX1_slide 39 = .ok (.ifCond .ne 6, 3) := dk_154 0 6 (dk_at dksX1_slide_1 15 rfl rfl)
theorem dX1_slide_42 : decode cX1_slide 42 = .ok (.iload 5, 2) := dk_21 5 (dk_at dksX1_slide_1 18 rfl rfl)
theorem dX1_slide_44 : decode cX1_slide 44 = .ok (.ireturn, 1) := dk_172 (dk_at dksX1_slide_1 20 rfl rfl)
theorem dX1_slide_45 : decode cX1_slide 45 = .ok (.iload 6, 2) := dk_21 6 (dk_at dksX1_slide_1 21 rfl rfl)
theorem dX1_slide_47 : decode cX1_slide 47 = .ok (.iload_n 2, 1) := dk_28 (dk_at dksX1_slide_1 23 rfl rfl)
theorem dX1_slide_48 : decode cX1_slide 48 = .ok (.iconst 2, 1) := dk_5 (dk_at dksX1_slide_2 0 rfl rfl)
theorem dX1_slide_49 : decode cX1_slide 49 = .ok (.idiv, 1) := dk_108 (dk_at dksX1_slide_2 1 rfl rfl)
theorem dX1_slide_50 : decode cX1_slide 50 = .ok (.if_icmp .eq 16, 3) := dk_159 0 16 (dk_at dksX1_slide_2 2 rfl rfl)
theorem dX1_slide_53 : decode cX1_slide 53 = .ok (.aload_n 0, 1) := dk_42 (dk_at dksX1_slide_2 5 rfl rfl)
theorem dX1_slide_54 : decode cX1_slide 54 = .ok (.dup, 1) := dk_89 (dk_at dksX1_slide_2 6 rfl rfl)
theorem dX1_slide_55 : decode cX1_slide 55 = .ok (.getfield 288, 3) := dk_180 1 32 (dk_at dksX1_slide_2 7 rfl rfl)
theorem dX1_slide_58 : decode cX1_slide 58 = .ok (.iconst 1, 1) := dk_4 (dk_at dksX1_slide_2 10 rfl rfl)
theorem dX1_slide_59 : decode cX1_slide 59 = .ok (.iload 6, 2) := dk_21 6 (dk_at dksX1_slide_2 11 rfl rfl)
theorem dX1_slide_61 : decode cX1_slide 61 = .ok (.ishl, 1) := dk_120 (dk_at dksX1_slide_2 13 rfl rfl)
theorem dX1_slide_62 : decode cX1_slide 62 = .ok (.ior, 1) := dk_128 (dk_at dksX1_slide_2 14 rfl rfl)
theorem dX1_slide_63 : decode cX1_slide 63 = .ok (.putfield 288, 3) := dk_181 1 32 (dk_at dksX1_slide_2 15 rfl rfl)
theorem dX1_slide_66 : decode cX1_slide 66 = .ok (.iload 5, 2) := dk_21 5 (dk_at dksX1_slide_2 18 rfl rfl)
theorem dX1_slide_68 : decode cX1_slide 68 = .ok (.ifCond .le 153, 3) := dk_158 0 153 (dk_at dksX1_slide_2 20 rfl rfl)
theorem dX1_slide_71 : decode cX1_slide 71 = .ok (.iload_n 3, 1) := dk_29 (dk_at dksX1_slide_2 23 rfl rfl)
theorem dX1_slide_72 : decode cX1_slide 72 = .ok (.iload 6, 2) := dk_21 6 (dk_at dksX1_slide_3 0 rfl rfl)
theorem dX1_slide_74 : decode cX1_slide 74 = .ok (.if_icmp .eq 147, 3) := dk_159 0 147 (dk_at dksX1_slide_3 2 rfl rfl)
theorem dX1_slide_77 : decode cX1_slide 77 = .ok (.aload_n 0, 1) := dk_42 (dk_at dksX1_slide_3 5 rfl rfl)
theorem dX1_slide_78 : decode cX1_slide 78 = .ok (.iload 5, 2) := dk_21 5 (dk_at dksX1_slide_3 6 rfl rfl)
theorem dX1_slide_80 : decode cX1_slide 80 = .ok (.putfield 291, 3) := dk_181 1 35 (dk_at dksX1_slide_3 8 rfl rfl)
theorem dX1_slide_83 : decode cX1_slide 83 = .ok (.aload_n 0, 1) := dk_42 (dk_at dksX1_slide_3 11 rfl rfl)
theorem dX1_slide_84 : decode cX1_slide 84 = .ok (.aload_n 1, 1) := dk_43 (dk_at dksX1_slide_3 12 rfl rfl)
theorem dX1_slide_85 : decode cX1_slide 85 = .ok (.getfield 241, 3) := dk_180 0 241 (dk_at dksX1_slide_3 13 rfl rfl)
theorem dX1_slide_88 : decode cX1_slide 88 = .ok (.iload 6, 2) := dk_21 6 (dk_at dksX1_slide_3 16 rfl rfl)
theorem dX1_slide_90 : decode cX1_slide 90 = .ok (.iaload, 1) := dk_46 (dk_at dksX1_slide_3 18 rfl rfl)
theorem dX1_slide_91 : decode cX1_slide 91 = .ok (.putfield 294, 3) := dk_181 1 38 (dk_at dksX1_slide_3 19 rfl rfl)
theorem dX1_slide_94 : decode cX1_slide 94 = .ok (.aload_n 0, 1) := dk_42 (dk_at dksX1_slide_3 22 rfl rfl)
theorem dX1_slide_95 : decode cX1_slide 95 = .ok (.aload_n 0, 1) := dk_42 (dk_at dksX1_slide_3 23 rfl rfl)
theorem dX1_slide_96 : decode cX1_slide 96 = .ok (.aload_n 1, 1) := dk_43 (dk_at dksX1_slide_4 0 rfl rfl)
theorem dX1_slide_97 : decode cX1_slide 97 = .ok (.getfield 297, 3) := dk_180 1 41 (dk_at dksX1_slide_4 1 rfl rfl)
theorem dX1_slide_100 : decode cX1_slide 100 = .ok (.invokevirtual 300, 3) := dk_182 1 44 (dk_at dksX1_slide_4 4 rfl rfl)
theorem dX1_slide_103 : decode cX1_slide 103 = .ok (.putfield 303, 3) := dk_181 1 47 (dk_at dksX1_slide_4 7 rfl rfl)
theorem dX1_slide_106 : decode cX1_slide 106 = .ok (.aload_n 0, 1) := dk_42 (dk_at dksX1_slide_4 10 rfl rfl)
theorem dX1_slide_107 : decode cX1_slide 107 = .ok (.aload_n 1, 1) := dk_43 (dk_at dksX1_slide_4 11 rfl rfl)
theorem dX1_slide_108 : decode cX1_slide 108 = .ok (.getfield 297, 3) := dk_180 1 41 (dk_at dksX1_slide_4 12 rfl rfl)
theorem dX1_slide_111 : decode cX1_slide 111 = .ok (.putfield 306, 3) := dk_181 1 50 (dk_at dksX1_slide_4 15 rfl rfl)
theorem dX1_slide_114 : decode cX1_slide 114 = .ok (.aload_n 0, 1) := dk_42 (dk_at dksX1_slide_4 18 rfl rfl)
theorem dX1_slide_115 : decode cX1_slide 115 = .ok (.iload 4, 2) := dk_21 4 (dk_at dksX1_slide_4 19 rfl rfl)
theorem dX1_slide_117 : decode cX1_slide 117 = .ok (.ifCond .eq 7, 3) := dk_153 0 7 (dk_at dksX1_slide_4 21 rfl rfl)
theorem dX1_slide_120 : decode cX1_slide 120 = .ok (.iconst 1, 1) := dk_4 (dk_at dksX1_slide_5 0 rfl rfl)
theorem dX1_slide_121 : decode cX1_slide 121 = .ok (.goto 4, 3) := dk_167 0 4 (dk_at dksX1_slide_5 1 rfl rfl)
theorem dX1_slide_124 : decode cX1_slide 124 = .ok (.iconst 0, 1) := dk_3 (dk_at dksX1_slide_5 4 rfl rfl)
theorem dX1_slide_125 : decode cX1_slide 125 = .ok (.putfield 309, 3) := dk_181 1 53 (dk_at dksX1_slide_5 5 rfl rfl)
theorem dX1_slide_128 : decode cX1_slide 128 = .ok (.aload_n 0, 1) := dk_42 (dk_at dksX1_slide_5 8 rfl rfl)
theorem dX1_slide_129 : decode cX1_slide 129 = .ok (.iload_n 2, 1) := dk_28 (dk_at dksX1_slide_5 9 rfl rfl)
theorem dX1_slide_130 : decode cX1_slide 130 = .ok (.iconst 2, 1) := dk_5 (dk_at dksX1_slide_5 10 rfl rfl)
theorem dX1_slide_131 : decode cX1_slide 131 = .ok (.idiv, 1) := dk_108 (dk_at dksX1_slide_5 11 rfl rfl)
theorem dX1_slide_132 : decode cX1_slide 132 = .ok (.putfield 312, 3) := dk_181 1 56 (dk_at dksX1_slide_5 12 rfl rfl)
theorem dX1_slide_135 : decode cX1_slide 135 = .ok (.aload_n 0, 1) := dk_42 (dk_at dksX1_slide_5 15 rfl rfl)
theorem dX1_slide_136 : decode cX1_slide 136 = .ok (.iload 6, 2) := dk_21 6 (dk_at dksX1_slide_5 16 rfl rfl)
theorem dX1_slide_138 : decode cX1_slide 138 = .ok (.putfield 315, 3) := dk_181 1 59 (dk_at dksX1_slide_5 18 rfl rfl)
theorem dX1_slide_141 : decode cX1_slide 141 = .ok (.iconst 0, 1) := dk_3 (dk_at dksX1_slide_5 21 rfl rfl)
theorem dX1_slide_142 : decode cX1_slide 142 = .ok (.bipush 99, 2) := dk_16 99 (dk_at dksX1_slide_5 22 rfl rfl)
theorem dX1_slide_144 : decode cX1_slide 144 = .ok (.aload_n 0, 1) := dk_42 (dk_at dksX1_slide_6 0 rfl rfl)
theorem dX1_slide_145 : decode cX1_slide 145 = .ok (.getfield 231, 3) := dk_180 0 231 (dk_at dksX1_slide_6 1 rfl rfl)
theorem dX1_slide_148 : decode cX1_slide 148 = .ok (.ifnonnull 8, 3) := dk_199 0 8 (dk_at dksX1_slide_6 4 rfl rfl)
theorem dX1_slide_151 : decode cX1_slide 151 = .ok (.iload 5, 2) := dk_21 5 (dk_at dksX1_slide_6 7 rfl rfl)
theorem dX1_slide_153 : decode cX1_slide 153 = .ok (.goto 10, 3) := dk_167 0 10 (dk_at dksX1_slide_6 9 rfl rfl)
theorem dX1_slide_156 : decode cX1_slide 156 = .ok (.aload_n 0, 1) := dk_42 (dk_at dksX1_slide_6 12 rfl rfl)
theorem dX1_slide_157 : decode cX1_slide 157 = .ok (.getfield 231, 3) := dk_180 0 231 (dk_at dksX1_slide_6 13 rfl rfl)
theorem dX1_slide_160 : decode cX1_slide 160 = .ok (.invokevirtual 318, 3) := dk_182 1 62 (dk_at dksX1_slide_6 16 rfl rfl)
theorem dX1_slide_163 : decode cX1_slide 163 = .ok (.invokestatic 130, 3) := dk_184 0 130 (dk_at dksX1_slide_6 19 rfl rfl)
theorem dX1_slide_166 : decode cX1_slide 166 = .ok (.invokestatic 115, 3) := dk_184 0 115 (dk_at dksX1_slide_7 0 rfl rfl)
theorem dX1_slide_169 : decode cX1_slide 169 = .ok (.istore 7, 2) := dk_54 7 (dk_at dksX1_slide_7 3 rfl rfl)
theorem dX1_slide_171 : decode cX1_slide 171 = .ok (.bipush 7, 2) := dk_16 7 (dk_at dksX1_slide_7 5 rfl rfl)
theorem dX1_slide_173 : decode cX1_slide 173 = .ok (.iload_n 3, 1) := dk_29 (dk_at dksX1_slide_7 7 rfl rfl)
theorem dX1_slide_174 : decode cX1_slide 174 = .ok (.imul, 1) := dk_104 (dk_at dksX1_slide_7 8 rfl rfl)
theorem dX1_slide_175 : decode cX1_slide 175 = .ok (.iload 6, 2) := dk_21 6 (dk_at dksX1_slide_7 9 rfl rfl)
theorem dX1_slide_177 : decode cX1_slide 177 = .ok (.iadd, 1) := dk_96 (dk_at dksX1_slide_7 11 rfl rfl)
theorem dX1_slide_178 : decode cX1_slide 178 = .ok (.istore 8, 2) := dk_54 8 (dk_at dksX1_slide_7 12 rfl rfl)
theorem dX1_slide_180 : decode cX1_slide 180 = .ok (.iload 7, 2) := dk_21 7 (dk_at dksX1_slide_7 14 rfl rfl)
theorem dX1_slide_182 : decode cX1_slide 182 = .ok (.sipush 9999, 3) := dk_17 39 15 (dk_at dksX1_slide_7 16 rfl rfl)
theorem dX1_slide_185 : decode cX1_slide 185 = .ok (.aload_n 1, 1) := dk_43 (dk_at dksX1_slide_7 19 rfl rfl)
theorem dX1_slide_186 : decode cX1_slide 186 = .ok (.getfield 275, 3) := dk_180 1 19 (dk_at dksX1_slide_7 20 rfl rfl)
theorem dX1_slide_189 : decode cX1_slide 189 = .ok (.iload 8, 2) := dk_21 8 (dk_at dksX1_slide_8 0 rfl rfl)
theorem dX1_slide_191 : decode cX1_slide 191 = .ok (.iaload, 1) := dk_46 (dk_at dksX1_slide_8 2 rfl rfl)
theorem dX1_slide_192 : decode cX1_slide 192 = .ok (.isub, 1) := dk_100 (dk_at dksX1_slide_8 3 rfl rfl)
theorem dX1_slide_193 : decode cX1_slide 193 = .ok (.invokestatic 130, 3) := dk_184 0 130 (dk_at dksX1_slide_8 4 rfl rfl)
theorem dX1_slide_196 : decode cX1_slide 196 = .ok (.istore 9, 2) := dk_54 9 (dk_at dksX1_slide_8 7 rfl rfl)
theorem dX1_slide_198 : decode cX1_slide 198 = .ok (.aload_n 1, 1) := dk_43 (dk_at dksX1_slide_8 9 rfl rfl)
theorem dX1_slide_199 : decode cX1_slide 199 = .ok (.getfield 275, 3) := dk_180 1 19 (dk_at dksX1_slide_8 10 rfl rfl)
theorem dX1_slide_202 : decode cX1_slide 202 = .ok (.iload 8, 2) := dk_21 8 (dk_at dksX1_slide_8 13 rfl rfl)
theorem dX1_slide_204 : decode cX1_slide 204 = .ok (.dup2, 1) := dk_92 (dk_at dksX1_slide_8 15 rfl rfl)
theorem dX1_slide_205 : decode cX1_slide 205 = .ok (.iaload, 1) := dk_46 (dk_at dksX1_slide_8 16 rfl rfl)
theorem dX1_slide_206 : decode cX1_slide 206 = .ok (.iload 9, 2) := dk_21 9 (dk_at dksX1_slide_8 17 rfl rfl)
theorem dX1_slide_208 : decode cX1_slide 208 = .ok (.iadd, 1) := dk_96 (dk_at dksX1_slide_8 19 rfl rfl)
theorem dX1_slide_209 : decode cX1_slide 209 = .ok (.iastore, 1) := dk_79 (dk_at dksX1_slide_8 20 rfl rfl)
theorem dX1_slide_210 : decode cX1_slide 210 = .ok (.aload_n 1, 1) := dk_43 (dk_at dksX1_slide_8 21 rfl rfl)
theorem dX1_slide_211 : decode cX1_slide 211 = .ok (.getfield 324, 3) := dk_180 1 68 (dk_at dksX1_slide_9 0 rfl rfl)
theorem dX1_slide_214 : decode cX1_slide 214 = .ok (.iload_n 3, 1) := dk_29 (dk_at dksX1_slide_9 3 rfl rfl)
theorem dX1_slide_215 : decode cX1_slide 215 = .ok (.dup2, 1) := dk_92 (dk_at dksX1_slide_9 4 rfl rfl)
theorem dX1_slide_216 : decode cX1_slide 216 = .ok (.iaload, 1) := dk_46 (dk_at dksX1_slide_9 5 rfl rfl)
theorem dX1_slide_217 : decode cX1_slide 217 = .ok (.iload 7, 2) := dk_21 7 (dk_at dksX1_slide_9 6 rfl rfl)
theorem dX1_slide_219 : decode cX1_slide 219 = .ok (.iadd, 1) := dk_96 (dk_at dksX1_slide_9 8 rfl rfl)
theorem dX1_slide_220 : decode cX1_slide 220 = .ok (.iastore, 1) := dk_79 (dk_at dksX1_slide_9 9 rfl rfl)
theorem dX1_slide_221 : decode cX1_slide 221 = .ok (.aload_n 1, 1) := dk_43 (dk_at dksX1_slide_9 10 rfl rfl)
theorem dX1_slide_222 : decode cX1_slide 222 = .ok (.getfield 241, 3) := dk_180 0 241 (dk_at dksX1_slide_9 11 rfl rfl)
theorem dX1_slide_225 : decode cX1_slide 225 = .ok (.iload 6, 2) := dk_21 6 (dk_at dksX1_slide_9 14 rfl rfl)
theorem dX1_slide_227 : decode cX1_slide 227 = .ok (.sipush 999, 3) := dk_17 3 231 (dk_at dksX1_slide_9 16 rfl rfl)
theorem dX1_slide_230 : decode cX1_slide 230 = .ok (.aload_n 1, 1) := dk_43 (dk_at dksX1_slide_9 19 rfl rfl)
theorem dX1_slide_231 : decode cX1_slide 231 = .ok (.getfield 241, 3) := dk_180 0 241 (dk_at dksX1_slide_9 20 rfl rfl)
theorem dX1_slide_234 : decode cX1_slide 234 = .ok (.iload 6, 2) := dk_21 6 (dk_at dksX1_slide_10 0 rfl rfl)
theorem dX1_slide_236 : decode cX1_slide 236 = .ok (.iaload, 1) := dk_46 (dk_at dksX1_slide_10 2 rfl rfl)
theorem dX1_slide_237 : decode cX1_slide 237 = .ok (.iload 5, 2) := dk_21 5 (dk_at dksX1_slide_10 3 rfl rfl)
theorem dX1_slide_239 : decode cX1_slide 239 = .ok (.iadd, 1) := dk_96 (dk_at dksX1_slide_10 5 rfl rfl)
theorem dX1_slide_240 : decode cX1_slide 240 = .ok (.invokestatic 130, 3) := dk_184 0 130 (dk_at dksX1_slide_10 6 rfl rfl)
theorem dX1_slide_243 : decode cX1_slide 243 = .ok (.iastore, 1) := dk_79 (dk_at dksX1_slide_10 9 rfl rfl)
theorem dX1_slide_244 : decode cX1_slide 244 = .ok (.iload 5, 2) := dk_21 5 (dk_at dksX1_slide_10 10 rfl rfl)
theorem dX1_slide_246 : decode cX1_slide 246 = .ok (.ireturn, 1) := dk_172 (dk_at dksX1_slide_10 12 rfl rfl)
abbrev cX1_tellsDays : ByteArray := prog_1_method_39_code
def yX1_tellsDays : MethodName := ⟨RX1, "tellsDays", "(LSnowForSummer$Town;)I"⟩
def dkwX1_tellsDays_1 : List UInt8 := [180, 1, 29, 172]
abbrev dktX1_tellsDays_1 : List UInt8 := dkwX1_tellsDays_1 ++ []
def dkwX1_tellsDays_0 : List UInt8 := [42, 3, 181, 1, 8, 42, 43, 182, 1, 78, 182, 1, 11, 42, 43, 182, 1, 81, 182, 1, 11, 43]
abbrev dktX1_tellsDays_0 : List UInt8 := dkwX1_tellsDays_0 ++ dktX1_tellsDays_1
theorem dksX1_tellsDays_0 : cX1_tellsDays.data.toList.drop 0 = dktX1_tellsDays_0 := by decide +kernel
theorem dksX1_tellsDays_1 : cX1_tellsDays.data.toList.drop 22 = dktX1_tellsDays_1 := dk_seg dksX1_tellsDays_0 22 rfl rfl
theorem dX1_tellsDays_0 : decode cX1_tellsDays 0 = .ok (.aload_n 0, 1) := dk_42 (dk_at dksX1_tellsDays_0 0 rfl rfl)
theorem dX1_tellsDays_1 : decode cX1_tellsDays 1 = .ok (.iconst 0, 1) := dk_3 (dk_at dksX1_tellsDays_0 1 rfl rfl)
theorem dX1_tellsDays_2 : decode cX1_tellsDays 2 = .ok (.putfield 264, 3) := dk_181 1 8 (dk_at dksX1_tellsDays_0 2 rfl rfl)
theorem dX1_tellsDays_5 : decode cX1_tellsDays 5 = .ok (.aload_n 0, 1) := dk_42 (dk_at dksX1_tellsDays_0 5 rfl rfl)
theorem dX1_tellsDays_6 : decode cX1_tellsDays 6 = .ok (.aload_n 1, 1) := dk_43 (dk_at dksX1_tellsDays_0 6 rfl rfl)
theorem dX1_tellsDays_7 : decode cX1_tellsDays 7 = .ok (.invokevirtual 334, 3) := dk_182 1 78 (dk_at dksX1_tellsDays_0 7 rfl rfl)
theorem dX1_tellsDays_10 : decode cX1_tellsDays 10 = .ok (.invokevirtual 267, 3) := dk_182 1 11 (dk_at dksX1_tellsDays_0 10 rfl rfl)
theorem dX1_tellsDays_13 : decode cX1_tellsDays 13 = .ok (.aload_n 0, 1) := dk_42 (dk_at dksX1_tellsDays_0 13 rfl rfl)
theorem dX1_tellsDays_14 : decode cX1_tellsDays 14 = .ok (.aload_n 1, 1) := dk_43 (dk_at dksX1_tellsDays_0 14 rfl rfl)
theorem dX1_tellsDays_15 : decode cX1_tellsDays 15 = .ok (.invokevirtual 337, 3) := dk_182 1 81 (dk_at dksX1_tellsDays_0 15 rfl rfl)
theorem dX1_tellsDays_18 : decode cX1_tellsDays 18 = .ok (.invokevirtual 267, 3) := dk_182 1 11 (dk_at dksX1_tellsDays_0 18 rfl rfl)
theorem dX1_tellsDays_21 : decode cX1_tellsDays 21 = .ok (.aload_n 1, 1) := dk_43 (dk_at dksX1_tellsDays_0 21 rfl rfl)
theorem dX1_tellsDays_22 : decode cX1_tellsDays 22 = .ok (.getfield 285, 3) := dk_180 1 29 (dk_at dksX1_tellsDays_1 0 rfl rfl)
theorem dX1_tellsDays_25 : decode cX1_tellsDays 25 = .ok (.ireturn, 1) := dk_172 (dk_at dksX1_tellsDays_1 3 rfl rfl)
abbrev cX1_days : ByteArray := prog_1_method_42_code
def yX1_days : MethodName := ⟨RX1, "days", "(I)I"⟩
def dkwX1_days_1 : List UInt8 := [42, 42, 180, 0, 12, 27, 182, 1, 98, 42, 42, 180, 0, 12, 182, 1, 89, 172]
abbrev dktX1_days_1 : List UInt8 := dkwX1_days_1 ++ []
def dkwX1_days_0 : List UInt8 := [27, 184, 1, 95, 154, 0, 5, 2, 172, 27, 158, 0, 7, 42, 182, 1, 84, 42, 180, 0, 12, 182, 1, 86]
abbrev dktX1_days_0 : List UInt8 := dkwX1_days_0 ++ dktX1_days_1
theorem dksX1_days_0 : cX1_days.data.toList.drop 0 = dktX1_days_0 := by decide +kernel
theorem dksX1_days_1 : cX1_days.data.toList.drop 24 = dktX1_days_1 := dk_seg dksX1_days_0 24 rfl rfl
theorem dX1_days_0 : decode cX1_days 0 = .ok (.iload_n 1, 1) := dk_27 (dk_at dksX1_days_0 0 rfl rfl)
theorem dX1_days_1 : decode cX1_days 1 = .ok (.invokestatic 351, 3) := dk_184 1 95 (dk_at dksX1_days_0 1 rfl rfl)
theorem dX1_days_4 : decode cX1_days 4 = .ok (.ifCond .ne 5, 3) := dk_154 0 5 (dk_at dksX1_days_0 4 rfl rfl)
theorem dX1_days_7 : decode cX1_days 7 = .ok (.iconst (-1), 1) := dk_2 (dk_at dksX1_days_0 7 rfl rfl)
theorem dX1_days_8 : decode cX1_days 8 = .ok (.ireturn, 1) := dk_172 (dk_at dksX1_days_0 8 rfl rfl)
theorem dX1_days_9 : decode cX1_days 9 = .ok (.iload_n 1, 1) := dk_27 (dk_at dksX1_days_0 9 rfl rfl)
theorem dX1_days_10 : decode cX1_days 10 = .ok (.ifCond .le 7, 3) := dk_158 0 7 (dk_at dksX1_days_0 10 rfl rfl)
theorem dX1_days_13 : decode cX1_days 13 = .ok (.aload_n 0, 1) := dk_42 (dk_at dksX1_days_0 13 rfl rfl)
theorem dX1_days_14 : decode cX1_days 14 = .ok (.invokevirtual 340, 3) := dk_182 1 84 (dk_at dksX1_days_0 14 rfl rfl)
theorem dX1_days_17 : decode cX1_days 17 = .ok (.aload_n 0, 1) := dk_42 (dk_at dksX1_days_0 17 rfl rfl)
theorem dX1_days_18 : decode cX1_days 18 = .ok (.getfield 12, 3) := dk_180 0 12 (dk_at dksX1_days_0 18 rfl rfl)
theorem dX1_days_21 : decode cX1_days 21 = .ok (.invokevirtual 342, 3) := dk_182 1 86 (dk_at dksX1_days_0 21 rfl rfl)
theorem dX1_days_24 : decode cX1_days 24 = .ok (.aload_n 0, 1) := dk_42 (dk_at dksX1_days_1 0 rfl rfl)
theorem dX1_days_25 : decode cX1_days 25 = .ok (.aload_n 0, 1) := dk_42 (dk_at dksX1_days_1 1 rfl rfl)
theorem dX1_days_26 : decode cX1_days 26 = .ok (.getfield 12, 3) := dk_180 0 12 (dk_at dksX1_days_1 2 rfl rfl)
theorem dX1_days_29 : decode cX1_days 29 = .ok (.iload_n 1, 1) := dk_27 (dk_at dksX1_days_1 5 rfl rfl)
theorem dX1_days_30 : decode cX1_days 30 = .ok (.invokevirtual 354, 3) := dk_182 1 98 (dk_at dksX1_days_1 6 rfl rfl)
theorem dX1_days_33 : decode cX1_days 33 = .ok (.aload_n 0, 1) := dk_42 (dk_at dksX1_days_1 9 rfl rfl)
theorem dX1_days_34 : decode cX1_days 34 = .ok (.aload_n 0, 1) := dk_42 (dk_at dksX1_days_1 10 rfl rfl)
theorem dX1_days_35 : decode cX1_days 35 = .ok (.getfield 12, 3) := dk_180 0 12 (dk_at dksX1_days_1 11 rfl rfl)
theorem dX1_days_38 : decode cX1_days 38 = .ok (.invokevirtual 345, 3) := dk_182 1 89 (dk_at dksX1_days_1 14 rfl rfl)
theorem dX1_days_41 : decode cX1_days 41 = .ok (.ireturn, 1) := dk_172 (dk_at dksX1_days_1 17 rfl rfl)
abbrev cX1_areDays : ByteArray := prog_1_method_41_code
def yX1_areDays : MethodName := ⟨RX1, "areDays", "(I)Z"⟩
def dkwX1_areDays_0 : List UInt8 := [26, 133, 9, 20, 1, 93, 184, 0, 100, 172]
abbrev dktX1_areDays_0 : List UInt8 := dkwX1_areDays_0 ++ []
theorem dksX1_areDays_0 : cX1_areDays.data.toList.drop 0 = dktX1_areDays_0 := by decide +kernel
theorem dX1_areDays_0 : decode cX1_areDays 0 = .ok (.iload_n 0, 1) := dk_26 (dk_at dksX1_areDays_0 0 rfl rfl)
theorem dX1_areDays_1 : decode cX1_areDays 1 = .ok (.i2l, 1) := dk_133 (dk_at dksX1_areDays_0 1 rfl rfl)
theorem dX1_areDays_2 : decode cX1_areDays 2 = .ok (.lconst 0, 1) := dk_9 (dk_at dksX1_areDays_0 2 rfl rfl)
theorem dX1_areDays_3 : decode cX1_areDays 3 = .ok (.ldc2_w 349, 3) := dk_20 1 93 (dk_at dksX1_areDays_0 3 rfl rfl)
theorem dX1_areDays_6 : decode cX1_areDays 6 = .ok (.invokestatic 100, 3) := dk_184 0 100 (dk_at dksX1_areDays_0 6 rfl rfl)
theorem dX1_areDays_9 : decode cX1_areDays 9 = .ok (.ireturn, 1) := dk_172 (dk_at dksX1_areDays_0 9 rfl rfl)
abbrev cX1_daysGo : ByteArray := prog_1_method_38_code
def yX1_daysGo : MethodName := ⟨RX1, "daysGo", "(LSnowForSummer$Town;I)V"⟩
def dkwX1_daysGo_0 : List UInt8 := [3, 62, 29, 28, 162, 0, 14, 42, 43, 182, 1, 75, 132, 3, 1, 167, 255, 243, 177]
abbrev dktX1_daysGo_0 : List UInt8 := dkwX1_daysGo_0 ++ []
theorem dksX1_daysGo_0 : cX1_daysGo.data.toList.drop 0 = dktX1_daysGo_0 := by decide +kernel
theorem dX1_daysGo_0 : decode cX1_daysGo 0 = .ok (.iconst 0, 1) := dk_3 (dk_at dksX1_daysGo_0 0 rfl rfl)
theorem dX1_daysGo_1 : decode cX1_daysGo 1 = .ok (.istore_n 3, 1) := dk_62 (dk_at dksX1_daysGo_0 1 rfl rfl)
theorem dX1_daysGo_2 : decode cX1_daysGo 2 = .ok (.iload_n 3, 1) := dk_29 (dk_at dksX1_daysGo_0 2 rfl rfl)
theorem dX1_daysGo_3 : decode cX1_daysGo 3 = .ok (.iload_n 2, 1) := dk_28 (dk_at dksX1_daysGo_0 3 rfl rfl)
theorem dX1_daysGo_4 : decode cX1_daysGo 4 = .ok (.if_icmp .ge 14, 3) := dk_162 0 14 (dk_at dksX1_daysGo_0 4 rfl rfl)
theorem dX1_daysGo_7 : decode cX1_daysGo 7 = .ok (.aload_n 0, 1) := dk_42 (dk_at dksX1_daysGo_0 7 rfl rfl)
theorem dX1_daysGo_8 : decode cX1_daysGo 8 = .ok (.aload_n 1, 1) := dk_43 (dk_at dksX1_daysGo_0 8 rfl rfl)
theorem dX1_daysGo_9 : decode cX1_daysGo 9 = .ok (.invokevirtual 331, 3) := dk_182 1 75 (dk_at dksX1_daysGo_0 9 rfl rfl)
theorem dX1_daysGo_12 : decode cX1_daysGo 12 = .ok (.iinc 3 1, 3) := dk_132 3 1 (dk_at dksX1_daysGo_0 12 rfl rfl)
theorem dX1_daysGo_15 : decode cX1_daysGo 15 = .ok (.goto (-13), 3) := dk_167 255 243 (dk_at dksX1_daysGo_0 15 rfl rfl)
theorem dX1_daysGo_18 : decode cX1_daysGo 18 = .ok (.return_, 1) := dk_177 (dk_at dksX1_daysGo_0 18 rfl rfl)
abbrev cX1_sweep : ByteArray := prog_1_method_44_code
def yX1_sweep : MethodName := ⟨RX1, "sweep", "(II)I"⟩
def dkwX1_sweep_2 : List UInt8 := [28, 184, 1, 105, 42, 180, 0, 12, 180, 0, 238, 27, 4, 130, 46, 172]
abbrev dktX1_sweep_2 : List UInt8 := dkwX1_sweep_2 ++ []
def dkwX1_sweep_1 : List UInt8 := [180, 0, 12, 180, 0, 238, 27, 46, 28, 162, 0, 6, 16, 254, 172, 42, 182, 1, 84, 42, 180, 0, 12, 27]
abbrev dktX1_sweep_1 : List UInt8 := dkwX1_sweep_1 ++ dktX1_sweep_2
def dkwX1_sweep_0 : List UInt8 := [42, 27, 182, 1, 102, 153, 0, 15, 28, 133, 10, 20, 0, 250, 184, 0, 100, 154, 0, 5, 2, 172, 42]
abbrev dktX1_sweep_0 : List UInt8 := dkwX1_sweep_0 ++ dktX1_sweep_1
theorem dksX1_sweep_0 : cX1_sweep.data.toList.drop 0 = dktX1_sweep_0 := by decide +kernel
theorem dksX1_sweep_1 : cX1_sweep.data.toList.drop 23 = dktX1_sweep_1 := dk_seg dksX1_sweep_0 23 rfl rfl
theorem dksX1_sweep_2 : cX1_sweep.data.toList.drop 47 = dktX1_sweep_2 := dk_seg dksX1_sweep_1 24 rfl rfl
theorem dX1_sweep_0 : decode cX1_sweep 0 = .ok (.aload_n 0, 1) := dk_42 (dk_at dksX1_sweep_0 0 rfl rfl)
theorem dX1_sweep_1 : decode cX1_sweep 1 = .ok (.iload_n 1, 1) := dk_27 (dk_at dksX1_sweep_0 1 rfl rfl)
theorem dX1_sweep_2 : decode cX1_sweep 2 = .ok (.invokevirtual 358, 3) := dk_182 1 102 (dk_at dksX1_sweep_0 2 rfl rfl)
theorem dX1_sweep_5 : decode cX1_sweep 5 = .ok (.ifCond .eq 15, 3) := dk_153 0 15 (dk_at dksX1_sweep_0 5 rfl rfl)
theorem dX1_sweep_8 : decode cX1_sweep 8 = .ok (.iload_n 2, 1) := dk_28 (dk_at dksX1_sweep_0 8 rfl rfl)
theorem dX1_sweep_9 : decode cX1_sweep 9 = .ok (.i2l, 1) := dk_133 (dk_at dksX1_sweep_0 9 rfl rfl)
theorem dX1_sweep_10 : decode cX1_sweep 10 = .ok (.lconst 1, 1) := dk_10 (dk_at dksX1_sweep_0 10 rfl rfl)
theorem dX1_sweep_11 : decode cX1_sweep 11 = .ok (.ldc2_w 250, 3) := dk_20 0 250 (dk_at dksX1_sweep_0 11 rfl rfl)
theorem dX1_sweep_14 : decode cX1_sweep 14 = .ok (.invokestatic 100, 3) := dk_184 0 100 (dk_at dksX1_sweep_0 14 rfl rfl)
theorem dX1_sweep_17 : decode cX1_sweep 17 = .ok (.ifCond .ne 5, 3) := dk_154 0 5 (dk_at dksX1_sweep_0 17 rfl rfl)
theorem dX1_sweep_20 : decode cX1_sweep 20 = .ok (.iconst (-1), 1) := dk_2 (dk_at dksX1_sweep_0 20 rfl rfl)
theorem dX1_sweep_21 : decode cX1_sweep 21 = .ok (.ireturn, 1) := dk_172 (dk_at dksX1_sweep_0 21 rfl rfl)
theorem dX1_sweep_22 : decode cX1_sweep 22 = .ok (.aload_n 0, 1) := dk_42 (dk_at dksX1_sweep_0 22 rfl rfl)
theorem dX1_sweep_23 : decode cX1_sweep 23 = .ok (.getfield 12, 3) := dk_180 0 12 (dk_at dksX1_sweep_1 0 rfl rfl)
theorem dX1_sweep_26 : decode cX1_sweep 26 = .ok (.getfield 238, 3) := dk_180 0 238 (dk_at dksX1_sweep_1 3 rfl rfl)
theorem dX1_sweep_29 : decode cX1_sweep 29 = .ok (.iload_n 1, 1) := dk_27 (dk_at dksX1_sweep_1 6 rfl rfl)
theorem dX1_sweep_30 : decode cX1_sweep 30 = .ok (.iaload, 1) := dk_46 (dk_at dksX1_sweep_1 7 rfl rfl)
theorem dX1_sweep_31 : decode cX1_sweep 31 = .ok (.iload_n 2, 1) := dk_28 (dk_at dksX1_sweep_1 8 rfl rfl)
theorem dX1_sweep_32 : decode cX1_sweep 32 = .ok (.if_icmp .ge 6, 3) := dk_162 0 6 (dk_at dksX1_sweep_1 9 rfl rfl)
theorem dX1_sweep_35 : decode cX1_sweep 35 = .ok (.bipush (-2), 2) := dk_16 254 (dk_at dksX1_sweep_1 12 rfl rfl)
theorem dX1_sweep_37 : decode cX1_sweep 37 = .ok (.ireturn, 1) := dk_172 (dk_at dksX1_sweep_1 14 rfl rfl)
theorem dX1_sweep_38 : decode cX1_sweep 38 = .ok (.aload_n 0, 1) := dk_42 (dk_at dksX1_sweep_1 15 rfl rfl)
theorem dX1_sweep_39 : decode cX1_sweep 39 = .ok (.invokevirtual 340, 3) := dk_182 1 84 (dk_at dksX1_sweep_1 16 rfl rfl)
theorem dX1_sweep_42 : decode cX1_sweep 42 = .ok (.aload_n 0, 1) := dk_42 (dk_at dksX1_sweep_1 19 rfl rfl)
theorem dX1_sweep_43 : decode cX1_sweep 43 = .ok (.getfield 12, 3) := dk_180 0 12 (dk_at dksX1_sweep_1 20 rfl rfl)
theorem dX1_sweep_46 : decode cX1_sweep 46 = .ok (.iload_n 1, 1) := dk_27 (dk_at dksX1_sweep_1 23 rfl rfl)
theorem dX1_sweep_47 : decode cX1_sweep 47 = .ok (.iload_n 2, 1) := dk_28 (dk_at dksX1_sweep_2 0 rfl rfl)
theorem dX1_sweep_48 : decode cX1_sweep 48 = .ok (.invokestatic 361, 3) := dk_184 1 105 (dk_at dksX1_sweep_2 1 rfl rfl)
theorem dX1_sweep_51 : decode cX1_sweep 51 = .ok (.aload_n 0, 1) := dk_42 (dk_at dksX1_sweep_2 4 rfl rfl)
theorem dX1_sweep_52 : decode cX1_sweep 52 = .ok (.getfield 12, 3) := dk_180 0 12 (dk_at dksX1_sweep_2 5 rfl rfl)
theorem dX1_sweep_55 : decode cX1_sweep 55 = .ok (.getfield 238, 3) := dk_180 0 238 (dk_at dksX1_sweep_2 8 rfl rfl)
theorem dX1_sweep_58 : decode cX1_sweep 58 = .ok (.iload_n 1, 1) := dk_27 (dk_at dksX1_sweep_2 11 rfl rfl)
theorem dX1_sweep_59 : decode cX1_sweep 59 = .ok (.iconst 1, 1) := dk_4 (dk_at dksX1_sweep_2 12 rfl rfl)
theorem dX1_sweep_60 : decode cX1_sweep 60 = .ok (.ixor, 1) := dk_130 (dk_at dksX1_sweep_2 13 rfl rfl)
theorem dX1_sweep_61 : decode cX1_sweep 61 = .ok (.iaload, 1) := dk_46 (dk_at dksX1_sweep_2 14 rfl rfl)
theorem dX1_sweep_62 : decode cX1_sweep 62 = .ok (.ireturn, 1) := dk_172 (dk_at dksX1_sweep_2 15 rfl rfl)
abbrev cX1_isSide : ByteArray := prog_1_method_5_code
def yX1_isSide : MethodName := ⟨RX1, "isSide", "(I)Z"⟩
def dkwX1_isSide_0 : List UInt8 := [27, 155, 0, 17, 42, 27, 5, 108, 182, 0, 104, 153, 0, 7, 4, 167, 0, 4, 3, 172]
abbrev dktX1_isSide_0 : List UInt8 := dkwX1_isSide_0 ++ []
theorem dksX1_isSide_0 : cX1_isSide.data.toList.drop 0 = dktX1_isSide_0 := by decide +kernel
theorem dX1_isSide_0 : decode cX1_isSide 0 = .ok (.iload_n 1, 1) := dk_27 (dk_at dksX1_isSide_0 0 rfl rfl)
theorem dX1_isSide_1 : decode cX1_isSide 1 = .ok (.ifCond .lt 17, 3) := dk_155 0 17 (dk_at dksX1_isSide_0 1 rfl rfl)
theorem dX1_isSide_4 : decode cX1_isSide 4 = .ok (.aload_n 0, 1) := dk_42 (dk_at dksX1_isSide_0 4 rfl rfl)
theorem dX1_isSide_5 : decode cX1_isSide 5 = .ok (.iload_n 1, 1) := dk_27 (dk_at dksX1_isSide_0 5 rfl rfl)
theorem dX1_isSide_6 : decode cX1_isSide 6 = .ok (.iconst 2, 1) := dk_5 (dk_at dksX1_isSide_0 6 rfl rfl)
theorem dX1_isSide_7 : decode cX1_isSide 7 = .ok (.idiv, 1) := dk_108 (dk_at dksX1_isSide_0 7 rfl rfl)
theorem dX1_isSide_8 : decode cX1_isSide 8 = .ok (.invokevirtual 104, 3) := dk_182 0 104 (dk_at dksX1_isSide_0 8 rfl rfl)
theorem dX1_isSide_11 : decode cX1_isSide 11 = .ok (.ifCond .eq 7, 3) := dk_153 0 7 (dk_at dksX1_isSide_0 11 rfl rfl)
theorem dX1_isSide_14 : decode cX1_isSide 14 = .ok (.iconst 1, 1) := dk_4 (dk_at dksX1_isSide_0 14 rfl rfl)
theorem dX1_isSide_15 : decode cX1_isSide 15 = .ok (.goto 4, 3) := dk_167 0 4 (dk_at dksX1_isSide_0 15 rfl rfl)
theorem dX1_isSide_18 : decode cX1_isSide 18 = .ok (.iconst 0, 1) := dk_3 (dk_at dksX1_isSide_0 18 rfl rfl)
theorem dX1_isSide_19 : decode cX1_isSide 19 = .ok (.ireturn, 1) := dk_172 (dk_at dksX1_isSide_0 19 rfl rfl)
abbrev cX1_sweeps : ByteArray := prog_1_method_43_code
def yX1_sweeps : MethodName := ⟨RX1, "sweeps", "(LSnowForSummer$Town;II)V"⟩
def dkwX1_sweeps_1 : List UInt8 := [27, 4, 130, 46, 28, 96, 184, 0, 130, 79, 177]
abbrev dktX1_sweeps_1 : List UInt8 := dkwX1_sweeps_1 ++ []
def dkwX1_sweeps_0 : List UInt8 := [42, 180, 0, 238, 27, 92, 46, 28, 100, 79, 42, 180, 0, 238, 27, 4, 130, 17, 3, 231, 42, 180, 0, 238]
abbrev dktX1_sweeps_0 : List UInt8 := dkwX1_sweeps_0 ++ dktX1_sweeps_1
theorem dksX1_sweeps_0 : cX1_sweeps.data.toList.drop 0 = dktX1_sweeps_0 := by decide +kernel
theorem dksX1_sweeps_1 : cX1_sweeps.data.toList.drop 24 = dktX1_sweeps_1 := dk_seg dksX1_sweeps_0 24 rfl rfl
theorem dX1_sweeps_0 : decode cX1_sweeps 0 = .ok (.aload_n 0, 1) := dk_42 (dk_at dksX1_sweeps_0 0 rfl rfl)
theorem dX1_sweeps_1 : decode cX1_sweeps 1 = .ok (.getfield 238, 3) := dk_180 0 238 (dk_at dksX1_sweeps_0 1 rfl rfl)
theorem dX1_sweeps_4 : decode cX1_sweeps 4 = .ok (.iload_n 1, 1) := dk_27 (dk_at dksX1_sweeps_0 4 rfl rfl)
theorem dX1_sweeps_5 : decode cX1_sweeps 5 = .ok (.dup2, 1) := dk_92 (dk_at dksX1_sweeps_0 5 rfl rfl)
theorem dX1_sweeps_6 : decode cX1_sweeps 6 = .ok (.iaload, 1) := dk_46 (dk_at dksX1_sweeps_0 6 rfl rfl)
theorem dX1_sweeps_7 : decode cX1_sweeps 7 = .ok (.iload_n 2, 1) := dk_28 (dk_at dksX1_sweeps_0 7 rfl rfl)
theorem dX1_sweeps_8 : decode cX1_sweeps 8 = .ok (.isub, 1) := dk_100 (dk_at dksX1_sweeps_0 8 rfl rfl)
theorem dX1_sweeps_9 : decode cX1_sweeps 9 = .ok (.iastore, 1) := dk_79 (dk_at dksX1_sweeps_0 9 rfl rfl)
theorem dX1_sweeps_10 : decode cX1_sweeps 10 = .ok (.aload_n 0, 1) := dk_42 (dk_at dksX1_sweeps_0 10 rfl rfl)
theorem dX1_sweeps_11 : decode cX1_sweeps 11 = .ok (.getfield 238, 3) := dk_180 0 238 (dk_at dksX1_sweeps_0 11 rfl rfl)
theorem dX1_sweeps_14 : decode cX1_sweeps 14 = .ok (.iload_n 1, 1) := dk_27 (dk_at dksX1_sweeps_0 14 rfl rfl)
theorem dX1_sweeps_15 : decode cX1_sweeps 15 = .ok (.iconst 1, 1) := dk_4 (dk_at dksX1_sweeps_0 15 rfl rfl)
theorem dX1_sweeps_16 : decode cX1_sweeps 16 = .ok (.ixor, 1) := dk_130 (dk_at dksX1_sweeps_0 16 rfl rfl)
theorem dX1_sweeps_17 : decode cX1_sweeps 17 = .ok (.sipush 999, 3) := dk_17 3 231 (dk_at dksX1_sweeps_0 17 rfl rfl)
theorem dX1_sweeps_20 : decode cX1_sweeps 20 = .ok (.aload_n 0, 1) := dk_42 (dk_at dksX1_sweeps_0 20 rfl rfl)
theorem dX1_sweeps_21 : decode cX1_sweeps 21 = .ok (.getfield 238, 3) := dk_180 0 238 (dk_at dksX1_sweeps_0 21 rfl rfl)
theorem dX1_sweeps_24 : decode cX1_sweeps 24 = .ok (.iload_n 1, 1) := dk_27 (dk_at dksX1_sweeps_1 0 rfl rfl)
theorem dX1_sweeps_25 : decode cX1_sweeps 25 = .ok (.iconst 1, 1) := dk_4 (dk_at dksX1_sweeps_1 1 rfl rfl)
theorem dX1_sweeps_26 : decode cX1_sweeps 26 = .ok (.ixor, 1) := dk_130 (dk_at dksX1_sweeps_1 2 rfl rfl)
theorem dX1_sweeps_27 : decode cX1_sweeps 27 = .ok (.iaload, 1) := dk_46 (dk_at dksX1_sweeps_1 3 rfl rfl)
theorem dX1_sweeps_28 : decode cX1_sweeps 28 = .ok (.iload_n 2, 1) := dk_28 (dk_at dksX1_sweeps_1 4 rfl rfl)
theorem dX1_sweeps_29 : decode cX1_sweeps 29 = .ok (.iadd, 1) := dk_96 (dk_at dksX1_sweeps_1 5 rfl rfl)
theorem dX1_sweeps_30 : decode cX1_sweeps 30 = .ok (.invokestatic 130, 3) := dk_184 0 130 (dk_at dksX1_sweeps_1 6 rfl rfl)
theorem dX1_sweeps_33 : decode cX1_sweeps 33 = .ok (.iastore, 1) := dk_79 (dk_at dksX1_sweeps_1 9 rfl rfl)
theorem dX1_sweeps_34 : decode cX1_sweeps 34 = .ok (.return_, 1) := dk_177 (dk_at dksX1_sweeps_1 10 rfl rfl)
abbrev cX1_clear : ByteArray := prog_1_method_45_code
def yX1_clear : MethodName := ⟨RX1, "clear", "(II)I"⟩
def dkwX1_clear_2 : List UInt8 := [180, 0, 241, 27, 92, 46, 28, 100, 79, 42, 180, 0, 12, 180, 0, 241, 27, 46, 172]
abbrev dktX1_clear_2 : List UInt8 := dkwX1_clear_2 ++ []
def dkwX1_clear_1 : List UInt8 := [180, 0, 12, 180, 0, 241, 27, 46, 28, 162, 0, 6, 16, 254, 172, 42, 182, 1, 84, 42, 180, 0, 12]
abbrev dktX1_clear_1 : List UInt8 := dkwX1_clear_1 ++ dktX1_clear_2
def dkwX1_clear_0 : List UInt8 := [42, 27, 182, 0, 104, 153, 0, 15, 28, 133, 10, 20, 0, 250, 184, 0, 100, 154, 0, 5, 2, 172, 42]
abbrev dktX1_clear_0 : List UInt8 := dkwX1_clear_0 ++ dktX1_clear_1
theorem dksX1_clear_0 : cX1_clear.data.toList.drop 0 = dktX1_clear_0 := by decide +kernel
theorem dksX1_clear_1 : cX1_clear.data.toList.drop 23 = dktX1_clear_1 := dk_seg dksX1_clear_0 23 rfl rfl
theorem dksX1_clear_2 : cX1_clear.data.toList.drop 46 = dktX1_clear_2 := dk_seg dksX1_clear_1 23 rfl rfl
theorem dX1_clear_0 : decode cX1_clear 0 = .ok (.aload_n 0, 1) := dk_42 (dk_at dksX1_clear_0 0 rfl rfl)
theorem dX1_clear_1 : decode cX1_clear 1 = .ok (.iload_n 1, 1) := dk_27 (dk_at dksX1_clear_0 1 rfl rfl)
theorem dX1_clear_2 : decode cX1_clear 2 = .ok (.invokevirtual 104, 3) := dk_182 0 104 (dk_at dksX1_clear_0 2 rfl rfl)
theorem dX1_clear_5 : decode cX1_clear 5 = .ok (.ifCond .eq 15, 3) := dk_153 0 15 (dk_at dksX1_clear_0 5 rfl rfl)
theorem dX1_clear_8 : decode cX1_clear 8 = .ok (.iload_n 2, 1) := dk_28 (dk_at dksX1_clear_0 8 rfl rfl)
theorem dX1_clear_9 : decode cX1_clear 9 = .ok (.i2l, 1) := dk_133 (dk_at dksX1_clear_0 9 rfl rfl)
theorem dX1_clear_10 : decode cX1_clear 10 = .ok (.lconst 1, 1) := dk_10 (dk_at dksX1_clear_0 10 rfl rfl)
theorem dX1_clear_11 : decode cX1_clear 11 = .ok (.ldc2_w 250, 3) := dk_20 0 250 (dk_at dksX1_clear_0 11 rfl rfl)
theorem dX1_clear_14 : decode cX1_clear 14 = .ok (.invokestatic 100, 3) := dk_184 0 100 (dk_at dksX1_clear_0 14 rfl rfl)
theorem dX1_clear_17 : decode cX1_clear 17 = .ok (.ifCond .ne 5, 3) := dk_154 0 5 (dk_at dksX1_clear_0 17 rfl rfl)
theorem dX1_clear_20 : decode cX1_clear 20 = .ok (.iconst (-1), 1) := dk_2 (dk_at dksX1_clear_0 20 rfl rfl)
theorem dX1_clear_21 : decode cX1_clear 21 = .ok (.ireturn, 1) := dk_172 (dk_at dksX1_clear_0 21 rfl rfl)
theorem dX1_clear_22 : decode cX1_clear 22 = .ok (.aload_n 0, 1) := dk_42 (dk_at dksX1_clear_0 22 rfl rfl)
theorem dX1_clear_23 : decode cX1_clear 23 = .ok (.getfield 12, 3) := dk_180 0 12 (dk_at dksX1_clear_1 0 rfl rfl)
theorem dX1_clear_26 : decode cX1_clear 26 = .ok (.getfield 241, 3) := dk_180 0 241 (dk_at dksX1_clear_1 3 rfl rfl)
theorem dX1_clear_29 : decode cX1_clear 29 = .ok (.iload_n 1, 1) := dk_27 (dk_at dksX1_clear_1 6 rfl rfl)
theorem dX1_clear_30 : decode cX1_clear 30 = .ok (.iaload, 1) := dk_46 (dk_at dksX1_clear_1 7 rfl rfl)
theorem dX1_clear_31 : decode cX1_clear 31 = .ok (.iload_n 2, 1) := dk_28 (dk_at dksX1_clear_1 8 rfl rfl)
theorem dX1_clear_32 : decode cX1_clear 32 = .ok (.if_icmp .ge 6, 3) := dk_162 0 6 (dk_at dksX1_clear_1 9 rfl rfl)
theorem dX1_clear_35 : decode cX1_clear 35 = .ok (.bipush (-2), 2) := dk_16 254 (dk_at dksX1_clear_1 12 rfl rfl)
theorem dX1_clear_37 : decode cX1_clear 37 = .ok (.ireturn, 1) := dk_172 (dk_at dksX1_clear_1 14 rfl rfl)
theorem dX1_clear_38 : decode cX1_clear 38 = .ok (.aload_n 0, 1) := dk_42 (dk_at dksX1_clear_1 15 rfl rfl)
theorem dX1_clear_39 : decode cX1_clear 39 = .ok (.invokevirtual 340, 3) := dk_182 1 84 (dk_at dksX1_clear_1 16 rfl rfl)
theorem dX1_clear_42 : decode cX1_clear 42 = .ok (.aload_n 0, 1) := dk_42 (dk_at dksX1_clear_1 19 rfl rfl)
theorem dX1_clear_43 : decode cX1_clear 43 = .ok (.getfield 12, 3) := dk_180 0 12 (dk_at dksX1_clear_1 20 rfl rfl)
theorem dX1_clear_46 : decode cX1_clear 46 = .ok (.getfield 241, 3) := dk_180 0 241 (dk_at dksX1_clear_2 0 rfl rfl)
theorem dX1_clear_49 : decode cX1_clear 49 = .ok (.iload_n 1, 1) := dk_27 (dk_at dksX1_clear_2 3 rfl rfl)
theorem dX1_clear_50 : decode cX1_clear 50 = .ok (.dup2, 1) := dk_92 (dk_at dksX1_clear_2 4 rfl rfl)
theorem dX1_clear_51 : decode cX1_clear 51 = .ok (.iaload, 1) := dk_46 (dk_at dksX1_clear_2 5 rfl rfl)
theorem dX1_clear_52 : decode cX1_clear 52 = .ok (.iload_n 2, 1) := dk_28 (dk_at dksX1_clear_2 6 rfl rfl)
theorem dX1_clear_53 : decode cX1_clear 53 = .ok (.isub, 1) := dk_100 (dk_at dksX1_clear_2 7 rfl rfl)
theorem dX1_clear_54 : decode cX1_clear 54 = .ok (.iastore, 1) := dk_79 (dk_at dksX1_clear_2 8 rfl rfl)
theorem dX1_clear_55 : decode cX1_clear 55 = .ok (.aload_n 0, 1) := dk_42 (dk_at dksX1_clear_2 9 rfl rfl)
theorem dX1_clear_56 : decode cX1_clear 56 = .ok (.getfield 12, 3) := dk_180 0 12 (dk_at dksX1_clear_2 10 rfl rfl)
theorem dX1_clear_59 : decode cX1_clear 59 = .ok (.getfield 241, 3) := dk_180 0 241 (dk_at dksX1_clear_2 13 rfl rfl)
theorem dX1_clear_62 : decode cX1_clear 62 = .ok (.iload_n 1, 1) := dk_27 (dk_at dksX1_clear_2 16 rfl rfl)
theorem dX1_clear_63 : decode cX1_clear 63 = .ok (.iaload, 1) := dk_46 (dk_at dksX1_clear_2 17 rfl rfl)
theorem dX1_clear_64 : decode cX1_clear 64 = .ok (.ireturn, 1) := dk_172 (dk_at dksX1_clear_2 18 rfl rfl)
abbrev cX1_wind : ByteArray := prog_1_method_46_code
def yX1_wind : MethodName := ⟨RX1, "wind", "(II)I"⟩
def dkwX1_wind_3 : List UInt8 := [96, 21, 5, 184, 1, 105, 29, 21, 5, 96, 62, 132, 4, 1, 167, 255, 204, 29, 172]
abbrev dktX1_wind_3 : List UInt8 := dkwX1_wind_3 ++ []
def dkwX1_wind_2 : List UInt8 := [180, 0, 238, 5, 21, 4, 104, 27, 96, 46, 184, 0, 130, 54, 5, 42, 180, 0, 12, 5, 21, 4, 104, 27]
abbrev dktX1_wind_2 : List UInt8 := dkwX1_wind_2 ++ dktX1_wind_3
def dkwX1_wind_1 : List UInt8 := [42, 182, 1, 84, 3, 62, 3, 54, 4, 21, 4, 42, 180, 0, 96, 162, 0, 49, 28, 42, 180, 0, 12]
abbrev dktX1_wind_1 : List UInt8 := dkwX1_wind_1 ++ dktX1_wind_2
def dkwX1_wind_0 : List UInt8 := [27, 133, 9, 10, 184, 0, 100, 153, 0, 15, 28, 133, 10, 20, 0, 250, 184, 0, 100, 154, 0, 5, 2, 172]
abbrev dktX1_wind_0 : List UInt8 := dkwX1_wind_0 ++ dktX1_wind_1
theorem dksX1_wind_0 : cX1_wind.data.toList.drop 0 = dktX1_wind_0 := by decide +kernel
theorem dksX1_wind_1 : cX1_wind.data.toList.drop 24 = dktX1_wind_1 := dk_seg dksX1_wind_0 24 rfl rfl
theorem dksX1_wind_2 : cX1_wind.data.toList.drop 47 = dktX1_wind_2 := dk_seg dksX1_wind_1 23 rfl rfl
theorem dksX1_wind_3 : cX1_wind.data.toList.drop 71 = dktX1_wind_3 := dk_seg dksX1_wind_2 24 rfl rfl
theorem dX1_wind_0 : decode cX1_wind 0 = .ok (.iload_n 1, 1) := dk_27 (dk_at dksX1_wind_0 0 rfl rfl)
theorem dX1_wind_1 : decode cX1_wind 1 = .ok (.i2l, 1) := dk_133 (dk_at dksX1_wind_0 1 rfl rfl)
theorem dX1_wind_2 : decode cX1_wind 2 = .ok (.lconst 0, 1) := dk_9 (dk_at dksX1_wind_0 2 rfl rfl)
theorem dX1_wind_3 : decode cX1_wind 3 = .ok (.lconst 1, 1) := dk_10 (dk_at dksX1_wind_0 3 rfl rfl)
theorem dX1_wind_4 : decode cX1_wind 4 = .ok (.invokestatic 100, 3) := dk_184 0 100 (dk_at dksX1_wind_0 4 rfl rfl)
theorem dX1_wind_7 : decode cX1_wind 7 = .ok (.ifCond .eq 15, 3) := dk_153 0 15 (dk_at dksX1_wind_0 7 rfl rfl)
theorem dX1_wind_10 : decode cX1_wind 10 = .ok (.iload_n 2, 1) := dk_28 (dk_at dksX1_wind_0 10 rfl rfl)
theorem dX1_wind_11 : decode cX1_wind 11 = .ok (.i2l, 1) := dk_133 (dk_at dksX1_wind_0 11 rfl rfl)
theorem dX1_wind_12 : decode cX1_wind 12 = .ok (.lconst 1, 1) := dk_10 (dk_at dksX1_wind_0 12 rfl rfl)
theorem dX1_wind_13 : decode cX1_wind 13 = .ok (.ldc2_w 250, 3) := dk_20 0 250 (dk_at dksX1_wind_0 13 rfl rfl)
theorem dX1_wind_16 : decode cX1_wind 16 = .ok (.invokestatic 100, 3) := dk_184 0 100 (dk_at dksX1_wind_0 16 rfl rfl)
theorem dX1_wind_19 : decode cX1_wind 19 = .ok (.ifCond .ne 5, 3) := dk_154 0 5 (dk_at dksX1_wind_0 19 rfl rfl)
theorem dX1_wind_22 : decode cX1_wind 22 = .ok (.iconst (-1), 1) := dk_2 (dk_at dksX1_wind_0 22 rfl rfl)
theorem dX1_wind_23 : decode cX1_wind 23 = .ok (.ireturn, 1) := dk_172 (dk_at dksX1_wind_0 23 rfl rfl)
theorem dX1_wind_24 : decode cX1_wind 24 = .ok (.aload_n 0, 1) := dk_42 (dk_at dksX1_wind_1 0 rfl rfl)
theorem dX1_wind_25 : decode cX1_wind 25 = .ok (.invokevirtual 340, 3) := dk_182 1 84 (dk_at dksX1_wind_1 1 rfl rfl)
theorem dX1_wind_28 : decode cX1_wind 28 = .ok (.iconst 0, 1) := dk_3 (dk_at dksX1_wind_1 4 rfl rfl)
theorem dX1_wind_29 : decode cX1_wind 29 = .ok (.istore_n 3, 1) := dk_62 (dk_at dksX1_wind_1 5 rfl rfl)
theorem dX1_wind_30 : decode cX1_wind 30 = .ok (.iconst 0, 1) := dk_3 (dk_at dksX1_wind_1 6 rfl rfl)
theorem dX1_wind_31 : decode cX1_wind 31 = .ok (.istore 4, 2) := dk_54 4 (dk_at dksX1_wind_1 7 rfl rfl)
theorem dX1_wind_33 : decode cX1_wind 33 = .ok (.iload 4, 2) := dk_21 4 (dk_at dksX1_wind_1 9 rfl rfl)
theorem dX1_wind_35 : decode cX1_wind 35 = .ok (.aload_n 0, 1) := dk_42 (dk_at dksX1_wind_1 11 rfl rfl)
theorem dX1_wind_36 : decode cX1_wind 36 = .ok (.getfield 96, 3) := dk_180 0 96 (dk_at dksX1_wind_1 12 rfl rfl)
theorem dX1_wind_39 : decode cX1_wind 39 = .ok (.if_icmp .ge 49, 3) := dk_162 0 49 (dk_at dksX1_wind_1 15 rfl rfl)
theorem dX1_wind_42 : decode cX1_wind 42 = .ok (.iload_n 2, 1) := dk_28 (dk_at dksX1_wind_1 18 rfl rfl)
theorem dX1_wind_43 : decode cX1_wind 43 = .ok (.aload_n 0, 1) := dk_42 (dk_at dksX1_wind_1 19 rfl rfl)
theorem dX1_wind_44 : decode cX1_wind 44 = .ok (.getfield 12, 3) := dk_180 0 12 (dk_at dksX1_wind_1 20 rfl rfl)
theorem dX1_wind_47 : decode cX1_wind 47 = .ok (.getfield 238, 3) := dk_180 0 238 (dk_at dksX1_wind_2 0 rfl rfl)
theorem dX1_wind_50 : decode cX1_wind 50 = .ok (.iconst 2, 1) := dk_5 (dk_at dksX1_wind_2 3 rfl rfl)
theorem dX1_wind_51 : decode cX1_wind 51 = .ok (.iload 4, 2) := dk_21 4 (dk_at dksX1_wind_2 4 rfl rfl)
theorem dX1_wind_53 : decode cX1_wind 53 = .ok (.imul, 1) := dk_104 (dk_at dksX1_wind_2 6 rfl rfl)
theorem dX1_wind_54 : decode cX1_wind 54 = .ok (.iload_n 1, 1) := dk_27 (dk_at dksX1_wind_2 7 rfl rfl)
theorem dX1_wind_55 : decode cX1_wind 55 = .ok (.iadd, 1) := dk_96 (dk_at dksX1_wind_2 8 rfl rfl)
theorem dX1_wind_56 : decode cX1_wind 56 = .ok (.iaload, 1) := dk_46 (dk_at dksX1_wind_2 9 rfl rfl)
theorem dX1_wind_57 : decode cX1_wind 57 = .ok (.invokestatic 130, 3) := dk_184 0 130 (dk_at dksX1_wind_2 10 rfl rfl)
theorem dX1_wind_60 : decode cX1_wind 60 = .ok (.istore 5, 2) := dk_54 5 (dk_at dksX1_wind_2 13 rfl rfl)
theorem dX1_wind_62 : decode cX1_wind 62 = .ok (.aload_n 0, 1) := dk_42 (dk_at dksX1_wind_2 15 rfl rfl)
theorem dX1_wind_63 : decode cX1_wind 63 = .ok (.getfield 12, 3) := dk_180 0 12 (dk_at dksX1_wind_2 16 rfl rfl)
theorem dX1_wind_66 : decode cX1_wind 66 = .ok (.iconst 2, 1) := dk_5 (dk_at dksX1_wind_2 19 rfl rfl)
theorem dX1_wind_67 : decode cX1_wind 67 = .ok (.iload 4, 2) := dk_21 4 (dk_at dksX1_wind_2 20 rfl rfl)
theorem dX1_wind_69 : decode cX1_wind 69 = .ok (.imul, 1) := dk_104 (dk_at dksX1_wind_2 22 rfl rfl)
theorem dX1_wind_70 : decode cX1_wind 70 = .ok (.iload_n 1, 1) := dk_27 (dk_at dksX1_wind_2 23 rfl rfl)
theorem dX1_wind_71 : decode cX1_wind 71 = .ok (.iadd, 1) := dk_96 (dk_at dksX1_wind_3 0 rfl rfl)
theorem dX1_wind_72 : decode cX1_wind 72 = .ok (.iload 5, 2) := dk_21 5 (dk_at dksX1_wind_3 1 rfl rfl)
theorem dX1_wind_74 : decode cX1_wind 74 = .ok (.invokestatic 361, 3) := dk_184 1 105 (dk_at dksX1_wind_3 3 rfl rfl)
theorem dX1_wind_77 : decode cX1_wind 77 = .ok (.iload_n 3, 1) := dk_29 (dk_at dksX1_wind_3 6 rfl rfl)
theorem dX1_wind_78 : decode cX1_wind 78 = .ok (.iload 5, 2) := dk_21 5 (dk_at dksX1_wind_3 7 rfl rfl)
theorem dX1_wind_80 : decode cX1_wind 80 = .ok (.iadd, 1) := dk_96 (dk_at dksX1_wind_3 9 rfl rfl)
theorem dX1_wind_81 : decode cX1_wind 81 = .ok (.istore_n 3, 1) := dk_62 (dk_at dksX1_wind_3 10 rfl rfl)
theorem dX1_wind_82 : decode cX1_wind 82 = .ok (.iinc 4 1, 3) := dk_132 4 1 (dk_at dksX1_wind_3 11 rfl rfl)
theorem dX1_wind_85 : decode cX1_wind 85 = .ok (.goto (-52), 3) := dk_167 255 204 (dk_at dksX1_wind_3 14 rfl rfl)
theorem dX1_wind_88 : decode cX1_wind 88 = .ok (.iload_n 3, 1) := dk_29 (dk_at dksX1_wind_3 17 rfl rfl)
theorem dX1_wind_89 : decode cX1_wind 89 = .ok (.ireturn, 1) := dk_172 (dk_at dksX1_wind_3 18 rfl rfl)
abbrev cX1_loose : ByteArray := prog_1_method_47_code
def yX1_loose : MethodName := ⟨RX1, "loose", "(II)I"⟩
def dkwX1_loose_3 : List UInt8 := [182, 1, 11, 29, 172]
abbrev dktX1_loose_3 : List UInt8 := dkwX1_loose_3 ++ []
def dkwX1_loose_2 : List UInt8 := [180, 0, 12, 28, 27, 4, 182, 1, 71, 62, 42, 3, 181, 1, 8, 42, 42, 180, 0, 12, 182, 1, 78]
abbrev dktX1_loose_2 : List UInt8 := dkwX1_loose_2 ++ dktX1_loose_3
def dkwX1_loose_1 : List UInt8 := [180, 0, 238, 28, 46, 154, 0, 6, 16, 254, 172, 42, 182, 1, 84, 42, 180, 0, 12, 182, 1, 86, 42, 42]
abbrev dktX1_loose_1 : List UInt8 := dkwX1_loose_1 ++ dktX1_loose_2
def dkwX1_loose_0 : List UInt8 := [42, 27, 182, 0, 104, 153, 0, 11, 42, 28, 182, 1, 102, 154, 0, 5, 2, 172, 42, 180, 0, 12]
abbrev dktX1_loose_0 : List UInt8 := dkwX1_loose_0 ++ dktX1_loose_1
theorem dksX1_loose_0 : cX1_loose.data.toList.drop 0 = dktX1_loose_0 := by decide +kernel
theorem dksX1_loose_1 : cX1_loose.data.toList.drop 22 = dktX1_loose_1 := dk_seg dksX1_loose_0 22 rfl rfl
theorem dksX1_loose_2 : cX1_loose.data.toList.drop 46 = dktX1_loose_2 := dk_seg dksX1_loose_1 24 rfl rfl
theorem dksX1_loose_3 : cX1_loose.data.toList.drop 69 = dktX1_loose_3 := dk_seg dksX1_loose_2 23 rfl rfl
theorem dX1_loose_0 : decode cX1_loose 0 = .ok (.aload_n 0, 1) := dk_42 (dk_at dksX1_loose_0 0 rfl rfl)
theorem dX1_loose_1 : decode cX1_loose 1 = .ok (.iload_n 1, 1) := dk_27 (dk_at dksX1_loose_0 1 rfl rfl)
theorem dX1_loose_2 : decode cX1_loose 2 = .ok (.invokevirtual 104, 3) := dk_182 0 104 (dk_at dksX1_loose_0 2 rfl rfl)
theorem dX1_loose_5 : decode cX1_loose 5 = .ok (.ifCond .eq 11, 3) := dk_153 0 11 (dk_at dksX1_loose_0 5 rfl rfl)
theorem dX1_loose_8 : decode cX1_loose 8 = .ok (.aload_n 0, 1) := dk_42 (dk_at dksX1_loose_0 8 rfl rfl)
theorem dX1_loose_9 : decode cX1_loose 9 = .ok (.iload_n 2, 1) := dk_28 (dk_at dksX1_loose_0 9 rfl rfl)
theorem dX1_loose_10 : decode cX1_loose 10 = .ok (.invokevirtual 358, 3) := dk_182 1 102 (dk_at dksX1_loose_0 10 rfl rfl)
theorem dX1_loose_13 : decode cX1_loose 13 = .ok (.ifCond .ne 5, 3) := dk_154 0 5 (dk_at dksX1_loose_0 13 rfl rfl)
theorem dX1_loose_16 : decode cX1_loose 16 = .ok (.iconst (-1), 1) := dk_2 (dk_at dksX1_loose_0 16 rfl rfl)
theorem dX1_loose_17 : decode cX1_loose 17 = .ok (.ireturn, 1) := dk_172 (dk_at dksX1_loose_0 17 rfl rfl)
theorem dX1_loose_18 : decode cX1_loose 18 = .ok (.aload_n 0, 1) := dk_42 (dk_at dksX1_loose_0 18 rfl rfl)
theorem dX1_loose_19 : decode cX1_loose 19 = .ok (.getfield 12, 3) := dk_180 0 12 (dk_at dksX1_loose_0 19 rfl rfl)
theorem dX1_loose_22 : decode cX1_loose 22 = .ok (.getfield 238, 3) := dk_180 0 238 (dk_at dksX1_loose_1 0 rfl rfl)
theorem dX1_loose_25 : decode cX1_loose 25 = .ok (.iload_n 2, 1) := dk_28 (dk_at dksX1_loose_1 3 rfl rfl)
theorem dX1_loose_26 : decode cX1_loose 26 = .ok (.iaload, 1) := dk_46 (dk_at dksX1_loose_1 4 rfl rfl)
theorem dX1_loose_27 : decode cX1_loose 27 = .ok (.ifCond .ne 6, 3) := dk_154 0 6 (dk_at dksX1_loose_1 5 rfl rfl)
theorem dX1_loose_30 : decode cX1_loose 30 = .ok (.bipush (-2), 2) := dk_16 254 (dk_at dksX1_loose_1 8 rfl rfl)
theorem dX1_loose_32 : decode cX1_loose 32 = .ok (.ireturn, 1) := dk_172 (dk_at dksX1_loose_1 10 rfl rfl)
theorem dX1_loose_33 : decode cX1_loose 33 = .ok (.aload_n 0, 1) := dk_42 (dk_at dksX1_loose_1 11 rfl rfl)
theorem dX1_loose_34 : decode cX1_loose 34 = .ok (.invokevirtual 340, 3) := dk_182 1 84 (dk_at dksX1_loose_1 12 rfl rfl)
theorem dX1_loose_37 : decode cX1_loose 37 = .ok (.aload_n 0, 1) := dk_42 (dk_at dksX1_loose_1 15 rfl rfl)
theorem dX1_loose_38 : decode cX1_loose 38 = .ok (.getfield 12, 3) := dk_180 0 12 (dk_at dksX1_loose_1 16 rfl rfl)
theorem dX1_loose_41 : decode cX1_loose 41 = .ok (.invokevirtual 342, 3) := dk_182 1 86 (dk_at dksX1_loose_1 19 rfl rfl)
theorem dX1_loose_44 : decode cX1_loose 44 = .ok (.aload_n 0, 1) := dk_42 (dk_at dksX1_loose_1 22 rfl rfl)
theorem dX1_loose_45 : decode cX1_loose 45 = .ok (.aload_n 0, 1) := dk_42 (dk_at dksX1_loose_1 23 rfl rfl)
theorem dX1_loose_46 : decode cX1_loose 46 = .ok (.getfield 12, 3) := dk_180 0 12 (dk_at dksX1_loose_2 0 rfl rfl)
theorem dX1_loose_49 : decode cX1_loose 49 = .ok (.iload_n 2, 1) := dk_28 (dk_at dksX1_loose_2 3 rfl rfl)
theorem dX1_loose_50 : decode cX1_loose 50 = .ok (.iload_n 1, 1) := dk_27 (dk_at dksX1_loose_2 4 rfl rfl)
theorem dX1_loose_51 : decode cX1_loose 51 = .ok (.iconst 1, 1) := dk_4 (dk_at dksX1_loose_2 5 rfl rfl)
theorem dX1_loose_52 : decode cX1_loose 52 = .ok (.invokevirtual 327, 3) := dk_182 1 71 (dk_at dksX1_loose_2 6 rfl rfl)
theorem dX1_loose_55 : decode cX1_loose 55 = .ok (.istore_n 3, 1) := dk_62 (dk_at dksX1_loose_2 9 rfl rfl)
theorem dX1_loose_56 : decode cX1_loose 56 = .ok (.aload_n 0, 1) := dk_42 (dk_at dksX1_loose_2 10 rfl rfl)
theorem dX1_loose_57 : decode cX1_loose 57 = .ok (.iconst 0, 1) := dk_3 (dk_at dksX1_loose_2 11 rfl rfl)
theorem dX1_loose_58 : decode cX1_loose 58 = .ok (.putfield 264, 3) := dk_181 1 8 (dk_at dksX1_loose_2 12 rfl rfl)
theorem dX1_loose_61 : decode cX1_loose 61 = .ok (.aload_n 0, 1) := dk_42 (dk_at dksX1_loose_2 15 rfl rfl)
theorem dX1_loose_62 : decode cX1_loose 62 = .ok (.aload_n 0, 1) := dk_42 (dk_at dksX1_loose_2 16 rfl rfl)
theorem dX1_loose_63 : decode cX1_loose 63 = .ok (.getfield 12, 3) := dk_180 0 12 (dk_at dksX1_loose_2 17 rfl rfl)
theorem dX1_loose_66 : decode cX1_loose 66 = .ok (.invokevirtual 334, 3) := dk_182 1 78 (dk_at dksX1_loose_2 20 rfl rfl)
theorem dX1_loose_69 : decode cX1_loose 69 = .ok (.invokevirtual 267, 3) := dk_182 1 11 (dk_at dksX1_loose_3 0 rfl rfl)
theorem dX1_loose_72 : decode cX1_loose 72 = .ok (.iload_n 3, 1) := dk_29 (dk_at dksX1_loose_3 3 rfl rfl)
theorem dX1_loose_73 : decode cX1_loose 73 = .ok (.ireturn, 1) := dk_172 (dk_at dksX1_loose_3 4 rfl rfl)
abbrev cX1_work : ByteArray := prog_1_method_48_code
def yX1_work : MethodName := ⟨RX1, "work", "(III)I"⟩
def dkwX1_work_3 : List UInt8 := [180, 1, 19, 16, 7, 27, 104, 28, 96, 46, 172]
abbrev dktX1_work_3 : List UInt8 := dkwX1_work_3 ++ []
def dkwX1_work_2 : List UInt8 := [42, 180, 0, 12, 180, 1, 19, 16, 7, 27, 104, 28, 96, 92, 46, 29, 100, 79, 42, 180, 0, 12]
abbrev dktX1_work_2 : List UInt8 := dkwX1_work_2 ++ dktX1_work_3
def dkwX1_work_1 : List UInt8 := [180, 0, 12, 180, 1, 19, 16, 7, 27, 104, 28, 96, 46, 29, 162, 0, 6, 16, 254, 172, 42, 182, 1, 84]
abbrev dktX1_work_1 : List UInt8 := dkwX1_work_1 ++ dktX1_work_2
def dkwX1_work_0 : List UInt8 := [42, 27, 28, 182, 1, 15, 153, 0, 15, 29, 133, 10, 20, 0, 250, 184, 0, 100, 154, 0, 5, 2, 172, 42]
abbrev dktX1_work_0 : List UInt8 := dkwX1_work_0 ++ dktX1_work_1
theorem dksX1_work_0 : cX1_work.data.toList.drop 0 = dktX1_work_0 := by decide +kernel
theorem dksX1_work_1 : cX1_work.data.toList.drop 24 = dktX1_work_1 := dk_seg dksX1_work_0 24 rfl rfl
theorem dksX1_work_2 : cX1_work.data.toList.drop 48 = dktX1_work_2 := dk_seg dksX1_work_1 24 rfl rfl
theorem dksX1_work_3 : cX1_work.data.toList.drop 70 = dktX1_work_3 := dk_seg dksX1_work_2 22 rfl rfl
theorem dX1_work_0 : decode cX1_work 0 = .ok (.aload_n 0, 1) := dk_42 (dk_at dksX1_work_0 0 rfl rfl)
theorem dX1_work_1 : decode cX1_work 1 = .ok (.iload_n 1, 1) := dk_27 (dk_at dksX1_work_0 1 rfl rfl)
theorem dX1_work_2 : decode cX1_work 2 = .ok (.iload_n 2, 1) := dk_28 (dk_at dksX1_work_0 2 rfl rfl)
theorem dX1_work_3 : decode cX1_work 3 = .ok (.invokevirtual 271, 3) := dk_182 1 15 (dk_at dksX1_work_0 3 rfl rfl)
theorem dX1_work_6 : decode cX1_work 6 = .ok (.ifCond .eq 15, 3) := dk_153 0 15 (dk_at dksX1_work_0 6 rfl rfl)
theorem dX1_work_9 : decode cX1_work 9 = .ok (.iload_n 3, 1) := dk_29 (dk_at dksX1_work_0 9 rfl rfl)
theorem dX1_work_10 : decode cX1_work 10 = .ok (.i2l, 1) := dk_133 (dk_at dksX1_work_0 10 rfl rfl)
theorem dX1_work_11 : decode cX1_work 11 = .ok (.lconst 1, 1) := dk_10 (dk_at dksX1_work_0 11 rfl rfl)
theorem dX1_work_12 : decode cX1_work 12 = .ok (.ldc2_w 250, 3) := dk_20 0 250 (dk_at dksX1_work_0 12 rfl rfl)
theorem dX1_work_15 : decode cX1_work 15 = .ok (.invokestatic 100, 3) := dk_184 0 100 (dk_at dksX1_work_0 15 rfl rfl)
theorem dX1_work_18 : decode cX1_work 18 = .ok (.ifCond .ne 5, 3) := dk_154 0 5 (dk_at dksX1_work_0 18 rfl rfl)
theorem dX1_work_21 : decode cX1_work 21 = .ok (.iconst (-1), 1) := dk_2 (dk_at dksX1_work_0 21 rfl rfl)
theorem dX1_work_22 : decode cX1_work 22 = .ok (.ireturn, 1) := dk_172 (dk_at dksX1_work_0 22 rfl rfl)
theorem dX1_work_23 : decode cX1_work 23 = .ok (.aload_n 0, 1) := dk_42 (dk_at dksX1_work_0 23 rfl rfl)
theorem dX1_work_24 : decode cX1_work 24 = .ok (.getfield 12, 3) := dk_180 0 12 (dk_at dksX1_work_1 0 rfl rfl)
theorem dX1_work_27 : decode cX1_work 27 = .ok (.getfield 275, 3) := dk_180 1 19 (dk_at dksX1_work_1 3 rfl rfl)
theorem dX1_work_30 : decode cX1_work 30 = .ok (.bipush 7, 2) := dk_16 7 (dk_at dksX1_work_1 6 rfl rfl)
theorem dX1_work_32 : decode cX1_work 32 = .ok (.iload_n 1, 1) := dk_27 (dk_at dksX1_work_1 8 rfl rfl)
theorem dX1_work_33 : decode cX1_work 33 = .ok (.imul, 1) := dk_104 (dk_at dksX1_work_1 9 rfl rfl)
theorem dX1_work_34 : decode cX1_work 34 = .ok (.iload_n 2, 1) := dk_28 (dk_at dksX1_work_1 10 rfl rfl)
theorem dX1_work_35 : decode cX1_work 35 = .ok (.iadd, 1) := dk_96 (dk_at dksX1_work_1 11 rfl rfl)
theorem dX1_work_36 : decode cX1_work 36 = .ok (.iaload, 1) := dk_46 (dk_at dksX1_work_1 12 rfl rfl)
theorem dX1_work_37 : decode cX1_work 37 = .ok (.iload_n 3, 1) := dk_29 (dk_at dksX1_work_1 13 rfl rfl)
theorem dX1_work_38 : decode cX1_work 38 = .ok (.if_icmp .ge 6, 3) := dk_162 0 6 (dk_at dksX1_work_1 14 rfl rfl)
theorem dX1_work_41 : decode cX1_work 41 = .ok (.bipush (-2), 2) := dk_16 254 (dk_at dksX1_work_1 17 rfl rfl)
theorem dX1_work_43 : decode cX1_work 43 = .ok (.ireturn, 1) := dk_172 (dk_at dksX1_work_1 19 rfl rfl)
theorem dX1_work_44 : decode cX1_work 44 = .ok (.aload_n 0, 1) := dk_42 (dk_at dksX1_work_1 20 rfl rfl)
theorem dX1_work_45 : decode cX1_work 45 = .ok (.invokevirtual 340, 3) := dk_182 1 84 (dk_at dksX1_work_1 21 rfl rfl)
theorem dX1_work_48 : decode cX1_work 48 = .ok (.aload_n 0, 1) := dk_42 (dk_at dksX1_work_2 0 rfl rfl)
theorem dX1_work_49 : decode cX1_work 49 = .ok (.getfield 12, 3) := dk_180 0 12 (dk_at dksX1_work_2 1 rfl rfl)
theorem dX1_work_52 : decode cX1_work 52 = .ok (.getfield 275, 3) := dk_180 1 19 (dk_at dksX1_work_2 4 rfl rfl)
theorem dX1_work_55 : decode cX1_work 55 = .ok (.bipush 7, 2) := dk_16 7 (dk_at dksX1_work_2 7 rfl rfl)
theorem dX1_work_57 : decode cX1_work 57 = .ok (.iload_n 1, 1) := dk_27 (dk_at dksX1_work_2 9 rfl rfl)
theorem dX1_work_58 : decode cX1_work 58 = .ok (.imul, 1) := dk_104 (dk_at dksX1_work_2 10 rfl rfl)
theorem dX1_work_59 : decode cX1_work 59 = .ok (.iload_n 2, 1) := dk_28 (dk_at dksX1_work_2 11 rfl rfl)
theorem dX1_work_60 : decode cX1_work 60 = .ok (.iadd, 1) := dk_96 (dk_at dksX1_work_2 12 rfl rfl)
theorem dX1_work_61 : decode cX1_work 61 = .ok (.dup2, 1) := dk_92 (dk_at dksX1_work_2 13 rfl rfl)
theorem dX1_work_62 : decode cX1_work 62 = .ok (.iaload, 1) := dk_46 (dk_at dksX1_work_2 14 rfl rfl)
theorem dX1_work_63 : decode cX1_work 63 = .ok (.iload_n 3, 1) := dk_29 (dk_at dksX1_work_2 15 rfl rfl)
theorem dX1_work_64 : decode cX1_work 64 = .ok (.isub, 1) := dk_100 (dk_at dksX1_work_2 16 rfl rfl)
theorem dX1_work_65 : decode cX1_work 65 = .ok (.iastore, 1) := dk_79 (dk_at dksX1_work_2 17 rfl rfl)
theorem dX1_work_66 : decode cX1_work 66 = .ok (.aload_n 0, 1) := dk_42 (dk_at dksX1_work_2 18 rfl rfl)
theorem dX1_work_67 : decode cX1_work 67 = .ok (.getfield 12, 3) := dk_180 0 12 (dk_at dksX1_work_2 19 rfl rfl)
theorem dX1_work_70 : decode cX1_work 70 = .ok (.getfield 275, 3) := dk_180 1 19 (dk_at dksX1_work_3 0 rfl rfl)
theorem dX1_work_73 : decode cX1_work 73 = .ok (.bipush 7, 2) := dk_16 7 (dk_at dksX1_work_3 3 rfl rfl)
theorem dX1_work_75 : decode cX1_work 75 = .ok (.iload_n 1, 1) := dk_27 (dk_at dksX1_work_3 5 rfl rfl)
theorem dX1_work_76 : decode cX1_work 76 = .ok (.imul, 1) := dk_104 (dk_at dksX1_work_3 6 rfl rfl)
theorem dX1_work_77 : decode cX1_work 77 = .ok (.iload_n 2, 1) := dk_28 (dk_at dksX1_work_3 7 rfl rfl)
theorem dX1_work_78 : decode cX1_work 78 = .ok (.iadd, 1) := dk_96 (dk_at dksX1_work_3 8 rfl rfl)
theorem dX1_work_79 : decode cX1_work 79 = .ok (.iaload, 1) := dk_46 (dk_at dksX1_work_3 9 rfl rfl)
theorem dX1_work_80 : decode cX1_work 80 = .ok (.ireturn, 1) := dk_172 (dk_at dksX1_work_3 10 rfl rfl)
abbrev cX1_night : ByteArray := prog_1_method_53_code
def yX1_night : MethodName := ⟨RX1, "night", "()I"⟩
def dkwX1_night_7 : List UInt8 := [172]
abbrev dktX1_night_7 : List UInt8 := dkwX1_night_7 ++ []
def dkwX1_night_6 : List UInt8 := [162, 0, 7, 4, 167, 0, 4, 3, 182, 1, 11, 42, 42, 180, 0, 12, 182, 1, 78, 182, 1, 11, 21, 5]
abbrev dktX1_night_6 : List UInt8 := dkwX1_night_6 ++ dktX1_night_7
def dkwX1_night_5 : List UInt8 := [158, 0, 11, 42, 42, 180, 0, 19, 182, 1, 22, 42, 3, 181, 1, 8, 42, 21, 5, 42, 180, 1, 109]
abbrev dktX1_night_5 : List UInt8 := dkwX1_night_5 ++ dktX1_night_6
def dkwX1_night_4 : List UInt8 := [180, 1, 109, 162, 0, 18, 42, 21, 5, 182, 1, 122, 153, 0, 9, 132, 5, 1, 167, 255, 235, 21, 5]
abbrev dktX1_night_4 : List UInt8 := dkwX1_night_4 ++ dktX1_night_5
def dkwX1_night_3 : List UInt8 := [42, 180, 0, 19, 42, 180, 0, 12, 182, 1, 26, 42, 180, 0, 12, 182, 1, 86, 3, 54, 5, 21, 5, 42]
abbrev dktX1_night_3 : List UInt8 := dkwX1_night_3 ++ dktX1_night_4
def dkwX1_night_2 : List UInt8 := [167, 0, 4, 3, 62, 167, 255, 228, 42, 27, 28, 182, 0, 169, 54, 4, 21, 4, 156, 0, 6, 21, 4, 172]
abbrev dktX1_night_2 : List UInt8 := dkwX1_night_2 ++ dktX1_night_3
def dkwX1_night_1 : List UInt8 := [29, 153, 0, 30, 42, 182, 1, 119, 61, 28, 153, 0, 16, 42, 16, 59, 182, 0, 160, 153, 0, 7, 4]
abbrev dktX1_night_1 : List UInt8 := dkwX1_night_1 ++ dktX1_night_2
def dkwX1_night_0 : List UInt8 := [42, 16, 60, 182, 0, 163, 60, 42, 3, 181, 1, 109, 4, 61, 27, 158, 0, 7, 4, 167, 0, 4, 3, 62]
abbrev dktX1_night_0 : List UInt8 := dkwX1_night_0 ++ dktX1_night_1
theorem dksX1_night_0 : cX1_night.data.toList.drop 0 = dktX1_night_0 := by decide +kernel
theorem dksX1_night_1 : cX1_night.data.toList.drop 24 = dktX1_night_1 := dk_seg dksX1_night_0 24 rfl rfl
theorem dksX1_night_2 : cX1_night.data.toList.drop 47 = dktX1_night_2 := dk_seg dksX1_night_1 23 rfl rfl
theorem dksX1_night_3 : cX1_night.data.toList.drop 71 = dktX1_night_3 := dk_seg dksX1_night_2 24 rfl rfl
theorem dksX1_night_4 : cX1_night.data.toList.drop 95 = dktX1_night_4 := dk_seg dksX1_night_3 24 rfl rfl
theorem dksX1_night_5 : cX1_night.data.toList.drop 118 = dktX1_night_5 := dk_seg dksX1_night_4 23 rfl rfl
theorem dksX1_night_6 : cX1_night.data.toList.drop 141 = dktX1_night_6 := dk_seg dksX1_night_5 23 rfl rfl
theorem dksX1_night_7 : cX1_night.data.toList.drop 165 = dktX1_night_7 := dk_seg dksX1_night_6 24 rfl rfl
theorem dX1_night_0 : decode cX1_night 0 = .ok (.aload_n 0, 1) := dk_42 (dk_at dksX1_night_0 0 rfl rfl)
theorem dX1_night_1 : decode cX1_night 1 = .ok (.bipush 60, 2) := dk_16 60 (dk_at dksX1_night_0 1 rfl rfl)
theorem dX1_night_3 : decode cX1_night 3 = .ok (.invokevirtual 163, 3) := dk_182 0 163 (dk_at dksX1_night_0 3 rfl rfl)
theorem dX1_night_6 : decode cX1_night 6 = .ok (.istore_n 1, 1) := dk_60 (dk_at dksX1_night_0 6 rfl rfl)
theorem dX1_night_7 : decode cX1_night 7 = .ok (.aload_n 0, 1) := dk_42 (dk_at dksX1_night_0 7 rfl rfl)
theorem dX1_night_8 : decode cX1_night 8 = .ok (.iconst 0, 1) := dk_3 (dk_at dksX1_night_0 8 rfl rfl)
theorem dX1_night_9 : decode cX1_night 9 = .ok (.putfield 365, 3) := dk_181 1 109 (dk_at dksX1_night_0 9 rfl rfl)
theorem dX1_night_12 : decode cX1_night 12 = .ok (.iconst 1, 1) := dk_4 (dk_at dksX1_night_0 12 rfl rfl)
theorem dX1_night_13 : decode cX1_night 13 = .ok (.istore_n 2, 1) := dk_61 (dk_at dksX1_night_0 13 rfl rfl)
theorem dX1_night_14 : decode cX1_night 14 = .ok (.iload_n 1, 1) := dk_27 (dk_at dksX1_night_0 14 rfl rfl)
theorem dX1_night_15 : decode cX1_night 15 = .ok (.ifCond .le 7, 3) := dk_158 0 7 (dk_at dksX1_night_0 15 rfl rfl)
theorem dX1_night_18 : decode cX1_night 18 = .ok (.iconst 1, 1) := dk_4 (dk_at dksX1_night_0 18 rfl rfl)
theorem dX1_night_19 : decode cX1_night 19 = .ok (.goto 4, 3) := dk_167 0 4 (dk_at dksX1_night_0 19 rfl rfl)
theorem dX1_night_22 : decode cX1_night 22 = .ok (.iconst 0, 1) := dk_3 (dk_at dksX1_night_0 22 rfl rfl)
theorem dX1_night_23 : decode cX1_night 23 = .ok (.istore_n 3, 1) := dk_62 (dk_at dksX1_night_0 23 rfl rfl)
theorem dX1_night_24 : decode cX1_night 24 = .ok (.iload_n 3, 1) := dk_29 (dk_at dksX1_night_1 0 rfl rfl)
theorem dX1_night_25 : decode cX1_night 25 = .ok (.ifCond .eq 30, 3) := dk_153 0 30 (dk_at dksX1_night_1 1 rfl rfl)
theorem dX1_night_28 : decode cX1_night 28 = .ok (.aload_n 0, 1) := dk_42 (dk_at dksX1_night_1 4 rfl rfl)
theorem dX1_night_29 : decode cX1_night 29 = .ok (.invokevirtual 375, 3) := dk_182 1 119 (dk_at dksX1_night_1 5 rfl rfl)
theorem dX1_night_32 : decode cX1_night 32 = .ok (.istore_n 2, 1) := dk_61 (dk_at dksX1_night_1 8 rfl rfl)
theorem dX1_night_33 : decode cX1_night 33 = .ok (.iload_n 2, 1) := dk_28 (dk_at dksX1_night_1 9 rfl rfl)
theorem dX1_night_34 : decode cX1_night 34 = .ok (.ifCond .eq 16, 3) := dk_153 0 16 (dk_at dksX1_night_1 10 rfl rfl)
theorem dX1_night_37 : decode cX1_night 37 = .ok (.aload_n 0, 1) := dk_42 (dk_at dksX1_night_1 13 rfl rfl)
theorem dX1_night_38 : decode cX1_night 38 = .ok (.bipush 59, 2) := dk_16 59 (dk_at dksX1_night_1 14 rfl rfl)
theorem dX1_night_40 : decode cX1_night 40 = .ok (.invokevirtual 160, 3) := dk_182 0 160 (dk_at dksX1_night_1 16 rfl rfl)
theorem dX1_night_43 : decode cX1_night 43 = .ok (.ifCond .eq 7, 3) := dk_153 0 7 (dk_at dksX1_night_1 19 rfl rfl)
theorem dX1_night_46 : decode cX1_night 46 = .ok (.iconst 1, 1) := dk_4 (dk_at dksX1_night_1 22 rfl rfl)
theorem dX1_night_47 : decode cX1_night 47 = .ok (.goto 4, 3) := dk_167 0 4 (dk_at dksX1_night_2 0 rfl rfl)
theorem dX1_night_50 : decode cX1_night 50 = .ok (.iconst 0, 1) := dk_3 (dk_at dksX1_night_2 3 rfl rfl)
theorem dX1_night_51 : decode cX1_night 51 = .ok (.istore_n 3, 1) := dk_62 (dk_at dksX1_night_2 4 rfl rfl)
theorem dX1_night_52 : decode cX1_night 52 = .ok (.goto (-28), 3) := dk_167 255 228 (dk_at dksX1_night_2 5 rfl rfl)
theorem dX1_night_55 : decode cX1_night 55 = .ok (.aload_n 0, 1) := dk_42 (dk_at dksX1_night_2 8 rfl rfl)
theorem dX1_night_56 : decode cX1_night 56 = .ok (.iload_n 1, 1) := dk_27 (dk_at dksX1_night_2 9 rfl rfl)
theorem dX1_night_57 : decode cX1_night 57 = .ok (.iload_n 2, 1) := dk_28 (dk_at dksX1_night_2 10 rfl rfl)
theorem dX1_night_58 : decode cX1_night 58 = .ok (.invokevirtual 169, 3) := dk_182 0 169 (dk_at dksX1_night_2 11 rfl rfl)
theorem dX1_night_61 : decode cX1_night 61 = .ok (.istore 4, 2) := dk_54 4 (dk_at dksX1_night_2 14 rfl rfl)
theorem dX1_night_63 : decode cX1_night 63 = .ok (.iload 4, 2) := dk_21 4 (dk_at dksX1_night_2 16 rfl rfl)
theorem dX1_night_65 : decode cX1_night 65 = .ok (.ifCond .ge 6, 3) := dk_156 0 6 (dk_at dksX1_night_2 18 rfl rfl)
theorem dX1_night_68 : decode cX1_night 68 = .ok (.iload 4, 2) := dk_21 4 (dk_at dksX1_night_2 21 rfl rfl)
theorem dX1_night_70 : decode cX1_night 70 = .ok (.ireturn, 1) := dk_172 (dk_at dksX1_night_2 23 rfl rfl)
theorem dX1_night_71 : decode cX1_night 71 = .ok (.aload_n 0, 1) := dk_42 (dk_at dksX1_night_3 0 rfl rfl)
theorem dX1_night_72 : decode cX1_night 72 = .ok (.getfield 19, 3) := dk_180 0 19 (dk_at dksX1_night_3 1 rfl rfl)
theorem dX1_night_75 : decode cX1_night 75 = .ok (.aload_n 0, 1) := dk_42 (dk_at dksX1_night_3 4 rfl rfl)
theorem dX1_night_76 : decode cX1_night 76 = .ok (.getfield 12, 3) := dk_180 0 12 (dk_at dksX1_night_3 5 rfl rfl)
theorem dX1_night_79 : decode cX1_night 79 = .ok (.invokevirtual 282, 3) := dk_182 1 26 (dk_at dksX1_night_3 8 rfl rfl)
theorem dX1_night_82 : decode cX1_night 82 = .ok (.aload_n 0, 1) := dk_42 (dk_at dksX1_night_3 11 rfl rfl)
theorem dX1_night_83 : decode cX1_night 83 = .ok (.getfield 12, 3) := dk_180 0 12 (dk_at dksX1_night_3 12 rfl rfl)
theorem dX1_night_86 : decode cX1_night 86 = .ok (.invokevirtual 342, 3) := dk_182 1 86 (dk_at dksX1_night_3 15 rfl rfl)
theorem dX1_night_89 : decode cX1_night 89 = .ok (.iconst 0, 1) := dk_3 (dk_at dksX1_night_3 18 rfl rfl)
theorem dX1_night_90 : decode cX1_night 90 = .ok (.istore 5, 2) := dk_54 5 (dk_at dksX1_night_3 19 rfl rfl)
theorem dX1_night_92 : decode cX1_night 92 = .ok (.iload 5, 2) := dk_21 5 (dk_at dksX1_night_3 21 rfl rfl)
theorem dX1_night_94 : decode cX1_night 94 = .ok (.aload_n 0, 1) := dk_42 (dk_at dksX1_night_3 23 rfl rfl)
theorem dX1_night_95 : decode cX1_night 95 = .ok (.getfield 365, 3) := dk_180 1 109 (dk_at dksX1_night_4 0 rfl rfl)
theorem dX1_night_98 : decode cX1_night 98 = .ok (.if_icmp .ge 18, 3) := dk_162 0 18 (dk_at dksX1_night_4 3 rfl rfl)
theorem dX1_night_101 : decode cX1_night 101 = .ok (.aload_n 0, 1) := dk_42 (dk_at dksX1_night_4 6 rfl rfl)
theorem dX1_night_102 : decode cX1_night 102 = .ok (.iload 5, 2) := dk_21 5 (dk_at dksX1_night_4 7 rfl rfl)
theorem dX1_night_104 : decode cX1_night 104 = .ok (.invokevirtual 378, 3) := dk_182 1 122 (dk_at dksX1_night_4 9 rfl rfl)
theorem dX1_night_107 : decode cX1_night 107 = .ok (.ifCond .eq 9, 3) := dk_153 0 9 (dk_at dksX1_night_4 12 rfl rfl)
theorem dX1_night_110 : decode cX1_night 110 = .ok (.iinc 5 1, 3) := dk_132 5 1 (dk_at dksX1_night_4 15 rfl rfl)
theorem dX1_night_113 : decode cX1_night 113 = .ok (.goto (-21), 3) := dk_167 255 235 (dk_at dksX1_night_4 18 rfl rfl)
theorem dX1_night_116 : decode cX1_night 116 = .ok (.iload 5, 2) := dk_21 5 (dk_at dksX1_night_4 21 rfl rfl)
theorem dX1_night_118 : decode cX1_night 118 = .ok (.ifCond .le 11, 3) := dk_158 0 11 (dk_at dksX1_night_5 0 rfl rfl)
theorem dX1_night_121 : decode cX1_night 121 = .ok (.aload_n 0, 1) := dk_42 (dk_at dksX1_night_5 3 rfl rfl)
theorem dX1_night_122 : decode cX1_night 122 = .ok (.aload_n 0, 1) := dk_42 (dk_at dksX1_night_5 4 rfl rfl)
theorem dX1_night_123 : decode cX1_night 123 = .ok (.getfield 19, 3) := dk_180 0 19 (dk_at dksX1_night_5 5 rfl rfl)
theorem dX1_night_126 : decode cX1_night 126 = .ok (.invokevirtual 278, 3) := dk_182 1 22 (dk_at dksX1_night_5 8 rfl rfl)
theorem dX1_night_129 : decode cX1_night 129 = .ok (.aload_n 0, 1) := dk_42 (dk_at dksX1_night_5 11 rfl rfl)
theorem dX1_night_130 : decode cX1_night 130 = .ok (.iconst 0, 1) := dk_3 (dk_at dksX1_night_5 12 rfl rfl)
theorem dX1_night_131 : decode cX1_night 131 = .ok (.putfield 264, 3) := dk_181 1 8 (dk_at dksX1_night_5 13 rfl rfl)
theorem dX1_night_134 : decode cX1_night 134 = .ok (.aload_n 0, 1) := dk_42 (dk_at dksX1_night_5 16 rfl rfl)
theorem dX1_night_135 : decode cX1_night 135 = .ok (.iload 5, 2) := dk_21 5 (dk_at dksX1_night_5 17 rfl rfl)
theorem dX1_night_137 : decode cX1_night 137 = .ok (.aload_n 0, 1) := dk_42 (dk_at dksX1_night_5 19 rfl rfl)
theorem dX1_night_138 : decode cX1_night 138 = .ok (.getfield 365, 3) := dk_180 1 109 (dk_at dksX1_night_5 20 rfl rfl)
theorem dX1_night_141 : decode cX1_night 141 = .ok (.if_icmp .ge 7, 3) := dk_162 0 7 (dk_at dksX1_night_6 0 rfl rfl)
theorem dX1_night_144 : decode cX1_night 144 = .ok (.iconst 1, 1) := dk_4 (dk_at dksX1_night_6 3 rfl rfl)
theorem dX1_night_145 : decode cX1_night 145 = .ok (.goto 4, 3) := dk_167 0 4 (dk_at dksX1_night_6 4 rfl rfl)
theorem dX1_night_148 : decode cX1_night 148 = .ok (.iconst 0, 1) := dk_3 (dk_at dksX1_night_6 7 rfl rfl)
theorem dX1_night_149 : decode cX1_night 149 = .ok (.invokevirtual 267, 3) := dk_182 1 11 (dk_at dksX1_night_6 8 rfl rfl)
theorem dX1_night_152 : decode cX1_night 152 = .ok (.aload_n 0, 1) := dk_42 (dk_at dksX1_night_6 11 rfl rfl)
theorem dX1_night_153 : decode cX1_night 153 = .ok (.aload_n 0, 1) := dk_42 (dk_at dksX1_night_6 12 rfl rfl)
theorem dX1_night_154 : decode cX1_night 154 = .ok (.getfield 12, 3) := dk_180 0 12 (dk_at dksX1_night_6 13 rfl rfl)
theorem dX1_night_157 : decode cX1_night 157 = .ok (.invokevirtual 334, 3) := dk_182 1 78 (dk_at dksX1_night_6 16 rfl rfl)
theorem dX1_night_160 : decode cX1_night 160 = .ok (.invokevirtual 267, 3) := dk_182 1 11 (dk_at dksX1_night_6 19 rfl rfl)
theorem dX1_night_163 : decode cX1_night 163 = .ok (.iload 5, 2) := dk_21 5 (dk_at dksX1_night_6 22 rfl rfl)
theorem dX1_night_165 : decode cX1_night 165 = .ok (.ireturn, 1) := dk_172 (dk_at dksX1_night_7 0 rfl rfl)
abbrev cX1_readsAct : ByteArray := prog_1_method_49_code
def yX1_readsAct : MethodName := ⟨RX1, "readsAct", "()Z"⟩
def dkwX1_readsAct_12 : List UInt8 := [42, 180, 0, 63, 27, 46, 155, 0, 7, 4, 167, 0, 4, 3, 172]
abbrev dktX1_readsAct_12 : List UInt8 := dkwX1_readsAct_12 ++ []
def dkwX1_readsAct_11 : List UInt8 := [16, 42, 182, 0, 160, 154, 0, 5, 3, 172, 42, 180, 0, 63, 27, 42, 5, 3, 16, 99, 182, 0, 156, 79]
abbrev dktX1_readsAct_11 : List UInt8 := dkwX1_readsAct_11 ++ dktX1_readsAct_12
def dkwX1_readsAct_10 : List UInt8 := [180, 0, 60, 27, 46, 104, 28, 96, 79, 42, 180, 0, 54, 27, 46, 16, 108, 160, 0, 5, 4, 172, 42]
abbrev dktX1_readsAct_10 : List UInt8 := dkwX1_readsAct_10 ++ dktX1_readsAct_11
def dkwX1_readsAct_9 : List UInt8 := [4, 100, 181, 0, 124, 28, 133, 9, 10, 184, 0, 100, 154, 0, 5, 3, 172, 42, 180, 0, 60, 27, 5, 42]
abbrev dktX1_readsAct_9 : List UInt8 := dkwX1_readsAct_9 ++ dktX1_readsAct_10
def dkwX1_readsAct_8 : List UInt8 := [16, 99, 159, 0, 68, 42, 4, 3, 16, 9, 182, 0, 156, 61, 28, 4, 164, 0, 13, 42, 89, 180, 0, 124]
abbrev dktX1_readsAct_8 : List UInt8 := dkwX1_readsAct_8 ++ dktX1_readsAct_9
def dkwX1_readsAct_7 : List UInt8 := [156, 0, 17, 3, 172, 42, 180, 0, 60, 27, 42, 180, 0, 57, 27, 46, 79, 42, 180, 0, 54, 27, 46]
abbrev dktX1_readsAct_7 : List UInt8 := dkwX1_readsAct_7 ++ dktX1_readsAct_8
def dkwX1_readsAct_6 : List UInt8 := [160, 0, 28, 42, 180, 0, 60, 27, 42, 4, 3, 16, 9, 182, 0, 156, 79, 42, 180, 0, 60, 27, 46]
abbrev dktX1_readsAct_6 : List UInt8 := dkwX1_readsAct_6 ++ dktX1_readsAct_7
def dkwX1_readsAct_5 : List UInt8 := [182, 0, 156, 79, 42, 180, 0, 57, 27, 46, 156, 0, 5, 3, 172, 42, 180, 0, 54, 27, 46, 16, 108]
abbrev dktX1_readsAct_5 : List UInt8 := dkwX1_readsAct_5 ++ dktX1_readsAct_6
def dkwX1_readsAct_4 : List UInt8 := [16, 9, 182, 0, 156, 167, 0, 4, 4, 79, 4, 172, 42, 180, 0, 57, 27, 42, 4, 3, 16, 9]
abbrev dktX1_readsAct_4 : List UInt8 := dkwX1_readsAct_4 ++ dktX1_readsAct_5
def dkwX1_readsAct_3 : List UInt8 := [182, 0, 149, 153, 0, 28, 42, 180, 0, 35, 42, 180, 0, 124, 46, 16, 48, 159, 0, 14, 42, 4, 4]
abbrev dktX1_readsAct_3 : List UInt8 := dkwX1_readsAct_3 ++ dktX1_readsAct_4
def dkwX1_readsAct_2 : List UInt8 := [4, 96, 181, 1, 109, 42, 180, 0, 54, 27, 46, 16, 100, 160, 0, 44, 42, 180, 0, 63, 27, 42]
abbrev dktX1_readsAct_2 : List UInt8 := dkwX1_readsAct_2 ++ dktX1_readsAct_3
def dkwX1_readsAct_1 : List UInt8 := [180, 0, 35, 42, 180, 0, 124, 46, 79, 42, 89, 180, 0, 124, 4, 96, 181, 0, 124, 42, 89, 180, 1, 109]
abbrev dktX1_readsAct_1 : List UInt8 := dkwX1_readsAct_1 ++ dktX1_readsAct_2
def dkwX1_readsAct_0 : List UInt8 := [42, 180, 1, 109, 60, 42, 19, 1, 111, 182, 0, 178, 154, 0, 5, 3, 172, 42, 180, 0, 54, 27, 42]
abbrev dktX1_readsAct_0 : List UInt8 := dkwX1_readsAct_0 ++ dktX1_readsAct_1
theorem dksX1_readsAct_0 : cX1_readsAct.data.toList.drop 0 = dktX1_readsAct_0 := by decide +kernel
theorem dksX1_readsAct_1 : cX1_readsAct.data.toList.drop 23 = dktX1_readsAct_1 := dk_seg dksX1_readsAct_0 23 rfl rfl
theorem dksX1_readsAct_2 : cX1_readsAct.data.toList.drop 47 = dktX1_readsAct_2 := dk_seg dksX1_readsAct_1 24 rfl rfl
theorem dksX1_readsAct_3 : cX1_readsAct.data.toList.drop 69 = dktX1_readsAct_3 := dk_seg dksX1_readsAct_2 22 rfl rfl
theorem dksX1_readsAct_4 : cX1_readsAct.data.toList.drop 92 = dktX1_readsAct_4 := dk_seg dksX1_readsAct_3 23 rfl rfl
theorem dksX1_readsAct_5 : cX1_readsAct.data.toList.drop 114 = dktX1_readsAct_5 := dk_seg dksX1_readsAct_4 22 rfl rfl
theorem dksX1_readsAct_6 : cX1_readsAct.data.toList.drop 137 = dktX1_readsAct_6 := dk_seg dksX1_readsAct_5 23 rfl rfl
theorem dksX1_readsAct_7 : cX1_readsAct.data.toList.drop 160 = dktX1_readsAct_7 := dk_seg dksX1_readsAct_6 23 rfl rfl
theorem dksX1_readsAct_8 : cX1_readsAct.data.toList.drop 183 = dktX1_readsAct_8 := dk_seg dksX1_readsAct_7 23 rfl rfl
theorem dksX1_readsAct_9 : cX1_readsAct.data.toList.drop 207 = dktX1_readsAct_9 := dk_seg dksX1_readsAct_8 24 rfl rfl
theorem dksX1_readsAct_10 : cX1_readsAct.data.toList.drop 231 = dktX1_readsAct_10 := dk_seg dksX1_readsAct_9 24 rfl rfl
theorem dksX1_readsAct_11 : cX1_readsAct.data.toList.drop 254 = dktX1_readsAct_11 := dk_seg dksX1_readsAct_10 23 rfl rfl
theorem dksX1_readsAct_12 : cX1_readsAct.data.toList.drop 278 = dktX1_readsAct_12 := dk_seg dksX1_readsAct_11 24 rfl rfl
theorem dX1_readsAct_0 : decode cX1_readsAct 0 = .ok (.aload_n 0, 1) := dk_42 (dk_at dksX1_readsAct_0 0 rfl rfl)
theorem dX1_readsAct_1 : decode cX1_readsAct 1 = .ok (.getfield 365, 3) := dk_180 1 109 (dk_at dksX1_readsAct_0 1 rfl rfl)
theorem dX1_readsAct_4 : decode cX1_readsAct 4 = .ok (.istore_n 1, 1) := dk_60 (dk_at dksX1_readsAct_0 4 rfl rfl)
theorem dX1_readsAct_5 : decode cX1_readsAct 5 = .ok (.aload_n 0, 1) := dk_42 (dk_at dksX1_readsAct_0 5 rfl rfl)
theorem dX1_readsAct_6 : decode cX1_readsAct 6 = .ok (.ldc_w 367, 3) := dk_19 1 111 (dk_at dksX1_readsAct_0 6 rfl rfl)
theorem dX1_readsAct_9 : decode cX1_readsAct 9 = .ok (.invokevirtual 178, 3) := dk_182 0 178 (dk_at dksX1_readsAct_0 9 rfl rfl)
theorem dX1_readsAct_12 : decode cX1_readsAct 12 = .ok (.ifCond .ne 5, 3) := dk_154 0 5 (dk_at dksX1_readsAct_0 12 rfl rfl)
theorem dX1_readsAct_15 : decode cX1_readsAct 15 = .ok (.iconst 0, 1) := dk_3 (dk_at dksX1_readsAct_0 15 rfl rfl)
theorem dX1_readsAct_16 : decode cX1_readsAct 16 = .ok (.ireturn, 1) := dk_172 (dk_at dksX1_readsAct_0 16 rfl rfl)
theorem dX1_readsAct_17 : decode cX1_readsAct 17 = .ok (.aload_n 0, 1) := dk_42 (dk_at dksX1_readsAct_0 17 rfl rfl)
theorem dX1_readsAct_18 : decode cX1_readsAct 18 = .ok (.getfield 54, 3) := dk_180 0 54 (dk_at dksX1_readsAct_0 18 rfl rfl)
theorem dX1_readsAct_21 : decode cX1_readsAct 21 = .ok (.iload_n 1, 1) := dk_27 (dk_at dksX1_readsAct_0 21 rfl rfl)
theorem dX1_readsAct_22 : decode cX1_readsAct 22 = .ok (.aload_n 0, 1) := dk_42 (dk_at dksX1_readsAct_0 22 rfl rfl)
theorem dX1_readsAct_23 : decode cX1_readsAct 23 = .ok (.getfield 35, 3) := dk_180 0 35 (dk_at dksX1_readsAct_1 0 rfl rfl)
theorem dX1_readsAct_26 : decode cX1_readsAct 26 = .ok (.aload_n 0, 1) := dk_42 (dk_at dksX1_readsAct_1 3 rfl rfl)
theorem dX1_readsAct_27 : decode cX1_readsAct 27 = .ok (.getfield 124, 3) := dk_180 0 124 (dk_at dksX1_readsAct_1 4 rfl rfl)
theorem dX1_readsAct_30 : decode cX1_readsAct 30 = .ok (.iaload, 1) := dk_46 (dk_at dksX1_readsAct_1 7 rfl rfl)
theorem dX1_readsAct_31 : decode cX1_readsAct 31 = .ok (.iastore, 1) := dk_79 (dk_at dksX1_readsAct_1 8 rfl rfl)
theorem dX1_readsAct_32 : decode cX1_readsAct 32 = .ok (.aload_n 0, 1) := dk_42 (dk_at dksX1_readsAct_1 9 rfl rfl)
theorem dX1_readsAct_33 : decode cX1_readsAct 33 = .ok (.dup, 1) := dk_89 (dk_at dksX1_readsAct_1 10 rfl rfl)
theorem dX1_readsAct_34 : decode cX1_readsAct 34 = .ok (.getfield 124, 3) := dk_180 0 124 (dk_at dksX1_readsAct_1 11 rfl rfl)
theorem dX1_readsAct_37 : decode cX1_readsAct 37 = .ok (.iconst 1, 1) := dk_4 (dk_at dksX1_readsAct_1 14 rfl rfl)
theorem dX1_readsAct_38 : decode cX1_readsAct 38 = .ok (.iadd, 1) := dk_96 (dk_at dksX1_readsAct_1 15 rfl rfl)
theorem dX1_readsAct_39 : decode cX1_readsAct 39 = .ok (.putfield 124, 3) := dk_181 0 124 (dk_at dksX1_readsAct_1 16 rfl rfl)
theorem dX1_readsAct_42 : decode cX1_readsAct 42 = .ok (.aload_n 0, 1) := dk_42 (dk_at dksX1_readsAct_1 19 rfl rfl)
theorem dX1_readsAct_43 : decode cX1_readsAct 43 = .ok (.dup, 1) := dk_89 (dk_at dksX1_readsAct_1 20 rfl rfl)
theorem dX1_readsAct_44 : decode cX1_readsAct 44 = .ok (.getfield 365, 3) := dk_180 1 109 (dk_at dksX1_readsAct_1 21 rfl rfl)
theorem dX1_readsAct_47 : decode cX1_readsAct 47 = .ok (.iconst 1, 1) := dk_4 (dk_at dksX1_readsAct_2 0 rfl rfl)
theorem dX1_readsAct_48 : decode cX1_readsAct 48 = .ok (.iadd, 1) := dk_96 (dk_at dksX1_readsAct_2 1 rfl rfl)
theorem dX1_readsAct_49 : decode cX1_readsAct 49 = .ok (.putfield 365, 3) := dk_181 1 109 (dk_at dksX1_readsAct_2 2 rfl rfl)
theorem dX1_readsAct_52 : decode cX1_readsAct 52 = .ok (.aload_n 0, 1) := dk_42 (dk_at dksX1_readsAct_2 5 rfl rfl)
theorem dX1_readsAct_53 : decode cX1_readsAct 53 = .ok (.getfield 54, 3) := dk_180 0 54 (dk_at dksX1_readsAct_2 6 rfl rfl)
theorem dX1_readsAct_56 : decode cX1_readsAct 56 = .ok (.iload_n 1, 1) := dk_27 (dk_at dksX1_readsAct_2 9 rfl rfl)
theorem dX1_readsAct_57 : decode cX1_readsAct 57 = .ok (.iaload, 1) := dk_46 (dk_at dksX1_readsAct_2 10 rfl rfl)
theorem dX1_readsAct_58 : decode cX1_readsAct 58 = .ok (.bipush 100, 2) := dk_16 100 (dk_at dksX1_readsAct_2 11 rfl rfl)
theorem dX1_readsAct_60 : decode cX1_readsAct 60 = .ok (.if_icmp .ne 44, 3) := dk_160 0 44 (dk_at dksX1_readsAct_2 13 rfl rfl)
theorem dX1_readsAct_63 : decode cX1_readsAct 63 = .ok (.aload_n 0, 1) := dk_42 (dk_at dksX1_readsAct_2 16 rfl rfl)
theorem dX1_readsAct_64 : decode cX1_readsAct 64 = .ok (.getfield 63, 3) := dk_180 0 63 (dk_at dksX1_readsAct_2 17 rfl rfl)
theorem dX1_readsAct_67 : decode cX1_readsAct 67 = .ok (.iload_n 1, 1) := dk_27 (dk_at dksX1_readsAct_2 20 rfl rfl)
theorem dX1_readsAct_68 : decode cX1_readsAct 68 = .ok (.aload_n 0, 1) := dk_42 (dk_at dksX1_readsAct_2 21 rfl rfl)
theorem dX1_readsAct_69 : decode cX1_readsAct 69 = .ok (.invokevirtual 149, 3) := dk_182 0 149 (dk_at dksX1_readsAct_3 0 rfl rfl)
theorem dX1_readsAct_72 : decode cX1_readsAct 72 = .ok (.ifCond .eq 28, 3) := dk_153 0 28 (dk_at dksX1_readsAct_3 3 rfl rfl)
theorem dX1_readsAct_75 : decode cX1_readsAct 75 = .ok (.aload_n 0, 1) := dk_42 (dk_at dksX1_readsAct_3 6 rfl rfl)
theorem dX1_readsAct_76 : decode cX1_readsAct 76 = .ok (.getfield 35, 3) := dk_180 0 35 (dk_at dksX1_readsAct_3 7 rfl rfl)
theorem dX1_readsAct_79 : decode cX1_readsAct 79 = .ok (.aload_n 0, 1) := dk_42 (dk_at dksX1_readsAct_3 10 rfl rfl)
theorem dX1_readsAct_80 : decode cX1_readsAct 80 = .ok (.getfield 124, 3) := dk_180 0 124 (dk_at dksX1_readsAct_3 11 rfl rfl)
theorem dX1_readsAct_83 : decode cX1_readsAct 83 = .ok (.iaload, 1) := dk_46 (dk_at dksX1_readsAct_3 14 rfl rfl)
theorem dX1_readsAct_84 : decode cX1_readsAct 84 = .ok (.bipush 48, 2) := dk_16 48 (dk_at dksX1_readsAct_3 15 rfl rfl)
theorem dX1_readsAct_86 : decode cX1_readsAct 86 = .ok (.if_icmp .eq 14, 3) := dk_159 0 14 (dk_at dksX1_readsAct_3 17 rfl rfl)
theorem dX1_readsAct_89 : decode cX1_readsAct 89 = .ok (.aload_n 0, 1) := dk_42 (dk_at dksX1_readsAct_3 20 rfl rfl)
theorem dX1_readsAct_90 : decode cX1_readsAct 90 = .ok (.iconst 1, 1) := dk_4 (dk_at dksX1_readsAct_3 21 rfl rfl)
theorem dX1_readsAct_91 : decode cX1_readsAct 91 = .ok (.iconst 1, 1) := dk_4 (dk_at dksX1_readsAct_3 22 rfl rfl)
theorem dX1_readsAct_92 : decode cX1_readsAct 92 = .ok (.bipush 9, 2) := dk_16 9 (dk_at dksX1_readsAct_4 0 rfl rfl)
theorem dX1_readsAct_94 : decode cX1_readsAct 94 = .ok (.invokevirtual 156, 3) := dk_182 0 156 (dk_at dksX1_readsAct_4 2 rfl rfl)
theorem dX1_readsAct_97 : decode cX1_readsAct 97 = .ok (.goto 4, 3) := dk_167 0 4 (dk_at dksX1_readsAct_4 5 rfl rfl)
theorem dX1_readsAct_100 : decode cX1_readsAct 100 = .ok (.iconst 1, 1) := dk_4 (dk_at dksX1_readsAct_4 8 rfl rfl)
theorem dX1_readsAct_101 : decode cX1_readsAct 101 = .ok (.iastore, 1) := dk_79 (dk_at dksX1_readsAct_4 9 rfl rfl)
theorem dX1_readsAct_102 : decode cX1_readsAct 102 = .ok (.iconst 1, 1) := dk_4 (dk_at dksX1_readsAct_4 10 rfl rfl)
theorem dX1_readsAct_103 : decode cX1_readsAct 103 = .ok (.ireturn, 1) := dk_172 (dk_at dksX1_readsAct_4 11 rfl rfl)
theorem dX1_readsAct_104 : decode cX1_readsAct 104 = .ok (.aload_n 0, 1) := dk_42 (dk_at dksX1_readsAct_4 12 rfl rfl)
theorem dX1_readsAct_105 : decode cX1_readsAct 105 = .ok (.getfield 57, 3) := dk_180 0 57 (dk_at dksX1_readsAct_4 13 rfl rfl)
theorem dX1_readsAct_108 : decode cX1_readsAct 108 = .ok (.iload_n 1, 1) := dk_27 (dk_at dksX1_readsAct_4 16 rfl rfl)
theorem dX1_readsAct_109 : decode cX1_readsAct 109 = .ok (.aload_n 0, 1) := dk_42 (dk_at dksX1_readsAct_4 17 rfl rfl)
theorem dX1_readsAct_110 : decode cX1_readsAct 110 = .ok (.iconst 1, 1) := dk_4 (dk_at dksX1_readsAct_4 18 rfl rfl)
theorem dX1_readsAct_111 : decode cX1_readsAct 111 = .ok (.iconst 0, 1) := dk_3 (dk_at dksX1_readsAct_4 19 rfl rfl)
theorem dX1_readsAct_112 : decode cX1_readsAct 112 = .ok (.bipush 9, 2) := dk_16 9 (dk_at dksX1_readsAct_4 20 rfl rfl)
theorem dX1_readsAct_114 : decode cX1_readsAct 114 = .ok (.invokevirtual 156, 3) := dk_182 0 156 (dk_at dksX1_readsAct_5 0 rfl rfl)
theorem dX1_readsAct_117 : decode cX1_readsAct 117 = .ok (.iastore, 1) := dk_79 (dk_at dksX1_readsAct_5 3 rfl rfl)
theorem dX1_readsAct_118 : decode cX1_readsAct 118 = .ok (.aload_n 0, 1) := dk_42 (dk_at dksX1_readsAct_5 4 rfl rfl)
theorem dX1_readsAct_119 : decode cX1_readsAct 119 = .ok (.getfield 57, 3) := dk_180 0 57 (dk_at dksX1_readsAct_5 5 rfl rfl)
theorem dX1_readsAct_122 : decode cX1_readsAct 122 = .ok (.iload_n 1, 1) := dk_27 (dk_at dksX1_readsAct_5 8 rfl rfl)
theorem dX1_readsAct_123 : decode cX1_readsAct 123 = .ok (.iaload, 1) := dk_46 (dk_at dksX1_readsAct_5 9 rfl rfl)
theorem dX1_readsAct_124 : decode cX1_readsAct 124 = .ok (.ifCond .ge 5, 3) := dk_156 0 5 (dk_at dksX1_readsAct_5 10 rfl rfl)
theorem dX1_readsAct_127 : decode cX1_readsAct 127 = .ok (.iconst 0, 1) := dk_3 (dk_at dksX1_readsAct_5 13 rfl rfl)
theorem dX1_readsAct_128 : decode cX1_readsAct 128 = .ok (.ireturn, 1) := dk_172 (dk_at dksX1_readsAct_5 14 rfl rfl)
theorem dX1_readsAct_129 : decode cX1_readsAct 129 = .ok (.aload_n 0, 1) := dk_42 (dk_at dksX1_readsAct_5 15 rfl rfl)
theorem dX1_readsAct_130 : decode cX1_readsAct 130 = .ok (.getfield 54, 3) := dk_180 0 54 (dk_at dksX1_readsAct_5 16 rfl rfl)
theorem dX1_readsAct_133 : decode cX1_readsAct 133 = .ok (.iload_n 1, 1) := dk_27 (dk_at dksX1_readsAct_5 19 rfl rfl)
theorem dX1_readsAct_134 : decode cX1_readsAct 134 = .ok (.iaload, 1) := dk_46 (dk_at dksX1_readsAct_5 20 rfl rfl)
theorem dX1_readsAct_135 : decode cX1_readsAct 135 = .ok (.bipush 108, 2) := dk_16 108 (dk_at dksX1_readsAct_5 21 rfl rfl)
theorem dX1_readsAct_137 : decode cX1_readsAct 137 = .ok (.if_icmp .ne 28, 3) := dk_160 0 28 (dk_at dksX1_readsAct_6 0 rfl rfl)
theorem dX1_readsAct_140 : decode cX1_readsAct 140 = .ok (.aload_n 0, 1) := dk_42 (dk_at dksX1_readsAct_6 3 rfl rfl)
theorem dX1_readsAct_141 : decode cX1_readsAct 141 = .ok (.getfield 60, 3) := dk_180 0 60 (dk_at dksX1_readsAct_6 4 rfl rfl)
theorem dX1_readsAct_144 : decode cX1_readsAct 144 = .ok (.iload_n 1, 1) := dk_27 (dk_at dksX1_readsAct_6 7 rfl rfl)
theorem dX1_readsAct_145 : decode cX1_readsAct 145 = .ok (.aload_n 0, 1) := dk_42 (dk_at dksX1_readsAct_6 8 rfl rfl)
theorem dX1_readsAct_146 : decode cX1_readsAct 146 = .ok (.iconst 1, 1) := dk_4 (dk_at dksX1_readsAct_6 9 rfl rfl)
theorem dX1_readsAct_147 : decode cX1_readsAct 147 = .ok (.iconst 0, 1) := dk_3 (dk_at dksX1_readsAct_6 10 rfl rfl)
theorem dX1_readsAct_148 : decode cX1_readsAct 148 = .ok (.bipush 9, 2) := dk_16 9 (dk_at dksX1_readsAct_6 11 rfl rfl)
theorem dX1_readsAct_150 : decode cX1_readsAct 150 = .ok (.invokevirtual 156, 3) := dk_182 0 156 (dk_at dksX1_readsAct_6 13 rfl rfl)
theorem dX1_readsAct_153 : decode cX1_readsAct 153 = .ok (.iastore, 1) := dk_79 (dk_at dksX1_readsAct_6 16 rfl rfl)
theorem dX1_readsAct_154 : decode cX1_readsAct 154 = .ok (.aload_n 0, 1) := dk_42 (dk_at dksX1_readsAct_6 17 rfl rfl)
theorem dX1_readsAct_155 : decode cX1_readsAct 155 = .ok (.getfield 60, 3) := dk_180 0 60 (dk_at dksX1_readsAct_6 18 rfl rfl)
theorem dX1_readsAct_158 : decode cX1_readsAct 158 = .ok (.iload_n 1, 1) := dk_27 (dk_at dksX1_readsAct_6 21 rfl rfl)
theorem dX1_readsAct_159 : decode cX1_readsAct 159 = .ok (.iaload, 1) := dk_46 (dk_at dksX1_readsAct_6 22 rfl rfl)
theorem dX1_readsAct_160 : decode cX1_readsAct 160 = .ok (.ifCond .ge 17, 3) := dk_156 0 17 (dk_at dksX1_readsAct_7 0 rfl rfl)
theorem dX1_readsAct_163 : decode cX1_readsAct 163 = .ok (.iconst 0, 1) := dk_3 (dk_at dksX1_readsAct_7 3 rfl rfl)
theorem dX1_readsAct_164 : decode cX1_readsAct 164 = .ok (.ireturn, 1) := dk_172 (dk_at dksX1_readsAct_7 4 rfl rfl)
theorem dX1_readsAct_165 : decode cX1_readsAct 165 = .ok (.aload_n 0, 1) := dk_42 (dk_at dksX1_readsAct_7 5 rfl rfl)
theorem dX1_readsAct_166 : decode cX1_readsAct 166 = .ok (.getfield 60, 3) := dk_180 0 60 (dk_at dksX1_readsAct_7 6 rfl rfl)
theorem dX1_readsAct_169 : decode cX1_readsAct 169 = .ok (.iload_n 1, 1) := dk_27 (dk_at dksX1_readsAct_7 9 rfl rfl)
theorem dX1_readsAct_170 : decode cX1_readsAct 170 = .ok (.aload_n 0, 1) := dk_42 (dk_at dksX1_readsAct_7 10 rfl rfl)
theorem dX1_readsAct_171 : decode cX1_readsAct 171 = .ok (.getfield 57, 3) := dk_180 0 57 (dk_at dksX1_readsAct_7 11 rfl rfl)
theorem dX1_readsAct_174 : decode cX1_readsAct 174 = .ok (.iload_n 1, 1) := dk_27 (dk_at dksX1_readsAct_7 14 rfl rfl)
theorem dX1_readsAct_175 : decode cX1_readsAct 175 = .ok (.iaload, 1) := dk_46 (dk_at dksX1_readsAct_7 15 rfl rfl)
theorem dX1_readsAct_176 : decode cX1_readsAct 176 = .ok (.iastore, 1) := dk_79 (dk_at dksX1_readsAct_7 16 rfl rfl)
theorem dX1_readsAct_177 : decode cX1_readsAct 177 = .ok (.aload_n 0, 1) := dk_42 (dk_at dksX1_readsAct_7 17 rfl rfl)
theorem dX1_readsAct_178 : decode cX1_readsAct 178 = .ok (.getfield 54, 3) := dk_180 0 54 (dk_at dksX1_readsAct_7 18 rfl rfl)
theorem dX1_readsAct_181 : decode cX1_readsAct 181 = .ok (.iload_n 1, 1) := dk_27 (dk_at dksX1_readsAct_7 21 rfl rfl)
theorem dX1_readsAct_182 : decode cX1_readsAct 182 = .ok (.iaload, 1) := dk_46 (dk_at dksX1_readsAct_7 22 rfl rfl)
theorem dX1_readsAct_183 : decode cX1_readsAct 183 = .ok (.bipush 99, 2) := dk_16 99 (dk_at dksX1_readsAct_8 0 rfl rfl)
theorem dX1_readsAct_185 : decode cX1_readsAct 185 = .ok (.if_icmp .eq 68, 3) := dk_159 0 68 (dk_at dksX1_readsAct_8 2 rfl rfl)
theorem dX1_readsAct_188 : decode cX1_readsAct 188 = .ok (.aload_n 0, 1) := dk_42 (dk_at dksX1_readsAct_8 5 rfl rfl)
theorem dX1_readsAct_189 : decode cX1_readsAct 189 = .ok (.iconst 1, 1) := dk_4 (dk_at dksX1_readsAct_8 6 rfl rfl)
theorem dX1_readsAct_190 : decode cX1_readsAct 190 = .ok (.iconst 0, 1) := dk_3 (dk_at dksX1_readsAct_8 7 rfl rfl)
theorem dX1_readsAct_191 : decode cX1_readsAct 191 = .ok (.bipush 9, 2) := dk_16 9 (dk_at dksX1_readsAct_8 8 rfl rfl)
theorem dX1_readsAct_193 : decode cX1_readsAct 193 = .ok (.invokevirtual 156, 3) := dk_182 0 156 (dk_at dksX1_readsAct_8 10 rfl rfl)
theorem dX1_readsAct_196 : decode cX1_readsAct 196 = .ok (.istore_n 2, 1) := dk_61 (dk_at dksX1_readsAct_8 13 rfl rfl)
theorem dX1_readsAct_197 : decode cX1_readsAct 197 = .ok (.iload_n 2, 1) := dk_28 (dk_at dksX1_readsAct_8 14 rfl rfl)
theorem dX1_readsAct_198 : decode cX1_readsAct 198 = .ok (.iconst 1, 1) := dk_4 (dk_at dksX1_readsAct_8 15 rfl rfl)
theorem dX1_readsAct_199 : decode cX1_readsAct 199 = .ok (.if_icmp .le 13, 3) := dk_164 0 13 (dk_at dksX1_readsAct_8 16 rfl rfl)
theorem dX1_readsAct_202 : decode cX1_readsAct 202 = .ok (.aload_n 0, 1) := dk_42 (dk_at dksX1_readsAct_8 19 rfl rfl)
theorem dX1_readsAct_203 : decode cX1_readsAct 203 = .ok (.dup, 1) := dk_89 (dk_at dksX1_readsAct_8 20 rfl rfl)
theorem dX1_readsAct_204 : decode cX1_readsAct 204 = .ok (.getfield 124, 3) := dk_180 0 124 (dk_at dksX1_readsAct_8 21 rfl rfl)
theorem dX1_readsAct_207 : decode cX1_readsAct 207 = .ok (.iconst 1, 1) := dk_4 (dk_at dksX1_readsAct_9 0 rfl rfl)
theorem dX1_readsAct_208 : decode cX1_readsAct 208 = .ok (.isub, 1) := dk_100 (dk_at dksX1_readsAct_9 1 rfl rfl)
theorem dX1_readsAct_209 : decode cX1_readsAct 209 = .ok (.putfield 124, 3) := dk_181 0 124 (dk_at dksX1_readsAct_9 2 rfl rfl)
theorem dX1_readsAct_212 : decode cX1_readsAct 212 = .ok (.iload_n 2, 1) := dk_28 (dk_at dksX1_readsAct_9 5 rfl rfl)
theorem dX1_readsAct_213 : decode cX1_readsAct 213 = .ok (.i2l, 1) := dk_133 (dk_at dksX1_readsAct_9 6 rfl rfl)
theorem dX1_readsAct_214 : decode cX1_readsAct 214 = .ok (.lconst 0, 1) := dk_9 (dk_at dksX1_readsAct_9 7 rfl rfl)
theorem dX1_readsAct_215 : decode cX1_readsAct 215 = .ok (.lconst 1, 1) := dk_10 (dk_at dksX1_readsAct_9 8 rfl rfl)
theorem dX1_readsAct_216 : decode cX1_readsAct 216 = .ok (.invokestatic 100, 3) := dk_184 0 100 (dk_at dksX1_readsAct_9 9 rfl rfl)
theorem dX1_readsAct_219 : decode cX1_readsAct 219 = .ok (.ifCond .ne 5, 3) := dk_154 0 5 (dk_at dksX1_readsAct_9 12 rfl rfl)
theorem dX1_readsAct_222 : decode cX1_readsAct 222 = .ok (.iconst 0, 1) := dk_3 (dk_at dksX1_readsAct_9 15 rfl rfl)
theorem dX1_readsAct_223 : decode cX1_readsAct 223 = .ok (.ireturn, 1) := dk_172 (dk_at dksX1_readsAct_9 16 rfl rfl)
theorem dX1_readsAct_224 : decode cX1_readsAct 224 = .ok (.aload_n 0, 1) := dk_42 (dk_at dksX1_readsAct_9 17 rfl rfl)
theorem dX1_readsAct_225 : decode cX1_readsAct 225 = .ok (.getfield 60, 3) := dk_180 0 60 (dk_at dksX1_readsAct_9 18 rfl rfl)
theorem dX1_readsAct_228 : decode cX1_readsAct 228 = .ok (.iload_n 1, 1) := dk_27 (dk_at dksX1_readsAct_9 21 rfl rfl)
theorem dX1_readsAct_229 : decode cX1_readsAct 229 = .ok (.iconst 2, 1) := dk_5 (dk_at dksX1_readsAct_9 22 rfl rfl)
theorem dX1_readsAct_230 : decode cX1_readsAct 230 = .ok (.aload_n 0, 1) := dk_42 (dk_at dksX1_readsAct_9 23 rfl rfl)
theorem dX1_readsAct_231 : decode cX1_readsAct 231 = .ok (.getfield 60, 3) := dk_180 0 60 (dk_at dksX1_readsAct_10 0 rfl rfl)
theorem dX1_readsAct_234 : decode cX1_readsAct 234 = .ok (.iload_n 1, 1) := dk_27 (dk_at dksX1_readsAct_10 3 rfl rfl)
theorem dX1_readsAct_235 : decode cX1_readsAct 235 = .ok (.iaload, 1) := dk_46 (dk_at dksX1_readsAct_10 4 rfl rfl)
theorem dX1_readsAct_236 : decode cX1_readsAct 236 = .ok (.imul, 1) := dk_104 (dk_at dksX1_readsAct_10 5 rfl rfl)
theorem dX1_readsAct_237 : decode cX1_readsAct 237 = .ok (.iload_n 2, 1) := dk_28 (dk_at dksX1_readsAct_10 6 rfl rfl)
theorem dX1_readsAct_238 : decode cX1_readsAct 238 = .ok (.iadd, 1) := dk_96 (dk_at dksX1_readsAct_10 7 rfl rfl)
theorem dX1_readsAct_239 : decode cX1_readsAct 239 = .ok (.iastore, 1) := dk_79 (dk_at dksX1_readsAct_10 8 rfl rfl)
theorem dX1_readsAct_240 : decode cX1_readsAct 240 = .ok (.aload_n 0, 1) := dk_42 (dk_at dksX1_readsAct_10 9 rfl rfl)
theorem dX1_readsAct_241 : decode cX1_readsAct 241 = .ok (.getfield 54, 3) := dk_180 0 54 (dk_at dksX1_readsAct_10 10 rfl rfl)
theorem dX1_readsAct_244 : decode cX1_readsAct 244 = .ok (.iload_n 1, 1) := dk_27 (dk_at dksX1_readsAct_10 13 rfl rfl)
theorem dX1_readsAct_245 : decode cX1_readsAct 245 = .ok (.iaload, 1) := dk_46 (dk_at dksX1_readsAct_10 14 rfl rfl)
theorem dX1_readsAct_246 : decode cX1_readsAct 246 = .ok (.bipush 108, 2) := dk_16 108 (dk_at dksX1_readsAct_10 15 rfl rfl)
theorem dX1_readsAct_248 : decode cX1_readsAct 248 = .ok (.if_icmp .ne 5, 3) := dk_160 0 5 (dk_at dksX1_readsAct_10 17 rfl rfl)
theorem dX1_readsAct_251 : decode cX1_readsAct 251 = .ok (.iconst 1, 1) := dk_4 (dk_at dksX1_readsAct_10 20 rfl rfl)
theorem dX1_readsAct_252 : decode cX1_readsAct 252 = .ok (.ireturn, 1) := dk_172 (dk_at dksX1_readsAct_10 21 rfl rfl)
theorem dX1_readsAct_253 : decode cX1_readsAct 253 = .ok (.aload_n 0, 1) := dk_42 (dk_at dksX1_readsAct_10 22 rfl rfl)
theorem dX1_readsAct_254 : decode cX1_readsAct 254 = .ok (.bipush 42, 2) := dk_16 42 (dk_at dksX1_readsAct_11 0 rfl rfl)
theorem dX1_readsAct_256 : decode cX1_readsAct 256 = .ok (.invokevirtual 160, 3) := dk_182 0 160 (dk_at dksX1_readsAct_11 2 rfl rfl)
theorem dX1_readsAct_259 : decode cX1_readsAct 259 = .ok (.ifCond .ne 5, 3) := dk_154 0 5 (dk_at dksX1_readsAct_11 5 rfl rfl)
theorem dX1_readsAct_262 : decode cX1_readsAct 262 = .ok (.iconst 0, 1) := dk_3 (dk_at dksX1_readsAct_11 8 rfl rfl)
theorem dX1_readsAct_263 : decode cX1_readsAct 263 = .ok (.ireturn, 1) := dk_172 (dk_at dksX1_readsAct_11 9 rfl rfl)
theorem dX1_readsAct_264 : decode cX1_readsAct 264 = .ok (.aload_n 0, 1) := dk_42 (dk_at dksX1_readsAct_11 10 rfl rfl)
theorem dX1_readsAct_265 : decode cX1_readsAct 265 = .ok (.getfield 63, 3) := dk_180 0 63 (dk_at dksX1_readsAct_11 11 rfl rfl)
theorem dX1_readsAct_268 : decode cX1_readsAct 268 = .ok (.iload_n 1, 1) := dk_27 (dk_at dksX1_readsAct_11 14 rfl rfl)
theorem dX1_readsAct_269 : decode cX1_readsAct 269 = .ok (.aload_n 0, 1) := dk_42 (dk_at dksX1_readsAct_11 15 rfl rfl)
theorem dX1_readsAct_270 : decode cX1_readsAct 270 = .ok (.iconst 2, 1) := dk_5 (dk_at dksX1_readsAct_11 16 rfl rfl)
theorem dX1_readsAct_271 : decode cX1_readsAct 271 = .ok (.iconst 0, 1) := dk_3 (dk_at dksX1_readsAct_11 17 rfl rfl)
theorem dX1_readsAct_272 : decode cX1_readsAct 272 = .ok (.bipush 99, 2) := dk_16 99 (dk_at dksX1_readsAct_11 18 rfl rfl)
theorem dX1_readsAct_274 : decode cX1_readsAct 274 = .ok (.invokevirtual 156, 3) := dk_182 0 156 (dk_at dksX1_readsAct_11 20 rfl rfl)
theorem dX1_readsAct_277 : decode cX1_readsAct 277 = .ok (.iastore, 1) := dk_79 (dk_at dksX1_readsAct_11 23 rfl rfl)
theorem dX1_readsAct_278 : decode cX1_readsAct 278 = .ok (.aload_n 0, 1) := dk_42 (dk_at dksX1_readsAct_12 0 rfl rfl)
theorem dX1_readsAct_279 : decode cX1_readsAct 279 = .ok (.getfield 63, 3) := dk_180 0 63 (dk_at dksX1_readsAct_12 1 rfl rfl)
theorem dX1_readsAct_282 : decode cX1_readsAct 282 = .ok (.iload_n 1, 1) := dk_27 (dk_at dksX1_readsAct_12 4 rfl rfl)
theorem dX1_readsAct_283 : decode cX1_readsAct 283 = .ok (.iaload, 1) := dk_46 (dk_at dksX1_readsAct_12 5 rfl rfl)
theorem dX1_readsAct_284 : decode cX1_readsAct 284 = .ok (.ifCond .lt 7, 3) := dk_155 0 7 (dk_at dksX1_readsAct_12 6 rfl rfl)
theorem dX1_readsAct_287 : decode cX1_readsAct 287 = .ok (.iconst 1, 1) := dk_4 (dk_at dksX1_readsAct_12 9 rfl rfl)
theorem dX1_readsAct_288 : decode cX1_readsAct 288 = .ok (.goto 4, 3) := dk_167 0 4 (dk_at dksX1_readsAct_12 10 rfl rfl)
theorem dX1_readsAct_291 : decode cX1_readsAct 291 = .ok (.iconst 0, 1) := dk_3 (dk_at dksX1_readsAct_12 13 rfl rfl)
theorem dX1_readsAct_292 : decode cX1_readsAct 292 = .ok (.ireturn, 1) := dk_172 (dk_at dksX1_readsAct_12 14 rfl rfl)
abbrev cX1_does : ByteArray := prog_1_method_50_code
def yX1_does : MethodName := ⟨RX1, "does", "(I)Z"⟩
def dkwX1_does_6 : List UInt8 := [4, 182, 1, 71, 87, 4, 172, 42, 42, 180, 0, 12, 42, 180, 0, 63, 27, 46, 182, 1, 98, 4, 172]
abbrev dktX1_does_6 : List UInt8 := dkwX1_does_6 ++ []
def dkwX1_does_5 : List UInt8 := [46, 46, 154, 0, 5, 3, 172, 42, 42, 180, 0, 12, 42, 180, 0, 60, 27, 46, 42, 180, 0, 57, 27, 46]
abbrev dktX1_does_5 : List UInt8 := dkwX1_does_5 ++ dktX1_does_6
def dkwX1_does_4 : List UInt8 := [42, 180, 0, 60, 27, 46, 182, 1, 102, 153, 0, 20, 42, 180, 0, 12, 180, 0, 238, 42, 180, 0, 60, 27]
abbrev dktX1_does_4 : List UInt8 := dkwX1_does_4 ++ dktX1_does_5
def dkwX1_does_3 : List UInt8 := [42, 180, 0, 63, 27, 46, 182, 1, 116, 172, 42, 42, 180, 0, 57, 27, 46, 182, 0, 104, 153, 0, 33, 42]
abbrev dktX1_does_3 : List UInt8 := dkwX1_does_3 ++ dktX1_does_4
def dkwX1_does_2 : List UInt8 := [42, 42, 180, 0, 60, 27, 46, 42, 180, 0, 63, 27, 46, 182, 1, 113, 172, 42, 42, 180, 0, 57, 27, 46]
abbrev dktX1_does_2 : List UInt8 := dkwX1_does_2 ++ dktX1_does_3
def dkwX1_does_1 : List UInt8 := [171, 0, 0, 0, 0, 137, 0, 0, 0, 3, 0, 0, 0, 99, 0, 0, 0, 51, 0, 0, 0, 108, 0, 0, 0, 68, 0, 0, 0, 115, 0, 0, 0, 34]
abbrev dktX1_does_1 : List UInt8 := dkwX1_does_1 ++ dktX1_does_2
def dkwX1_does_0 : List UInt8 := [42, 180, 0, 54, 27, 46]
abbrev dktX1_does_0 : List UInt8 := dkwX1_does_0 ++ dktX1_does_1
theorem dksX1_does_0 : cX1_does.data.toList.drop 0 = dktX1_does_0 := by decide +kernel
theorem dksX1_does_1 : cX1_does.data.toList.drop 6 = dktX1_does_1 := dk_seg dksX1_does_0 6 rfl rfl
theorem dksX1_does_2 : cX1_does.data.toList.drop 40 = dktX1_does_2 := dk_seg dksX1_does_1 34 rfl rfl
theorem dksX1_does_3 : cX1_does.data.toList.drop 64 = dktX1_does_3 := dk_seg dksX1_does_2 24 rfl rfl
theorem dksX1_does_4 : cX1_does.data.toList.drop 88 = dktX1_does_4 := dk_seg dksX1_does_3 24 rfl rfl
theorem dksX1_does_5 : cX1_does.data.toList.drop 112 = dktX1_does_5 := dk_seg dksX1_does_4 24 rfl rfl
theorem dksX1_does_6 : cX1_does.data.toList.drop 136 = dktX1_does_6 := dk_seg dksX1_does_5 24 rfl rfl
theorem dX1_does_0 : decode cX1_does 0 = .ok (.aload_n 0, 1) := dk_42 (dk_at dksX1_does_0 0 rfl rfl)
theorem dX1_does_1 : decode cX1_does 1 = .ok (.getfield 54, 3) := dk_180 0 54 (dk_at dksX1_does_0 1 rfl rfl)
theorem dX1_does_4 : decode cX1_does 4 = .ok (.iload_n 1, 1) := dk_27 (dk_at dksX1_does_0 4 rfl rfl)
theorem dX1_does_5 : decode cX1_does 5 = .ok (.iaload, 1) := dk_46 (dk_at dksX1_does_0 5 rfl rfl)
theorem dX1_does_6 : decode cX1_does 6 = .ok (.lookupswitch 137 #[(99, 51), (108, 68), (115, 34)], 34) := by decide +kernel
theorem dX1_does_40 : decode cX1_does 40 = .ok (.aload_n 0, 1) := dk_42 (dk_at dksX1_does_2 0 rfl rfl)
theorem dX1_does_41 : decode cX1_does 41 = .ok (.aload_n 0, 1) := dk_42 (dk_at dksX1_does_2 1 rfl rfl)
theorem dX1_does_42 : decode cX1_does 42 = .ok (.getfield 60, 3) := dk_180 0 60 (dk_at dksX1_does_2 2 rfl rfl)
theorem dX1_does_45 : decode cX1_does 45 = .ok (.iload_n 1, 1) := dk_27 (dk_at dksX1_does_2 5 rfl rfl)
theorem dX1_does_46 : decode cX1_does 46 = .ok (.iaload, 1) := dk_46 (dk_at dksX1_does_2 6 rfl rfl)
theorem dX1_does_47 : decode cX1_does 47 = .ok (.aload_n 0, 1) := dk_42 (dk_at dksX1_does_2 7 rfl rfl)
theorem dX1_does_48 : decode cX1_does 48 = .ok (.getfield 63, 3) := dk_180 0 63 (dk_at dksX1_does_2 8 rfl rfl)
theorem dX1_does_51 : decode cX1_does 51 = .ok (.iload_n 1, 1) := dk_27 (dk_at dksX1_does_2 11 rfl rfl)
theorem dX1_does_52 : decode cX1_does 52 = .ok (.iaload, 1) := dk_46 (dk_at dksX1_does_2 12 rfl rfl)
theorem dX1_does_53 : decode cX1_does 53 = .ok (.invokevirtual 369, 3) := dk_182 1 113 (dk_at dksX1_does_2 13 rfl rfl)
theorem dX1_does_56 : decode cX1_does 56 = .ok (.ireturn, 1) := dk_172 (dk_at dksX1_does_2 16 rfl rfl)
theorem dX1_does_57 : decode cX1_does 57 = .ok (.aload_n 0, 1) := dk_42 (dk_at dksX1_does_2 17 rfl rfl)
theorem dX1_does_58 : decode cX1_does 58 = .ok (.aload_n 0, 1) := dk_42 (dk_at dksX1_does_2 18 rfl rfl)
theorem dX1_does_59 : decode cX1_does 59 = .ok (.getfield 57, 3) := dk_180 0 57 (dk_at dksX1_does_2 19 rfl rfl)
theorem dX1_does_62 : decode cX1_does 62 = .ok (.iload_n 1, 1) := dk_27 (dk_at dksX1_does_2 22 rfl rfl)
theorem dX1_does_63 : decode cX1_does 63 = .ok (.iaload, 1) := dk_46 (dk_at dksX1_does_2 23 rfl rfl)
theorem dX1_does_64 : decode cX1_does 64 = .ok (.aload_n 0, 1) := dk_42 (dk_at dksX1_does_3 0 rfl rfl)
theorem dX1_does_65 : decode cX1_does 65 = .ok (.getfield 63, 3) := dk_180 0 63 (dk_at dksX1_does_3 1 rfl rfl)
theorem dX1_does_68 : decode cX1_does 68 = .ok (.iload_n 1, 1) := dk_27 (dk_at dksX1_does_3 4 rfl rfl)
theorem dX1_does_69 : decode cX1_does 69 = .ok (.iaload, 1) := dk_46 (dk_at dksX1_does_3 5 rfl rfl)
theorem dX1_does_70 : decode cX1_does 70 = .ok (.invokevirtual 372, 3) := dk_182 1 116 (dk_at dksX1_does_3 6 rfl rfl)
theorem dX1_does_73 : decode cX1_does 73 = .ok (.ireturn, 1) := dk_172 (dk_at dksX1_does_3 9 rfl rfl)
theorem dX1_does_74 : decode cX1_does 74 = .ok (.aload_n 0, 1) := dk_42 (dk_at dksX1_does_3 10 rfl rfl)
theorem dX1_does_75 : decode cX1_does 75 = .ok (.aload_n 0, 1) := dk_42 (dk_at dksX1_does_3 11 rfl rfl)
theorem dX1_does_76 : decode cX1_does 76 = .ok (.getfield 57, 3) := dk_180 0 57 (dk_at dksX1_does_3 12 rfl rfl)
theorem dX1_does_79 : decode cX1_does 79 = .ok (.iload_n 1, 1) := dk_27 (dk_at dksX1_does_3 15 rfl rfl)
theorem dX1_does_80 : decode cX1_does 80 = .ok (.iaload, 1) := dk_46 (dk_at dksX1_does_3 16 rfl rfl)
theorem dX1_does_81 : decode cX1_does 81 = .ok (.invokevirtual 104, 3) := dk_182 0 104 (dk_at dksX1_does_3 17 rfl rfl)
theorem dX1_does_84 : decode cX1_does 84 = .ok (.ifCond .eq 33, 3) := dk_153 0 33 (dk_at dksX1_does_3 20 rfl rfl)
theorem dX1_does_87 : decode cX1_does 87 = .ok (.aload_n 0, 1) := dk_42 (dk_at dksX1_does_3 23 rfl rfl)
theorem dX1_does_88 : decode cX1_does 88 = .ok (.aload_n 0, 1) := dk_42 (dk_at dksX1_does_4 0 rfl rfl)
theorem dX1_does_89 : decode cX1_does 89 = .ok (.getfield 60, 3) := dk_180 0 60 (dk_at dksX1_does_4 1 rfl rfl)
theorem dX1_does_92 : decode cX1_does 92 = .ok (.iload_n 1, 1) := dk_27 (dk_at dksX1_does_4 4 rfl rfl)
theorem dX1_does_93 : decode cX1_does 93 = .ok (.iaload, 1) := dk_46 (dk_at dksX1_does_4 5 rfl rfl)
theorem dX1_does_94 : decode cX1_does 94 = .ok (.invokevirtual 358, 3) := dk_182 1 102 (dk_at dksX1_does_4 6 rfl rfl)
theorem dX1_does_97 : decode cX1_does 97 = .ok (.ifCond .eq 20, 3) := dk_153 0 20 (dk_at dksX1_does_4 9 rfl rfl)
theorem dX1_does_100 : decode cX1_does 100 = .ok (.aload_n 0, 1) := dk_42 (dk_at dksX1_does_4 12 rfl rfl)
theorem dX1_does_101 : decode cX1_does 101 = .ok (.getfield 12, 3) := dk_180 0 12 (dk_at dksX1_does_4 13 rfl rfl)
theorem dX1_does_104 : decode cX1_does 104 = .ok (.getfield 238, 3) := dk_180 0 238 (dk_at dksX1_does_4 16 rfl rfl)
theorem dX1_does_107 : decode cX1_does 107 = .ok (.aload_n 0, 1) := dk_42 (dk_at dksX1_does_4 19 rfl rfl)
theorem dX1_does_108 : decode cX1_does 108 = .ok (.getfield 60, 3) := dk_180 0 60 (dk_at dksX1_does_4 20 rfl rfl)
theorem dX1_does_111 : decode cX1_does 111 = .ok (.iload_n 1, 1) := dk_27 (dk_at dksX1_does_4 23 rfl rfl)
theorem dX1_does_112 : decode cX1_does 112 = .ok (.iaload, 1) := dk_46 (dk_at dksX1_does_5 0 rfl rfl)
theorem dX1_does_113 : decode cX1_does 113 = .ok (.iaload, 1) := dk_46 (dk_at dksX1_does_5 1 rfl rfl)
theorem dX1_does_114 : decode cX1_does 114 = .ok (.ifCond .ne 5, 3) := dk_154 0 5 (dk_at dksX1_does_5 2 rfl rfl)
theorem dX1_does_117 : decode cX1_does 117 = .ok (.iconst 0, 1) := dk_3 (dk_at dksX1_does_5 5 rfl rfl)
theorem dX1_does_118 : decode cX1_does 118 = .ok (.ireturn, 1) := dk_172 (dk_at dksX1_does_5 6 rfl rfl)
theorem dX1_does_119 : decode cX1_does 119 = .ok (.aload_n 0, 1) := dk_42 (dk_at dksX1_does_5 7 rfl rfl)
theorem dX1_does_120 : decode cX1_does 120 = .ok (.aload_n 0, 1) := dk_42 (dk_at dksX1_does_5 8 rfl rfl)
theorem dX1_does_121 : decode cX1_does 121 = .ok (.getfield 12, 3) := dk_180 0 12 (dk_at dksX1_does_5 9 rfl rfl)
theorem dX1_does_124 : decode cX1_does 124 = .ok (.aload_n 0, 1) := dk_42 (dk_at dksX1_does_5 12 rfl rfl)
theorem dX1_does_125 : decode cX1_does 125 = .ok (.getfield 60, 3) := dk_180 0 60 (dk_at dksX1_does_5 13 rfl rfl)
theorem dX1_does_128 : decode cX1_does 128 = .ok (.iload_n 1, 1) := dk_27 (dk_at dksX1_does_5 16 rfl rfl)
theorem dX1_does_129 : decode cX1_does 129 = .ok (.iaload, 1) := dk_46 (dk_at dksX1_does_5 17 rfl rfl)
theorem dX1_does_130 : decode cX1_does 130 = .ok (.aload_n 0, 1) := dk_42 (dk_at dksX1_does_5 18 rfl rfl)
theorem dX1_does_131 : decode cX1_does 131 = .ok (.getfield 57, 3) := dk_180 0 57 (dk_at dksX1_does_5 19 rfl rfl)
theorem dX1_does_134 : decode cX1_does 134 = .ok (.iload_n 1, 1) := dk_27 (dk_at dksX1_does_5 22 rfl rfl)
theorem dX1_does_135 : decode cX1_does 135 = .ok (.iaload, 1) := dk_46 (dk_at dksX1_does_5 23 rfl rfl)
theorem dX1_does_136 : decode cX1_does 136 = .ok (.iconst 1, 1) := dk_4 (dk_at dksX1_does_6 0 rfl rfl)
theorem dX1_does_137 : decode cX1_does 137 = .ok (.invokevirtual 327, 3) := dk_182 1 71 (dk_at dksX1_does_6 1 rfl rfl)
theorem dX1_does_140 : decode cX1_does 140 = .ok (.pop, 1) := dk_87 (dk_at dksX1_does_6 4 rfl rfl)
theorem dX1_does_141 : decode cX1_does 141 = .ok (.iconst 1, 1) := dk_4 (dk_at dksX1_does_6 5 rfl rfl)
theorem dX1_does_142 : decode cX1_does 142 = .ok (.ireturn, 1) := dk_172 (dk_at dksX1_does_6 6 rfl rfl)
theorem dX1_does_143 : decode cX1_does 143 = .ok (.aload_n 0, 1) := dk_42 (dk_at dksX1_does_6 7 rfl rfl)
theorem dX1_does_144 : decode cX1_does 144 = .ok (.aload_n 0, 1) := dk_42 (dk_at dksX1_does_6 8 rfl rfl)
theorem dX1_does_145 : decode cX1_does 145 = .ok (.getfield 12, 3) := dk_180 0 12 (dk_at dksX1_does_6 9 rfl rfl)
theorem dX1_does_148 : decode cX1_does 148 = .ok (.aload_n 0, 1) := dk_42 (dk_at dksX1_does_6 12 rfl rfl)
theorem dX1_does_149 : decode cX1_does 149 = .ok (.getfield 63, 3) := dk_180 0 63 (dk_at dksX1_does_6 13 rfl rfl)
theorem dX1_does_152 : decode cX1_does 152 = .ok (.iload_n 1, 1) := dk_27 (dk_at dksX1_does_6 16 rfl rfl)
theorem dX1_does_153 : decode cX1_does 153 = .ok (.iaload, 1) := dk_46 (dk_at dksX1_does_6 17 rfl rfl)
theorem dX1_does_154 : decode cX1_does 154 = .ok (.invokevirtual 354, 3) := dk_182 1 98 (dk_at dksX1_does_6 18 rfl rfl)
theorem dX1_does_157 : decode cX1_does 157 = .ok (.iconst 1, 1) := dk_4 (dk_at dksX1_does_6 21 rfl rfl)
theorem dX1_does_158 : decode cX1_does 158 = .ok (.ireturn, 1) := dk_172 (dk_at dksX1_does_6 22 rfl rfl)
abbrev cX1_canSweep : ByteArray := prog_1_method_51_code
def yX1_canSweep : MethodName := ⟨RX1, "canSweep", "(II)Z"⟩
def dkwX1_canSweep_1 : List UInt8 := [162, 0, 5, 3, 172, 42, 180, 0, 12, 27, 28, 184, 1, 105, 4, 172]
abbrev dktX1_canSweep_1 : List UInt8 := dkwX1_canSweep_1 ++ []
def dkwX1_canSweep_0 : List UInt8 := [42, 27, 182, 1, 102, 153, 0, 20, 28, 153, 0, 16, 42, 180, 0, 12, 180, 0, 238, 27, 46, 28]
abbrev dktX1_canSweep_0 : List UInt8 := dkwX1_canSweep_0 ++ dktX1_canSweep_1
theorem dksX1_canSweep_0 : cX1_canSweep.data.toList.drop 0 = dktX1_canSweep_0 := by decide +kernel
theorem dksX1_canSweep_1 : cX1_canSweep.data.toList.drop 22 = dktX1_canSweep_1 := dk_seg dksX1_canSweep_0 22 rfl rfl
theorem dX1_canSweep_0 : decode cX1_canSweep 0 = .ok (.aload_n 0, 1) := dk_42 (dk_at dksX1_canSweep_0 0 rfl rfl)
theorem dX1_canSweep_1 : decode cX1_canSweep 1 = .ok (.iload_n 1, 1) := dk_27 (dk_at dksX1_canSweep_0 1 rfl rfl)
theorem dX1_canSweep_2 : decode cX1_canSweep 2 = .ok (.invokevirtual 358, 3) := dk_182 1 102 (dk_at dksX1_canSweep_0 2 rfl rfl)
theorem dX1_canSweep_5 : decode cX1_canSweep 5 = .ok (.ifCond .eq 20, 3) := dk_153 0 20 (dk_at dksX1_canSweep_0 5 rfl rfl)
theorem dX1_canSweep_8 : decode cX1_canSweep 8 = .ok (.iload_n 2, 1) := dk_28 (dk_at dksX1_canSweep_0 8 rfl rfl)
theorem dX1_canSweep_9 : decode cX1_canSweep 9 = .ok (.ifCond .eq 16, 3) := dk_153 0 16 (dk_at dksX1_canSweep_0 9 rfl rfl)
theorem dX1_canSweep_12 : decode cX1_canSweep 12 = .ok (.aload_n 0, 1) := dk_42 (dk_at dksX1_canSweep_0 12 rfl rfl)
theorem dX1_canSweep_13 : decode cX1_canSweep 13 = .ok (.getfield 12, 3) := dk_180 0 12 (dk_at dksX1_canSweep_0 13 rfl rfl)
theorem dX1_canSweep_16 : decode cX1_canSweep 16 = .ok (.getfield 238, 3) := dk_180 0 238 (dk_at dksX1_canSweep_0 16 rfl rfl)
theorem dX1_canSweep_19 : decode cX1_canSweep 19 = .ok (.iload_n 1, 1) := dk_27 (dk_at dksX1_canSweep_0 19 rfl rfl)
theorem dX1_canSweep_20 : decode cX1_canSweep 20 = .ok (.iaload, 1) := dk_46 (dk_at dksX1_canSweep_0 20 rfl rfl)
theorem dX1_canSweep_21 : decode cX1_canSweep 21 = .ok (.iload_n 2, 1) := dk_28 (dk_at dksX1_canSweep_0 21 rfl rfl)
theorem dX1_canSweep_22 : decode cX1_canSweep 22 = .ok (.if_icmp .ge 5, 3) := dk_162 0 5 (dk_at dksX1_canSweep_1 0 rfl rfl)
theorem dX1_canSweep_25 : decode cX1_canSweep 25 = .ok (.iconst 0, 1) := dk_3 (dk_at dksX1_canSweep_1 3 rfl rfl)
theorem dX1_canSweep_26 : decode cX1_canSweep 26 = .ok (.ireturn, 1) := dk_172 (dk_at dksX1_canSweep_1 4 rfl rfl)
theorem dX1_canSweep_27 : decode cX1_canSweep 27 = .ok (.aload_n 0, 1) := dk_42 (dk_at dksX1_canSweep_1 5 rfl rfl)
theorem dX1_canSweep_28 : decode cX1_canSweep 28 = .ok (.getfield 12, 3) := dk_180 0 12 (dk_at dksX1_canSweep_1 6 rfl rfl)
theorem dX1_canSweep_31 : decode cX1_canSweep 31 = .ok (.iload_n 1, 1) := dk_27 (dk_at dksX1_canSweep_1 9 rfl rfl)
theorem dX1_canSweep_32 : decode cX1_canSweep 32 = .ok (.iload_n 2, 1) := dk_28 (dk_at dksX1_canSweep_1 10 rfl rfl)
theorem dX1_canSweep_33 : decode cX1_canSweep 33 = .ok (.invokestatic 361, 3) := dk_184 1 105 (dk_at dksX1_canSweep_1 11 rfl rfl)
theorem dX1_canSweep_36 : decode cX1_canSweep 36 = .ok (.iconst 1, 1) := dk_4 (dk_at dksX1_canSweep_1 14 rfl rfl)
theorem dX1_canSweep_37 : decode cX1_canSweep 37 = .ok (.ireturn, 1) := dk_172 (dk_at dksX1_canSweep_1 15 rfl rfl)
abbrev cX1_canClear : ByteArray := prog_1_method_52_code
def yX1_canClear : MethodName := ⟨RX1, "canClear", "(II)Z"⟩
def dkwX1_canClear_1 : List UInt8 := [162, 0, 5, 3, 172, 42, 180, 0, 12, 180, 0, 241, 27, 92, 46, 28, 100, 79, 4, 172]
abbrev dktX1_canClear_1 : List UInt8 := dkwX1_canClear_1 ++ []
def dkwX1_canClear_0 : List UInt8 := [42, 27, 182, 0, 104, 153, 0, 20, 28, 153, 0, 16, 42, 180, 0, 12, 180, 0, 241, 27, 46, 28]
abbrev dktX1_canClear_0 : List UInt8 := dkwX1_canClear_0 ++ dktX1_canClear_1
theorem dksX1_canClear_0 : cX1_canClear.data.toList.drop 0 = dktX1_canClear_0 := by decide +kernel
theorem dksX1_canClear_1 : cX1_canClear.data.toList.drop 22 = dktX1_canClear_1 := dk_seg dksX1_canClear_0 22 rfl rfl
theorem dX1_canClear_0 : decode cX1_canClear 0 = .ok (.aload_n 0, 1) := dk_42 (dk_at dksX1_canClear_0 0 rfl rfl)
theorem dX1_canClear_1 : decode cX1_canClear 1 = .ok (.iload_n 1, 1) := dk_27 (dk_at dksX1_canClear_0 1 rfl rfl)
theorem dX1_canClear_2 : decode cX1_canClear 2 = .ok (.invokevirtual 104, 3) := dk_182 0 104 (dk_at dksX1_canClear_0 2 rfl rfl)
theorem dX1_canClear_5 : decode cX1_canClear 5 = .ok (.ifCond .eq 20, 3) := dk_153 0 20 (dk_at dksX1_canClear_0 5 rfl rfl)
theorem dX1_canClear_8 : decode cX1_canClear 8 = .ok (.iload_n 2, 1) := dk_28 (dk_at dksX1_canClear_0 8 rfl rfl)
theorem dX1_canClear_9 : decode cX1_canClear 9 = .ok (.ifCond .eq 16, 3) := dk_153 0 16 (dk_at dksX1_canClear_0 9 rfl rfl)
theorem dX1_canClear_12 : decode cX1_canClear 12 = .ok (.aload_n 0, 1) := dk_42 (dk_at dksX1_canClear_0 12 rfl rfl)
theorem dX1_canClear_13 : decode cX1_canClear 13 = .ok (.getfield 12, 3) := dk_180 0 12 (dk_at dksX1_canClear_0 13 rfl rfl)
theorem dX1_canClear_16 : decode cX1_canClear 16 = .ok (.getfield 241, 3) := dk_180 0 241 (dk_at dksX1_canClear_0 16 rfl rfl)
theorem dX1_canClear_19 : decode cX1_canClear 19 = .ok (.iload_n 1, 1) := dk_27 (dk_at dksX1_canClear_0 19 rfl rfl)
theorem dX1_canClear_20 : decode cX1_canClear 20 = .ok (.iaload, 1) := dk_46 (dk_at dksX1_canClear_0 20 rfl rfl)
theorem dX1_canClear_21 : decode cX1_canClear 21 = .ok (.iload_n 2, 1) := dk_28 (dk_at dksX1_canClear_0 21 rfl rfl)
theorem dX1_canClear_22 : decode cX1_canClear 22 = .ok (.if_icmp .ge 5, 3) := dk_162 0 5 (dk_at dksX1_canClear_1 0 rfl rfl)
theorem dX1_canClear_25 : decode cX1_canClear 25 = .ok (.iconst 0, 1) := dk_3 (dk_at dksX1_canClear_1 3 rfl rfl)
theorem dX1_canClear_26 : decode cX1_canClear 26 = .ok (.ireturn, 1) := dk_172 (dk_at dksX1_canClear_1 4 rfl rfl)
theorem dX1_canClear_27 : decode cX1_canClear 27 = .ok (.aload_n 0, 1) := dk_42 (dk_at dksX1_canClear_1 5 rfl rfl)
theorem dX1_canClear_28 : decode cX1_canClear 28 = .ok (.getfield 12, 3) := dk_180 0 12 (dk_at dksX1_canClear_1 6 rfl rfl)
theorem dX1_canClear_31 : decode cX1_canClear 31 = .ok (.getfield 241, 3) := dk_180 0 241 (dk_at dksX1_canClear_1 9 rfl rfl)
theorem dX1_canClear_34 : decode cX1_canClear 34 = .ok (.iload_n 1, 1) := dk_27 (dk_at dksX1_canClear_1 12 rfl rfl)
theorem dX1_canClear_35 : decode cX1_canClear 35 = .ok (.dup2, 1) := dk_92 (dk_at dksX1_canClear_1 13 rfl rfl)
theorem dX1_canClear_36 : decode cX1_canClear 36 = .ok (.iaload, 1) := dk_46 (dk_at dksX1_canClear_1 14 rfl rfl)
theorem dX1_canClear_37 : decode cX1_canClear 37 = .ok (.iload_n 2, 1) := dk_28 (dk_at dksX1_canClear_1 15 rfl rfl)
theorem dX1_canClear_38 : decode cX1_canClear 38 = .ok (.isub, 1) := dk_100 (dk_at dksX1_canClear_1 16 rfl rfl)
theorem dX1_canClear_39 : decode cX1_canClear 39 = .ok (.iastore, 1) := dk_79 (dk_at dksX1_canClear_1 17 rfl rfl)
theorem dX1_canClear_40 : decode cX1_canClear 40 = .ok (.iconst 1, 1) := dk_4 (dk_at dksX1_canClear_1 18 rfl rfl)
theorem dX1_canClear_41 : decode cX1_canClear 41 = .ok (.ireturn, 1) := dk_172 (dk_at dksX1_canClear_1 19 rfl rfl)
abbrev cX1_ring : ByteArray := prog_1_method_58_code
def yX1_ring : MethodName := ⟨RX1, "ring", "()I"⟩
def dkwX1_ring_2 : List UInt8 := [182, 1, 11, 42, 180, 1, 125, 172]
abbrev dktX1_ring_2 : List UInt8 := dkwX1_ring_2 ++ []
def dkwX1_ring_1 : List UInt8 := [162, 0, 19, 42, 42, 180, 0, 66, 27, 46, 182, 1, 11, 132, 1, 1, 167, 255, 235, 42, 42, 182, 1, 140]
abbrev dktX1_ring_1 : List UInt8 := dkwX1_ring_1 ++ dktX1_ring_2
def dkwX1_ring_0 : List UInt8 := [42, 182, 1, 137, 154, 0, 6, 16, 254, 172, 42, 3, 181, 1, 8, 3, 60, 27, 42, 180, 1, 125]
abbrev dktX1_ring_0 : List UInt8 := dkwX1_ring_0 ++ dktX1_ring_1
theorem dksX1_ring_0 : cX1_ring.data.toList.drop 0 = dktX1_ring_0 := by decide +kernel
theorem dksX1_ring_1 : cX1_ring.data.toList.drop 22 = dktX1_ring_1 := dk_seg dksX1_ring_0 22 rfl rfl
theorem dksX1_ring_2 : cX1_ring.data.toList.drop 46 = dktX1_ring_2 := dk_seg dksX1_ring_1 24 rfl rfl
theorem dX1_ring_0 : decode cX1_ring 0 = .ok (.aload_n 0, 1) := dk_42 (dk_at dksX1_ring_0 0 rfl rfl)
theorem dX1_ring_1 : decode cX1_ring 1 = .ok (.invokevirtual 393, 3) := dk_182 1 137 (dk_at dksX1_ring_0 1 rfl rfl)
theorem dX1_ring_4 : decode cX1_ring 4 = .ok (.ifCond .ne 6, 3) := dk_154 0 6 (dk_at dksX1_ring_0 4 rfl rfl)
theorem dX1_ring_7 : decode cX1_ring 7 = .ok (.bipush (-2), 2) := dk_16 254 (dk_at dksX1_ring_0 7 rfl rfl)
theorem dX1_ring_9 : decode cX1_ring 9 = .ok (.ireturn, 1) := dk_172 (dk_at dksX1_ring_0 9 rfl rfl)
theorem dX1_ring_10 : decode cX1_ring 10 = .ok (.aload_n 0, 1) := dk_42 (dk_at dksX1_ring_0 10 rfl rfl)
theorem dX1_ring_11 : decode cX1_ring 11 = .ok (.iconst 0, 1) := dk_3 (dk_at dksX1_ring_0 11 rfl rfl)
theorem dX1_ring_12 : decode cX1_ring 12 = .ok (.putfield 264, 3) := dk_181 1 8 (dk_at dksX1_ring_0 12 rfl rfl)
theorem dX1_ring_15 : decode cX1_ring 15 = .ok (.iconst 0, 1) := dk_3 (dk_at dksX1_ring_0 15 rfl rfl)
theorem dX1_ring_16 : decode cX1_ring 16 = .ok (.istore_n 1, 1) := dk_60 (dk_at dksX1_ring_0 16 rfl rfl)
theorem dX1_ring_17 : decode cX1_ring 17 = .ok (.iload_n 1, 1) := dk_27 (dk_at dksX1_ring_0 17 rfl rfl)
theorem dX1_ring_18 : decode cX1_ring 18 = .ok (.aload_n 0, 1) := dk_42 (dk_at dksX1_ring_0 18 rfl rfl)
theorem dX1_ring_19 : decode cX1_ring 19 = .ok (.getfield 381, 3) := dk_180 1 125 (dk_at dksX1_ring_0 19 rfl rfl)
theorem dX1_ring_22 : decode cX1_ring 22 = .ok (.if_icmp .ge 19, 3) := dk_162 0 19 (dk_at dksX1_ring_1 0 rfl rfl)
theorem dX1_ring_25 : decode cX1_ring 25 = .ok (.aload_n 0, 1) := dk_42 (dk_at dksX1_ring_1 3 rfl rfl)
theorem dX1_ring_26 : decode cX1_ring 26 = .ok (.aload_n 0, 1) := dk_42 (dk_at dksX1_ring_1 4 rfl rfl)
theorem dX1_ring_27 : decode cX1_ring 27 = .ok (.getfield 66, 3) := dk_180 0 66 (dk_at dksX1_ring_1 5 rfl rfl)
theorem dX1_ring_30 : decode cX1_ring 30 = .ok (.iload_n 1, 1) := dk_27 (dk_at dksX1_ring_1 8 rfl rfl)
theorem dX1_ring_31 : decode cX1_ring 31 = .ok (.iaload, 1) := dk_46 (dk_at dksX1_ring_1 9 rfl rfl)
theorem dX1_ring_32 : decode cX1_ring 32 = .ok (.invokevirtual 267, 3) := dk_182 1 11 (dk_at dksX1_ring_1 10 rfl rfl)
theorem dX1_ring_35 : decode cX1_ring 35 = .ok (.iinc 1 1, 3) := dk_132 1 1 (dk_at dksX1_ring_1 13 rfl rfl)
theorem dX1_ring_38 : decode cX1_ring 38 = .ok (.goto (-21), 3) := dk_167 255 235 (dk_at dksX1_ring_1 16 rfl rfl)
theorem dX1_ring_41 : decode cX1_ring 41 = .ok (.aload_n 0, 1) := dk_42 (dk_at dksX1_ring_1 19 rfl rfl)
theorem dX1_ring_42 : decode cX1_ring 42 = .ok (.aload_n 0, 1) := dk_42 (dk_at dksX1_ring_1 20 rfl rfl)
theorem dX1_ring_43 : decode cX1_ring 43 = .ok (.invokevirtual 396, 3) := dk_182 1 140 (dk_at dksX1_ring_1 21 rfl rfl)
theorem dX1_ring_46 : decode cX1_ring 46 = .ok (.invokevirtual 267, 3) := dk_182 1 11 (dk_at dksX1_ring_2 0 rfl rfl)
theorem dX1_ring_49 : decode cX1_ring 49 = .ok (.aload_n 0, 1) := dk_42 (dk_at dksX1_ring_2 3 rfl rfl)
theorem dX1_ring_50 : decode cX1_ring 50 = .ok (.getfield 381, 3) := dk_180 1 125 (dk_at dksX1_ring_2 4 rfl rfl)
theorem dX1_ring_53 : decode cX1_ring 53 = .ok (.ireturn, 1) := dk_172 (dk_at dksX1_ring_2 7 rfl rfl)
abbrev cX1_findsRing : ByteArray := prog_1_method_56_code
def yX1_findsRing : MethodName := ⟨RX1, "findsRing", "()Z"⟩
def dkwX1_findsRing_1 : List UInt8 := [153, 0, 5, 4, 172, 42, 89, 180, 1, 125, 4, 96, 181, 1, 125, 167, 255, 224, 3, 172]
abbrev dktX1_findsRing_1 : List UInt8 := dkwX1_findsRing_1 ++ []
def dkwX1_findsRing_0 : List UInt8 := [42, 5, 181, 1, 125, 42, 180, 1, 125, 42, 180, 0, 96, 163, 0, 27, 42, 3, 3, 182, 1, 133]
abbrev dktX1_findsRing_0 : List UInt8 := dkwX1_findsRing_0 ++ dktX1_findsRing_1
theorem dksX1_findsRing_0 : cX1_findsRing.data.toList.drop 0 = dktX1_findsRing_0 := by decide +kernel
theorem dksX1_findsRing_1 : cX1_findsRing.data.toList.drop 22 = dktX1_findsRing_1 := dk_seg dksX1_findsRing_0 22 rfl rfl
theorem dX1_findsRing_0 : decode cX1_findsRing 0 = .ok (.aload_n 0, 1) := dk_42 (dk_at dksX1_findsRing_0 0 rfl rfl)
theorem dX1_findsRing_1 : decode cX1_findsRing 1 = .ok (.iconst 2, 1) := dk_5 (dk_at dksX1_findsRing_0 1 rfl rfl)
theorem dX1_findsRing_2 : decode cX1_findsRing 2 = .ok (.putfield 381, 3) := dk_181 1 125 (dk_at dksX1_findsRing_0 2 rfl rfl)
theorem dX1_findsRing_5 : decode cX1_findsRing 5 = .ok (.aload_n 0, 1) := dk_42 (dk_at dksX1_findsRing_0 5 rfl rfl)
theorem dX1_findsRing_6 : decode cX1_findsRing 6 = .ok (.getfield 381, 3) := dk_180 1 125 (dk_at dksX1_findsRing_0 6 rfl rfl)
theorem dX1_findsRing_9 : decode cX1_findsRing 9 = .ok (.aload_n 0, 1) := dk_42 (dk_at dksX1_findsRing_0 9 rfl rfl)
theorem dX1_findsRing_10 : decode cX1_findsRing 10 = .ok (.getfield 96, 3) := dk_180 0 96 (dk_at dksX1_findsRing_0 10 rfl rfl)
theorem dX1_findsRing_13 : decode cX1_findsRing 13 = .ok (.if_icmp .gt 27, 3) := dk_163 0 27 (dk_at dksX1_findsRing_0 13 rfl rfl)
theorem dX1_findsRing_16 : decode cX1_findsRing 16 = .ok (.aload_n 0, 1) := dk_42 (dk_at dksX1_findsRing_0 16 rfl rfl)
theorem dX1_findsRing_17 : decode cX1_findsRing 17 = .ok (.iconst 0, 1) := dk_3 (dk_at dksX1_findsRing_0 17 rfl rfl)
theorem dX1_findsRing_18 : decode cX1_findsRing 18 = .ok (.iconst 0, 1) := dk_3 (dk_at dksX1_findsRing_0 18 rfl rfl)
theorem dX1_findsRing_19 : decode cX1_findsRing 19 = .ok (.invokevirtual 389, 3) := dk_182 1 133 (dk_at dksX1_findsRing_0 19 rfl rfl)
theorem dX1_findsRing_22 : decode cX1_findsRing 22 = .ok (.ifCond .eq 5, 3) := dk_153 0 5 (dk_at dksX1_findsRing_1 0 rfl rfl)
theorem dX1_findsRing_25 : decode cX1_findsRing 25 = .ok (.iconst 1, 1) := dk_4 (dk_at dksX1_findsRing_1 3 rfl rfl)
theorem dX1_findsRing_26 : decode cX1_findsRing 26 = .ok (.ireturn, 1) := dk_172 (dk_at dksX1_findsRing_1 4 rfl rfl)
theorem dX1_findsRing_27 : decode cX1_findsRing 27 = .ok (.aload_n 0, 1) := dk_42 (dk_at dksX1_findsRing_1 5 rfl rfl)
theorem dX1_findsRing_28 : decode cX1_findsRing 28 = .ok (.dup, 1) := dk_89 (dk_at dksX1_findsRing_1 6 rfl rfl)
theorem dX1_findsRing_29 : decode cX1_findsRing 29 = .ok (.getfield 381, 3) := dk_180 1 125 (dk_at dksX1_findsRing_1 7 rfl rfl)
theorem dX1_findsRing_32 : decode cX1_findsRing 32 = .ok (.iconst 1, 1) := dk_4 (dk_at dksX1_findsRing_1 10 rfl rfl)
theorem dX1_findsRing_33 : decode cX1_findsRing 33 = .ok (.iadd, 1) := dk_96 (dk_at dksX1_findsRing_1 11 rfl rfl)
theorem dX1_findsRing_34 : decode cX1_findsRing 34 = .ok (.putfield 381, 3) := dk_181 1 125 (dk_at dksX1_findsRing_1 12 rfl rfl)
theorem dX1_findsRing_37 : decode cX1_findsRing 37 = .ok (.goto (-32), 3) := dk_167 255 224 (dk_at dksX1_findsRing_1 15 rfl rfl)
theorem dX1_findsRing_40 : decode cX1_findsRing 40 = .ok (.iconst 0, 1) := dk_3 (dk_at dksX1_findsRing_1 18 rfl rfl)
theorem dX1_findsRing_41 : decode cX1_findsRing 41 = .ok (.ireturn, 1) := dk_172 (dk_at dksX1_findsRing_1 19 rfl rfl)
abbrev cX1_rounds : ByteArray := prog_1_method_55_code
def yX1_rounds : MethodName := ⟨RX1, "rounds", "(II)Z"⟩
def dkwX1_rounds_4 : List UInt8 := [28, 4, 29, 120, 128, 182, 1, 133, 153, 0, 5, 4, 172, 132, 3, 1, 167, 255, 190, 3, 172]
abbrev dktX1_rounds_4 : List UInt8 := dkwX1_rounds_4 ++ []
def dkwX1_rounds_3 : List UInt8 := [4, 100, 46, 29, 182, 1, 128, 154, 0, 6, 167, 0, 27, 42, 180, 0, 66, 27, 29, 79, 42, 27, 4, 96]
abbrev dktX1_rounds_3 : List UInt8 := dkwX1_rounds_3 ++ dktX1_rounds_4
def dkwX1_rounds_2 : List UInt8 := [180, 0, 96, 162, 0, 64, 28, 29, 184, 1, 130, 154, 0, 50, 27, 158, 0, 22, 42, 42, 180, 0, 66, 27]
abbrev dktX1_rounds_2 : List UInt8 := dkwX1_rounds_2 ++ dktX1_rounds_3
def dkwX1_rounds_1 : List UInt8 := [182, 1, 128, 172, 27, 154, 0, 7, 3, 167, 0, 11, 42, 180, 0, 66, 3, 46, 4, 96, 62, 29, 42]
abbrev dktX1_rounds_1 : List UInt8 := dkwX1_rounds_1 ++ dktX1_rounds_2
def dkwX1_rounds_0 : List UInt8 := [27, 42, 180, 1, 125, 160, 0, 22, 42, 42, 180, 0, 66, 27, 4, 100, 46, 42, 180, 0, 66, 3, 46]
abbrev dktX1_rounds_0 : List UInt8 := dkwX1_rounds_0 ++ dktX1_rounds_1
theorem dksX1_rounds_0 : cX1_rounds.data.toList.drop 0 = dktX1_rounds_0 := by decide +kernel
theorem dksX1_rounds_1 : cX1_rounds.data.toList.drop 23 = dktX1_rounds_1 := dk_seg dksX1_rounds_0 23 rfl rfl
theorem dksX1_rounds_2 : cX1_rounds.data.toList.drop 46 = dktX1_rounds_2 := dk_seg dksX1_rounds_1 23 rfl rfl
theorem dksX1_rounds_3 : cX1_rounds.data.toList.drop 70 = dktX1_rounds_3 := dk_seg dksX1_rounds_2 24 rfl rfl
theorem dksX1_rounds_4 : cX1_rounds.data.toList.drop 94 = dktX1_rounds_4 := dk_seg dksX1_rounds_3 24 rfl rfl
theorem dX1_rounds_0 : decode cX1_rounds 0 = .ok (.iload_n 1, 1) := dk_27 (dk_at dksX1_rounds_0 0 rfl rfl)
theorem dX1_rounds_1 : decode cX1_rounds 1 = .ok (.aload_n 0, 1) := dk_42 (dk_at dksX1_rounds_0 1 rfl rfl)
theorem dX1_rounds_2 : decode cX1_rounds 2 = .ok (.getfield 381, 3) := dk_180 1 125 (dk_at dksX1_rounds_0 2 rfl rfl)
theorem dX1_rounds_5 : decode cX1_rounds 5 = .ok (.if_icmp .ne 22, 3) := dk_160 0 22 (dk_at dksX1_rounds_0 5 rfl rfl)
theorem dX1_rounds_8 : decode cX1_rounds 8 = .ok (.aload_n 0, 1) := dk_42 (dk_at dksX1_rounds_0 8 rfl rfl)
theorem dX1_rounds_9 : decode cX1_rounds 9 = .ok (.aload_n 0, 1) := dk_42 (dk_at dksX1_rounds_0 9 rfl rfl)
theorem dX1_rounds_10 : decode cX1_rounds 10 = .ok (.getfield 66, 3) := dk_180 0 66 (dk_at dksX1_rounds_0 10 rfl rfl)
theorem dX1_rounds_13 : decode cX1_rounds 13 = .ok (.iload_n 1, 1) := dk_27 (dk_at dksX1_rounds_0 13 rfl rfl)
theorem dX1_rounds_14 : decode cX1_rounds 14 = .ok (.iconst 1, 1) := dk_4 (dk_at dksX1_rounds_0 14 rfl rfl)
theorem dX1_rounds_15 : decode cX1_rounds 15 = .ok (.isub, 1) := dk_100 (dk_at dksX1_rounds_0 15 rfl rfl)
theorem dX1_rounds_16 : decode cX1_rounds 16 = .ok (.iaload, 1) := dk_46 (dk_at dksX1_rounds_0 16 rfl rfl)
theorem dX1_rounds_17 : decode cX1_rounds 17 = .ok (.aload_n 0, 1) := dk_42 (dk_at dksX1_rounds_0 17 rfl rfl)
theorem dX1_rounds_18 : decode cX1_rounds 18 = .ok (.getfield 66, 3) := dk_180 0 66 (dk_at dksX1_rounds_0 18 rfl rfl)
theorem dX1_rounds_21 : decode cX1_rounds 21 = .ok (.iconst 0, 1) := dk_3 (dk_at dksX1_rounds_0 21 rfl rfl)
theorem dX1_rounds_22 : decode cX1_rounds 22 = .ok (.iaload, 1) := dk_46 (dk_at dksX1_rounds_0 22 rfl rfl)
theorem dX1_rounds_23 : decode cX1_rounds 23 = .ok (.invokevirtual 384, 3) := dk_182 1 128 (dk_at dksX1_rounds_1 0 rfl rfl)
theorem dX1_rounds_26 : decode cX1_rounds 26 = .ok (.ireturn, 1) := dk_172 (dk_at dksX1_rounds_1 3 rfl rfl)
theorem dX1_rounds_27 : decode cX1_rounds 27 = .ok (.iload_n 1, 1) := dk_27 (dk_at dksX1_rounds_1 4 rfl rfl)
theorem dX1_rounds_28 : decode cX1_rounds 28 = .ok (.ifCond .ne 7, 3) := dk_154 0 7 (dk_at dksX1_rounds_1 5 rfl rfl)
theorem dX1_rounds_31 : decode cX1_rounds 31 = .ok (.iconst 0, 1) := dk_3 (dk_at dksX1_rounds_1 8 rfl rfl)
theorem dX1_rounds_32 : decode cX1_rounds 32 = .ok (.goto 11, 3) := dk_167 0 11 (dk_at dksX1_rounds_1 9 rfl rfl)
theorem dX1_rounds_35 : decode cX1_rounds 35 = .ok (.aload_n 0, 1) := dk_42 (dk_at dksX1_rounds_1 12 rfl rfl)
theorem dX1_rounds_36 : decode cX1_rounds 36 = .ok (.getfield 66, 3) := dk_180 0 66 (dk_at dksX1_rounds_1 13 rfl rfl)
theorem dX1_rounds_39 : decode cX1_rounds 39 = .ok (.iconst 0, 1) := dk_3 (dk_at dksX1_rounds_1 16 rfl rfl)
theorem dX1_rounds_40 : decode cX1_rounds 40 = .ok (.iaload, 1) := dk_46 (dk_at dksX1_rounds_1 17 rfl rfl)
theorem dX1_rounds_41 : decode cX1_rounds 41 = .ok (.iconst 1, 1) := dk_4 (dk_at dksX1_rounds_1 18 rfl rfl)
theorem dX1_rounds_42 : decode cX1_rounds 42 = .ok (.iadd, 1) := dk_96 (dk_at dksX1_rounds_1 19 rfl rfl)
theorem dX1_rounds_43 : decode cX1_rounds 43 = .ok (.istore_n 3, 1) := dk_62 (dk_at dksX1_rounds_1 20 rfl rfl)
theorem dX1_rounds_44 : decode cX1_rounds 44 = .ok (.iload_n 3, 1) := dk_29 (dk_at dksX1_rounds_1 21 rfl rfl)
theorem dX1_rounds_45 : decode cX1_rounds 45 = .ok (.aload_n 0, 1) := dk_42 (dk_at dksX1_rounds_1 22 rfl rfl)
theorem dX1_rounds_46 : decode cX1_rounds 46 = .ok (.getfield 96, 3) := dk_180 0 96 (dk_at dksX1_rounds_2 0 rfl rfl)
theorem dX1_rounds_49 : decode cX1_rounds 49 = .ok (.if_icmp .ge 64, 3) := dk_162 0 64 (dk_at dksX1_rounds_2 3 rfl rfl)
theorem dX1_rounds_52 : decode cX1_rounds 52 = .ok (.iload_n 2, 1) := dk_28 (dk_at dksX1_rounds_2 6 rfl rfl)
theorem dX1_rounds_53 : decode cX1_rounds 53 = .ok (.iload_n 3, 1) := dk_29 (dk_at dksX1_rounds_2 7 rfl rfl)
theorem dX1_rounds_54 : decode cX1_rounds 54 = .ok (.invokestatic 386, 3) := dk_184 1 130 (dk_at dksX1_rounds_2 8 rfl rfl)
theorem dX1_rounds_57 : decode cX1_rounds 57 = .ok (.ifCond .ne 50, 3) := dk_154 0 50 (dk_at dksX1_rounds_2 11 rfl rfl)
theorem dX1_rounds_60 : decode cX1_rounds 60 = .ok (.iload_n 1, 1) := dk_27 (dk_at dksX1_rounds_2 14 rfl rfl)
theorem dX1_rounds_61 : decode cX1_rounds 61 = .ok (.ifCond .le 22, 3) := dk_158 0 22 (dk_at dksX1_rounds_2 15 rfl rfl)
theorem dX1_rounds_64 : decode cX1_rounds 64 = .ok (.aload_n 0, 1) := dk_42 (dk_at dksX1_rounds_2 18 rfl rfl)
theorem dX1_rounds_65 : decode cX1_rounds 65 = .ok (.aload_n 0, 1) := dk_42 (dk_at dksX1_rounds_2 19 rfl rfl)
theorem dX1_rounds_66 : decode cX1_rounds 66 = .ok (.getfield 66, 3) := dk_180 0 66 (dk_at dksX1_rounds_2 20 rfl rfl)
theorem dX1_rounds_69 : decode cX1_rounds 69 = .ok (.iload_n 1, 1) := dk_27 (dk_at dksX1_rounds_2 23 rfl rfl)
theorem dX1_rounds_70 : decode cX1_rounds 70 = .ok (.iconst 1, 1) := dk_4 (dk_at dksX1_rounds_3 0 rfl rfl)
theorem dX1_rounds_71 : decode cX1_rounds 71 = .ok (.isub, 1) := dk_100 (dk_at dksX1_rounds_3 1 rfl rfl)
theorem dX1_rounds_72 : decode cX1_rounds 72 = .ok (.iaload, 1) := dk_46 (dk_at dksX1_rounds_3 2 rfl rfl)
theorem dX1_rounds_73 : decode cX1_rounds 73 = .ok (.iload_n 3, 1) := dk_29 (dk_at dksX1_rounds_3 3 rfl rfl)
theorem dX1_rounds_74 : decode cX1_rounds 74 = .ok (.invokevirtual 384, 3) := dk_182 1 128 (dk_at dksX1_rounds_3 4 rfl rfl)
theorem dX1_rounds_77 : decode cX1_rounds 77 = .ok (.ifCond .ne 6, 3) := dk_154 0 6 (dk_at dksX1_rounds_3 7 rfl rfl)
theorem dX1_rounds_80 : decode cX1_rounds 80 = .ok (.goto 27, 3) := dk_167 0 27 (dk_at dksX1_rounds_3 10 rfl rfl)
theorem dX1_rounds_83 : decode cX1_rounds 83 = .ok (.aload_n 0, 1) := dk_42 (dk_at dksX1_rounds_3 13 rfl rfl)
theorem dX1_rounds_84 : decode cX1_rounds 84 = .ok (.getfield 66, 3) := dk_180 0 66 (dk_at dksX1_rounds_3 14 rfl rfl)
theorem dX1_rounds_87 : decode cX1_rounds 87 = .ok (.iload_n 1, 1) := dk_27 (dk_at dksX1_rounds_3 17 rfl rfl)
theorem dX1_rounds_88 : decode cX1_rounds 88 = .ok (.iload_n 3, 1) := dk_29 (dk_at dksX1_rounds_3 18 rfl rfl)
theorem dX1_rounds_89 : decode cX1_rounds 89 = .ok (.iastore, 1) := dk_79 (dk_at dksX1_rounds_3 19 rfl rfl)
theorem dX1_rounds_90 : decode cX1_rounds 90 = .ok (.aload_n 0, 1) := dk_42 (dk_at dksX1_rounds_3 20 rfl rfl)
theorem dX1_rounds_91 : decode cX1_rounds 91 = .ok (.iload_n 1, 1) := dk_27 (dk_at dksX1_rounds_3 21 rfl rfl)
theorem dX1_rounds_92 : decode cX1_rounds 92 = .ok (.iconst 1, 1) := dk_4 (dk_at dksX1_rounds_3 22 rfl rfl)
theorem dX1_rounds_93 : decode cX1_rounds 93 = .ok (.iadd, 1) := dk_96 (dk_at dksX1_rounds_3 23 rfl rfl)
theorem dX1_rounds_94 : decode cX1_rounds 94 = .ok (.iload_n 2, 1) := dk_28 (dk_at dksX1_rounds_4 0 rfl rfl)
theorem dX1_rounds_95 : decode cX1_rounds 95 = .ok (.iconst 1, 1) := dk_4 (dk_at dksX1_rounds_4 1 rfl rfl)
theorem dX1_rounds_96 : decode cX1_rounds 96 = .ok (.iload_n 3, 1) := dk_29 (dk_at dksX1_rounds_4 2 rfl rfl)
theorem dX1_rounds_97 : decode cX1_rounds 97 = .ok (.ishl, 1) := dk_120 (dk_at dksX1_rounds_4 3 rfl rfl)
theorem dX1_rounds_98 : decode cX1_rounds 98 = .ok (.ior, 1) := dk_128 (dk_at dksX1_rounds_4 4 rfl rfl)
theorem dX1_rounds_99 : decode cX1_rounds 99 = .ok (.invokevirtual 389, 3) := dk_182 1 133 (dk_at dksX1_rounds_4 5 rfl rfl)
theorem dX1_rounds_102 : decode cX1_rounds 102 = .ok (.ifCond .eq 5, 3) := dk_153 0 5 (dk_at dksX1_rounds_4 8 rfl rfl)
theorem dX1_rounds_105 : decode cX1_rounds 105 = .ok (.iconst 1, 1) := dk_4 (dk_at dksX1_rounds_4 11 rfl rfl)
theorem dX1_rounds_106 : decode cX1_rounds 106 = .ok (.ireturn, 1) := dk_172 (dk_at dksX1_rounds_4 12 rfl rfl)
theorem dX1_rounds_107 : decode cX1_rounds 107 = .ok (.iinc 3 1, 3) := dk_132 3 1 (dk_at dksX1_rounds_4 13 rfl rfl)
theorem dX1_rounds_110 : decode cX1_rounds 110 = .ok (.goto (-66), 3) := dk_167 255 190 (dk_at dksX1_rounds_4 16 rfl rfl)
theorem dX1_rounds_113 : decode cX1_rounds 113 = .ok (.iconst 0, 1) := dk_3 (dk_at dksX1_rounds_4 19 rfl rfl)
theorem dX1_rounds_114 : decode cX1_rounds 114 = .ok (.ireturn, 1) := dk_172 (dk_at dksX1_rounds_4 20 rfl rfl)
abbrev cX1_owes : ByteArray := prog_1_method_54_code
def yX1_owes : MethodName := ⟨RX1, "owes", "(II)Z"⟩
def dkwX1_owes_0 : List UInt8 := [42, 180, 0, 12, 180, 1, 19, 16, 7, 27, 104, 28, 96, 46, 158, 0, 7, 4, 167, 0, 4, 3, 172]
abbrev dktX1_owes_0 : List UInt8 := dkwX1_owes_0 ++ []
theorem dksX1_owes_0 : cX1_owes.data.toList.drop 0 = dktX1_owes_0 := by decide +kernel
theorem dX1_owes_0 : decode cX1_owes 0 = .ok (.aload_n 0, 1) := dk_42 (dk_at dksX1_owes_0 0 rfl rfl)
theorem dX1_owes_1 : decode cX1_owes 1 = .ok (.getfield 12, 3) := dk_180 0 12 (dk_at dksX1_owes_0 1 rfl rfl)
theorem dX1_owes_4 : decode cX1_owes 4 = .ok (.getfield 275, 3) := dk_180 1 19 (dk_at dksX1_owes_0 4 rfl rfl)
theorem dX1_owes_7 : decode cX1_owes 7 = .ok (.bipush 7, 2) := dk_16 7 (dk_at dksX1_owes_0 7 rfl rfl)
theorem dX1_owes_9 : decode cX1_owes 9 = .ok (.iload_n 1, 1) := dk_27 (dk_at dksX1_owes_0 9 rfl rfl)
theorem dX1_owes_10 : decode cX1_owes 10 = .ok (.imul, 1) := dk_104 (dk_at dksX1_owes_0 10 rfl rfl)
theorem dX1_owes_11 : decode cX1_owes 11 = .ok (.iload_n 2, 1) := dk_28 (dk_at dksX1_owes_0 11 rfl rfl)
theorem dX1_owes_12 : decode cX1_owes 12 = .ok (.iadd, 1) := dk_96 (dk_at dksX1_owes_0 12 rfl rfl)
theorem dX1_owes_13 : decode cX1_owes 13 = .ok (.iaload, 1) := dk_46 (dk_at dksX1_owes_0 13 rfl rfl)
theorem dX1_owes_14 : decode cX1_owes 14 = .ok (.ifCond .le 7, 3) := dk_158 0 7 (dk_at dksX1_owes_0 14 rfl rfl)
theorem dX1_owes_17 : decode cX1_owes 17 = .ok (.iconst 1, 1) := dk_4 (dk_at dksX1_owes_0 17 rfl rfl)
theorem dX1_owes_18 : decode cX1_owes 18 = .ok (.goto 4, 3) := dk_167 0 4 (dk_at dksX1_owes_0 18 rfl rfl)
theorem dX1_owes_21 : decode cX1_owes 21 = .ok (.iconst 0, 1) := dk_3 (dk_at dksX1_owes_0 21 rfl rfl)
theorem dX1_owes_22 : decode cX1_owes 22 = .ok (.ireturn, 1) := dk_172 (dk_at dksX1_owes_0 22 rfl rfl)
abbrev cX1_has : ByteArray := prog_1_method_3_code
def yX1_has : MethodName := ⟨RX1, "has", "(II)Z"⟩
def dkwX1_has_0 : List UInt8 := [26, 27, 122, 4, 126, 4, 160, 0, 7, 4, 167, 0, 4, 3, 172]
abbrev dktX1_has_0 : List UInt8 := dkwX1_has_0 ++ []
theorem dksX1_has_0 : cX1_has.data.toList.drop 0 = dktX1_has_0 := by decide +kernel
theorem dX1_has_0 : decode cX1_has 0 = .ok (.iload_n 0, 1) := dk_26 (dk_at dksX1_has_0 0 rfl rfl)
theorem dX1_has_1 : decode cX1_has 1 = .ok (.iload_n 1, 1) := dk_27 (dk_at dksX1_has_0 1 rfl rfl)
theorem dX1_has_2 : decode cX1_has 2 = .ok (.ishr, 1) := dk_122 (dk_at dksX1_has_0 2 rfl rfl)
theorem dX1_has_3 : decode cX1_has 3 = .ok (.iconst 1, 1) := dk_4 (dk_at dksX1_has_0 3 rfl rfl)
theorem dX1_has_4 : decode cX1_has 4 = .ok (.iand, 1) := dk_126 (dk_at dksX1_has_0 4 rfl rfl)
theorem dX1_has_5 : decode cX1_has 5 = .ok (.iconst 1, 1) := dk_4 (dk_at dksX1_has_0 5 rfl rfl)
theorem dX1_has_6 : decode cX1_has 6 = .ok (.if_icmp .ne 7, 3) := dk_160 0 7 (dk_at dksX1_has_0 6 rfl rfl)
theorem dX1_has_9 : decode cX1_has 9 = .ok (.iconst 1, 1) := dk_4 (dk_at dksX1_has_0 9 rfl rfl)
theorem dX1_has_10 : decode cX1_has 10 = .ok (.goto 4, 3) := dk_167 0 4 (dk_at dksX1_has_0 10 rfl rfl)
theorem dX1_has_13 : decode cX1_has 13 = .ok (.iconst 0, 1) := dk_3 (dk_at dksX1_has_0 13 rfl rfl)
theorem dX1_has_14 : decode cX1_has 14 = .ok (.ireturn, 1) := dk_172 (dk_at dksX1_has_0 14 rfl rfl)
abbrev cX1_leastInRing : ByteArray := prog_1_method_57_code
def yX1_leastInRing : MethodName := ⟨RX1, "leastInRing", "()I"⟩
def dkwX1_leastInRing_2 : List UInt8 := [184, 0, 130, 60, 132, 2, 1, 167, 255, 209, 27, 172]
abbrev dktX1_leastInRing_2 : List UInt8 := dkwX1_leastInRing_2 ++ []
def dkwX1_leastInRing_1 : List UInt8 := [42, 180, 0, 66, 28, 46, 104, 42, 180, 0, 66, 28, 4, 96, 42, 180, 1, 125, 112, 46, 96, 46]
abbrev dktX1_leastInRing_1 : List UInt8 := dkwX1_leastInRing_1 ++ dktX1_leastInRing_2
def dkwX1_leastInRing_0 : List UInt8 := [19, 1, 136, 60, 3, 61, 28, 42, 180, 1, 125, 162, 0, 45, 27, 42, 180, 0, 12, 180, 1, 19, 16, 7]
abbrev dktX1_leastInRing_0 : List UInt8 := dkwX1_leastInRing_0 ++ dktX1_leastInRing_1
theorem dksX1_leastInRing_0 : cX1_leastInRing.data.toList.drop 0 = dktX1_leastInRing_0 := by decide +kernel
theorem dksX1_leastInRing_1 : cX1_leastInRing.data.toList.drop 24 = dktX1_leastInRing_1 := dk_seg dksX1_leastInRing_0 24 rfl rfl
theorem dksX1_leastInRing_2 : cX1_leastInRing.data.toList.drop 46 = dktX1_leastInRing_2 := dk_seg dksX1_leastInRing_1 22 rfl rfl
theorem dX1_leastInRing_0 : decode cX1_leastInRing 0 = .ok (.ldc_w 392, 3) := dk_19 1 136 (dk_at dksX1_leastInRing_0 0 rfl rfl)
theorem dX1_leastInRing_3 : decode cX1_leastInRing 3 = .ok (.istore_n 1, 1) := dk_60 (dk_at dksX1_leastInRing_0 3 rfl rfl)
theorem dX1_leastInRing_4 : decode cX1_leastInRing 4 = .ok (.iconst 0, 1) := dk_3 (dk_at dksX1_leastInRing_0 4 rfl rfl)
theorem dX1_leastInRing_5 : decode cX1_leastInRing 5 = .ok (.istore_n 2, 1) := dk_61 (dk_at dksX1_leastInRing_0 5 rfl rfl)
theorem dX1_leastInRing_6 : decode cX1_leastInRing 6 = .ok (.iload_n 2, 1) := dk_28 (dk_at dksX1_leastInRing_0 6 rfl rfl)
theorem dX1_leastInRing_7 : decode cX1_leastInRing 7 = .ok (.aload_n 0, 1) := dk_42 (dk_at dksX1_leastInRing_0 7 rfl rfl)
theorem dX1_leastInRing_8 : decode cX1_leastInRing 8 = .ok (.getfield 381, 3) := dk_180 1 125 (dk_at dksX1_leastInRing_0 8 rfl rfl)
theorem dX1_leastInRing_11 : decode cX1_leastInRing 11 = .ok (.if_icmp .ge 45, 3) := dk_162 0 45 (dk_at dksX1_leastInRing_0 11 rfl rfl)
theorem dX1_leastInRing_14 : decode cX1_leastInRing 14 = .ok (.iload_n 1, 1) := dk_27 (dk_at dksX1_leastInRing_0 14 rfl rfl)
theorem dX1_leastInRing_15 : decode cX1_leastInRing 15 = .ok (.aload_n 0, 1) := dk_42 (dk_at dksX1_leastInRing_0 15 rfl rfl)
theorem dX1_leastInRing_16 : decode cX1_leastInRing 16 = .ok (.getfield 12, 3) := dk_180 0 12 (dk_at dksX1_leastInRing_0 16 rfl rfl)
theorem dX1_leastInRing_19 : decode cX1_leastInRing 19 = .ok (.getfield 275, 3) := dk_180 1 19 (dk_at dksX1_leastInRing_0 19 rfl rfl)
theorem dX1_leastInRing_22 : decode cX1_leastInRing 22 = .ok (.bipush 7, 2) := dk_16 7 (dk_at dksX1_leastInRing_0 22 rfl rfl)
theorem dX1_leastInRing_24 : decode cX1_leastInRing 24 = .ok (.aload_n 0, 1) := dk_42 (dk_at dksX1_leastInRing_1 0 rfl rfl)
theorem dX1_leastInRing_25 : decode cX1_leastInRing 25 = .ok (.getfield 66, 3) := dk_180 0 66 (dk_at dksX1_leastInRing_1 1 rfl rfl)
theorem dX1_leastInRing_28 : decode cX1_leastInRing 28 = .ok (.iload_n 2, 1) := dk_28 (dk_at dksX1_leastInRing_1 4 rfl rfl)
theorem dX1_leastInRing_29 : decode cX1_leastInRing 29 = .ok (.iaload, 1) := dk_46 (dk_at dksX1_leastInRing_1 5 rfl rfl)
theorem dX1_leastInRing_30 : decode cX1_leastInRing 30 = .ok (.imul, 1) := dk_104 (dk_at dksX1_leastInRing_1 6 rfl rfl)
theorem dX1_leastInRing_31 : decode cX1_leastInRing 31 = .ok (.aload_n 0, 1) := dk_42 (dk_at dksX1_leastInRing_1 7 rfl rfl)
theorem dX1_leastInRing_32 : decode cX1_leastInRing 32 = .ok (.getfield 66, 3) := dk_180 0 66 (dk_at dksX1_leastInRing_1 8 rfl rfl)
theorem dX1_leastInRing_35 : decode cX1_leastInRing 35 = .ok (.iload_n 2, 1) := dk_28 (dk_at dksX1_leastInRing_1 11 rfl rfl)
theorem dX1_leastInRing_36 : decode cX1_leastInRing 36 = .ok (.iconst 1, 1) := dk_4 (dk_at dksX1_leastInRing_1 12 rfl rfl)
theorem dX1_leastInRing_37 : decode cX1_leastInRing 37 = .ok (.iadd, 1) := dk_96 (dk_at dksX1_leastInRing_1 13 rfl rfl)
theorem dX1_leastInRing_38 : decode cX1_leastInRing 38 = .ok (.aload_n 0, 1) := dk_42 (dk_at dksX1_leastInRing_1 14 rfl rfl)
theorem dX1_leastInRing_39 : decode cX1_leastInRing 39 = .ok (.getfield 381, 3) := dk_180 1 125 (dk_at dksX1_leastInRing_1 15 rfl rfl)
theorem dX1_leastInRing_42 : decode cX1_leastInRing 42 = .ok (.irem, 1) := dk_112 (dk_at dksX1_leastInRing_1 18 rfl rfl)
theorem dX1_leastInRing_43 : decode cX1_leastInRing 43 = .ok (.iaload, 1) := dk_46 (dk_at dksX1_leastInRing_1 19 rfl rfl)
theorem dX1_leastInRing_44 : decode cX1_leastInRing 44 = .ok (.iadd, 1) := dk_96 (dk_at dksX1_leastInRing_1 20 rfl rfl)
theorem dX1_leastInRing_45 : decode cX1_leastInRing 45 = .ok (.iaload, 1) := dk_46 (dk_at dksX1_leastInRing_1 21 rfl rfl)
theorem dX1_leastInRing_46 : decode cX1_leastInRing 46 = .ok (.invokestatic 130, 3) := dk_184 0 130 (dk_at dksX1_leastInRing_2 0 rfl rfl)
theorem dX1_leastInRing_49 : decode cX1_leastInRing 49 = .ok (.istore_n 1, 1) := dk_60 (dk_at dksX1_leastInRing_2 3 rfl rfl)
theorem dX1_leastInRing_50 : decode cX1_leastInRing 50 = .ok (.iinc 2 1, 3) := dk_132 2 1 (dk_at dksX1_leastInRing_2 4 rfl rfl)
theorem dX1_leastInRing_53 : decode cX1_leastInRing 53 = .ok (.goto (-47), 3) := dk_167 255 209 (dk_at dksX1_leastInRing_2 7 rfl rfl)
theorem dX1_leastInRing_56 : decode cX1_leastInRing 56 = .ok (.iload_n 1, 1) := dk_27 (dk_at dksX1_leastInRing_2 10 rfl rfl)
theorem dX1_leastInRing_57 : decode cX1_leastInRing 57 = .ok (.ireturn, 1) := dk_172 (dk_at dksX1_leastInRing_2 11 rfl rfl)
abbrev cX1_cancel : ByteArray := prog_1_method_60_code
def yX1_cancel : MethodName := ⟨RX1, "cancel", "()I"⟩
def dkwX1_cancel_0 : List UInt8 := [42, 182, 1, 137, 154, 0, 6, 16, 254, 172, 42, 182, 1, 84, 42, 182, 1, 143, 172]
abbrev dktX1_cancel_0 : List UInt8 := dkwX1_cancel_0 ++ []
theorem dksX1_cancel_0 : cX1_cancel.data.toList.drop 0 = dktX1_cancel_0 := by decide +kernel
theorem dX1_cancel_0 : decode cX1_cancel 0 = .ok (.aload_n 0, 1) := dk_42 (dk_at dksX1_cancel_0 0 rfl rfl)
theorem dX1_cancel_1 : decode cX1_cancel 1 = .ok (.invokevirtual 393, 3) := dk_182 1 137 (dk_at dksX1_cancel_0 1 rfl rfl)
theorem dX1_cancel_4 : decode cX1_cancel 4 = .ok (.ifCond .ne 6, 3) := dk_154 0 6 (dk_at dksX1_cancel_0 4 rfl rfl)
theorem dX1_cancel_7 : decode cX1_cancel 7 = .ok (.bipush (-2), 2) := dk_16 254 (dk_at dksX1_cancel_0 7 rfl rfl)
theorem dX1_cancel_9 : decode cX1_cancel 9 = .ok (.ireturn, 1) := dk_172 (dk_at dksX1_cancel_0 9 rfl rfl)
theorem dX1_cancel_10 : decode cX1_cancel 10 = .ok (.aload_n 0, 1) := dk_42 (dk_at dksX1_cancel_0 10 rfl rfl)
theorem dX1_cancel_11 : decode cX1_cancel 11 = .ok (.invokevirtual 340, 3) := dk_182 1 84 (dk_at dksX1_cancel_0 11 rfl rfl)
theorem dX1_cancel_14 : decode cX1_cancel 14 = .ok (.aload_n 0, 1) := dk_42 (dk_at dksX1_cancel_0 14 rfl rfl)
theorem dX1_cancel_15 : decode cX1_cancel 15 = .ok (.invokevirtual 399, 3) := dk_182 1 143 (dk_at dksX1_cancel_0 15 rfl rfl)
theorem dX1_cancel_18 : decode cX1_cancel 18 = .ok (.ireturn, 1) := dk_172 (dk_at dksX1_cancel_0 18 rfl rfl)
abbrev cX1_cancels : ByteArray := prog_1_method_59_code
def yX1_cancels : MethodName := ⟨RX1, "cancels", "()I"⟩
def dkwX1_cancels_2 : List UInt8 := [100, 79, 132, 2, 1, 167, 255, 210, 27, 42, 180, 1, 125, 104, 172]
abbrev dktX1_cancels_2 : List UInt8 := dkwX1_cancels_2 ++ []
def dkwX1_cancels_1 : List UInt8 := [42, 180, 0, 66, 28, 46, 104, 42, 180, 0, 66, 28, 4, 96, 42, 180, 1, 125, 112, 46, 96, 92, 46, 27]
abbrev dktX1_cancels_1 : List UInt8 := dkwX1_cancels_1 ++ dktX1_cancels_2
def dkwX1_cancels_0 : List UInt8 := [42, 182, 1, 140, 60, 3, 61, 28, 42, 180, 1, 125, 162, 0, 44, 42, 180, 0, 12, 180, 1, 19, 16, 7]
abbrev dktX1_cancels_0 : List UInt8 := dkwX1_cancels_0 ++ dktX1_cancels_1
theorem dksX1_cancels_0 : cX1_cancels.data.toList.drop 0 = dktX1_cancels_0 := by decide +kernel
theorem dksX1_cancels_1 : cX1_cancels.data.toList.drop 24 = dktX1_cancels_1 := dk_seg dksX1_cancels_0 24 rfl rfl
theorem dksX1_cancels_2 : cX1_cancels.data.toList.drop 48 = dktX1_cancels_2 := dk_seg dksX1_cancels_1 24 rfl rfl
theorem dX1_cancels_0 : decode cX1_cancels 0 = .ok (.aload_n 0, 1) := dk_42 (dk_at dksX1_cancels_0 0 rfl rfl)
theorem dX1_cancels_1 : decode cX1_cancels 1 = .ok (.invokevirtual 396, 3) := dk_182 1 140 (dk_at dksX1_cancels_0 1 rfl rfl)
theorem dX1_cancels_4 : decode cX1_cancels 4 = .ok (.istore_n 1, 1) := dk_60 (dk_at dksX1_cancels_0 4 rfl rfl)
theorem dX1_cancels_5 : decode cX1_cancels 5 = .ok (.iconst 0, 1) := dk_3 (dk_at dksX1_cancels_0 5 rfl rfl)
theorem dX1_cancels_6 : decode cX1_cancels 6 = .ok (.istore_n 2, 1) := dk_61 (dk_at dksX1_cancels_0 6 rfl rfl)
theorem dX1_cancels_7 : decode cX1_cancels 7 = .ok (.iload_n 2, 1) := dk_28 (dk_at dksX1_cancels_0 7 rfl rfl)
theorem dX1_cancels_8 : decode cX1_cancels 8 = .ok (.aload_n 0, 1) := dk_42 (dk_at dksX1_cancels_0 8 rfl rfl)
theorem dX1_cancels_9 : decode cX1_cancels 9 = .ok (.getfield 381, 3) := dk_180 1 125 (dk_at dksX1_cancels_0 9 rfl rfl)
theorem dX1_cancels_12 : decode cX1_cancels 12 = .ok (.if_icmp .ge 44, 3) := dk_162 0 44 (dk_at dksX1_cancels_0 12 rfl rfl)
theorem dX1_cancels_15 : decode cX1_cancels 15 = .ok (.aload_n 0, 1) := dk_42 (dk_at dksX1_cancels_0 15 rfl rfl)
theorem dX1_cancels_16 : decode cX1_cancels 16 = .ok (.getfield 12, 3) := dk_180 0 12 (dk_at dksX1_cancels_0 16 rfl rfl)
theorem dX1_cancels_19 : decode cX1_cancels 19 = .ok (.getfield 275, 3) := dk_180 1 19 (dk_at dksX1_cancels_0 19 rfl rfl)
theorem dX1_cancels_22 : decode cX1_cancels 22 = .ok (.bipush 7, 2) := dk_16 7 (dk_at dksX1_cancels_0 22 rfl rfl)
theorem dX1_cancels_24 : decode cX1_cancels 24 = .ok (.aload_n 0, 1) := dk_42 (dk_at dksX1_cancels_1 0 rfl rfl)
theorem dX1_cancels_25 : decode cX1_cancels 25 = .ok (.getfield 66, 3) := dk_180 0 66 (dk_at dksX1_cancels_1 1 rfl rfl)
theorem dX1_cancels_28 : decode cX1_cancels 28 = .ok (.iload_n 2, 1) := dk_28 (dk_at dksX1_cancels_1 4 rfl rfl)
theorem dX1_cancels_29 : decode cX1_cancels 29 = .ok (.iaload, 1) := dk_46 (dk_at dksX1_cancels_1 5 rfl rfl)
theorem dX1_cancels_30 : decode cX1_cancels 30 = .ok (.imul, 1) := dk_104 (dk_at dksX1_cancels_1 6 rfl rfl)
theorem dX1_cancels_31 : decode cX1_cancels 31 = .ok (.aload_n 0, 1) := dk_42 (dk_at dksX1_cancels_1 7 rfl rfl)
theorem dX1_cancels_32 : decode cX1_cancels 32 = .ok (.getfield 66, 3) := dk_180 0 66 (dk_at dksX1_cancels_1 8 rfl rfl)
theorem dX1_cancels_35 : decode cX1_cancels 35 = .ok (.iload_n 2, 1) := dk_28 (dk_at dksX1_cancels_1 11 rfl rfl)
theorem dX1_cancels_36 : decode cX1_cancels 36 = .ok (.iconst 1, 1) := dk_4 (dk_at dksX1_cancels_1 12 rfl rfl)
theorem dX1_cancels_37 : decode cX1_cancels 37 = .ok (.iadd, 1) := dk_96 (dk_at dksX1_cancels_1 13 rfl rfl)
theorem dX1_cancels_38 : decode cX1_cancels 38 = .ok (.aload_n 0, 1) := dk_42 (dk_at dksX1_cancels_1 14 rfl rfl)
theorem dX1_cancels_39 : decode cX1_cancels 39 = .ok (.getfield 381, 3) := dk_180 1 125 (dk_at dksX1_cancels_1 15 rfl rfl)
theorem dX1_cancels_42 : decode cX1_cancels 42 = .ok (.irem, 1) := dk_112 (dk_at dksX1_cancels_1 18 rfl rfl)
theorem dX1_cancels_43 : decode cX1_cancels 43 = .ok (.iaload, 1) := dk_46 (dk_at dksX1_cancels_1 19 rfl rfl)
theorem dX1_cancels_44 : decode cX1_cancels 44 = .ok (.iadd, 1) := dk_96 (dk_at dksX1_cancels_1 20 rfl rfl)
theorem dX1_cancels_45 : decode cX1_cancels 45 = .ok (.dup2, 1) := dk_92 (dk_at dksX1_cancels_1 21 rfl rfl)
theorem dX1_cancels_46 : decode cX1_cancels 46 = .ok (.iaload, 1) := dk_46 (dk_at dksX1_cancels_1 22 rfl rfl)
theorem dX1_cancels_47 : decode cX1_cancels 47 = .ok (.iload_n 1, 1) := dk_27 (dk_at dksX1_cancels_1 23 rfl rfl)
theorem dX1_cancels_48 : decode cX1_cancels 48 = .ok (.isub, 1) := dk_100 (dk_at dksX1_cancels_2 0 rfl rfl)
theorem dX1_cancels_49 : decode cX1_cancels 49 = .ok (.iastore, 1) := dk_79 (dk_at dksX1_cancels_2 1 rfl rfl)
theorem dX1_cancels_50 : decode cX1_cancels 50 = .ok (.iinc 2 1, 3) := dk_132 2 1 (dk_at dksX1_cancels_2 2 rfl rfl)
theorem dX1_cancels_53 : decode cX1_cancels 53 = .ok (.goto (-46), 3) := dk_167 255 210 (dk_at dksX1_cancels_2 5 rfl rfl)
theorem dX1_cancels_56 : decode cX1_cancels 56 = .ok (.iload_n 1, 1) := dk_27 (dk_at dksX1_cancels_2 8 rfl rfl)
theorem dX1_cancels_57 : decode cX1_cancels 57 = .ok (.aload_n 0, 1) := dk_42 (dk_at dksX1_cancels_2 9 rfl rfl)
theorem dX1_cancels_58 : decode cX1_cancels 58 = .ok (.getfield 381, 3) := dk_180 1 125 (dk_at dksX1_cancels_2 10 rfl rfl)
theorem dX1_cancels_61 : decode cX1_cancels 61 = .ok (.imul, 1) := dk_104 (dk_at dksX1_cancels_2 13 rfl rfl)
theorem dX1_cancels_62 : decode cX1_cancels 62 = .ok (.ireturn, 1) := dk_172 (dk_at dksX1_cancels_2 14 rfl rfl)
abbrev cX1_rings : ByteArray := prog_1_method_61_code
def yX1_rings : MethodName := ⟨RX1, "rings", "()I"⟩
def dkwX1_rings_1 : List UInt8 := [96, 61, 132, 1, 1, 167, 255, 231, 42, 3, 181, 1, 8, 42, 28, 182, 1, 11, 27, 172]
abbrev dktX1_rings_1 : List UInt8 := dkwX1_rings_1 ++ []
def dkwX1_rings_0 : List UInt8 := [3, 60, 3, 61, 42, 182, 1, 137, 153, 0, 24, 27, 154, 0, 7, 42, 182, 1, 84, 28, 42, 182, 1, 143]
abbrev dktX1_rings_0 : List UInt8 := dkwX1_rings_0 ++ dktX1_rings_1
theorem dksX1_rings_0 : cX1_rings.data.toList.drop 0 = dktX1_rings_0 := by decide +kernel
theorem dksX1_rings_1 : cX1_rings.data.toList.drop 24 = dktX1_rings_1 := dk_seg dksX1_rings_0 24 rfl rfl
theorem dX1_rings_0 : decode cX1_rings 0 = .ok (.iconst 0, 1) := dk_3 (dk_at dksX1_rings_0 0 rfl rfl)
theorem dX1_rings_1 : decode cX1_rings 1 = .ok (.istore_n 1, 1) := dk_60 (dk_at dksX1_rings_0 1 rfl rfl)
theorem dX1_rings_2 : decode cX1_rings 2 = .ok (.iconst 0, 1) := dk_3 (dk_at dksX1_rings_0 2 rfl rfl)
theorem dX1_rings_3 : decode cX1_rings 3 = .ok (.istore_n 2, 1) := dk_61 (dk_at dksX1_rings_0 3 rfl rfl)
theorem dX1_rings_4 : decode cX1_rings 4 = .ok (.aload_n 0, 1) := dk_42 (dk_at dksX1_rings_0 4 rfl rfl)
theorem dX1_rings_5 : decode cX1_rings 5 = .ok (.invokevirtual 393, 3) := dk_182 1 137 (dk_at dksX1_rings_0 5 rfl rfl)
theorem dX1_rings_8 : decode cX1_rings 8 = .ok (.ifCond .eq 24, 3) := dk_153 0 24 (dk_at dksX1_rings_0 8 rfl rfl)
theorem dX1_rings_11 : decode cX1_rings 11 = .ok (.iload_n 1, 1) := dk_27 (dk_at dksX1_rings_0 11 rfl rfl)
theorem dX1_rings_12 : decode cX1_rings 12 = .ok (.ifCond .ne 7, 3) := dk_154 0 7 (dk_at dksX1_rings_0 12 rfl rfl)
theorem dX1_rings_15 : decode cX1_rings 15 = .ok (.aload_n 0, 1) := dk_42 (dk_at dksX1_rings_0 15 rfl rfl)
theorem dX1_rings_16 : decode cX1_rings 16 = .ok (.invokevirtual 340, 3) := dk_182 1 84 (dk_at dksX1_rings_0 16 rfl rfl)
theorem dX1_rings_19 : decode cX1_rings 19 = .ok (.iload_n 2, 1) := dk_28 (dk_at dksX1_rings_0 19 rfl rfl)
theorem dX1_rings_20 : decode cX1_rings 20 = .ok (.aload_n 0, 1) := dk_42 (dk_at dksX1_rings_0 20 rfl rfl)
theorem dX1_rings_21 : decode cX1_rings 21 = .ok (.invokevirtual 399, 3) := dk_182 1 143 (dk_at dksX1_rings_0 21 rfl rfl)
theorem dX1_rings_24 : decode cX1_rings 24 = .ok (.iadd, 1) := dk_96 (dk_at dksX1_rings_1 0 rfl rfl)
theorem dX1_rings_25 : decode cX1_rings 25 = .ok (.istore_n 2, 1) := dk_61 (dk_at dksX1_rings_1 1 rfl rfl)
theorem dX1_rings_26 : decode cX1_rings 26 = .ok (.iinc 1 1, 3) := dk_132 1 1 (dk_at dksX1_rings_1 2 rfl rfl)
theorem dX1_rings_29 : decode cX1_rings 29 = .ok (.goto (-25), 3) := dk_167 255 231 (dk_at dksX1_rings_1 5 rfl rfl)
theorem dX1_rings_32 : decode cX1_rings 32 = .ok (.aload_n 0, 1) := dk_42 (dk_at dksX1_rings_1 8 rfl rfl)
theorem dX1_rings_33 : decode cX1_rings 33 = .ok (.iconst 0, 1) := dk_3 (dk_at dksX1_rings_1 9 rfl rfl)
theorem dX1_rings_34 : decode cX1_rings 34 = .ok (.putfield 264, 3) := dk_181 1 8 (dk_at dksX1_rings_1 10 rfl rfl)
theorem dX1_rings_37 : decode cX1_rings 37 = .ok (.aload_n 0, 1) := dk_42 (dk_at dksX1_rings_1 13 rfl rfl)
theorem dX1_rings_38 : decode cX1_rings 38 = .ok (.iload_n 2, 1) := dk_28 (dk_at dksX1_rings_1 14 rfl rfl)
theorem dX1_rings_39 : decode cX1_rings 39 = .ok (.invokevirtual 267, 3) := dk_182 1 11 (dk_at dksX1_rings_1 15 rfl rfl)
theorem dX1_rings_42 : decode cX1_rings 42 = .ok (.iload_n 1, 1) := dk_27 (dk_at dksX1_rings_1 18 rfl rfl)
theorem dX1_rings_43 : decode cX1_rings 43 = .ok (.ireturn, 1) := dk_172 (dk_at dksX1_rings_1 19 rfl rfl)
abbrev cX1_least : ByteArray := prog_1_method_63_code
def yX1_least : MethodName := ⟨RX1, "least", "()I"⟩
def dkwX1_least_2 : List UInt8 := [42, 42, 180, 0, 12, 182, 1, 146, 182, 1, 11, 27, 172]
abbrev dktX1_least_2 : List UInt8 := dkwX1_least_2 ++ []
def dkwX1_least_1 : List UInt8 := [180, 0, 12, 28, 182, 0, 244, 100, 184, 0, 115, 96, 60, 132, 2, 1, 167, 255, 221, 42, 3, 181, 1, 8]
abbrev dktX1_least_1 : List UInt8 := dkwX1_least_1 ++ dktX1_least_2
def dkwX1_least_0 : List UInt8 := [3, 60, 3, 61, 28, 42, 180, 0, 96, 162, 0, 33, 27, 3, 42, 180, 0, 12, 28, 182, 0, 247, 42]
abbrev dktX1_least_0 : List UInt8 := dkwX1_least_0 ++ dktX1_least_1
theorem dksX1_least_0 : cX1_least.data.toList.drop 0 = dktX1_least_0 := by decide +kernel
theorem dksX1_least_1 : cX1_least.data.toList.drop 23 = dktX1_least_1 := dk_seg dksX1_least_0 23 rfl rfl
theorem dksX1_least_2 : cX1_least.data.toList.drop 47 = dktX1_least_2 := dk_seg dksX1_least_1 24 rfl rfl
theorem dX1_least_0 : decode cX1_least 0 = .ok (.iconst 0, 1) := dk_3 (dk_at dksX1_least_0 0 rfl rfl)
theorem dX1_least_1 : decode cX1_least 1 = .ok (.istore_n 1, 1) := dk_60 (dk_at dksX1_least_0 1 rfl rfl)
theorem dX1_least_2 : decode cX1_least 2 = .ok (.iconst 0, 1) := dk_3 (dk_at dksX1_least_0 2 rfl rfl)
theorem dX1_least_3 : decode cX1_least 3 = .ok (.istore_n 2, 1) := dk_61 (dk_at dksX1_least_0 3 rfl rfl)
theorem dX1_least_4 : decode cX1_least 4 = .ok (.iload_n 2, 1) := dk_28 (dk_at dksX1_least_0 4 rfl rfl)
theorem dX1_least_5 : decode cX1_least 5 = .ok (.aload_n 0, 1) := dk_42 (dk_at dksX1_least_0 5 rfl rfl)
theorem dX1_least_6 : decode cX1_least 6 = .ok (.getfield 96, 3) := dk_180 0 96 (dk_at dksX1_least_0 6 rfl rfl)
theorem dX1_least_9 : decode cX1_least 9 = .ok (.if_icmp .ge 33, 3) := dk_162 0 33 (dk_at dksX1_least_0 9 rfl rfl)
theorem dX1_least_12 : decode cX1_least 12 = .ok (.iload_n 1, 1) := dk_27 (dk_at dksX1_least_0 12 rfl rfl)
theorem dX1_least_13 : decode cX1_least 13 = .ok (.iconst 0, 1) := dk_3 (dk_at dksX1_least_0 13 rfl rfl)
theorem dX1_least_14 : decode cX1_least 14 = .ok (.aload_n 0, 1) := dk_42 (dk_at dksX1_least_0 14 rfl rfl)
theorem dX1_least_15 : decode cX1_least 15 = .ok (.getfield 12, 3) := dk_180 0 12 (dk_at dksX1_least_0 15 rfl rfl)
theorem dX1_least_18 : decode cX1_least 18 = .ok (.iload_n 2, 1) := dk_28 (dk_at dksX1_least_0 18 rfl rfl)
theorem dX1_least_19 : decode cX1_least 19 = .ok (.invokevirtual 247, 3) := dk_182 0 247 (dk_at dksX1_least_0 19 rfl rfl)
theorem dX1_least_22 : decode cX1_least 22 = .ok (.aload_n 0, 1) := dk_42 (dk_at dksX1_least_0 22 rfl rfl)
theorem dX1_least_23 : decode cX1_least 23 = .ok (.getfield 12, 3) := dk_180 0 12 (dk_at dksX1_least_1 0 rfl rfl)
theorem dX1_least_26 : decode cX1_least 26 = .ok (.iload_n 2, 1) := dk_28 (dk_at dksX1_least_1 3 rfl rfl)
theorem dX1_least_27 : decode cX1_least 27 = .ok (.invokevirtual 244, 3) := dk_182 0 244 (dk_at dksX1_least_1 4 rfl rfl)
theorem dX1_least_30 : decode cX1_least 30 = .ok (.isub, 1) := dk_100 (dk_at dksX1_least_1 7 rfl rfl)
theorem dX1_least_31 : decode cX1_least 31 = .ok (.invokestatic 115, 3) := dk_184 0 115 (dk_at dksX1_least_1 8 rfl rfl)
theorem dX1_least_34 : decode cX1_least 34 = .ok (.iadd, 1) := dk_96 (dk_at dksX1_least_1 11 rfl rfl)
theorem dX1_least_35 : decode cX1_least 35 = .ok (.istore_n 1, 1) := dk_60 (dk_at dksX1_least_1 12 rfl rfl)
theorem dX1_least_36 : decode cX1_least 36 = .ok (.iinc 2 1, 3) := dk_132 2 1 (dk_at dksX1_least_1 13 rfl rfl)
theorem dX1_least_39 : decode cX1_least 39 = .ok (.goto (-35), 3) := dk_167 255 221 (dk_at dksX1_least_1 16 rfl rfl)
theorem dX1_least_42 : decode cX1_least 42 = .ok (.aload_n 0, 1) := dk_42 (dk_at dksX1_least_1 19 rfl rfl)
theorem dX1_least_43 : decode cX1_least 43 = .ok (.iconst 0, 1) := dk_3 (dk_at dksX1_least_1 20 rfl rfl)
theorem dX1_least_44 : decode cX1_least 44 = .ok (.putfield 264, 3) := dk_181 1 8 (dk_at dksX1_least_1 21 rfl rfl)
theorem dX1_least_47 : decode cX1_least 47 = .ok (.aload_n 0, 1) := dk_42 (dk_at dksX1_least_2 0 rfl rfl)
theorem dX1_least_48 : decode cX1_least 48 = .ok (.aload_n 0, 1) := dk_42 (dk_at dksX1_least_2 1 rfl rfl)
theorem dX1_least_49 : decode cX1_least 49 = .ok (.getfield 12, 3) := dk_180 0 12 (dk_at dksX1_least_2 2 rfl rfl)
theorem dX1_least_52 : decode cX1_least 52 = .ok (.invokevirtual 402, 3) := dk_182 1 146 (dk_at dksX1_least_2 5 rfl rfl)
theorem dX1_least_55 : decode cX1_least 55 = .ok (.invokevirtual 267, 3) := dk_182 1 11 (dk_at dksX1_least_2 8 rfl rfl)
theorem dX1_least_58 : decode cX1_least 58 = .ok (.iload_n 1, 1) := dk_27 (dk_at dksX1_least_2 11 rfl rfl)
theorem dX1_least_59 : decode cX1_least 59 = .ok (.ireturn, 1) := dk_172 (dk_at dksX1_least_2 12 rfl rfl)
abbrev cX1_even : ByteArray := prog_1_method_64_code
def yX1_even : MethodName := ⟨RX1, "even", "()I"⟩
def dkwX1_even_8 : List UInt8 := [167, 255, 151, 42, 3, 181, 1, 8, 42, 27, 42, 180, 0, 12, 182, 1, 146, 100, 182, 1, 11, 28, 172]
abbrev dktX1_even_8 : List UInt8 := dkwX1_even_8 ++ []
def dkwX1_even_7 : List UInt8 := [180, 0, 69, 21, 4, 92, 46, 21, 5, 100, 79, 132, 2, 1, 132, 4, 1, 167, 255, 168, 132, 3, 1]
abbrev dktX1_even_7 : List UInt8 := dkwX1_even_7 ++ dktX1_even_8
def dkwX1_even_6 : List UInt8 := [16, 7, 29, 104, 21, 4, 96, 21, 5, 79, 42, 180, 0, 69, 29, 92, 46, 21, 5, 96, 79, 42]
abbrev dktX1_even_6 : List UInt8 := dkwX1_even_6 ++ dktX1_even_7
def dkwX1_even_5 : List UInt8 := [184, 0, 130, 184, 0, 130, 54, 5, 21, 5, 157, 0, 6, 167, 0, 46, 42, 180, 0, 12, 180, 1, 19]
abbrev dktX1_even_5 : List UInt8 := dkwX1_even_5 ++ dktX1_even_6
def dkwX1_even_4 : List UInt8 := [180, 0, 96, 162, 0, 85, 17, 39, 15, 42, 180, 0, 69, 29, 46, 116, 42, 180, 0, 69, 21, 4, 46]
abbrev dktX1_even_4 : List UInt8 := dkwX1_even_4 ++ dktX1_even_5
def dkwX1_even_3 : List UInt8 := [132, 2, 1, 167, 255, 237, 3, 61, 3, 62, 29, 42, 180, 0, 96, 162, 0, 103, 3, 54, 4, 21, 4, 42]
abbrev dktX1_even_3 : List UInt8 := dkwX1_even_3 ++ dktX1_even_4
def dkwX1_even_2 : List UInt8 := [132, 2, 1, 167, 255, 222, 3, 61, 28, 16, 49, 162, 0, 19, 42, 180, 0, 12, 180, 1, 19, 28, 3, 79]
abbrev dktX1_even_2 : List UInt8 := dkwX1_even_2 ++ dktX1_even_3
def dkwX1_even_1 : List UInt8 := [180, 0, 69, 28, 42, 180, 0, 12, 28, 182, 0, 247, 42, 180, 0, 12, 28, 182, 0, 244, 100, 79]
abbrev dktX1_even_1 : List UInt8 := dkwX1_even_1 ++ dktX1_even_2
def dkwX1_even_0 : List UInt8 := [42, 182, 1, 84, 42, 180, 0, 12, 182, 1, 146, 60, 3, 61, 28, 42, 180, 0, 96, 162, 0, 32, 42]
abbrev dktX1_even_0 : List UInt8 := dkwX1_even_0 ++ dktX1_even_1
theorem dksX1_even_0 : cX1_even.data.toList.drop 0 = dktX1_even_0 := by decide +kernel
theorem dksX1_even_1 : cX1_even.data.toList.drop 23 = dktX1_even_1 := dk_seg dksX1_even_0 23 rfl rfl
theorem dksX1_even_2 : cX1_even.data.toList.drop 45 = dktX1_even_2 := dk_seg dksX1_even_1 22 rfl rfl
theorem dksX1_even_3 : cX1_even.data.toList.drop 69 = dktX1_even_3 := dk_seg dksX1_even_2 24 rfl rfl
theorem dksX1_even_4 : cX1_even.data.toList.drop 93 = dktX1_even_4 := dk_seg dksX1_even_3 24 rfl rfl
theorem dksX1_even_5 : cX1_even.data.toList.drop 116 = dktX1_even_5 := dk_seg dksX1_even_4 23 rfl rfl
theorem dksX1_even_6 : cX1_even.data.toList.drop 139 = dktX1_even_6 := dk_seg dksX1_even_5 23 rfl rfl
theorem dksX1_even_7 : cX1_even.data.toList.drop 161 = dktX1_even_7 := dk_seg dksX1_even_6 22 rfl rfl
theorem dksX1_even_8 : cX1_even.data.toList.drop 184 = dktX1_even_8 := dk_seg dksX1_even_7 23 rfl rfl
theorem dX1_even_0 : decode cX1_even 0 = .ok (.aload_n 0, 1) := dk_42 (dk_at dksX1_even_0 0 rfl rfl)
theorem dX1_even_1 : decode cX1_even 1 = .ok (.invokevirtual 340, 3) := dk_182 1 84 (dk_at dksX1_even_0 1 rfl rfl)
theorem dX1_even_4 : decode cX1_even 4 = .ok (.aload_n 0, 1) := dk_42 (dk_at dksX1_even_0 4 rfl rfl)
theorem dX1_even_5 : decode cX1_even 5 = .ok (.getfield 12, 3) := dk_180 0 12 (dk_at dksX1_even_0 5 rfl rfl)
theorem dX1_even_8 : decode cX1_even 8 = .ok (.invokevirtual 402, 3) := dk_182 1 146 (dk_at dksX1_even_0 8 rfl rfl)
theorem dX1_even_11 : decode cX1_even 11 = .ok (.istore_n 1, 1) := dk_60 (dk_at dksX1_even_0 11 rfl rfl)
theorem dX1_even_12 : decode cX1_even 12 = .ok (.iconst 0, 1) := dk_3 (dk_at dksX1_even_0 12 rfl rfl)
theorem dX1_even_13 : decode cX1_even 13 = .ok (.istore_n 2, 1) := dk_61 (dk_at dksX1_even_0 13 rfl rfl)
theorem dX1_even_14 : decode cX1_even 14 = .ok (.iload_n 2, 1) := dk_28 (dk_at dksX1_even_0 14 rfl rfl)
theorem dX1_even_15 : decode cX1_even 15 = .ok (.aload_n 0, 1) := dk_42 (dk_at dksX1_even_0 15 rfl rfl)
theorem dX1_even_16 : decode cX1_even 16 = .ok (.getfield 96, 3) := dk_180 0 96 (dk_at dksX1_even_0 16 rfl rfl)
theorem dX1_even_19 : decode cX1_even 19 = .ok (.if_icmp .ge 32, 3) := dk_162 0 32 (dk_at dksX1_even_0 19 rfl rfl)
theorem dX1_even_22 : decode cX1_even 22 = .ok (.aload_n 0, 1) := dk_42 (dk_at dksX1_even_0 22 rfl rfl)
theorem dX1_even_23 : decode cX1_even 23 = .ok (.getfield 69, 3) := dk_180 0 69 (dk_at dksX1_even_1 0 rfl rfl)
theorem dX1_even_26 : decode cX1_even 26 = .ok (.iload_n 2, 1) := dk_28 (dk_at dksX1_even_1 3 rfl rfl)
theorem dX1_even_27 : decode cX1_even 27 = .ok (.aload_n 0, 1) := dk_42 (dk_at dksX1_even_1 4 rfl rfl)
theorem dX1_even_28 : decode cX1_even 28 = .ok (.getfield 12, 3) := dk_180 0 12 (dk_at dksX1_even_1 5 rfl rfl)
theorem dX1_even_31 : decode cX1_even 31 = .ok (.iload_n 2, 1) := dk_28 (dk_at dksX1_even_1 8 rfl rfl)
theorem dX1_even_32 : decode cX1_even 32 = .ok (.invokevirtual 247, 3) := dk_182 0 247 (dk_at dksX1_even_1 9 rfl rfl)
theorem dX1_even_35 : decode cX1_even 35 = .ok (.aload_n 0, 1) := dk_42 (dk_at dksX1_even_1 12 rfl rfl)
theorem dX1_even_36 : decode cX1_even 36 = .ok (.getfield 12, 3) := dk_180 0 12 (dk_at dksX1_even_1 13 rfl rfl)
theorem dX1_even_39 : decode cX1_even 39 = .ok (.iload_n 2, 1) := dk_28 (dk_at dksX1_even_1 16 rfl rfl)
theorem dX1_even_40 : decode cX1_even 40 = .ok (.invokevirtual 244, 3) := dk_182 0 244 (dk_at dksX1_even_1 17 rfl rfl)
theorem dX1_even_43 : decode cX1_even 43 = .ok (.isub, 1) := dk_100 (dk_at dksX1_even_1 20 rfl rfl)
theorem dX1_even_44 : decode cX1_even 44 = .ok (.iastore, 1) := dk_79 (dk_at dksX1_even_1 21 rfl rfl)
theorem dX1_even_45 : decode cX1_even 45 = .ok (.iinc 2 1, 3) := dk_132 2 1 (dk_at dksX1_even_2 0 rfl rfl)
theorem dX1_even_48 : decode cX1_even 48 = .ok (.goto (-34), 3) := dk_167 255 222 (dk_at dksX1_even_2 3 rfl rfl)
theorem dX1_even_51 : decode cX1_even 51 = .ok (.iconst 0, 1) := dk_3 (dk_at dksX1_even_2 6 rfl rfl)
theorem dX1_even_52 : decode cX1_even 52 = .ok (.istore_n 2, 1) := dk_61 (dk_at dksX1_even_2 7 rfl rfl)
theorem dX1_even_53 : decode cX1_even 53 = .ok (.iload_n 2, 1) := dk_28 (dk_at dksX1_even_2 8 rfl rfl)
theorem dX1_even_54 : decode cX1_even 54 = .ok (.bipush 49, 2) := dk_16 49 (dk_at dksX1_even_2 9 rfl rfl)
theorem dX1_even_56 : decode cX1_even 56 = .ok (.if_icmp .ge 19, 3) := dk_162 0 19 (dk_at dksX1_even_2 11 rfl rfl)
theorem dX1_even_59 : decode cX1_even 59 = .ok (.aload_n 0, 1) := dk_42 (dk_at dksX1_even_2 14 rfl rfl)
theorem dX1_even_60 : decode cX1_even 60 = .ok (.getfield 12, 3) := dk_180 0 12 (dk_at dksX1_even_2 15 rfl rfl)
theorem dX1_even_63 : decode cX1_even 63 = .ok (.getfield 275, 3) := dk_180 1 19 (dk_at dksX1_even_2 18 rfl rfl)
theorem dX1_even_66 : decode cX1_even 66 = .ok (.iload_n 2, 1) := dk_28 (dk_at dksX1_even_2 21 rfl rfl)
theorem dX1_even_67 : decode cX1_even 67 = .ok (.iconst 0, 1) := dk_3 (dk_at dksX1_even_2 22 rfl rfl)
theorem dX1_even_68 : decode cX1_even 68 = .ok (.iastore, 1) := dk_79 (dk_at dksX1_even_2 23 rfl rfl)
theorem dX1_even_69 : decode cX1_even 69 = .ok (.iinc 2 1, 3) := dk_132 2 1 (dk_at dksX1_even_3 0 rfl rfl)
theorem dX1_even_72 : decode cX1_even 72 = .ok (.goto (-19), 3) := dk_167 255 237 (dk_at dksX1_even_3 3 rfl rfl)
theorem dX1_even_75 : decode cX1_even 75 = .ok (.iconst 0, 1) := dk_3 (dk_at dksX1_even_3 6 rfl rfl)
theorem dX1_even_76 : decode cX1_even 76 = .ok (.istore_n 2, 1) := dk_61 (dk_at dksX1_even_3 7 rfl rfl)
theorem dX1_even_77 : decode cX1_even 77 = .ok (.iconst 0, 1) := dk_3 (dk_at dksX1_even_3 8 rfl rfl)
theorem dX1_even_78 : decode cX1_even 78 = .ok (.istore_n 3, 1) := dk_62 (dk_at dksX1_even_3 9 rfl rfl)
theorem dX1_even_79 : decode cX1_even 79 = .ok (.iload_n 3, 1) := dk_29 (dk_at dksX1_even_3 10 rfl rfl)
theorem dX1_even_80 : decode cX1_even 80 = .ok (.aload_n 0, 1) := dk_42 (dk_at dksX1_even_3 11 rfl rfl)
theorem dX1_even_81 : decode cX1_even 81 = .ok (.getfield 96, 3) := dk_180 0 96 (dk_at dksX1_even_3 12 rfl rfl)
theorem dX1_even_84 : decode cX1_even 84 = .ok (.if_icmp .ge 103, 3) := dk_162 0 103 (dk_at dksX1_even_3 15 rfl rfl)
theorem dX1_even_87 : decode cX1_even 87 = .ok (.iconst 0, 1) := dk_3 (dk_at dksX1_even_3 18 rfl rfl)
theorem dX1_even_88 : decode cX1_even 88 = .ok (.istore 4, 2) := dk_54 4 (dk_at dksX1_even_3 19 rfl rfl)
theorem dX1_even_90 : decode cX1_even 90 = .ok (.iload 4, 2) := dk_21 4 (dk_at dksX1_even_3 21 rfl rfl)
theorem dX1_even_92 : decode cX1_even 92 = .ok (.aload_n 0, 1) := dk_42 (dk_at dksX1_even_3 23 rfl rfl)
theorem dX1_even_93 : decode cX1_even 93 = .ok (.getfield 96, 3) := dk_180 0 96 (dk_at dksX1_even_4 0 rfl rfl)
theorem dX1_even_96 : decode cX1_even 96 = .ok (.if_icmp .ge 85, 3) := dk_162 0 85 (dk_at dksX1_even_4 3 rfl rfl)
theorem dX1_even_99 : decode cX1_even 99 = .ok (.sipush 9999, 3) := dk_17 39 15 (dk_at dksX1_even_4 6 rfl rfl)
theorem dX1_even_102 : decode cX1_even 102 = .ok (.aload_n 0, 1) := dk_42 (dk_at dksX1_even_4 9 rfl rfl)
theorem dX1_even_103 : decode cX1_even 103 = .ok (.getfield 69, 3) := dk_180 0 69 (dk_at dksX1_even_4 10 rfl rfl)
theorem dX1_even_106 : decode cX1_even 106 = .ok (.iload_n 3, 1) := dk_29 (dk_at dksX1_even_4 13 rfl rfl)
theorem dX1_even_107 : decode cX1_even 107 = .ok (.iaload, 1) := dk_46 (dk_at dksX1_even_4 14 rfl rfl)
theorem dX1_even_108 : decode cX1_even 108 = .ok (.ineg, 1) := dk_116 (dk_at dksX1_even_4 15 rfl rfl)
theorem dX1_even_109 : decode cX1_even 109 = .ok (.aload_n 0, 1) := dk_42 (dk_at dksX1_even_4 16 rfl rfl)
theorem dX1_even_110 : decode cX1_even 110 = .ok (.getfield 69, 3) := dk_180 0 69 (dk_at dksX1_even_4 17 rfl rfl)
theorem dX1_even_113 : decode cX1_even 113 = .ok (.iload 4, 2) := dk_21 4 (dk_at dksX1_even_4 20 rfl rfl)
theorem dX1_even_115 : decode cX1_even 115 = .ok (.iaload, 1) := dk_46 (dk_at dksX1_even_4 22 rfl rfl)
theorem dX1_even_116 : decode cX1_even 116 = .ok (.invokestatic 130, 3) := dk_184 0 130 (dk_at dksX1_even_5 0 rfl rfl)
theorem dX1_even_119 : decode cX1_even 119 = .ok (.invokestatic 130, 3) := dk_184 0 130 (dk_at dksX1_even_5 3 rfl rfl)
theorem dX1_even_122 : decode cX1_even 122 = .ok (.istore 5, 2) := dk_54 5 (dk_at dksX1_even_5 6 rfl rfl)
theorem dX1_even_124 : decode cX1_even 124 = .ok (.iload 5, 2) := dk_21 5 (dk_at dksX1_even_5 8 rfl rfl)
theorem dX1_even_126 : decode cX1_even 126 = .ok (.ifCond .gt 6, 3) := dk_157 0 6 (dk_at dksX1_even_5 10 rfl rfl)
theorem dX1_even_129 : decode cX1_even 129 = .ok (.goto 46, 3) := dk_167 0 46 (dk_at dksX1_even_5 13 rfl rfl)
theorem dX1_even_132 : decode cX1_even 132 = .ok (.aload_n 0, 1) := dk_42 (dk_at dksX1_even_5 16 rfl rfl)
theorem dX1_even_133 : decode cX1_even 133 = .ok (.getfield 12, 3) := dk_180 0 12 (dk_at dksX1_even_5 17 rfl rfl)
theorem dX1_even_136 : decode cX1_even 136 = .ok (.getfield 275, 3) := dk_180 1 19 (dk_at dksX1_even_5 20 rfl rfl)
theorem dX1_even_139 : decode cX1_even 139 = .ok (.bipush 7, 2) := dk_16 7 (dk_at dksX1_even_6 0 rfl rfl)
theorem dX1_even_141 : decode cX1_even 141 = .ok (.iload_n 3, 1) := dk_29 (dk_at dksX1_even_6 2 rfl rfl)
theorem dX1_even_142 : decode cX1_even 142 = .ok (.imul, 1) := dk_104 (dk_at dksX1_even_6 3 rfl rfl)
theorem dX1_even_143 : decode cX1_even 143 = .ok (.iload 4, 2) := dk_21 4 (dk_at dksX1_even_6 4 rfl rfl)
theorem dX1_even_145 : decode cX1_even 145 = .ok (.iadd, 1) := dk_96 (dk_at dksX1_even_6 6 rfl rfl)
theorem dX1_even_146 : decode cX1_even 146 = .ok (.iload 5, 2) := dk_21 5 (dk_at dksX1_even_6 7 rfl rfl)
theorem dX1_even_148 : decode cX1_even 148 = .ok (.iastore, 1) := dk_79 (dk_at dksX1_even_6 9 rfl rfl)
theorem dX1_even_149 : decode cX1_even 149 = .ok (.aload_n 0, 1) := dk_42 (dk_at dksX1_even_6 10 rfl rfl)
theorem dX1_even_150 : decode cX1_even 150 = .ok (.getfield 69, 3) := dk_180 0 69 (dk_at dksX1_even_6 11 rfl rfl)
theorem dX1_even_153 : decode cX1_even 153 = .ok (.iload_n 3, 1) := dk_29 (dk_at dksX1_even_6 14 rfl rfl)
theorem dX1_even_154 : decode cX1_even 154 = .ok (.dup2, 1) := dk_92 (dk_at dksX1_even_6 15 rfl rfl)
theorem dX1_even_155 : decode cX1_even 155 = .ok (.iaload, 1) := dk_46 (dk_at dksX1_even_6 16 rfl rfl)
theorem dX1_even_156 : decode cX1_even 156 = .ok (.iload 5, 2) := dk_21 5 (dk_at dksX1_even_6 17 rfl rfl)
theorem dX1_even_158 : decode cX1_even 158 = .ok (.iadd, 1) := dk_96 (dk_at dksX1_even_6 19 rfl rfl)
theorem dX1_even_159 : decode cX1_even 159 = .ok (.iastore, 1) := dk_79 (dk_at dksX1_even_6 20 rfl rfl)
theorem dX1_even_160 : decode cX1_even 160 = .ok (.aload_n 0, 1) := dk_42 (dk_at dksX1_even_6 21 rfl rfl)
theorem dX1_even_161 : decode cX1_even 161 = .ok (.getfield 69, 3) := dk_180 0 69 (dk_at dksX1_even_7 0 rfl rfl)
theorem dX1_even_164 : decode cX1_even 164 = .ok (.iload 4, 2) := dk_21 4 (dk_at dksX1_even_7 3 rfl rfl)
theorem dX1_even_166 : decode cX1_even 166 = .ok (.dup2, 1) := dk_92 (dk_at dksX1_even_7 5 rfl rfl)
theorem dX1_even_167 : decode cX1_even 167 = .ok (.iaload, 1) := dk_46 (dk_at dksX1_even_7 6 rfl rfl)
theorem dX1_even_168 : decode cX1_even 168 = .ok (.iload 5, 2) := dk_21 5 (dk_at dksX1_even_7 7 rfl rfl)
theorem dX1_even_170 : decode cX1_even 170 = .ok (.isub, 1) := dk_100 (dk_at dksX1_even_7 9 rfl rfl)
theorem dX1_even_171 : decode cX1_even 171 = .ok (.iastore, 1) := dk_79 (dk_at dksX1_even_7 10 rfl rfl)
theorem dX1_even_172 : decode cX1_even 172 = .ok (.iinc 2 1, 3) := dk_132 2 1 (dk_at dksX1_even_7 11 rfl rfl)
theorem dX1_even_175 : decode cX1_even 175 = .ok (.iinc 4 1, 3) := dk_132 4 1 (dk_at dksX1_even_7 14 rfl rfl)
theorem dX1_even_178 : decode cX1_even 178 = .ok (.goto (-88), 3) := dk_167 255 168 (dk_at dksX1_even_7 17 rfl rfl)
theorem dX1_even_181 : decode cX1_even 181 = .ok (.iinc 3 1, 3) := dk_132 3 1 (dk_at dksX1_even_7 20 rfl rfl)
theorem dX1_even_184 : decode cX1_even 184 = .ok (.goto (-105), 3) := dk_167 255 151 (dk_at dksX1_even_8 0 rfl rfl)
theorem dX1_even_187 : decode cX1_even 187 = .ok (.aload_n 0, 1) := dk_42 (dk_at dksX1_even_8 3 rfl rfl)
theorem dX1_even_188 : decode cX1_even 188 = .ok (.iconst 0, 1) := dk_3 (dk_at dksX1_even_8 4 rfl rfl)
theorem dX1_even_189 : decode cX1_even 189 = .ok (.putfield 264, 3) := dk_181 1 8 (dk_at dksX1_even_8 5 rfl rfl)
theorem dX1_even_192 : decode cX1_even 192 = .ok (.aload_n 0, 1) := dk_42 (dk_at dksX1_even_8 8 rfl rfl)
theorem dX1_even_193 : decode cX1_even 193 = .ok (.iload_n 1, 1) := dk_27 (dk_at dksX1_even_8 9 rfl rfl)
theorem dX1_even_194 : decode cX1_even 194 = .ok (.aload_n 0, 1) := dk_42 (dk_at dksX1_even_8 10 rfl rfl)
theorem dX1_even_195 : decode cX1_even 195 = .ok (.getfield 12, 3) := dk_180 0 12 (dk_at dksX1_even_8 11 rfl rfl)
theorem dX1_even_198 : decode cX1_even 198 = .ok (.invokevirtual 402, 3) := dk_182 1 146 (dk_at dksX1_even_8 14 rfl rfl)
theorem dX1_even_201 : decode cX1_even 201 = .ok (.isub, 1) := dk_100 (dk_at dksX1_even_8 17 rfl rfl)
theorem dX1_even_202 : decode cX1_even 202 = .ok (.invokevirtual 267, 3) := dk_182 1 11 (dk_at dksX1_even_8 18 rfl rfl)
theorem dX1_even_205 : decode cX1_even 205 = .ok (.iload_n 2, 1) := dk_28 (dk_at dksX1_even_8 21 rfl rfl)
theorem dX1_even_206 : decode cX1_even 206 = .ok (.ireturn, 1) := dk_172 (dk_at dksX1_even_8 22 rfl rfl)
abbrev cX1_debtor : ByteArray := prog_1_method_65_code
def yX1_debtor : MethodName := ⟨RX1, "debtor", "()I"⟩
def dkwX1_debtor_4 : List UInt8 := [167, 255, 226, 42, 3, 181, 1, 8, 42, 28, 182, 1, 11, 42, 29, 182, 1, 11, 27, 172]
abbrev dktX1_debtor_4 : List UInt8 := dkwX1_debtor_4 ++ []
def dkwX1_debtor_3 : List UInt8 := [162, 0, 27, 29, 42, 27, 21, 4, 182, 1, 128, 153, 0, 7, 4, 167, 0, 4, 3, 96, 62, 132, 4, 1]
abbrev dktX1_debtor_3 : List UInt8 := dkwX1_debtor_3 ++ dktX1_debtor_4
def dkwX1_debtor_2 : List UInt8 := [132, 3, 1, 167, 255, 214, 27, 156, 0, 6, 16, 254, 172, 3, 62, 3, 54, 4, 21, 4, 42, 180, 0, 96]
abbrev dktX1_debtor_2 : List UInt8 := dkwX1_debtor_2 ++ dktX1_debtor_3
def dkwX1_debtor_1 : List UInt8 := [164, 0, 7, 29, 167, 0, 4, 27, 60, 28, 42, 180, 0, 12, 29, 182, 0, 244, 184, 0, 115, 61]
abbrev dktX1_debtor_1 : List UInt8 := dkwX1_debtor_1 ++ dktX1_debtor_2
def dkwX1_debtor_0 : List UInt8 := [16, 254, 60, 3, 61, 3, 62, 29, 42, 180, 0, 96, 162, 0, 40, 42, 180, 0, 12, 29, 182, 0, 244, 28]
abbrev dktX1_debtor_0 : List UInt8 := dkwX1_debtor_0 ++ dktX1_debtor_1
theorem dksX1_debtor_0 : cX1_debtor.data.toList.drop 0 = dktX1_debtor_0 := by decide +kernel
theorem dksX1_debtor_1 : cX1_debtor.data.toList.drop 24 = dktX1_debtor_1 := dk_seg dksX1_debtor_0 24 rfl rfl
theorem dksX1_debtor_2 : cX1_debtor.data.toList.drop 46 = dktX1_debtor_2 := dk_seg dksX1_debtor_1 22 rfl rfl
theorem dksX1_debtor_3 : cX1_debtor.data.toList.drop 70 = dktX1_debtor_3 := dk_seg dksX1_debtor_2 24 rfl rfl
theorem dksX1_debtor_4 : cX1_debtor.data.toList.drop 94 = dktX1_debtor_4 := dk_seg dksX1_debtor_3 24 rfl rfl
theorem dX1_debtor_0 : decode cX1_debtor 0 = .ok (.bipush (-2), 2) := dk_16 254 (dk_at dksX1_debtor_0 0 rfl rfl)
theorem dX1_debtor_2 : decode cX1_debtor 2 = .ok (.istore_n 1, 1) := dk_60 (dk_at dksX1_debtor_0 2 rfl rfl)
theorem dX1_debtor_3 : decode cX1_debtor 3 = .ok (.iconst 0, 1) := dk_3 (dk_at dksX1_debtor_0 3 rfl rfl)
theorem dX1_debtor_4 : decode cX1_debtor 4 = .ok (.istore_n 2, 1) := dk_61 (dk_at dksX1_debtor_0 4 rfl rfl)
theorem dX1_debtor_5 : decode cX1_debtor 5 = .ok (.iconst 0, 1) := dk_3 (dk_at dksX1_debtor_0 5 rfl rfl)
theorem dX1_debtor_6 : decode cX1_debtor 6 = .ok (.istore_n 3, 1) := dk_62 (dk_at dksX1_debtor_0 6 rfl rfl)
theorem dX1_debtor_7 : decode cX1_debtor 7 = .ok (.iload_n 3, 1) := dk_29 (dk_at dksX1_debtor_0 7 rfl rfl)
theorem dX1_debtor_8 : decode cX1_debtor 8 = .ok (.aload_n 0, 1) := dk_42 (dk_at dksX1_debtor_0 8 rfl rfl)
theorem dX1_debtor_9 : decode cX1_debtor 9 = .ok (.getfield 96, 3) := dk_180 0 96 (dk_at dksX1_debtor_0 9 rfl rfl)
theorem dX1_debtor_12 : decode cX1_debtor 12 = .ok (.if_icmp .ge 40, 3) := dk_162 0 40 (dk_at dksX1_debtor_0 12 rfl rfl)
theorem dX1_debtor_15 : decode cX1_debtor 15 = .ok (.aload_n 0, 1) := dk_42 (dk_at dksX1_debtor_0 15 rfl rfl)
theorem dX1_debtor_16 : decode cX1_debtor 16 = .ok (.getfield 12, 3) := dk_180 0 12 (dk_at dksX1_debtor_0 16 rfl rfl)
theorem dX1_debtor_19 : decode cX1_debtor 19 = .ok (.iload_n 3, 1) := dk_29 (dk_at dksX1_debtor_0 19 rfl rfl)
theorem dX1_debtor_20 : decode cX1_debtor 20 = .ok (.invokevirtual 244, 3) := dk_182 0 244 (dk_at dksX1_debtor_0 20 rfl rfl)
theorem dX1_debtor_23 : decode cX1_debtor 23 = .ok (.iload_n 2, 1) := dk_28 (dk_at dksX1_debtor_0 23 rfl rfl)
theorem dX1_debtor_24 : decode cX1_debtor 24 = .ok (.if_icmp .le 7, 3) := dk_164 0 7 (dk_at dksX1_debtor_1 0 rfl rfl)
theorem dX1_debtor_27 : decode cX1_debtor 27 = .ok (.iload_n 3, 1) := dk_29 (dk_at dksX1_debtor_1 3 rfl rfl)
theorem dX1_debtor_28 : decode cX1_debtor 28 = .ok (.goto 4, 3) := dk_167 0 4 (dk_at dksX1_debtor_1 4 rfl rfl)
theorem dX1_debtor_31 : decode cX1_debtor 31 = .ok (.iload_n 1, 1) := dk_27 (dk_at dksX1_debtor_1 7 rfl rfl)
theorem dX1_debtor_32 : decode cX1_debtor 32 = .ok (.istore_n 1, 1) := dk_60 (dk_at dksX1_debtor_1 8 rfl rfl)
theorem dX1_debtor_33 : decode cX1_debtor 33 = .ok (.iload_n 2, 1) := dk_28 (dk_at dksX1_debtor_1 9 rfl rfl)
theorem dX1_debtor_34 : decode cX1_debtor 34 = .ok (.aload_n 0, 1) := dk_42 (dk_at dksX1_debtor_1 10 rfl rfl)
theorem dX1_debtor_35 : decode cX1_debtor 35 = .ok (.getfield 12, 3) := dk_180 0 12 (dk_at dksX1_debtor_1 11 rfl rfl)
theorem dX1_debtor_38 : decode cX1_debtor 38 = .ok (.iload_n 3, 1) := dk_29 (dk_at dksX1_debtor_1 14 rfl rfl)
theorem dX1_debtor_39 : decode cX1_debtor 39 = .ok (.invokevirtual 244, 3) := dk_182 0 244 (dk_at dksX1_debtor_1 15 rfl rfl)
theorem dX1_debtor_42 : decode cX1_debtor 42 = .ok (.invokestatic 115, 3) := dk_184 0 115 (dk_at dksX1_debtor_1 18 rfl rfl)
theorem dX1_debtor_45 : decode cX1_debtor 45 = .ok (.istore_n 2, 1) := dk_61 (dk_at dksX1_debtor_1 21 rfl rfl)
theorem dX1_debtor_46 : decode cX1_debtor 46 = .ok (.iinc 3 1, 3) := dk_132 3 1 (dk_at dksX1_debtor_2 0 rfl rfl)
theorem dX1_debtor_49 : decode cX1_debtor 49 = .ok (.goto (-42), 3) := dk_167 255 214 (dk_at dksX1_debtor_2 3 rfl rfl)
theorem dX1_debtor_52 : decode cX1_debtor 52 = .ok (.iload_n 1, 1) := dk_27 (dk_at dksX1_debtor_2 6 rfl rfl)
theorem dX1_debtor_53 : decode cX1_debtor 53 = .ok (.ifCond .ge 6, 3) := dk_156 0 6 (dk_at dksX1_debtor_2 7 rfl rfl)
theorem dX1_debtor_56 : decode cX1_debtor 56 = .ok (.bipush (-2), 2) := dk_16 254 (dk_at dksX1_debtor_2 10 rfl rfl)
theorem dX1_debtor_58 : decode cX1_debtor 58 = .ok (.ireturn, 1) := dk_172 (dk_at dksX1_debtor_2 12 rfl rfl)
theorem dX1_debtor_59 : decode cX1_debtor 59 = .ok (.iconst 0, 1) := dk_3 (dk_at dksX1_debtor_2 13 rfl rfl)
theorem dX1_debtor_60 : decode cX1_debtor 60 = .ok (.istore_n 3, 1) := dk_62 (dk_at dksX1_debtor_2 14 rfl rfl)
theorem dX1_debtor_61 : decode cX1_debtor 61 = .ok (.iconst 0, 1) := dk_3 (dk_at dksX1_debtor_2 15 rfl rfl)
theorem dX1_debtor_62 : decode cX1_debtor 62 = .ok (.istore 4, 2) := dk_54 4 (dk_at dksX1_debtor_2 16 rfl rfl)
theorem dX1_debtor_64 : decode cX1_debtor 64 = .ok (.iload 4, 2) := dk_21 4 (dk_at dksX1_debtor_2 18 rfl rfl)
theorem dX1_debtor_66 : decode cX1_debtor 66 = .ok (.aload_n 0, 1) := dk_42 (dk_at dksX1_debtor_2 20 rfl rfl)
theorem dX1_debtor_67 : decode cX1_debtor 67 = .ok (.getfield 96, 3) := dk_180 0 96 (dk_at dksX1_debtor_2 21 rfl rfl)
theorem dX1_debtor_70 : decode cX1_debtor 70 = .ok (.if_icmp .ge 27, 3) := dk_162 0 27 (dk_at dksX1_debtor_3 0 rfl rfl)
theorem dX1_debtor_73 : decode cX1_debtor 73 = .ok (.iload_n 3, 1) := dk_29 (dk_at dksX1_debtor_3 3 rfl rfl)
theorem dX1_debtor_74 : decode cX1_debtor 74 = .ok (.aload_n 0, 1) := dk_42 (dk_at dksX1_debtor_3 4 rfl rfl)
theorem dX1_debtor_75 : decode cX1_debtor 75 = .ok (.iload_n 1, 1) := dk_27 (dk_at dksX1_debtor_3 5 rfl rfl)
theorem dX1_debtor_76 : decode cX1_debtor 76 = .ok (.iload 4, 2) := dk_21 4 (dk_at dksX1_debtor_3 6 rfl rfl)
theorem dX1_debtor_78 : decode cX1_debtor 78 = .ok (.invokevirtual 384, 3) := dk_182 1 128 (dk_at dksX1_debtor_3 8 rfl rfl)
theorem dX1_debtor_81 : decode cX1_debtor 81 = .ok (.ifCond .eq 7, 3) := dk_153 0 7 (dk_at dksX1_debtor_3 11 rfl rfl)
theorem dX1_debtor_84 : decode cX1_debtor 84 = .ok (.iconst 1, 1) := dk_4 (dk_at dksX1_debtor_3 14 rfl rfl)
theorem dX1_debtor_85 : decode cX1_debtor 85 = .ok (.goto 4, 3) := dk_167 0 4 (dk_at dksX1_debtor_3 15 rfl rfl)
theorem dX1_debtor_88 : decode cX1_debtor 88 = .ok (.iconst 0, 1) := dk_3 (dk_at dksX1_debtor_3 18 rfl rfl)
theorem dX1_debtor_89 : decode cX1_debtor 89 = .ok (.iadd, 1) := dk_96 (dk_at dksX1_debtor_3 19 rfl rfl)
theorem dX1_debtor_90 : decode cX1_debtor 90 = .ok (.istore_n 3, 1) := dk_62 (dk_at dksX1_debtor_3 20 rfl rfl)
theorem dX1_debtor_91 : decode cX1_debtor 91 = .ok (.iinc 4 1, 3) := dk_132 4 1 (dk_at dksX1_debtor_3 21 rfl rfl)
theorem dX1_debtor_94 : decode cX1_debtor 94 = .ok (.goto (-30), 3) := dk_167 255 226 (dk_at dksX1_debtor_4 0 rfl rfl)
theorem dX1_debtor_97 : decode cX1_debtor 97 = .ok (.aload_n 0, 1) := dk_42 (dk_at dksX1_debtor_4 3 rfl rfl)
theorem dX1_debtor_98 : decode cX1_debtor 98 = .ok (.iconst 0, 1) := dk_3 (dk_at dksX1_debtor_4 4 rfl rfl)
theorem dX1_debtor_99 : decode cX1_debtor 99 = .ok (.putfield 264, 3) := dk_181 1 8 (dk_at dksX1_debtor_4 5 rfl rfl)
theorem dX1_debtor_102 : decode cX1_debtor 102 = .ok (.aload_n 0, 1) := dk_42 (dk_at dksX1_debtor_4 8 rfl rfl)
theorem dX1_debtor_103 : decode cX1_debtor 103 = .ok (.iload_n 2, 1) := dk_28 (dk_at dksX1_debtor_4 9 rfl rfl)
theorem dX1_debtor_104 : decode cX1_debtor 104 = .ok (.invokevirtual 267, 3) := dk_182 1 11 (dk_at dksX1_debtor_4 10 rfl rfl)
theorem dX1_debtor_107 : decode cX1_debtor 107 = .ok (.aload_n 0, 1) := dk_42 (dk_at dksX1_debtor_4 13 rfl rfl)
theorem dX1_debtor_108 : decode cX1_debtor 108 = .ok (.iload_n 3, 1) := dk_29 (dk_at dksX1_debtor_4 14 rfl rfl)
theorem dX1_debtor_109 : decode cX1_debtor 109 = .ok (.invokevirtual 267, 3) := dk_182 1 11 (dk_at dksX1_debtor_4 15 rfl rfl)
theorem dX1_debtor_112 : decode cX1_debtor 112 = .ok (.iload_n 1, 1) := dk_27 (dk_at dksX1_debtor_4 18 rfl rfl)
theorem dX1_debtor_113 : decode cX1_debtor 113 = .ok (.ireturn, 1) := dk_172 (dk_at dksX1_debtor_4 19 rfl rfl)
abbrev cX1_june : ByteArray := prog_1_method_66_code
def yX1_june : MethodName := ⟨RX1, "june", "()I"⟩
def dkwX1_june_2 : List UInt8 := [132, 3, 1, 167, 255, 214, 42, 3, 181, 1, 8, 42, 28, 182, 1, 11, 27, 172]
abbrev dktX1_june_2 : List UInt8 := dkwX1_june_2 ++ []
def dkwX1_june_1 : List UInt8 := [164, 0, 7, 29, 167, 0, 4, 28, 61, 27, 42, 180, 0, 12, 29, 182, 0, 244, 184, 0, 115, 60]
abbrev dktX1_june_1 : List UInt8 := dkwX1_june_1 ++ dktX1_june_2
def dkwX1_june_0 : List UInt8 := [3, 60, 2, 61, 3, 62, 29, 42, 180, 0, 96, 162, 0, 40, 42, 180, 0, 12, 29, 182, 0, 244, 27]
abbrev dktX1_june_0 : List UInt8 := dkwX1_june_0 ++ dktX1_june_1
theorem dksX1_june_0 : cX1_june.data.toList.drop 0 = dktX1_june_0 := by decide +kernel
theorem dksX1_june_1 : cX1_june.data.toList.drop 23 = dktX1_june_1 := dk_seg dksX1_june_0 23 rfl rfl
theorem dksX1_june_2 : cX1_june.data.toList.drop 45 = dktX1_june_2 := dk_seg dksX1_june_1 22 rfl rfl
theorem dX1_june_0 : decode cX1_june 0 = .ok (.iconst 0, 1) := dk_3 (dk_at dksX1_june_0 0 rfl rfl)
theorem dX1_june_1 : decode cX1_june 1 = .ok (.istore_n 1, 1) := dk_60 (dk_at dksX1_june_0 1 rfl rfl)
theorem dX1_june_2 : decode cX1_june 2 = .ok (.iconst (-1), 1) := dk_2 (dk_at dksX1_june_0 2 rfl rfl)
theorem dX1_june_3 : decode cX1_june 3 = .ok (.istore_n 2, 1) := dk_61 (dk_at dksX1_june_0 3 rfl rfl)
theorem dX1_june_4 : decode cX1_june 4 = .ok (.iconst 0, 1) := dk_3 (dk_at dksX1_june_0 4 rfl rfl)
theorem dX1_june_5 : decode cX1_june 5 = .ok (.istore_n 3, 1) := dk_62 (dk_at dksX1_june_0 5 rfl rfl)
theorem dX1_june_6 : decode cX1_june 6 = .ok (.iload_n 3, 1) := dk_29 (dk_at dksX1_june_0 6 rfl rfl)
theorem dX1_june_7 : decode cX1_june 7 = .ok (.aload_n 0, 1) := dk_42 (dk_at dksX1_june_0 7 rfl rfl)
theorem dX1_june_8 : decode cX1_june 8 = .ok (.getfield 96, 3) := dk_180 0 96 (dk_at dksX1_june_0 8 rfl rfl)
theorem dX1_june_11 : decode cX1_june 11 = .ok (.if_icmp .ge 40, 3) := dk_162 0 40 (dk_at dksX1_june_0 11 rfl rfl)
theorem dX1_june_14 : decode cX1_june 14 = .ok (.aload_n 0, 1) := dk_42 (dk_at dksX1_june_0 14 rfl rfl)
theorem dX1_june_15 : decode cX1_june 15 = .ok (.getfield 12, 3) := dk_180 0 12 (dk_at dksX1_june_0 15 rfl rfl)
theorem dX1_june_18 : decode cX1_june 18 = .ok (.iload_n 3, 1) := dk_29 (dk_at dksX1_june_0 18 rfl rfl)
theorem dX1_june_19 : decode cX1_june 19 = .ok (.invokevirtual 244, 3) := dk_182 0 244 (dk_at dksX1_june_0 19 rfl rfl)
theorem dX1_june_22 : decode cX1_june 22 = .ok (.iload_n 1, 1) := dk_27 (dk_at dksX1_june_0 22 rfl rfl)
theorem dX1_june_23 : decode cX1_june 23 = .ok (.if_icmp .le 7, 3) := dk_164 0 7 (dk_at dksX1_june_1 0 rfl rfl)
theorem dX1_june_26 : decode cX1_june 26 = .ok (.iload_n 3, 1) := dk_29 (dk_at dksX1_june_1 3 rfl rfl)
theorem dX1_june_27 : decode cX1_june 27 = .ok (.goto 4, 3) := dk_167 0 4 (dk_at dksX1_june_1 4 rfl rfl)
theorem dX1_june_30 : decode cX1_june 30 = .ok (.iload_n 2, 1) := dk_28 (dk_at dksX1_june_1 7 rfl rfl)
theorem dX1_june_31 : decode cX1_june 31 = .ok (.istore_n 2, 1) := dk_61 (dk_at dksX1_june_1 8 rfl rfl)
theorem dX1_june_32 : decode cX1_june 32 = .ok (.iload_n 1, 1) := dk_27 (dk_at dksX1_june_1 9 rfl rfl)
theorem dX1_june_33 : decode cX1_june 33 = .ok (.aload_n 0, 1) := dk_42 (dk_at dksX1_june_1 10 rfl rfl)
theorem dX1_june_34 : decode cX1_june 34 = .ok (.getfield 12, 3) := dk_180 0 12 (dk_at dksX1_june_1 11 rfl rfl)
theorem dX1_june_37 : decode cX1_june 37 = .ok (.iload_n 3, 1) := dk_29 (dk_at dksX1_june_1 14 rfl rfl)
theorem dX1_june_38 : decode cX1_june 38 = .ok (.invokevirtual 244, 3) := dk_182 0 244 (dk_at dksX1_june_1 15 rfl rfl)
theorem dX1_june_41 : decode cX1_june 41 = .ok (.invokestatic 115, 3) := dk_184 0 115 (dk_at dksX1_june_1 18 rfl rfl)
theorem dX1_june_44 : decode cX1_june 44 = .ok (.istore_n 1, 1) := dk_60 (dk_at dksX1_june_1 21 rfl rfl)
theorem dX1_june_45 : decode cX1_june 45 = .ok (.iinc 3 1, 3) := dk_132 3 1 (dk_at dksX1_june_2 0 rfl rfl)
theorem dX1_june_48 : decode cX1_june 48 = .ok (.goto (-42), 3) := dk_167 255 214 (dk_at dksX1_june_2 3 rfl rfl)
theorem dX1_june_51 : decode cX1_june 51 = .ok (.aload_n 0, 1) := dk_42 (dk_at dksX1_june_2 6 rfl rfl)
theorem dX1_june_52 : decode cX1_june 52 = .ok (.iconst 0, 1) := dk_3 (dk_at dksX1_june_2 7 rfl rfl)
theorem dX1_june_53 : decode cX1_june 53 = .ok (.putfield 264, 3) := dk_181 1 8 (dk_at dksX1_june_2 8 rfl rfl)
theorem dX1_june_56 : decode cX1_june 56 = .ok (.aload_n 0, 1) := dk_42 (dk_at dksX1_june_2 11 rfl rfl)
theorem dX1_june_57 : decode cX1_june 57 = .ok (.iload_n 2, 1) := dk_28 (dk_at dksX1_june_2 12 rfl rfl)
theorem dX1_june_58 : decode cX1_june 58 = .ok (.invokevirtual 267, 3) := dk_182 1 11 (dk_at dksX1_june_2 13 rfl rfl)
theorem dX1_june_61 : decode cX1_june 61 = .ok (.iload_n 1, 1) := dk_27 (dk_at dksX1_june_2 16 rfl rfl)
theorem dX1_june_62 : decode cX1_june 62 = .ok (.ireturn, 1) := dk_172 (dk_at dksX1_june_2 17 rfl rfl)
abbrev cX1_hay : ByteArray := prog_1_method_69_code
def yX1_hay : MethodName := ⟨RX1, "hay", "(I)I"⟩
def dkwX1_hay_2 : List UInt8 := [132, 3, 1, 167, 255, 220, 42, 3, 181, 1, 8, 42, 42, 27, 182, 1, 152, 182, 1, 11, 28, 172]
abbrev dktX1_hay_2 : List UInt8 := dkwX1_hay_2 ++ []
def dkwX1_hay_1 : List UInt8 := [27, 182, 1, 149, 42, 180, 0, 29, 29, 46, 161, 0, 9, 4, 29, 120, 167, 0, 4, 3, 128, 61]
abbrev dktX1_hay_1 : List UInt8 := dkwX1_hay_1 ++ dktX1_hay_2
def dkwX1_hay_0 : List UInt8 := [27, 184, 1, 95, 154, 0, 5, 2, 172, 3, 61, 3, 62, 29, 42, 180, 0, 96, 162, 0, 34, 28, 42, 29]
abbrev dktX1_hay_0 : List UInt8 := dkwX1_hay_0 ++ dktX1_hay_1
theorem dksX1_hay_0 : cX1_hay.data.toList.drop 0 = dktX1_hay_0 := by decide +kernel
theorem dksX1_hay_1 : cX1_hay.data.toList.drop 24 = dktX1_hay_1 := dk_seg dksX1_hay_0 24 rfl rfl
theorem dksX1_hay_2 : cX1_hay.data.toList.drop 46 = dktX1_hay_2 := dk_seg dksX1_hay_1 22 rfl rfl
theorem dX1_hay_0 : decode cX1_hay 0 = .ok (.iload_n 1, 1) := dk_27 (dk_at dksX1_hay_0 0 rfl rfl)
theorem dX1_hay_1 : decode cX1_hay 1 = .ok (.invokestatic 351, 3) := dk_184 1 95 (dk_at dksX1_hay_0 1 rfl rfl)
theorem dX1_hay_4 : decode cX1_hay 4 = .ok (.ifCond .ne 5, 3) := dk_154 0 5 (dk_at dksX1_hay_0 4 rfl rfl)
theorem dX1_hay_7 : decode cX1_hay 7 = .ok (.iconst (-1), 1) := dk_2 (dk_at dksX1_hay_0 7 rfl rfl)
theorem dX1_hay_8 : decode cX1_hay 8 = .ok (.ireturn, 1) := dk_172 (dk_at dksX1_hay_0 8 rfl rfl)
theorem dX1_hay_9 : decode cX1_hay 9 = .ok (.iconst 0, 1) := dk_3 (dk_at dksX1_hay_0 9 rfl rfl)
theorem dX1_hay_10 : decode cX1_hay 10 = .ok (.istore_n 2, 1) := dk_61 (dk_at dksX1_hay_0 10 rfl rfl)
theorem dX1_hay_11 : decode cX1_hay 11 = .ok (.iconst 0, 1) := dk_3 (dk_at dksX1_hay_0 11 rfl rfl)
theorem dX1_hay_12 : decode cX1_hay 12 = .ok (.istore_n 3, 1) := dk_62 (dk_at dksX1_hay_0 12 rfl rfl)
theorem dX1_hay_13 : decode cX1_hay 13 = .ok (.iload_n 3, 1) := dk_29 (dk_at dksX1_hay_0 13 rfl rfl)
theorem dX1_hay_14 : decode cX1_hay 14 = .ok (.aload_n 0, 1) := dk_42 (dk_at dksX1_hay_0 14 rfl rfl)
theorem dX1_hay_15 : decode cX1_hay 15 = .ok (.getfield 96, 3) := dk_180 0 96 (dk_at dksX1_hay_0 15 rfl rfl)
theorem dX1_hay_18 : decode cX1_hay 18 = .ok (.if_icmp .ge 34, 3) := dk_162 0 34 (dk_at dksX1_hay_0 18 rfl rfl)
theorem dX1_hay_21 : decode cX1_hay 21 = .ok (.iload_n 2, 1) := dk_28 (dk_at dksX1_hay_0 21 rfl rfl)
theorem dX1_hay_22 : decode cX1_hay 22 = .ok (.aload_n 0, 1) := dk_42 (dk_at dksX1_hay_0 22 rfl rfl)
theorem dX1_hay_23 : decode cX1_hay 23 = .ok (.iload_n 3, 1) := dk_29 (dk_at dksX1_hay_0 23 rfl rfl)
theorem dX1_hay_24 : decode cX1_hay 24 = .ok (.iload_n 1, 1) := dk_27 (dk_at dksX1_hay_1 0 rfl rfl)
theorem dX1_hay_25 : decode cX1_hay 25 = .ok (.invokevirtual 405, 3) := dk_182 1 149 (dk_at dksX1_hay_1 1 rfl rfl)
theorem dX1_hay_28 : decode cX1_hay 28 = .ok (.aload_n 0, 1) := dk_42 (dk_at dksX1_hay_1 4 rfl rfl)
theorem dX1_hay_29 : decode cX1_hay 29 = .ok (.getfield 29, 3) := dk_180 0 29 (dk_at dksX1_hay_1 5 rfl rfl)
theorem dX1_hay_32 : decode cX1_hay 32 = .ok (.iload_n 3, 1) := dk_29 (dk_at dksX1_hay_1 8 rfl rfl)
theorem dX1_hay_33 : decode cX1_hay 33 = .ok (.iaload, 1) := dk_46 (dk_at dksX1_hay_1 9 rfl rfl)
theorem dX1_hay_34 : decode cX1_hay 34 = .ok (.if_icmp .lt 9, 3) := dk_161 0 9 (dk_at dksX1_hay_1 10 rfl rfl)
theorem dX1_hay_37 : decode cX1_hay 37 = .ok (.iconst 1, 1) := dk_4 (dk_at dksX1_hay_1 13 rfl rfl)
theorem dX1_hay_38 : decode cX1_hay 38 = .ok (.iload_n 3, 1) := dk_29 (dk_at dksX1_hay_1 14 rfl rfl)
theorem dX1_hay_39 : decode cX1_hay 39 = .ok (.ishl, 1) := dk_120 (dk_at dksX1_hay_1 15 rfl rfl)
theorem dX1_hay_40 : decode cX1_hay 40 = .ok (.goto 4, 3) := dk_167 0 4 (dk_at dksX1_hay_1 16 rfl rfl)
theorem dX1_hay_43 : decode cX1_hay 43 = .ok (.iconst 0, 1) := dk_3 (dk_at dksX1_hay_1 19 rfl rfl)
theorem dX1_hay_44 : decode cX1_hay 44 = .ok (.ior, 1) := dk_128 (dk_at dksX1_hay_1 20 rfl rfl)
theorem dX1_hay_45 : decode cX1_hay 45 = .ok (.istore_n 2, 1) := dk_61 (dk_at dksX1_hay_1 21 rfl rfl)
theorem dX1_hay_46 : decode cX1_hay 46 = .ok (.iinc 3 1, 3) := dk_132 3 1 (dk_at dksX1_hay_2 0 rfl rfl)
theorem dX1_hay_49 : decode cX1_hay 49 = .ok (.goto (-36), 3) := dk_167 255 220 (dk_at dksX1_hay_2 3 rfl rfl)
theorem dX1_hay_52 : decode cX1_hay 52 = .ok (.aload_n 0, 1) := dk_42 (dk_at dksX1_hay_2 6 rfl rfl)
theorem dX1_hay_53 : decode cX1_hay 53 = .ok (.iconst 0, 1) := dk_3 (dk_at dksX1_hay_2 7 rfl rfl)
theorem dX1_hay_54 : decode cX1_hay 54 = .ok (.putfield 264, 3) := dk_181 1 8 (dk_at dksX1_hay_2 8 rfl rfl)
theorem dX1_hay_57 : decode cX1_hay 57 = .ok (.aload_n 0, 1) := dk_42 (dk_at dksX1_hay_2 11 rfl rfl)
theorem dX1_hay_58 : decode cX1_hay 58 = .ok (.aload_n 0, 1) := dk_42 (dk_at dksX1_hay_2 12 rfl rfl)
theorem dX1_hay_59 : decode cX1_hay 59 = .ok (.iload_n 1, 1) := dk_27 (dk_at dksX1_hay_2 13 rfl rfl)
theorem dX1_hay_60 : decode cX1_hay 60 = .ok (.invokevirtual 408, 3) := dk_182 1 152 (dk_at dksX1_hay_2 14 rfl rfl)
theorem dX1_hay_63 : decode cX1_hay 63 = .ok (.invokevirtual 267, 3) := dk_182 1 11 (dk_at dksX1_hay_2 17 rfl rfl)
theorem dX1_hay_66 : decode cX1_hay 66 = .ok (.iload_n 2, 1) := dk_28 (dk_at dksX1_hay_2 20 rfl rfl)
theorem dX1_hay_67 : decode cX1_hay 67 = .ok (.ireturn, 1) := dk_172 (dk_at dksX1_hay_2 21 rfl rfl)
abbrev cX1_workedAt : ByteArray := prog_1_method_67_code
def yX1_workedAt : MethodName := ⟨RX1, "workedAt", "(II)I"⟩
def dkwX1_workedAt_4 : List UInt8 := [132, 4, 1, 167, 255, 178, 29, 172]
abbrev dktX1_workedAt_4 : List UInt8 := dkwX1_workedAt_4 ++ []
def dkwX1_workedAt_3 : List UInt8 := [29, 21, 5, 42, 180, 0, 12, 180, 1, 19, 16, 7, 21, 4, 104, 27, 96, 46, 184, 0, 130, 96, 62]
abbrev dktX1_workedAt_3 : List UInt8 := dkwX1_workedAt_3 ++ dktX1_workedAt_4
def dkwX1_workedAt_2 : List UInt8 := [180, 1, 19, 16, 7, 21, 4, 104, 21, 6, 96, 46, 100, 184, 0, 115, 54, 5, 132, 6, 1, 167, 255, 222]
abbrev dktX1_workedAt_2 : List UInt8 := dkwX1_workedAt_2 ++ dktX1_workedAt_3
def dkwX1_workedAt_1 : List UInt8 := [162, 0, 75, 28, 54, 5, 3, 54, 6, 21, 6, 27, 162, 0, 34, 3, 21, 5, 42, 180, 0, 12]
abbrev dktX1_workedAt_1 : List UInt8 := dkwX1_workedAt_1 ++ dktX1_workedAt_2
def dkwX1_workedAt_0 : List UInt8 := [3, 28, 42, 180, 0, 12, 27, 182, 0, 244, 100, 184, 0, 115, 62, 3, 54, 4, 21, 4, 42, 180, 0, 96]
abbrev dktX1_workedAt_0 : List UInt8 := dkwX1_workedAt_0 ++ dktX1_workedAt_1
theorem dksX1_workedAt_0 : cX1_workedAt.data.toList.drop 0 = dktX1_workedAt_0 := by decide +kernel
theorem dksX1_workedAt_1 : cX1_workedAt.data.toList.drop 24 = dktX1_workedAt_1 := dk_seg dksX1_workedAt_0 24 rfl rfl
theorem dksX1_workedAt_2 : cX1_workedAt.data.toList.drop 46 = dktX1_workedAt_2 := dk_seg dksX1_workedAt_1 22 rfl rfl
theorem dksX1_workedAt_3 : cX1_workedAt.data.toList.drop 70 = dktX1_workedAt_3 := dk_seg dksX1_workedAt_2 24 rfl rfl
theorem dksX1_workedAt_4 : cX1_workedAt.data.toList.drop 93 = dktX1_workedAt_4 := dk_seg dksX1_workedAt_3 23 rfl rfl
theorem dX1_workedAt_0 : decode cX1_workedAt 0 = .ok (.iconst 0, 1) := dk_3 (dk_at dksX1_workedAt_0 0 rfl rfl)
theorem dX1_workedAt_1 : decode cX1_workedAt 1 = .ok (.iload_n 2, 1) := dk_28 (dk_at dksX1_workedAt_0 1 rfl rfl)
theorem dX1_workedAt_2 : decode cX1_workedAt 2 = .ok (.aload_n 0, 1) := dk_42 (dk_at dksX1_workedAt_0 2 rfl rfl)
theorem dX1_workedAt_3 : decode cX1_workedAt 3 = .ok (.getfield 12, 3) := dk_180 0 12 (dk_at dksX1_workedAt_0 3 rfl rfl)
theorem dX1_workedAt_6 : decode cX1_workedAt 6 = .ok (.iload_n 1, 1) := dk_27 (dk_at dksX1_workedAt_0 6 rfl rfl)
theorem dX1_workedAt_7 : decode cX1_workedAt 7 = .ok (.invokevirtual 244, 3) := dk_182 0 244 (dk_at dksX1_workedAt_0 7 rfl rfl)
theorem dX1_workedAt_10 : decode cX1_workedAt 10 = .ok (.isub, 1) := dk_100 (dk_at dksX1_workedAt_0 10 rfl rfl)
theorem dX1_workedAt_11 : decode cX1_workedAt 11 = .ok (.invokestatic 115, 3) := dk_184 0 115 (dk_at dksX1_workedAt_0 11 rfl rfl)
theorem dX1_workedAt_14 : decode cX1_workedAt 14 = .ok (.istore_n 3, 1) := dk_62 (dk_at dksX1_workedAt_0 14 rfl rfl)
theorem dX1_workedAt_15 : decode cX1_workedAt 15 = .ok (.iconst 0, 1) := dk_3 (dk_at dksX1_workedAt_0 15 rfl rfl)
theorem dX1_workedAt_16 : decode cX1_workedAt 16 = .ok (.istore 4, 2) := dk_54 4 (dk_at dksX1_workedAt_0 16 rfl rfl)
theorem dX1_workedAt_18 : decode cX1_workedAt 18 = .ok (.iload 4, 2) := dk_21 4 (dk_at dksX1_workedAt_0 18 rfl rfl)
theorem dX1_workedAt_20 : decode cX1_workedAt 20 = .ok (.aload_n 0, 1) := dk_42 (dk_at dksX1_workedAt_0 20 rfl rfl)
theorem dX1_workedAt_21 : decode cX1_workedAt 21 = .ok (.getfield 96, 3) := dk_180 0 96 (dk_at dksX1_workedAt_0 21 rfl rfl)
theorem dX1_workedAt_24 : decode cX1_workedAt 24 = .ok (.if_icmp .ge 75, 3) := dk_162 0 75 (dk_at dksX1_workedAt_1 0 rfl rfl)
theorem dX1_workedAt_27 : decode cX1_workedAt 27 = .ok (.iload_n 2, 1) := dk_28 (dk_at dksX1_workedAt_1 3 rfl rfl)
theorem dX1_workedAt_28 : decode cX1_workedAt 28 = .ok (.istore 5, 2) := dk_54 5 (dk_at dksX1_workedAt_1 4 rfl rfl)
theorem dX1_workedAt_30 : decode cX1_workedAt 30 = .ok (.iconst 0, 1) := dk_3 (dk_at dksX1_workedAt_1 6 rfl rfl)
theorem dX1_workedAt_31 : decode cX1_workedAt 31 = .ok (.istore 6, 2) := dk_54 6 (dk_at dksX1_workedAt_1 7 rfl rfl)
theorem dX1_workedAt_33 : decode cX1_workedAt 33 = .ok (.iload 6, 2) := dk_21 6 (dk_at dksX1_workedAt_1 9 rfl rfl)
theorem dX1_workedAt_35 : decode cX1_workedAt 35 = .ok (.iload_n 1, 1) := dk_27 (dk_at dksX1_workedAt_1 11 rfl rfl)
theorem dX1_workedAt_36 : decode cX1_workedAt 36 = .ok (.if_icmp .ge 34, 3) := dk_162 0 34 (dk_at dksX1_workedAt_1 12 rfl rfl)
theorem dX1_workedAt_39 : decode cX1_workedAt 39 = .ok (.iconst 0, 1) := dk_3 (dk_at dksX1_workedAt_1 15 rfl rfl)
theorem dX1_workedAt_40 : decode cX1_workedAt 40 = .ok (.iload 5, 2) := dk_21 5 (dk_at dksX1_workedAt_1 16 rfl rfl)
theorem dX1_workedAt_42 : decode cX1_workedAt 42 = .ok (.aload_n 0, 1) := dk_42 (dk_at dksX1_workedAt_1 18 rfl rfl)
theorem dX1_workedAt_43 : decode cX1_workedAt 43 = .ok (.getfield 12, 3) := dk_180 0 12 (dk_at dksX1_workedAt_1 19 rfl rfl)
theorem dX1_workedAt_46 : decode cX1_workedAt 46 = .ok (.getfield 275, 3) := dk_180 1 19 (dk_at dksX1_workedAt_2 0 rfl rfl)
theorem dX1_workedAt_49 : decode cX1_workedAt 49 = .ok (.bipush 7, 2) := dk_16 7 (dk_at dksX1_workedAt_2 3 rfl rfl)
theorem dX1_workedAt_51 : decode cX1_workedAt 51 = .ok (.iload 4, 2) := dk_21 4 (dk_at dksX1_workedAt_2 5 rfl rfl)
theorem dX1_workedAt_53 : decode cX1_workedAt 53 = .ok (.imul, 1) := dk_104 (dk_at dksX1_workedAt_2 7 rfl rfl)
theorem dX1_workedAt_54 : decode cX1_workedAt 54 = .ok (.iload 6, 2) := dk_21 6 (dk_at dksX1_workedAt_2 8 rfl rfl)
theorem dX1_workedAt_56 : decode cX1_workedAt 56 = .ok (.iadd, 1) := dk_96 (dk_at dksX1_workedAt_2 10 rfl rfl)
theorem dX1_workedAt_57 : decode cX1_workedAt 57 = .ok (.iaload, 1) := dk_46 (dk_at dksX1_workedAt_2 11 rfl rfl)
theorem dX1_workedAt_58 : decode cX1_workedAt 58 = .ok (.isub, 1) := dk_100 (dk_at dksX1_workedAt_2 12 rfl rfl)
theorem dX1_workedAt_59 : decode cX1_workedAt 59 = .ok (.invokestatic 115, 3) := dk_184 0 115 (dk_at dksX1_workedAt_2 13 rfl rfl)
theorem dX1_workedAt_62 : decode cX1_workedAt 62 = .ok (.istore 5, 2) := dk_54 5 (dk_at dksX1_workedAt_2 16 rfl rfl)
theorem dX1_workedAt_64 : decode cX1_workedAt 64 = .ok (.iinc 6 1, 3) := dk_132 6 1 (dk_at dksX1_workedAt_2 18 rfl rfl)
theorem dX1_workedAt_67 : decode cX1_workedAt 67 = .ok (.goto (-34), 3) := dk_167 255 222 (dk_at dksX1_workedAt_2 21 rfl rfl)
theorem dX1_workedAt_70 : decode cX1_workedAt 70 = .ok (.iload_n 3, 1) := dk_29 (dk_at dksX1_workedAt_3 0 rfl rfl)
theorem dX1_workedAt_71 : decode cX1_workedAt 71 = .ok (.iload 5, 2) := dk_21 5 (dk_at dksX1_workedAt_3 1 rfl rfl)
theorem dX1_workedAt_73 : decode cX1_workedAt 73 = .ok (.aload_n 0, 1) := dk_42 (dk_at dksX1_workedAt_3 3 rfl rfl)
theorem dX1_workedAt_74 : decode cX1_workedAt 74 = .ok (.getfield 12, 3) := dk_180 0 12 (dk_at dksX1_workedAt_3 4 rfl rfl)
theorem dX1_workedAt_77 : decode cX1_workedAt 77 = .ok (.getfield 275, 3) := dk_180 1 19 (dk_at dksX1_workedAt_3 7 rfl rfl)
theorem dX1_workedAt_80 : decode cX1_workedAt 80 = .ok (.bipush 7, 2) := dk_16 7 (dk_at dksX1_workedAt_3 10 rfl rfl)
theorem dX1_workedAt_82 : decode cX1_workedAt 82 = .ok (.iload 4, 2) := dk_21 4 (dk_at dksX1_workedAt_3 12 rfl rfl)
theorem dX1_workedAt_84 : decode cX1_workedAt 84 = .ok (.imul, 1) := dk_104 (dk_at dksX1_workedAt_3 14 rfl rfl)
theorem dX1_workedAt_85 : decode cX1_workedAt 85 = .ok (.iload_n 1, 1) := dk_27 (dk_at dksX1_workedAt_3 15 rfl rfl)
theorem dX1_workedAt_86 : decode cX1_workedAt 86 = .ok (.iadd, 1) := dk_96 (dk_at dksX1_workedAt_3 16 rfl rfl)
theorem dX1_workedAt_87 : decode cX1_workedAt 87 = .ok (.iaload, 1) := dk_46 (dk_at dksX1_workedAt_3 17 rfl rfl)
theorem dX1_workedAt_88 : decode cX1_workedAt 88 = .ok (.invokestatic 130, 3) := dk_184 0 130 (dk_at dksX1_workedAt_3 18 rfl rfl)
theorem dX1_workedAt_91 : decode cX1_workedAt 91 = .ok (.iadd, 1) := dk_96 (dk_at dksX1_workedAt_3 21 rfl rfl)
theorem dX1_workedAt_92 : decode cX1_workedAt 92 = .ok (.istore_n 3, 1) := dk_62 (dk_at dksX1_workedAt_3 22 rfl rfl)
theorem dX1_workedAt_93 : decode cX1_workedAt 93 = .ok (.iinc 4 1, 3) := dk_132 4 1 (dk_at dksX1_workedAt_4 0 rfl rfl)
theorem dX1_workedAt_96 : decode cX1_workedAt 96 = .ok (.goto (-78), 3) := dk_167 255 178 (dk_at dksX1_workedAt_4 3 rfl rfl)
theorem dX1_workedAt_99 : decode cX1_workedAt 99 = .ok (.iload_n 3, 1) := dk_29 (dk_at dksX1_workedAt_4 6 rfl rfl)
theorem dX1_workedAt_100 : decode cX1_workedAt 100 = .ok (.ireturn, 1) := dk_172 (dk_at dksX1_workedAt_4 7 rfl rfl)
abbrev cX1_wanting : ByteArray := prog_1_method_68_code
def yX1_wanting : MethodName := ⟨RX1, "wanting", "(I)I"⟩
def dkwX1_wanting_1 : List UInt8 := [182, 1, 149, 100, 184, 0, 115, 96, 61, 132, 3, 1, 167, 255, 225, 28, 172]
abbrev dktX1_wanting_1 : List UInt8 := dkwX1_wanting_1 ++ []
def dkwX1_wanting_0 : List UInt8 := [3, 61, 3, 62, 29, 42, 180, 0, 96, 162, 0, 29, 28, 3, 42, 180, 0, 29, 29, 46, 42, 29, 27]
abbrev dktX1_wanting_0 : List UInt8 := dkwX1_wanting_0 ++ dktX1_wanting_1
theorem dksX1_wanting_0 : cX1_wanting.data.toList.drop 0 = dktX1_wanting_0 := by decide +kernel
theorem dksX1_wanting_1 : cX1_wanting.data.toList.drop 23 = dktX1_wanting_1 := dk_seg dksX1_wanting_0 23 rfl rfl
theorem dX1_wanting_0 : decode cX1_wanting 0 = .ok (.iconst 0, 1) := dk_3 (dk_at dksX1_wanting_0 0 rfl rfl)
theorem dX1_wanting_1 : decode cX1_wanting 1 = .ok (.istore_n 2, 1) := dk_61 (dk_at dksX1_wanting_0 1 rfl rfl)
theorem dX1_wanting_2 : decode cX1_wanting 2 = .ok (.iconst 0, 1) := dk_3 (dk_at dksX1_wanting_0 2 rfl rfl)
theorem dX1_wanting_3 : decode cX1_wanting 3 = .ok (.istore_n 3, 1) := dk_62 (dk_at dksX1_wanting_0 3 rfl rfl)
theorem dX1_wanting_4 : decode cX1_wanting 4 = .ok (.iload_n 3, 1) := dk_29 (dk_at dksX1_wanting_0 4 rfl rfl)
theorem dX1_wanting_5 : decode cX1_wanting 5 = .ok (.aload_n 0, 1) := dk_42 (dk_at dksX1_wanting_0 5 rfl rfl)
theorem dX1_wanting_6 : decode cX1_wanting 6 = .ok (.getfield 96, 3) := dk_180 0 96 (dk_at dksX1_wanting_0 6 rfl rfl)
theorem dX1_wanting_9 : decode cX1_wanting 9 = .ok (.if_icmp .ge 29, 3) := dk_162 0 29 (dk_at dksX1_wanting_0 9 rfl rfl)
theorem dX1_wanting_12 : decode cX1_wanting 12 = .ok (.iload_n 2, 1) := dk_28 (dk_at dksX1_wanting_0 12 rfl rfl)
theorem dX1_wanting_13 : decode cX1_wanting 13 = .ok (.iconst 0, 1) := dk_3 (dk_at dksX1_wanting_0 13 rfl rfl)
theorem dX1_wanting_14 : decode cX1_wanting 14 = .ok (.aload_n 0, 1) := dk_42 (dk_at dksX1_wanting_0 14 rfl rfl)
theorem dX1_wanting_15 : decode cX1_wanting 15 = .ok (.getfield 29, 3) := dk_180 0 29 (dk_at dksX1_wanting_0 15 rfl rfl)
theorem dX1_wanting_18 : decode cX1_wanting 18 = .ok (.iload_n 3, 1) := dk_29 (dk_at dksX1_wanting_0 18 rfl rfl)
theorem dX1_wanting_19 : decode cX1_wanting 19 = .ok (.iaload, 1) := dk_46 (dk_at dksX1_wanting_0 19 rfl rfl)
theorem dX1_wanting_20 : decode cX1_wanting 20 = .ok (.aload_n 0, 1) := dk_42 (dk_at dksX1_wanting_0 20 rfl rfl)
theorem dX1_wanting_21 : decode cX1_wanting 21 = .ok (.iload_n 3, 1) := dk_29 (dk_at dksX1_wanting_0 21 rfl rfl)
theorem dX1_wanting_22 : decode cX1_wanting 22 = .ok (.iload_n 1, 1) := dk_27 (dk_at dksX1_wanting_0 22 rfl rfl)
theorem dX1_wanting_23 : decode cX1_wanting 23 = .ok (.invokevirtual 405, 3) := dk_182 1 149 (dk_at dksX1_wanting_1 0 rfl rfl)
theorem dX1_wanting_26 : decode cX1_wanting 26 = .ok (.isub, 1) := dk_100 (dk_at dksX1_wanting_1 3 rfl rfl)
theorem dX1_wanting_27 : decode cX1_wanting 27 = .ok (.invokestatic 115, 3) := dk_184 0 115 (dk_at dksX1_wanting_1 4 rfl rfl)
theorem dX1_wanting_30 : decode cX1_wanting 30 = .ok (.iadd, 1) := dk_96 (dk_at dksX1_wanting_1 7 rfl rfl)
theorem dX1_wanting_31 : decode cX1_wanting 31 = .ok (.istore_n 2, 1) := dk_61 (dk_at dksX1_wanting_1 8 rfl rfl)
theorem dX1_wanting_32 : decode cX1_wanting 32 = .ok (.iinc 3 1, 3) := dk_132 3 1 (dk_at dksX1_wanting_1 9 rfl rfl)
theorem dX1_wanting_35 : decode cX1_wanting 35 = .ok (.goto (-31), 3) := dk_167 255 225 (dk_at dksX1_wanting_1 12 rfl rfl)
theorem dX1_wanting_38 : decode cX1_wanting 38 = .ok (.iload_n 2, 1) := dk_28 (dk_at dksX1_wanting_1 15 rfl rfl)
theorem dX1_wanting_39 : decode cX1_wanting 39 = .ok (.ireturn, 1) := dk_172 (dk_at dksX1_wanting_1 16 rfl rfl)
abbrev cX1_works : ByteArray := prog_1_method_70_code
def yX1_works : MethodName := ⟨RX1, "works", "(II)I"⟩
def dkwX1_works_4 : List UInt8 := [27, 172]
abbrev dktX1_works_4 : List UInt8 := dkwX1_works_4 ++ []
def dkwX1_works_3 : List UInt8 := [96, 182, 1, 11, 21, 4, 172, 132, 4, 1, 167, 255, 201, 42, 3, 181, 1, 8, 42, 16, 60, 182, 1, 11]
abbrev dktX1_works_3 : List UInt8 := dkwX1_works_3 ++ dktX1_works_4
def dkwX1_works_2 : List UInt8 := [21, 4, 96, 46, 96, 62, 29, 28, 162, 0, 6, 167, 0, 20, 42, 3, 181, 1, 8, 42, 29, 28, 100, 4]
abbrev dktX1_works_2 : List UInt8 := dkwX1_works_2 ++ dktX1_works_3
def dkwX1_works_1 : List UInt8 := [3, 54, 4, 21, 4, 42, 180, 0, 96, 162, 0, 52, 29, 42, 180, 0, 12, 180, 1, 19, 16, 7, 27, 104]
abbrev dktX1_works_1 : List UInt8 := dkwX1_works_1 ++ dktX1_works_2
def dkwX1_works_0 : List UInt8 := [42, 27, 182, 0, 104, 153, 0, 15, 28, 133, 10, 20, 1, 93, 184, 0, 100, 154, 0, 5, 2, 172, 3, 62]
abbrev dktX1_works_0 : List UInt8 := dkwX1_works_0 ++ dktX1_works_1
theorem dksX1_works_0 : cX1_works.data.toList.drop 0 = dktX1_works_0 := by decide +kernel
theorem dksX1_works_1 : cX1_works.data.toList.drop 24 = dktX1_works_1 := dk_seg dksX1_works_0 24 rfl rfl
theorem dksX1_works_2 : cX1_works.data.toList.drop 48 = dktX1_works_2 := dk_seg dksX1_works_1 24 rfl rfl
theorem dksX1_works_3 : cX1_works.data.toList.drop 72 = dktX1_works_3 := dk_seg dksX1_works_2 24 rfl rfl
theorem dksX1_works_4 : cX1_works.data.toList.drop 96 = dktX1_works_4 := dk_seg dksX1_works_3 24 rfl rfl
theorem dX1_works_0 : decode cX1_works 0 = .ok (.aload_n 0, 1) := dk_42 (dk_at dksX1_works_0 0 rfl rfl)
theorem dX1_works_1 : decode cX1_works 1 = .ok (.iload_n 1, 1) := dk_27 (dk_at dksX1_works_0 1 rfl rfl)
theorem dX1_works_2 : decode cX1_works 2 = .ok (.invokevirtual 104, 3) := dk_182 0 104 (dk_at dksX1_works_0 2 rfl rfl)
theorem dX1_works_5 : decode cX1_works 5 = .ok (.ifCond .eq 15, 3) := dk_153 0 15 (dk_at dksX1_works_0 5 rfl rfl)
theorem dX1_works_8 : decode cX1_works 8 = .ok (.iload_n 2, 1) := dk_28 (dk_at dksX1_works_0 8 rfl rfl)
theorem dX1_works_9 : decode cX1_works 9 = .ok (.i2l, 1) := dk_133 (dk_at dksX1_works_0 9 rfl rfl)
theorem dX1_works_10 : decode cX1_works 10 = .ok (.lconst 1, 1) := dk_10 (dk_at dksX1_works_0 10 rfl rfl)
theorem dX1_works_11 : decode cX1_works 11 = .ok (.ldc2_w 349, 3) := dk_20 1 93 (dk_at dksX1_works_0 11 rfl rfl)
theorem dX1_works_14 : decode cX1_works 14 = .ok (.invokestatic 100, 3) := dk_184 0 100 (dk_at dksX1_works_0 14 rfl rfl)
theorem dX1_works_17 : decode cX1_works 17 = .ok (.ifCond .ne 5, 3) := dk_154 0 5 (dk_at dksX1_works_0 17 rfl rfl)
theorem dX1_works_20 : decode cX1_works 20 = .ok (.iconst (-1), 1) := dk_2 (dk_at dksX1_works_0 20 rfl rfl)
theorem dX1_works_21 : decode cX1_works 21 = .ok (.ireturn, 1) := dk_172 (dk_at dksX1_works_0 21 rfl rfl)
theorem dX1_works_22 : decode cX1_works 22 = .ok (.iconst 0, 1) := dk_3 (dk_at dksX1_works_0 22 rfl rfl)
theorem dX1_works_23 : decode cX1_works 23 = .ok (.istore_n 3, 1) := dk_62 (dk_at dksX1_works_0 23 rfl rfl)
theorem dX1_works_24 : decode cX1_works 24 = .ok (.iconst 0, 1) := dk_3 (dk_at dksX1_works_1 0 rfl rfl)
theorem dX1_works_25 : decode cX1_works 25 = .ok (.istore 4, 2) := dk_54 4 (dk_at dksX1_works_1 1 rfl rfl)
theorem dX1_works_27 : decode cX1_works 27 = .ok (.iload 4, 2) := dk_21 4 (dk_at dksX1_works_1 3 rfl rfl)
theorem dX1_works_29 : decode cX1_works 29 = .ok (.aload_n 0, 1) := dk_42 (dk_at dksX1_works_1 5 rfl rfl)
theorem dX1_works_30 : decode cX1_works 30 = .ok (.getfield 96, 3) := dk_180 0 96 (dk_at dksX1_works_1 6 rfl rfl)
theorem dX1_works_33 : decode cX1_works 33 = .ok (.if_icmp .ge 52, 3) := dk_162 0 52 (dk_at dksX1_works_1 9 rfl rfl)
theorem dX1_works_36 : decode cX1_works 36 = .ok (.iload_n 3, 1) := dk_29 (dk_at dksX1_works_1 12 rfl rfl)
theorem dX1_works_37 : decode cX1_works 37 = .ok (.aload_n 0, 1) := dk_42 (dk_at dksX1_works_1 13 rfl rfl)
theorem dX1_works_38 : decode cX1_works 38 = .ok (.getfield 12, 3) := dk_180 0 12 (dk_at dksX1_works_1 14 rfl rfl)
theorem dX1_works_41 : decode cX1_works 41 = .ok (.getfield 275, 3) := dk_180 1 19 (dk_at dksX1_works_1 17 rfl rfl)
theorem dX1_works_44 : decode cX1_works 44 = .ok (.bipush 7, 2) := dk_16 7 (dk_at dksX1_works_1 20 rfl rfl)
theorem dX1_works_46 : decode cX1_works 46 = .ok (.iload_n 1, 1) := dk_27 (dk_at dksX1_works_1 22 rfl rfl)
theorem dX1_works_47 : decode cX1_works 47 = .ok (.imul, 1) := dk_104 (dk_at dksX1_works_1 23 rfl rfl)
theorem dX1_works_48 : decode cX1_works 48 = .ok (.iload 4, 2) := dk_21 4 (dk_at dksX1_works_2 0 rfl rfl)
theorem dX1_works_50 : decode cX1_works 50 = .ok (.iadd, 1) := dk_96 (dk_at dksX1_works_2 2 rfl rfl)
theorem dX1_works_51 : decode cX1_works 51 = .ok (.iaload, 1) := dk_46 (dk_at dksX1_works_2 3 rfl rfl)
theorem dX1_works_52 : decode cX1_works 52 = .ok (.iadd, 1) := dk_96 (dk_at dksX1_works_2 4 rfl rfl)
theorem dX1_works_53 : decode cX1_works 53 = .ok (.istore_n 3, 1) := dk_62 (dk_at dksX1_works_2 5 rfl rfl)
theorem dX1_works_54 : decode cX1_works 54 = .ok (.iload_n 3, 1) := dk_29 (dk_at dksX1_works_2 6 rfl rfl)
theorem dX1_works_55 : decode cX1_works 55 = .ok (.iload_n 2, 1) := dk_28 (dk_at dksX1_works_2 7 rfl rfl)
theorem dX1_works_56 : decode cX1_works 56 = .ok (.if_icmp .ge 6, 3) := dk_162 0 6 (dk_at dksX1_works_2 8 rfl rfl)
theorem dX1_works_59 : decode cX1_works 59 = .ok (.goto 20, 3) := dk_167 0 20 (dk_at dksX1_works_2 11 rfl rfl)
theorem dX1_works_62 : decode cX1_works 62 = .ok (.aload_n 0, 1) := dk_42 (dk_at dksX1_works_2 14 rfl rfl)
theorem dX1_works_63 : decode cX1_works 63 = .ok (.iconst 0, 1) := dk_3 (dk_at dksX1_works_2 15 rfl rfl)
theorem dX1_works_64 : decode cX1_works 64 = .ok (.putfield 264, 3) := dk_181 1 8 (dk_at dksX1_works_2 16 rfl rfl)
theorem dX1_works_67 : decode cX1_works 67 = .ok (.aload_n 0, 1) := dk_42 (dk_at dksX1_works_2 19 rfl rfl)
theorem dX1_works_68 : decode cX1_works 68 = .ok (.iload_n 3, 1) := dk_29 (dk_at dksX1_works_2 20 rfl rfl)
theorem dX1_works_69 : decode cX1_works 69 = .ok (.iload_n 2, 1) := dk_28 (dk_at dksX1_works_2 21 rfl rfl)
theorem dX1_works_70 : decode cX1_works 70 = .ok (.isub, 1) := dk_100 (dk_at dksX1_works_2 22 rfl rfl)
theorem dX1_works_71 : decode cX1_works 71 = .ok (.iconst 1, 1) := dk_4 (dk_at dksX1_works_2 23 rfl rfl)
theorem dX1_works_72 : decode cX1_works 72 = .ok (.iadd, 1) := dk_96 (dk_at dksX1_works_3 0 rfl rfl)
theorem dX1_works_73 : decode cX1_works 73 = .ok (.invokevirtual 267, 3) := dk_182 1 11 (dk_at dksX1_works_3 1 rfl rfl)
theorem dX1_works_76 : decode cX1_works 76 = .ok (.iload 4, 2) := dk_21 4 (dk_at dksX1_works_3 4 rfl rfl)
theorem dX1_works_78 : decode cX1_works 78 = .ok (.ireturn, 1) := dk_172 (dk_at dksX1_works_3 6 rfl rfl)
theorem dX1_works_79 : decode cX1_works 79 = .ok (.iinc 4 1, 3) := dk_132 4 1 (dk_at dksX1_works_3 7 rfl rfl)
theorem dX1_works_82 : decode cX1_works 82 = .ok (.goto (-55), 3) := dk_167 255 201 (dk_at dksX1_works_3 10 rfl rfl)
theorem dX1_works_85 : decode cX1_works 85 = .ok (.aload_n 0, 1) := dk_42 (dk_at dksX1_works_3 13 rfl rfl)
theorem dX1_works_86 : decode cX1_works 86 = .ok (.iconst 0, 1) := dk_3 (dk_at dksX1_works_3 14 rfl rfl)
theorem dX1_works_87 : decode cX1_works 87 = .ok (.putfield 264, 3) := dk_181 1 8 (dk_at dksX1_works_3 15 rfl rfl)
theorem dX1_works_90 : decode cX1_works 90 = .ok (.aload_n 0, 1) := dk_42 (dk_at dksX1_works_3 18 rfl rfl)
theorem dX1_works_91 : decode cX1_works 91 = .ok (.bipush 60, 2) := dk_16 60 (dk_at dksX1_works_3 19 rfl rfl)
theorem dX1_works_93 : decode cX1_works 93 = .ok (.invokevirtual 267, 3) := dk_182 1 11 (dk_at dksX1_works_3 21 rfl rfl)
theorem dX1_works_96 : decode cX1_works 96 = .ok (.iload_n 1, 1) := dk_27 (dk_at dksX1_works_4 0 rfl rfl)
theorem dX1_works_97 : decode cX1_works 97 = .ok (.ireturn, 1) := dk_172 (dk_at dksX1_works_4 1 rfl rfl)
abbrev cX1_summer : ByteArray := prog_1_method_71_code
def yX1_summer : MethodName := ⟨RX1, "summer", "()I"⟩
def dkwX1_summer_1 : List UInt8 := [16, 254, 172]
abbrev dktX1_summer_1 : List UInt8 := dkwX1_summer_1 ++ []
def dkwX1_summer_0 : List UInt8 := [3, 60, 27, 16, 60, 163, 0, 19, 42, 27, 182, 1, 152, 154, 0, 5, 27, 172, 132, 1, 1, 167, 255, 237]
abbrev dktX1_summer_0 : List UInt8 := dkwX1_summer_0 ++ dktX1_summer_1
theorem dksX1_summer_0 : cX1_summer.data.toList.drop 0 = dktX1_summer_0 := by decide +kernel
theorem dksX1_summer_1 : cX1_summer.data.toList.drop 24 = dktX1_summer_1 := dk_seg dksX1_summer_0 24 rfl rfl
theorem dX1_summer_0 : decode cX1_summer 0 = .ok (.iconst 0, 1) := dk_3 (dk_at dksX1_summer_0 0 rfl rfl)
theorem dX1_summer_1 : decode cX1_summer 1 = .ok (.istore_n 1, 1) := dk_60 (dk_at dksX1_summer_0 1 rfl rfl)
theorem dX1_summer_2 : decode cX1_summer 2 = .ok (.iload_n 1, 1) := dk_27 (dk_at dksX1_summer_0 2 rfl rfl)
theorem dX1_summer_3 : decode cX1_summer 3 = .ok (.bipush 60, 2) := dk_16 60 (dk_at dksX1_summer_0 3 rfl rfl)
theorem dX1_summer_5 : decode cX1_summer 5 = .ok (.if_icmp .gt 19, 3) := dk_163 0 19 (dk_at dksX1_summer_0 5 rfl rfl)
theorem dX1_summer_8 : decode cX1_summer 8 = .ok (.aload_n 0, 1) := dk_42 (dk_at dksX1_summer_0 8 rfl rfl)
theorem dX1_summer_9 : decode cX1_summer 9 = .ok (.iload_n 1, 1) := dk_27 (dk_at dksX1_summer_0 9 rfl rfl)
theorem dX1_summer_10 : decode cX1_summer 10 = .ok (.invokevirtual 408, 3) := dk_182 1 152 (dk_at dksX1_summer_0 10 rfl rfl)
theorem dX1_summer_13 : decode cX1_summer 13 = .ok (.ifCond .ne 5, 3) := dk_154 0 5 (dk_at dksX1_summer_0 13 rfl rfl)
theorem dX1_summer_16 : decode cX1_summer 16 = .ok (.iload_n 1, 1) := dk_27 (dk_at dksX1_summer_0 16 rfl rfl)
theorem dX1_summer_17 : decode cX1_summer 17 = .ok (.ireturn, 1) := dk_172 (dk_at dksX1_summer_0 17 rfl rfl)
theorem dX1_summer_18 : decode cX1_summer 18 = .ok (.iinc 1 1, 3) := dk_132 1 1 (dk_at dksX1_summer_0 18 rfl rfl)
theorem dX1_summer_21 : decode cX1_summer 21 = .ok (.goto (-19), 3) := dk_167 255 237 (dk_at dksX1_summer_0 21 rfl rfl)
theorem dX1_summer_24 : decode cX1_summer 24 = .ok (.bipush (-2), 2) := dk_16 254 (dk_at dksX1_summer_1 0 rfl rfl)
theorem dX1_summer_26 : decode cX1_summer 26 = .ok (.ireturn, 1) := dk_172 (dk_at dksX1_summer_1 2 rfl rfl)
abbrev cX1_ahead : ByteArray := prog_1_method_72_code
def yX1_ahead : MethodName := ⟨RX1, "ahead", "(I)I"⟩
def dkwX1_ahead_3 : List UInt8 := [132, 2, 1, 167, 255, 232, 42, 180, 0, 16, 182, 1, 78, 172]
abbrev dktX1_ahead_3 : List UInt8 := dkwX1_ahead_3 ++ []
def dkwX1_ahead_2 : List UInt8 := [61, 28, 42, 180, 0, 96, 162, 0, 22, 42, 42, 180, 0, 16, 180, 1, 68, 28, 46, 182, 1, 11]
abbrev dktX1_ahead_2 : List UInt8 := dkwX1_ahead_2 ++ dktX1_ahead_3
def dkwX1_ahead_1 : List UInt8 := [180, 0, 16, 27, 182, 1, 98, 42, 3, 181, 1, 8, 42, 42, 180, 0, 16, 180, 1, 29, 182, 1, 11, 3]
abbrev dktX1_ahead_1 : List UInt8 := dkwX1_ahead_1 ++ dktX1_ahead_2
def dkwX1_ahead_0 : List UInt8 := [27, 184, 1, 95, 154, 0, 5, 2, 172, 42, 180, 0, 16, 42, 180, 0, 12, 182, 1, 26, 42, 42]
abbrev dktX1_ahead_0 : List UInt8 := dkwX1_ahead_0 ++ dktX1_ahead_1
theorem dksX1_ahead_0 : cX1_ahead.data.toList.drop 0 = dktX1_ahead_0 := by decide +kernel
theorem dksX1_ahead_1 : cX1_ahead.data.toList.drop 22 = dktX1_ahead_1 := dk_seg dksX1_ahead_0 22 rfl rfl
theorem dksX1_ahead_2 : cX1_ahead.data.toList.drop 46 = dktX1_ahead_2 := dk_seg dksX1_ahead_1 24 rfl rfl
theorem dksX1_ahead_3 : cX1_ahead.data.toList.drop 68 = dktX1_ahead_3 := dk_seg dksX1_ahead_2 22 rfl rfl
theorem dX1_ahead_0 : decode cX1_ahead 0 = .ok (.iload_n 1, 1) := dk_27 (dk_at dksX1_ahead_0 0 rfl rfl)
theorem dX1_ahead_1 : decode cX1_ahead 1 = .ok (.invokestatic 351, 3) := dk_184 1 95 (dk_at dksX1_ahead_0 1 rfl rfl)
theorem dX1_ahead_4 : decode cX1_ahead 4 = .ok (.ifCond .ne 5, 3) := dk_154 0 5 (dk_at dksX1_ahead_0 4 rfl rfl)
theorem dX1_ahead_7 : decode cX1_ahead 7 = .ok (.iconst (-1), 1) := dk_2 (dk_at dksX1_ahead_0 7 rfl rfl)
theorem dX1_ahead_8 : decode cX1_ahead 8 = .ok (.ireturn, 1) := dk_172 (dk_at dksX1_ahead_0 8 rfl rfl)
theorem dX1_ahead_9 : decode cX1_ahead 9 = .ok (.aload_n 0, 1) := dk_42 (dk_at dksX1_ahead_0 9 rfl rfl)
theorem dX1_ahead_10 : decode cX1_ahead 10 = .ok (.getfield 16, 3) := dk_180 0 16 (dk_at dksX1_ahead_0 10 rfl rfl)
theorem dX1_ahead_13 : decode cX1_ahead 13 = .ok (.aload_n 0, 1) := dk_42 (dk_at dksX1_ahead_0 13 rfl rfl)
theorem dX1_ahead_14 : decode cX1_ahead 14 = .ok (.getfield 12, 3) := dk_180 0 12 (dk_at dksX1_ahead_0 14 rfl rfl)
theorem dX1_ahead_17 : decode cX1_ahead 17 = .ok (.invokevirtual 282, 3) := dk_182 1 26 (dk_at dksX1_ahead_0 17 rfl rfl)
theorem dX1_ahead_20 : decode cX1_ahead 20 = .ok (.aload_n 0, 1) := dk_42 (dk_at dksX1_ahead_0 20 rfl rfl)
theorem dX1_ahead_21 : decode cX1_ahead 21 = .ok (.aload_n 0, 1) := dk_42 (dk_at dksX1_ahead_0 21 rfl rfl)
theorem dX1_ahead_22 : decode cX1_ahead 22 = .ok (.getfield 16, 3) := dk_180 0 16 (dk_at dksX1_ahead_1 0 rfl rfl)
theorem dX1_ahead_25 : decode cX1_ahead 25 = .ok (.iload_n 1, 1) := dk_27 (dk_at dksX1_ahead_1 3 rfl rfl)
theorem dX1_ahead_26 : decode cX1_ahead 26 = .ok (.invokevirtual 354, 3) := dk_182 1 98 (dk_at dksX1_ahead_1 4 rfl rfl)
theorem dX1_ahead_29 : decode cX1_ahead 29 = .ok (.aload_n 0, 1) := dk_42 (dk_at dksX1_ahead_1 7 rfl rfl)
theorem dX1_ahead_30 : decode cX1_ahead 30 = .ok (.iconst 0, 1) := dk_3 (dk_at dksX1_ahead_1 8 rfl rfl)
theorem dX1_ahead_31 : decode cX1_ahead 31 = .ok (.putfield 264, 3) := dk_181 1 8 (dk_at dksX1_ahead_1 9 rfl rfl)
theorem dX1_ahead_34 : decode cX1_ahead 34 = .ok (.aload_n 0, 1) := dk_42 (dk_at dksX1_ahead_1 12 rfl rfl)
theorem dX1_ahead_35 : decode cX1_ahead 35 = .ok (.aload_n 0, 1) := dk_42 (dk_at dksX1_ahead_1 13 rfl rfl)
theorem dX1_ahead_36 : decode cX1_ahead 36 = .ok (.getfield 16, 3) := dk_180 0 16 (dk_at dksX1_ahead_1 14 rfl rfl)
theorem dX1_ahead_39 : decode cX1_ahead 39 = .ok (.getfield 285, 3) := dk_180 1 29 (dk_at dksX1_ahead_1 17 rfl rfl)
theorem dX1_ahead_42 : decode cX1_ahead 42 = .ok (.invokevirtual 267, 3) := dk_182 1 11 (dk_at dksX1_ahead_1 20 rfl rfl)
theorem dX1_ahead_45 : decode cX1_ahead 45 = .ok (.iconst 0, 1) := dk_3 (dk_at dksX1_ahead_1 23 rfl rfl)
theorem dX1_ahead_46 : decode cX1_ahead 46 = .ok (.istore_n 2, 1) := dk_61 (dk_at dksX1_ahead_2 0 rfl rfl)
theorem dX1_ahead_47 : decode cX1_ahead 47 = .ok (.iload_n 2, 1) := dk_28 (dk_at dksX1_ahead_2 1 rfl rfl)
theorem dX1_ahead_48 : decode cX1_ahead 48 = .ok (.aload_n 0, 1) := dk_42 (dk_at dksX1_ahead_2 2 rfl rfl)
theorem dX1_ahead_49 : decode cX1_ahead 49 = .ok (.getfield 96, 3) := dk_180 0 96 (dk_at dksX1_ahead_2 3 rfl rfl)
theorem dX1_ahead_52 : decode cX1_ahead 52 = .ok (.if_icmp .ge 22, 3) := dk_162 0 22 (dk_at dksX1_ahead_2 6 rfl rfl)
theorem dX1_ahead_55 : decode cX1_ahead 55 = .ok (.aload_n 0, 1) := dk_42 (dk_at dksX1_ahead_2 9 rfl rfl)
theorem dX1_ahead_56 : decode cX1_ahead 56 = .ok (.aload_n 0, 1) := dk_42 (dk_at dksX1_ahead_2 10 rfl rfl)
theorem dX1_ahead_57 : decode cX1_ahead 57 = .ok (.getfield 16, 3) := dk_180 0 16 (dk_at dksX1_ahead_2 11 rfl rfl)
theorem dX1_ahead_60 : decode cX1_ahead 60 = .ok (.getfield 324, 3) := dk_180 1 68 (dk_at dksX1_ahead_2 14 rfl rfl)
theorem dX1_ahead_63 : decode cX1_ahead 63 = .ok (.iload_n 2, 1) := dk_28 (dk_at dksX1_ahead_2 17 rfl rfl)
theorem dX1_ahead_64 : decode cX1_ahead 64 = .ok (.iaload, 1) := dk_46 (dk_at dksX1_ahead_2 18 rfl rfl)
theorem dX1_ahead_65 : decode cX1_ahead 65 = .ok (.invokevirtual 267, 3) := dk_182 1 11 (dk_at dksX1_ahead_2 19 rfl rfl)
theorem dX1_ahead_68 : decode cX1_ahead 68 = .ok (.iinc 2 1, 3) := dk_132 2 1 (dk_at dksX1_ahead_3 0 rfl rfl)
theorem dX1_ahead_71 : decode cX1_ahead 71 = .ok (.goto (-24), 3) := dk_167 255 232 (dk_at dksX1_ahead_3 3 rfl rfl)
theorem dX1_ahead_74 : decode cX1_ahead 74 = .ok (.aload_n 0, 1) := dk_42 (dk_at dksX1_ahead_3 6 rfl rfl)
theorem dX1_ahead_75 : decode cX1_ahead 75 = .ok (.getfield 16, 3) := dk_180 0 16 (dk_at dksX1_ahead_3 7 rfl rfl)
theorem dX1_ahead_78 : decode cX1_ahead 78 = .ok (.invokevirtual 334, 3) := dk_182 1 78 (dk_at dksX1_ahead_3 10 rfl rfl)
theorem dX1_ahead_81 : decode cX1_ahead 81 = .ok (.ireturn, 1) := dk_172 (dk_at dksX1_ahead_3 13 rfl rfl)
abbrev cX1_slides : ByteArray := prog_1_method_73_code
def yX1_slides : MethodName := ⟨RX1, "slides", "(I)I"⟩
def dkwX1_slides_4 : List UInt8 := [16, 254, 172]
abbrev dktX1_slides_4 : List UInt8 := dkwX1_slides_4 ++ []
def dkwX1_slides_3 : List UInt8 := [158, 0, 17, 42, 180, 0, 16, 180, 0, 238, 27, 46, 154, 0, 5, 28, 172, 132, 2, 1, 167, 255, 189]
abbrev dktX1_slides_3 : List UInt8 := dkwX1_slides_3 ++ dktX1_slides_4
def dkwX1_slides_2 : List UInt8 := [180, 1, 41, 182, 0, 111, 96, 184, 0, 130, 184, 0, 115, 62, 42, 42, 180, 0, 16, 182, 1, 75, 29]
abbrev dktX1_slides_2 : List UInt8 := dkwX1_slides_2 ++ dktX1_slides_3
def dkwX1_slides_1 : List UInt8 := [16, 60, 163, 0, 67, 3, 17, 3, 231, 42, 180, 0, 16, 180, 0, 238, 27, 46, 42, 42, 180, 0, 16]
abbrev dktX1_slides_1 : List UInt8 := dkwX1_slides_1 ++ dktX1_slides_2
def dkwX1_slides_0 : List UInt8 := [42, 27, 182, 1, 102, 154, 0, 5, 2, 172, 42, 180, 0, 16, 42, 180, 0, 12, 182, 1, 26, 4, 61, 28]
abbrev dktX1_slides_0 : List UInt8 := dkwX1_slides_0 ++ dktX1_slides_1
theorem dksX1_slides_0 : cX1_slides.data.toList.drop 0 = dktX1_slides_0 := by decide +kernel
theorem dksX1_slides_1 : cX1_slides.data.toList.drop 24 = dktX1_slides_1 := dk_seg dksX1_slides_0 24 rfl rfl
theorem dksX1_slides_2 : cX1_slides.data.toList.drop 47 = dktX1_slides_2 := dk_seg dksX1_slides_1 23 rfl rfl
theorem dksX1_slides_3 : cX1_slides.data.toList.drop 70 = dktX1_slides_3 := dk_seg dksX1_slides_2 23 rfl rfl
theorem dksX1_slides_4 : cX1_slides.data.toList.drop 93 = dktX1_slides_4 := dk_seg dksX1_slides_3 23 rfl rfl
theorem dX1_slides_0 : decode cX1_slides 0 = .ok (.aload_n 0, 1) := dk_42 (dk_at dksX1_slides_0 0 rfl rfl)
theorem dX1_slides_1 : decode cX1_slides 1 = .ok (.iload_n 1, 1) := dk_27 (dk_at dksX1_slides_0 1 rfl rfl)
theorem dX1_slides_2 : decode cX1_slides 2 = .ok (.invokevirtual 358, 3) := dk_182 1 102 (dk_at dksX1_slides_0 2 rfl rfl)
theorem dX1_slides_5 : decode cX1_slides 5 = .ok (.ifCond .ne 5, 3) := dk_154 0 5 (dk_at dksX1_slides_0 5 rfl rfl)
theorem dX1_slides_8 : decode cX1_slides 8 = .ok (.iconst (-1), 1) := dk_2 (dk_at dksX1_slides_0 8 rfl rfl)
theorem dX1_slides_9 : decode cX1_slides 9 = .ok (.ireturn, 1) := dk_172 (dk_at dksX1_slides_0 9 rfl rfl)
theorem dX1_slides_10 : decode cX1_slides 10 = .ok (.aload_n 0, 1) := dk_42 (dk_at dksX1_slides_0 10 rfl rfl)
theorem dX1_slides_11 : decode cX1_slides 11 = .ok (.getfield 16, 3) := dk_180 0 16 (dk_at dksX1_slides_0 11 rfl rfl)
theorem dX1_slides_14 : decode cX1_slides 14 = .ok (.aload_n 0, 1) := dk_42 (dk_at dksX1_slides_0 14 rfl rfl)
theorem dX1_slides_15 : decode cX1_slides 15 = .ok (.getfield 12, 3) := dk_180 0 12 (dk_at dksX1_slides_0 15 rfl rfl)
theorem dX1_slides_18 : decode cX1_slides 18 = .ok (.invokevirtual 282, 3) := dk_182 1 26 (dk_at dksX1_slides_0 18 rfl rfl)
theorem dX1_slides_21 : decode cX1_slides 21 = .ok (.iconst 1, 1) := dk_4 (dk_at dksX1_slides_0 21 rfl rfl)
theorem dX1_slides_22 : decode cX1_slides 22 = .ok (.istore_n 2, 1) := dk_61 (dk_at dksX1_slides_0 22 rfl rfl)
theorem dX1_slides_23 : decode cX1_slides 23 = .ok (.iload_n 2, 1) := dk_28 (dk_at dksX1_slides_0 23 rfl rfl)
theorem dX1_slides_24 : decode cX1_slides 24 = .ok (.bipush 60, 2) := dk_16 60 (dk_at dksX1_slides_1 0 rfl rfl)
theorem dX1_slides_26 : decode cX1_slides 26 = .ok (.if_icmp .gt 67, 3) := dk_163 0 67 (dk_at dksX1_slides_1 2 rfl rfl)
theorem dX1_slides_29 : decode cX1_slides 29 = .ok (.iconst 0, 1) := dk_3 (dk_at dksX1_slides_1 5 rfl rfl)
theorem dX1_slides_30 : decode cX1_slides 30 = .ok (.sipush 999, 3) := dk_17 3 231 (dk_at dksX1_slides_1 6 rfl rfl)
theorem dX1_slides_33 : decode cX1_slides 33 = .ok (.aload_n 0, 1) := dk_42 (dk_at dksX1_slides_1 9 rfl rfl)
theorem dX1_slides_34 : decode cX1_slides 34 = .ok (.getfield 16, 3) := dk_180 0 16 (dk_at dksX1_slides_1 10 rfl rfl)
theorem dX1_slides_37 : decode cX1_slides 37 = .ok (.getfield 238, 3) := dk_180 0 238 (dk_at dksX1_slides_1 13 rfl rfl)
theorem dX1_slides_40 : decode cX1_slides 40 = .ok (.iload_n 1, 1) := dk_27 (dk_at dksX1_slides_1 16 rfl rfl)
theorem dX1_slides_41 : decode cX1_slides 41 = .ok (.iaload, 1) := dk_46 (dk_at dksX1_slides_1 17 rfl rfl)
theorem dX1_slides_42 : decode cX1_slides 42 = .ok (.aload_n 0, 1) := dk_42 (dk_at dksX1_slides_1 18 rfl rfl)
theorem dX1_slides_43 : decode cX1_slides 43 = .ok (.aload_n 0, 1) := dk_42 (dk_at dksX1_slides_1 19 rfl rfl)
theorem dX1_slides_44 : decode cX1_slides 44 = .ok (.getfield 16, 3) := dk_180 0 16 (dk_at dksX1_slides_1 20 rfl rfl)
theorem dX1_slides_47 : decode cX1_slides 47 = .ok (.getfield 297, 3) := dk_180 1 41 (dk_at dksX1_slides_2 0 rfl rfl)
theorem dX1_slides_50 : decode cX1_slides 50 = .ok (.invokevirtual 111, 3) := dk_182 0 111 (dk_at dksX1_slides_2 3 rfl rfl)
theorem dX1_slides_53 : decode cX1_slides 53 = .ok (.iadd, 1) := dk_96 (dk_at dksX1_slides_2 6 rfl rfl)
theorem dX1_slides_54 : decode cX1_slides 54 = .ok (.invokestatic 130, 3) := dk_184 0 130 (dk_at dksX1_slides_2 7 rfl rfl)
theorem dX1_slides_57 : decode cX1_slides 57 = .ok (.invokestatic 115, 3) := dk_184 0 115 (dk_at dksX1_slides_2 10 rfl rfl)
theorem dX1_slides_60 : decode cX1_slides 60 = .ok (.istore_n 3, 1) := dk_62 (dk_at dksX1_slides_2 13 rfl rfl)
theorem dX1_slides_61 : decode cX1_slides 61 = .ok (.aload_n 0, 1) := dk_42 (dk_at dksX1_slides_2 14 rfl rfl)
theorem dX1_slides_62 : decode cX1_slides 62 = .ok (.aload_n 0, 1) := dk_42 (dk_at dksX1_slides_2 15 rfl rfl)
theorem dX1_slides_63 : decode cX1_slides 63 = .ok (.getfield 16, 3) := dk_180 0 16 (dk_at dksX1_slides_2 16 rfl rfl)
theorem dX1_slides_66 : decode cX1_slides 66 = .ok (.invokevirtual 331, 3) := dk_182 1 75 (dk_at dksX1_slides_2 19 rfl rfl)
theorem dX1_slides_69 : decode cX1_slides 69 = .ok (.iload_n 3, 1) := dk_29 (dk_at dksX1_slides_2 22 rfl rfl)
theorem dX1_slides_70 : decode cX1_slides 70 = .ok (.ifCond .le 17, 3) := dk_158 0 17 (dk_at dksX1_slides_3 0 rfl rfl)
theorem dX1_slides_73 : decode cX1_slides 73 = .ok (.aload_n 0, 1) := dk_42 (dk_at dksX1_slides_3 3 rfl rfl)
theorem dX1_slides_74 : decode cX1_slides 74 = .ok (.getfield 16, 3) := dk_180 0 16 (dk_at dksX1_slides_3 4 rfl rfl)
theorem dX1_slides_77 : decode cX1_slides 77 = .ok (.getfield 238, 3) := dk_180 0 238 (dk_at dksX1_slides_3 7 rfl rfl)
theorem dX1_slides_80 : decode cX1_slides 80 = .ok (.iload_n 1, 1) := dk_27 (dk_at dksX1_slides_3 10 rfl rfl)
theorem dX1_slides_81 : decode cX1_slides 81 = .ok (.iaload, 1) := dk_46 (dk_at dksX1_slides_3 11 rfl rfl)
theorem dX1_slides_82 : decode cX1_slides 82 = .ok (.ifCond .ne 5, 3) := dk_154 0 5 (dk_at dksX1_slides_3 12 rfl rfl)
theorem dX1_slides_85 : decode cX1_slides 85 = .ok (.iload_n 2, 1) := dk_28 (dk_at dksX1_slides_3 15 rfl rfl)
theorem dX1_slides_86 : decode cX1_slides 86 = .ok (.ireturn, 1) := dk_172 (dk_at dksX1_slides_3 16 rfl rfl)
theorem dX1_slides_87 : decode cX1_slides 87 = .ok (.iinc 2 1, 3) := dk_132 2 1 (dk_at dksX1_slides_3 17 rfl rfl)
theorem dX1_slides_90 : decode cX1_slides 90 = .ok (.goto (-67), 3) := dk_167 255 189 (dk_at dksX1_slides_3 20 rfl rfl)
theorem dX1_slides_93 : decode cX1_slides 93 = .ok (.bipush (-2), 2) := dk_16 254 (dk_at dksX1_slides_4 0 rfl rfl)
theorem dX1_slides_95 : decode cX1_slides 95 = .ok (.ireturn, 1) := dk_172 (dk_at dksX1_slides_4 2 rfl rfl)
abbrev cX1_later : ByteArray := prog_1_method_74_code
def yX1_later : MethodName := ⟨RX1, "later", "(II)I"⟩
def dkwX1_later_3 : List UInt8 := [167, 255, 232, 42, 180, 0, 16, 180, 0, 238, 27, 46, 172]
abbrev dktX1_later_3 : List UInt8 := dkwX1_later_3 ++ []
def dkwX1_later_2 : List UInt8 := [180, 0, 96, 162, 0, 22, 42, 42, 180, 0, 16, 180, 0, 241, 29, 46, 182, 1, 11, 132, 3, 1]
abbrev dktX1_later_2 : List UInt8 := dkwX1_later_2 ++ dktX1_later_3
def dkwX1_later_1 : List UInt8 := [180, 0, 12, 182, 1, 26, 42, 42, 180, 0, 16, 28, 182, 1, 98, 42, 3, 181, 1, 8, 3, 62, 29, 42]
abbrev dktX1_later_1 : List UInt8 := dkwX1_later_1 ++ dktX1_later_2
def dkwX1_later_0 : List UInt8 := [42, 27, 182, 1, 102, 153, 0, 10, 28, 184, 1, 95, 154, 0, 5, 2, 172, 42, 180, 0, 16, 42]
abbrev dktX1_later_0 : List UInt8 := dkwX1_later_0 ++ dktX1_later_1
theorem dksX1_later_0 : cX1_later.data.toList.drop 0 = dktX1_later_0 := by decide +kernel
theorem dksX1_later_1 : cX1_later.data.toList.drop 22 = dktX1_later_1 := dk_seg dksX1_later_0 22 rfl rfl
theorem dksX1_later_2 : cX1_later.data.toList.drop 46 = dktX1_later_2 := dk_seg dksX1_later_1 24 rfl rfl
theorem dksX1_later_3 : cX1_later.data.toList.drop 68 = dktX1_later_3 := dk_seg dksX1_later_2 22 rfl rfl
theorem dX1_later_0 : decode cX1_later 0 = .ok (.aload_n 0, 1) := dk_42 (dk_at dksX1_later_0 0 rfl rfl)
theorem dX1_later_1 : decode cX1_later 1 = .ok (.iload_n 1, 1) := dk_27 (dk_at dksX1_later_0 1 rfl rfl)
theorem dX1_later_2 : decode cX1_later 2 = .ok (.invokevirtual 358, 3) := dk_182 1 102 (dk_at dksX1_later_0 2 rfl rfl)
theorem dX1_later_5 : decode cX1_later 5 = .ok (.ifCond .eq 10, 3) := dk_153 0 10 (dk_at dksX1_later_0 5 rfl rfl)
theorem dX1_later_8 : decode cX1_later 8 = .ok (.iload_n 2, 1) := dk_28 (dk_at dksX1_later_0 8 rfl rfl)
theorem dX1_later_9 : decode cX1_later 9 = .ok (.invokestatic 351, 3) := dk_184 1 95 (dk_at dksX1_later_0 9 rfl rfl)
theorem dX1_later_12 : decode cX1_later 12 = .ok (.ifCond .ne 5, 3) := dk_154 0 5 (dk_at dksX1_later_0 12 rfl rfl)
theorem dX1_later_15 : decode cX1_later 15 = .ok (.iconst (-1), 1) := dk_2 (dk_at dksX1_later_0 15 rfl rfl)
theorem dX1_later_16 : decode cX1_later 16 = .ok (.ireturn, 1) := dk_172 (dk_at dksX1_later_0 16 rfl rfl)
theorem dX1_later_17 : decode cX1_later 17 = .ok (.aload_n 0, 1) := dk_42 (dk_at dksX1_later_0 17 rfl rfl)
theorem dX1_later_18 : decode cX1_later 18 = .ok (.getfield 16, 3) := dk_180 0 16 (dk_at dksX1_later_0 18 rfl rfl)
theorem dX1_later_21 : decode cX1_later 21 = .ok (.aload_n 0, 1) := dk_42 (dk_at dksX1_later_0 21 rfl rfl)
theorem dX1_later_22 : decode cX1_later 22 = .ok (.getfield 12, 3) := dk_180 0 12 (dk_at dksX1_later_1 0 rfl rfl)
theorem dX1_later_25 : decode cX1_later 25 = .ok (.invokevirtual 282, 3) := dk_182 1 26 (dk_at dksX1_later_1 3 rfl rfl)
theorem dX1_later_28 : decode cX1_later 28 = .ok (.aload_n 0, 1) := dk_42 (dk_at dksX1_later_1 6 rfl rfl)
theorem dX1_later_29 : decode cX1_later 29 = .ok (.aload_n 0, 1) := dk_42 (dk_at dksX1_later_1 7 rfl rfl)
theorem dX1_later_30 : decode cX1_later 30 = .ok (.getfield 16, 3) := dk_180 0 16 (dk_at dksX1_later_1 8 rfl rfl)
theorem dX1_later_33 : decode cX1_later 33 = .ok (.iload_n 2, 1) := dk_28 (dk_at dksX1_later_1 11 rfl rfl)
theorem dX1_later_34 : decode cX1_later 34 = .ok (.invokevirtual 354, 3) := dk_182 1 98 (dk_at dksX1_later_1 12 rfl rfl)
theorem dX1_later_37 : decode cX1_later 37 = .ok (.aload_n 0, 1) := dk_42 (dk_at dksX1_later_1 15 rfl rfl)
theorem dX1_later_38 : decode cX1_later 38 = .ok (.iconst 0, 1) := dk_3 (dk_at dksX1_later_1 16 rfl rfl)
theorem dX1_later_39 : decode cX1_later 39 = .ok (.putfield 264, 3) := dk_181 1 8 (dk_at dksX1_later_1 17 rfl rfl)
theorem dX1_later_42 : decode cX1_later 42 = .ok (.iconst 0, 1) := dk_3 (dk_at dksX1_later_1 20 rfl rfl)
theorem dX1_later_43 : decode cX1_later 43 = .ok (.istore_n 3, 1) := dk_62 (dk_at dksX1_later_1 21 rfl rfl)
theorem dX1_later_44 : decode cX1_later 44 = .ok (.iload_n 3, 1) := dk_29 (dk_at dksX1_later_1 22 rfl rfl)
theorem dX1_later_45 : decode cX1_later 45 = .ok (.aload_n 0, 1) := dk_42 (dk_at dksX1_later_1 23 rfl rfl)
theorem dX1_later_46 : decode cX1_later 46 = .ok (.getfield 96, 3) := dk_180 0 96 (dk_at dksX1_later_2 0 rfl rfl)
theorem dX1_later_49 : decode cX1_later 49 = .ok (.if_icmp .ge 22, 3) := dk_162 0 22 (dk_at dksX1_later_2 3 rfl rfl)
theorem dX1_later_52 : decode cX1_later 52 = .ok (.aload_n 0, 1) := dk_42 (dk_at dksX1_later_2 6 rfl rfl)
theorem dX1_later_53 : decode cX1_later 53 = .ok (.aload_n 0, 1) := dk_42 (dk_at dksX1_later_2 7 rfl rfl)
theorem dX1_later_54 : decode cX1_later 54 = .ok (.getfield 16, 3) := dk_180 0 16 (dk_at dksX1_later_2 8 rfl rfl)
theorem dX1_later_57 : decode cX1_later 57 = .ok (.getfield 241, 3) := dk_180 0 241 (dk_at dksX1_later_2 11 rfl rfl)
theorem dX1_later_60 : decode cX1_later 60 = .ok (.iload_n 3, 1) := dk_29 (dk_at dksX1_later_2 14 rfl rfl)
theorem dX1_later_61 : decode cX1_later 61 = .ok (.iaload, 1) := dk_46 (dk_at dksX1_later_2 15 rfl rfl)
theorem dX1_later_62 : decode cX1_later 62 = .ok (.invokevirtual 267, 3) := dk_182 1 11 (dk_at dksX1_later_2 16 rfl rfl)
theorem dX1_later_65 : decode cX1_later 65 = .ok (.iinc 3 1, 3) := dk_132 3 1 (dk_at dksX1_later_2 19 rfl rfl)
theorem dX1_later_68 : decode cX1_later 68 = .ok (.goto (-24), 3) := dk_167 255 232 (dk_at dksX1_later_3 0 rfl rfl)
theorem dX1_later_71 : decode cX1_later 71 = .ok (.aload_n 0, 1) := dk_42 (dk_at dksX1_later_3 3 rfl rfl)
theorem dX1_later_72 : decode cX1_later 72 = .ok (.getfield 16, 3) := dk_180 0 16 (dk_at dksX1_later_3 4 rfl rfl)
theorem dX1_later_75 : decode cX1_later 75 = .ok (.getfield 238, 3) := dk_180 0 238 (dk_at dksX1_later_3 7 rfl rfl)
theorem dX1_later_78 : decode cX1_later 78 = .ok (.iload_n 1, 1) := dk_27 (dk_at dksX1_later_3 10 rfl rfl)
theorem dX1_later_79 : decode cX1_later 79 = .ok (.iaload, 1) := dk_46 (dk_at dksX1_later_3 11 rfl rfl)
theorem dX1_later_80 : decode cX1_later 80 = .ok (.ireturn, 1) := dk_172 (dk_at dksX1_later_3 12 rfl rfl)
abbrev cX1_deepest : ByteArray := prog_1_method_75_code
def yX1_deepest : MethodName := ⟨RX1, "deepest", "(II)I"⟩
def dkwX1_deepest_4 : List UInt8 := [184, 0, 115, 62, 132, 5, 1, 167, 255, 203, 42, 3, 181, 1, 8, 42, 21, 4, 182, 1, 11, 29, 172]
abbrev dktX1_deepest_4 : List UInt8 := dkwX1_deepest_4 ++ []
def dkwX1_deepest_3 : List UInt8 := [164, 0, 8, 21, 5, 167, 0, 5, 21, 4, 54, 4, 29, 42, 180, 0, 16, 180, 0, 241, 27, 46]
abbrev dktX1_deepest_3 : List UInt8 := dkwX1_deepest_3 ++ dktX1_deepest_4
def dkwX1_deepest_2 : List UInt8 := [28, 163, 0, 53, 42, 42, 180, 0, 16, 182, 1, 75, 42, 180, 0, 16, 180, 0, 241, 27, 46, 29]
abbrev dktX1_deepest_2 : List UInt8 := dkwX1_deepest_2 ++ dktX1_deepest_3
def dkwX1_deepest_1 : List UInt8 := [180, 0, 12, 182, 1, 26, 42, 180, 0, 16, 180, 0, 241, 27, 46, 62, 3, 54, 4, 4, 54, 5, 21, 5]
abbrev dktX1_deepest_1 : List UInt8 := dkwX1_deepest_1 ++ dktX1_deepest_2
def dkwX1_deepest_0 : List UInt8 := [42, 27, 182, 0, 104, 153, 0, 10, 28, 184, 1, 95, 154, 0, 5, 2, 172, 42, 180, 0, 16, 42]
abbrev dktX1_deepest_0 : List UInt8 := dkwX1_deepest_0 ++ dktX1_deepest_1
theorem dksX1_deepest_0 : cX1_deepest.data.toList.drop 0 = dktX1_deepest_0 := by decide +kernel
theorem dksX1_deepest_1 : cX1_deepest.data.toList.drop 22 = dktX1_deepest_1 := dk_seg dksX1_deepest_0 22 rfl rfl
theorem dksX1_deepest_2 : cX1_deepest.data.toList.drop 46 = dktX1_deepest_2 := dk_seg dksX1_deepest_1 24 rfl rfl
theorem dksX1_deepest_3 : cX1_deepest.data.toList.drop 68 = dktX1_deepest_3 := dk_seg dksX1_deepest_2 22 rfl rfl
theorem dksX1_deepest_4 : cX1_deepest.data.toList.drop 90 = dktX1_deepest_4 := dk_seg dksX1_deepest_3 22 rfl rfl
theorem dX1_deepest_0 : decode cX1_deepest 0 = .ok (.aload_n 0, 1) := dk_42 (dk_at dksX1_deepest_0 0 rfl rfl)
theorem dX1_deepest_1 : decode cX1_deepest 1 = .ok (.iload_n 1, 1) := dk_27 (dk_at dksX1_deepest_0 1 rfl rfl)
theorem dX1_deepest_2 : decode cX1_deepest 2 = .ok (.invokevirtual 104, 3) := dk_182 0 104 (dk_at dksX1_deepest_0 2 rfl rfl)
theorem dX1_deepest_5 : decode cX1_deepest 5 = .ok (.ifCond .eq 10, 3) := dk_153 0 10 (dk_at dksX1_deepest_0 5 rfl rfl)
theorem dX1_deepest_8 : decode cX1_deepest 8 = .ok (.iload_n 2, 1) := dk_28 (dk_at dksX1_deepest_0 8 rfl rfl)
theorem dX1_deepest_9 : decode cX1_deepest 9 = .ok (.invokestatic 351, 3) := dk_184 1 95 (dk_at dksX1_deepest_0 9 rfl rfl)
theorem dX1_deepest_12 : decode cX1_deepest 12 = .ok (.ifCond .ne 5, 3) := dk_154 0 5 (dk_at dksX1_deepest_0 12 rfl rfl)
theorem dX1_deepest_15 : decode cX1_deepest 15 = .ok (.iconst (-1), 1) := dk_2 (dk_at dksX1_deepest_0 15 rfl rfl)
theorem dX1_deepest_16 : decode cX1_deepest 16 = .ok (.ireturn, 1) := dk_172 (dk_at dksX1_deepest_0 16 rfl rfl)
theorem dX1_deepest_17 : decode cX1_deepest 17 = .ok (.aload_n 0, 1) := dk_42 (dk_at dksX1_deepest_0 17 rfl rfl)
theorem dX1_deepest_18 : decode cX1_deepest 18 = .ok (.getfield 16, 3) := dk_180 0 16 (dk_at dksX1_deepest_0 18 rfl rfl)
theorem dX1_deepest_21 : decode cX1_deepest 21 = .ok (.aload_n 0, 1) := dk_42 (dk_at dksX1_deepest_0 21 rfl rfl)
theorem dX1_deepest_22 : decode cX1_deepest 22 = .ok (.getfield 12, 3) := dk_180 0 12 (dk_at dksX1_deepest_1 0 rfl rfl)
theorem dX1_deepest_25 : decode cX1_deepest 25 = .ok (.invokevirtual 282, 3) := dk_182 1 26 (dk_at dksX1_deepest_1 3 rfl rfl)
theorem dX1_deepest_28 : decode cX1_deepest 28 = .ok (.aload_n 0, 1) := dk_42 (dk_at dksX1_deepest_1 6 rfl rfl)
theorem dX1_deepest_29 : decode cX1_deepest 29 = .ok (.getfield 16, 3) := dk_180 0 16 (dk_at dksX1_deepest_1 7 rfl rfl)
theorem dX1_deepest_32 : decode cX1_deepest 32 = .ok (.getfield 241, 3) := dk_180 0 241 (dk_at dksX1_deepest_1 10 rfl rfl)
theorem dX1_deepest_35 : decode cX1_deepest 35 = .ok (.iload_n 1, 1) := dk_27 (dk_at dksX1_deepest_1 13 rfl rfl)
theorem dX1_deepest_36 : decode cX1_deepest 36 = .ok (.iaload, 1) := dk_46 (dk_at dksX1_deepest_1 14 rfl rfl)
theorem dX1_deepest_37 : decode cX1_deepest 37 = .ok (.istore_n 3, 1) := dk_62 (dk_at dksX1_deepest_1 15 rfl rfl)
theorem dX1_deepest_38 : decode cX1_deepest 38 = .ok (.iconst 0, 1) := dk_3 (dk_at dksX1_deepest_1 16 rfl rfl)
theorem dX1_deepest_39 : decode cX1_deepest 39 = .ok (.istore 4, 2) := dk_54 4 (dk_at dksX1_deepest_1 17 rfl rfl)
theorem dX1_deepest_41 : decode cX1_deepest 41 = .ok (.iconst 1, 1) := dk_4 (dk_at dksX1_deepest_1 19 rfl rfl)
theorem dX1_deepest_42 : decode cX1_deepest 42 = .ok (.istore 5, 2) := dk_54 5 (dk_at dksX1_deepest_1 20 rfl rfl)
theorem dX1_deepest_44 : decode cX1_deepest 44 = .ok (.iload 5, 2) := dk_21 5 (dk_at dksX1_deepest_1 22 rfl rfl)
theorem dX1_deepest_46 : decode cX1_deepest 46 = .ok (.iload_n 2, 1) := dk_28 (dk_at dksX1_deepest_2 0 rfl rfl)
theorem dX1_deepest_47 : decode cX1_deepest 47 = .ok (.if_icmp .gt 53, 3) := dk_163 0 53 (dk_at dksX1_deepest_2 1 rfl rfl)
theorem dX1_deepest_50 : decode cX1_deepest 50 = .ok (.aload_n 0, 1) := dk_42 (dk_at dksX1_deepest_2 4 rfl rfl)
theorem dX1_deepest_51 : decode cX1_deepest 51 = .ok (.aload_n 0, 1) := dk_42 (dk_at dksX1_deepest_2 5 rfl rfl)
theorem dX1_deepest_52 : decode cX1_deepest 52 = .ok (.getfield 16, 3) := dk_180 0 16 (dk_at dksX1_deepest_2 6 rfl rfl)
theorem dX1_deepest_55 : decode cX1_deepest 55 = .ok (.invokevirtual 331, 3) := dk_182 1 75 (dk_at dksX1_deepest_2 9 rfl rfl)
theorem dX1_deepest_58 : decode cX1_deepest 58 = .ok (.aload_n 0, 1) := dk_42 (dk_at dksX1_deepest_2 12 rfl rfl)
theorem dX1_deepest_59 : decode cX1_deepest 59 = .ok (.getfield 16, 3) := dk_180 0 16 (dk_at dksX1_deepest_2 13 rfl rfl)
theorem dX1_deepest_62 : decode cX1_deepest 62 = .ok (.getfield 241, 3) := dk_180 0 241 (dk_at dksX1_deepest_2 16 rfl rfl)
theorem dX1_deepest_65 : decode cX1_deepest 65 = .ok (.iload_n 1, 1) := dk_27 (dk_at dksX1_deepest_2 19 rfl rfl)
theorem dX1_deepest_66 : decode cX1_deepest 66 = .ok (.iaload, 1) := dk_46 (dk_at dksX1_deepest_2 20 rfl rfl)
theorem dX1_deepest_67 : decode cX1_deepest 67 = .ok (.iload_n 3, 1) := dk_29 (dk_at dksX1_deepest_2 21 rfl rfl)
theorem dX1_deepest_68 : decode cX1_deepest 68 = .ok (.if_icmp .le 8, 3) := dk_164 0 8 (dk_at dksX1_deepest_3 0 rfl rfl)
theorem dX1_deepest_71 : decode cX1_deepest 71 = .ok (.iload 5, 2) := dk_21 5 (dk_at dksX1_deepest_3 3 rfl rfl)
theorem dX1_deepest_73 : decode cX1_deepest 73 = .ok (.goto 5, 3) := dk_167 0 5 (dk_at dksX1_deepest_3 5 rfl rfl)
theorem dX1_deepest_76 : decode cX1_deepest 76 = .ok (.iload 4, 2) := dk_21 4 (dk_at dksX1_deepest_3 8 rfl rfl)
theorem dX1_deepest_78 : decode cX1_deepest 78 = .ok (.istore 4, 2) := dk_54 4 (dk_at dksX1_deepest_3 10 rfl rfl)
theorem dX1_deepest_80 : decode cX1_deepest 80 = .ok (.iload_n 3, 1) := dk_29 (dk_at dksX1_deepest_3 12 rfl rfl)
theorem dX1_deepest_81 : decode cX1_deepest 81 = .ok (.aload_n 0, 1) := dk_42 (dk_at dksX1_deepest_3 13 rfl rfl)
theorem dX1_deepest_82 : decode cX1_deepest 82 = .ok (.getfield 16, 3) := dk_180 0 16 (dk_at dksX1_deepest_3 14 rfl rfl)
theorem dX1_deepest_85 : decode cX1_deepest 85 = .ok (.getfield 241, 3) := dk_180 0 241 (dk_at dksX1_deepest_3 17 rfl rfl)
theorem dX1_deepest_88 : decode cX1_deepest 88 = .ok (.iload_n 1, 1) := dk_27 (dk_at dksX1_deepest_3 20 rfl rfl)
theorem dX1_deepest_89 : decode cX1_deepest 89 = .ok (.iaload, 1) := dk_46 (dk_at dksX1_deepest_3 21 rfl rfl)
theorem dX1_deepest_90 : decode cX1_deepest 90 = .ok (.invokestatic 115, 3) := dk_184 0 115 (dk_at dksX1_deepest_4 0 rfl rfl)
theorem dX1_deepest_93 : decode cX1_deepest 93 = .ok (.istore_n 3, 1) := dk_62 (dk_at dksX1_deepest_4 3 rfl rfl)
theorem dX1_deepest_94 : decode cX1_deepest 94 = .ok (.iinc 5 1, 3) := dk_132 5 1 (dk_at dksX1_deepest_4 4 rfl rfl)
theorem dX1_deepest_97 : decode cX1_deepest 97 = .ok (.goto (-53), 3) := dk_167 255 203 (dk_at dksX1_deepest_4 7 rfl rfl)
theorem dX1_deepest_100 : decode cX1_deepest 100 = .ok (.aload_n 0, 1) := dk_42 (dk_at dksX1_deepest_4 10 rfl rfl)
theorem dX1_deepest_101 : decode cX1_deepest 101 = .ok (.iconst 0, 1) := dk_3 (dk_at dksX1_deepest_4 11 rfl rfl)
theorem dX1_deepest_102 : decode cX1_deepest 102 = .ok (.putfield 264, 3) := dk_181 1 8 (dk_at dksX1_deepest_4 12 rfl rfl)
theorem dX1_deepest_105 : decode cX1_deepest 105 = .ok (.aload_n 0, 1) := dk_42 (dk_at dksX1_deepest_4 15 rfl rfl)
theorem dX1_deepest_106 : decode cX1_deepest 106 = .ok (.iload 4, 2) := dk_21 4 (dk_at dksX1_deepest_4 16 rfl rfl)
theorem dX1_deepest_108 : decode cX1_deepest 108 = .ok (.invokevirtual 267, 3) := dk_182 1 11 (dk_at dksX1_deepest_4 18 rfl rfl)
theorem dX1_deepest_111 : decode cX1_deepest 111 = .ok (.iload_n 3, 1) := dk_29 (dk_at dksX1_deepest_4 21 rfl rfl)
theorem dX1_deepest_112 : decode cX1_deepest 112 = .ok (.ireturn, 1) := dk_172 (dk_at dksX1_deepest_4 22 rfl rfl)
abbrev cX1_lord : ByteArray := prog_1_method_76_code
def yX1_lord : MethodName := ⟨RX1, "lord", "(I)I"⟩
def dkwX1_lord_4 : List UInt8 := [156, 0, 6, 16, 254, 172, 42, 3, 181, 1, 8, 42, 29, 182, 1, 11, 28, 172]
abbrev dktX1_lord_4 : List UInt8 := dkwX1_lord_4 ++ []
def dkwX1_lord_3 : List UInt8 := [164, 0, 8, 21, 4, 167, 0, 4, 28, 61, 29, 21, 5, 184, 0, 115, 62, 132, 4, 1, 167, 255, 203, 28]
abbrev dktX1_lord_3 : List UInt8 := dkwX1_lord_3 ++ dktX1_lord_4
def dkwX1_lord_2 : List UInt8 := [42, 180, 0, 16, 21, 4, 182, 0, 247, 42, 180, 0, 12, 21, 4, 182, 0, 247, 100, 54, 5, 21, 5, 29]
abbrev dktX1_lord_2 : List UInt8 := dkwX1_lord_2 ++ dktX1_lord_3
def dkwX1_lord_1 : List UInt8 := [180, 0, 16, 27, 182, 1, 98, 16, 254, 61, 3, 62, 3, 54, 4, 21, 4, 42, 180, 0, 96, 162, 0, 50]
abbrev dktX1_lord_1 : List UInt8 := dkwX1_lord_1 ++ dktX1_lord_2
def dkwX1_lord_0 : List UInt8 := [27, 184, 1, 95, 154, 0, 5, 2, 172, 42, 180, 0, 16, 42, 180, 0, 12, 182, 1, 26, 42, 42]
abbrev dktX1_lord_0 : List UInt8 := dkwX1_lord_0 ++ dktX1_lord_1
theorem dksX1_lord_0 : cX1_lord.data.toList.drop 0 = dktX1_lord_0 := by decide +kernel
theorem dksX1_lord_1 : cX1_lord.data.toList.drop 22 = dktX1_lord_1 := dk_seg dksX1_lord_0 22 rfl rfl
theorem dksX1_lord_2 : cX1_lord.data.toList.drop 46 = dktX1_lord_2 := dk_seg dksX1_lord_1 24 rfl rfl
theorem dksX1_lord_3 : cX1_lord.data.toList.drop 70 = dktX1_lord_3 := dk_seg dksX1_lord_2 24 rfl rfl
theorem dksX1_lord_4 : cX1_lord.data.toList.drop 94 = dktX1_lord_4 := dk_seg dksX1_lord_3 24 rfl rfl
theorem dX1_lord_0 : decode cX1_lord 0 = .ok (.iload_n 1, 1) := dk_27 (dk_at dksX1_lord_0 0 rfl rfl)
theorem dX1_lord_1 : decode cX1_lord 1 = .ok (.invokestatic 351, 3) := dk_184 1 95 (dk_at dksX1_lord_0 1 rfl rfl)
theorem dX1_lord_4 : decode cX1_lord 4 = .ok (.ifCond .ne 5, 3) := dk_154 0 5 (dk_at dksX1_lord_0 4 rfl rfl)
theorem dX1_lord_7 : decode cX1_lord 7 = .ok (.iconst (-1), 1) := dk_2 (dk_at dksX1_lord_0 7 rfl rfl)
theorem dX1_lord_8 : decode cX1_lord 8 = .ok (.ireturn, 1) := dk_172 (dk_at dksX1_lord_0 8 rfl rfl)
theorem dX1_lord_9 : decode cX1_lord 9 = .ok (.aload_n 0, 1) := dk_42 (dk_at dksX1_lord_0 9 rfl rfl)
theorem dX1_lord_10 : decode cX1_lord 10 = .ok (.getfield 16, 3) := dk_180 0 16 (dk_at dksX1_lord_0 10 rfl rfl)
theorem dX1_lord_13 : decode cX1_lord 13 = .ok (.aload_n 0, 1) := dk_42 (dk_at dksX1_lord_0 13 rfl rfl)
theorem dX1_lord_14 : decode cX1_lord 14 = .ok (.getfield 12, 3) := dk_180 0 12 (dk_at dksX1_lord_0 14 rfl rfl)
theorem dX1_lord_17 : decode cX1_lord 17 = .ok (.invokevirtual 282, 3) := dk_182 1 26 (dk_at dksX1_lord_0 17 rfl rfl)
theorem dX1_lord_20 : decode cX1_lord 20 = .ok (.aload_n 0, 1) := dk_42 (dk_at dksX1_lord_0 20 rfl rfl)
theorem dX1_lord_21 : decode cX1_lord 21 = .ok (.aload_n 0, 1) := dk_42 (dk_at dksX1_lord_0 21 rfl rfl)
theorem dX1_lord_22 : decode cX1_lord 22 = .ok (.getfield 16, 3) := dk_180 0 16 (dk_at dksX1_lord_1 0 rfl rfl)
theorem dX1_lord_25 : decode cX1_lord 25 = .ok (.iload_n 1, 1) := dk_27 (dk_at dksX1_lord_1 3 rfl rfl)
theorem dX1_lord_26 : decode cX1_lord 26 = .ok (.invokevirtual 354, 3) := dk_182 1 98 (dk_at dksX1_lord_1 4 rfl rfl)
theorem dX1_lord_29 : decode cX1_lord 29 = .ok (.bipush (-2), 2) := dk_16 254 (dk_at dksX1_lord_1 7 rfl rfl)
theorem dX1_lord_31 : decode cX1_lord 31 = .ok (.istore_n 2, 1) := dk_61 (dk_at dksX1_lord_1 9 rfl rfl)
theorem dX1_lord_32 : decode cX1_lord 32 = .ok (.iconst 0, 1) := dk_3 (dk_at dksX1_lord_1 10 rfl rfl)
theorem dX1_lord_33 : decode cX1_lord 33 = .ok (.istore_n 3, 1) := dk_62 (dk_at dksX1_lord_1 11 rfl rfl)
theorem dX1_lord_34 : decode cX1_lord 34 = .ok (.iconst 0, 1) := dk_3 (dk_at dksX1_lord_1 12 rfl rfl)
theorem dX1_lord_35 : decode cX1_lord 35 = .ok (.istore 4, 2) := dk_54 4 (dk_at dksX1_lord_1 13 rfl rfl)
theorem dX1_lord_37 : decode cX1_lord 37 = .ok (.iload 4, 2) := dk_21 4 (dk_at dksX1_lord_1 15 rfl rfl)
theorem dX1_lord_39 : decode cX1_lord 39 = .ok (.aload_n 0, 1) := dk_42 (dk_at dksX1_lord_1 17 rfl rfl)
theorem dX1_lord_40 : decode cX1_lord 40 = .ok (.getfield 96, 3) := dk_180 0 96 (dk_at dksX1_lord_1 18 rfl rfl)
theorem dX1_lord_43 : decode cX1_lord 43 = .ok (.if_icmp .ge 50, 3) := dk_162 0 50 (dk_at dksX1_lord_1 21 rfl rfl)
theorem dX1_lord_46 : decode cX1_lord 46 = .ok (.aload_n 0, 1) := dk_42 (dk_at dksX1_lord_2 0 rfl rfl)
theorem dX1_lord_47 : decode cX1_lord 47 = .ok (.getfield 16, 3) := dk_180 0 16 (dk_at dksX1_lord_2 1 rfl rfl)
theorem dX1_lord_50 : decode cX1_lord 50 = .ok (.iload 4, 2) := dk_21 4 (dk_at dksX1_lord_2 4 rfl rfl)
theorem dX1_lord_52 : decode cX1_lord 52 = .ok (.invokevirtual 247, 3) := dk_182 0 247 (dk_at dksX1_lord_2 6 rfl rfl)
theorem dX1_lord_55 : decode cX1_lord 55 = .ok (.aload_n 0, 1) := dk_42 (dk_at dksX1_lord_2 9 rfl rfl)
theorem dX1_lord_56 : decode cX1_lord 56 = .ok (.getfield 12, 3) := dk_180 0 12 (dk_at dksX1_lord_2 10 rfl rfl)
theorem dX1_lord_59 : decode cX1_lord 59 = .ok (.iload 4, 2) := dk_21 4 (dk_at dksX1_lord_2 13 rfl rfl)
theorem dX1_lord_61 : decode cX1_lord 61 = .ok (.invokevirtual 247, 3) := dk_182 0 247 (dk_at dksX1_lord_2 15 rfl rfl)
theorem dX1_lord_64 : decode cX1_lord 64 = .ok (.isub, 1) := dk_100 (dk_at dksX1_lord_2 18 rfl rfl)
theorem dX1_lord_65 : decode cX1_lord 65 = .ok (.istore 5, 2) := dk_54 5 (dk_at dksX1_lord_2 19 rfl rfl)
theorem dX1_lord_67 : decode cX1_lord 67 = .ok (.iload 5, 2) := dk_21 5 (dk_at dksX1_lord_2 21 rfl rfl)
theorem dX1_lord_69 : decode cX1_lord 69 = .ok (.iload_n 3, 1) := dk_29 (dk_at dksX1_lord_2 23 rfl rfl)
theorem dX1_lord_70 : decode cX1_lord 70 = .ok (.if_icmp .le 8, 3) := dk_164 0 8 (dk_at dksX1_lord_3 0 rfl rfl)
theorem dX1_lord_73 : decode cX1_lord 73 = .ok (.iload 4, 2) := dk_21 4 (dk_at dksX1_lord_3 3 rfl rfl)
theorem dX1_lord_75 : decode cX1_lord 75 = .ok (.goto 4, 3) := dk_167 0 4 (dk_at dksX1_lord_3 5 rfl rfl)
theorem dX1_lord_78 : decode cX1_lord 78 = .ok (.iload_n 2, 1) := dk_28 (dk_at dksX1_lord_3 8 rfl rfl)
theorem dX1_lord_79 : decode cX1_lord 79 = .ok (.istore_n 2, 1) := dk_61 (dk_at dksX1_lord_3 9 rfl rfl)
theorem dX1_lord_80 : decode cX1_lord 80 = .ok (.iload_n 3, 1) := dk_29 (dk_at dksX1_lord_3 10 rfl rfl)
theorem dX1_lord_81 : decode cX1_lord 81 = .ok (.iload 5, 2) := dk_21 5 (dk_at dksX1_lord_3 11 rfl rfl)
theorem dX1_lord_83 : decode cX1_lord 83 = .ok (.invokestatic 115, 3) := dk_184 0 115 (dk_at dksX1_lord_3 13 rfl rfl)
theorem dX1_lord_86 : decode cX1_lord 86 = .ok (.istore_n 3, 1) := dk_62 (dk_at dksX1_lord_3 16 rfl rfl)
theorem dX1_lord_87 : decode cX1_lord 87 = .ok (.iinc 4 1, 3) := dk_132 4 1 (dk_at dksX1_lord_3 17 rfl rfl)
theorem dX1_lord_90 : decode cX1_lord 90 = .ok (.goto (-53), 3) := dk_167 255 203 (dk_at dksX1_lord_3 20 rfl rfl)
theorem dX1_lord_93 : decode cX1_lord 93 = .ok (.iload_n 2, 1) := dk_28 (dk_at dksX1_lord_3 23 rfl rfl)
theorem dX1_lord_94 : decode cX1_lord 94 = .ok (.ifCond .ge 6, 3) := dk_156 0 6 (dk_at dksX1_lord_4 0 rfl rfl)
theorem dX1_lord_97 : decode cX1_lord 97 = .ok (.bipush (-2), 2) := dk_16 254 (dk_at dksX1_lord_4 3 rfl rfl)
theorem dX1_lord_99 : decode cX1_lord 99 = .ok (.ireturn, 1) := dk_172 (dk_at dksX1_lord_4 5 rfl rfl)
theorem dX1_lord_100 : decode cX1_lord 100 = .ok (.aload_n 0, 1) := dk_42 (dk_at dksX1_lord_4 6 rfl rfl)
theorem dX1_lord_101 : decode cX1_lord 101 = .ok (.iconst 0, 1) := dk_3 (dk_at dksX1_lord_4 7 rfl rfl)
theorem dX1_lord_102 : decode cX1_lord 102 = .ok (.putfield 264, 3) := dk_181 1 8 (dk_at dksX1_lord_4 8 rfl rfl)
theorem dX1_lord_105 : decode cX1_lord 105 = .ok (.aload_n 0, 1) := dk_42 (dk_at dksX1_lord_4 11 rfl rfl)
theorem dX1_lord_106 : decode cX1_lord 106 = .ok (.iload_n 3, 1) := dk_29 (dk_at dksX1_lord_4 12 rfl rfl)
theorem dX1_lord_107 : decode cX1_lord 107 = .ok (.invokevirtual 267, 3) := dk_182 1 11 (dk_at dksX1_lord_4 13 rfl rfl)
theorem dX1_lord_110 : decode cX1_lord 110 = .ok (.iload_n 2, 1) := dk_28 (dk_at dksX1_lord_4 16 rfl rfl)
theorem dX1_lord_111 : decode cX1_lord 111 = .ok (.ireturn, 1) := dk_172 (dk_at dksX1_lord_4 17 rfl rfl)
abbrev cX1_worst : ByteArray := prog_1_method_77_code
def yX1_worst : MethodName := ⟨RX1, "worst", "(I)I"⟩
def dkwX1_worst_4 : List UInt8 := [28, 156, 0, 6, 16, 254, 172, 42, 3, 181, 1, 8, 42, 29, 182, 1, 11, 28, 172]
abbrev dktX1_worst_4 : List UInt8 := dkwX1_worst_4 ++ []
def dkwX1_worst_3 : List UInt8 := [29, 164, 0, 8, 21, 4, 167, 0, 4, 28, 61, 29, 21, 6, 184, 0, 115, 62, 132, 4, 1, 167, 255, 198]
abbrev dktX1_worst_3 : List UInt8 := dkwX1_worst_3 ++ dktX1_worst_4
def dkwX1_worst_2 : List UInt8 := [54, 5, 42, 42, 180, 0, 16, 182, 1, 75, 42, 180, 0, 16, 180, 1, 29, 21, 5, 100, 54, 6, 21, 6]
abbrev dktX1_worst_2 : List UInt8 := dkwX1_worst_2 ++ dktX1_worst_3
def dkwX1_worst_1 : List UInt8 := [182, 1, 26, 16, 254, 61, 3, 62, 4, 54, 4, 21, 4, 27, 163, 0, 58, 42, 180, 0, 16, 180, 1, 29]
abbrev dktX1_worst_1 : List UInt8 := dkwX1_worst_1 ++ dktX1_worst_2
def dkwX1_worst_0 : List UInt8 := [27, 133, 10, 20, 1, 93, 184, 0, 100, 154, 0, 5, 2, 172, 42, 180, 0, 16, 42, 180, 0, 12]
abbrev dktX1_worst_0 : List UInt8 := dkwX1_worst_0 ++ dktX1_worst_1
theorem dksX1_worst_0 : cX1_worst.data.toList.drop 0 = dktX1_worst_0 := by decide +kernel
theorem dksX1_worst_1 : cX1_worst.data.toList.drop 22 = dktX1_worst_1 := dk_seg dksX1_worst_0 22 rfl rfl
theorem dksX1_worst_2 : cX1_worst.data.toList.drop 46 = dktX1_worst_2 := dk_seg dksX1_worst_1 24 rfl rfl
theorem dksX1_worst_3 : cX1_worst.data.toList.drop 70 = dktX1_worst_3 := dk_seg dksX1_worst_2 24 rfl rfl
theorem dksX1_worst_4 : cX1_worst.data.toList.drop 94 = dktX1_worst_4 := dk_seg dksX1_worst_3 24 rfl rfl
theorem dX1_worst_0 : decode cX1_worst 0 = .ok (.iload_n 1, 1) := dk_27 (dk_at dksX1_worst_0 0 rfl rfl)
theorem dX1_worst_1 : decode cX1_worst 1 = .ok (.i2l, 1) := dk_133 (dk_at dksX1_worst_0 1 rfl rfl)
theorem dX1_worst_2 : decode cX1_worst 2 = .ok (.lconst 1, 1) := dk_10 (dk_at dksX1_worst_0 2 rfl rfl)
theorem dX1_worst_3 : decode cX1_worst 3 = .ok (.ldc2_w 349, 3) := dk_20 1 93 (dk_at dksX1_worst_0 3 rfl rfl)
theorem dX1_worst_6 : decode cX1_worst 6 = .ok (.invokestatic 100, 3) := dk_184 0 100 (dk_at dksX1_worst_0 6 rfl rfl)
theorem dX1_worst_9 : decode cX1_worst 9 = .ok (.ifCond .ne 5, 3) := dk_154 0 5 (dk_at dksX1_worst_0 9 rfl rfl)
theorem dX1_worst_12 : decode cX1_worst 12 = .ok (.iconst (-1), 1) := dk_2 (dk_at dksX1_worst_0 12 rfl rfl)
theorem dX1_worst_13 : decode cX1_worst 13 = .ok (.ireturn, 1) := dk_172 (dk_at dksX1_worst_0 13 rfl rfl)
theorem dX1_worst_14 : decode cX1_worst 14 = .ok (.aload_n 0, 1) := dk_42 (dk_at dksX1_worst_0 14 rfl rfl)
theorem dX1_worst_15 : decode cX1_worst 15 = .ok (.getfield 16, 3) := dk_180 0 16 (dk_at dksX1_worst_0 15 rfl rfl)
theorem dX1_worst_18 : decode cX1_worst 18 = .ok (.aload_n 0, 1) := dk_42 (dk_at dksX1_worst_0 18 rfl rfl)
theorem dX1_worst_19 : decode cX1_worst 19 = .ok (.getfield 12, 3) := dk_180 0 12 (dk_at dksX1_worst_0 19 rfl rfl)
theorem dX1_worst_22 : decode cX1_worst 22 = .ok (.invokevirtual 282, 3) := dk_182 1 26 (dk_at dksX1_worst_1 0 rfl rfl)
theorem dX1_worst_25 : decode cX1_worst 25 = .ok (.bipush (-2), 2) := dk_16 254 (dk_at dksX1_worst_1 3 rfl rfl)
theorem dX1_worst_27 : decode cX1_worst 27 = .ok (.istore_n 2, 1) := dk_61 (dk_at dksX1_worst_1 5 rfl rfl)
theorem dX1_worst_28 : decode cX1_worst 28 = .ok (.iconst 0, 1) := dk_3 (dk_at dksX1_worst_1 6 rfl rfl)
theorem dX1_worst_29 : decode cX1_worst 29 = .ok (.istore_n 3, 1) := dk_62 (dk_at dksX1_worst_1 7 rfl rfl)
theorem dX1_worst_30 : decode cX1_worst 30 = .ok (.iconst 1, 1) := dk_4 (dk_at dksX1_worst_1 8 rfl rfl)
theorem dX1_worst_31 : decode cX1_worst 31 = .ok (.istore 4, 2) := dk_54 4 (dk_at dksX1_worst_1 9 rfl rfl)
theorem dX1_worst_33 : decode cX1_worst 33 = .ok (.iload 4, 2) := dk_21 4 (dk_at dksX1_worst_1 11 rfl rfl)
theorem dX1_worst_35 : decode cX1_worst 35 = .ok (.iload_n 1, 1) := dk_27 (dk_at dksX1_worst_1 13 rfl rfl)
theorem dX1_worst_36 : decode cX1_worst 36 = .ok (.if_icmp .gt 58, 3) := dk_163 0 58 (dk_at dksX1_worst_1 14 rfl rfl)
theorem dX1_worst_39 : decode cX1_worst 39 = .ok (.aload_n 0, 1) := dk_42 (dk_at dksX1_worst_1 17 rfl rfl)
theorem dX1_worst_40 : decode cX1_worst 40 = .ok (.getfield 16, 3) := dk_180 0 16 (dk_at dksX1_worst_1 18 rfl rfl)
theorem dX1_worst_43 : decode cX1_worst 43 = .ok (.getfield 285, 3) := dk_180 1 29 (dk_at dksX1_worst_1 21 rfl rfl)
theorem dX1_worst_46 : decode cX1_worst 46 = .ok (.istore 5, 2) := dk_54 5 (dk_at dksX1_worst_2 0 rfl rfl)
theorem dX1_worst_48 : decode cX1_worst 48 = .ok (.aload_n 0, 1) := dk_42 (dk_at dksX1_worst_2 2 rfl rfl)
theorem dX1_worst_49 : decode cX1_worst 49 = .ok (.aload_n 0, 1) := dk_42 (dk_at dksX1_worst_2 3 rfl rfl)
theorem dX1_worst_50 : decode cX1_worst 50 = .ok (.getfield 16, 3) := dk_180 0 16 (dk_at dksX1_worst_2 4 rfl rfl)
theorem dX1_worst_53 : decode cX1_worst 53 = .ok (.invokevirtual 331, 3) := dk_182 1 75 (dk_at dksX1_worst_2 7 rfl rfl)
theorem dX1_worst_56 : decode cX1_worst 56 = .ok (.aload_n 0, 1) := dk_42 (dk_at dksX1_worst_2 10 rfl rfl)
theorem dX1_worst_57 : decode cX1_worst 57 = .ok (.getfield 16, 3) := dk_180 0 16 (dk_at dksX1_worst_2 11 rfl rfl)
theorem dX1_worst_60 : decode cX1_worst 60 = .ok (.getfield 285, 3) := dk_180 1 29 (dk_at dksX1_worst_2 14 rfl rfl)
theorem dX1_worst_63 : decode cX1_worst 63 = .ok (.iload 5, 2) := dk_21 5 (dk_at dksX1_worst_2 17 rfl rfl)
theorem dX1_worst_65 : decode cX1_worst 65 = .ok (.isub, 1) := dk_100 (dk_at dksX1_worst_2 19 rfl rfl)
theorem dX1_worst_66 : decode cX1_worst 66 = .ok (.istore 6, 2) := dk_54 6 (dk_at dksX1_worst_2 20 rfl rfl)
theorem dX1_worst_68 : decode cX1_worst 68 = .ok (.iload 6, 2) := dk_21 6 (dk_at dksX1_worst_2 22 rfl rfl)
theorem dX1_worst_70 : decode cX1_worst 70 = .ok (.iload_n 3, 1) := dk_29 (dk_at dksX1_worst_3 0 rfl rfl)
theorem dX1_worst_71 : decode cX1_worst 71 = .ok (.if_icmp .le 8, 3) := dk_164 0 8 (dk_at dksX1_worst_3 1 rfl rfl)
theorem dX1_worst_74 : decode cX1_worst 74 = .ok (.iload 4, 2) := dk_21 4 (dk_at dksX1_worst_3 4 rfl rfl)
theorem dX1_worst_76 : decode cX1_worst 76 = .ok (.goto 4, 3) := dk_167 0 4 (dk_at dksX1_worst_3 6 rfl rfl)
theorem dX1_worst_79 : decode cX1_worst 79 = .ok (.iload_n 2, 1) := dk_28 (dk_at dksX1_worst_3 9 rfl rfl)
theorem dX1_worst_80 : decode cX1_worst 80 = .ok (.istore_n 2, 1) := dk_61 (dk_at dksX1_worst_3 10 rfl rfl)
theorem dX1_worst_81 : decode cX1_worst 81 = .ok (.iload_n 3, 1) := dk_29 (dk_at dksX1_worst_3 11 rfl rfl)
theorem dX1_worst_82 : decode cX1_worst 82 = .ok (.iload 6, 2) := dk_21 6 (dk_at dksX1_worst_3 12 rfl rfl)
theorem dX1_worst_84 : decode cX1_worst 84 = .ok (.invokestatic 115, 3) := dk_184 0 115 (dk_at dksX1_worst_3 14 rfl rfl)
theorem dX1_worst_87 : decode cX1_worst 87 = .ok (.istore_n 3, 1) := dk_62 (dk_at dksX1_worst_3 17 rfl rfl)
theorem dX1_worst_88 : decode cX1_worst 88 = .ok (.iinc 4 1, 3) := dk_132 4 1 (dk_at dksX1_worst_3 18 rfl rfl)
theorem dX1_worst_91 : decode cX1_worst 91 = .ok (.goto (-58), 3) := dk_167 255 198 (dk_at dksX1_worst_3 21 rfl rfl)
theorem dX1_worst_94 : decode cX1_worst 94 = .ok (.iload_n 2, 1) := dk_28 (dk_at dksX1_worst_4 0 rfl rfl)
theorem dX1_worst_95 : decode cX1_worst 95 = .ok (.ifCond .ge 6, 3) := dk_156 0 6 (dk_at dksX1_worst_4 1 rfl rfl)
theorem dX1_worst_98 : decode cX1_worst 98 = .ok (.bipush (-2), 2) := dk_16 254 (dk_at dksX1_worst_4 4 rfl rfl)
theorem dX1_worst_100 : decode cX1_worst 100 = .ok (.ireturn, 1) := dk_172 (dk_at dksX1_worst_4 6 rfl rfl)
theorem dX1_worst_101 : decode cX1_worst 101 = .ok (.aload_n 0, 1) := dk_42 (dk_at dksX1_worst_4 7 rfl rfl)
theorem dX1_worst_102 : decode cX1_worst 102 = .ok (.iconst 0, 1) := dk_3 (dk_at dksX1_worst_4 8 rfl rfl)
theorem dX1_worst_103 : decode cX1_worst 103 = .ok (.putfield 264, 3) := dk_181 1 8 (dk_at dksX1_worst_4 9 rfl rfl)
theorem dX1_worst_106 : decode cX1_worst 106 = .ok (.aload_n 0, 1) := dk_42 (dk_at dksX1_worst_4 12 rfl rfl)
theorem dX1_worst_107 : decode cX1_worst 107 = .ok (.iload_n 3, 1) := dk_29 (dk_at dksX1_worst_4 13 rfl rfl)
theorem dX1_worst_108 : decode cX1_worst 108 = .ok (.invokevirtual 267, 3) := dk_182 1 11 (dk_at dksX1_worst_4 14 rfl rfl)
theorem dX1_worst_111 : decode cX1_worst 111 = .ok (.iload_n 2, 1) := dk_28 (dk_at dksX1_worst_4 17 rfl rfl)
theorem dX1_worst_112 : decode cX1_worst 112 = .ok (.ireturn, 1) := dk_172 (dk_at dksX1_worst_4 18 rfl rfl)
abbrev cX1_melt : ByteArray := prog_1_method_78_code
def yX1_melt : MethodName := ⟨RX1, "melt", "()I"⟩
def dkwX1_melt_2 : List UInt8 := [132, 1, 1, 167, 255, 219, 16, 254, 172]
abbrev dktX1_melt_2 : List UInt8 := dkwX1_melt_2 ++ []
def dkwX1_melt_1 : List UInt8 := [182, 1, 155, 42, 180, 0, 16, 182, 1, 81, 96, 154, 0, 5, 27, 172, 42, 42, 180, 0, 16, 182, 1, 75]
abbrev dktX1_melt_1 : List UInt8 := dkwX1_melt_1 ++ dktX1_melt_2
def dkwX1_melt_0 : List UInt8 := [42, 180, 0, 16, 42, 180, 0, 12, 182, 1, 26, 3, 60, 27, 16, 60, 163, 0, 37, 42, 180, 0, 16]
abbrev dktX1_melt_0 : List UInt8 := dkwX1_melt_0 ++ dktX1_melt_1
theorem dksX1_melt_0 : cX1_melt.data.toList.drop 0 = dktX1_melt_0 := by decide +kernel
theorem dksX1_melt_1 : cX1_melt.data.toList.drop 23 = dktX1_melt_1 := dk_seg dksX1_melt_0 23 rfl rfl
theorem dksX1_melt_2 : cX1_melt.data.toList.drop 47 = dktX1_melt_2 := dk_seg dksX1_melt_1 24 rfl rfl
theorem dX1_melt_0 : decode cX1_melt 0 = .ok (.aload_n 0, 1) := dk_42 (dk_at dksX1_melt_0 0 rfl rfl)
theorem dX1_melt_1 : decode cX1_melt 1 = .ok (.getfield 16, 3) := dk_180 0 16 (dk_at dksX1_melt_0 1 rfl rfl)
theorem dX1_melt_4 : decode cX1_melt 4 = .ok (.aload_n 0, 1) := dk_42 (dk_at dksX1_melt_0 4 rfl rfl)
theorem dX1_melt_5 : decode cX1_melt 5 = .ok (.getfield 12, 3) := dk_180 0 12 (dk_at dksX1_melt_0 5 rfl rfl)
theorem dX1_melt_8 : decode cX1_melt 8 = .ok (.invokevirtual 282, 3) := dk_182 1 26 (dk_at dksX1_melt_0 8 rfl rfl)
theorem dX1_melt_11 : decode cX1_melt 11 = .ok (.iconst 0, 1) := dk_3 (dk_at dksX1_melt_0 11 rfl rfl)
theorem dX1_melt_12 : decode cX1_melt 12 = .ok (.istore_n 1, 1) := dk_60 (dk_at dksX1_melt_0 12 rfl rfl)
theorem dX1_melt_13 : decode cX1_melt 13 = .ok (.iload_n 1, 1) := dk_27 (dk_at dksX1_melt_0 13 rfl rfl)
theorem dX1_melt_14 : decode cX1_melt 14 = .ok (.bipush 60, 2) := dk_16 60 (dk_at dksX1_melt_0 14 rfl rfl)
theorem dX1_melt_16 : decode cX1_melt 16 = .ok (.if_icmp .gt 37, 3) := dk_163 0 37 (dk_at dksX1_melt_0 16 rfl rfl)
theorem dX1_melt_19 : decode cX1_melt 19 = .ok (.aload_n 0, 1) := dk_42 (dk_at dksX1_melt_0 19 rfl rfl)
theorem dX1_melt_20 : decode cX1_melt 20 = .ok (.getfield 16, 3) := dk_180 0 16 (dk_at dksX1_melt_0 20 rfl rfl)
theorem dX1_melt_23 : decode cX1_melt 23 = .ok (.invokevirtual 411, 3) := dk_182 1 155 (dk_at dksX1_melt_1 0 rfl rfl)
theorem dX1_melt_26 : decode cX1_melt 26 = .ok (.aload_n 0, 1) := dk_42 (dk_at dksX1_melt_1 3 rfl rfl)
theorem dX1_melt_27 : decode cX1_melt 27 = .ok (.getfield 16, 3) := dk_180 0 16 (dk_at dksX1_melt_1 4 rfl rfl)
theorem dX1_melt_30 : decode cX1_melt 30 = .ok (.invokevirtual 337, 3) := dk_182 1 81 (dk_at dksX1_melt_1 7 rfl rfl)
theorem dX1_melt_33 : decode cX1_melt 33 = .ok (.iadd, 1) := dk_96 (dk_at dksX1_melt_1 10 rfl rfl)
theorem dX1_melt_34 : decode cX1_melt 34 = .ok (.ifCond .ne 5, 3) := dk_154 0 5 (dk_at dksX1_melt_1 11 rfl rfl)
theorem dX1_melt_37 : decode cX1_melt 37 = .ok (.iload_n 1, 1) := dk_27 (dk_at dksX1_melt_1 14 rfl rfl)
theorem dX1_melt_38 : decode cX1_melt 38 = .ok (.ireturn, 1) := dk_172 (dk_at dksX1_melt_1 15 rfl rfl)
theorem dX1_melt_39 : decode cX1_melt 39 = .ok (.aload_n 0, 1) := dk_42 (dk_at dksX1_melt_1 16 rfl rfl)
theorem dX1_melt_40 : decode cX1_melt 40 = .ok (.aload_n 0, 1) := dk_42 (dk_at dksX1_melt_1 17 rfl rfl)
theorem dX1_melt_41 : decode cX1_melt 41 = .ok (.getfield 16, 3) := dk_180 0 16 (dk_at dksX1_melt_1 18 rfl rfl)
theorem dX1_melt_44 : decode cX1_melt 44 = .ok (.invokevirtual 331, 3) := dk_182 1 75 (dk_at dksX1_melt_1 21 rfl rfl)
theorem dX1_melt_47 : decode cX1_melt 47 = .ok (.iinc 1 1, 3) := dk_132 1 1 (dk_at dksX1_melt_2 0 rfl rfl)
theorem dX1_melt_50 : decode cX1_melt 50 = .ok (.goto (-37), 3) := dk_167 255 219 (dk_at dksX1_melt_2 3 rfl rfl)
theorem dX1_melt_53 : decode cX1_melt 53 = .ok (.bipush (-2), 2) := dk_16 254 (dk_at dksX1_melt_2 6 rfl rfl)
theorem dX1_melt_55 : decode cX1_melt 55 = .ok (.ireturn, 1) := dk_172 (dk_at dksX1_melt_2 8 rfl rfl)
abbrev cX1_lazy : ByteArray := prog_1_method_79_code
def yX1_lazy : MethodName := ⟨RX1, "lazy", "(I)I"⟩
def dkwX1_lazy_4 : List UInt8 := [2, 130, 126, 182, 1, 11, 28, 172]
abbrev dktX1_lazy_4 : List UInt8 := dkwX1_lazy_4 ++ []
def dkwX1_lazy_3 : List UInt8 := [132, 3, 1, 167, 255, 223, 42, 3, 181, 1, 8, 42, 4, 42, 180, 0, 96, 120, 4, 100, 42, 180, 1, 32]
abbrev dktX1_lazy_3 : List UInt8 := dkwX1_lazy_3 ++ dktX1_lazy_4
def dkwX1_lazy_2 : List UInt8 := [28, 42, 180, 0, 16, 180, 1, 68, 29, 46, 154, 0, 9, 4, 29, 120, 167, 0, 4, 3, 128, 61]
abbrev dktX1_lazy_2 : List UInt8 := dkwX1_lazy_2 ++ dktX1_lazy_3
def dkwX1_lazy_1 : List UInt8 := [181, 1, 32, 42, 42, 180, 0, 16, 27, 182, 1, 98, 3, 61, 3, 62, 29, 42, 180, 0, 96, 162, 0, 31]
abbrev dktX1_lazy_1 : List UInt8 := dkwX1_lazy_1 ++ dktX1_lazy_2
def dkwX1_lazy_0 : List UInt8 := [27, 184, 1, 95, 154, 0, 5, 2, 172, 42, 180, 0, 16, 42, 180, 0, 12, 182, 1, 26, 42, 3]
abbrev dktX1_lazy_0 : List UInt8 := dkwX1_lazy_0 ++ dktX1_lazy_1
theorem dksX1_lazy_0 : cX1_lazy.data.toList.drop 0 = dktX1_lazy_0 := by decide +kernel
theorem dksX1_lazy_1 : cX1_lazy.data.toList.drop 22 = dktX1_lazy_1 := dk_seg dksX1_lazy_0 22 rfl rfl
theorem dksX1_lazy_2 : cX1_lazy.data.toList.drop 46 = dktX1_lazy_2 := dk_seg dksX1_lazy_1 24 rfl rfl
theorem dksX1_lazy_3 : cX1_lazy.data.toList.drop 68 = dktX1_lazy_3 := dk_seg dksX1_lazy_2 22 rfl rfl
theorem dksX1_lazy_4 : cX1_lazy.data.toList.drop 92 = dktX1_lazy_4 := dk_seg dksX1_lazy_3 24 rfl rfl
theorem dX1_lazy_0 : decode cX1_lazy 0 = .ok (.iload_n 1, 1) := dk_27 (dk_at dksX1_lazy_0 0 rfl rfl)
theorem dX1_lazy_1 : decode cX1_lazy 1 = .ok (.invokestatic 351, 3) := dk_184 1 95 (dk_at dksX1_lazy_0 1 rfl rfl)
theorem dX1_lazy_4 : decode cX1_lazy 4 = .ok (.ifCond .ne 5, 3) := dk_154 0 5 (dk_at dksX1_lazy_0 4 rfl rfl)
theorem dX1_lazy_7 : decode cX1_lazy 7 = .ok (.iconst (-1), 1) := dk_2 (dk_at dksX1_lazy_0 7 rfl rfl)
theorem dX1_lazy_8 : decode cX1_lazy 8 = .ok (.ireturn, 1) := dk_172 (dk_at dksX1_lazy_0 8 rfl rfl)
theorem dX1_lazy_9 : decode cX1_lazy 9 = .ok (.aload_n 0, 1) := dk_42 (dk_at dksX1_lazy_0 9 rfl rfl)
theorem dX1_lazy_10 : decode cX1_lazy 10 = .ok (.getfield 16, 3) := dk_180 0 16 (dk_at dksX1_lazy_0 10 rfl rfl)
theorem dX1_lazy_13 : decode cX1_lazy 13 = .ok (.aload_n 0, 1) := dk_42 (dk_at dksX1_lazy_0 13 rfl rfl)
theorem dX1_lazy_14 : decode cX1_lazy 14 = .ok (.getfield 12, 3) := dk_180 0 12 (dk_at dksX1_lazy_0 14 rfl rfl)
theorem dX1_lazy_17 : decode cX1_lazy 17 = .ok (.invokevirtual 282, 3) := dk_182 1 26 (dk_at dksX1_lazy_0 17 rfl rfl)
theorem dX1_lazy_20 : decode cX1_lazy 20 = .ok (.aload_n 0, 1) := dk_42 (dk_at dksX1_lazy_0 20 rfl rfl)
theorem dX1_lazy_21 : decode cX1_lazy 21 = .ok (.iconst 0, 1) := dk_3 (dk_at dksX1_lazy_0 21 rfl rfl)
theorem dX1_lazy_22 : decode cX1_lazy 22 = .ok (.putfield 288, 3) := dk_181 1 32 (dk_at dksX1_lazy_1 0 rfl rfl)
theorem dX1_lazy_25 : decode cX1_lazy 25 = .ok (.aload_n 0, 1) := dk_42 (dk_at dksX1_lazy_1 3 rfl rfl)
theorem dX1_lazy_26 : decode cX1_lazy 26 = .ok (.aload_n 0, 1) := dk_42 (dk_at dksX1_lazy_1 4 rfl rfl)
theorem dX1_lazy_27 : decode cX1_lazy 27 = .ok (.getfield 16, 3) := dk_180 0 16 (dk_at dksX1_lazy_1 5 rfl rfl)
theorem dX1_lazy_30 : decode cX1_lazy 30 = .ok (.iload_n 1, 1) := dk_27 (dk_at dksX1_lazy_1 8 rfl rfl)
theorem dX1_lazy_31 : decode cX1_lazy 31 = .ok (.invokevirtual 354, 3) := dk_182 1 98 (dk_at dksX1_lazy_1 9 rfl rfl)
theorem dX1_lazy_34 : decode cX1_lazy 34 = .ok (.iconst 0, 1) := dk_3 (dk_at dksX1_lazy_1 12 rfl rfl)
theorem dX1_lazy_35 : decode cX1_lazy 35 = .ok (.istore_n 2, 1) := dk_61 (dk_at dksX1_lazy_1 13 rfl rfl)
theorem dX1_lazy_36 : decode cX1_lazy 36 = .ok (.iconst 0, 1) := dk_3 (dk_at dksX1_lazy_1 14 rfl rfl)
theorem dX1_lazy_37 : decode cX1_lazy 37 = .ok (.istore_n 3, 1) := dk_62 (dk_at dksX1_lazy_1 15 rfl rfl)
theorem dX1_lazy_38 : decode cX1_lazy 38 = .ok (.iload_n 3, 1) := dk_29 (dk_at dksX1_lazy_1 16 rfl rfl)
theorem dX1_lazy_39 : decode cX1_lazy 39 = .ok (.aload_n 0, 1) := dk_42 (dk_at dksX1_lazy_1 17 rfl rfl)
theorem dX1_lazy_40 : decode cX1_lazy 40 = .ok (.getfield 96, 3) := dk_180 0 96 (dk_at dksX1_lazy_1 18 rfl rfl)
theorem dX1_lazy_43 : decode cX1_lazy 43 = .ok (.if_icmp .ge 31, 3) := dk_162 0 31 (dk_at dksX1_lazy_1 21 rfl rfl)
theorem dX1_lazy_46 : decode cX1_lazy 46 = .ok (.iload_n 2, 1) := dk_28 (dk_at dksX1_lazy_2 0 rfl rfl)
theorem dX1_lazy_47 : decode cX1_lazy 47 = .ok (.aload_n 0, 1) := dk_42 (dk_at dksX1_lazy_2 1 rfl rfl)
theorem dX1_lazy_48 : decode cX1_lazy 48 = .ok (.getfield 16, 3) := dk_180 0 16 (dk_at dksX1_lazy_2 2 rfl rfl)
theorem dX1_lazy_51 : decode cX1_lazy 51 = .ok (.getfield 324, 3) := dk_180 1 68 (dk_at dksX1_lazy_2 5 rfl rfl)
theorem dX1_lazy_54 : decode cX1_lazy 54 = .ok (.iload_n 3, 1) := dk_29 (dk_at dksX1_lazy_2 8 rfl rfl)
theorem dX1_lazy_55 : decode cX1_lazy 55 = .ok (.iaload, 1) := dk_46 (dk_at dksX1_lazy_2 9 rfl rfl)
theorem dX1_lazy_56 : decode cX1_lazy 56 = .ok (.ifCond .ne 9, 3) := dk_154 0 9 (dk_at dksX1_lazy_2 10 rfl rfl)
theorem dX1_lazy_59 : decode cX1_lazy 59 = .ok (.iconst 1, 1) := dk_4 (dk_at dksX1_lazy_2 13 rfl rfl)
theorem dX1_lazy_60 : decode cX1_lazy 60 = .ok (.iload_n 3, 1) := dk_29 (dk_at dksX1_lazy_2 14 rfl rfl)
theorem dX1_lazy_61 : decode cX1_lazy 61 = .ok (.ishl, 1) := dk_120 (dk_at dksX1_lazy_2 15 rfl rfl)
theorem dX1_lazy_62 : decode cX1_lazy 62 = .ok (.goto 4, 3) := dk_167 0 4 (dk_at dksX1_lazy_2 16 rfl rfl)
theorem dX1_lazy_65 : decode cX1_lazy 65 = .ok (.iconst 0, 1) := dk_3 (dk_at dksX1_lazy_2 19 rfl rfl)
theorem dX1_lazy_66 : decode cX1_lazy 66 = .ok (.ior, 1) := dk_128 (dk_at dksX1_lazy_2 20 rfl rfl)
theorem dX1_lazy_67 : decode cX1_lazy 67 = .ok (.istore_n 2, 1) := dk_61 (dk_at dksX1_lazy_2 21 rfl rfl)
theorem dX1_lazy_68 : decode cX1_lazy 68 = .ok (.iinc 3 1, 3) := dk_132 3 1 (dk_at dksX1_lazy_3 0 rfl rfl)
theorem dX1_lazy_71 : decode cX1_lazy 71 = .ok (.goto (-33), 3) := dk_167 255 223 (dk_at dksX1_lazy_3 3 rfl rfl)
theorem dX1_lazy_74 : decode cX1_lazy 74 = .ok (.aload_n 0, 1) := dk_42 (dk_at dksX1_lazy_3 6 rfl rfl)
theorem dX1_lazy_75 : decode cX1_lazy 75 = .ok (.iconst 0, 1) := dk_3 (dk_at dksX1_lazy_3 7 rfl rfl)
theorem dX1_lazy_76 : decode cX1_lazy 76 = .ok (.putfield 264, 3) := dk_181 1 8 (dk_at dksX1_lazy_3 8 rfl rfl)
theorem dX1_lazy_79 : decode cX1_lazy 79 = .ok (.aload_n 0, 1) := dk_42 (dk_at dksX1_lazy_3 11 rfl rfl)
theorem dX1_lazy_80 : decode cX1_lazy 80 = .ok (.iconst 1, 1) := dk_4 (dk_at dksX1_lazy_3 12 rfl rfl)
theorem dX1_lazy_81 : decode cX1_lazy 81 = .ok (.aload_n 0, 1) := dk_42 (dk_at dksX1_lazy_3 13 rfl rfl)
theorem dX1_lazy_82 : decode cX1_lazy 82 = .ok (.getfield 96, 3) := dk_180 0 96 (dk_at dksX1_lazy_3 14 rfl rfl)
theorem dX1_lazy_85 : decode cX1_lazy 85 = .ok (.ishl, 1) := dk_120 (dk_at dksX1_lazy_3 17 rfl rfl)
theorem dX1_lazy_86 : decode cX1_lazy 86 = .ok (.iconst 1, 1) := dk_4 (dk_at dksX1_lazy_3 18 rfl rfl)
theorem dX1_lazy_87 : decode cX1_lazy 87 = .ok (.isub, 1) := dk_100 (dk_at dksX1_lazy_3 19 rfl rfl)
theorem dX1_lazy_88 : decode cX1_lazy 88 = .ok (.aload_n 0, 1) := dk_42 (dk_at dksX1_lazy_3 20 rfl rfl)
theorem dX1_lazy_89 : decode cX1_lazy 89 = .ok (.getfield 288, 3) := dk_180 1 32 (dk_at dksX1_lazy_3 21 rfl rfl)
theorem dX1_lazy_92 : decode cX1_lazy 92 = .ok (.iconst (-1), 1) := dk_2 (dk_at dksX1_lazy_4 0 rfl rfl)
theorem dX1_lazy_93 : decode cX1_lazy 93 = .ok (.ixor, 1) := dk_130 (dk_at dksX1_lazy_4 1 rfl rfl)
theorem dX1_lazy_94 : decode cX1_lazy 94 = .ok (.iand, 1) := dk_126 (dk_at dksX1_lazy_4 2 rfl rfl)
theorem dX1_lazy_95 : decode cX1_lazy 95 = .ok (.invokevirtual 267, 3) := dk_182 1 11 (dk_at dksX1_lazy_4 3 rfl rfl)
theorem dX1_lazy_98 : decode cX1_lazy 98 = .ok (.iload_n 2, 1) := dk_28 (dk_at dksX1_lazy_4 6 rfl rfl)
theorem dX1_lazy_99 : decode cX1_lazy 99 = .ok (.ireturn, 1) := dk_172 (dk_at dksX1_lazy_4 7 rfl rfl)
abbrev cX1_dig : ByteArray := prog_1_method_80_code
def yX1_dig : MethodName := ⟨RX1, "dig", "(III)I"⟩
def dkwX1_dig_6 : List UInt8 := [153, 0, 6, 21, 4, 172, 132, 4, 1, 167, 255, 138, 16, 254, 172]
abbrev dktX1_dig_6 : List UInt8 := dkwX1_dig_6 ++ []
def dkwX1_dig_5 : List UInt8 := [180, 0, 241, 27, 46, 28, 163, 0, 7, 4, 167, 0, 4, 3, 54, 5, 132, 6, 1, 167, 255, 214, 21, 5]
abbrev dktX1_dig_5 : List UInt8 := dkwX1_dig_5 ++ dktX1_dig_6
def dkwX1_dig_4 : List UInt8 := [21, 6, 29, 162, 0, 42, 21, 5, 153, 0, 37, 42, 42, 180, 0, 16, 182, 1, 75, 42, 180, 0, 16]
abbrev dktX1_dig_4 : List UInt8 := dkwX1_dig_4 ++ dktX1_dig_5
def dkwX1_dig_3 : List UInt8 := [42, 180, 0, 16, 180, 0, 241, 27, 46, 28, 163, 0, 7, 4, 167, 0, 4, 3, 54, 5, 3, 54, 6]
abbrev dktX1_dig_3 : List UInt8 := dkwX1_dig_3 ++ dktX1_dig_4
def dkwX1_dig_2 : List UInt8 := [180, 0, 16, 42, 180, 0, 12, 182, 1, 26, 42, 180, 0, 16, 180, 0, 241, 27, 92, 46, 21, 4, 100, 79]
abbrev dktX1_dig_2 : List UInt8 := dkwX1_dig_2 ++ dktX1_dig_3
def dkwX1_dig_1 : List UInt8 := [154, 0, 5, 2, 172, 3, 54, 4, 21, 4, 42, 180, 0, 12, 180, 0, 241, 27, 46, 163, 0, 110, 42]
abbrev dktX1_dig_1 : List UInt8 := dkwX1_dig_1 ++ dktX1_dig_2
def dkwX1_dig_0 : List UInt8 := [42, 27, 182, 0, 104, 153, 0, 22, 28, 133, 9, 20, 1, 0, 184, 0, 100, 153, 0, 10, 29, 184, 1, 95]
abbrev dktX1_dig_0 : List UInt8 := dkwX1_dig_0 ++ dktX1_dig_1
theorem dksX1_dig_0 : cX1_dig.data.toList.drop 0 = dktX1_dig_0 := by decide +kernel
theorem dksX1_dig_1 : cX1_dig.data.toList.drop 24 = dktX1_dig_1 := dk_seg dksX1_dig_0 24 rfl rfl
theorem dksX1_dig_2 : cX1_dig.data.toList.drop 47 = dktX1_dig_2 := dk_seg dksX1_dig_1 23 rfl rfl
theorem dksX1_dig_3 : cX1_dig.data.toList.drop 71 = dktX1_dig_3 := dk_seg dksX1_dig_2 24 rfl rfl
theorem dksX1_dig_4 : cX1_dig.data.toList.drop 94 = dktX1_dig_4 := dk_seg dksX1_dig_3 23 rfl rfl
theorem dksX1_dig_5 : cX1_dig.data.toList.drop 117 = dktX1_dig_5 := dk_seg dksX1_dig_4 23 rfl rfl
theorem dksX1_dig_6 : cX1_dig.data.toList.drop 141 = dktX1_dig_6 := dk_seg dksX1_dig_5 24 rfl rfl
theorem dX1_dig_0 : decode cX1_dig 0 = .ok (.aload_n 0, 1) := dk_42 (dk_at dksX1_dig_0 0 rfl rfl)
theorem dX1_dig_1 : decode cX1_dig 1 = .ok (.iload_n 1, 1) := dk_27 (dk_at dksX1_dig_0 1 rfl rfl)
theorem dX1_dig_2 : decode cX1_dig 2 = .ok (.invokevirtual 104, 3) := dk_182 0 104 (dk_at dksX1_dig_0 2 rfl rfl)
theorem dX1_dig_5 : decode cX1_dig 5 = .ok (.ifCond .eq 22, 3) := dk_153 0 22 (dk_at dksX1_dig_0 5 rfl rfl)
theorem dX1_dig_8 : decode cX1_dig 8 = .ok (.iload_n 2, 1) := dk_28 (dk_at dksX1_dig_0 8 rfl rfl)
theorem dX1_dig_9 : decode cX1_dig 9 = .ok (.i2l, 1) := dk_133 (dk_at dksX1_dig_0 9 rfl rfl)
theorem dX1_dig_10 : decode cX1_dig 10 = .ok (.lconst 0, 1) := dk_9 (dk_at dksX1_dig_0 10 rfl rfl)
theorem dX1_dig_11 : decode cX1_dig 11 = .ok (.ldc2_w 256, 3) := dk_20 1 0 (dk_at dksX1_dig_0 11 rfl rfl)
theorem dX1_dig_14 : decode cX1_dig 14 = .ok (.invokestatic 100, 3) := dk_184 0 100 (dk_at dksX1_dig_0 14 rfl rfl)
theorem dX1_dig_17 : decode cX1_dig 17 = .ok (.ifCond .eq 10, 3) := dk_153 0 10 (dk_at dksX1_dig_0 17 rfl rfl)
theorem dX1_dig_20 : decode cX1_dig 20 = .ok (.iload_n 3, 1) := dk_29 (dk_at dksX1_dig_0 20 rfl rfl)
theorem dX1_dig_21 : decode cX1_dig 21 = .ok (.invokestatic 351, 3) := dk_184 1 95 (dk_at dksX1_dig_0 21 rfl rfl)
theorem dX1_dig_24 : decode cX1_dig 24 = .ok (.ifCond .ne 5, 3) := dk_154 0 5 (dk_at dksX1_dig_1 0 rfl rfl)
theorem dX1_dig_27 : decode cX1_dig 27 = .ok (.iconst (-1), 1) := dk_2 (dk_at dksX1_dig_1 3 rfl rfl)
theorem dX1_dig_28 : decode cX1_dig 28 = .ok (.ireturn, 1) := dk_172 (dk_at dksX1_dig_1 4 rfl rfl)
theorem dX1_dig_29 : decode cX1_dig 29 = .ok (.iconst 0, 1) := dk_3 (dk_at dksX1_dig_1 5 rfl rfl)
theorem dX1_dig_30 : decode cX1_dig 30 = .ok (.istore 4, 2) := dk_54 4 (dk_at dksX1_dig_1 6 rfl rfl)
theorem dX1_dig_32 : decode cX1_dig 32 = .ok (.iload 4, 2) := dk_21 4 (dk_at dksX1_dig_1 8 rfl rfl)
theorem dX1_dig_34 : decode cX1_dig 34 = .ok (.aload_n 0, 1) := dk_42 (dk_at dksX1_dig_1 10 rfl rfl)
theorem dX1_dig_35 : decode cX1_dig 35 = .ok (.getfield 12, 3) := dk_180 0 12 (dk_at dksX1_dig_1 11 rfl rfl)
theorem dX1_dig_38 : decode cX1_dig 38 = .ok (.getfield 241, 3) := dk_180 0 241 (dk_at dksX1_dig_1 14 rfl rfl)
theorem dX1_dig_41 : decode cX1_dig 41 = .ok (.iload_n 1, 1) := dk_27 (dk_at dksX1_dig_1 17 rfl rfl)
theorem dX1_dig_42 : decode cX1_dig 42 = .ok (.iaload, 1) := dk_46 (dk_at dksX1_dig_1 18 rfl rfl)
theorem dX1_dig_43 : decode cX1_dig 43 = .ok (.if_icmp .gt 110, 3) := dk_163 0 110 (dk_at dksX1_dig_1 19 rfl rfl)
theorem dX1_dig_46 : decode cX1_dig 46 = .ok (.aload_n 0, 1) := dk_42 (dk_at dksX1_dig_1 22 rfl rfl)
theorem dX1_dig_47 : decode cX1_dig 47 = .ok (.getfield 16, 3) := dk_180 0 16 (dk_at dksX1_dig_2 0 rfl rfl)
theorem dX1_dig_50 : decode cX1_dig 50 = .ok (.aload_n 0, 1) := dk_42 (dk_at dksX1_dig_2 3 rfl rfl)
theorem dX1_dig_51 : decode cX1_dig 51 = .ok (.getfield 12, 3) := dk_180 0 12 (dk_at dksX1_dig_2 4 rfl rfl)
theorem dX1_dig_54 : decode cX1_dig 54 = .ok (.invokevirtual 282, 3) := dk_182 1 26 (dk_at dksX1_dig_2 7 rfl rfl)
theorem dX1_dig_57 : decode cX1_dig 57 = .ok (.aload_n 0, 1) := dk_42 (dk_at dksX1_dig_2 10 rfl rfl)
theorem dX1_dig_58 : decode cX1_dig 58 = .ok (.getfield 16, 3) := dk_180 0 16 (dk_at dksX1_dig_2 11 rfl rfl)
theorem dX1_dig_61 : decode cX1_dig 61 = .ok (.getfield 241, 3) := dk_180 0 241 (dk_at dksX1_dig_2 14 rfl rfl)
theorem dX1_dig_64 : decode cX1_dig 64 = .ok (.iload_n 1, 1) := dk_27 (dk_at dksX1_dig_2 17 rfl rfl)
theorem dX1_dig_65 : decode cX1_dig 65 = .ok (.dup2, 1) := dk_92 (dk_at dksX1_dig_2 18 rfl rfl)
theorem dX1_dig_66 : decode cX1_dig 66 = .ok (.iaload, 1) := dk_46 (dk_at dksX1_dig_2 19 rfl rfl)
theorem dX1_dig_67 : decode cX1_dig 67 = .ok (.iload 4, 2) := dk_21 4 (dk_at dksX1_dig_2 20 rfl rfl)
theorem dX1_dig_69 : decode cX1_dig 69 = .ok (.isub, 1) := dk_100 (dk_at dksX1_dig_2 22 rfl rfl)
theorem dX1_dig_70 : decode cX1_dig 70 = .ok (.iastore, 1) := dk_79 (dk_at dksX1_dig_2 23 rfl rfl)
theorem dX1_dig_71 : decode cX1_dig 71 = .ok (.aload_n 0, 1) := dk_42 (dk_at dksX1_dig_3 0 rfl rfl)
theorem dX1_dig_72 : decode cX1_dig 72 = .ok (.getfield 16, 3) := dk_180 0 16 (dk_at dksX1_dig_3 1 rfl rfl)
theorem dX1_dig_75 : decode cX1_dig 75 = .ok (.getfield 241, 3) := dk_180 0 241 (dk_at dksX1_dig_3 4 rfl rfl)
theorem dX1_dig_78 : decode cX1_dig 78 = .ok (.iload_n 1, 1) := dk_27 (dk_at dksX1_dig_3 7 rfl rfl)
theorem dX1_dig_79 : decode cX1_dig 79 = .ok (.iaload, 1) := dk_46 (dk_at dksX1_dig_3 8 rfl rfl)
theorem dX1_dig_80 : decode cX1_dig 80 = .ok (.iload_n 2, 1) := dk_28 (dk_at dksX1_dig_3 9 rfl rfl)
theorem dX1_dig_81 : decode cX1_dig 81 = .ok (.if_icmp .gt 7, 3) := dk_163 0 7 (dk_at dksX1_dig_3 10 rfl rfl)
theorem dX1_dig_84 : decode cX1_dig 84 = .ok (.iconst 1, 1) := dk_4 (dk_at dksX1_dig_3 13 rfl rfl)
theorem dX1_dig_85 : decode cX1_dig 85 = .ok (.goto 4, 3) := dk_167 0 4 (dk_at dksX1_dig_3 14 rfl rfl)
theorem dX1_dig_88 : decode cX1_dig 88 = .ok (.iconst 0, 1) := dk_3 (dk_at dksX1_dig_3 17 rfl rfl)
theorem dX1_dig_89 : decode cX1_dig 89 = .ok (.istore 5, 2) := dk_54 5 (dk_at dksX1_dig_3 18 rfl rfl)
theorem dX1_dig_91 : decode cX1_dig 91 = .ok (.iconst 0, 1) := dk_3 (dk_at dksX1_dig_3 20 rfl rfl)
theorem dX1_dig_92 : decode cX1_dig 92 = .ok (.istore 6, 2) := dk_54 6 (dk_at dksX1_dig_3 21 rfl rfl)
theorem dX1_dig_94 : decode cX1_dig 94 = .ok (.iload 6, 2) := dk_21 6 (dk_at dksX1_dig_4 0 rfl rfl)
theorem dX1_dig_96 : decode cX1_dig 96 = .ok (.iload_n 3, 1) := dk_29 (dk_at dksX1_dig_4 2 rfl rfl)
theorem dX1_dig_97 : decode cX1_dig 97 = .ok (.if_icmp .ge 42, 3) := dk_162 0 42 (dk_at dksX1_dig_4 3 rfl rfl)
theorem dX1_dig_100 : decode cX1_dig 100 = .ok (.iload 5, 2) := dk_21 5 (dk_at dksX1_dig_4 6 rfl rfl)
theorem dX1_dig_102 : decode cX1_dig 102 = .ok (.ifCond .eq 37, 3) := dk_153 0 37 (dk_at dksX1_dig_4 8 rfl rfl)
theorem dX1_dig_105 : decode cX1_dig 105 = .ok (.aload_n 0, 1) := dk_42 (dk_at dksX1_dig_4 11 rfl rfl)
theorem dX1_dig_106 : decode cX1_dig 106 = .ok (.aload_n 0, 1) := dk_42 (dk_at dksX1_dig_4 12 rfl rfl)
theorem dX1_dig_107 : decode cX1_dig 107 = .ok (.getfield 16, 3) := dk_180 0 16 (dk_at dksX1_dig_4 13 rfl rfl)
theorem dX1_dig_110 : decode cX1_dig 110 = .ok (.invokevirtual 331, 3) := dk_182 1 75 (dk_at dksX1_dig_4 16 rfl rfl)
theorem dX1_dig_113 : decode cX1_dig 113 = .ok (.aload_n 0, 1) := dk_42 (dk_at dksX1_dig_4 19 rfl rfl)
theorem dX1_dig_114 : decode cX1_dig 114 = .ok (.getfield 16, 3) := dk_180 0 16 (dk_at dksX1_dig_4 20 rfl rfl)
theorem dX1_dig_117 : decode cX1_dig 117 = .ok (.getfield 241, 3) := dk_180 0 241 (dk_at dksX1_dig_5 0 rfl rfl)
theorem dX1_dig_120 : decode cX1_dig 120 = .ok (.iload_n 1, 1) := dk_27 (dk_at dksX1_dig_5 3 rfl rfl)
theorem dX1_dig_121 : decode cX1_dig 121 = .ok (.iaload, 1) := dk_46 (dk_at dksX1_dig_5 4 rfl rfl)
theorem dX1_dig_122 : decode cX1_dig 122 = .ok (.iload_n 2, 1) := dk_28 (dk_at dksX1_dig_5 5 rfl rfl)
theorem dX1_dig_123 : decode cX1_dig 123 = .ok (.if_icmp .gt 7, 3) := dk_163 0 7 (dk_at dksX1_dig_5 6 rfl rfl)
theorem dX1_dig_126 : decode cX1_dig 126 = .ok (.iconst 1, 1) := dk_4 (dk_at dksX1_dig_5 9 rfl rfl)
theorem dX1_dig_127 : decode cX1_dig 127 = .ok (.goto 4, 3) := dk_167 0 4 (dk_at dksX1_dig_5 10 rfl rfl)
theorem dX1_dig_130 : decode cX1_dig 130 = .ok (.iconst 0, 1) := dk_3 (dk_at dksX1_dig_5 13 rfl rfl)
theorem dX1_dig_131 : decode cX1_dig 131 = .ok (.istore 5, 2) := dk_54 5 (dk_at dksX1_dig_5 14 rfl rfl)
theorem dX1_dig_133 : decode cX1_dig 133 = .ok (.iinc 6 1, 3) := dk_132 6 1 (dk_at dksX1_dig_5 16 rfl rfl)
theorem dX1_dig_136 : decode cX1_dig 136 = .ok (.goto (-42), 3) := dk_167 255 214 (dk_at dksX1_dig_5 19 rfl rfl)
theorem dX1_dig_139 : decode cX1_dig 139 = .ok (.iload 5, 2) := dk_21 5 (dk_at dksX1_dig_5 22 rfl rfl)
theorem dX1_dig_141 : decode cX1_dig 141 = .ok (.ifCond .eq 6, 3) := dk_153 0 6 (dk_at dksX1_dig_6 0 rfl rfl)
theorem dX1_dig_144 : decode cX1_dig 144 = .ok (.iload 4, 2) := dk_21 4 (dk_at dksX1_dig_6 3 rfl rfl)
theorem dX1_dig_146 : decode cX1_dig 146 = .ok (.ireturn, 1) := dk_172 (dk_at dksX1_dig_6 5 rfl rfl)
theorem dX1_dig_147 : decode cX1_dig 147 = .ok (.iinc 4 1, 3) := dk_132 4 1 (dk_at dksX1_dig_6 6 rfl rfl)
theorem dX1_dig_150 : decode cX1_dig 150 = .ok (.goto (-118), 3) := dk_167 255 138 (dk_at dksX1_dig_6 9 rfl rfl)
theorem dX1_dig_153 : decode cX1_dig 153 = .ok (.bipush (-2), 2) := dk_16 254 (dk_at dksX1_dig_6 12 rfl rfl)
theorem dX1_dig_155 : decode cX1_dig 155 = .ok (.ireturn, 1) := dk_172 (dk_at dksX1_dig_6 14 rfl rfl)
abbrev cX1_best : ByteArray := prog_1_method_85_code
def yX1_best : MethodName := ⟨RX1, "best", "(II)I"⟩
def dkwX1_best_1 : List UInt8 := [2, 172, 42, 2, 181, 1, 164, 42, 27, 28, 182, 1, 171, 172]
abbrev dktX1_best_1 : List UInt8 := dkwX1_best_1 ++ []
def dkwX1_best_0 : List UInt8 := [27, 133, 10, 20, 1, 6, 184, 0, 100, 153, 0, 15, 28, 133, 10, 20, 0, 250, 184, 0, 100, 154, 0, 5]
abbrev dktX1_best_0 : List UInt8 := dkwX1_best_0 ++ dktX1_best_1
theorem dksX1_best_0 : cX1_best.data.toList.drop 0 = dktX1_best_0 := by decide +kernel
theorem dksX1_best_1 : cX1_best.data.toList.drop 24 = dktX1_best_1 := dk_seg dksX1_best_0 24 rfl rfl
theorem dX1_best_0 : decode cX1_best 0 = .ok (.iload_n 1, 1) := dk_27 (dk_at dksX1_best_0 0 rfl rfl)
theorem dX1_best_1 : decode cX1_best 1 = .ok (.i2l, 1) := dk_133 (dk_at dksX1_best_0 1 rfl rfl)
theorem dX1_best_2 : decode cX1_best 2 = .ok (.lconst 1, 1) := dk_10 (dk_at dksX1_best_0 2 rfl rfl)
theorem dX1_best_3 : decode cX1_best 3 = .ok (.ldc2_w 262, 3) := dk_20 1 6 (dk_at dksX1_best_0 3 rfl rfl)
theorem dX1_best_6 : decode cX1_best 6 = .ok (.invokestatic 100, 3) := dk_184 0 100 (dk_at dksX1_best_0 6 rfl rfl)
theorem dX1_best_9 : decode cX1_best 9 = .ok (.ifCond .eq 15, 3) := dk_153 0 15 (dk_at dksX1_best_0 9 rfl rfl)
theorem dX1_best_12 : decode cX1_best 12 = .ok (.iload_n 2, 1) := dk_28 (dk_at dksX1_best_0 12 rfl rfl)
theorem dX1_best_13 : decode cX1_best 13 = .ok (.i2l, 1) := dk_133 (dk_at dksX1_best_0 13 rfl rfl)
theorem dX1_best_14 : decode cX1_best 14 = .ok (.lconst 1, 1) := dk_10 (dk_at dksX1_best_0 14 rfl rfl)
theorem dX1_best_15 : decode cX1_best 15 = .ok (.ldc2_w 250, 3) := dk_20 0 250 (dk_at dksX1_best_0 15 rfl rfl)
theorem dX1_best_18 : decode cX1_best 18 = .ok (.invokestatic 100, 3) := dk_184 0 100 (dk_at dksX1_best_0 18 rfl rfl)
theorem dX1_best_21 : decode cX1_best 21 = .ok (.ifCond .ne 5, 3) := dk_154 0 5 (dk_at dksX1_best_0 21 rfl rfl)
theorem dX1_best_24 : decode cX1_best 24 = .ok (.iconst (-1), 1) := dk_2 (dk_at dksX1_best_1 0 rfl rfl)
theorem dX1_best_25 : decode cX1_best 25 = .ok (.ireturn, 1) := dk_172 (dk_at dksX1_best_1 1 rfl rfl)
theorem dX1_best_26 : decode cX1_best 26 = .ok (.aload_n 0, 1) := dk_42 (dk_at dksX1_best_1 2 rfl rfl)
theorem dX1_best_27 : decode cX1_best 27 = .ok (.iconst (-1), 1) := dk_2 (dk_at dksX1_best_1 3 rfl rfl)
theorem dX1_best_28 : decode cX1_best 28 = .ok (.putfield 420, 3) := dk_181 1 164 (dk_at dksX1_best_1 4 rfl rfl)
theorem dX1_best_31 : decode cX1_best 31 = .ok (.aload_n 0, 1) := dk_42 (dk_at dksX1_best_1 7 rfl rfl)
theorem dX1_best_32 : decode cX1_best 32 = .ok (.iload_n 1, 1) := dk_27 (dk_at dksX1_best_1 8 rfl rfl)
theorem dX1_best_33 : decode cX1_best 33 = .ok (.iload_n 2, 1) := dk_28 (dk_at dksX1_best_1 9 rfl rfl)
theorem dX1_best_34 : decode cX1_best 34 = .ok (.invokevirtual 427, 3) := dk_182 1 171 (dk_at dksX1_best_1 10 rfl rfl)
theorem dX1_best_37 : decode cX1_best 37 = .ok (.ireturn, 1) := dk_172 (dk_at dksX1_best_1 13 rfl rfl)
abbrev cX1_sweepsBest : ByteArray := prog_1_method_84_code
def yX1_sweepsBest : MethodName := ⟨RX1, "sweepsBest", "(II)I"⟩
def dkwX1_sweepsBest_2 : List UInt8 := [182, 1, 11, 132, 3, 1, 167, 255, 238, 42, 180, 1, 161, 172]
abbrev dktX1_sweepsBest_2 : List UInt8 := dkwX1_sweepsBest_2 ++ []
def dkwX1_sweepsBest_1 : List UInt8 := [3, 182, 1, 167, 42, 3, 181, 1, 8, 3, 62, 29, 27, 162, 0, 19, 42, 42, 180, 0, 78, 29, 46]
abbrev dktX1_sweepsBest_1 : List UInt8 := dkwX1_sweepsBest_1 ++ dktX1_sweepsBest_2
def dkwX1_sweepsBest_0 : List UInt8 := [42, 180, 0, 72, 3, 50, 42, 180, 0, 12, 182, 1, 26, 42, 19, 1, 136, 181, 1, 161, 42, 3, 27, 28]
abbrev dktX1_sweepsBest_0 : List UInt8 := dkwX1_sweepsBest_0 ++ dktX1_sweepsBest_1
theorem dksX1_sweepsBest_0 : cX1_sweepsBest.data.toList.drop 0 = dktX1_sweepsBest_0 := by decide +kernel
theorem dksX1_sweepsBest_1 : cX1_sweepsBest.data.toList.drop 24 = dktX1_sweepsBest_1 := dk_seg dksX1_sweepsBest_0 24 rfl rfl
theorem dksX1_sweepsBest_2 : cX1_sweepsBest.data.toList.drop 47 = dktX1_sweepsBest_2 := dk_seg dksX1_sweepsBest_1 23 rfl rfl
theorem dX1_sweepsBest_0 : decode cX1_sweepsBest 0 = .ok (.aload_n 0, 1) := dk_42 (dk_at dksX1_sweepsBest_0 0 rfl rfl)
theorem dX1_sweepsBest_1 : decode cX1_sweepsBest 1 = .ok (.getfield 72, 3) := dk_180 0 72 (dk_at dksX1_sweepsBest_0 1 rfl rfl)
theorem dX1_sweepsBest_4 : decode cX1_sweepsBest 4 = .ok (.iconst 0, 1) := dk_3 (dk_at dksX1_sweepsBest_0 4 rfl rfl)
theorem dX1_sweepsBest_5 : decode cX1_sweepsBest 5 = .ok (.aaload, 1) := dk_50 (dk_at dksX1_sweepsBest_0 5 rfl rfl)
theorem dX1_sweepsBest_6 : decode cX1_sweepsBest 6 = .ok (.aload_n 0, 1) := dk_42 (dk_at dksX1_sweepsBest_0 6 rfl rfl)
theorem dX1_sweepsBest_7 : decode cX1_sweepsBest 7 = .ok (.getfield 12, 3) := dk_180 0 12 (dk_at dksX1_sweepsBest_0 7 rfl rfl)
theorem dX1_sweepsBest_10 : decode cX1_sweepsBest 10 = .ok (.invokevirtual 282, 3) := dk_182 1 26 (dk_at dksX1_sweepsBest_0 10 rfl rfl)
theorem dX1_sweepsBest_13 : decode cX1_sweepsBest 13 = .ok (.aload_n 0, 1) := dk_42 (dk_at dksX1_sweepsBest_0 13 rfl rfl)
theorem dX1_sweepsBest_14 : decode cX1_sweepsBest 14 = .ok (.ldc_w 392, 3) := dk_19 1 136 (dk_at dksX1_sweepsBest_0 14 rfl rfl)
theorem dX1_sweepsBest_17 : decode cX1_sweepsBest 17 = .ok (.putfield 417, 3) := dk_181 1 161 (dk_at dksX1_sweepsBest_0 17 rfl rfl)
theorem dX1_sweepsBest_20 : decode cX1_sweepsBest 20 = .ok (.aload_n 0, 1) := dk_42 (dk_at dksX1_sweepsBest_0 20 rfl rfl)
theorem dX1_sweepsBest_21 : decode cX1_sweepsBest 21 = .ok (.iconst 0, 1) := dk_3 (dk_at dksX1_sweepsBest_0 21 rfl rfl)
theorem dX1_sweepsBest_22 : decode cX1_sweepsBest 22 = .ok (.iload_n 1, 1) := dk_27 (dk_at dksX1_sweepsBest_0 22 rfl rfl)
theorem dX1_sweepsBest_23 : decode cX1_sweepsBest 23 = .ok (.iload_n 2, 1) := dk_28 (dk_at dksX1_sweepsBest_0 23 rfl rfl)
theorem dX1_sweepsBest_24 : decode cX1_sweepsBest 24 = .ok (.iconst 0, 1) := dk_3 (dk_at dksX1_sweepsBest_1 0 rfl rfl)
theorem dX1_sweepsBest_25 : decode cX1_sweepsBest 25 = .ok (.invokevirtual 423, 3) := dk_182 1 167 (dk_at dksX1_sweepsBest_1 1 rfl rfl)
theorem dX1_sweepsBest_28 : decode cX1_sweepsBest 28 = .ok (.aload_n 0, 1) := dk_42 (dk_at dksX1_sweepsBest_1 4 rfl rfl)
theorem dX1_sweepsBest_29 : decode cX1_sweepsBest 29 = .ok (.iconst 0, 1) := dk_3 (dk_at dksX1_sweepsBest_1 5 rfl rfl)
theorem dX1_sweepsBest_30 : decode cX1_sweepsBest 30 = .ok (.putfield 264, 3) := dk_181 1 8 (dk_at dksX1_sweepsBest_1 6 rfl rfl)
theorem dX1_sweepsBest_33 : decode cX1_sweepsBest 33 = .ok (.iconst 0, 1) := dk_3 (dk_at dksX1_sweepsBest_1 9 rfl rfl)
theorem dX1_sweepsBest_34 : decode cX1_sweepsBest 34 = .ok (.istore_n 3, 1) := dk_62 (dk_at dksX1_sweepsBest_1 10 rfl rfl)
theorem dX1_sweepsBest_35 : decode cX1_sweepsBest 35 = .ok (.iload_n 3, 1) := dk_29 (dk_at dksX1_sweepsBest_1 11 rfl rfl)
theorem dX1_sweepsBest_36 : decode cX1_sweepsBest 36 = .ok (.iload_n 1, 1) := dk_27 (dk_at dksX1_sweepsBest_1 12 rfl rfl)
theorem dX1_sweepsBest_37 : decode cX1_sweepsBest 37 = .ok (.if_icmp .ge 19, 3) := dk_162 0 19 (dk_at dksX1_sweepsBest_1 13 rfl rfl)
theorem dX1_sweepsBest_40 : decode cX1_sweepsBest 40 = .ok (.aload_n 0, 1) := dk_42 (dk_at dksX1_sweepsBest_1 16 rfl rfl)
theorem dX1_sweepsBest_41 : decode cX1_sweepsBest 41 = .ok (.aload_n 0, 1) := dk_42 (dk_at dksX1_sweepsBest_1 17 rfl rfl)
theorem dX1_sweepsBest_42 : decode cX1_sweepsBest 42 = .ok (.getfield 78, 3) := dk_180 0 78 (dk_at dksX1_sweepsBest_1 18 rfl rfl)
theorem dX1_sweepsBest_45 : decode cX1_sweepsBest 45 = .ok (.iload_n 3, 1) := dk_29 (dk_at dksX1_sweepsBest_1 21 rfl rfl)
theorem dX1_sweepsBest_46 : decode cX1_sweepsBest 46 = .ok (.iaload, 1) := dk_46 (dk_at dksX1_sweepsBest_1 22 rfl rfl)
theorem dX1_sweepsBest_47 : decode cX1_sweepsBest 47 = .ok (.invokevirtual 267, 3) := dk_182 1 11 (dk_at dksX1_sweepsBest_2 0 rfl rfl)
theorem dX1_sweepsBest_50 : decode cX1_sweepsBest 50 = .ok (.iinc 3 1, 3) := dk_132 3 1 (dk_at dksX1_sweepsBest_2 3 rfl rfl)
theorem dX1_sweepsBest_53 : decode cX1_sweepsBest 53 = .ok (.goto (-18), 3) := dk_167 255 238 (dk_at dksX1_sweepsBest_2 6 rfl rfl)
theorem dX1_sweepsBest_56 : decode cX1_sweepsBest 56 = .ok (.aload_n 0, 1) := dk_42 (dk_at dksX1_sweepsBest_2 9 rfl rfl)
theorem dX1_sweepsBest_57 : decode cX1_sweepsBest 57 = .ok (.getfield 417, 3) := dk_180 1 161 (dk_at dksX1_sweepsBest_2 10 rfl rfl)
theorem dX1_sweepsBest_60 : decode cX1_sweepsBest 60 = .ok (.ireturn, 1) := dk_172 (dk_at dksX1_sweepsBest_2 13 rfl rfl)
abbrev cX1_sweepsFrom : ByteArray := prog_1_method_83_code
def yX1_sweepsFrom : MethodName := ⟨RX1, "sweepsFrom", "(IIII)V"⟩
def dkwX1_sweepsFrom_9 : List UInt8 := [167, 255, 86, 177]
abbrev dktX1_sweepsFrom_9 : List UInt8 := dkwX1_sweepsFrom_9 ++ []
def dkwX1_sweepsFrom_8 : List UInt8 := [182, 1, 78, 167, 0, 13, 25, 7, 180, 1, 68, 42, 180, 1, 164, 46, 96, 182, 1, 167, 132, 5, 1]
abbrev dktX1_sweepsFrom_8 : List UInt8 := dkwX1_sweepsFrom_8 ++ dktX1_sweepsFrom_9
def dkwX1_sweepsFrom_7 : List UInt8 := [180, 0, 75, 27, 21, 5, 79, 42, 27, 4, 96, 28, 29, 21, 4, 42, 180, 1, 164, 156, 0, 11, 25, 7]
abbrev dktX1_sweepsFrom_7 : List UInt8 := dkwX1_sweepsFrom_7 ++ dktX1_sweepsFrom_8
def dkwX1_sweepsFrom_6 : List UInt8 := [29, 25, 7, 180, 0, 238, 21, 5, 46, 184, 0, 130, 184, 1, 105, 42, 25, 7, 182, 1, 75, 42]
abbrev dktX1_sweepsFrom_6 : List UInt8 := dkwX1_sweepsFrom_6 ++ dktX1_sweepsFrom_7
def dkwX1_sweepsFrom_5 : List UInt8 := [96, 50, 58, 7, 25, 7, 42, 180, 0, 72, 27, 50, 182, 1, 26, 21, 6, 154, 0, 22, 25, 7, 21, 5]
abbrev dktX1_sweepsFrom_5 : List UInt8 := dkwX1_sweepsFrom_5 ++ dktX1_sweepsFrom_6
def dkwX1_sweepsFrom_4 : List UInt8 := [42, 180, 0, 72, 27, 50, 180, 0, 238, 21, 5, 46, 154, 0, 6, 167, 0, 99, 42, 180, 0, 72, 27, 4]
abbrev dktX1_sweepsFrom_4 : List UInt8 := dkwX1_sweepsFrom_4 ++ dktX1_sweepsFrom_5
def dkwX1_sweepsFrom_3 : List UInt8 := [182, 1, 102, 153, 0, 135, 42, 180, 1, 164, 155, 0, 14, 21, 5, 5, 108, 42, 180, 1, 164, 160, 0, 117]
abbrev dktX1_sweepsFrom_3 : List UInt8 := dkwX1_sweepsFrom_3 ++ dktX1_sweepsFrom_4
def dkwX1_sweepsFrom_2 : List UInt8 := [21, 5, 16, 14, 160, 0, 7, 4, 167, 0, 4, 3, 54, 6, 21, 6, 154, 0, 48, 42, 21, 5]
abbrev dktX1_sweepsFrom_2 : List UInt8 := dkwX1_sweepsFrom_2 ++ dktX1_sweepsFrom_3
def dkwX1_sweepsFrom_1 : List UInt8 := [180, 0, 75, 3, 42, 180, 0, 78, 3, 28, 184, 0, 182, 177, 3, 54, 5, 21, 5, 16, 14, 163, 0, 169]
abbrev dktX1_sweepsFrom_1 : List UInt8 := dkwX1_sweepsFrom_1 ++ dktX1_sweepsFrom_2
def dkwX1_sweepsFrom_0 : List UInt8 := [21, 4, 42, 180, 1, 161, 161, 0, 4, 177, 27, 28, 160, 0, 24, 42, 21, 4, 181, 1, 161, 42]
abbrev dktX1_sweepsFrom_0 : List UInt8 := dkwX1_sweepsFrom_0 ++ dktX1_sweepsFrom_1
theorem dksX1_sweepsFrom_0 : cX1_sweepsFrom.data.toList.drop 0 = dktX1_sweepsFrom_0 := by decide +kernel
theorem dksX1_sweepsFrom_1 : cX1_sweepsFrom.data.toList.drop 22 = dktX1_sweepsFrom_1 := dk_seg dksX1_sweepsFrom_0 22 rfl rfl
theorem dksX1_sweepsFrom_2 : cX1_sweepsFrom.data.toList.drop 46 = dktX1_sweepsFrom_2 := dk_seg dksX1_sweepsFrom_1 24 rfl rfl
theorem dksX1_sweepsFrom_3 : cX1_sweepsFrom.data.toList.drop 68 = dktX1_sweepsFrom_3 := dk_seg dksX1_sweepsFrom_2 22 rfl rfl
theorem dksX1_sweepsFrom_4 : cX1_sweepsFrom.data.toList.drop 92 = dktX1_sweepsFrom_4 := dk_seg dksX1_sweepsFrom_3 24 rfl rfl
theorem dksX1_sweepsFrom_5 : cX1_sweepsFrom.data.toList.drop 116 = dktX1_sweepsFrom_5 := dk_seg dksX1_sweepsFrom_4 24 rfl rfl
theorem dksX1_sweepsFrom_6 : cX1_sweepsFrom.data.toList.drop 140 = dktX1_sweepsFrom_6 := dk_seg dksX1_sweepsFrom_5 24 rfl rfl
theorem dksX1_sweepsFrom_7 : cX1_sweepsFrom.data.toList.drop 162 = dktX1_sweepsFrom_7 := dk_seg dksX1_sweepsFrom_6 22 rfl rfl
theorem dksX1_sweepsFrom_8 : cX1_sweepsFrom.data.toList.drop 186 = dktX1_sweepsFrom_8 := dk_seg dksX1_sweepsFrom_7 24 rfl rfl
theorem dksX1_sweepsFrom_9 : cX1_sweepsFrom.data.toList.drop 209 = dktX1_sweepsFrom_9 := dk_seg dksX1_sweepsFrom_8 23 rfl rfl
theorem dX1_sweepsFrom_0 : decode cX1_sweepsFrom 0 = .ok (.iload 4, 2) := dk_21 4 (dk_at dksX1_sweepsFrom_0 0 rfl rfl)
theorem dX1_sweepsFrom_2 : decode cX1_sweepsFrom 2 = .ok (.aload_n 0, 1) := dk_42 (dk_at dksX1_sweepsFrom_0 2 rfl rfl)
theorem dX1_sweepsFrom_3 : decode cX1_sweepsFrom 3 = .ok (.getfield 417, 3) := dk_180 1 161 (dk_at dksX1_sweepsFrom_0 3 rfl rfl)
theorem dX1_sweepsFrom_6 : decode cX1_sweepsFrom 6 = .ok (.if_icmp .lt 4, 3) := dk_161 0 4 (dk_at dksX1_sweepsFrom_0 6 rfl rfl)
theorem dX1_sweepsFrom_9 : decode cX1_sweepsFrom 9 = .ok (.return_, 1) := dk_177 (dk_at dksX1_sweepsFrom_0 9 rfl rfl)
theorem dX1_sweepsFrom_10 : decode cX1_sweepsFrom 10 = .ok (.iload_n 1, 1) := dk_27 (dk_at dksX1_sweepsFrom_0 10 rfl rfl)
theorem dX1_sweepsFrom_11 : decode cX1_sweepsFrom 11 = .ok (.iload_n 2, 1) := dk_28 (dk_at dksX1_sweepsFrom_0 11 rfl rfl)
theorem dX1_sweepsFrom_12 : decode cX1_sweepsFrom 12 = .ok (.if_icmp .ne 24, 3) := dk_160 0 24 (dk_at dksX1_sweepsFrom_0 12 rfl rfl)
theorem dX1_sweepsFrom_15 : decode cX1_sweepsFrom 15 = .ok (.aload_n 0, 1) := dk_42 (dk_at dksX1_sweepsFrom_0 15 rfl rfl)
theorem dX1_sweepsFrom_16 : decode cX1_sweepsFrom 16 = .ok (.iload 4, 2) := dk_21 4 (dk_at dksX1_sweepsFrom_0 16 rfl rfl)
theorem dX1_sweepsFrom_18 : decode cX1_sweepsFrom 18 = .ok (.putfield 417, 3) := dk_181 1 161 (dk_at dksX1_sweepsFrom_0 18 rfl rfl)
theorem dX1_sweepsFrom_21 : decode cX1_sweepsFrom 21 = .ok (.aload_n 0, 1) := dk_42 (dk_at dksX1_sweepsFrom_0 21 rfl rfl)
theorem dX1_sweepsFrom_22 : decode cX1_sweepsFrom 22 = .ok (.getfield 75, 3) := dk_180 0 75 (dk_at dksX1_sweepsFrom_1 0 rfl rfl)
theorem dX1_sweepsFrom_25 : decode cX1_sweepsFrom 25 = .ok (.iconst 0, 1) := dk_3 (dk_at dksX1_sweepsFrom_1 3 rfl rfl)
theorem dX1_sweepsFrom_26 : decode cX1_sweepsFrom 26 = .ok (.aload_n 0, 1) := dk_42 (dk_at dksX1_sweepsFrom_1 4 rfl rfl)
theorem dX1_sweepsFrom_27 : decode cX1_sweepsFrom 27 = .ok (.getfield 78, 3) := dk_180 0 78 (dk_at dksX1_sweepsFrom_1 5 rfl rfl)
theorem dX1_sweepsFrom_30 : decode cX1_sweepsFrom 30 = .ok (.iconst 0, 1) := dk_3 (dk_at dksX1_sweepsFrom_1 8 rfl rfl)
theorem dX1_sweepsFrom_31 : decode cX1_sweepsFrom 31 = .ok (.iload_n 2, 1) := dk_28 (dk_at dksX1_sweepsFrom_1 9 rfl rfl)
theorem dX1_sweepsFrom_32 : decode cX1_sweepsFrom 32 = .ok (.invokestatic 182, 3) := dk_184 0 182 (dk_at dksX1_sweepsFrom_1 10 rfl rfl)
theorem dX1_sweepsFrom_35 : decode cX1_sweepsFrom 35 = .ok (.return_, 1) := dk_177 (dk_at dksX1_sweepsFrom_1 13 rfl rfl)
theorem dX1_sweepsFrom_36 : decode cX1_sweepsFrom 36 = .ok (.iconst 0, 1) := dk_3 (dk_at dksX1_sweepsFrom_1 14 rfl rfl)
theorem dX1_sweepsFrom_37 : decode cX1_sweepsFrom 37 = .ok (.istore 5, 2) := dk_54 5 (dk_at dksX1_sweepsFrom_1 15 rfl rfl)
theorem dX1_sweepsFrom_39 : decode cX1_sweepsFrom 39 = .ok (.iload 5, 2) := dk_21 5 (dk_at dksX1_sweepsFrom_1 17 rfl rfl)
theorem dX1_sweepsFrom_41 : decode cX1_sweepsFrom 41 = .ok (.bipush 14, 2) := dk_16 14 (dk_at dksX1_sweepsFrom_1 19 rfl rfl)
theorem dX1_sweepsFrom_43 : decode cX1_sweepsFrom 43 = .ok (.if_icmp .gt 169, 3) := dk_163 0 169 (dk_at dksX1_sweepsFrom_1 21 rfl rfl)
theorem dX1_sweepsFrom_46 : decode cX1_sweepsFrom 46 = .ok (.iload 5, 2) := dk_21 5 (dk_at dksX1_sweepsFrom_2 0 rfl rfl)
theorem dX1_sweepsFrom_48 : decode cX1_sweepsFrom 48 = .ok (.bipush 14, 2) := dk_16 14 (dk_at dksX1_sweepsFrom_2 2 rfl rfl)
theorem dX1_sweepsFrom_50 : decode cX1_sweepsFrom 50 = .ok (.if_icmp .ne 7, 3) := dk_160 0 7 (dk_at dksX1_sweepsFrom_2 4 rfl rfl)
theorem dX1_sweepsFrom_53 : decode cX1_sweepsFrom 53 = .ok (.iconst 1, 1) := dk_4 (dk_at dksX1_sweepsFrom_2 7 rfl rfl)
theorem dX1_sweepsFrom_54 : decode cX1_sweepsFrom 54 = .ok (.goto 4, 3) := dk_167 0 4 (dk_at dksX1_sweepsFrom_2 8 rfl rfl)
theorem dX1_sweepsFrom_57 : decode cX1_sweepsFrom 57 = .ok (.iconst 0, 1) := dk_3 (dk_at dksX1_sweepsFrom_2 11 rfl rfl)
theorem dX1_sweepsFrom_58 : decode cX1_sweepsFrom 58 = .ok (.istore 6, 2) := dk_54 6 (dk_at dksX1_sweepsFrom_2 12 rfl rfl)
theorem dX1_sweepsFrom_60 : decode cX1_sweepsFrom 60 = .ok (.iload 6, 2) := dk_21 6 (dk_at dksX1_sweepsFrom_2 14 rfl rfl)
theorem dX1_sweepsFrom_62 : decode cX1_sweepsFrom 62 = .ok (.ifCond .ne 48, 3) := dk_154 0 48 (dk_at dksX1_sweepsFrom_2 16 rfl rfl)
theorem dX1_sweepsFrom_65 : decode cX1_sweepsFrom 65 = .ok (.aload_n 0, 1) := dk_42 (dk_at dksX1_sweepsFrom_2 19 rfl rfl)
theorem dX1_sweepsFrom_66 : decode cX1_sweepsFrom 66 = .ok (.iload 5, 2) := dk_21 5 (dk_at dksX1_sweepsFrom_2 20 rfl rfl)
theorem dX1_sweepsFrom_68 : decode cX1_sweepsFrom 68 = .ok (.invokevirtual 358, 3) := dk_182 1 102 (dk_at dksX1_sweepsFrom_3 0 rfl rfl)
theorem dX1_sweepsFrom_71 : decode cX1_sweepsFrom 71 = .ok (.ifCond .eq 135, 3) := dk_153 0 135 (dk_at dksX1_sweepsFrom_3 3 rfl rfl)
theorem dX1_sweepsFrom_74 : decode cX1_sweepsFrom 74 = .ok (.aload_n 0, 1) := dk_42 (dk_at dksX1_sweepsFrom_3 6 rfl rfl)
theorem dX1_sweepsFrom_75 : decode cX1_sweepsFrom 75 = .ok (.getfield 420, 3) := dk_180 1 164 (dk_at dksX1_sweepsFrom_3 7 rfl rfl)
theorem dX1_sweepsFrom_78 : decode cX1_sweepsFrom 78 = .ok (.ifCond .lt 14, 3) := dk_155 0 14 (dk_at dksX1_sweepsFrom_3 10 rfl rfl)
theorem dX1_sweepsFrom_81 : decode cX1_sweepsFrom 81 = .ok (.iload 5, 2) := dk_21 5 (dk_at dksX1_sweepsFrom_3 13 rfl rfl)
theorem dX1_sweepsFrom_83 : decode cX1_sweepsFrom 83 = .ok (.iconst 2, 1) := dk_5 (dk_at dksX1_sweepsFrom_3 15 rfl rfl)
theorem dX1_sweepsFrom_84 : decode cX1_sweepsFrom 84 = .ok (.idiv, 1) := dk_108 (dk_at dksX1_sweepsFrom_3 16 rfl rfl)
theorem dX1_sweepsFrom_85 : decode cX1_sweepsFrom 85 = .ok (.aload_n 0, 1) := dk_42 (dk_at dksX1_sweepsFrom_3 17 rfl rfl)
theorem dX1_sweepsFrom_86 : decode cX1_sweepsFrom 86 = .ok (.getfield 420, 3) := dk_180 1 164 (dk_at dksX1_sweepsFrom_3 18 rfl rfl)
theorem dX1_sweepsFrom_89 : decode cX1_sweepsFrom 89 = .ok (.if_icmp .ne 117, 3) := dk_160 0 117 (dk_at dksX1_sweepsFrom_3 21 rfl rfl)
theorem dX1_sweepsFrom_92 : decode cX1_sweepsFrom 92 = .ok (.aload_n 0, 1) := dk_42 (dk_at dksX1_sweepsFrom_4 0 rfl rfl)
theorem dX1_sweepsFrom_93 : decode cX1_sweepsFrom 93 = .ok (.getfield 72, 3) := dk_180 0 72 (dk_at dksX1_sweepsFrom_4 1 rfl rfl)
theorem dX1_sweepsFrom_96 : decode cX1_sweepsFrom 96 = .ok (.iload_n 1, 1) := dk_27 (dk_at dksX1_sweepsFrom_4 4 rfl rfl)
theorem dX1_sweepsFrom_97 : decode cX1_sweepsFrom 97 = .ok (.aaload, 1) := dk_50 (dk_at dksX1_sweepsFrom_4 5 rfl rfl)
theorem dX1_sweepsFrom_98 : decode cX1_sweepsFrom 98 = .ok (.getfield 238, 3) := dk_180 0 238 (dk_at dksX1_sweepsFrom_4 6 rfl rfl)
theorem dX1_sweepsFrom_101 : decode cX1_sweepsFrom 101 = .ok (.iload 5, 2) := dk_21 5 (dk_at dksX1_sweepsFrom_4 9 rfl rfl)
theorem dX1_sweepsFrom_103 : decode cX1_sweepsFrom 103 = .ok (.iaload, 1) := dk_46 (dk_at dksX1_sweepsFrom_4 11 rfl rfl)
theorem dX1_sweepsFrom_104 : decode cX1_sweepsFrom 104 = .ok (.ifCond .ne 6, 3) := dk_154 0 6 (dk_at dksX1_sweepsFrom_4 12 rfl rfl)
theorem dX1_sweepsFrom_107 : decode cX1_sweepsFrom 107 = .ok (.goto 99, 3) := dk_167 0 99 (dk_at dksX1_sweepsFrom_4 15 rfl rfl)
theorem dX1_sweepsFrom_110 : decode cX1_sweepsFrom 110 = .ok (.aload_n 0, 1) := dk_42 (dk_at dksX1_sweepsFrom_4 18 rfl rfl)
theorem dX1_sweepsFrom_111 : decode cX1_sweepsFrom 111 = .ok (.getfield 72, 3) := dk_180 0 72 (dk_at dksX1_sweepsFrom_4 19 rfl rfl)
theorem dX1_sweepsFrom_114 : decode cX1_sweepsFrom 114 = .ok (.iload_n 1, 1) := dk_27 (dk_at dksX1_sweepsFrom_4 22 rfl rfl)
theorem dX1_sweepsFrom_115 : decode cX1_sweepsFrom 115 = .ok (.iconst 1, 1) := dk_4 (dk_at dksX1_sweepsFrom_4 23 rfl rfl)
theorem dX1_sweepsFrom_116 : decode cX1_sweepsFrom 116 = .ok (.iadd, 1) := dk_96 (dk_at dksX1_sweepsFrom_5 0 rfl rfl)
theorem dX1_sweepsFrom_117 : decode cX1_sweepsFrom 117 = .ok (.aaload, 1) := dk_50 (dk_at dksX1_sweepsFrom_5 1 rfl rfl)
theorem dX1_sweepsFrom_118 : decode cX1_sweepsFrom 118 = .ok (.astore 7, 2) := dk_58 7 (dk_at dksX1_sweepsFrom_5 2 rfl rfl)
theorem dX1_sweepsFrom_120 : decode cX1_sweepsFrom 120 = .ok (.aload 7, 2) := dk_25 7 (dk_at dksX1_sweepsFrom_5 4 rfl rfl)
theorem dX1_sweepsFrom_122 : decode cX1_sweepsFrom 122 = .ok (.aload_n 0, 1) := dk_42 (dk_at dksX1_sweepsFrom_5 6 rfl rfl)
theorem dX1_sweepsFrom_123 : decode cX1_sweepsFrom 123 = .ok (.getfield 72, 3) := dk_180 0 72 (dk_at dksX1_sweepsFrom_5 7 rfl rfl)
theorem dX1_sweepsFrom_126 : decode cX1_sweepsFrom 126 = .ok (.iload_n 1, 1) := dk_27 (dk_at dksX1_sweepsFrom_5 10 rfl rfl)
theorem dX1_sweepsFrom_127 : decode cX1_sweepsFrom 127 = .ok (.aaload, 1) := dk_50 (dk_at dksX1_sweepsFrom_5 11 rfl rfl)
theorem dX1_sweepsFrom_128 : decode cX1_sweepsFrom 128 = .ok (.invokevirtual 282, 3) := dk_182 1 26 (dk_at dksX1_sweepsFrom_5 12 rfl rfl)
theorem dX1_sweepsFrom_131 : decode cX1_sweepsFrom 131 = .ok (.iload 6, 2) := dk_21 6 (dk_at dksX1_sweepsFrom_5 15 rfl rfl)
theorem dX1_sweepsFrom_133 : decode cX1_sweepsFrom 133 = .ok (.ifCond .ne 22, 3) := dk_154 0 22 (dk_at dksX1_sweepsFrom_5 17 rfl rfl)
theorem dX1_sweepsFrom_136 : decode cX1_sweepsFrom 136 = .ok (.aload 7, 2) := dk_25 7 (dk_at dksX1_sweepsFrom_5 20 rfl rfl)
theorem dX1_sweepsFrom_138 : decode cX1_sweepsFrom 138 = .ok (.iload 5, 2) := dk_21 5 (dk_at dksX1_sweepsFrom_5 22 rfl rfl)
theorem dX1_sweepsFrom_140 : decode cX1_sweepsFrom 140 = .ok (.iload_n 3, 1) := dk_29 (dk_at dksX1_sweepsFrom_6 0 rfl rfl)
theorem dX1_sweepsFrom_141 : decode cX1_sweepsFrom 141 = .ok (.aload 7, 2) := dk_25 7 (dk_at dksX1_sweepsFrom_6 1 rfl rfl)
theorem dX1_sweepsFrom_143 : decode cX1_sweepsFrom 143 = .ok (.getfield 238, 3) := dk_180 0 238 (dk_at dksX1_sweepsFrom_6 3 rfl rfl)
theorem dX1_sweepsFrom_146 : decode cX1_sweepsFrom 146 = .ok (.iload 5, 2) := dk_21 5 (dk_at dksX1_sweepsFrom_6 6 rfl rfl)
theorem dX1_sweepsFrom_148 : decode cX1_sweepsFrom 148 = .ok (.iaload, 1) := dk_46 (dk_at dksX1_sweepsFrom_6 8 rfl rfl)
theorem dX1_sweepsFrom_149 : decode cX1_sweepsFrom 149 = .ok (.invokestatic 130, 3) := dk_184 0 130 (dk_at dksX1_sweepsFrom_6 9 rfl rfl)
theorem dX1_sweepsFrom_152 : decode cX1_sweepsFrom 152 = .ok (.invokestatic 361, 3) := dk_184 1 105 (dk_at dksX1_sweepsFrom_6 12 rfl rfl)
theorem dX1_sweepsFrom_155 : decode cX1_sweepsFrom 155 = .ok (.aload_n 0, 1) := dk_42 (dk_at dksX1_sweepsFrom_6 15 rfl rfl)
theorem dX1_sweepsFrom_156 : decode cX1_sweepsFrom 156 = .ok (.aload 7, 2) := dk_25 7 (dk_at dksX1_sweepsFrom_6 16 rfl rfl)
theorem dX1_sweepsFrom_158 : decode cX1_sweepsFrom 158 = .ok (.invokevirtual 331, 3) := dk_182 1 75 (dk_at dksX1_sweepsFrom_6 18 rfl rfl)
theorem dX1_sweepsFrom_161 : decode cX1_sweepsFrom 161 = .ok (.aload_n 0, 1) := dk_42 (dk_at dksX1_sweepsFrom_6 21 rfl rfl)
theorem dX1_sweepsFrom_162 : decode cX1_sweepsFrom 162 = .ok (.getfield 75, 3) := dk_180 0 75 (dk_at dksX1_sweepsFrom_7 0 rfl rfl)
theorem dX1_sweepsFrom_165 : decode cX1_sweepsFrom 165 = .ok (.iload_n 1, 1) := dk_27 (dk_at dksX1_sweepsFrom_7 3 rfl rfl)
theorem dX1_sweepsFrom_166 : decode cX1_sweepsFrom 166 = .ok (.iload 5, 2) := dk_21 5 (dk_at dksX1_sweepsFrom_7 4 rfl rfl)
theorem dX1_sweepsFrom_168 : decode cX1_sweepsFrom 168 = .ok (.iastore, 1) := dk_79 (dk_at dksX1_sweepsFrom_7 6 rfl rfl)
theorem dX1_sweepsFrom_169 : decode cX1_sweepsFrom 169 = .ok (.aload_n 0, 1) := dk_42 (dk_at dksX1_sweepsFrom_7 7 rfl rfl)
theorem dX1_sweepsFrom_170 : decode cX1_sweepsFrom 170 = .ok (.iload_n 1, 1) := dk_27 (dk_at dksX1_sweepsFrom_7 8 rfl rfl)
theorem dX1_sweepsFrom_171 : decode cX1_sweepsFrom 171 = .ok (.iconst 1, 1) := dk_4 (dk_at dksX1_sweepsFrom_7 9 rfl rfl)
theorem dX1_sweepsFrom_172 : decode cX1_sweepsFrom 172 = .ok (.iadd, 1) := dk_96 (dk_at dksX1_sweepsFrom_7 10 rfl rfl)
theorem dX1_sweepsFrom_173 : decode cX1_sweepsFrom 173 = .ok (.iload_n 2, 1) := dk_28 (dk_at dksX1_sweepsFrom_7 11 rfl rfl)
theorem dX1_sweepsFrom_174 : decode cX1_sweepsFrom 174 = .ok (.iload_n 3, 1) := dk_29 (dk_at dksX1_sweepsFrom_7 12 rfl rfl)
theorem dX1_sweepsFrom_175 : decode cX1_sweepsFrom 175 = .ok (.iload 4, 2) := dk_21 4 (dk_at dksX1_sweepsFrom_7 13 rfl rfl)
theorem dX1_sweepsFrom_177 : decode cX1_sweepsFrom 177 = .ok (.aload_n 0, 1) := dk_42 (dk_at dksX1_sweepsFrom_7 15 rfl rfl)
theorem dX1_sweepsFrom_178 : decode cX1_sweepsFrom 178 = .ok (.getfield 420, 3) := dk_180 1 164 (dk_at dksX1_sweepsFrom_7 16 rfl rfl)
theorem dX1_sweepsFrom_181 : decode cX1_sweepsFrom 181 = .ok (.ifCond .ge 11, 3) := dk_156 0 11 (dk_at dksX1_sweepsFrom_7 19 rfl rfl)
theorem dX1_sweepsFrom_184 : decode cX1_sweepsFrom 184 = .ok (.aload 7, 2) := dk_25 7 (dk_at dksX1_sweepsFrom_7 22 rfl rfl)
theorem dX1_sweepsFrom_186 : decode cX1_sweepsFrom 186 = .ok (.invokevirtual 334, 3) := dk_182 1 78 (dk_at dksX1_sweepsFrom_8 0 rfl rfl)
theorem dX1_sweepsFrom_189 : decode cX1_sweepsFrom 189 = .ok (.goto 13, 3) := dk_167 0 13 (dk_at dksX1_sweepsFrom_8 3 rfl rfl)
theorem dX1_sweepsFrom_192 : decode cX1_sweepsFrom 192 = .ok (.aload 7, 2) := dk_25 7 (dk_at dksX1_sweepsFrom_8 6 rfl rfl)
theorem dX1_sweepsFrom_194 : decode cX1_sweepsFrom 194 = .ok (.getfield 324, 3) := dk_180 1 68 (dk_at dksX1_sweepsFrom_8 8 rfl rfl)
theorem dX1_sweepsFrom_197 : decode cX1_sweepsFrom 197 = .ok (.aload_n 0, 1) := dk_42 (dk_at dksX1_sweepsFrom_8 11 rfl rfl)
theorem dX1_sweepsFrom_198 : decode cX1_sweepsFrom 198 = .ok (.getfield 420, 3) := dk_180 1 164 (dk_at dksX1_sweepsFrom_8 12 rfl rfl)
theorem dX1_sweepsFrom_201 : decode cX1_sweepsFrom 201 = .ok (.iaload, 1) := dk_46 (dk_at dksX1_sweepsFrom_8 15 rfl rfl)
theorem dX1_sweepsFrom_202 : decode cX1_sweepsFrom 202 = .ok (.iadd, 1) := dk_96 (dk_at dksX1_sweepsFrom_8 16 rfl rfl)
theorem dX1_sweepsFrom_203 : decode cX1_sweepsFrom 203 = .ok (.invokevirtual 423, 3) := dk_182 1 167 (dk_at dksX1_sweepsFrom_8 17 rfl rfl)
theorem dX1_sweepsFrom_206 : decode cX1_sweepsFrom 206 = .ok (.iinc 5 1, 3) := dk_132 5 1 (dk_at dksX1_sweepsFrom_8 20 rfl rfl)
theorem dX1_sweepsFrom_209 : decode cX1_sweepsFrom 209 = .ok (.goto (-170), 3) := dk_167 255 86 (dk_at dksX1_sweepsFrom_9 0 rfl rfl)
theorem dX1_sweepsFrom_212 : decode cX1_sweepsFrom 212 = .ok (.return_, 1) := dk_177 (dk_at dksX1_sweepsFrom_9 3 rfl rfl)
abbrev cX1_own : ByteArray := prog_1_method_86_code
def yX1_own : MethodName := ⟨RX1, "own", "(III)I"⟩
def dkwX1_own_1 : List UInt8 := [20, 0, 250, 184, 0, 100, 154, 0, 5, 2, 172, 42, 27, 181, 1, 164, 42, 28, 29, 182, 1, 171, 172]
abbrev dktX1_own_1 : List UInt8 := dkwX1_own_1 ++ []
def dkwX1_own_0 : List UInt8 := [42, 27, 182, 0, 104, 153, 0, 27, 28, 133, 10, 20, 1, 6, 184, 0, 100, 153, 0, 15, 29, 133, 10]
abbrev dktX1_own_0 : List UInt8 := dkwX1_own_0 ++ dktX1_own_1
theorem dksX1_own_0 : cX1_own.data.toList.drop 0 = dktX1_own_0 := by decide +kernel
theorem dksX1_own_1 : cX1_own.data.toList.drop 23 = dktX1_own_1 := dk_seg dksX1_own_0 23 rfl rfl
theorem dX1_own_0 : decode cX1_own 0 = .ok (.aload_n 0, 1) := dk_42 (dk_at dksX1_own_0 0 rfl rfl)
theorem dX1_own_1 : decode cX1_own 1 = .ok (.iload_n 1, 1) := dk_27 (dk_at dksX1_own_0 1 rfl rfl)
theorem dX1_own_2 : decode cX1_own 2 = .ok (.invokevirtual 104, 3) := dk_182 0 104 (dk_at dksX1_own_0 2 rfl rfl)
theorem dX1_own_5 : decode cX1_own 5 = .ok (.ifCond .eq 27, 3) := dk_153 0 27 (dk_at dksX1_own_0 5 rfl rfl)
theorem dX1_own_8 : decode cX1_own 8 = .ok (.iload_n 2, 1) := dk_28 (dk_at dksX1_own_0 8 rfl rfl)
theorem dX1_own_9 : decode cX1_own 9 = .ok (.i2l, 1) := dk_133 (dk_at dksX1_own_0 9 rfl rfl)
theorem dX1_own_10 : decode cX1_own 10 = .ok (.lconst 1, 1) := dk_10 (dk_at dksX1_own_0 10 rfl rfl)
theorem dX1_own_11 : decode cX1_own 11 = .ok (.ldc2_w 262, 3) := dk_20 1 6 (dk_at dksX1_own_0 11 rfl rfl)
theorem dX1_own_14 : decode cX1_own 14 = .ok (.invokestatic 100, 3) := dk_184 0 100 (dk_at dksX1_own_0 14 rfl rfl)
theorem dX1_own_17 : decode cX1_own 17 = .ok (.ifCond .eq 15, 3) := dk_153 0 15 (dk_at dksX1_own_0 17 rfl rfl)
theorem dX1_own_20 : decode cX1_own 20 = .ok (.iload_n 3, 1) := dk_29 (dk_at dksX1_own_0 20 rfl rfl)
theorem dX1_own_21 : decode cX1_own 21 = .ok (.i2l, 1) := dk_133 (dk_at dksX1_own_0 21 rfl rfl)
theorem dX1_own_22 : decode cX1_own 22 = .ok (.lconst 1, 1) := dk_10 (dk_at dksX1_own_0 22 rfl rfl)
theorem dX1_own_23 : decode cX1_own 23 = .ok (.ldc2_w 250, 3) := dk_20 0 250 (dk_at dksX1_own_1 0 rfl rfl)
theorem dX1_own_26 : decode cX1_own 26 = .ok (.invokestatic 100, 3) := dk_184 0 100 (dk_at dksX1_own_1 3 rfl rfl)
theorem dX1_own_29 : decode cX1_own 29 = .ok (.ifCond .ne 5, 3) := dk_154 0 5 (dk_at dksX1_own_1 6 rfl rfl)
theorem dX1_own_32 : decode cX1_own 32 = .ok (.iconst (-1), 1) := dk_2 (dk_at dksX1_own_1 9 rfl rfl)
theorem dX1_own_33 : decode cX1_own 33 = .ok (.ireturn, 1) := dk_172 (dk_at dksX1_own_1 10 rfl rfl)
theorem dX1_own_34 : decode cX1_own 34 = .ok (.aload_n 0, 1) := dk_42 (dk_at dksX1_own_1 11 rfl rfl)
theorem dX1_own_35 : decode cX1_own 35 = .ok (.iload_n 1, 1) := dk_27 (dk_at dksX1_own_1 12 rfl rfl)
theorem dX1_own_36 : decode cX1_own 36 = .ok (.putfield 420, 3) := dk_181 1 164 (dk_at dksX1_own_1 13 rfl rfl)
theorem dX1_own_39 : decode cX1_own 39 = .ok (.aload_n 0, 1) := dk_42 (dk_at dksX1_own_1 16 rfl rfl)
theorem dX1_own_40 : decode cX1_own 40 = .ok (.iload_n 2, 1) := dk_28 (dk_at dksX1_own_1 17 rfl rfl)
theorem dX1_own_41 : decode cX1_own 41 = .ok (.iload_n 3, 1) := dk_29 (dk_at dksX1_own_1 18 rfl rfl)
theorem dX1_own_42 : decode cX1_own 42 = .ok (.invokevirtual 427, 3) := dk_182 1 171 (dk_at dksX1_own_1 19 rfl rfl)
theorem dX1_own_45 : decode cX1_own 45 = .ok (.ireturn, 1) := dk_172 (dk_at dksX1_own_1 22 rfl rfl)
abbrev cX1_better : ByteArray := prog_1_method_88_code
def yX1_better : MethodName := ⟨RX1, "better", "(II)I"⟩
def dkwX1_better_3 : List UInt8 := [153, 0, 7, 4, 167, 0, 4, 3, 172]
abbrev dktX1_better_3 : List UInt8 := dkwX1_better_3 ++ []
def dkwX1_better_2 : List UInt8 := [62, 42, 3, 181, 1, 8, 42, 42, 180, 1, 174, 182, 1, 11, 42, 42, 180, 1, 177, 182, 1, 11, 29]
abbrev dktX1_better_2 : List UInt8 := dkwX1_better_2 ++ dktX1_better_3
def dkwX1_better_1 : List UInt8 := [180, 0, 12, 180, 0, 238, 27, 46, 154, 0, 6, 16, 254, 172, 42, 42, 180, 0, 12, 27, 28, 182, 1, 180]
abbrev dktX1_better_1 : List UInt8 := dkwX1_better_1 ++ dktX1_better_2
def dkwX1_better_0 : List UInt8 := [42, 27, 182, 1, 102, 153, 0, 15, 28, 133, 10, 20, 1, 93, 184, 0, 100, 154, 0, 5, 2, 172, 42]
abbrev dktX1_better_0 : List UInt8 := dkwX1_better_0 ++ dktX1_better_1
theorem dksX1_better_0 : cX1_better.data.toList.drop 0 = dktX1_better_0 := by decide +kernel
theorem dksX1_better_1 : cX1_better.data.toList.drop 23 = dktX1_better_1 := dk_seg dksX1_better_0 23 rfl rfl
theorem dksX1_better_2 : cX1_better.data.toList.drop 47 = dktX1_better_2 := dk_seg dksX1_better_1 24 rfl rfl
theorem dksX1_better_3 : cX1_better.data.toList.drop 70 = dktX1_better_3 := dk_seg dksX1_better_2 23 rfl rfl
theorem dX1_better_0 : decode cX1_better 0 = .ok (.aload_n 0, 1) := dk_42 (dk_at dksX1_better_0 0 rfl rfl)
theorem dX1_better_1 : decode cX1_better 1 = .ok (.iload_n 1, 1) := dk_27 (dk_at dksX1_better_0 1 rfl rfl)
theorem dX1_better_2 : decode cX1_better 2 = .ok (.invokevirtual 358, 3) := dk_182 1 102 (dk_at dksX1_better_0 2 rfl rfl)
theorem dX1_better_5 : decode cX1_better 5 = .ok (.ifCond .eq 15, 3) := dk_153 0 15 (dk_at dksX1_better_0 5 rfl rfl)
theorem dX1_better_8 : decode cX1_better 8 = .ok (.iload_n 2, 1) := dk_28 (dk_at dksX1_better_0 8 rfl rfl)
theorem dX1_better_9 : decode cX1_better 9 = .ok (.i2l, 1) := dk_133 (dk_at dksX1_better_0 9 rfl rfl)
theorem dX1_better_10 : decode cX1_better 10 = .ok (.lconst 1, 1) := dk_10 (dk_at dksX1_better_0 10 rfl rfl)
theorem dX1_better_11 : decode cX1_better 11 = .ok (.ldc2_w 349, 3) := dk_20 1 93 (dk_at dksX1_better_0 11 rfl rfl)
theorem dX1_better_14 : decode cX1_better 14 = .ok (.invokestatic 100, 3) := dk_184 0 100 (dk_at dksX1_better_0 14 rfl rfl)
theorem dX1_better_17 : decode cX1_better 17 = .ok (.ifCond .ne 5, 3) := dk_154 0 5 (dk_at dksX1_better_0 17 rfl rfl)
theorem dX1_better_20 : decode cX1_better 20 = .ok (.iconst (-1), 1) := dk_2 (dk_at dksX1_better_0 20 rfl rfl)
theorem dX1_better_21 : decode cX1_better 21 = .ok (.ireturn, 1) := dk_172 (dk_at dksX1_better_0 21 rfl rfl)
theorem dX1_better_22 : decode cX1_better 22 = .ok (.aload_n 0, 1) := dk_42 (dk_at dksX1_better_0 22 rfl rfl)
theorem dX1_better_23 : decode cX1_better 23 = .ok (.getfield 12, 3) := dk_180 0 12 (dk_at dksX1_better_1 0 rfl rfl)
theorem dX1_better_26 : decode cX1_better 26 = .ok (.getfield 238, 3) := dk_180 0 238 (dk_at dksX1_better_1 3 rfl rfl)
theorem dX1_better_29 : decode cX1_better 29 = .ok (.iload_n 1, 1) := dk_27 (dk_at dksX1_better_1 6 rfl rfl)
theorem dX1_better_30 : decode cX1_better 30 = .ok (.iaload, 1) := dk_46 (dk_at dksX1_better_1 7 rfl rfl)
theorem dX1_better_31 : decode cX1_better 31 = .ok (.ifCond .ne 6, 3) := dk_154 0 6 (dk_at dksX1_better_1 8 rfl rfl)
theorem dX1_better_34 : decode cX1_better 34 = .ok (.bipush (-2), 2) := dk_16 254 (dk_at dksX1_better_1 11 rfl rfl)
theorem dX1_better_36 : decode cX1_better 36 = .ok (.ireturn, 1) := dk_172 (dk_at dksX1_better_1 13 rfl rfl)
theorem dX1_better_37 : decode cX1_better 37 = .ok (.aload_n 0, 1) := dk_42 (dk_at dksX1_better_1 14 rfl rfl)
theorem dX1_better_38 : decode cX1_better 38 = .ok (.aload_n 0, 1) := dk_42 (dk_at dksX1_better_1 15 rfl rfl)
theorem dX1_better_39 : decode cX1_better 39 = .ok (.getfield 12, 3) := dk_180 0 12 (dk_at dksX1_better_1 16 rfl rfl)
theorem dX1_better_42 : decode cX1_better 42 = .ok (.iload_n 1, 1) := dk_27 (dk_at dksX1_better_1 19 rfl rfl)
theorem dX1_better_43 : decode cX1_better 43 = .ok (.iload_n 2, 1) := dk_28 (dk_at dksX1_better_1 20 rfl rfl)
theorem dX1_better_44 : decode cX1_better 44 = .ok (.invokevirtual 436, 3) := dk_182 1 180 (dk_at dksX1_better_1 21 rfl rfl)
theorem dX1_better_47 : decode cX1_better 47 = .ok (.istore_n 3, 1) := dk_62 (dk_at dksX1_better_2 0 rfl rfl)
theorem dX1_better_48 : decode cX1_better 48 = .ok (.aload_n 0, 1) := dk_42 (dk_at dksX1_better_2 1 rfl rfl)
theorem dX1_better_49 : decode cX1_better 49 = .ok (.iconst 0, 1) := dk_3 (dk_at dksX1_better_2 2 rfl rfl)
theorem dX1_better_50 : decode cX1_better 50 = .ok (.putfield 264, 3) := dk_181 1 8 (dk_at dksX1_better_2 3 rfl rfl)
theorem dX1_better_53 : decode cX1_better 53 = .ok (.aload_n 0, 1) := dk_42 (dk_at dksX1_better_2 6 rfl rfl)
theorem dX1_better_54 : decode cX1_better 54 = .ok (.aload_n 0, 1) := dk_42 (dk_at dksX1_better_2 7 rfl rfl)
theorem dX1_better_55 : decode cX1_better 55 = .ok (.getfield 430, 3) := dk_180 1 174 (dk_at dksX1_better_2 8 rfl rfl)
theorem dX1_better_58 : decode cX1_better 58 = .ok (.invokevirtual 267, 3) := dk_182 1 11 (dk_at dksX1_better_2 11 rfl rfl)
theorem dX1_better_61 : decode cX1_better 61 = .ok (.aload_n 0, 1) := dk_42 (dk_at dksX1_better_2 14 rfl rfl)
theorem dX1_better_62 : decode cX1_better 62 = .ok (.aload_n 0, 1) := dk_42 (dk_at dksX1_better_2 15 rfl rfl)
theorem dX1_better_63 : decode cX1_better 63 = .ok (.getfield 433, 3) := dk_180 1 177 (dk_at dksX1_better_2 16 rfl rfl)
theorem dX1_better_66 : decode cX1_better 66 = .ok (.invokevirtual 267, 3) := dk_182 1 11 (dk_at dksX1_better_2 19 rfl rfl)
theorem dX1_better_69 : decode cX1_better 69 = .ok (.iload_n 3, 1) := dk_29 (dk_at dksX1_better_2 22 rfl rfl)
theorem dX1_better_70 : decode cX1_better 70 = .ok (.ifCond .eq 7, 3) := dk_153 0 7 (dk_at dksX1_better_3 0 rfl rfl)
theorem dX1_better_73 : decode cX1_better 73 = .ok (.iconst 1, 1) := dk_4 (dk_at dksX1_better_3 3 rfl rfl)
theorem dX1_better_74 : decode cX1_better 74 = .ok (.goto 4, 3) := dk_167 0 4 (dk_at dksX1_better_3 4 rfl rfl)
theorem dX1_better_77 : decode cX1_better 77 = .ok (.iconst 0, 1) := dk_3 (dk_at dksX1_better_3 7 rfl rfl)
theorem dX1_better_78 : decode cX1_better 78 = .ok (.ireturn, 1) := dk_172 (dk_at dksX1_better_3 8 rfl rfl)
abbrev cX1_isBetter : ByteArray := prog_1_method_87_code
def yX1_isBetter : MethodName := ⟨RX1, "isBetter", "(LSnowForSummer$Town;II)Z"⟩
def dkwX1_isBetter_4 : List UInt8 := [167, 0, 4, 3, 172]
abbrev dktX1_isBetter_4 : List UInt8 := dkwX1_isBetter_4 ++ []
def dkwX1_isBetter_3 : List UInt8 := [180, 0, 16, 180, 1, 68, 21, 4, 46, 181, 1, 177, 42, 180, 1, 174, 42, 180, 1, 177, 162, 0, 7, 4]
abbrev dktX1_isBetter_3 : List UInt8 := dkwX1_isBetter_3 ++ dktX1_isBetter_4
def dkwX1_isBetter_2 : List UInt8 := [181, 1, 174, 42, 180, 0, 16, 43, 182, 1, 26, 42, 42, 180, 0, 16, 29, 182, 1, 98, 42, 42]
abbrev dktX1_isBetter_2 : List UInt8 := dkwX1_isBetter_2 ++ dktX1_isBetter_3
def dkwX1_isBetter_1 : List UInt8 := [182, 1, 71, 87, 42, 42, 180, 0, 16, 29, 182, 1, 98, 42, 42, 180, 0, 16, 180, 1, 68, 21, 4, 46]
abbrev dktX1_isBetter_1 : List UInt8 := dkwX1_isBetter_1 ++ dktX1_isBetter_2
def dkwX1_isBetter_0 : List UInt8 := [28, 5, 108, 54, 4, 42, 180, 0, 16, 43, 182, 1, 26, 42, 42, 180, 0, 16, 28, 21, 4, 4]
abbrev dktX1_isBetter_0 : List UInt8 := dkwX1_isBetter_0 ++ dktX1_isBetter_1
theorem dksX1_isBetter_0 : cX1_isBetter.data.toList.drop 0 = dktX1_isBetter_0 := by decide +kernel
theorem dksX1_isBetter_1 : cX1_isBetter.data.toList.drop 22 = dktX1_isBetter_1 := dk_seg dksX1_isBetter_0 22 rfl rfl
theorem dksX1_isBetter_2 : cX1_isBetter.data.toList.drop 46 = dktX1_isBetter_2 := dk_seg dksX1_isBetter_1 24 rfl rfl
theorem dksX1_isBetter_3 : cX1_isBetter.data.toList.drop 68 = dktX1_isBetter_3 := dk_seg dksX1_isBetter_2 22 rfl rfl
theorem dksX1_isBetter_4 : cX1_isBetter.data.toList.drop 92 = dktX1_isBetter_4 := dk_seg dksX1_isBetter_3 24 rfl rfl
theorem dX1_isBetter_0 : decode cX1_isBetter 0 = .ok (.iload_n 2, 1) := dk_28 (dk_at dksX1_isBetter_0 0 rfl rfl)
theorem dX1_isBetter_1 : decode cX1_isBetter 1 = .ok (.iconst 2, 1) := dk_5 (dk_at dksX1_isBetter_0 1 rfl rfl)
theorem dX1_isBetter_2 : decode cX1_isBetter 2 = .ok (.idiv, 1) := dk_108 (dk_at dksX1_isBetter_0 2 rfl rfl)
theorem dX1_isBetter_3 : decode cX1_isBetter 3 = .ok (.istore 4, 2) := dk_54 4 (dk_at dksX1_isBetter_0 3 rfl rfl)
theorem dX1_isBetter_5 : decode cX1_isBetter 5 = .ok (.aload_n 0, 1) := dk_42 (dk_at dksX1_isBetter_0 5 rfl rfl)
theorem dX1_isBetter_6 : decode cX1_isBetter 6 = .ok (.getfield 16, 3) := dk_180 0 16 (dk_at dksX1_isBetter_0 6 rfl rfl)
theorem dX1_isBetter_9 : decode cX1_isBetter 9 = .ok (.aload_n 1, 1) := dk_43 (dk_at dksX1_isBetter_0 9 rfl rfl)
theorem dX1_isBetter_10 : decode cX1_isBetter 10 = .ok (.invokevirtual 282, 3) := dk_182 1 26 (dk_at dksX1_isBetter_0 10 rfl rfl)
theorem dX1_isBetter_13 : decode cX1_isBetter 13 = .ok (.aload_n 0, 1) := dk_42 (dk_at dksX1_isBetter_0 13 rfl rfl)
theorem dX1_isBetter_14 : decode cX1_isBetter 14 = .ok (.aload_n 0, 1) := dk_42 (dk_at dksX1_isBetter_0 14 rfl rfl)
theorem dX1_isBetter_15 : decode cX1_isBetter 15 = .ok (.getfield 16, 3) := dk_180 0 16 (dk_at dksX1_isBetter_0 15 rfl rfl)
theorem dX1_isBetter_18 : decode cX1_isBetter 18 = .ok (.iload_n 2, 1) := dk_28 (dk_at dksX1_isBetter_0 18 rfl rfl)
theorem dX1_isBetter_19 : decode cX1_isBetter 19 = .ok (.iload 4, 2) := dk_21 4 (dk_at dksX1_isBetter_0 19 rfl rfl)
theorem dX1_isBetter_21 : decode cX1_isBetter 21 = .ok (.iconst 1, 1) := dk_4 (dk_at dksX1_isBetter_0 21 rfl rfl)
theorem dX1_isBetter_22 : decode cX1_isBetter 22 = .ok (.invokevirtual 327, 3) := dk_182 1 71 (dk_at dksX1_isBetter_1 0 rfl rfl)
theorem dX1_isBetter_25 : decode cX1_isBetter 25 = .ok (.pop, 1) := dk_87 (dk_at dksX1_isBetter_1 3 rfl rfl)
theorem dX1_isBetter_26 : decode cX1_isBetter 26 = .ok (.aload_n 0, 1) := dk_42 (dk_at dksX1_isBetter_1 4 rfl rfl)
theorem dX1_isBetter_27 : decode cX1_isBetter 27 = .ok (.aload_n 0, 1) := dk_42 (dk_at dksX1_isBetter_1 5 rfl rfl)
theorem dX1_isBetter_28 : decode cX1_isBetter 28 = .ok (.getfield 16, 3) := dk_180 0 16 (dk_at dksX1_isBetter_1 6 rfl rfl)
theorem dX1_isBetter_31 : decode cX1_isBetter 31 = .ok (.iload_n 3, 1) := dk_29 (dk_at dksX1_isBetter_1 9 rfl rfl)
theorem dX1_isBetter_32 : decode cX1_isBetter 32 = .ok (.invokevirtual 354, 3) := dk_182 1 98 (dk_at dksX1_isBetter_1 10 rfl rfl)
theorem dX1_isBetter_35 : decode cX1_isBetter 35 = .ok (.aload_n 0, 1) := dk_42 (dk_at dksX1_isBetter_1 13 rfl rfl)
theorem dX1_isBetter_36 : decode cX1_isBetter 36 = .ok (.aload_n 0, 1) := dk_42 (dk_at dksX1_isBetter_1 14 rfl rfl)
theorem dX1_isBetter_37 : decode cX1_isBetter 37 = .ok (.getfield 16, 3) := dk_180 0 16 (dk_at dksX1_isBetter_1 15 rfl rfl)
theorem dX1_isBetter_40 : decode cX1_isBetter 40 = .ok (.getfield 324, 3) := dk_180 1 68 (dk_at dksX1_isBetter_1 18 rfl rfl)
theorem dX1_isBetter_43 : decode cX1_isBetter 43 = .ok (.iload 4, 2) := dk_21 4 (dk_at dksX1_isBetter_1 21 rfl rfl)
theorem dX1_isBetter_45 : decode cX1_isBetter 45 = .ok (.iaload, 1) := dk_46 (dk_at dksX1_isBetter_1 23 rfl rfl)
theorem dX1_isBetter_46 : decode cX1_isBetter 46 = .ok (.putfield 430, 3) := dk_181 1 174 (dk_at dksX1_isBetter_2 0 rfl rfl)
theorem dX1_isBetter_49 : decode cX1_isBetter 49 = .ok (.aload_n 0, 1) := dk_42 (dk_at dksX1_isBetter_2 3 rfl rfl)
theorem dX1_isBetter_50 : decode cX1_isBetter 50 = .ok (.getfield 16, 3) := dk_180 0 16 (dk_at dksX1_isBetter_2 4 rfl rfl)
theorem dX1_isBetter_53 : decode cX1_isBetter 53 = .ok (.aload_n 1, 1) := dk_43 (dk_at dksX1_isBetter_2 7 rfl rfl)
theorem dX1_isBetter_54 : decode cX1_isBetter 54 = .ok (.invokevirtual 282, 3) := dk_182 1 26 (dk_at dksX1_isBetter_2 8 rfl rfl)
theorem dX1_isBetter_57 : decode cX1_isBetter 57 = .ok (.aload_n 0, 1) := dk_42 (dk_at dksX1_isBetter_2 11 rfl rfl)
theorem dX1_isBetter_58 : decode cX1_isBetter 58 = .ok (.aload_n 0, 1) := dk_42 (dk_at dksX1_isBetter_2 12 rfl rfl)
theorem dX1_isBetter_59 : decode cX1_isBetter 59 = .ok (.getfield 16, 3) := dk_180 0 16 (dk_at dksX1_isBetter_2 13 rfl rfl)
theorem dX1_isBetter_62 : decode cX1_isBetter 62 = .ok (.iload_n 3, 1) := dk_29 (dk_at dksX1_isBetter_2 16 rfl rfl)
theorem dX1_isBetter_63 : decode cX1_isBetter 63 = .ok (.invokevirtual 354, 3) := dk_182 1 98 (dk_at dksX1_isBetter_2 17 rfl rfl)
theorem dX1_isBetter_66 : decode cX1_isBetter 66 = .ok (.aload_n 0, 1) := dk_42 (dk_at dksX1_isBetter_2 20 rfl rfl)
theorem dX1_isBetter_67 : decode cX1_isBetter 67 = .ok (.aload_n 0, 1) := dk_42 (dk_at dksX1_isBetter_2 21 rfl rfl)
theorem dX1_isBetter_68 : decode cX1_isBetter 68 = .ok (.getfield 16, 3) := dk_180 0 16 (dk_at dksX1_isBetter_3 0 rfl rfl)
theorem dX1_isBetter_71 : decode cX1_isBetter 71 = .ok (.getfield 324, 3) := dk_180 1 68 (dk_at dksX1_isBetter_3 3 rfl rfl)
theorem dX1_isBetter_74 : decode cX1_isBetter 74 = .ok (.iload 4, 2) := dk_21 4 (dk_at dksX1_isBetter_3 6 rfl rfl)
theorem dX1_isBetter_76 : decode cX1_isBetter 76 = .ok (.iaload, 1) := dk_46 (dk_at dksX1_isBetter_3 8 rfl rfl)
theorem dX1_isBetter_77 : decode cX1_isBetter 77 = .ok (.putfield 433, 3) := dk_181 1 177 (dk_at dksX1_isBetter_3 9 rfl rfl)
theorem dX1_isBetter_80 : decode cX1_isBetter 80 = .ok (.aload_n 0, 1) := dk_42 (dk_at dksX1_isBetter_3 12 rfl rfl)
theorem dX1_isBetter_81 : decode cX1_isBetter 81 = .ok (.getfield 430, 3) := dk_180 1 174 (dk_at dksX1_isBetter_3 13 rfl rfl)
theorem dX1_isBetter_84 : decode cX1_isBetter 84 = .ok (.aload_n 0, 1) := dk_42 (dk_at dksX1_isBetter_3 16 rfl rfl)
theorem dX1_isBetter_85 : decode cX1_isBetter 85 = .ok (.getfield 433, 3) := dk_180 1 177 (dk_at dksX1_isBetter_3 17 rfl rfl)
theorem dX1_isBetter_88 : decode cX1_isBetter 88 = .ok (.if_icmp .ge 7, 3) := dk_162 0 7 (dk_at dksX1_isBetter_3 20 rfl rfl)
theorem dX1_isBetter_91 : decode cX1_isBetter 91 = .ok (.iconst 1, 1) := dk_4 (dk_at dksX1_isBetter_3 23 rfl rfl)
theorem dX1_isBetter_92 : decode cX1_isBetter 92 = .ok (.goto 4, 3) := dk_167 0 4 (dk_at dksX1_isBetter_4 0 rfl rfl)
theorem dX1_isBetter_95 : decode cX1_isBetter 95 = .ok (.iconst 0, 1) := dk_3 (dk_at dksX1_isBetter_4 3 rfl rfl)
theorem dX1_isBetter_96 : decode cX1_isBetter 96 = .ok (.ireturn, 1) := dk_172 (dk_at dksX1_isBetter_4 4 rfl rfl)
abbrev cX1_rests : ByteArray := prog_1_method_89_code
def yX1_rests : MethodName := ⟨RX1, "rests", "(II)I"⟩
def dkwX1_rests_7 : List UInt8 := [21, 4, 182, 1, 11, 29, 172]
abbrev dktX1_rests_7 : List UInt8 := dkwX1_rests_7 ++ []
def dkwX1_rests_6 : List UInt8 := [167, 255, 162, 42, 3, 181, 1, 8, 42, 21, 5, 153, 0, 7, 4, 167, 0, 4, 3, 182, 1, 11, 42]
abbrev dktX1_rests_6 : List UInt8 := dkwX1_rests_6 ++ dktX1_rests_7
def dkwX1_rests_5 : List UInt8 := [87, 21, 4, 4, 21, 6, 120, 128, 54, 4, 3, 54, 5, 132, 6, 1, 167, 255, 184, 132, 3, 1]
abbrev dktX1_rests_5 : List UInt8 := dkwX1_rests_5 ++ dktX1_rests_6
def dkwX1_rests_4 : List UInt8 := [182, 1, 180, 154, 0, 6, 167, 0, 31, 42, 42, 180, 0, 19, 21, 6, 21, 6, 5, 108, 4, 182, 1, 71]
abbrev dktX1_rests_4 : List UInt8 := dkwX1_rests_4 ++ dktX1_rests_5
def dkwX1_rests_3 : List UInt8 := [162, 0, 67, 42, 180, 0, 19, 180, 0, 238, 21, 6, 46, 153, 0, 48, 42, 42, 180, 0, 19, 21, 6, 27]
abbrev dktX1_rests_3 : List UInt8 := dkwX1_rests_3 ++ dktX1_rests_4
def dkwX1_rests_2 : List UInt8 := [162, 0, 95, 21, 5, 154, 0, 90, 4, 54, 5, 3, 54, 6, 21, 6, 5, 42, 180, 0, 96, 104]
abbrev dktX1_rests_2 : List UInt8 := dkwX1_rests_2 ++ dktX1_rests_3
def dkwX1_rests_1 : List UInt8 := [2, 172, 42, 180, 0, 19, 42, 180, 0, 12, 182, 1, 26, 3, 62, 3, 54, 4, 3, 54, 5, 29, 28]
abbrev dktX1_rests_1 : List UInt8 := dkwX1_rests_1 ++ dktX1_rests_2
def dkwX1_rests_0 : List UInt8 := [27, 133, 10, 20, 1, 4, 184, 0, 100, 153, 0, 15, 28, 133, 9, 20, 1, 184, 184, 0, 100, 154, 0, 5]
abbrev dktX1_rests_0 : List UInt8 := dkwX1_rests_0 ++ dktX1_rests_1
theorem dksX1_rests_0 : cX1_rests.data.toList.drop 0 = dktX1_rests_0 := by decide +kernel
theorem dksX1_rests_1 : cX1_rests.data.toList.drop 24 = dktX1_rests_1 := dk_seg dksX1_rests_0 24 rfl rfl
theorem dksX1_rests_2 : cX1_rests.data.toList.drop 47 = dktX1_rests_2 := dk_seg dksX1_rests_1 23 rfl rfl
theorem dksX1_rests_3 : cX1_rests.data.toList.drop 69 = dktX1_rests_3 := dk_seg dksX1_rests_2 22 rfl rfl
theorem dksX1_rests_4 : cX1_rests.data.toList.drop 93 = dktX1_rests_4 := dk_seg dksX1_rests_3 24 rfl rfl
theorem dksX1_rests_5 : cX1_rests.data.toList.drop 117 = dktX1_rests_5 := dk_seg dksX1_rests_4 24 rfl rfl
theorem dksX1_rests_6 : cX1_rests.data.toList.drop 139 = dktX1_rests_6 := dk_seg dksX1_rests_5 22 rfl rfl
theorem dksX1_rests_7 : cX1_rests.data.toList.drop 162 = dktX1_rests_7 := dk_seg dksX1_rests_6 23 rfl rfl
theorem dX1_rests_0 : decode cX1_rests 0 = .ok (.iload_n 1, 1) := dk_27 (dk_at dksX1_rests_0 0 rfl rfl)
theorem dX1_rests_1 : decode cX1_rests 1 = .ok (.i2l, 1) := dk_133 (dk_at dksX1_rests_0 1 rfl rfl)
theorem dX1_rests_2 : decode cX1_rests 2 = .ok (.lconst 1, 1) := dk_10 (dk_at dksX1_rests_0 2 rfl rfl)
theorem dX1_rests_3 : decode cX1_rests 3 = .ok (.ldc2_w 260, 3) := dk_20 1 4 (dk_at dksX1_rests_0 3 rfl rfl)
theorem dX1_rests_6 : decode cX1_rests 6 = .ok (.invokestatic 100, 3) := dk_184 0 100 (dk_at dksX1_rests_0 6 rfl rfl)
theorem dX1_rests_9 : decode cX1_rests 9 = .ok (.ifCond .eq 15, 3) := dk_153 0 15 (dk_at dksX1_rests_0 9 rfl rfl)
theorem dX1_rests_12 : decode cX1_rests 12 = .ok (.iload_n 2, 1) := dk_28 (dk_at dksX1_rests_0 12 rfl rfl)
theorem dX1_rests_13 : decode cX1_rests 13 = .ok (.i2l, 1) := dk_133 (dk_at dksX1_rests_0 13 rfl rfl)
theorem dX1_rests_14 : decode cX1_rests 14 = .ok (.lconst 0, 1) := dk_9 (dk_at dksX1_rests_0 14 rfl rfl)
theorem dX1_rests_15 : decode cX1_rests 15 = .ok (.ldc2_w 440, 3) := dk_20 1 184 (dk_at dksX1_rests_0 15 rfl rfl)
theorem dX1_rests_18 : decode cX1_rests 18 = .ok (.invokestatic 100, 3) := dk_184 0 100 (dk_at dksX1_rests_0 18 rfl rfl)
theorem dX1_rests_21 : decode cX1_rests 21 = .ok (.ifCond .ne 5, 3) := dk_154 0 5 (dk_at dksX1_rests_0 21 rfl rfl)
theorem dX1_rests_24 : decode cX1_rests 24 = .ok (.iconst (-1), 1) := dk_2 (dk_at dksX1_rests_1 0 rfl rfl)
theorem dX1_rests_25 : decode cX1_rests 25 = .ok (.ireturn, 1) := dk_172 (dk_at dksX1_rests_1 1 rfl rfl)
theorem dX1_rests_26 : decode cX1_rests 26 = .ok (.aload_n 0, 1) := dk_42 (dk_at dksX1_rests_1 2 rfl rfl)
theorem dX1_rests_27 : decode cX1_rests 27 = .ok (.getfield 19, 3) := dk_180 0 19 (dk_at dksX1_rests_1 3 rfl rfl)
theorem dX1_rests_30 : decode cX1_rests 30 = .ok (.aload_n 0, 1) := dk_42 (dk_at dksX1_rests_1 6 rfl rfl)
theorem dX1_rests_31 : decode cX1_rests 31 = .ok (.getfield 12, 3) := dk_180 0 12 (dk_at dksX1_rests_1 7 rfl rfl)
theorem dX1_rests_34 : decode cX1_rests 34 = .ok (.invokevirtual 282, 3) := dk_182 1 26 (dk_at dksX1_rests_1 10 rfl rfl)
theorem dX1_rests_37 : decode cX1_rests 37 = .ok (.iconst 0, 1) := dk_3 (dk_at dksX1_rests_1 13 rfl rfl)
theorem dX1_rests_38 : decode cX1_rests 38 = .ok (.istore_n 3, 1) := dk_62 (dk_at dksX1_rests_1 14 rfl rfl)
theorem dX1_rests_39 : decode cX1_rests 39 = .ok (.iconst 0, 1) := dk_3 (dk_at dksX1_rests_1 15 rfl rfl)
theorem dX1_rests_40 : decode cX1_rests 40 = .ok (.istore 4, 2) := dk_54 4 (dk_at dksX1_rests_1 16 rfl rfl)
theorem dX1_rests_42 : decode cX1_rests 42 = .ok (.iconst 0, 1) := dk_3 (dk_at dksX1_rests_1 18 rfl rfl)
theorem dX1_rests_43 : decode cX1_rests 43 = .ok (.istore 5, 2) := dk_54 5 (dk_at dksX1_rests_1 19 rfl rfl)
theorem dX1_rests_45 : decode cX1_rests 45 = .ok (.iload_n 3, 1) := dk_29 (dk_at dksX1_rests_1 21 rfl rfl)
theorem dX1_rests_46 : decode cX1_rests 46 = .ok (.iload_n 2, 1) := dk_28 (dk_at dksX1_rests_1 22 rfl rfl)
theorem dX1_rests_47 : decode cX1_rests 47 = .ok (.if_icmp .ge 95, 3) := dk_162 0 95 (dk_at dksX1_rests_2 0 rfl rfl)
theorem dX1_rests_50 : decode cX1_rests 50 = .ok (.iload 5, 2) := dk_21 5 (dk_at dksX1_rests_2 3 rfl rfl)
theorem dX1_rests_52 : decode cX1_rests 52 = .ok (.ifCond .ne 90, 3) := dk_154 0 90 (dk_at dksX1_rests_2 5 rfl rfl)
theorem dX1_rests_55 : decode cX1_rests 55 = .ok (.iconst 1, 1) := dk_4 (dk_at dksX1_rests_2 8 rfl rfl)
theorem dX1_rests_56 : decode cX1_rests 56 = .ok (.istore 5, 2) := dk_54 5 (dk_at dksX1_rests_2 9 rfl rfl)
theorem dX1_rests_58 : decode cX1_rests 58 = .ok (.iconst 0, 1) := dk_3 (dk_at dksX1_rests_2 11 rfl rfl)
theorem dX1_rests_59 : decode cX1_rests 59 = .ok (.istore 6, 2) := dk_54 6 (dk_at dksX1_rests_2 12 rfl rfl)
theorem dX1_rests_61 : decode cX1_rests 61 = .ok (.iload 6, 2) := dk_21 6 (dk_at dksX1_rests_2 14 rfl rfl)
theorem dX1_rests_63 : decode cX1_rests 63 = .ok (.iconst 2, 1) := dk_5 (dk_at dksX1_rests_2 16 rfl rfl)
theorem dX1_rests_64 : decode cX1_rests 64 = .ok (.aload_n 0, 1) := dk_42 (dk_at dksX1_rests_2 17 rfl rfl)
theorem dX1_rests_65 : decode cX1_rests 65 = .ok (.getfield 96, 3) := dk_180 0 96 (dk_at dksX1_rests_2 18 rfl rfl)
theorem dX1_rests_68 : decode cX1_rests 68 = .ok (.imul, 1) := dk_104 (dk_at dksX1_rests_2 21 rfl rfl)
theorem dX1_rests_69 : decode cX1_rests 69 = .ok (.if_icmp .ge 67, 3) := dk_162 0 67 (dk_at dksX1_rests_3 0 rfl rfl)
theorem dX1_rests_72 : decode cX1_rests 72 = .ok (.aload_n 0, 1) := dk_42 (dk_at dksX1_rests_3 3 rfl rfl)
theorem dX1_rests_73 : decode cX1_rests 73 = .ok (.getfield 19, 3) := dk_180 0 19 (dk_at dksX1_rests_3 4 rfl rfl)
theorem dX1_rests_76 : decode cX1_rests 76 = .ok (.getfield 238, 3) := dk_180 0 238 (dk_at dksX1_rests_3 7 rfl rfl)
theorem dX1_rests_79 : decode cX1_rests 79 = .ok (.iload 6, 2) := dk_21 6 (dk_at dksX1_rests_3 10 rfl rfl)
theorem dX1_rests_81 : decode cX1_rests 81 = .ok (.iaload, 1) := dk_46 (dk_at dksX1_rests_3 12 rfl rfl)
theorem dX1_rests_82 : decode cX1_rests 82 = .ok (.ifCond .eq 48, 3) := dk_153 0 48 (dk_at dksX1_rests_3 13 rfl rfl)
theorem dX1_rests_85 : decode cX1_rests 85 = .ok (.aload_n 0, 1) := dk_42 (dk_at dksX1_rests_3 16 rfl rfl)
theorem dX1_rests_86 : decode cX1_rests 86 = .ok (.aload_n 0, 1) := dk_42 (dk_at dksX1_rests_3 17 rfl rfl)
theorem dX1_rests_87 : decode cX1_rests 87 = .ok (.getfield 19, 3) := dk_180 0 19 (dk_at dksX1_rests_3 18 rfl rfl)
theorem dX1_rests_90 : decode cX1_rests 90 = .ok (.iload 6, 2) := dk_21 6 (dk_at dksX1_rests_3 21 rfl rfl)
theorem dX1_rests_92 : decode cX1_rests 92 = .ok (.iload_n 1, 1) := dk_27 (dk_at dksX1_rests_3 23 rfl rfl)
theorem dX1_rests_93 : decode cX1_rests 93 = .ok (.invokevirtual 436, 3) := dk_182 1 180 (dk_at dksX1_rests_4 0 rfl rfl)
theorem dX1_rests_96 : decode cX1_rests 96 = .ok (.ifCond .ne 6, 3) := dk_154 0 6 (dk_at dksX1_rests_4 3 rfl rfl)
theorem dX1_rests_99 : decode cX1_rests 99 = .ok (.goto 31, 3) := dk_167 0 31 (dk_at dksX1_rests_4 6 rfl rfl)
theorem dX1_rests_102 : decode cX1_rests 102 = .ok (.aload_n 0, 1) := dk_42 (dk_at dksX1_rests_4 9 rfl rfl)
theorem dX1_rests_103 : decode cX1_rests 103 = .ok (.aload_n 0, 1) := dk_42 (dk_at dksX1_rests_4 10 rfl rfl)
theorem dX1_rests_104 : decode cX1_rests 104 = .ok (.getfield 19, 3) := dk_180 0 19 (dk_at dksX1_rests_4 11 rfl rfl)
theorem dX1_rests_107 : decode cX1_rests 107 = .ok (.iload 6, 2) := dk_21 6 (dk_at dksX1_rests_4 14 rfl rfl)
theorem dX1_rests_109 : decode cX1_rests 109 = .ok (.iload 6, 2) := dk_21 6 (dk_at dksX1_rests_4 16 rfl rfl)
theorem dX1_rests_111 : decode cX1_rests 111 = .ok (.iconst 2, 1) := dk_5 (dk_at dksX1_rests_4 18 rfl rfl)
theorem dX1_rests_112 : decode cX1_rests 112 = .ok (.idiv, 1) := dk_108 (dk_at dksX1_rests_4 19 rfl rfl)
theorem dX1_rests_113 : decode cX1_rests 113 = .ok (.iconst 1, 1) := dk_4 (dk_at dksX1_rests_4 20 rfl rfl)
theorem dX1_rests_114 : decode cX1_rests 114 = .ok (.invokevirtual 327, 3) := dk_182 1 71 (dk_at dksX1_rests_4 21 rfl rfl)
theorem dX1_rests_117 : decode cX1_rests 117 = .ok (.pop, 1) := dk_87 (dk_at dksX1_rests_5 0 rfl rfl)
theorem dX1_rests_118 : decode cX1_rests 118 = .ok (.iload 4, 2) := dk_21 4 (dk_at dksX1_rests_5 1 rfl rfl)
theorem dX1_rests_120 : decode cX1_rests 120 = .ok (.iconst 1, 1) := dk_4 (dk_at dksX1_rests_5 3 rfl rfl)
theorem dX1_rests_121 : decode cX1_rests 121 = .ok (.iload 6, 2) := dk_21 6 (dk_at dksX1_rests_5 4 rfl rfl)
theorem dX1_rests_123 : decode cX1_rests 123 = .ok (.ishl, 1) := dk_120 (dk_at dksX1_rests_5 6 rfl rfl)
theorem dX1_rests_124 : decode cX1_rests 124 = .ok (.ior, 1) := dk_128 (dk_at dksX1_rests_5 7 rfl rfl)
theorem dX1_rests_125 : decode cX1_rests 125 = .ok (.istore 4, 2) := dk_54 4 (dk_at dksX1_rests_5 8 rfl rfl)
theorem dX1_rests_127 : decode cX1_rests 127 = .ok (.iconst 0, 1) := dk_3 (dk_at dksX1_rests_5 10 rfl rfl)
theorem dX1_rests_128 : decode cX1_rests 128 = .ok (.istore 5, 2) := dk_54 5 (dk_at dksX1_rests_5 11 rfl rfl)
theorem dX1_rests_130 : decode cX1_rests 130 = .ok (.iinc 6 1, 3) := dk_132 6 1 (dk_at dksX1_rests_5 13 rfl rfl)
theorem dX1_rests_133 : decode cX1_rests 133 = .ok (.goto (-72), 3) := dk_167 255 184 (dk_at dksX1_rests_5 16 rfl rfl)
theorem dX1_rests_136 : decode cX1_rests 136 = .ok (.iinc 3 1, 3) := dk_132 3 1 (dk_at dksX1_rests_5 19 rfl rfl)
theorem dX1_rests_139 : decode cX1_rests 139 = .ok (.goto (-94), 3) := dk_167 255 162 (dk_at dksX1_rests_6 0 rfl rfl)
theorem dX1_rests_142 : decode cX1_rests 142 = .ok (.aload_n 0, 1) := dk_42 (dk_at dksX1_rests_6 3 rfl rfl)
theorem dX1_rests_143 : decode cX1_rests 143 = .ok (.iconst 0, 1) := dk_3 (dk_at dksX1_rests_6 4 rfl rfl)
theorem dX1_rests_144 : decode cX1_rests 144 = .ok (.putfield 264, 3) := dk_181 1 8 (dk_at dksX1_rests_6 5 rfl rfl)
theorem dX1_rests_147 : decode cX1_rests 147 = .ok (.aload_n 0, 1) := dk_42 (dk_at dksX1_rests_6 8 rfl rfl)
theorem dX1_rests_148 : decode cX1_rests 148 = .ok (.iload 5, 2) := dk_21 5 (dk_at dksX1_rests_6 9 rfl rfl)
theorem dX1_rests_150 : decode cX1_rests 150 = .ok (.ifCond .eq 7, 3) := dk_153 0 7 (dk_at dksX1_rests_6 11 rfl rfl)
theorem dX1_rests_153 : decode cX1_rests 153 = .ok (.iconst 1, 1) := dk_4 (dk_at dksX1_rests_6 14 rfl rfl)
theorem dX1_rests_154 : decode cX1_rests 154 = .ok (.goto 4, 3) := dk_167 0 4 (dk_at dksX1_rests_6 15 rfl rfl)
theorem dX1_rests_157 : decode cX1_rests 157 = .ok (.iconst 0, 1) := dk_3 (dk_at dksX1_rests_6 18 rfl rfl)
theorem dX1_rests_158 : decode cX1_rests 158 = .ok (.invokevirtual 267, 3) := dk_182 1 11 (dk_at dksX1_rests_6 19 rfl rfl)
theorem dX1_rests_161 : decode cX1_rests 161 = .ok (.aload_n 0, 1) := dk_42 (dk_at dksX1_rests_6 22 rfl rfl)
theorem dX1_rests_162 : decode cX1_rests 162 = .ok (.iload 4, 2) := dk_21 4 (dk_at dksX1_rests_7 0 rfl rfl)
theorem dX1_rests_164 : decode cX1_rests 164 = .ok (.invokevirtual 267, 3) := dk_182 1 11 (dk_at dksX1_rests_7 2 rfl rfl)
theorem dX1_rests_167 : decode cX1_rests 167 = .ok (.iload_n 3, 1) := dk_29 (dk_at dksX1_rests_7 5 rfl rfl)
theorem dX1_rests_168 : decode cX1_rests 168 = .ok (.ireturn, 1) := dk_172 (dk_at dksX1_rests_7 6 rfl rfl)
abbrev cX1_rough : ByteArray := prog_1_method_90_code
def yX1_rough : MethodName := ⟨RX1, "rough", "(II)I"⟩
def dkwX1_rough_5 : List UInt8 := [182, 1, 11, 29, 172]
abbrev dktX1_rough_5 : List UInt8 := dkwX1_rough_5 ++ []
def dkwX1_rough_4 : List UInt8 := [54, 4, 132, 5, 1, 167, 255, 188, 29, 156, 0, 6, 16, 254, 172, 42, 3, 181, 1, 8, 42, 21, 4]
abbrev dktX1_rough_4 : List UInt8 := dkwX1_rough_4 ++ dktX1_rough_5
def dkwX1_rough_3 : List UInt8 := [21, 6, 79, 21, 7, 21, 4, 162, 0, 8, 21, 5, 167, 0, 4, 29, 62, 21, 4, 21, 7, 184, 0, 130]
abbrev dktX1_rough_3 : List UInt8 := dkwX1_rough_3 ++ dktX1_rough_4
def dkwX1_rough_2 : List UInt8 := [54, 6, 42, 180, 0, 22, 21, 5, 27, 79, 42, 28, 182, 1, 158, 54, 7, 42, 180, 0, 22, 21, 5]
abbrev dktX1_rough_2 : List UInt8 := dkwX1_rough_2 ++ dktX1_rough_3
def dkwX1_rough_1 : List UInt8 := [19, 1, 136, 54, 4, 3, 54, 5, 21, 5, 42, 180, 0, 96, 162, 0, 65, 42, 180, 0, 22, 21, 5, 46]
abbrev dktX1_rough_1 : List UInt8 := dkwX1_rough_1 ++ dktX1_rough_2
def dkwX1_rough_0 : List UInt8 := [27, 133, 10, 20, 0, 250, 184, 0, 100, 153, 0, 10, 28, 184, 1, 95, 154, 0, 5, 2, 172, 16, 254, 62]
abbrev dktX1_rough_0 : List UInt8 := dkwX1_rough_0 ++ dktX1_rough_1
theorem dksX1_rough_0 : cX1_rough.data.toList.drop 0 = dktX1_rough_0 := by decide +kernel
theorem dksX1_rough_1 : cX1_rough.data.toList.drop 24 = dktX1_rough_1 := dk_seg dksX1_rough_0 24 rfl rfl
theorem dksX1_rough_2 : cX1_rough.data.toList.drop 48 = dktX1_rough_2 := dk_seg dksX1_rough_1 24 rfl rfl
theorem dksX1_rough_3 : cX1_rough.data.toList.drop 71 = dktX1_rough_3 := dk_seg dksX1_rough_2 23 rfl rfl
theorem dksX1_rough_4 : cX1_rough.data.toList.drop 95 = dktX1_rough_4 := dk_seg dksX1_rough_3 24 rfl rfl
theorem dksX1_rough_5 : cX1_rough.data.toList.drop 118 = dktX1_rough_5 := dk_seg dksX1_rough_4 23 rfl rfl
theorem dX1_rough_0 : decode cX1_rough 0 = .ok (.iload_n 1, 1) := dk_27 (dk_at dksX1_rough_0 0 rfl rfl)
theorem dX1_rough_1 : decode cX1_rough 1 = .ok (.i2l, 1) := dk_133 (dk_at dksX1_rough_0 1 rfl rfl)
theorem dX1_rough_2 : decode cX1_rough 2 = .ok (.lconst 1, 1) := dk_10 (dk_at dksX1_rough_0 2 rfl rfl)
theorem dX1_rough_3 : decode cX1_rough 3 = .ok (.ldc2_w 250, 3) := dk_20 0 250 (dk_at dksX1_rough_0 3 rfl rfl)
theorem dX1_rough_6 : decode cX1_rough 6 = .ok (.invokestatic 100, 3) := dk_184 0 100 (dk_at dksX1_rough_0 6 rfl rfl)
theorem dX1_rough_9 : decode cX1_rough 9 = .ok (.ifCond .eq 10, 3) := dk_153 0 10 (dk_at dksX1_rough_0 9 rfl rfl)
theorem dX1_rough_12 : decode cX1_rough 12 = .ok (.iload_n 2, 1) := dk_28 (dk_at dksX1_rough_0 12 rfl rfl)
theorem dX1_rough_13 : decode cX1_rough 13 = .ok (.invokestatic 351, 3) := dk_184 1 95 (dk_at dksX1_rough_0 13 rfl rfl)
theorem dX1_rough_16 : decode cX1_rough 16 = .ok (.ifCond .ne 5, 3) := dk_154 0 5 (dk_at dksX1_rough_0 16 rfl rfl)
theorem dX1_rough_19 : decode cX1_rough 19 = .ok (.iconst (-1), 1) := dk_2 (dk_at dksX1_rough_0 19 rfl rfl)
theorem dX1_rough_20 : decode cX1_rough 20 = .ok (.ireturn, 1) := dk_172 (dk_at dksX1_rough_0 20 rfl rfl)
theorem dX1_rough_21 : decode cX1_rough 21 = .ok (.bipush (-2), 2) := dk_16 254 (dk_at dksX1_rough_0 21 rfl rfl)
theorem dX1_rough_23 : decode cX1_rough 23 = .ok (.istore_n 3, 1) := dk_62 (dk_at dksX1_rough_0 23 rfl rfl)
theorem dX1_rough_24 : decode cX1_rough 24 = .ok (.ldc_w 392, 3) := dk_19 1 136 (dk_at dksX1_rough_1 0 rfl rfl)
theorem dX1_rough_27 : decode cX1_rough 27 = .ok (.istore 4, 2) := dk_54 4 (dk_at dksX1_rough_1 3 rfl rfl)
theorem dX1_rough_29 : decode cX1_rough 29 = .ok (.iconst 0, 1) := dk_3 (dk_at dksX1_rough_1 5 rfl rfl)
theorem dX1_rough_30 : decode cX1_rough 30 = .ok (.istore 5, 2) := dk_54 5 (dk_at dksX1_rough_1 6 rfl rfl)
theorem dX1_rough_32 : decode cX1_rough 32 = .ok (.iload 5, 2) := dk_21 5 (dk_at dksX1_rough_1 8 rfl rfl)
theorem dX1_rough_34 : decode cX1_rough 34 = .ok (.aload_n 0, 1) := dk_42 (dk_at dksX1_rough_1 10 rfl rfl)
theorem dX1_rough_35 : decode cX1_rough 35 = .ok (.getfield 96, 3) := dk_180 0 96 (dk_at dksX1_rough_1 11 rfl rfl)
theorem dX1_rough_38 : decode cX1_rough 38 = .ok (.if_icmp .ge 65, 3) := dk_162 0 65 (dk_at dksX1_rough_1 14 rfl rfl)
theorem dX1_rough_41 : decode cX1_rough 41 = .ok (.aload_n 0, 1) := dk_42 (dk_at dksX1_rough_1 17 rfl rfl)
theorem dX1_rough_42 : decode cX1_rough 42 = .ok (.getfield 22, 3) := dk_180 0 22 (dk_at dksX1_rough_1 18 rfl rfl)
theorem dX1_rough_45 : decode cX1_rough 45 = .ok (.iload 5, 2) := dk_21 5 (dk_at dksX1_rough_1 21 rfl rfl)
theorem dX1_rough_47 : decode cX1_rough 47 = .ok (.iaload, 1) := dk_46 (dk_at dksX1_rough_1 23 rfl rfl)
theorem dX1_rough_48 : decode cX1_rough 48 = .ok (.istore 6, 2) := dk_54 6 (dk_at dksX1_rough_2 0 rfl rfl)
theorem dX1_rough_50 : decode cX1_rough 50 = .ok (.aload_n 0, 1) := dk_42 (dk_at dksX1_rough_2 2 rfl rfl)
theorem dX1_rough_51 : decode cX1_rough 51 = .ok (.getfield 22, 3) := dk_180 0 22 (dk_at dksX1_rough_2 3 rfl rfl)
theorem dX1_rough_54 : decode cX1_rough 54 = .ok (.iload 5, 2) := dk_21 5 (dk_at dksX1_rough_2 6 rfl rfl)
theorem dX1_rough_56 : decode cX1_rough 56 = .ok (.iload_n 1, 1) := dk_27 (dk_at dksX1_rough_2 8 rfl rfl)
theorem dX1_rough_57 : decode cX1_rough 57 = .ok (.iastore, 1) := dk_79 (dk_at dksX1_rough_2 9 rfl rfl)
theorem dX1_rough_58 : decode cX1_rough 58 = .ok (.aload_n 0, 1) := dk_42 (dk_at dksX1_rough_2 10 rfl rfl)
theorem dX1_rough_59 : decode cX1_rough 59 = .ok (.iload_n 2, 1) := dk_28 (dk_at dksX1_rough_2 11 rfl rfl)
theorem dX1_rough_60 : decode cX1_rough 60 = .ok (.invokevirtual 414, 3) := dk_182 1 158 (dk_at dksX1_rough_2 12 rfl rfl)
theorem dX1_rough_63 : decode cX1_rough 63 = .ok (.istore 7, 2) := dk_54 7 (dk_at dksX1_rough_2 15 rfl rfl)
theorem dX1_rough_65 : decode cX1_rough 65 = .ok (.aload_n 0, 1) := dk_42 (dk_at dksX1_rough_2 17 rfl rfl)
theorem dX1_rough_66 : decode cX1_rough 66 = .ok (.getfield 22, 3) := dk_180 0 22 (dk_at dksX1_rough_2 18 rfl rfl)
theorem dX1_rough_69 : decode cX1_rough 69 = .ok (.iload 5, 2) := dk_21 5 (dk_at dksX1_rough_2 21 rfl rfl)
theorem dX1_rough_71 : decode cX1_rough 71 = .ok (.iload 6, 2) := dk_21 6 (dk_at dksX1_rough_3 0 rfl rfl)
theorem dX1_rough_73 : decode cX1_rough 73 = .ok (.iastore, 1) := dk_79 (dk_at dksX1_rough_3 2 rfl rfl)
theorem dX1_rough_74 : decode cX1_rough 74 = .ok (.iload 7, 2) := dk_21 7 (dk_at dksX1_rough_3 3 rfl rfl)
theorem dX1_rough_76 : decode cX1_rough 76 = .ok (.iload 4, 2) := dk_21 4 (dk_at dksX1_rough_3 5 rfl rfl)
theorem dX1_rough_78 : decode cX1_rough 78 = .ok (.if_icmp .ge 8, 3) := dk_162 0 8 (dk_at dksX1_rough_3 7 rfl rfl)
theorem dX1_rough_81 : decode cX1_rough 81 = .ok (.iload 5, 2) := dk_21 5 (dk_at dksX1_rough_3 10 rfl rfl)
theorem dX1_rough_83 : decode cX1_rough 83 = .ok (.goto 4, 3) := dk_167 0 4 (dk_at dksX1_rough_3 12 rfl rfl)
theorem dX1_rough_86 : decode cX1_rough 86 = .ok (.iload_n 3, 1) := dk_29 (dk_at dksX1_rough_3 15 rfl rfl)
theorem dX1_rough_87 : decode cX1_rough 87 = .ok (.istore_n 3, 1) := dk_62 (dk_at dksX1_rough_3 16 rfl rfl)
theorem dX1_rough_88 : decode cX1_rough 88 = .ok (.iload 4, 2) := dk_21 4 (dk_at dksX1_rough_3 17 rfl rfl)
theorem dX1_rough_90 : decode cX1_rough 90 = .ok (.iload 7, 2) := dk_21 7 (dk_at dksX1_rough_3 19 rfl rfl)
theorem dX1_rough_92 : decode cX1_rough 92 = .ok (.invokestatic 130, 3) := dk_184 0 130 (dk_at dksX1_rough_3 21 rfl rfl)
theorem dX1_rough_95 : decode cX1_rough 95 = .ok (.istore 4, 2) := dk_54 4 (dk_at dksX1_rough_4 0 rfl rfl)
theorem dX1_rough_97 : decode cX1_rough 97 = .ok (.iinc 5 1, 3) := dk_132 5 1 (dk_at dksX1_rough_4 2 rfl rfl)
theorem dX1_rough_100 : decode cX1_rough 100 = .ok (.goto (-68), 3) := dk_167 255 188 (dk_at dksX1_rough_4 5 rfl rfl)
theorem dX1_rough_103 : decode cX1_rough 103 = .ok (.iload_n 3, 1) := dk_29 (dk_at dksX1_rough_4 8 rfl rfl)
theorem dX1_rough_104 : decode cX1_rough 104 = .ok (.ifCond .ge 6, 3) := dk_156 0 6 (dk_at dksX1_rough_4 9 rfl rfl)
theorem dX1_rough_107 : decode cX1_rough 107 = .ok (.bipush (-2), 2) := dk_16 254 (dk_at dksX1_rough_4 12 rfl rfl)
theorem dX1_rough_109 : decode cX1_rough 109 = .ok (.ireturn, 1) := dk_172 (dk_at dksX1_rough_4 14 rfl rfl)
theorem dX1_rough_110 : decode cX1_rough 110 = .ok (.aload_n 0, 1) := dk_42 (dk_at dksX1_rough_4 15 rfl rfl)
theorem dX1_rough_111 : decode cX1_rough 111 = .ok (.iconst 0, 1) := dk_3 (dk_at dksX1_rough_4 16 rfl rfl)
theorem dX1_rough_112 : decode cX1_rough 112 = .ok (.putfield 264, 3) := dk_181 1 8 (dk_at dksX1_rough_4 17 rfl rfl)
theorem dX1_rough_115 : decode cX1_rough 115 = .ok (.aload_n 0, 1) := dk_42 (dk_at dksX1_rough_4 20 rfl rfl)
theorem dX1_rough_116 : decode cX1_rough 116 = .ok (.iload 4, 2) := dk_21 4 (dk_at dksX1_rough_4 21 rfl rfl)
theorem dX1_rough_118 : decode cX1_rough 118 = .ok (.invokevirtual 267, 3) := dk_182 1 11 (dk_at dksX1_rough_5 0 rfl rfl)
theorem dX1_rough_121 : decode cX1_rough 121 = .ok (.iload_n 3, 1) := dk_29 (dk_at dksX1_rough_5 3 rfl rfl)
theorem dX1_rough_122 : decode cX1_rough 122 = .ok (.ireturn, 1) := dk_172 (dk_at dksX1_rough_5 4 rfl rfl)
abbrev cX1_owedAhead : ByteArray := prog_1_method_81_code
def yX1_owedAhead : MethodName := ⟨RX1, "owedAhead", "(I)I"⟩
def dkwX1_owedAhead_1 : List UInt8 := [182, 1, 78, 172]
abbrev dktX1_owedAhead_1 : List UInt8 := dkwX1_owedAhead_1 ++ []
def dkwX1_owedAhead_0 : List UInt8 := [42, 180, 0, 16, 42, 180, 0, 12, 182, 1, 26, 42, 42, 180, 0, 16, 27, 182, 1, 98, 42, 180, 0, 16]
abbrev dktX1_owedAhead_0 : List UInt8 := dkwX1_owedAhead_0 ++ dktX1_owedAhead_1
theorem dksX1_owedAhead_0 : cX1_owedAhead.data.toList.drop 0 = dktX1_owedAhead_0 := by decide +kernel
theorem dksX1_owedAhead_1 : cX1_owedAhead.data.toList.drop 24 = dktX1_owedAhead_1 := dk_seg dksX1_owedAhead_0 24 rfl rfl
theorem dX1_owedAhead_0 : decode cX1_owedAhead 0 = .ok (.aload_n 0, 1) := dk_42 (dk_at dksX1_owedAhead_0 0 rfl rfl)
theorem dX1_owedAhead_1 : decode cX1_owedAhead 1 = .ok (.getfield 16, 3) := dk_180 0 16 (dk_at dksX1_owedAhead_0 1 rfl rfl)
theorem dX1_owedAhead_4 : decode cX1_owedAhead 4 = .ok (.aload_n 0, 1) := dk_42 (dk_at dksX1_owedAhead_0 4 rfl rfl)
theorem dX1_owedAhead_5 : decode cX1_owedAhead 5 = .ok (.getfield 12, 3) := dk_180 0 12 (dk_at dksX1_owedAhead_0 5 rfl rfl)
theorem dX1_owedAhead_8 : decode cX1_owedAhead 8 = .ok (.invokevirtual 282, 3) := dk_182 1 26 (dk_at dksX1_owedAhead_0 8 rfl rfl)
theorem dX1_owedAhead_11 : decode cX1_owedAhead 11 = .ok (.aload_n 0, 1) := dk_42 (dk_at dksX1_owedAhead_0 11 rfl rfl)
theorem dX1_owedAhead_12 : decode cX1_owedAhead 12 = .ok (.aload_n 0, 1) := dk_42 (dk_at dksX1_owedAhead_0 12 rfl rfl)
theorem dX1_owedAhead_13 : decode cX1_owedAhead 13 = .ok (.getfield 16, 3) := dk_180 0 16 (dk_at dksX1_owedAhead_0 13 rfl rfl)
theorem dX1_owedAhead_16 : decode cX1_owedAhead 16 = .ok (.iload_n 1, 1) := dk_27 (dk_at dksX1_owedAhead_0 16 rfl rfl)
theorem dX1_owedAhead_17 : decode cX1_owedAhead 17 = .ok (.invokevirtual 354, 3) := dk_182 1 98 (dk_at dksX1_owedAhead_0 17 rfl rfl)
theorem dX1_owedAhead_20 : decode cX1_owedAhead 20 = .ok (.aload_n 0, 1) := dk_42 (dk_at dksX1_owedAhead_0 20 rfl rfl)
theorem dX1_owedAhead_21 : decode cX1_owedAhead 21 = .ok (.getfield 16, 3) := dk_180 0 16 (dk_at dksX1_owedAhead_0 21 rfl rfl)
theorem dX1_owedAhead_24 : decode cX1_owedAhead 24 = .ok (.invokevirtual 334, 3) := dk_182 1 78 (dk_at dksX1_owedAhead_1 0 rfl rfl)
theorem dX1_owedAhead_27 : decode cX1_owedAhead 27 = .ok (.ireturn, 1) := dk_172 (dk_at dksX1_owedAhead_1 3 rfl rfl)
abbrev cX1_turned : ByteArray := prog_1_method_92_code
def yX1_turned : MethodName := ⟨RX1, "turned", "(I)I"⟩
def dkwX1_turned_4 : List UInt8 := [172]
abbrev dktX1_turned_4 : List UInt8 := dkwX1_turned_4 ++ []
def dkwX1_turned_3 : List UInt8 := [132, 4, 1, 167, 255, 205, 28, 156, 0, 6, 16, 254, 172, 42, 3, 181, 1, 8, 42, 29, 182, 1, 11, 28]
abbrev dktX1_turned_3 : List UInt8 := dkwX1_turned_3 ++ dktX1_turned_4
def dkwX1_turned_2 : List UInt8 := [182, 1, 186, 21, 5, 29, 162, 0, 8, 21, 4, 167, 0, 4, 28, 61, 29, 21, 5, 184, 0, 130, 62]
abbrev dktX1_turned_2 : List UInt8 := dkwX1_turned_2 ++ dktX1_turned_3
def dkwX1_turned_1 : List UInt8 := [180, 0, 96, 162, 0, 48, 42, 21, 4, 182, 1, 186, 42, 27, 182, 1, 158, 54, 5, 42, 21, 4]
abbrev dktX1_turned_1 : List UInt8 := dkwX1_turned_1 ++ dktX1_turned_2
def dkwX1_turned_0 : List UInt8 := [27, 184, 1, 95, 154, 0, 5, 2, 172, 16, 254, 61, 19, 1, 136, 62, 3, 54, 4, 21, 4, 42]
abbrev dktX1_turned_0 : List UInt8 := dkwX1_turned_0 ++ dktX1_turned_1
theorem dksX1_turned_0 : cX1_turned.data.toList.drop 0 = dktX1_turned_0 := by decide +kernel
theorem dksX1_turned_1 : cX1_turned.data.toList.drop 22 = dktX1_turned_1 := dk_seg dksX1_turned_0 22 rfl rfl
theorem dksX1_turned_2 : cX1_turned.data.toList.drop 44 = dktX1_turned_2 := dk_seg dksX1_turned_1 22 rfl rfl
theorem dksX1_turned_3 : cX1_turned.data.toList.drop 67 = dktX1_turned_3 := dk_seg dksX1_turned_2 23 rfl rfl
theorem dksX1_turned_4 : cX1_turned.data.toList.drop 91 = dktX1_turned_4 := dk_seg dksX1_turned_3 24 rfl rfl
theorem dX1_turned_0 : decode cX1_turned 0 = .ok (.iload_n 1, 1) := dk_27 (dk_at dksX1_turned_0 0 rfl rfl)
theorem dX1_turned_1 : decode cX1_turned 1 = .ok (.invokestatic 351, 3) := dk_184 1 95 (dk_at dksX1_turned_0 1 rfl rfl)
theorem dX1_turned_4 : decode cX1_turned 4 = .ok (.ifCond .ne 5, 3) := dk_154 0 5 (dk_at dksX1_turned_0 4 rfl rfl)
theorem dX1_turned_7 : decode cX1_turned 7 = .ok (.iconst (-1), 1) := dk_2 (dk_at dksX1_turned_0 7 rfl rfl)
theorem dX1_turned_8 : decode cX1_turned 8 = .ok (.ireturn, 1) := dk_172 (dk_at dksX1_turned_0 8 rfl rfl)
theorem dX1_turned_9 : decode cX1_turned 9 = .ok (.bipush (-2), 2) := dk_16 254 (dk_at dksX1_turned_0 9 rfl rfl)
theorem dX1_turned_11 : decode cX1_turned 11 = .ok (.istore_n 2, 1) := dk_61 (dk_at dksX1_turned_0 11 rfl rfl)
theorem dX1_turned_12 : decode cX1_turned 12 = .ok (.ldc_w 392, 3) := dk_19 1 136 (dk_at dksX1_turned_0 12 rfl rfl)
theorem dX1_turned_15 : decode cX1_turned 15 = .ok (.istore_n 3, 1) := dk_62 (dk_at dksX1_turned_0 15 rfl rfl)
theorem dX1_turned_16 : decode cX1_turned 16 = .ok (.iconst 0, 1) := dk_3 (dk_at dksX1_turned_0 16 rfl rfl)
theorem dX1_turned_17 : decode cX1_turned 17 = .ok (.istore 4, 2) := dk_54 4 (dk_at dksX1_turned_0 17 rfl rfl)
theorem dX1_turned_19 : decode cX1_turned 19 = .ok (.iload 4, 2) := dk_21 4 (dk_at dksX1_turned_0 19 rfl rfl)
theorem dX1_turned_21 : decode cX1_turned 21 = .ok (.aload_n 0, 1) := dk_42 (dk_at dksX1_turned_0 21 rfl rfl)
theorem dX1_turned_22 : decode cX1_turned 22 = .ok (.getfield 96, 3) := dk_180 0 96 (dk_at dksX1_turned_1 0 rfl rfl)
theorem dX1_turned_25 : decode cX1_turned 25 = .ok (.if_icmp .ge 48, 3) := dk_162 0 48 (dk_at dksX1_turned_1 3 rfl rfl)
theorem dX1_turned_28 : decode cX1_turned 28 = .ok (.aload_n 0, 1) := dk_42 (dk_at dksX1_turned_1 6 rfl rfl)
theorem dX1_turned_29 : decode cX1_turned 29 = .ok (.iload 4, 2) := dk_21 4 (dk_at dksX1_turned_1 7 rfl rfl)
theorem dX1_turned_31 : decode cX1_turned 31 = .ok (.invokevirtual 442, 3) := dk_182 1 186 (dk_at dksX1_turned_1 9 rfl rfl)
theorem dX1_turned_34 : decode cX1_turned 34 = .ok (.aload_n 0, 1) := dk_42 (dk_at dksX1_turned_1 12 rfl rfl)
theorem dX1_turned_35 : decode cX1_turned 35 = .ok (.iload_n 1, 1) := dk_27 (dk_at dksX1_turned_1 13 rfl rfl)
theorem dX1_turned_36 : decode cX1_turned 36 = .ok (.invokevirtual 414, 3) := dk_182 1 158 (dk_at dksX1_turned_1 14 rfl rfl)
theorem dX1_turned_39 : decode cX1_turned 39 = .ok (.istore 5, 2) := dk_54 5 (dk_at dksX1_turned_1 17 rfl rfl)
theorem dX1_turned_41 : decode cX1_turned 41 = .ok (.aload_n 0, 1) := dk_42 (dk_at dksX1_turned_1 19 rfl rfl)
theorem dX1_turned_42 : decode cX1_turned 42 = .ok (.iload 4, 2) := dk_21 4 (dk_at dksX1_turned_1 20 rfl rfl)
theorem dX1_turned_44 : decode cX1_turned 44 = .ok (.invokevirtual 442, 3) := dk_182 1 186 (dk_at dksX1_turned_2 0 rfl rfl)
theorem dX1_turned_47 : decode cX1_turned 47 = .ok (.iload 5, 2) := dk_21 5 (dk_at dksX1_turned_2 3 rfl rfl)
theorem dX1_turned_49 : decode cX1_turned 49 = .ok (.iload_n 3, 1) := dk_29 (dk_at dksX1_turned_2 5 rfl rfl)
theorem dX1_turned_50 : decode cX1_turned 50 = .ok (.if_icmp .ge 8, 3) := dk_162 0 8 (dk_at dksX1_turned_2 6 rfl rfl)
theorem dX1_turned_53 : decode cX1_turned 53 = .ok (.iload 4, 2) := dk_21 4 (dk_at dksX1_turned_2 9 rfl rfl)
theorem dX1_turned_55 : decode cX1_turned 55 = .ok (.goto 4, 3) := dk_167 0 4 (dk_at dksX1_turned_2 11 rfl rfl)
theorem dX1_turned_58 : decode cX1_turned 58 = .ok (.iload_n 2, 1) := dk_28 (dk_at dksX1_turned_2 14 rfl rfl)
theorem dX1_turned_59 : decode cX1_turned 59 = .ok (.istore_n 2, 1) := dk_61 (dk_at dksX1_turned_2 15 rfl rfl)
theorem dX1_turned_60 : decode cX1_turned 60 = .ok (.iload_n 3, 1) := dk_29 (dk_at dksX1_turned_2 16 rfl rfl)
theorem dX1_turned_61 : decode cX1_turned 61 = .ok (.iload 5, 2) := dk_21 5 (dk_at dksX1_turned_2 17 rfl rfl)
theorem dX1_turned_63 : decode cX1_turned 63 = .ok (.invokestatic 130, 3) := dk_184 0 130 (dk_at dksX1_turned_2 19 rfl rfl)
theorem dX1_turned_66 : decode cX1_turned 66 = .ok (.istore_n 3, 1) := dk_62 (dk_at dksX1_turned_2 22 rfl rfl)
theorem dX1_turned_67 : decode cX1_turned 67 = .ok (.iinc 4 1, 3) := dk_132 4 1 (dk_at dksX1_turned_3 0 rfl rfl)
theorem dX1_turned_70 : decode cX1_turned 70 = .ok (.goto (-51), 3) := dk_167 255 205 (dk_at dksX1_turned_3 3 rfl rfl)
theorem dX1_turned_73 : decode cX1_turned 73 = .ok (.iload_n 2, 1) := dk_28 (dk_at dksX1_turned_3 6 rfl rfl)
theorem dX1_turned_74 : decode cX1_turned 74 = .ok (.ifCond .ge 6, 3) := dk_156 0 6 (dk_at dksX1_turned_3 7 rfl rfl)
theorem dX1_turned_77 : decode cX1_turned 77 = .ok (.bipush (-2), 2) := dk_16 254 (dk_at dksX1_turned_3 10 rfl rfl)
theorem dX1_turned_79 : decode cX1_turned 79 = .ok (.ireturn, 1) := dk_172 (dk_at dksX1_turned_3 12 rfl rfl)
theorem dX1_turned_80 : decode cX1_turned 80 = .ok (.aload_n 0, 1) := dk_42 (dk_at dksX1_turned_3 13 rfl rfl)
theorem dX1_turned_81 : decode cX1_turned 81 = .ok (.iconst 0, 1) := dk_3 (dk_at dksX1_turned_3 14 rfl rfl)
theorem dX1_turned_82 : decode cX1_turned 82 = .ok (.putfield 264, 3) := dk_181 1 8 (dk_at dksX1_turned_3 15 rfl rfl)
theorem dX1_turned_85 : decode cX1_turned 85 = .ok (.aload_n 0, 1) := dk_42 (dk_at dksX1_turned_3 18 rfl rfl)
theorem dX1_turned_86 : decode cX1_turned 86 = .ok (.iload_n 3, 1) := dk_29 (dk_at dksX1_turned_3 19 rfl rfl)
theorem dX1_turned_87 : decode cX1_turned 87 = .ok (.invokevirtual 267, 3) := dk_182 1 11 (dk_at dksX1_turned_3 20 rfl rfl)
theorem dX1_turned_90 : decode cX1_turned 90 = .ok (.iload_n 2, 1) := dk_28 (dk_at dksX1_turned_3 23 rfl rfl)
theorem dX1_turned_91 : decode cX1_turned 91 = .ok (.ireturn, 1) := dk_172 (dk_at dksX1_turned_4 0 rfl rfl)
abbrev cX1_turns : ByteArray := prog_1_method_91_code
def yX1_turns : MethodName := ⟨RX1, "turns", "(I)V"⟩
def dkwX1_turns_1 : List UInt8 := [96, 46, 79, 42, 180, 0, 26, 5, 27, 104, 4, 96, 28, 79, 177]
abbrev dktX1_turns_1 : List UInt8 := dkwX1_turns_1 ++ []
def dkwX1_turns_0 : List UInt8 := [42, 180, 0, 26, 5, 27, 104, 46, 61, 42, 180, 0, 26, 5, 27, 104, 42, 180, 0, 26, 5, 27, 104, 4]
abbrev dktX1_turns_0 : List UInt8 := dkwX1_turns_0 ++ dktX1_turns_1
theorem dksX1_turns_0 : cX1_turns.data.toList.drop 0 = dktX1_turns_0 := by decide +kernel
theorem dksX1_turns_1 : cX1_turns.data.toList.drop 24 = dktX1_turns_1 := dk_seg dksX1_turns_0 24 rfl rfl
theorem dX1_turns_0 : decode cX1_turns 0 = .ok (.aload_n 0, 1) := dk_42 (dk_at dksX1_turns_0 0 rfl rfl)
theorem dX1_turns_1 : decode cX1_turns 1 = .ok (.getfield 26, 3) := dk_180 0 26 (dk_at dksX1_turns_0 1 rfl rfl)
theorem dX1_turns_4 : decode cX1_turns 4 = .ok (.iconst 2, 1) := dk_5 (dk_at dksX1_turns_0 4 rfl rfl)
theorem dX1_turns_5 : decode cX1_turns 5 = .ok (.iload_n 1, 1) := dk_27 (dk_at dksX1_turns_0 5 rfl rfl)
theorem dX1_turns_6 : decode cX1_turns 6 = .ok (.imul, 1) := dk_104 (dk_at dksX1_turns_0 6 rfl rfl)
theorem dX1_turns_7 : decode cX1_turns 7 = .ok (.iaload, 1) := dk_46 (dk_at dksX1_turns_0 7 rfl rfl)
theorem dX1_turns_8 : decode cX1_turns 8 = .ok (.istore_n 2, 1) := dk_61 (dk_at dksX1_turns_0 8 rfl rfl)
theorem dX1_turns_9 : decode cX1_turns 9 = .ok (.aload_n 0, 1) := dk_42 (dk_at dksX1_turns_0 9 rfl rfl)
theorem dX1_turns_10 : decode cX1_turns 10 = .ok (.getfield 26, 3) := dk_180 0 26 (dk_at dksX1_turns_0 10 rfl rfl)
theorem dX1_turns_13 : decode cX1_turns 13 = .ok (.iconst 2, 1) := dk_5 (dk_at dksX1_turns_0 13 rfl rfl)
theorem dX1_turns_14 : decode cX1_turns 14 = .ok (.iload_n 1, 1) := dk_27 (dk_at dksX1_turns_0 14 rfl rfl)
theorem dX1_turns_15 : decode cX1_turns 15 = .ok (.imul, 1) := dk_104 (dk_at dksX1_turns_0 15 rfl rfl)
theorem dX1_turns_16 : decode cX1_turns 16 = .ok (.aload_n 0, 1) := dk_42 (dk_at dksX1_turns_0 16 rfl rfl)
theorem dX1_turns_17 : decode cX1_turns 17 = .ok (.getfield 26, 3) := dk_180 0 26 (dk_at dksX1_turns_0 17 rfl rfl)
theorem dX1_turns_20 : decode cX1_turns 20 = .ok (.iconst 2, 1) := dk_5 (dk_at dksX1_turns_0 20 rfl rfl)
theorem dX1_turns_21 : decode cX1_turns 21 = .ok (.iload_n 1, 1) := dk_27 (dk_at dksX1_turns_0 21 rfl rfl)
theorem dX1_turns_22 : decode cX1_turns 22 = .ok (.imul, 1) := dk_104 (dk_at dksX1_turns_0 22 rfl rfl)
theorem dX1_turns_23 : decode cX1_turns 23 = .ok (.iconst 1, 1) := dk_4 (dk_at dksX1_turns_0 23 rfl rfl)
theorem dX1_turns_24 : decode cX1_turns 24 = .ok (.iadd, 1) := dk_96 (dk_at dksX1_turns_1 0 rfl rfl)
theorem dX1_turns_25 : decode cX1_turns 25 = .ok (.iaload, 1) := dk_46 (dk_at dksX1_turns_1 1 rfl rfl)
theorem dX1_turns_26 : decode cX1_turns 26 = .ok (.iastore, 1) := dk_79 (dk_at dksX1_turns_1 2 rfl rfl)
theorem dX1_turns_27 : decode cX1_turns 27 = .ok (.aload_n 0, 1) := dk_42 (dk_at dksX1_turns_1 3 rfl rfl)
theorem dX1_turns_28 : decode cX1_turns 28 = .ok (.getfield 26, 3) := dk_180 0 26 (dk_at dksX1_turns_1 4 rfl rfl)
theorem dX1_turns_31 : decode cX1_turns 31 = .ok (.iconst 2, 1) := dk_5 (dk_at dksX1_turns_1 7 rfl rfl)
theorem dX1_turns_32 : decode cX1_turns 32 = .ok (.iload_n 1, 1) := dk_27 (dk_at dksX1_turns_1 8 rfl rfl)
theorem dX1_turns_33 : decode cX1_turns 33 = .ok (.imul, 1) := dk_104 (dk_at dksX1_turns_1 9 rfl rfl)
theorem dX1_turns_34 : decode cX1_turns 34 = .ok (.iconst 1, 1) := dk_4 (dk_at dksX1_turns_1 10 rfl rfl)
theorem dX1_turns_35 : decode cX1_turns 35 = .ok (.iadd, 1) := dk_96 (dk_at dksX1_turns_1 11 rfl rfl)
theorem dX1_turns_36 : decode cX1_turns 36 = .ok (.iload_n 2, 1) := dk_28 (dk_at dksX1_turns_1 12 rfl rfl)
theorem dX1_turns_37 : decode cX1_turns 37 = .ok (.iastore, 1) := dk_79 (dk_at dksX1_turns_1 13 rfl rfl)
theorem dX1_turns_38 : decode cX1_turns 38 = .ok (.return_, 1) := dk_177 (dk_at dksX1_turns_1 14 rfl rfl)
abbrev cX1_needs : ByteArray := prog_1_method_93_code
def yX1_needs : MethodName := ⟨RX1, "needs", "(II)I"⟩
def dkwX1_needs_3 : List UInt8 := [167, 0, 5, 21, 4, 54, 4, 132, 5, 1, 167, 255, 206, 42, 180, 0, 22, 27, 29, 79, 21, 4, 172]
abbrev dktX1_needs_3 : List UInt8 := dkwX1_needs_3 ++ []
def dkwX1_needs_2 : List UInt8 := [21, 5, 79, 42, 28, 182, 1, 158, 87, 42, 180, 0, 16, 180, 1, 68, 27, 46, 154, 0, 8, 21, 5]
abbrev dktX1_needs_2 : List UInt8 := dkwX1_needs_2 ++ dktX1_needs_3
def dkwX1_needs_1 : List UInt8 := [16, 254, 54, 4, 4, 54, 5, 21, 5, 16, 99, 163, 0, 49, 21, 4, 156, 0, 44, 42, 180, 0, 22, 27]
abbrev dktX1_needs_1 : List UInt8 := dkwX1_needs_1 ++ dktX1_needs_2
def dkwX1_needs_0 : List UInt8 := [42, 27, 182, 0, 104, 153, 0, 10, 28, 184, 1, 95, 154, 0, 5, 2, 172, 42, 180, 0, 22, 27, 46, 62]
abbrev dktX1_needs_0 : List UInt8 := dkwX1_needs_0 ++ dktX1_needs_1
theorem dksX1_needs_0 : cX1_needs.data.toList.drop 0 = dktX1_needs_0 := by decide +kernel
theorem dksX1_needs_1 : cX1_needs.data.toList.drop 24 = dktX1_needs_1 := dk_seg dksX1_needs_0 24 rfl rfl
theorem dksX1_needs_2 : cX1_needs.data.toList.drop 48 = dktX1_needs_2 := dk_seg dksX1_needs_1 24 rfl rfl
theorem dksX1_needs_3 : cX1_needs.data.toList.drop 71 = dktX1_needs_3 := dk_seg dksX1_needs_2 23 rfl rfl
theorem dX1_needs_0 : decode cX1_needs 0 = .ok (.aload_n 0, 1) := dk_42 (dk_at dksX1_needs_0 0 rfl rfl)
theorem dX1_needs_1 : decode cX1_needs 1 = .ok (.iload_n 1, 1) := dk_27 (dk_at dksX1_needs_0 1 rfl rfl)
theorem dX1_needs_2 : decode cX1_needs 2 = .ok (.invokevirtual 104, 3) := dk_182 0 104 (dk_at dksX1_needs_0 2 rfl rfl)
theorem dX1_needs_5 : decode cX1_needs 5 = .ok (.ifCond .eq 10, 3) := dk_153 0 10 (dk_at dksX1_needs_0 5 rfl rfl)
theorem dX1_needs_8 : decode cX1_needs 8 = .ok (.iload_n 2, 1) := dk_28 (dk_at dksX1_needs_0 8 rfl rfl)
theorem dX1_needs_9 : decode cX1_needs 9 = .ok (.invokestatic 351, 3) := dk_184 1 95 (dk_at dksX1_needs_0 9 rfl rfl)
theorem dX1_needs_12 : decode cX1_needs 12 = .ok (.ifCond .ne 5, 3) := dk_154 0 5 (dk_at dksX1_needs_0 12 rfl rfl)
theorem dX1_needs_15 : decode cX1_needs 15 = .ok (.iconst (-1), 1) := dk_2 (dk_at dksX1_needs_0 15 rfl rfl)
theorem dX1_needs_16 : decode cX1_needs 16 = .ok (.ireturn, 1) := dk_172 (dk_at dksX1_needs_0 16 rfl rfl)
theorem dX1_needs_17 : decode cX1_needs 17 = .ok (.aload_n 0, 1) := dk_42 (dk_at dksX1_needs_0 17 rfl rfl)
theorem dX1_needs_18 : decode cX1_needs 18 = .ok (.getfield 22, 3) := dk_180 0 22 (dk_at dksX1_needs_0 18 rfl rfl)
theorem dX1_needs_21 : decode cX1_needs 21 = .ok (.iload_n 1, 1) := dk_27 (dk_at dksX1_needs_0 21 rfl rfl)
theorem dX1_needs_22 : decode cX1_needs 22 = .ok (.iaload, 1) := dk_46 (dk_at dksX1_needs_0 22 rfl rfl)
theorem dX1_needs_23 : decode cX1_needs 23 = .ok (.istore_n 3, 1) := dk_62 (dk_at dksX1_needs_0 23 rfl rfl)
theorem dX1_needs_24 : decode cX1_needs 24 = .ok (.bipush (-2), 2) := dk_16 254 (dk_at dksX1_needs_1 0 rfl rfl)
theorem dX1_needs_26 : decode cX1_needs 26 = .ok (.istore 4, 2) := dk_54 4 (dk_at dksX1_needs_1 2 rfl rfl)
theorem dX1_needs_28 : decode cX1_needs 28 = .ok (.iconst 1, 1) := dk_4 (dk_at dksX1_needs_1 4 rfl rfl)
theorem dX1_needs_29 : decode cX1_needs 29 = .ok (.istore 5, 2) := dk_54 5 (dk_at dksX1_needs_1 5 rfl rfl)
theorem dX1_needs_31 : decode cX1_needs 31 = .ok (.iload 5, 2) := dk_21 5 (dk_at dksX1_needs_1 7 rfl rfl)
theorem dX1_needs_33 : decode cX1_needs 33 = .ok (.bipush 99, 2) := dk_16 99 (dk_at dksX1_needs_1 9 rfl rfl)
theorem dX1_needs_35 : decode cX1_needs 35 = .ok (.if_icmp .gt 49, 3) := dk_163 0 49 (dk_at dksX1_needs_1 11 rfl rfl)
theorem dX1_needs_38 : decode cX1_needs 38 = .ok (.iload 4, 2) := dk_21 4 (dk_at dksX1_needs_1 14 rfl rfl)
theorem dX1_needs_40 : decode cX1_needs 40 = .ok (.ifCond .ge 44, 3) := dk_156 0 44 (dk_at dksX1_needs_1 16 rfl rfl)
theorem dX1_needs_43 : decode cX1_needs 43 = .ok (.aload_n 0, 1) := dk_42 (dk_at dksX1_needs_1 19 rfl rfl)
theorem dX1_needs_44 : decode cX1_needs 44 = .ok (.getfield 22, 3) := dk_180 0 22 (dk_at dksX1_needs_1 20 rfl rfl)
theorem dX1_needs_47 : decode cX1_needs 47 = .ok (.iload_n 1, 1) := dk_27 (dk_at dksX1_needs_1 23 rfl rfl)
theorem dX1_needs_48 : decode cX1_needs 48 = .ok (.iload 5, 2) := dk_21 5 (dk_at dksX1_needs_2 0 rfl rfl)
theorem dX1_needs_50 : decode cX1_needs 50 = .ok (.iastore, 1) := dk_79 (dk_at dksX1_needs_2 2 rfl rfl)
theorem dX1_needs_51 : decode cX1_needs 51 = .ok (.aload_n 0, 1) := dk_42 (dk_at dksX1_needs_2 3 rfl rfl)
theorem dX1_needs_52 : decode cX1_needs 52 = .ok (.iload_n 2, 1) := dk_28 (dk_at dksX1_needs_2 4 rfl rfl)
theorem dX1_needs_53 : decode cX1_needs 53 = .ok (.invokevirtual 414, 3) := dk_182 1 158 (dk_at dksX1_needs_2 5 rfl rfl)
theorem dX1_needs_56 : decode cX1_needs 56 = .ok (.pop, 1) := dk_87 (dk_at dksX1_needs_2 8 rfl rfl)
theorem dX1_needs_57 : decode cX1_needs 57 = .ok (.aload_n 0, 1) := dk_42 (dk_at dksX1_needs_2 9 rfl rfl)
theorem dX1_needs_58 : decode cX1_needs 58 = .ok (.getfield 16, 3) := dk_180 0 16 (dk_at dksX1_needs_2 10 rfl rfl)
theorem dX1_needs_61 : decode cX1_needs 61 = .ok (.getfield 324, 3) := dk_180 1 68 (dk_at dksX1_needs_2 13 rfl rfl)
theorem dX1_needs_64 : decode cX1_needs 64 = .ok (.iload_n 1, 1) := dk_27 (dk_at dksX1_needs_2 16 rfl rfl)
theorem dX1_needs_65 : decode cX1_needs 65 = .ok (.iaload, 1) := dk_46 (dk_at dksX1_needs_2 17 rfl rfl)
theorem dX1_needs_66 : decode cX1_needs 66 = .ok (.ifCond .ne 8, 3) := dk_154 0 8 (dk_at dksX1_needs_2 18 rfl rfl)
theorem dX1_needs_69 : decode cX1_needs 69 = .ok (.iload 5, 2) := dk_21 5 (dk_at dksX1_needs_2 21 rfl rfl)
theorem dX1_needs_71 : decode cX1_needs 71 = .ok (.goto 5, 3) := dk_167 0 5 (dk_at dksX1_needs_3 0 rfl rfl)
theorem dX1_needs_74 : decode cX1_needs 74 = .ok (.iload 4, 2) := dk_21 4 (dk_at dksX1_needs_3 3 rfl rfl)
theorem dX1_needs_76 : decode cX1_needs 76 = .ok (.istore 4, 2) := dk_54 4 (dk_at dksX1_needs_3 5 rfl rfl)
theorem dX1_needs_78 : decode cX1_needs 78 = .ok (.iinc 5 1, 3) := dk_132 5 1 (dk_at dksX1_needs_3 7 rfl rfl)
theorem dX1_needs_81 : decode cX1_needs 81 = .ok (.goto (-50), 3) := dk_167 255 206 (dk_at dksX1_needs_3 10 rfl rfl)
theorem dX1_needs_84 : decode cX1_needs 84 = .ok (.aload_n 0, 1) := dk_42 (dk_at dksX1_needs_3 13 rfl rfl)
theorem dX1_needs_85 : decode cX1_needs 85 = .ok (.getfield 22, 3) := dk_180 0 22 (dk_at dksX1_needs_3 14 rfl rfl)
theorem dX1_needs_88 : decode cX1_needs 88 = .ok (.iload_n 1, 1) := dk_27 (dk_at dksX1_needs_3 17 rfl rfl)
theorem dX1_needs_89 : decode cX1_needs 89 = .ok (.iload_n 3, 1) := dk_29 (dk_at dksX1_needs_3 18 rfl rfl)
theorem dX1_needs_90 : decode cX1_needs 90 = .ok (.iastore, 1) := dk_79 (dk_at dksX1_needs_3 19 rfl rfl)
theorem dX1_needs_91 : decode cX1_needs 91 = .ok (.iload 4, 2) := dk_21 4 (dk_at dksX1_needs_3 20 rfl rfl)
theorem dX1_needs_93 : decode cX1_needs 93 = .ok (.ireturn, 1) := dk_172 (dk_at dksX1_needs_3 22 rfl rfl)
abbrev cX1_track : ByteArray := prog_1_method_95_code
def yX1_track : MethodName := ⟨RX1, "track", "(II)I"⟩
def dkwX1_track_2 : List UInt8 := [180, 1, 189, 28, 79, 42, 89, 180, 1, 189, 4, 96, 181, 1, 189, 42, 180, 1, 189, 172]
abbrev dktX1_track_2 : List UInt8 := dkwX1_track_2 ++ []
def dkwX1_track_1 : List UInt8 := [16, 20, 160, 0, 5, 2, 172, 42, 180, 0, 81, 42, 180, 1, 189, 27, 79, 42, 180, 0, 84, 42]
abbrev dktX1_track_1 : List UInt8 := dkwX1_track_1 ++ dktX1_track_2
def dkwX1_track_0 : List UInt8 := [42, 27, 182, 0, 104, 153, 0, 24, 28, 133, 9, 20, 1, 0, 184, 0, 100, 153, 0, 12, 42, 180, 1, 189]
abbrev dktX1_track_0 : List UInt8 := dkwX1_track_0 ++ dktX1_track_1
theorem dksX1_track_0 : cX1_track.data.toList.drop 0 = dktX1_track_0 := by decide +kernel
theorem dksX1_track_1 : cX1_track.data.toList.drop 24 = dktX1_track_1 := dk_seg dksX1_track_0 24 rfl rfl
theorem dksX1_track_2 : cX1_track.data.toList.drop 46 = dktX1_track_2 := dk_seg dksX1_track_1 22 rfl rfl
theorem dX1_track_0 : decode cX1_track 0 = .ok (.aload_n 0, 1) := dk_42 (dk_at dksX1_track_0 0 rfl rfl)
theorem dX1_track_1 : decode cX1_track 1 = .ok (.iload_n 1, 1) := dk_27 (dk_at dksX1_track_0 1 rfl rfl)
theorem dX1_track_2 : decode cX1_track 2 = .ok (.invokevirtual 104, 3) := dk_182 0 104 (dk_at dksX1_track_0 2 rfl rfl)
theorem dX1_track_5 : decode cX1_track 5 = .ok (.ifCond .eq 24, 3) := dk_153 0 24 (dk_at dksX1_track_0 5 rfl rfl)
theorem dX1_track_8 : decode cX1_track 8 = .ok (.iload_n 2, 1) := dk_28 (dk_at dksX1_track_0 8 rfl rfl)
theorem dX1_track_9 : decode cX1_track 9 = .ok (.i2l, 1) := dk_133 (dk_at dksX1_track_0 9 rfl rfl)
theorem dX1_track_10 : decode cX1_track 10 = .ok (.lconst 0, 1) := dk_9 (dk_at dksX1_track_0 10 rfl rfl)
theorem dX1_track_11 : decode cX1_track 11 = .ok (.ldc2_w 256, 3) := dk_20 1 0 (dk_at dksX1_track_0 11 rfl rfl)
theorem dX1_track_14 : decode cX1_track 14 = .ok (.invokestatic 100, 3) := dk_184 0 100 (dk_at dksX1_track_0 14 rfl rfl)
theorem dX1_track_17 : decode cX1_track 17 = .ok (.ifCond .eq 12, 3) := dk_153 0 12 (dk_at dksX1_track_0 17 rfl rfl)
theorem dX1_track_20 : decode cX1_track 20 = .ok (.aload_n 0, 1) := dk_42 (dk_at dksX1_track_0 20 rfl rfl)
theorem dX1_track_21 : decode cX1_track 21 = .ok (.getfield 445, 3) := dk_180 1 189 (dk_at dksX1_track_0 21 rfl rfl)
theorem dX1_track_24 : decode cX1_track 24 = .ok (.bipush 20, 2) := dk_16 20 (dk_at dksX1_track_1 0 rfl rfl)
theorem dX1_track_26 : decode cX1_track 26 = .ok (.if_icmp .ne 5, 3) := dk_160 0 5 (dk_at dksX1_track_1 2 rfl rfl)
theorem dX1_track_29 : decode cX1_track 29 = .ok (.iconst (-1), 1) := dk_2 (dk_at dksX1_track_1 5 rfl rfl)
theorem dX1_track_30 : decode cX1_track 30 = .ok (.ireturn, 1) := dk_172 (dk_at dksX1_track_1 6 rfl rfl)
theorem dX1_track_31 : decode cX1_track 31 = .ok (.aload_n 0, 1) := dk_42 (dk_at dksX1_track_1 7 rfl rfl)
theorem dX1_track_32 : decode cX1_track 32 = .ok (.getfield 81, 3) := dk_180 0 81 (dk_at dksX1_track_1 8 rfl rfl)
theorem dX1_track_35 : decode cX1_track 35 = .ok (.aload_n 0, 1) := dk_42 (dk_at dksX1_track_1 11 rfl rfl)
theorem dX1_track_36 : decode cX1_track 36 = .ok (.getfield 445, 3) := dk_180 1 189 (dk_at dksX1_track_1 12 rfl rfl)
theorem dX1_track_39 : decode cX1_track 39 = .ok (.iload_n 1, 1) := dk_27 (dk_at dksX1_track_1 15 rfl rfl)
theorem dX1_track_40 : decode cX1_track 40 = .ok (.iastore, 1) := dk_79 (dk_at dksX1_track_1 16 rfl rfl)
theorem dX1_track_41 : decode cX1_track 41 = .ok (.aload_n 0, 1) := dk_42 (dk_at dksX1_track_1 17 rfl rfl)
theorem dX1_track_42 : decode cX1_track 42 = .ok (.getfield 84, 3) := dk_180 0 84 (dk_at dksX1_track_1 18 rfl rfl)
theorem dX1_track_45 : decode cX1_track 45 = .ok (.aload_n 0, 1) := dk_42 (dk_at dksX1_track_1 21 rfl rfl)
theorem dX1_track_46 : decode cX1_track 46 = .ok (.getfield 445, 3) := dk_180 1 189 (dk_at dksX1_track_2 0 rfl rfl)
theorem dX1_track_49 : decode cX1_track 49 = .ok (.iload_n 2, 1) := dk_28 (dk_at dksX1_track_2 3 rfl rfl)
theorem dX1_track_50 : decode cX1_track 50 = .ok (.iastore, 1) := dk_79 (dk_at dksX1_track_2 4 rfl rfl)
theorem dX1_track_51 : decode cX1_track 51 = .ok (.aload_n 0, 1) := dk_42 (dk_at dksX1_track_2 5 rfl rfl)
theorem dX1_track_52 : decode cX1_track 52 = .ok (.dup, 1) := dk_89 (dk_at dksX1_track_2 6 rfl rfl)
theorem dX1_track_53 : decode cX1_track 53 = .ok (.getfield 445, 3) := dk_180 1 189 (dk_at dksX1_track_2 7 rfl rfl)
theorem dX1_track_56 : decode cX1_track 56 = .ok (.iconst 1, 1) := dk_4 (dk_at dksX1_track_2 10 rfl rfl)
theorem dX1_track_57 : decode cX1_track 57 = .ok (.iadd, 1) := dk_96 (dk_at dksX1_track_2 11 rfl rfl)
theorem dX1_track_58 : decode cX1_track 58 = .ok (.putfield 445, 3) := dk_181 1 189 (dk_at dksX1_track_2 12 rfl rfl)
theorem dX1_track_61 : decode cX1_track 61 = .ok (.aload_n 0, 1) := dk_42 (dk_at dksX1_track_2 15 rfl rfl)
theorem dX1_track_62 : decode cX1_track 62 = .ok (.getfield 445, 3) := dk_180 1 189 (dk_at dksX1_track_2 16 rfl rfl)
theorem dX1_track_65 : decode cX1_track 65 = .ok (.ireturn, 1) := dk_172 (dk_at dksX1_track_2 19 rfl rfl)
abbrev cX1_thaw : ByteArray := prog_1_method_96_code
def yX1_thaw : MethodName := ⟨RX1, "thaw", "()I"⟩
def dkwX1_thaw_0 : List UInt8 := [42, 180, 1, 189, 60, 42, 3, 181, 1, 189, 27, 172]
abbrev dktX1_thaw_0 : List UInt8 := dkwX1_thaw_0 ++ []
theorem dksX1_thaw_0 : cX1_thaw.data.toList.drop 0 = dktX1_thaw_0 := by decide +kernel
theorem dX1_thaw_0 : decode cX1_thaw 0 = .ok (.aload_n 0, 1) := dk_42 (dk_at dksX1_thaw_0 0 rfl rfl)
theorem dX1_thaw_1 : decode cX1_thaw 1 = .ok (.getfield 445, 3) := dk_180 1 189 (dk_at dksX1_thaw_0 1 rfl rfl)
theorem dX1_thaw_4 : decode cX1_thaw 4 = .ok (.istore_n 1, 1) := dk_60 (dk_at dksX1_thaw_0 4 rfl rfl)
theorem dX1_thaw_5 : decode cX1_thaw 5 = .ok (.aload_n 0, 1) := dk_42 (dk_at dksX1_thaw_0 5 rfl rfl)
theorem dX1_thaw_6 : decode cX1_thaw 6 = .ok (.iconst 0, 1) := dk_3 (dk_at dksX1_thaw_0 6 rfl rfl)
theorem dX1_thaw_7 : decode cX1_thaw 7 = .ok (.putfield 445, 3) := dk_181 1 189 (dk_at dksX1_thaw_0 7 rfl rfl)
theorem dX1_thaw_10 : decode cX1_thaw 10 = .ok (.iload_n 1, 1) := dk_27 (dk_at dksX1_thaw_0 10 rfl rfl)
theorem dX1_thaw_11 : decode cX1_thaw 11 = .ok (.ireturn, 1) := dk_172 (dk_at dksX1_thaw_0 11 rfl rfl)
abbrev cX1_suspects : ByteArray := prog_1_method_98_code
def yX1_suspects : MethodName := ⟨RX1, "suspects", "(I)I"⟩
def dkwX1_suspects_2 : List UInt8 := [167, 255, 227, 28, 172]
abbrev dktX1_suspects_2 : List UInt8 := dkwX1_suspects_2 ++ []
def dkwX1_suspects_1 : List UInt8 := [27, 29, 184, 1, 130, 153, 0, 11, 42, 29, 182, 1, 192, 167, 0, 4, 28, 126, 61, 132, 3, 1]
abbrev dktX1_suspects_1 : List UInt8 := dkwX1_suspects_1 ++ dktX1_suspects_2
def dkwX1_suspects_0 : List UInt8 := [27, 156, 0, 5, 2, 172, 4, 42, 180, 0, 96, 120, 4, 100, 61, 3, 62, 29, 16, 31, 162, 0, 29, 28]
abbrev dktX1_suspects_0 : List UInt8 := dkwX1_suspects_0 ++ dktX1_suspects_1
theorem dksX1_suspects_0 : cX1_suspects.data.toList.drop 0 = dktX1_suspects_0 := by decide +kernel
theorem dksX1_suspects_1 : cX1_suspects.data.toList.drop 24 = dktX1_suspects_1 := dk_seg dksX1_suspects_0 24 rfl rfl
theorem dksX1_suspects_2 : cX1_suspects.data.toList.drop 46 = dktX1_suspects_2 := dk_seg dksX1_suspects_1 22 rfl rfl
theorem dX1_suspects_0 : decode cX1_suspects 0 = .ok (.iload_n 1, 1) := dk_27 (dk_at dksX1_suspects_0 0 rfl rfl)
theorem dX1_suspects_1 : decode cX1_suspects 1 = .ok (.ifCond .ge 5, 3) := dk_156 0 5 (dk_at dksX1_suspects_0 1 rfl rfl)
theorem dX1_suspects_4 : decode cX1_suspects 4 = .ok (.iconst (-1), 1) := dk_2 (dk_at dksX1_suspects_0 4 rfl rfl)
theorem dX1_suspects_5 : decode cX1_suspects 5 = .ok (.ireturn, 1) := dk_172 (dk_at dksX1_suspects_0 5 rfl rfl)
theorem dX1_suspects_6 : decode cX1_suspects 6 = .ok (.iconst 1, 1) := dk_4 (dk_at dksX1_suspects_0 6 rfl rfl)
theorem dX1_suspects_7 : decode cX1_suspects 7 = .ok (.aload_n 0, 1) := dk_42 (dk_at dksX1_suspects_0 7 rfl rfl)
theorem dX1_suspects_8 : decode cX1_suspects 8 = .ok (.getfield 96, 3) := dk_180 0 96 (dk_at dksX1_suspects_0 8 rfl rfl)
theorem dX1_suspects_11 : decode cX1_suspects 11 = .ok (.ishl, 1) := dk_120 (dk_at dksX1_suspects_0 11 rfl rfl)
theorem dX1_suspects_12 : decode cX1_suspects 12 = .ok (.iconst 1, 1) := dk_4 (dk_at dksX1_suspects_0 12 rfl rfl)
theorem dX1_suspects_13 : decode cX1_suspects 13 = .ok (.isub, 1) := dk_100 (dk_at dksX1_suspects_0 13 rfl rfl)
theorem dX1_suspects_14 : decode cX1_suspects 14 = .ok (.istore_n 2, 1) := dk_61 (dk_at dksX1_suspects_0 14 rfl rfl)
theorem dX1_suspects_15 : decode cX1_suspects 15 = .ok (.iconst 0, 1) := dk_3 (dk_at dksX1_suspects_0 15 rfl rfl)
theorem dX1_suspects_16 : decode cX1_suspects 16 = .ok (.istore_n 3, 1) := dk_62 (dk_at dksX1_suspects_0 16 rfl rfl)
theorem dX1_suspects_17 : decode cX1_suspects 17 = .ok (.iload_n 3, 1) := dk_29 (dk_at dksX1_suspects_0 17 rfl rfl)
theorem dX1_suspects_18 : decode cX1_suspects 18 = .ok (.bipush 31, 2) := dk_16 31 (dk_at dksX1_suspects_0 18 rfl rfl)
theorem dX1_suspects_20 : decode cX1_suspects 20 = .ok (.if_icmp .ge 29, 3) := dk_162 0 29 (dk_at dksX1_suspects_0 20 rfl rfl)
theorem dX1_suspects_23 : decode cX1_suspects 23 = .ok (.iload_n 2, 1) := dk_28 (dk_at dksX1_suspects_0 23 rfl rfl)
theorem dX1_suspects_24 : decode cX1_suspects 24 = .ok (.iload_n 1, 1) := dk_27 (dk_at dksX1_suspects_1 0 rfl rfl)
theorem dX1_suspects_25 : decode cX1_suspects 25 = .ok (.iload_n 3, 1) := dk_29 (dk_at dksX1_suspects_1 1 rfl rfl)
theorem dX1_suspects_26 : decode cX1_suspects 26 = .ok (.invokestatic 386, 3) := dk_184 1 130 (dk_at dksX1_suspects_1 2 rfl rfl)
theorem dX1_suspects_29 : decode cX1_suspects 29 = .ok (.ifCond .eq 11, 3) := dk_153 0 11 (dk_at dksX1_suspects_1 5 rfl rfl)
theorem dX1_suspects_32 : decode cX1_suspects 32 = .ok (.aload_n 0, 1) := dk_42 (dk_at dksX1_suspects_1 8 rfl rfl)
theorem dX1_suspects_33 : decode cX1_suspects 33 = .ok (.iload_n 3, 1) := dk_29 (dk_at dksX1_suspects_1 9 rfl rfl)
theorem dX1_suspects_34 : decode cX1_suspects 34 = .ok (.invokevirtual 448, 3) := dk_182 1 192 (dk_at dksX1_suspects_1 10 rfl rfl)
theorem dX1_suspects_37 : decode cX1_suspects 37 = .ok (.goto 4, 3) := dk_167 0 4 (dk_at dksX1_suspects_1 13 rfl rfl)
theorem dX1_suspects_40 : decode cX1_suspects 40 = .ok (.iload_n 2, 1) := dk_28 (dk_at dksX1_suspects_1 16 rfl rfl)
theorem dX1_suspects_41 : decode cX1_suspects 41 = .ok (.iand, 1) := dk_126 (dk_at dksX1_suspects_1 17 rfl rfl)
theorem dX1_suspects_42 : decode cX1_suspects 42 = .ok (.istore_n 2, 1) := dk_61 (dk_at dksX1_suspects_1 18 rfl rfl)
theorem dX1_suspects_43 : decode cX1_suspects 43 = .ok (.iinc 3 1, 3) := dk_132 3 1 (dk_at dksX1_suspects_1 19 rfl rfl)
theorem dX1_suspects_46 : decode cX1_suspects 46 = .ok (.goto (-29), 3) := dk_167 255 227 (dk_at dksX1_suspects_2 0 rfl rfl)
theorem dX1_suspects_49 : decode cX1_suspects 49 = .ok (.iload_n 2, 1) := dk_28 (dk_at dksX1_suspects_2 3 rfl rfl)
theorem dX1_suspects_50 : decode cX1_suspects 50 = .ok (.ireturn, 1) := dk_172 (dk_at dksX1_suspects_2 4 rfl rfl)
abbrev cX1_outIn : ByteArray := prog_1_method_97_code
def yX1_outIn : MethodName := ⟨RX1, "outIn", "(I)I"⟩
def dkwX1_outIn_1 : List UInt8 := [42, 180, 0, 81, 29, 46, 120, 167, 0, 4, 3, 128, 61, 132, 3, 1, 167, 255, 220, 28, 172]
abbrev dktX1_outIn_1 : List UInt8 := dkwX1_outIn_1 ++ []
def dkwX1_outIn_0 : List UInt8 := [3, 61, 3, 62, 29, 42, 180, 1, 189, 162, 0, 34, 28, 42, 180, 0, 84, 29, 46, 27, 160, 0, 14, 4]
abbrev dktX1_outIn_0 : List UInt8 := dkwX1_outIn_0 ++ dktX1_outIn_1
theorem dksX1_outIn_0 : cX1_outIn.data.toList.drop 0 = dktX1_outIn_0 := by decide +kernel
theorem dksX1_outIn_1 : cX1_outIn.data.toList.drop 24 = dktX1_outIn_1 := dk_seg dksX1_outIn_0 24 rfl rfl
theorem dX1_outIn_0 : decode cX1_outIn 0 = .ok (.iconst 0, 1) := dk_3 (dk_at dksX1_outIn_0 0 rfl rfl)
theorem dX1_outIn_1 : decode cX1_outIn 1 = .ok (.istore_n 2, 1) := dk_61 (dk_at dksX1_outIn_0 1 rfl rfl)
theorem dX1_outIn_2 : decode cX1_outIn 2 = .ok (.iconst 0, 1) := dk_3 (dk_at dksX1_outIn_0 2 rfl rfl)
theorem dX1_outIn_3 : decode cX1_outIn 3 = .ok (.istore_n 3, 1) := dk_62 (dk_at dksX1_outIn_0 3 rfl rfl)
theorem dX1_outIn_4 : decode cX1_outIn 4 = .ok (.iload_n 3, 1) := dk_29 (dk_at dksX1_outIn_0 4 rfl rfl)
theorem dX1_outIn_5 : decode cX1_outIn 5 = .ok (.aload_n 0, 1) := dk_42 (dk_at dksX1_outIn_0 5 rfl rfl)
theorem dX1_outIn_6 : decode cX1_outIn 6 = .ok (.getfield 445, 3) := dk_180 1 189 (dk_at dksX1_outIn_0 6 rfl rfl)
theorem dX1_outIn_9 : decode cX1_outIn 9 = .ok (.if_icmp .ge 34, 3) := dk_162 0 34 (dk_at dksX1_outIn_0 9 rfl rfl)
theorem dX1_outIn_12 : decode cX1_outIn 12 = .ok (.iload_n 2, 1) := dk_28 (dk_at dksX1_outIn_0 12 rfl rfl)
theorem dX1_outIn_13 : decode cX1_outIn 13 = .ok (.aload_n 0, 1) := dk_42 (dk_at dksX1_outIn_0 13 rfl rfl)
theorem dX1_outIn_14 : decode cX1_outIn 14 = .ok (.getfield 84, 3) := dk_180 0 84 (dk_at dksX1_outIn_0 14 rfl rfl)
theorem dX1_outIn_17 : decode cX1_outIn 17 = .ok (.iload_n 3, 1) := dk_29 (dk_at dksX1_outIn_0 17 rfl rfl)
theorem dX1_outIn_18 : decode cX1_outIn 18 = .ok (.iaload, 1) := dk_46 (dk_at dksX1_outIn_0 18 rfl rfl)
theorem dX1_outIn_19 : decode cX1_outIn 19 = .ok (.iload_n 1, 1) := dk_27 (dk_at dksX1_outIn_0 19 rfl rfl)
theorem dX1_outIn_20 : decode cX1_outIn 20 = .ok (.if_icmp .ne 14, 3) := dk_160 0 14 (dk_at dksX1_outIn_0 20 rfl rfl)
theorem dX1_outIn_23 : decode cX1_outIn 23 = .ok (.iconst 1, 1) := dk_4 (dk_at dksX1_outIn_0 23 rfl rfl)
theorem dX1_outIn_24 : decode cX1_outIn 24 = .ok (.aload_n 0, 1) := dk_42 (dk_at dksX1_outIn_1 0 rfl rfl)
theorem dX1_outIn_25 : decode cX1_outIn 25 = .ok (.getfield 81, 3) := dk_180 0 81 (dk_at dksX1_outIn_1 1 rfl rfl)
theorem dX1_outIn_28 : decode cX1_outIn 28 = .ok (.iload_n 3, 1) := dk_29 (dk_at dksX1_outIn_1 4 rfl rfl)
theorem dX1_outIn_29 : decode cX1_outIn 29 = .ok (.iaload, 1) := dk_46 (dk_at dksX1_outIn_1 5 rfl rfl)
theorem dX1_outIn_30 : decode cX1_outIn 30 = .ok (.ishl, 1) := dk_120 (dk_at dksX1_outIn_1 6 rfl rfl)
theorem dX1_outIn_31 : decode cX1_outIn 31 = .ok (.goto 4, 3) := dk_167 0 4 (dk_at dksX1_outIn_1 7 rfl rfl)
theorem dX1_outIn_34 : decode cX1_outIn 34 = .ok (.iconst 0, 1) := dk_3 (dk_at dksX1_outIn_1 10 rfl rfl)
theorem dX1_outIn_35 : decode cX1_outIn 35 = .ok (.ior, 1) := dk_128 (dk_at dksX1_outIn_1 11 rfl rfl)
theorem dX1_outIn_36 : decode cX1_outIn 36 = .ok (.istore_n 2, 1) := dk_61 (dk_at dksX1_outIn_1 12 rfl rfl)
theorem dX1_outIn_37 : decode cX1_outIn 37 = .ok (.iinc 3 1, 3) := dk_132 3 1 (dk_at dksX1_outIn_1 13 rfl rfl)
theorem dX1_outIn_40 : decode cX1_outIn 40 = .ok (.goto (-36), 3) := dk_167 255 220 (dk_at dksX1_outIn_1 16 rfl rfl)
theorem dX1_outIn_43 : decode cX1_outIn 43 = .ok (.iload_n 2, 1) := dk_28 (dk_at dksX1_outIn_1 19 rfl rfl)
theorem dX1_outIn_44 : decode cX1_outIn 44 = .ok (.ireturn, 1) := dk_172 (dk_at dksX1_outIn_1 20 rfl rfl)
abbrev cX1_gang : ByteArray := prog_1_method_99_code
def yX1_gang : MethodName := ⟨RX1, "gang", "(I)I"⟩
def dkwX1_gang_5 : List UInt8 := [181, 1, 8, 42, 28, 182, 1, 11, 28, 184, 1, 195, 172]
abbrev dktX1_gang_5 : List UInt8 := dkwX1_gang_5 ++ []
def dkwX1_gang_4 : List UInt8 := [153, 0, 7, 29, 167, 0, 4, 28, 61, 132, 3, 1, 167, 255, 162, 28, 156, 0, 6, 16, 254, 172, 42, 3]
abbrev dktX1_gang_4 : List UInt8 := dkwX1_gang_4 ++ dktX1_gang_5
def dkwX1_gang_3 : List UInt8 := [182, 1, 192, 29, 126, 153, 0, 7, 4, 167, 0, 4, 3, 54, 4, 132, 5, 1, 167, 255, 214, 21, 4]
abbrev dktX1_gang_3 : List UInt8 := dkwX1_gang_3 ++ dktX1_gang_4
def dkwX1_gang_2 : List UInt8 := [16, 31, 162, 0, 41, 21, 4, 153, 0, 36, 27, 21, 5, 184, 1, 130, 153, 0, 14, 42, 21, 5]
abbrev dktX1_gang_2 : List UInt8 := dkwX1_gang_2 ++ dktX1_gang_3
def dkwX1_gang_1 : List UInt8 := [29, 184, 1, 195, 28, 184, 1, 195, 162, 0, 7, 4, 167, 0, 4, 3, 54, 4, 3, 54, 5, 21, 5]
abbrev dktX1_gang_1 : List UInt8 := dkwX1_gang_1 ++ dktX1_gang_2
def dkwX1_gang_0 : List UInt8 := [27, 156, 0, 5, 2, 172, 2, 61, 3, 62, 29, 4, 42, 180, 0, 96, 120, 162, 0, 90, 28, 155, 0, 14]
abbrev dktX1_gang_0 : List UInt8 := dkwX1_gang_0 ++ dktX1_gang_1
theorem dksX1_gang_0 : cX1_gang.data.toList.drop 0 = dktX1_gang_0 := by decide +kernel
theorem dksX1_gang_1 : cX1_gang.data.toList.drop 24 = dktX1_gang_1 := dk_seg dksX1_gang_0 24 rfl rfl
theorem dksX1_gang_2 : cX1_gang.data.toList.drop 47 = dktX1_gang_2 := dk_seg dksX1_gang_1 23 rfl rfl
theorem dksX1_gang_3 : cX1_gang.data.toList.drop 69 = dktX1_gang_3 := dk_seg dksX1_gang_2 22 rfl rfl
theorem dksX1_gang_4 : cX1_gang.data.toList.drop 92 = dktX1_gang_4 := dk_seg dksX1_gang_3 23 rfl rfl
theorem dksX1_gang_5 : cX1_gang.data.toList.drop 116 = dktX1_gang_5 := dk_seg dksX1_gang_4 24 rfl rfl
theorem dX1_gang_0 : decode cX1_gang 0 = .ok (.iload_n 1, 1) := dk_27 (dk_at dksX1_gang_0 0 rfl rfl)
theorem dX1_gang_1 : decode cX1_gang 1 = .ok (.ifCond .ge 5, 3) := dk_156 0 5 (dk_at dksX1_gang_0 1 rfl rfl)
theorem dX1_gang_4 : decode cX1_gang 4 = .ok (.iconst (-1), 1) := dk_2 (dk_at dksX1_gang_0 4 rfl rfl)
theorem dX1_gang_5 : decode cX1_gang 5 = .ok (.ireturn, 1) := dk_172 (dk_at dksX1_gang_0 5 rfl rfl)
theorem dX1_gang_6 : decode cX1_gang 6 = .ok (.iconst (-1), 1) := dk_2 (dk_at dksX1_gang_0 6 rfl rfl)
theorem dX1_gang_7 : decode cX1_gang 7 = .ok (.istore_n 2, 1) := dk_61 (dk_at dksX1_gang_0 7 rfl rfl)
theorem dX1_gang_8 : decode cX1_gang 8 = .ok (.iconst 0, 1) := dk_3 (dk_at dksX1_gang_0 8 rfl rfl)
theorem dX1_gang_9 : decode cX1_gang 9 = .ok (.istore_n 3, 1) := dk_62 (dk_at dksX1_gang_0 9 rfl rfl)
theorem dX1_gang_10 : decode cX1_gang 10 = .ok (.iload_n 3, 1) := dk_29 (dk_at dksX1_gang_0 10 rfl rfl)
theorem dX1_gang_11 : decode cX1_gang 11 = .ok (.iconst 1, 1) := dk_4 (dk_at dksX1_gang_0 11 rfl rfl)
theorem dX1_gang_12 : decode cX1_gang 12 = .ok (.aload_n 0, 1) := dk_42 (dk_at dksX1_gang_0 12 rfl rfl)
theorem dX1_gang_13 : decode cX1_gang 13 = .ok (.getfield 96, 3) := dk_180 0 96 (dk_at dksX1_gang_0 13 rfl rfl)
theorem dX1_gang_16 : decode cX1_gang 16 = .ok (.ishl, 1) := dk_120 (dk_at dksX1_gang_0 16 rfl rfl)
theorem dX1_gang_17 : decode cX1_gang 17 = .ok (.if_icmp .ge 90, 3) := dk_162 0 90 (dk_at dksX1_gang_0 17 rfl rfl)
theorem dX1_gang_20 : decode cX1_gang 20 = .ok (.iload_n 2, 1) := dk_28 (dk_at dksX1_gang_0 20 rfl rfl)
theorem dX1_gang_21 : decode cX1_gang 21 = .ok (.ifCond .lt 14, 3) := dk_155 0 14 (dk_at dksX1_gang_0 21 rfl rfl)
theorem dX1_gang_24 : decode cX1_gang 24 = .ok (.iload_n 3, 1) := dk_29 (dk_at dksX1_gang_1 0 rfl rfl)
theorem dX1_gang_25 : decode cX1_gang 25 = .ok (.invokestatic 451, 3) := dk_184 1 195 (dk_at dksX1_gang_1 1 rfl rfl)
theorem dX1_gang_28 : decode cX1_gang 28 = .ok (.iload_n 2, 1) := dk_28 (dk_at dksX1_gang_1 4 rfl rfl)
theorem dX1_gang_29 : decode cX1_gang 29 = .ok (.invokestatic 451, 3) := dk_184 1 195 (dk_at dksX1_gang_1 5 rfl rfl)
theorem dX1_gang_32 : decode cX1_gang 32 = .ok (.if_icmp .ge 7, 3) := dk_162 0 7 (dk_at dksX1_gang_1 8 rfl rfl)
theorem dX1_gang_35 : decode cX1_gang 35 = .ok (.iconst 1, 1) := dk_4 (dk_at dksX1_gang_1 11 rfl rfl)
theorem dX1_gang_36 : decode cX1_gang 36 = .ok (.goto 4, 3) := dk_167 0 4 (dk_at dksX1_gang_1 12 rfl rfl)
theorem dX1_gang_39 : decode cX1_gang 39 = .ok (.iconst 0, 1) := dk_3 (dk_at dksX1_gang_1 15 rfl rfl)
theorem dX1_gang_40 : decode cX1_gang 40 = .ok (.istore 4, 2) := dk_54 4 (dk_at dksX1_gang_1 16 rfl rfl)
theorem dX1_gang_42 : decode cX1_gang 42 = .ok (.iconst 0, 1) := dk_3 (dk_at dksX1_gang_1 18 rfl rfl)
theorem dX1_gang_43 : decode cX1_gang 43 = .ok (.istore 5, 2) := dk_54 5 (dk_at dksX1_gang_1 19 rfl rfl)
theorem dX1_gang_45 : decode cX1_gang 45 = .ok (.iload 5, 2) := dk_21 5 (dk_at dksX1_gang_1 21 rfl rfl)
theorem dX1_gang_47 : decode cX1_gang 47 = .ok (.bipush 31, 2) := dk_16 31 (dk_at dksX1_gang_2 0 rfl rfl)
theorem dX1_gang_49 : decode cX1_gang 49 = .ok (.if_icmp .ge 41, 3) := dk_162 0 41 (dk_at dksX1_gang_2 2 rfl rfl)
theorem dX1_gang_52 : decode cX1_gang 52 = .ok (.iload 4, 2) := dk_21 4 (dk_at dksX1_gang_2 5 rfl rfl)
theorem dX1_gang_54 : decode cX1_gang 54 = .ok (.ifCond .eq 36, 3) := dk_153 0 36 (dk_at dksX1_gang_2 7 rfl rfl)
theorem dX1_gang_57 : decode cX1_gang 57 = .ok (.iload_n 1, 1) := dk_27 (dk_at dksX1_gang_2 10 rfl rfl)
theorem dX1_gang_58 : decode cX1_gang 58 = .ok (.iload 5, 2) := dk_21 5 (dk_at dksX1_gang_2 11 rfl rfl)
theorem dX1_gang_60 : decode cX1_gang 60 = .ok (.invokestatic 386, 3) := dk_184 1 130 (dk_at dksX1_gang_2 13 rfl rfl)
theorem dX1_gang_63 : decode cX1_gang 63 = .ok (.ifCond .eq 14, 3) := dk_153 0 14 (dk_at dksX1_gang_2 16 rfl rfl)
theorem dX1_gang_66 : decode cX1_gang 66 = .ok (.aload_n 0, 1) := dk_42 (dk_at dksX1_gang_2 19 rfl rfl)
theorem dX1_gang_67 : decode cX1_gang 67 = .ok (.iload 5, 2) := dk_21 5 (dk_at dksX1_gang_2 20 rfl rfl)
theorem dX1_gang_69 : decode cX1_gang 69 = .ok (.invokevirtual 448, 3) := dk_182 1 192 (dk_at dksX1_gang_3 0 rfl rfl)
theorem dX1_gang_72 : decode cX1_gang 72 = .ok (.iload_n 3, 1) := dk_29 (dk_at dksX1_gang_3 3 rfl rfl)
theorem dX1_gang_73 : decode cX1_gang 73 = .ok (.iand, 1) := dk_126 (dk_at dksX1_gang_3 4 rfl rfl)
theorem dX1_gang_74 : decode cX1_gang 74 = .ok (.ifCond .eq 7, 3) := dk_153 0 7 (dk_at dksX1_gang_3 5 rfl rfl)
theorem dX1_gang_77 : decode cX1_gang 77 = .ok (.iconst 1, 1) := dk_4 (dk_at dksX1_gang_3 8 rfl rfl)
theorem dX1_gang_78 : decode cX1_gang 78 = .ok (.goto 4, 3) := dk_167 0 4 (dk_at dksX1_gang_3 9 rfl rfl)
theorem dX1_gang_81 : decode cX1_gang 81 = .ok (.iconst 0, 1) := dk_3 (dk_at dksX1_gang_3 12 rfl rfl)
theorem dX1_gang_82 : decode cX1_gang 82 = .ok (.istore 4, 2) := dk_54 4 (dk_at dksX1_gang_3 13 rfl rfl)
theorem dX1_gang_84 : decode cX1_gang 84 = .ok (.iinc 5 1, 3) := dk_132 5 1 (dk_at dksX1_gang_3 15 rfl rfl)
theorem dX1_gang_87 : decode cX1_gang 87 = .ok (.goto (-42), 3) := dk_167 255 214 (dk_at dksX1_gang_3 18 rfl rfl)
theorem dX1_gang_90 : decode cX1_gang 90 = .ok (.iload 4, 2) := dk_21 4 (dk_at dksX1_gang_3 21 rfl rfl)
theorem dX1_gang_92 : decode cX1_gang 92 = .ok (.ifCond .eq 7, 3) := dk_153 0 7 (dk_at dksX1_gang_4 0 rfl rfl)
theorem dX1_gang_95 : decode cX1_gang 95 = .ok (.iload_n 3, 1) := dk_29 (dk_at dksX1_gang_4 3 rfl rfl)
theorem dX1_gang_96 : decode cX1_gang 96 = .ok (.goto 4, 3) := dk_167 0 4 (dk_at dksX1_gang_4 4 rfl rfl)
theorem dX1_gang_99 : decode cX1_gang 99 = .ok (.iload_n 2, 1) := dk_28 (dk_at dksX1_gang_4 7 rfl rfl)
theorem dX1_gang_100 : decode cX1_gang 100 = .ok (.istore_n 2, 1) := dk_61 (dk_at dksX1_gang_4 8 rfl rfl)
theorem dX1_gang_101 : decode cX1_gang 101 = .ok (.iinc 3 1, 3) := dk_132 3 1 (dk_at dksX1_gang_4 9 rfl rfl)
theorem dX1_gang_104 : decode cX1_gang 104 = .ok (.goto (-94), 3) := dk_167 255 162 (dk_at dksX1_gang_4 12 rfl rfl)
theorem dX1_gang_107 : decode cX1_gang 107 = .ok (.iload_n 2, 1) := dk_28 (dk_at dksX1_gang_4 15 rfl rfl)
theorem dX1_gang_108 : decode cX1_gang 108 = .ok (.ifCond .ge 6, 3) := dk_156 0 6 (dk_at dksX1_gang_4 16 rfl rfl)
theorem dX1_gang_111 : decode cX1_gang 111 = .ok (.bipush (-2), 2) := dk_16 254 (dk_at dksX1_gang_4 19 rfl rfl)
theorem dX1_gang_113 : decode cX1_gang 113 = .ok (.ireturn, 1) := dk_172 (dk_at dksX1_gang_4 21 rfl rfl)
theorem dX1_gang_114 : decode cX1_gang 114 = .ok (.aload_n 0, 1) := dk_42 (dk_at dksX1_gang_4 22 rfl rfl)
theorem dX1_gang_115 : decode cX1_gang 115 = .ok (.iconst 0, 1) := dk_3 (dk_at dksX1_gang_4 23 rfl rfl)
theorem dX1_gang_116 : decode cX1_gang 116 = .ok (.putfield 264, 3) := dk_181 1 8 (dk_at dksX1_gang_5 0 rfl rfl)
theorem dX1_gang_119 : decode cX1_gang 119 = .ok (.aload_n 0, 1) := dk_42 (dk_at dksX1_gang_5 3 rfl rfl)
theorem dX1_gang_120 : decode cX1_gang 120 = .ok (.iload_n 2, 1) := dk_28 (dk_at dksX1_gang_5 4 rfl rfl)
theorem dX1_gang_121 : decode cX1_gang 121 = .ok (.invokevirtual 267, 3) := dk_182 1 11 (dk_at dksX1_gang_5 5 rfl rfl)
theorem dX1_gang_124 : decode cX1_gang 124 = .ok (.iload_n 2, 1) := dk_28 (dk_at dksX1_gang_5 8 rfl rfl)
theorem dX1_gang_125 : decode cX1_gang 125 = .ok (.invokestatic 451, 3) := dk_184 1 195 (dk_at dksX1_gang_5 9 rfl rfl)
theorem dX1_gang_128 : decode cX1_gang 128 = .ok (.ireturn, 1) := dk_172 (dk_at dksX1_gang_5 12 rfl rfl)
abbrev cX1_keep : ByteArray := prog_1_method_100_code
def yX1_keep : MethodName := ⟨RX1, "keep", "(I)Z"⟩
def dkwX1_keep_2 : List UInt8 := [182, 1, 26, 42, 180, 0, 90, 27, 42, 180, 0, 96, 79, 4, 172]
abbrev dktX1_keep_2 : List UInt8 := dkwX1_keep_2 ++ []
def dkwX1_keep_1 : List UInt8 := [180, 0, 87, 27, 187, 0, 9, 89, 183, 0, 11, 83, 42, 180, 0, 87, 27, 50, 42, 180, 0, 12]
abbrev dktX1_keep_1 : List UInt8 := dkwX1_keep_1 ++ dktX1_keep_2
def dkwX1_keep_0 : List UInt8 := [27, 133, 9, 10, 184, 0, 100, 154, 0, 5, 3, 172, 42, 180, 0, 87, 27, 50, 199, 0, 16, 42]
abbrev dktX1_keep_0 : List UInt8 := dkwX1_keep_0 ++ dktX1_keep_1
theorem dksX1_keep_0 : cX1_keep.data.toList.drop 0 = dktX1_keep_0 := by decide +kernel
theorem dksX1_keep_1 : cX1_keep.data.toList.drop 22 = dktX1_keep_1 := dk_seg dksX1_keep_0 22 rfl rfl
theorem dksX1_keep_2 : cX1_keep.data.toList.drop 44 = dktX1_keep_2 := dk_seg dksX1_keep_1 22 rfl rfl
theorem dX1_keep_0 : decode cX1_keep 0 = .ok (.iload_n 1, 1) := dk_27 (dk_at dksX1_keep_0 0 rfl rfl)
theorem dX1_keep_1 : decode cX1_keep 1 = .ok (.i2l, 1) := dk_133 (dk_at dksX1_keep_0 1 rfl rfl)
theorem dX1_keep_2 : decode cX1_keep 2 = .ok (.lconst 0, 1) := dk_9 (dk_at dksX1_keep_0 2 rfl rfl)
theorem dX1_keep_3 : decode cX1_keep 3 = .ok (.lconst 1, 1) := dk_10 (dk_at dksX1_keep_0 3 rfl rfl)
theorem dX1_keep_4 : decode cX1_keep 4 = .ok (.invokestatic 100, 3) := dk_184 0 100 (dk_at dksX1_keep_0 4 rfl rfl)
theorem dX1_keep_7 : decode cX1_keep 7 = .ok (.ifCond .ne 5, 3) := dk_154 0 5 (dk_at dksX1_keep_0 7 rfl rfl)
theorem dX1_keep_10 : decode cX1_keep 10 = .ok (.iconst 0, 1) := dk_3 (dk_at dksX1_keep_0 10 rfl rfl)
theorem dX1_keep_11 : decode cX1_keep 11 = .ok (.ireturn, 1) := dk_172 (dk_at dksX1_keep_0 11 rfl rfl)
theorem dX1_keep_12 : decode cX1_keep 12 = .ok (.aload_n 0, 1) := dk_42 (dk_at dksX1_keep_0 12 rfl rfl)
theorem dX1_keep_13 : decode cX1_keep 13 = .ok (.getfield 87, 3) := dk_180 0 87 (dk_at dksX1_keep_0 13 rfl rfl)
theorem dX1_keep_16 : decode cX1_keep 16 = .ok (.iload_n 1, 1) := dk_27 (dk_at dksX1_keep_0 16 rfl rfl)
theorem dX1_keep_17 : decode cX1_keep 17 = .ok (.aaload, 1) := dk_50 (dk_at dksX1_keep_0 17 rfl rfl)
theorem dX1_keep_18 : decode cX1_keep 18 = .ok (.ifnonnull 16, 3) := dk_199 0 16 (dk_at dksX1_keep_0 18 rfl rfl)
theorem dX1_keep_21 : decode cX1_keep 21 = .ok (.aload_n 0, 1) := dk_42 (dk_at dksX1_keep_0 21 rfl rfl)
theorem dX1_keep_22 : decode cX1_keep 22 = .ok (.getfield 87, 3) := dk_180 0 87 (dk_at dksX1_keep_1 0 rfl rfl)
theorem dX1_keep_25 : decode cX1_keep 25 = .ok (.iload_n 1, 1) := dk_27 (dk_at dksX1_keep_1 3 rfl rfl)
theorem dX1_keep_26 : decode cX1_keep 26 = .ok (.new 9, 3) := dk_187 0 9 (dk_at dksX1_keep_1 4 rfl rfl)
theorem dX1_keep_29 : decode cX1_keep 29 = .ok (.dup, 1) := dk_89 (dk_at dksX1_keep_1 7 rfl rfl)
theorem dX1_keep_30 : decode cX1_keep 30 = .ok (.invokespecial 11, 3) := dk_183 0 11 (dk_at dksX1_keep_1 8 rfl rfl)
theorem dX1_keep_33 : decode cX1_keep 33 = .ok (.aastore, 1) := dk_83 (dk_at dksX1_keep_1 11 rfl rfl)
theorem dX1_keep_34 : decode cX1_keep 34 = .ok (.aload_n 0, 1) := dk_42 (dk_at dksX1_keep_1 12 rfl rfl)
theorem dX1_keep_35 : decode cX1_keep 35 = .ok (.getfield 87, 3) := dk_180 0 87 (dk_at dksX1_keep_1 13 rfl rfl)
theorem dX1_keep_38 : decode cX1_keep 38 = .ok (.iload_n 1, 1) := dk_27 (dk_at dksX1_keep_1 16 rfl rfl)
theorem dX1_keep_39 : decode cX1_keep 39 = .ok (.aaload, 1) := dk_50 (dk_at dksX1_keep_1 17 rfl rfl)
theorem dX1_keep_40 : decode cX1_keep 40 = .ok (.aload_n 0, 1) := dk_42 (dk_at dksX1_keep_1 18 rfl rfl)
theorem dX1_keep_41 : decode cX1_keep 41 = .ok (.getfield 12, 3) := dk_180 0 12 (dk_at dksX1_keep_1 19 rfl rfl)
theorem dX1_keep_44 : decode cX1_keep 44 = .ok (.invokevirtual 282, 3) := dk_182 1 26 (dk_at dksX1_keep_2 0 rfl rfl)
theorem dX1_keep_47 : decode cX1_keep 47 = .ok (.aload_n 0, 1) := dk_42 (dk_at dksX1_keep_2 3 rfl rfl)
theorem dX1_keep_48 : decode cX1_keep 48 = .ok (.getfield 90, 3) := dk_180 0 90 (dk_at dksX1_keep_2 4 rfl rfl)
theorem dX1_keep_51 : decode cX1_keep 51 = .ok (.iload_n 1, 1) := dk_27 (dk_at dksX1_keep_2 7 rfl rfl)
theorem dX1_keep_52 : decode cX1_keep 52 = .ok (.aload_n 0, 1) := dk_42 (dk_at dksX1_keep_2 8 rfl rfl)
theorem dX1_keep_53 : decode cX1_keep 53 = .ok (.getfield 96, 3) := dk_180 0 96 (dk_at dksX1_keep_2 9 rfl rfl)
theorem dX1_keep_56 : decode cX1_keep 56 = .ok (.iastore, 1) := dk_79 (dk_at dksX1_keep_2 12 rfl rfl)
theorem dX1_keep_57 : decode cX1_keep 57 = .ok (.iconst 1, 1) := dk_4 (dk_at dksX1_keep_2 13 rfl rfl)
theorem dX1_keep_58 : decode cX1_keep 58 = .ok (.ireturn, 1) := dk_172 (dk_at dksX1_keep_2 14 rfl rfl)
abbrev cX1_again : ByteArray := prog_1_method_101_code
def yX1_again : MethodName := ⟨RX1, "again", "(I)Z"⟩
def dkwX1_again_2 : List UInt8 := [3, 181, 0, 173, 4, 172]
abbrev dktX1_again_2 : List UInt8 := dkwX1_again_2 ++ []
def dkwX1_again_1 : List UInt8 := [46, 42, 180, 0, 96, 159, 0, 5, 3, 172, 42, 180, 0, 12, 42, 180, 0, 87, 27, 50, 182, 1, 26, 42]
abbrev dktX1_again_1 : List UInt8 := dkwX1_again_1 ++ dktX1_again_2
def dkwX1_again_0 : List UInt8 := [27, 133, 9, 10, 184, 0, 100, 153, 0, 25, 42, 180, 0, 87, 27, 50, 198, 0, 16, 42, 180, 0, 90, 27]
abbrev dktX1_again_0 : List UInt8 := dkwX1_again_0 ++ dktX1_again_1
theorem dksX1_again_0 : cX1_again.data.toList.drop 0 = dktX1_again_0 := by decide +kernel
theorem dksX1_again_1 : cX1_again.data.toList.drop 24 = dktX1_again_1 := dk_seg dksX1_again_0 24 rfl rfl
theorem dksX1_again_2 : cX1_again.data.toList.drop 48 = dktX1_again_2 := dk_seg dksX1_again_1 24 rfl rfl
theorem dX1_again_0 : decode cX1_again 0 = .ok (.iload_n 1, 1) := dk_27 (dk_at dksX1_again_0 0 rfl rfl)
theorem dX1_again_1 : decode cX1_again 1 = .ok (.i2l, 1) := dk_133 (dk_at dksX1_again_0 1 rfl rfl)
theorem dX1_again_2 : decode cX1_again 2 = .ok (.lconst 0, 1) := dk_9 (dk_at dksX1_again_0 2 rfl rfl)
theorem dX1_again_3 : decode cX1_again 3 = .ok (.lconst 1, 1) := dk_10 (dk_at dksX1_again_0 3 rfl rfl)
theorem dX1_again_4 : decode cX1_again 4 = .ok (.invokestatic 100, 3) := dk_184 0 100 (dk_at dksX1_again_0 4 rfl rfl)
theorem dX1_again_7 : decode cX1_again 7 = .ok (.ifCond .eq 25, 3) := dk_153 0 25 (dk_at dksX1_again_0 7 rfl rfl)
theorem dX1_again_10 : decode cX1_again 10 = .ok (.aload_n 0, 1) := dk_42 (dk_at dksX1_again_0 10 rfl rfl)
theorem dX1_again_11 : decode cX1_again 11 = .ok (.getfield 87, 3) := dk_180 0 87 (dk_at dksX1_again_0 11 rfl rfl)
theorem dX1_again_14 : decode cX1_again 14 = .ok (.iload_n 1, 1) := dk_27 (dk_at dksX1_again_0 14 rfl rfl)
theorem dX1_again_15 : decode cX1_again 15 = .ok (.aaload, 1) := dk_50 (dk_at dksX1_again_0 15 rfl rfl)
theorem dX1_again_16 : decode cX1_again 16 = .ok (.ifnull 16, 3) := dk_198 0 16 (dk_at dksX1_again_0 16 rfl rfl)
theorem dX1_again_19 : decode cX1_again 19 = .ok (.aload_n 0, 1) := dk_42 (dk_at dksX1_again_0 19 rfl rfl)
theorem dX1_again_20 : decode cX1_again 20 = .ok (.getfield 90, 3) := dk_180 0 90 (dk_at dksX1_again_0 20 rfl rfl)
theorem dX1_again_23 : decode cX1_again 23 = .ok (.iload_n 1, 1) := dk_27 (dk_at dksX1_again_0 23 rfl rfl)
theorem dX1_again_24 : decode cX1_again 24 = .ok (.iaload, 1) := dk_46 (dk_at dksX1_again_1 0 rfl rfl)
theorem dX1_again_25 : decode cX1_again 25 = .ok (.aload_n 0, 1) := dk_42 (dk_at dksX1_again_1 1 rfl rfl)
theorem dX1_again_26 : decode cX1_again 26 = .ok (.getfield 96, 3) := dk_180 0 96 (dk_at dksX1_again_1 2 rfl rfl)
theorem dX1_again_29 : decode cX1_again 29 = .ok (.if_icmp .eq 5, 3) := dk_159 0 5 (dk_at dksX1_again_1 5 rfl rfl)
theorem dX1_again_32 : decode cX1_again 32 = .ok (.iconst 0, 1) := dk_3 (dk_at dksX1_again_1 8 rfl rfl)
theorem dX1_again_33 : decode cX1_again 33 = .ok (.ireturn, 1) := dk_172 (dk_at dksX1_again_1 9 rfl rfl)
theorem dX1_again_34 : decode cX1_again 34 = .ok (.aload_n 0, 1) := dk_42 (dk_at dksX1_again_1 10 rfl rfl)
theorem dX1_again_35 : decode cX1_again 35 = .ok (.getfield 12, 3) := dk_180 0 12 (dk_at dksX1_again_1 11 rfl rfl)
theorem dX1_again_38 : decode cX1_again 38 = .ok (.aload_n 0, 1) := dk_42 (dk_at dksX1_again_1 14 rfl rfl)
theorem dX1_again_39 : decode cX1_again 39 = .ok (.getfield 87, 3) := dk_180 0 87 (dk_at dksX1_again_1 15 rfl rfl)
theorem dX1_again_42 : decode cX1_again 42 = .ok (.iload_n 1, 1) := dk_27 (dk_at dksX1_again_1 18 rfl rfl)
theorem dX1_again_43 : decode cX1_again 43 = .ok (.aaload, 1) := dk_50 (dk_at dksX1_again_1 19 rfl rfl)
theorem dX1_again_44 : decode cX1_again 44 = .ok (.invokevirtual 282, 3) := dk_182 1 26 (dk_at dksX1_again_1 20 rfl rfl)
theorem dX1_again_47 : decode cX1_again 47 = .ok (.aload_n 0, 1) := dk_42 (dk_at dksX1_again_1 23 rfl rfl)
theorem dX1_again_48 : decode cX1_again 48 = .ok (.iconst 0, 1) := dk_3 (dk_at dksX1_again_2 0 rfl rfl)
theorem dX1_again_49 : decode cX1_again 49 = .ok (.putfield 173, 3) := dk_181 0 173 (dk_at dksX1_again_2 1 rfl rfl)
theorem dX1_again_52 : decode cX1_again 52 = .ok (.iconst 1, 1) := dk_4 (dk_at dksX1_again_2 4 rfl rfl)
theorem dX1_again_53 : decode cX1_again 53 = .ok (.ireturn, 1) := dk_172 (dk_at dksX1_again_2 5 rfl rfl)
abbrev cX1_count : ByteArray := prog_1_method_102_code
def yX1_count : MethodName := ⟨RX1, "count", "(I)I"⟩
def dkwX1_count_4 : List UInt8 := [172, 42, 180, 1, 189, 172, 42, 180, 1, 8, 172, 42, 180, 0, 121, 172, 2, 172]
abbrev dktX1_count_4 : List UInt8 := dkwX1_count_4 ++ []
def dkwX1_count_3 : List UInt8 := [180, 0, 12, 182, 1, 81, 172, 42, 180, 0, 12, 182, 1, 146, 172, 42, 180, 0, 108, 172, 42, 180, 0, 173]
abbrev dktX1_count_3 : List UInt8 := dkwX1_count_3 ++ dktX1_count_4
def dkwX1_count_2 : List UInt8 := [42, 180, 0, 96, 172, 42, 180, 0, 12, 180, 1, 41, 172, 42, 180, 0, 12, 182, 1, 155, 172, 42]
abbrev dktX1_count_2 : List UInt8 := dkwX1_count_2 ++ dktX1_count_3
def dkwX1_count_1 : List UInt8 := [170, 0, 0, 0, 0, 0, 117, 0, 0, 0, 0, 0, 0, 0, 9, 0, 0, 0, 55, 0, 0, 0, 60, 0, 0, 0, 68, 0, 0, 0, 76, 0, 0, 0, 84, 0, 0, 0, 92, 0, 0, 0, 97, 0, 0, 0, 102, 0, 0, 0, 107, 0, 0, 0, 112]
abbrev dktX1_count_1 : List UInt8 := dkwX1_count_1 ++ dktX1_count_2
def dkwX1_count_0 : List UInt8 := [27]
abbrev dktX1_count_0 : List UInt8 := dkwX1_count_0 ++ dktX1_count_1
theorem dksX1_count_0 : cX1_count.data.toList.drop 0 = dktX1_count_0 := by decide +kernel
theorem dksX1_count_1 : cX1_count.data.toList.drop 1 = dktX1_count_1 := dk_seg dksX1_count_0 1 rfl rfl
theorem dksX1_count_2 : cX1_count.data.toList.drop 56 = dktX1_count_2 := dk_seg dksX1_count_1 55 rfl rfl
theorem dksX1_count_3 : cX1_count.data.toList.drop 78 = dktX1_count_3 := dk_seg dksX1_count_2 22 rfl rfl
theorem dksX1_count_4 : cX1_count.data.toList.drop 102 = dktX1_count_4 := dk_seg dksX1_count_3 24 rfl rfl
theorem dX1_count_0 : decode cX1_count 0 = .ok (.iload_n 1, 1) := dk_27 (dk_at dksX1_count_0 0 rfl rfl)
theorem dX1_count_1 : decode cX1_count 1 = .ok (.tableswitch 117 0 9 #[55, 60, 68, 76, 84, 92, 97, 102, 107, 112], 55) := by decide +kernel
theorem dX1_count_56 : decode cX1_count 56 = .ok (.aload_n 0, 1) := dk_42 (dk_at dksX1_count_2 0 rfl rfl)
theorem dX1_count_57 : decode cX1_count 57 = .ok (.getfield 96, 3) := dk_180 0 96 (dk_at dksX1_count_2 1 rfl rfl)
theorem dX1_count_60 : decode cX1_count 60 = .ok (.ireturn, 1) := dk_172 (dk_at dksX1_count_2 4 rfl rfl)
theorem dX1_count_61 : decode cX1_count 61 = .ok (.aload_n 0, 1) := dk_42 (dk_at dksX1_count_2 5 rfl rfl)
theorem dX1_count_62 : decode cX1_count 62 = .ok (.getfield 12, 3) := dk_180 0 12 (dk_at dksX1_count_2 6 rfl rfl)
theorem dX1_count_65 : decode cX1_count 65 = .ok (.getfield 297, 3) := dk_180 1 41 (dk_at dksX1_count_2 9 rfl rfl)
theorem dX1_count_68 : decode cX1_count 68 = .ok (.ireturn, 1) := dk_172 (dk_at dksX1_count_2 12 rfl rfl)
theorem dX1_count_69 : decode cX1_count 69 = .ok (.aload_n 0, 1) := dk_42 (dk_at dksX1_count_2 13 rfl rfl)
theorem dX1_count_70 : decode cX1_count 70 = .ok (.getfield 12, 3) := dk_180 0 12 (dk_at dksX1_count_2 14 rfl rfl)
theorem dX1_count_73 : decode cX1_count 73 = .ok (.invokevirtual 411, 3) := dk_182 1 155 (dk_at dksX1_count_2 17 rfl rfl)
theorem dX1_count_76 : decode cX1_count 76 = .ok (.ireturn, 1) := dk_172 (dk_at dksX1_count_2 20 rfl rfl)
theorem dX1_count_77 : decode cX1_count 77 = .ok (.aload_n 0, 1) := dk_42 (dk_at dksX1_count_2 21 rfl rfl)
theorem dX1_count_78 : decode cX1_count 78 = .ok (.getfield 12, 3) := dk_180 0 12 (dk_at dksX1_count_3 0 rfl rfl)
theorem dX1_count_81 : decode cX1_count 81 = .ok (.invokevirtual 337, 3) := dk_182 1 81 (dk_at dksX1_count_3 3 rfl rfl)
theorem dX1_count_84 : decode cX1_count 84 = .ok (.ireturn, 1) := dk_172 (dk_at dksX1_count_3 6 rfl rfl)
theorem dX1_count_85 : decode cX1_count 85 = .ok (.aload_n 0, 1) := dk_42 (dk_at dksX1_count_3 7 rfl rfl)
theorem dX1_count_86 : decode cX1_count 86 = .ok (.getfield 12, 3) := dk_180 0 12 (dk_at dksX1_count_3 8 rfl rfl)
theorem dX1_count_89 : decode cX1_count 89 = .ok (.invokevirtual 402, 3) := dk_182 1 146 (dk_at dksX1_count_3 11 rfl rfl)
theorem dX1_count_92 : decode cX1_count 92 = .ok (.ireturn, 1) := dk_172 (dk_at dksX1_count_3 14 rfl rfl)
theorem dX1_count_93 : decode cX1_count 93 = .ok (.aload_n 0, 1) := dk_42 (dk_at dksX1_count_3 15 rfl rfl)
theorem dX1_count_94 : decode cX1_count 94 = .ok (.getfield 108, 3) := dk_180 0 108 (dk_at dksX1_count_3 16 rfl rfl)
theorem dX1_count_97 : decode cX1_count 97 = .ok (.ireturn, 1) := dk_172 (dk_at dksX1_count_3 19 rfl rfl)
theorem dX1_count_98 : decode cX1_count 98 = .ok (.aload_n 0, 1) := dk_42 (dk_at dksX1_count_3 20 rfl rfl)
theorem dX1_count_99 : decode cX1_count 99 = .ok (.getfield 173, 3) := dk_180 0 173 (dk_at dksX1_count_3 21 rfl rfl)
theorem dX1_count_102 : decode cX1_count 102 = .ok (.ireturn, 1) := dk_172 (dk_at dksX1_count_4 0 rfl rfl)
theorem dX1_count_103 : decode cX1_count 103 = .ok (.aload_n 0, 1) := dk_42 (dk_at dksX1_count_4 1 rfl rfl)
theorem dX1_count_104 : decode cX1_count 104 = .ok (.getfield 445, 3) := dk_180 1 189 (dk_at dksX1_count_4 2 rfl rfl)
theorem dX1_count_107 : decode cX1_count 107 = .ok (.ireturn, 1) := dk_172 (dk_at dksX1_count_4 5 rfl rfl)
theorem dX1_count_108 : decode cX1_count 108 = .ok (.aload_n 0, 1) := dk_42 (dk_at dksX1_count_4 6 rfl rfl)
theorem dX1_count_109 : decode cX1_count 109 = .ok (.getfield 264, 3) := dk_180 1 8 (dk_at dksX1_count_4 7 rfl rfl)
theorem dX1_count_112 : decode cX1_count 112 = .ok (.ireturn, 1) := dk_172 (dk_at dksX1_count_4 10 rfl rfl)
theorem dX1_count_113 : decode cX1_count 113 = .ok (.aload_n 0, 1) := dk_42 (dk_at dksX1_count_4 11 rfl rfl)
theorem dX1_count_114 : decode cX1_count 114 = .ok (.getfield 121, 3) := dk_180 0 121 (dk_at dksX1_count_4 12 rfl rfl)
theorem dX1_count_117 : decode cX1_count 117 = .ok (.ireturn, 1) := dk_172 (dk_at dksX1_count_4 15 rfl rfl)
theorem dX1_count_118 : decode cX1_count 118 = .ok (.iconst (-1), 1) := dk_2 (dk_at dksX1_count_4 16 rfl rfl)
theorem dX1_count_119 : decode cX1_count 119 = .ok (.ireturn, 1) := dk_172 (dk_at dksX1_count_4 17 rfl rfl)
abbrev cX1_of : ByteArray := prog_1_method_27_code
def yX1_of : MethodName := ⟨RX1, "of", "(II)I"⟩
def dkwX1_of_6 : List UInt8 := [191]
abbrev dktX1_of_6 : List UInt8 := dkwX1_of_6 ++ []
def dkwX1_of_5 : List UInt8 := [180, 0, 12, 27, 182, 0, 244, 172, 42, 180, 0, 12, 27, 182, 0, 247, 172, 187, 0, 235, 89, 183, 0, 237]
abbrev dktX1_of_5 : List UInt8 := dkwX1_of_5 ++ dktX1_of_6
def dkwX1_of_4 : List UInt8 := [5, 27, 104, 46, 172, 42, 180, 0, 26, 5, 27, 104, 4, 96, 46, 172, 42, 180, 0, 29, 27, 46, 172, 42]
abbrev dktX1_of_4 : List UInt8 := dkwX1_of_4 ++ dktX1_of_5
def dkwX1_of_3 : List UInt8 := [180, 0, 238, 5, 27, 104, 4, 96, 46, 172, 42, 180, 0, 12, 180, 0, 241, 27, 46, 172, 42, 180, 0, 26]
abbrev dktX1_of_3 : List UInt8 := dkwX1_of_3 ++ dktX1_of_4
def dkwX1_of_2 : List UInt8 := [42, 180, 0, 22, 27, 46, 172, 42, 180, 0, 12, 180, 0, 238, 5, 27, 104, 46, 172, 42, 180, 0, 12]
abbrev dktX1_of_2 : List UInt8 := dkwX1_of_2 ++ dktX1_of_3
def dkwX1_of_1 : List UInt8 := [170, 0, 0, 0, 0, 0, 139, 0, 0, 0, 0, 0, 0, 0, 8, 0, 0, 0, 51, 0, 0, 0, 58, 0, 0, 0, 70, 0, 0, 0, 84, 0, 0, 0, 94, 0, 0, 0, 103, 0, 0, 0, 114, 0, 0, 0, 121, 0, 0, 0, 130]
abbrev dktX1_of_1 : List UInt8 := dkwX1_of_1 ++ dktX1_of_2
def dkwX1_of_0 : List UInt8 := [42, 27, 182, 0, 104, 154, 0, 11, 187, 0, 235, 89, 183, 0, 237, 191, 28]
abbrev dktX1_of_0 : List UInt8 := dkwX1_of_0 ++ dktX1_of_1
theorem dksX1_of_0 : cX1_of.data.toList.drop 0 = dktX1_of_0 := by decide +kernel
theorem dksX1_of_1 : cX1_of.data.toList.drop 17 = dktX1_of_1 := dk_seg dksX1_of_0 17 rfl rfl
theorem dksX1_of_2 : cX1_of.data.toList.drop 68 = dktX1_of_2 := dk_seg dksX1_of_1 51 rfl rfl
theorem dksX1_of_3 : cX1_of.data.toList.drop 91 = dktX1_of_3 := dk_seg dksX1_of_2 23 rfl rfl
theorem dksX1_of_4 : cX1_of.data.toList.drop 115 = dktX1_of_4 := dk_seg dksX1_of_3 24 rfl rfl
theorem dksX1_of_5 : cX1_of.data.toList.drop 139 = dktX1_of_5 := dk_seg dksX1_of_4 24 rfl rfl
theorem dksX1_of_6 : cX1_of.data.toList.drop 163 = dktX1_of_6 := dk_seg dksX1_of_5 24 rfl rfl
theorem dX1_of_0 : decode cX1_of 0 = .ok (.aload_n 0, 1) := dk_42 (dk_at dksX1_of_0 0 rfl rfl)
theorem dX1_of_1 : decode cX1_of 1 = .ok (.iload_n 1, 1) := dk_27 (dk_at dksX1_of_0 1 rfl rfl)
theorem dX1_of_2 : decode cX1_of 2 = .ok (.invokevirtual 104, 3) := dk_182 0 104 (dk_at dksX1_of_0 2 rfl rfl)
theorem dX1_of_5 : decode cX1_of 5 = .ok (.ifCond .ne 11, 3) := dk_154 0 11 (dk_at dksX1_of_0 5 rfl rfl)
theorem dX1_of_8 : decode cX1_of 8 = .ok (.new 235, 3) := dk_187 0 235 (dk_at dksX1_of_0 8 rfl rfl)
theorem dX1_of_11 : decode cX1_of 11 = .ok (.dup, 1) := dk_89 (dk_at dksX1_of_0 11 rfl rfl)
theorem dX1_of_12 : decode cX1_of 12 = .ok (.invokespecial 237, 3) := dk_183 0 237 (dk_at dksX1_of_0 12 rfl rfl)
theorem dX1_of_15 : decode cX1_of 15 = .ok (.athrow, 1) := dk_191 (dk_at dksX1_of_0 15 rfl rfl)
theorem dX1_of_16 : decode cX1_of 16 = .ok (.iload_n 2, 1) := dk_28 (dk_at dksX1_of_0 16 rfl rfl)
theorem dX1_of_17 : decode cX1_of 17 = .ok (.tableswitch 139 0 8 #[51, 58, 70, 84, 94, 103, 114, 121, 130], 51) := by decide +kernel
theorem dX1_of_68 : decode cX1_of 68 = .ok (.aload_n 0, 1) := dk_42 (dk_at dksX1_of_2 0 rfl rfl)
theorem dX1_of_69 : decode cX1_of 69 = .ok (.getfield 22, 3) := dk_180 0 22 (dk_at dksX1_of_2 1 rfl rfl)
theorem dX1_of_72 : decode cX1_of 72 = .ok (.iload_n 1, 1) := dk_27 (dk_at dksX1_of_2 4 rfl rfl)
theorem dX1_of_73 : decode cX1_of 73 = .ok (.iaload, 1) := dk_46 (dk_at dksX1_of_2 5 rfl rfl)
theorem dX1_of_74 : decode cX1_of 74 = .ok (.ireturn, 1) := dk_172 (dk_at dksX1_of_2 6 rfl rfl)
theorem dX1_of_75 : decode cX1_of 75 = .ok (.aload_n 0, 1) := dk_42 (dk_at dksX1_of_2 7 rfl rfl)
theorem dX1_of_76 : decode cX1_of 76 = .ok (.getfield 12, 3) := dk_180 0 12 (dk_at dksX1_of_2 8 rfl rfl)
theorem dX1_of_79 : decode cX1_of 79 = .ok (.getfield 238, 3) := dk_180 0 238 (dk_at dksX1_of_2 11 rfl rfl)
theorem dX1_of_82 : decode cX1_of 82 = .ok (.iconst 2, 1) := dk_5 (dk_at dksX1_of_2 14 rfl rfl)
theorem dX1_of_83 : decode cX1_of 83 = .ok (.iload_n 1, 1) := dk_27 (dk_at dksX1_of_2 15 rfl rfl)
theorem dX1_of_84 : decode cX1_of 84 = .ok (.imul, 1) := dk_104 (dk_at dksX1_of_2 16 rfl rfl)
theorem dX1_of_85 : decode cX1_of 85 = .ok (.iaload, 1) := dk_46 (dk_at dksX1_of_2 17 rfl rfl)
theorem dX1_of_86 : decode cX1_of 86 = .ok (.ireturn, 1) := dk_172 (dk_at dksX1_of_2 18 rfl rfl)
theorem dX1_of_87 : decode cX1_of 87 = .ok (.aload_n 0, 1) := dk_42 (dk_at dksX1_of_2 19 rfl rfl)
theorem dX1_of_88 : decode cX1_of 88 = .ok (.getfield 12, 3) := dk_180 0 12 (dk_at dksX1_of_2 20 rfl rfl)
theorem dX1_of_91 : decode cX1_of 91 = .ok (.getfield 238, 3) := dk_180 0 238 (dk_at dksX1_of_3 0 rfl rfl)
theorem dX1_of_94 : decode cX1_of 94 = .ok (.iconst 2, 1) := dk_5 (dk_at dksX1_of_3 3 rfl rfl)
theorem dX1_of_95 : decode cX1_of 95 = .ok (.iload_n 1, 1) := dk_27 (dk_at dksX1_of_3 4 rfl rfl)
theorem dX1_of_96 : decode cX1_of 96 = .ok (.imul, 1) := dk_104 (dk_at dksX1_of_3 5 rfl rfl)
theorem dX1_of_97 : decode cX1_of 97 = .ok (.iconst 1, 1) := dk_4 (dk_at dksX1_of_3 6 rfl rfl)
theorem dX1_of_98 : decode cX1_of 98 = .ok (.iadd, 1) := dk_96 (dk_at dksX1_of_3 7 rfl rfl)
theorem dX1_of_99 : decode cX1_of 99 = .ok (.iaload, 1) := dk_46 (dk_at dksX1_of_3 8 rfl rfl)
theorem dX1_of_100 : decode cX1_of 100 = .ok (.ireturn, 1) := dk_172 (dk_at dksX1_of_3 9 rfl rfl)
theorem dX1_of_101 : decode cX1_of 101 = .ok (.aload_n 0, 1) := dk_42 (dk_at dksX1_of_3 10 rfl rfl)
theorem dX1_of_102 : decode cX1_of 102 = .ok (.getfield 12, 3) := dk_180 0 12 (dk_at dksX1_of_3 11 rfl rfl)
theorem dX1_of_105 : decode cX1_of 105 = .ok (.getfield 241, 3) := dk_180 0 241 (dk_at dksX1_of_3 14 rfl rfl)
theorem dX1_of_108 : decode cX1_of 108 = .ok (.iload_n 1, 1) := dk_27 (dk_at dksX1_of_3 17 rfl rfl)
theorem dX1_of_109 : decode cX1_of 109 = .ok (.iaload, 1) := dk_46 (dk_at dksX1_of_3 18 rfl rfl)
theorem dX1_of_110 : decode cX1_of 110 = .ok (.ireturn, 1) := dk_172 (dk_at dksX1_of_3 19 rfl rfl)
theorem dX1_of_111 : decode cX1_of 111 = .ok (.aload_n 0, 1) := dk_42 (dk_at dksX1_of_3 20 rfl rfl)
theorem dX1_of_112 : decode cX1_of 112 = .ok (.getfield 26, 3) := dk_180 0 26 (dk_at dksX1_of_3 21 rfl rfl)
theorem dX1_of_115 : decode cX1_of 115 = .ok (.iconst 2, 1) := dk_5 (dk_at dksX1_of_4 0 rfl rfl)
theorem dX1_of_116 : decode cX1_of 116 = .ok (.iload_n 1, 1) := dk_27 (dk_at dksX1_of_4 1 rfl rfl)
theorem dX1_of_117 : decode cX1_of 117 = .ok (.imul, 1) := dk_104 (dk_at dksX1_of_4 2 rfl rfl)
theorem dX1_of_118 : decode cX1_of 118 = .ok (.iaload, 1) := dk_46 (dk_at dksX1_of_4 3 rfl rfl)
theorem dX1_of_119 : decode cX1_of 119 = .ok (.ireturn, 1) := dk_172 (dk_at dksX1_of_4 4 rfl rfl)
theorem dX1_of_120 : decode cX1_of 120 = .ok (.aload_n 0, 1) := dk_42 (dk_at dksX1_of_4 5 rfl rfl)
theorem dX1_of_121 : decode cX1_of 121 = .ok (.getfield 26, 3) := dk_180 0 26 (dk_at dksX1_of_4 6 rfl rfl)
theorem dX1_of_124 : decode cX1_of 124 = .ok (.iconst 2, 1) := dk_5 (dk_at dksX1_of_4 9 rfl rfl)
theorem dX1_of_125 : decode cX1_of 125 = .ok (.iload_n 1, 1) := dk_27 (dk_at dksX1_of_4 10 rfl rfl)
theorem dX1_of_126 : decode cX1_of 126 = .ok (.imul, 1) := dk_104 (dk_at dksX1_of_4 11 rfl rfl)
theorem dX1_of_127 : decode cX1_of 127 = .ok (.iconst 1, 1) := dk_4 (dk_at dksX1_of_4 12 rfl rfl)
theorem dX1_of_128 : decode cX1_of 128 = .ok (.iadd, 1) := dk_96 (dk_at dksX1_of_4 13 rfl rfl)
theorem dX1_of_129 : decode cX1_of 129 = .ok (.iaload, 1) := dk_46 (dk_at dksX1_of_4 14 rfl rfl)
theorem dX1_of_130 : decode cX1_of 130 = .ok (.ireturn, 1) := dk_172 (dk_at dksX1_of_4 15 rfl rfl)
theorem dX1_of_131 : decode cX1_of 131 = .ok (.aload_n 0, 1) := dk_42 (dk_at dksX1_of_4 16 rfl rfl)
theorem dX1_of_132 : decode cX1_of 132 = .ok (.getfield 29, 3) := dk_180 0 29 (dk_at dksX1_of_4 17 rfl rfl)
theorem dX1_of_135 : decode cX1_of 135 = .ok (.iload_n 1, 1) := dk_27 (dk_at dksX1_of_4 20 rfl rfl)
theorem dX1_of_136 : decode cX1_of 136 = .ok (.iaload, 1) := dk_46 (dk_at dksX1_of_4 21 rfl rfl)
theorem dX1_of_137 : decode cX1_of 137 = .ok (.ireturn, 1) := dk_172 (dk_at dksX1_of_4 22 rfl rfl)
theorem dX1_of_138 : decode cX1_of 138 = .ok (.aload_n 0, 1) := dk_42 (dk_at dksX1_of_4 23 rfl rfl)
theorem dX1_of_139 : decode cX1_of 139 = .ok (.getfield 12, 3) := dk_180 0 12 (dk_at dksX1_of_5 0 rfl rfl)
theorem dX1_of_142 : decode cX1_of 142 = .ok (.iload_n 1, 1) := dk_27 (dk_at dksX1_of_5 3 rfl rfl)
theorem dX1_of_143 : decode cX1_of 143 = .ok (.invokevirtual 244, 3) := dk_182 0 244 (dk_at dksX1_of_5 4 rfl rfl)
theorem dX1_of_146 : decode cX1_of 146 = .ok (.ireturn, 1) := dk_172 (dk_at dksX1_of_5 7 rfl rfl)
theorem dX1_of_147 : decode cX1_of 147 = .ok (.aload_n 0, 1) := dk_42 (dk_at dksX1_of_5 8 rfl rfl)
theorem dX1_of_148 : decode cX1_of 148 = .ok (.getfield 12, 3) := dk_180 0 12 (dk_at dksX1_of_5 9 rfl rfl)
theorem dX1_of_151 : decode cX1_of 151 = .ok (.iload_n 1, 1) := dk_27 (dk_at dksX1_of_5 12 rfl rfl)
theorem dX1_of_152 : decode cX1_of 152 = .ok (.invokevirtual 247, 3) := dk_182 0 247 (dk_at dksX1_of_5 13 rfl rfl)
theorem dX1_of_155 : decode cX1_of 155 = .ok (.ireturn, 1) := dk_172 (dk_at dksX1_of_5 16 rfl rfl)
theorem dX1_of_156 : decode cX1_of 156 = .ok (.new 235, 3) := dk_187 0 235 (dk_at dksX1_of_5 17 rfl rfl)
theorem dX1_of_159 : decode cX1_of 159 = .ok (.dup, 1) := dk_89 (dk_at dksX1_of_5 20 rfl rfl)
theorem dX1_of_160 : decode cX1_of 160 = .ok (.invokespecial 237, 3) := dk_183 0 237 (dk_at dksX1_of_5 21 rfl rfl)
theorem dX1_of_163 : decode cX1_of 163 = .ok (.athrow, 1) := dk_191 (dk_at dksX1_of_6 0 rfl rfl)
abbrev cX1_net : ByteArray := prog_1_method_62_code
def yX1_net : MethodName := ⟨RX1, "net", "(I)I"⟩
def dkwX1_net_1 : List UInt8 := [42, 180, 0, 12, 27, 182, 0, 244, 100, 172]
abbrev dktX1_net_1 : List UInt8 := dkwX1_net_1 ++ []
def dkwX1_net_0 : List UInt8 := [42, 27, 182, 0, 104, 154, 0, 11, 187, 0, 235, 89, 183, 0, 237, 191, 42, 180, 0, 12, 27, 182, 0, 247]
abbrev dktX1_net_0 : List UInt8 := dkwX1_net_0 ++ dktX1_net_1
theorem dksX1_net_0 : cX1_net.data.toList.drop 0 = dktX1_net_0 := by decide +kernel
theorem dksX1_net_1 : cX1_net.data.toList.drop 24 = dktX1_net_1 := dk_seg dksX1_net_0 24 rfl rfl
theorem dX1_net_0 : decode cX1_net 0 = .ok (.aload_n 0, 1) := dk_42 (dk_at dksX1_net_0 0 rfl rfl)
theorem dX1_net_1 : decode cX1_net 1 = .ok (.iload_n 1, 1) := dk_27 (dk_at dksX1_net_0 1 rfl rfl)
theorem dX1_net_2 : decode cX1_net 2 = .ok (.invokevirtual 104, 3) := dk_182 0 104 (dk_at dksX1_net_0 2 rfl rfl)
theorem dX1_net_5 : decode cX1_net 5 = .ok (.ifCond .ne 11, 3) := dk_154 0 11 (dk_at dksX1_net_0 5 rfl rfl)
theorem dX1_net_8 : decode cX1_net 8 = .ok (.new 235, 3) := dk_187 0 235 (dk_at dksX1_net_0 8 rfl rfl)
theorem dX1_net_11 : decode cX1_net 11 = .ok (.dup, 1) := dk_89 (dk_at dksX1_net_0 11 rfl rfl)
theorem dX1_net_12 : decode cX1_net 12 = .ok (.invokespecial 237, 3) := dk_183 0 237 (dk_at dksX1_net_0 12 rfl rfl)
theorem dX1_net_15 : decode cX1_net 15 = .ok (.athrow, 1) := dk_191 (dk_at dksX1_net_0 15 rfl rfl)
theorem dX1_net_16 : decode cX1_net 16 = .ok (.aload_n 0, 1) := dk_42 (dk_at dksX1_net_0 16 rfl rfl)
theorem dX1_net_17 : decode cX1_net 17 = .ok (.getfield 12, 3) := dk_180 0 12 (dk_at dksX1_net_0 17 rfl rfl)
theorem dX1_net_20 : decode cX1_net 20 = .ok (.iload_n 1, 1) := dk_27 (dk_at dksX1_net_0 20 rfl rfl)
theorem dX1_net_21 : decode cX1_net 21 = .ok (.invokevirtual 247, 3) := dk_182 0 247 (dk_at dksX1_net_0 21 rfl rfl)
theorem dX1_net_24 : decode cX1_net 24 = .ok (.aload_n 0, 1) := dk_42 (dk_at dksX1_net_1 0 rfl rfl)
theorem dX1_net_25 : decode cX1_net 25 = .ok (.getfield 12, 3) := dk_180 0 12 (dk_at dksX1_net_1 1 rfl rfl)
theorem dX1_net_28 : decode cX1_net 28 = .ok (.iload_n 1, 1) := dk_27 (dk_at dksX1_net_1 4 rfl rfl)
theorem dX1_net_29 : decode cX1_net 29 = .ok (.invokevirtual 244, 3) := dk_182 0 244 (dk_at dksX1_net_1 5 rfl rfl)
theorem dX1_net_32 : decode cX1_net 32 = .ok (.isub, 1) := dk_100 (dk_at dksX1_net_1 8 rfl rfl)
theorem dX1_net_33 : decode cX1_net 33 = .ok (.ireturn, 1) := dk_172 (dk_at dksX1_net_1 9 rfl rfl)
abbrev cX1_bare : ByteArray := prog_1_method_82_code
def yX1_bare : MethodName := ⟨RX1, "bare", "(II)I"⟩
def dkwX1_bare_3 : List UInt8 := [182, 1, 98, 29, 42, 180, 0, 16, 182, 1, 78, 100, 172]
abbrev dktX1_bare_3 : List UInt8 := dkwX1_bare_3 ++ []
def dkwX1_bare_2 : List UInt8 := [27, 104, 3, 79, 42, 180, 0, 16, 180, 0, 238, 5, 27, 104, 4, 96, 3, 79, 42, 42, 180, 0, 16, 28]
abbrev dktX1_bare_2 : List UInt8 := dkwX1_bare_2 ++ dktX1_bare_3
def dkwX1_bare_1 : List UInt8 := [28, 182, 1, 158, 62, 42, 180, 0, 16, 42, 180, 0, 12, 182, 1, 26, 42, 180, 0, 16, 180, 0, 238, 5]
abbrev dktX1_bare_1 : List UInt8 := dkwX1_bare_1 ++ dktX1_bare_2
def dkwX1_bare_0 : List UInt8 := [42, 27, 182, 0, 104, 153, 0, 10, 28, 184, 1, 95, 154, 0, 11, 187, 0, 235, 89, 183, 0, 237, 191, 42]
abbrev dktX1_bare_0 : List UInt8 := dkwX1_bare_0 ++ dktX1_bare_1
theorem dksX1_bare_0 : cX1_bare.data.toList.drop 0 = dktX1_bare_0 := by decide +kernel
theorem dksX1_bare_1 : cX1_bare.data.toList.drop 24 = dktX1_bare_1 := dk_seg dksX1_bare_0 24 rfl rfl
theorem dksX1_bare_2 : cX1_bare.data.toList.drop 48 = dktX1_bare_2 := dk_seg dksX1_bare_1 24 rfl rfl
theorem dksX1_bare_3 : cX1_bare.data.toList.drop 72 = dktX1_bare_3 := dk_seg dksX1_bare_2 24 rfl rfl
theorem dX1_bare_0 : decode cX1_bare 0 = .ok (.aload_n 0, 1) := dk_42 (dk_at dksX1_bare_0 0 rfl rfl)
theorem dX1_bare_1 : decode cX1_bare 1 = .ok (.iload_n 1, 1) := dk_27 (dk_at dksX1_bare_0 1 rfl rfl)
theorem dX1_bare_2 : decode cX1_bare 2 = .ok (.invokevirtual 104, 3) := dk_182 0 104 (dk_at dksX1_bare_0 2 rfl rfl)
theorem dX1_bare_5 : decode cX1_bare 5 = .ok (.ifCond .eq 10, 3) := dk_153 0 10 (dk_at dksX1_bare_0 5 rfl rfl)
theorem dX1_bare_8 : decode cX1_bare 8 = .ok (.iload_n 2, 1) := dk_28 (dk_at dksX1_bare_0 8 rfl rfl)
theorem dX1_bare_9 : decode cX1_bare 9 = .ok (.invokestatic 351, 3) := dk_184 1 95 (dk_at dksX1_bare_0 9 rfl rfl)
theorem dX1_bare_12 : decode cX1_bare 12 = .ok (.ifCond .ne 11, 3) := dk_154 0 11 (dk_at dksX1_bare_0 12 rfl rfl)
theorem dX1_bare_15 : decode cX1_bare 15 = .ok (.new 235, 3) := dk_187 0 235 (dk_at dksX1_bare_0 15 rfl rfl)
theorem dX1_bare_18 : decode cX1_bare 18 = .ok (.dup, 1) := dk_89 (dk_at dksX1_bare_0 18 rfl rfl)
theorem dX1_bare_19 : decode cX1_bare 19 = .ok (.invokespecial 237, 3) := dk_183 0 237 (dk_at dksX1_bare_0 19 rfl rfl)
theorem dX1_bare_22 : decode cX1_bare 22 = .ok (.athrow, 1) := dk_191 (dk_at dksX1_bare_0 22 rfl rfl)
theorem dX1_bare_23 : decode cX1_bare 23 = .ok (.aload_n 0, 1) := dk_42 (dk_at dksX1_bare_0 23 rfl rfl)
theorem dX1_bare_24 : decode cX1_bare 24 = .ok (.iload_n 2, 1) := dk_28 (dk_at dksX1_bare_1 0 rfl rfl)
theorem dX1_bare_25 : decode cX1_bare 25 = .ok (.invokevirtual 414, 3) := dk_182 1 158 (dk_at dksX1_bare_1 1 rfl rfl)
theorem dX1_bare_28 : decode cX1_bare 28 = .ok (.istore_n 3, 1) := dk_62 (dk_at dksX1_bare_1 4 rfl rfl)
theorem dX1_bare_29 : decode cX1_bare 29 = .ok (.aload_n 0, 1) := dk_42 (dk_at dksX1_bare_1 5 rfl rfl)
theorem dX1_bare_30 : decode cX1_bare 30 = .ok (.getfield 16, 3) := dk_180 0 16 (dk_at dksX1_bare_1 6 rfl rfl)
theorem dX1_bare_33 : decode cX1_bare 33 = .ok (.aload_n 0, 1) := dk_42 (dk_at dksX1_bare_1 9 rfl rfl)
theorem dX1_bare_34 : decode cX1_bare 34 = .ok (.getfield 12, 3) := dk_180 0 12 (dk_at dksX1_bare_1 10 rfl rfl)
theorem dX1_bare_37 : decode cX1_bare 37 = .ok (.invokevirtual 282, 3) := dk_182 1 26 (dk_at dksX1_bare_1 13 rfl rfl)
theorem dX1_bare_40 : decode cX1_bare 40 = .ok (.aload_n 0, 1) := dk_42 (dk_at dksX1_bare_1 16 rfl rfl)
theorem dX1_bare_41 : decode cX1_bare 41 = .ok (.getfield 16, 3) := dk_180 0 16 (dk_at dksX1_bare_1 17 rfl rfl)
theorem dX1_bare_44 : decode cX1_bare 44 = .ok (.getfield 238, 3) := dk_180 0 238 (dk_at dksX1_bare_1 20 rfl rfl)
theorem dX1_bare_47 : decode cX1_bare 47 = .ok (.iconst 2, 1) := dk_5 (dk_at dksX1_bare_1 23 rfl rfl)
theorem dX1_bare_48 : decode cX1_bare 48 = .ok (.iload_n 1, 1) := dk_27 (dk_at dksX1_bare_2 0 rfl rfl)
theorem dX1_bare_49 : decode cX1_bare 49 = .ok (.imul, 1) := dk_104 (dk_at dksX1_bare_2 1 rfl rfl)
theorem dX1_bare_50 : decode cX1_bare 50 = .ok (.iconst 0, 1) := dk_3 (dk_at dksX1_bare_2 2 rfl rfl)
theorem dX1_bare_51 : decode cX1_bare 51 = .ok (.iastore, 1) := dk_79 (dk_at dksX1_bare_2 3 rfl rfl)
theorem dX1_bare_52 : decode cX1_bare 52 = .ok (.aload_n 0, 1) := dk_42 (dk_at dksX1_bare_2 4 rfl rfl)
theorem dX1_bare_53 : decode cX1_bare 53 = .ok (.getfield 16, 3) := dk_180 0 16 (dk_at dksX1_bare_2 5 rfl rfl)
theorem dX1_bare_56 : decode cX1_bare 56 = .ok (.getfield 238, 3) := dk_180 0 238 (dk_at dksX1_bare_2 8 rfl rfl)
theorem dX1_bare_59 : decode cX1_bare 59 = .ok (.iconst 2, 1) := dk_5 (dk_at dksX1_bare_2 11 rfl rfl)
theorem dX1_bare_60 : decode cX1_bare 60 = .ok (.iload_n 1, 1) := dk_27 (dk_at dksX1_bare_2 12 rfl rfl)
theorem dX1_bare_61 : decode cX1_bare 61 = .ok (.imul, 1) := dk_104 (dk_at dksX1_bare_2 13 rfl rfl)
theorem dX1_bare_62 : decode cX1_bare 62 = .ok (.iconst 1, 1) := dk_4 (dk_at dksX1_bare_2 14 rfl rfl)
theorem dX1_bare_63 : decode cX1_bare 63 = .ok (.iadd, 1) := dk_96 (dk_at dksX1_bare_2 15 rfl rfl)
theorem dX1_bare_64 : decode cX1_bare 64 = .ok (.iconst 0, 1) := dk_3 (dk_at dksX1_bare_2 16 rfl rfl)
theorem dX1_bare_65 : decode cX1_bare 65 = .ok (.iastore, 1) := dk_79 (dk_at dksX1_bare_2 17 rfl rfl)
theorem dX1_bare_66 : decode cX1_bare 66 = .ok (.aload_n 0, 1) := dk_42 (dk_at dksX1_bare_2 18 rfl rfl)
theorem dX1_bare_67 : decode cX1_bare 67 = .ok (.aload_n 0, 1) := dk_42 (dk_at dksX1_bare_2 19 rfl rfl)
theorem dX1_bare_68 : decode cX1_bare 68 = .ok (.getfield 16, 3) := dk_180 0 16 (dk_at dksX1_bare_2 20 rfl rfl)
theorem dX1_bare_71 : decode cX1_bare 71 = .ok (.iload_n 2, 1) := dk_28 (dk_at dksX1_bare_2 23 rfl rfl)
theorem dX1_bare_72 : decode cX1_bare 72 = .ok (.invokevirtual 354, 3) := dk_182 1 98 (dk_at dksX1_bare_3 0 rfl rfl)
theorem dX1_bare_75 : decode cX1_bare 75 = .ok (.iload_n 3, 1) := dk_29 (dk_at dksX1_bare_3 3 rfl rfl)
theorem dX1_bare_76 : decode cX1_bare 76 = .ok (.aload_n 0, 1) := dk_42 (dk_at dksX1_bare_3 4 rfl rfl)
theorem dX1_bare_77 : decode cX1_bare 77 = .ok (.getfield 16, 3) := dk_180 0 16 (dk_at dksX1_bare_3 5 rfl rfl)
theorem dX1_bare_80 : decode cX1_bare 80 = .ok (.invokevirtual 334, 3) := dk_182 1 78 (dk_at dksX1_bare_3 8 rfl rfl)
theorem dX1_bare_83 : decode cX1_bare 83 = .ok (.isub, 1) := dk_100 (dk_at dksX1_bare_3 11 rfl rfl)
theorem dX1_bare_84 : decode cX1_bare 84 = .ok (.ireturn, 1) := dk_172 (dk_at dksX1_bare_3 12 rfl rfl)
abbrev cX1_premium : ByteArray := prog_1_method_94_code
def yX1_premium : MethodName := ⟨RX1, "premium", "(I)I"⟩
def dkwX1_premium_4 : List UInt8 := [42, 180, 0, 93, 3, 46, 100, 172]
abbrev dktX1_premium_4 : List UInt8 := dkwX1_premium_4 ++ []
def dkwX1_premium_3 : List UInt8 := [42, 180, 0, 96, 112, 162, 0, 7, 4, 167, 0, 4, 3, 96, 182, 1, 11, 132, 4, 1, 167, 255, 202, 29]
abbrev dktX1_premium_3 : List UInt8 := dkwX1_premium_3 ++ dktX1_premium_4
def dkwX1_premium_2 : List UInt8 := [42, 180, 0, 16, 180, 1, 68, 21, 4, 46, 184, 0, 115, 62, 42, 28, 42, 180, 0, 96, 108, 21, 4, 28]
abbrev dktX1_premium_2 : List UInt8 := dkwX1_premium_2 ++ dktX1_premium_3
def dkwX1_premium_1 : List UInt8 := [182, 1, 158, 61, 3, 62, 42, 3, 181, 1, 8, 3, 54, 4, 21, 4, 42, 180, 0, 96, 162, 0, 51, 29]
abbrev dktX1_premium_1 : List UInt8 := dkwX1_premium_1 ++ dktX1_premium_2
def dkwX1_premium_0 : List UInt8 := [42, 180, 0, 96, 153, 0, 10, 27, 184, 1, 95, 154, 0, 11, 187, 0, 235, 89, 183, 0, 237, 191, 42, 27]
abbrev dktX1_premium_0 : List UInt8 := dkwX1_premium_0 ++ dktX1_premium_1
theorem dksX1_premium_0 : cX1_premium.data.toList.drop 0 = dktX1_premium_0 := by decide +kernel
theorem dksX1_premium_1 : cX1_premium.data.toList.drop 24 = dktX1_premium_1 := dk_seg dksX1_premium_0 24 rfl rfl
theorem dksX1_premium_2 : cX1_premium.data.toList.drop 48 = dktX1_premium_2 := dk_seg dksX1_premium_1 24 rfl rfl
theorem dksX1_premium_3 : cX1_premium.data.toList.drop 72 = dktX1_premium_3 := dk_seg dksX1_premium_2 24 rfl rfl
theorem dksX1_premium_4 : cX1_premium.data.toList.drop 96 = dktX1_premium_4 := dk_seg dksX1_premium_3 24 rfl rfl
theorem dX1_premium_0 : decode cX1_premium 0 = .ok (.aload_n 0, 1) := dk_42 (dk_at dksX1_premium_0 0 rfl rfl)
theorem dX1_premium_1 : decode cX1_premium 1 = .ok (.getfield 96, 3) := dk_180 0 96 (dk_at dksX1_premium_0 1 rfl rfl)
theorem dX1_premium_4 : decode cX1_premium 4 = .ok (.ifCond .eq 10, 3) := dk_153 0 10 (dk_at dksX1_premium_0 4 rfl rfl)
theorem dX1_premium_7 : decode cX1_premium 7 = .ok (.iload_n 1, 1) := dk_27 (dk_at dksX1_premium_0 7 rfl rfl)
theorem dX1_premium_8 : decode cX1_premium 8 = .ok (.invokestatic 351, 3) := dk_184 1 95 (dk_at dksX1_premium_0 8 rfl rfl)
theorem dX1_premium_11 : decode cX1_premium 11 = .ok (.ifCond .ne 11, 3) := dk_154 0 11 (dk_at dksX1_premium_0 11 rfl rfl)
theorem dX1_premium_14 : decode cX1_premium 14 = .ok (.new 235, 3) := dk_187 0 235 (dk_at dksX1_premium_0 14 rfl rfl)
theorem dX1_premium_17 : decode cX1_premium 17 = .ok (.dup, 1) := dk_89 (dk_at dksX1_premium_0 17 rfl rfl)
theorem dX1_premium_18 : decode cX1_premium 18 = .ok (.invokespecial 237, 3) := dk_183 0 237 (dk_at dksX1_premium_0 18 rfl rfl)
theorem dX1_premium_21 : decode cX1_premium 21 = .ok (.athrow, 1) := dk_191 (dk_at dksX1_premium_0 21 rfl rfl)
theorem dX1_premium_22 : decode cX1_premium 22 = .ok (.aload_n 0, 1) := dk_42 (dk_at dksX1_premium_0 22 rfl rfl)
theorem dX1_premium_23 : decode cX1_premium 23 = .ok (.iload_n 1, 1) := dk_27 (dk_at dksX1_premium_0 23 rfl rfl)
theorem dX1_premium_24 : decode cX1_premium 24 = .ok (.invokevirtual 414, 3) := dk_182 1 158 (dk_at dksX1_premium_1 0 rfl rfl)
theorem dX1_premium_27 : decode cX1_premium 27 = .ok (.istore_n 2, 1) := dk_61 (dk_at dksX1_premium_1 3 rfl rfl)
theorem dX1_premium_28 : decode cX1_premium 28 = .ok (.iconst 0, 1) := dk_3 (dk_at dksX1_premium_1 4 rfl rfl)
theorem dX1_premium_29 : decode cX1_premium 29 = .ok (.istore_n 3, 1) := dk_62 (dk_at dksX1_premium_1 5 rfl rfl)
theorem dX1_premium_30 : decode cX1_premium 30 = .ok (.aload_n 0, 1) := dk_42 (dk_at dksX1_premium_1 6 rfl rfl)
theorem dX1_premium_31 : decode cX1_premium 31 = .ok (.iconst 0, 1) := dk_3 (dk_at dksX1_premium_1 7 rfl rfl)
theorem dX1_premium_32 : decode cX1_premium 32 = .ok (.putfield 264, 3) := dk_181 1 8 (dk_at dksX1_premium_1 8 rfl rfl)
theorem dX1_premium_35 : decode cX1_premium 35 = .ok (.iconst 0, 1) := dk_3 (dk_at dksX1_premium_1 11 rfl rfl)
theorem dX1_premium_36 : decode cX1_premium 36 = .ok (.istore 4, 2) := dk_54 4 (dk_at dksX1_premium_1 12 rfl rfl)
theorem dX1_premium_38 : decode cX1_premium 38 = .ok (.iload 4, 2) := dk_21 4 (dk_at dksX1_premium_1 14 rfl rfl)
theorem dX1_premium_40 : decode cX1_premium 40 = .ok (.aload_n 0, 1) := dk_42 (dk_at dksX1_premium_1 16 rfl rfl)
theorem dX1_premium_41 : decode cX1_premium 41 = .ok (.getfield 96, 3) := dk_180 0 96 (dk_at dksX1_premium_1 17 rfl rfl)
theorem dX1_premium_44 : decode cX1_premium 44 = .ok (.if_icmp .ge 51, 3) := dk_162 0 51 (dk_at dksX1_premium_1 20 rfl rfl)
theorem dX1_premium_47 : decode cX1_premium 47 = .ok (.iload_n 3, 1) := dk_29 (dk_at dksX1_premium_1 23 rfl rfl)
theorem dX1_premium_48 : decode cX1_premium 48 = .ok (.aload_n 0, 1) := dk_42 (dk_at dksX1_premium_2 0 rfl rfl)
theorem dX1_premium_49 : decode cX1_premium 49 = .ok (.getfield 16, 3) := dk_180 0 16 (dk_at dksX1_premium_2 1 rfl rfl)
theorem dX1_premium_52 : decode cX1_premium 52 = .ok (.getfield 324, 3) := dk_180 1 68 (dk_at dksX1_premium_2 4 rfl rfl)
theorem dX1_premium_55 : decode cX1_premium 55 = .ok (.iload 4, 2) := dk_21 4 (dk_at dksX1_premium_2 7 rfl rfl)
theorem dX1_premium_57 : decode cX1_premium 57 = .ok (.iaload, 1) := dk_46 (dk_at dksX1_premium_2 9 rfl rfl)
theorem dX1_premium_58 : decode cX1_premium 58 = .ok (.invokestatic 115, 3) := dk_184 0 115 (dk_at dksX1_premium_2 10 rfl rfl)
theorem dX1_premium_61 : decode cX1_premium 61 = .ok (.istore_n 3, 1) := dk_62 (dk_at dksX1_premium_2 13 rfl rfl)
theorem dX1_premium_62 : decode cX1_premium 62 = .ok (.aload_n 0, 1) := dk_42 (dk_at dksX1_premium_2 14 rfl rfl)
theorem dX1_premium_63 : decode cX1_premium 63 = .ok (.iload_n 2, 1) := dk_28 (dk_at dksX1_premium_2 15 rfl rfl)
theorem dX1_premium_64 : decode cX1_premium 64 = .ok (.aload_n 0, 1) := dk_42 (dk_at dksX1_premium_2 16 rfl rfl)
theorem dX1_premium_65 : decode cX1_premium 65 = .ok (.getfield 96, 3) := dk_180 0 96 (dk_at dksX1_premium_2 17 rfl rfl)
theorem dX1_premium_68 : decode cX1_premium 68 = .ok (.idiv, 1) := dk_108 (dk_at dksX1_premium_2 20 rfl rfl)
theorem dX1_premium_69 : decode cX1_premium 69 = .ok (.iload 4, 2) := dk_21 4 (dk_at dksX1_premium_2 21 rfl rfl)
theorem dX1_premium_71 : decode cX1_premium 71 = .ok (.iload_n 2, 1) := dk_28 (dk_at dksX1_premium_2 23 rfl rfl)
theorem dX1_premium_72 : decode cX1_premium 72 = .ok (.aload_n 0, 1) := dk_42 (dk_at dksX1_premium_3 0 rfl rfl)
theorem dX1_premium_73 : decode cX1_premium 73 = .ok (.getfield 96, 3) := dk_180 0 96 (dk_at dksX1_premium_3 1 rfl rfl)
theorem dX1_premium_76 : decode cX1_premium 76 = .ok (.irem, 1) := dk_112 (dk_at dksX1_premium_3 4 rfl rfl)
theorem dX1_premium_77 : decode cX1_premium 77 = .ok (.if_icmp .ge 7, 3) := dk_162 0 7 (dk_at dksX1_premium_3 5 rfl rfl)
theorem dX1_premium_80 : decode cX1_premium 80 = .ok (.iconst 1, 1) := dk_4 (dk_at dksX1_premium_3 8 rfl rfl)
theorem dX1_premium_81 : decode cX1_premium 81 = .ok (.goto 4, 3) := dk_167 0 4 (dk_at dksX1_premium_3 9 rfl rfl)
theorem dX1_premium_84 : decode cX1_premium 84 = .ok (.iconst 0, 1) := dk_3 (dk_at dksX1_premium_3 12 rfl rfl)
theorem dX1_premium_85 : decode cX1_premium 85 = .ok (.iadd, 1) := dk_96 (dk_at dksX1_premium_3 13 rfl rfl)
theorem dX1_premium_86 : decode cX1_premium 86 = .ok (.invokevirtual 267, 3) := dk_182 1 11 (dk_at dksX1_premium_3 14 rfl rfl)
theorem dX1_premium_89 : decode cX1_premium 89 = .ok (.iinc 4 1, 3) := dk_132 4 1 (dk_at dksX1_premium_3 17 rfl rfl)
theorem dX1_premium_92 : decode cX1_premium 92 = .ok (.goto (-54), 3) := dk_167 255 202 (dk_at dksX1_premium_3 20 rfl rfl)
theorem dX1_premium_95 : decode cX1_premium 95 = .ok (.iload_n 3, 1) := dk_29 (dk_at dksX1_premium_3 23 rfl rfl)
theorem dX1_premium_96 : decode cX1_premium 96 = .ok (.aload_n 0, 1) := dk_42 (dk_at dksX1_premium_4 0 rfl rfl)
theorem dX1_premium_97 : decode cX1_premium 97 = .ok (.getfield 93, 3) := dk_180 0 93 (dk_at dksX1_premium_4 1 rfl rfl)
theorem dX1_premium_100 : decode cX1_premium 100 = .ok (.iconst 0, 1) := dk_3 (dk_at dksX1_premium_4 4 rfl rfl)
theorem dX1_premium_101 : decode cX1_premium 101 = .ok (.iaload, 1) := dk_46 (dk_at dksX1_premium_4 5 rfl rfl)
theorem dX1_premium_102 : decode cX1_premium 102 = .ok (.isub, 1) := dk_100 (dk_at dksX1_premium_4 6 rfl rfl)
theorem dX1_premium_103 : decode cX1_premium 103 = .ok (.ireturn, 1) := dk_172 (dk_at dksX1_premium_4 7 rfl rfl)
abbrev cX1_row : ByteArray := prog_1_method_104_code
def yX1_row : MethodName := ⟨RX1, "row", "(I)I"⟩
def dkwX1_row_1 : List UInt8 := [42, 180, 0, 93, 27, 46, 172]
abbrev dktX1_row_1 : List UInt8 := dkwX1_row_1 ++ []
def dkwX1_row_0 : List UInt8 := [27, 133, 9, 42, 180, 1, 8, 4, 100, 133, 184, 0, 100, 154, 0, 11, 187, 0, 235, 89, 183, 0, 237, 191]
abbrev dktX1_row_0 : List UInt8 := dkwX1_row_0 ++ dktX1_row_1
theorem dksX1_row_0 : cX1_row.data.toList.drop 0 = dktX1_row_0 := by decide +kernel
theorem dksX1_row_1 : cX1_row.data.toList.drop 24 = dktX1_row_1 := dk_seg dksX1_row_0 24 rfl rfl
theorem dX1_row_0 : decode cX1_row 0 = .ok (.iload_n 1, 1) := dk_27 (dk_at dksX1_row_0 0 rfl rfl)
theorem dX1_row_1 : decode cX1_row 1 = .ok (.i2l, 1) := dk_133 (dk_at dksX1_row_0 1 rfl rfl)
theorem dX1_row_2 : decode cX1_row 2 = .ok (.lconst 0, 1) := dk_9 (dk_at dksX1_row_0 2 rfl rfl)
theorem dX1_row_3 : decode cX1_row 3 = .ok (.aload_n 0, 1) := dk_42 (dk_at dksX1_row_0 3 rfl rfl)
theorem dX1_row_4 : decode cX1_row 4 = .ok (.getfield 264, 3) := dk_180 1 8 (dk_at dksX1_row_0 4 rfl rfl)
theorem dX1_row_7 : decode cX1_row 7 = .ok (.iconst 1, 1) := dk_4 (dk_at dksX1_row_0 7 rfl rfl)
theorem dX1_row_8 : decode cX1_row 8 = .ok (.isub, 1) := dk_100 (dk_at dksX1_row_0 8 rfl rfl)
theorem dX1_row_9 : decode cX1_row 9 = .ok (.i2l, 1) := dk_133 (dk_at dksX1_row_0 9 rfl rfl)
theorem dX1_row_10 : decode cX1_row 10 = .ok (.invokestatic 100, 3) := dk_184 0 100 (dk_at dksX1_row_0 10 rfl rfl)
theorem dX1_row_13 : decode cX1_row 13 = .ok (.ifCond .ne 11, 3) := dk_154 0 11 (dk_at dksX1_row_0 13 rfl rfl)
theorem dX1_row_16 : decode cX1_row 16 = .ok (.new 235, 3) := dk_187 0 235 (dk_at dksX1_row_0 16 rfl rfl)
theorem dX1_row_19 : decode cX1_row 19 = .ok (.dup, 1) := dk_89 (dk_at dksX1_row_0 19 rfl rfl)
theorem dX1_row_20 : decode cX1_row 20 = .ok (.invokespecial 237, 3) := dk_183 0 237 (dk_at dksX1_row_0 20 rfl rfl)
theorem dX1_row_23 : decode cX1_row 23 = .ok (.athrow, 1) := dk_191 (dk_at dksX1_row_0 23 rfl rfl)
theorem dX1_row_24 : decode cX1_row 24 = .ok (.aload_n 0, 1) := dk_42 (dk_at dksX1_row_1 0 rfl rfl)
theorem dX1_row_25 : decode cX1_row 25 = .ok (.getfield 93, 3) := dk_180 0 93 (dk_at dksX1_row_1 1 rfl rfl)
theorem dX1_row_28 : decode cX1_row 28 = .ok (.iload_n 1, 1) := dk_27 (dk_at dksX1_row_1 4 rfl rfl)
theorem dX1_row_29 : decode cX1_row 29 = .ok (.iaload, 1) := dk_46 (dk_at dksX1_row_1 5 rfl rfl)
theorem dX1_row_30 : decode cX1_row 30 = .ok (.ireturn, 1) := dk_172 (dk_at dksX1_row_1 6 rfl rfl)
theorem q89 : (Jvm.Cond.initialized "SnowForSummer") ∈ lw_all := lw_g (lw_at lw_m1 1 rfl) rfl
theorem q110 : (Jvm.Cond.instantiable "SnowForSummer" (52 : Nat)) ∈ lw_all := lw_g (lw_at lw_m1 22 rfl) rfl
theorem q112 : (Jvm.Cond.instanceMethod ({ cls := "SnowForSummer", name := "<init>", desc := "()V" } : Jvm.MethodName)) ∈ lw_all := lw_g (lw_at lw_m1 24 rfl) rfl
theorem q113 : (Jvm.Cond.code ({ cls := "SnowForSummer", name := "<init>", desc := "()V" } : Jvm.MethodName) prog_1_method_1_code (1 : Nat) (Option.none : Option Jvm.ClassFile.FieldType)) ∈ lw_all := lw_g (lw_at lw_m1 25 rfl) rfl
theorem q114 : (Jvm.Cond.methodLink "SnowForSummer" (3 : Nat) ({ cls := "java/lang/Object", name := "<init>", desc := "()V" } : Jvm.MethodName)) ∈ lw_all := lw_g (lw_at lw_m1 26 rfl) rfl
theorem q117 : (Jvm.Cond.classLink "SnowForSummer" (9 : Nat) "SnowForSummer$Town") ∈ lw_all := lw_g (lw_at lw_m1 29 rfl) rfl
theorem q119 : (Jvm.Cond.methodLinkNest "SnowForSummer" (11 : Nat) ({ cls := "SnowForSummer$Town", name := "<init>", desc := "()V" } : Jvm.MethodName) "SnowForSummer") ∈ lw_tbl := lw_at lw_m1 31 rfl
theorem q124 : (Jvm.Cond.fieldLinkNest "SnowForSummer" (238 : Nat) "SnowForSummer$Town" "snow" "[I" "SnowForSummer") ∈ lw_tbl := lw_at lw_m1 36 rfl
theorem q126 : (Jvm.Cond.fieldLinkNest "SnowForSummer" (241 : Nat) "SnowForSummer$Town" "path" "[I" "SnowForSummer") ∈ lw_tbl := lw_at lw_m1 38 rfl
theorem q128 : (Jvm.Cond.fieldLinkNest "SnowForSummer" (275 : Nat) "SnowForSummer$Town" "debt" "[I" "SnowForSummer") ∈ lw_tbl := lw_at lw_m1 40 rfl
theorem q130 : (Jvm.Cond.fieldLinkNest "SnowForSummer" (324 : Nat) "SnowForSummer$Town" "newly" "[I" "SnowForSummer") ∈ lw_tbl := lw_at lw_m1 42 rfl
theorem q132 : (Jvm.Cond.fieldLinkNest "SnowForSummer" (297 : Nat) "SnowForSummer$Town" "day" "I" "SnowForSummer") ∈ lw_tbl := lw_at lw_m1 44 rfl
theorem q134 : (Jvm.Cond.fieldLinkNest "SnowForSummer" (285 : Nat) "SnowForSummer$Town" "slid" "I" "SnowForSummer") ∈ lw_tbl := lw_at lw_m1 46 rfl
theorem q150 : (Jvm.Cond.fieldLink "SnowForSummer" (12 : Nat) "SnowForSummer" "now" "LSnowForSummer$Town;") ∈ lw_all := lw_g (lw_at lw_m1 62 rfl) rfl
theorem q151 : (Jvm.Cond.fieldLink "SnowForSummer" (16 : Nat) "SnowForSummer" "tried" "LSnowForSummer$Town;") ∈ lw_all := lw_g (lw_at lw_m1 63 rfl) rfl
theorem q152 : (Jvm.Cond.fieldLink "SnowForSummer" (19 : Nat) "SnowForSummer" "other" "LSnowForSummer$Town;") ∈ lw_all := lw_g (lw_at lw_m1 64 rfl) rfl
theorem q153 : (Jvm.Cond.fieldLink "SnowForSummer" (22 : Nat) "SnowForSummer" "hold" "[I") ∈ lw_all := lw_g (lw_at lw_m1 65 rfl) rfl
theorem q155 : (Jvm.Cond.fieldLink "SnowForSummer" (26 : Nat) "SnowForSummer" "below" "[I") ∈ lw_all := lw_g (lw_at lw_m1 67 rfl) rfl
theorem q156 : (Jvm.Cond.fieldLink "SnowForSummer" (29 : Nat) "SnowForSummer" "hay" "[I") ∈ lw_all := lw_g (lw_at lw_m1 68 rfl) rfl
theorem q157 : (Jvm.Cond.fieldLink "SnowForSummer" (32 : Nat) "SnowForSummer" "weather" "[I") ∈ lw_all := lw_g (lw_at lw_m1 69 rfl) rfl
theorem q158 : (Jvm.Cond.fieldLink "SnowForSummer" (96 : Nat) "SnowForSummer" "houses" "I") ∈ lw_all := lw_g (lw_at lw_m1 70 rfl) rfl
theorem q159 : (Jvm.Cond.fieldLink "SnowForSummer" (108 : Nat) "SnowForSummer" "weatherMany" "I") ∈ lw_all := lw_g (lw_at lw_m1 71 rfl) rfl
theorem q160 : (Jvm.Cond.fieldLink "SnowForSummer" (35 : Nat) "SnowForSummer" "text" "[I") ∈ lw_all := lw_g (lw_at lw_m1 72 rfl) rfl
theorem q161 : (Jvm.Cond.fieldLink "SnowForSummer" (121 : Nat) "SnowForSummer" "signMany" "I") ∈ lw_all := lw_g (lw_at lw_m1 73 rfl) rfl
theorem q162 : (Jvm.Cond.fieldLink "SnowForSummer" (124 : Nat) "SnowForSummer" "at" "I") ∈ lw_all := lw_g (lw_at lw_m1 74 rfl) rfl
theorem q163 : (Jvm.Cond.fieldLink "SnowForSummer" (133 : Nat) "SnowForSummer" "end" "I") ∈ lw_all := lw_g (lw_at lw_m1 75 rfl) rfl
theorem q164 : (Jvm.Cond.fieldLink "SnowForSummer" (127 : Nat) "SnowForSummer" "nest" "I") ∈ lw_all := lw_g (lw_at lw_m1 76 rfl) rfl
theorem q165 : (Jvm.Cond.fieldLink "SnowForSummer" (38 : Nat) "SnowForSummer" "readHold" "[I") ∈ lw_all := lw_g (lw_at lw_m1 77 rfl) rfl
theorem q166 : (Jvm.Cond.fieldLink "SnowForSummer" (41 : Nat) "SnowForSummer" "readBelow" "[I") ∈ lw_all := lw_g (lw_at lw_m1 78 rfl) rfl
theorem q167 : (Jvm.Cond.fieldLink "SnowForSummer" (44 : Nat) "SnowForSummer" "readHay" "[I") ∈ lw_all := lw_g (lw_at lw_m1 79 rfl) rfl
theorem q168 : (Jvm.Cond.fieldLink "SnowForSummer" (153 : Nat) "SnowForSummer" "readHouses" "I") ∈ lw_all := lw_g (lw_at lw_m1 80 rfl) rfl
theorem q169 : (Jvm.Cond.fieldLink "SnowForSummer" (47 : Nat) "SnowForSummer" "readWeather" "[I") ∈ lw_all := lw_g (lw_at lw_m1 81 rfl) rfl
theorem q171 : (Jvm.Cond.fieldLink "SnowForSummer" (291 : Nat) "SnowForSummer" "askedDeep" "I") ∈ lw_all := lw_g (lw_at lw_m1 83 rfl) rfl
theorem q173 : (Jvm.Cond.fieldLink "SnowForSummer" (294 : Nat) "SnowForSummer" "askedPath" "I") ∈ lw_all := lw_g (lw_at lw_m1 85 rfl) rfl
theorem q175 : (Jvm.Cond.fieldLink "SnowForSummer" (303 : Nat) "SnowForSummer" "askedThaw" "I") ∈ lw_all := lw_g (lw_at lw_m1 87 rfl) rfl
theorem q177 : (Jvm.Cond.fieldLink "SnowForSummer" (306 : Nat) "SnowForSummer" "askedDay" "I") ∈ lw_all := lw_g (lw_at lw_m1 89 rfl) rfl
theorem q179 : (Jvm.Cond.fieldLink "SnowForSummer" (309 : Nat) "SnowForSummer" "askedLoose" "I") ∈ lw_all := lw_g (lw_at lw_m1 91 rfl) rfl
theorem q181 : (Jvm.Cond.fieldLink "SnowForSummer" (312 : Nat) "SnowForSummer" "askedHouse" "I") ∈ lw_all := lw_g (lw_at lw_m1 93 rfl) rfl
theorem q183 : (Jvm.Cond.fieldLink "SnowForSummer" (315 : Nat) "SnowForSummer" "askedBelow" "I") ∈ lw_all := lw_g (lw_at lw_m1 95 rfl) rfl
theorem q184 : (Jvm.Cond.fieldLink "SnowForSummer" (231 : Nat) "SnowForSummer" "rule" "LSnowForSummer$Node;") ∈ lw_all := lw_g (lw_at lw_m1 96 rfl) rfl
theorem q185 : (Jvm.Cond.fieldLink "SnowForSummer" (50 : Nat) "SnowForSummer" "undone" "[LSnowForSummer$Town;") ∈ lw_all := lw_g (lw_at lw_m1 97 rfl) rfl
theorem q186 : (Jvm.Cond.fieldLink "SnowForSummer" (173 : Nat) "SnowForSummer" "undoMany" "I") ∈ lw_all := lw_g (lw_at lw_m1 98 rfl) rfl
theorem q187 : (Jvm.Cond.fieldLink "SnowForSummer" (288 : Nat) "SnowForSummer" "hitBits" "I") ∈ lw_all := lw_g (lw_at lw_m1 99 rfl) rfl
theorem q188 : (Jvm.Cond.fieldLink "SnowForSummer" (54 : Nat) "SnowForSummer" "actSign" "[I") ∈ lw_all := lw_g (lw_at lw_m1 100 rfl) rfl
theorem q189 : (Jvm.Cond.fieldLink "SnowForSummer" (57 : Nat) "SnowForSummer" "actOne" "[I") ∈ lw_all := lw_g (lw_at lw_m1 101 rfl) rfl
theorem q190 : (Jvm.Cond.fieldLink "SnowForSummer" (60 : Nat) "SnowForSummer" "actTwo" "[I") ∈ lw_all := lw_g (lw_at lw_m1 102 rfl) rfl
theorem q191 : (Jvm.Cond.fieldLink "SnowForSummer" (63 : Nat) "SnowForSummer" "actMany" "[I") ∈ lw_all := lw_g (lw_at lw_m1 103 rfl) rfl
theorem q192 : (Jvm.Cond.fieldLink "SnowForSummer" (365 : Nat) "SnowForSummer" "acts" "I") ∈ lw_all := lw_g (lw_at lw_m1 104 rfl) rfl
theorem q193 : (Jvm.Cond.fieldLink "SnowForSummer" (66 : Nat) "SnowForSummer" "ring" "[I") ∈ lw_all := lw_g (lw_at lw_m1 105 rfl) rfl
theorem q194 : (Jvm.Cond.fieldLink "SnowForSummer" (381 : Nat) "SnowForSummer" "ringLong" "I") ∈ lw_all := lw_g (lw_at lw_m1 106 rfl) rfl
theorem q195 : (Jvm.Cond.fieldLink "SnowForSummer" (69 : Nat) "SnowForSummer" "nets" "[I") ∈ lw_all := lw_g (lw_at lw_m1 107 rfl) rfl
theorem q196 : (Jvm.Cond.fieldLink "SnowForSummer" (72 : Nat) "SnowForSummer" "ofDay" "[LSnowForSummer$Town;") ∈ lw_all := lw_g (lw_at lw_m1 108 rfl) rfl
theorem q197 : (Jvm.Cond.fieldLink "SnowForSummer" (75 : Nat) "SnowForSummer" "swept" "[I") ∈ lw_all := lw_g (lw_at lw_m1 109 rfl) rfl
theorem q198 : (Jvm.Cond.fieldLink "SnowForSummer" (78 : Nat) "SnowForSummer" "bestSwept" "[I") ∈ lw_all := lw_g (lw_at lw_m1 110 rfl) rfl
theorem q199 : (Jvm.Cond.fieldLink "SnowForSummer" (417 : Nat) "SnowForSummer" "bestOwed" "I") ∈ lw_all := lw_g (lw_at lw_m1 111 rfl) rfl
theorem q200 : (Jvm.Cond.fieldLink "SnowForSummer" (420 : Nat) "SnowForSummer" "sweeper" "I") ∈ lw_all := lw_g (lw_at lw_m1 112 rfl) rfl
theorem q201 : (Jvm.Cond.fieldLink "SnowForSummer" (430 : Nat) "SnowForSummer" "owedLoose" "I") ∈ lw_all := lw_g (lw_at lw_m1 113 rfl) rfl
theorem q202 : (Jvm.Cond.fieldLink "SnowForSummer" (433 : Nat) "SnowForSummer" "owedElse" "I") ∈ lw_all := lw_g (lw_at lw_m1 114 rfl) rfl
theorem q203 : (Jvm.Cond.fieldLink "SnowForSummer" (81 : Nat) "SnowForSummer" "trackHouse" "[I") ∈ lw_all := lw_g (lw_at lw_m1 115 rfl) rfl
theorem q204 : (Jvm.Cond.fieldLink "SnowForSummer" (84 : Nat) "SnowForSummer" "trackDay" "[I") ∈ lw_all := lw_g (lw_at lw_m1 116 rfl) rfl
theorem q205 : (Jvm.Cond.fieldLink "SnowForSummer" (445 : Nat) "SnowForSummer" "tracks" "I") ∈ lw_all := lw_g (lw_at lw_m1 117 rfl) rfl
theorem q206 : (Jvm.Cond.fieldLink "SnowForSummer" (87 : Nat) "SnowForSummer" "kept" "[LSnowForSummer$Town;") ∈ lw_all := lw_g (lw_at lw_m1 118 rfl) rfl
theorem q207 : (Jvm.Cond.fieldLink "SnowForSummer" (90 : Nat) "SnowForSummer" "keptHouses" "[I") ∈ lw_all := lw_g (lw_at lw_m1 119 rfl) rfl
theorem q208 : (Jvm.Cond.fieldLink "SnowForSummer" (93 : Nat) "SnowForSummer" "row" "[I") ∈ lw_all := lw_g (lw_at lw_m1 120 rfl) rfl
theorem q209 : (Jvm.Cond.fieldLink "SnowForSummer" (264 : Nat) "SnowForSummer" "rowMany" "I") ∈ lw_all := lw_g (lw_at lw_m1 121 rfl) rfl
theorem q210 : (Jvm.Cond.laysFinal "SnowForSummer" "SnowForSummer" "now" "LSnowForSummer$Town;") ∈ lw_all := lw_g (lw_at lw_m1 122 rfl) rfl
theorem q211 : (Jvm.Cond.soleField "SnowForSummer" "now") ∈ lw_all := lw_g (lw_at lw_m1 123 rfl) rfl
theorem q212 : (Jvm.Cond.laysFinal "SnowForSummer" "SnowForSummer" "tried" "LSnowForSummer$Town;") ∈ lw_all := lw_g (lw_at lw_m1 124 rfl) rfl
theorem q213 : (Jvm.Cond.soleField "SnowForSummer" "tried") ∈ lw_all := lw_g (lw_at lw_m1 125 rfl) rfl
theorem q214 : (Jvm.Cond.laysFinal "SnowForSummer" "SnowForSummer" "other" "LSnowForSummer$Town;") ∈ lw_all := lw_g (lw_at lw_m1 126 rfl) rfl
theorem q215 : (Jvm.Cond.soleField "SnowForSummer" "other") ∈ lw_all := lw_g (lw_at lw_m1 127 rfl) rfl
theorem q216 : (Jvm.Cond.laysFinal "SnowForSummer" "SnowForSummer" "hold" "[I") ∈ lw_all := lw_g (lw_at lw_m1 128 rfl) rfl
theorem q217 : (Jvm.Cond.soleField "SnowForSummer" "hold") ∈ lw_all := lw_g (lw_at lw_m1 129 rfl) rfl
theorem q218 : (Jvm.Cond.laysFinal "SnowForSummer" "SnowForSummer" "below" "[I") ∈ lw_all := lw_g (lw_at lw_m1 130 rfl) rfl
theorem q219 : (Jvm.Cond.soleField "SnowForSummer" "below") ∈ lw_all := lw_g (lw_at lw_m1 131 rfl) rfl
theorem q220 : (Jvm.Cond.laysFinal "SnowForSummer" "SnowForSummer" "hay" "[I") ∈ lw_all := lw_g (lw_at lw_m1 132 rfl) rfl
theorem q221 : (Jvm.Cond.soleField "SnowForSummer" "hay") ∈ lw_all := lw_g (lw_at lw_m1 133 rfl) rfl
theorem q222 : (Jvm.Cond.laysFinal "SnowForSummer" "SnowForSummer" "weather" "[I") ∈ lw_all := lw_g (lw_at lw_m1 134 rfl) rfl
theorem q223 : (Jvm.Cond.soleField "SnowForSummer" "weather") ∈ lw_all := lw_g (lw_at lw_m1 135 rfl) rfl
theorem q224 : (Jvm.Cond.lays "SnowForSummer" "SnowForSummer" "houses" "I") ∈ lw_all := lw_g (lw_at lw_m1 136 rfl) rfl
theorem q225 : (Jvm.Cond.soleField "SnowForSummer" "houses") ∈ lw_all := lw_g (lw_at lw_m1 137 rfl) rfl
theorem q226 : (Jvm.Cond.lays "SnowForSummer" "SnowForSummer" "weatherMany" "I") ∈ lw_all := lw_g (lw_at lw_m1 138 rfl) rfl
theorem q227 : (Jvm.Cond.soleField "SnowForSummer" "weatherMany") ∈ lw_all := lw_g (lw_at lw_m1 139 rfl) rfl
theorem q228 : (Jvm.Cond.laysFinal "SnowForSummer" "SnowForSummer" "text" "[I") ∈ lw_all := lw_g (lw_at lw_m1 140 rfl) rfl
theorem q229 : (Jvm.Cond.soleField "SnowForSummer" "text") ∈ lw_all := lw_g (lw_at lw_m1 141 rfl) rfl
theorem q230 : (Jvm.Cond.lays "SnowForSummer" "SnowForSummer" "signMany" "I") ∈ lw_all := lw_g (lw_at lw_m1 142 rfl) rfl
theorem q231 : (Jvm.Cond.soleField "SnowForSummer" "signMany") ∈ lw_all := lw_g (lw_at lw_m1 143 rfl) rfl
theorem q232 : (Jvm.Cond.lays "SnowForSummer" "SnowForSummer" "at" "I") ∈ lw_all := lw_g (lw_at lw_m1 144 rfl) rfl
theorem q233 : (Jvm.Cond.soleField "SnowForSummer" "at") ∈ lw_all := lw_g (lw_at lw_m1 145 rfl) rfl
theorem q234 : (Jvm.Cond.lays "SnowForSummer" "SnowForSummer" "end" "I") ∈ lw_all := lw_g (lw_at lw_m1 146 rfl) rfl
theorem q235 : (Jvm.Cond.soleField "SnowForSummer" "end") ∈ lw_all := lw_g (lw_at lw_m1 147 rfl) rfl
theorem q236 : (Jvm.Cond.lays "SnowForSummer" "SnowForSummer" "nest" "I") ∈ lw_all := lw_g (lw_at lw_m1 148 rfl) rfl
theorem q237 : (Jvm.Cond.soleField "SnowForSummer" "nest") ∈ lw_all := lw_g (lw_at lw_m1 149 rfl) rfl
theorem q238 : (Jvm.Cond.laysFinal "SnowForSummer" "SnowForSummer" "readHold" "[I") ∈ lw_all := lw_g (lw_at lw_m1 150 rfl) rfl
theorem q239 : (Jvm.Cond.soleField "SnowForSummer" "readHold") ∈ lw_all := lw_g (lw_at lw_m1 151 rfl) rfl
theorem q240 : (Jvm.Cond.laysFinal "SnowForSummer" "SnowForSummer" "readBelow" "[I") ∈ lw_all := lw_g (lw_at lw_m1 152 rfl) rfl
theorem q241 : (Jvm.Cond.soleField "SnowForSummer" "readBelow") ∈ lw_all := lw_g (lw_at lw_m1 153 rfl) rfl
theorem q242 : (Jvm.Cond.laysFinal "SnowForSummer" "SnowForSummer" "readHay" "[I") ∈ lw_all := lw_g (lw_at lw_m1 154 rfl) rfl
theorem q243 : (Jvm.Cond.soleField "SnowForSummer" "readHay") ∈ lw_all := lw_g (lw_at lw_m1 155 rfl) rfl
theorem q244 : (Jvm.Cond.lays "SnowForSummer" "SnowForSummer" "readHouses" "I") ∈ lw_all := lw_g (lw_at lw_m1 156 rfl) rfl
theorem q245 : (Jvm.Cond.soleField "SnowForSummer" "readHouses") ∈ lw_all := lw_g (lw_at lw_m1 157 rfl) rfl
theorem q246 : (Jvm.Cond.laysFinal "SnowForSummer" "SnowForSummer" "readWeather" "[I") ∈ lw_all := lw_g (lw_at lw_m1 158 rfl) rfl
theorem q247 : (Jvm.Cond.soleField "SnowForSummer" "readWeather") ∈ lw_all := lw_g (lw_at lw_m1 159 rfl) rfl
theorem q248 : (Jvm.Cond.lays "SnowForSummer" "SnowForSummer" "askedDeep" "I") ∈ lw_all := lw_g (lw_at lw_m1 160 rfl) rfl
theorem q249 : (Jvm.Cond.soleField "SnowForSummer" "askedDeep") ∈ lw_all := lw_g (lw_at lw_m1 161 rfl) rfl
theorem q250 : (Jvm.Cond.lays "SnowForSummer" "SnowForSummer" "askedPath" "I") ∈ lw_all := lw_g (lw_at lw_m1 162 rfl) rfl
theorem q251 : (Jvm.Cond.soleField "SnowForSummer" "askedPath") ∈ lw_all := lw_g (lw_at lw_m1 163 rfl) rfl
theorem q252 : (Jvm.Cond.lays "SnowForSummer" "SnowForSummer" "askedThaw" "I") ∈ lw_all := lw_g (lw_at lw_m1 164 rfl) rfl
theorem q253 : (Jvm.Cond.soleField "SnowForSummer" "askedThaw") ∈ lw_all := lw_g (lw_at lw_m1 165 rfl) rfl
theorem q254 : (Jvm.Cond.lays "SnowForSummer" "SnowForSummer" "askedDay" "I") ∈ lw_all := lw_g (lw_at lw_m1 166 rfl) rfl
theorem q255 : (Jvm.Cond.soleField "SnowForSummer" "askedDay") ∈ lw_all := lw_g (lw_at lw_m1 167 rfl) rfl
theorem q256 : (Jvm.Cond.lays "SnowForSummer" "SnowForSummer" "askedLoose" "I") ∈ lw_all := lw_g (lw_at lw_m1 168 rfl) rfl
theorem q257 : (Jvm.Cond.soleField "SnowForSummer" "askedLoose") ∈ lw_all := lw_g (lw_at lw_m1 169 rfl) rfl
theorem q258 : (Jvm.Cond.lays "SnowForSummer" "SnowForSummer" "askedHouse" "I") ∈ lw_all := lw_g (lw_at lw_m1 170 rfl) rfl
theorem q259 : (Jvm.Cond.soleField "SnowForSummer" "askedHouse") ∈ lw_all := lw_g (lw_at lw_m1 171 rfl) rfl
theorem q260 : (Jvm.Cond.lays "SnowForSummer" "SnowForSummer" "askedBelow" "I") ∈ lw_all := lw_g (lw_at lw_m1 172 rfl) rfl
theorem q261 : (Jvm.Cond.soleField "SnowForSummer" "askedBelow") ∈ lw_all := lw_g (lw_at lw_m1 173 rfl) rfl
theorem q262 : (Jvm.Cond.lays "SnowForSummer" "SnowForSummer" "rule" "LSnowForSummer$Node;") ∈ lw_all := lw_g (lw_at lw_m1 174 rfl) rfl
theorem q263 : (Jvm.Cond.soleField "SnowForSummer" "rule") ∈ lw_all := lw_g (lw_at lw_m1 175 rfl) rfl
theorem q264 : (Jvm.Cond.laysFinal "SnowForSummer" "SnowForSummer" "undone" "[LSnowForSummer$Town;") ∈ lw_all := lw_g (lw_at lw_m1 176 rfl) rfl
theorem q265 : (Jvm.Cond.soleField "SnowForSummer" "undone") ∈ lw_all := lw_g (lw_at lw_m1 177 rfl) rfl
theorem q266 : (Jvm.Cond.lays "SnowForSummer" "SnowForSummer" "undoMany" "I") ∈ lw_all := lw_g (lw_at lw_m1 178 rfl) rfl
theorem q267 : (Jvm.Cond.soleField "SnowForSummer" "undoMany") ∈ lw_all := lw_g (lw_at lw_m1 179 rfl) rfl
theorem q268 : (Jvm.Cond.lays "SnowForSummer" "SnowForSummer" "hitBits" "I") ∈ lw_all := lw_g (lw_at lw_m1 180 rfl) rfl
theorem q269 : (Jvm.Cond.soleField "SnowForSummer" "hitBits") ∈ lw_all := lw_g (lw_at lw_m1 181 rfl) rfl
theorem q270 : (Jvm.Cond.laysFinal "SnowForSummer" "SnowForSummer" "actSign" "[I") ∈ lw_all := lw_g (lw_at lw_m1 182 rfl) rfl
theorem q271 : (Jvm.Cond.soleField "SnowForSummer" "actSign") ∈ lw_all := lw_g (lw_at lw_m1 183 rfl) rfl
theorem q272 : (Jvm.Cond.laysFinal "SnowForSummer" "SnowForSummer" "actOne" "[I") ∈ lw_all := lw_g (lw_at lw_m1 184 rfl) rfl
theorem q273 : (Jvm.Cond.soleField "SnowForSummer" "actOne") ∈ lw_all := lw_g (lw_at lw_m1 185 rfl) rfl
theorem q274 : (Jvm.Cond.laysFinal "SnowForSummer" "SnowForSummer" "actTwo" "[I") ∈ lw_all := lw_g (lw_at lw_m1 186 rfl) rfl
theorem q275 : (Jvm.Cond.soleField "SnowForSummer" "actTwo") ∈ lw_all := lw_g (lw_at lw_m1 187 rfl) rfl
theorem q276 : (Jvm.Cond.laysFinal "SnowForSummer" "SnowForSummer" "actMany" "[I") ∈ lw_all := lw_g (lw_at lw_m1 188 rfl) rfl
theorem q277 : (Jvm.Cond.soleField "SnowForSummer" "actMany") ∈ lw_all := lw_g (lw_at lw_m1 189 rfl) rfl
theorem q278 : (Jvm.Cond.lays "SnowForSummer" "SnowForSummer" "acts" "I") ∈ lw_all := lw_g (lw_at lw_m1 190 rfl) rfl
theorem q279 : (Jvm.Cond.soleField "SnowForSummer" "acts") ∈ lw_all := lw_g (lw_at lw_m1 191 rfl) rfl
theorem q280 : (Jvm.Cond.laysFinal "SnowForSummer" "SnowForSummer" "ring" "[I") ∈ lw_all := lw_g (lw_at lw_m1 192 rfl) rfl
theorem q281 : (Jvm.Cond.soleField "SnowForSummer" "ring") ∈ lw_all := lw_g (lw_at lw_m1 193 rfl) rfl
theorem q282 : (Jvm.Cond.lays "SnowForSummer" "SnowForSummer" "ringLong" "I") ∈ lw_all := lw_g (lw_at lw_m1 194 rfl) rfl
theorem q283 : (Jvm.Cond.soleField "SnowForSummer" "ringLong") ∈ lw_all := lw_g (lw_at lw_m1 195 rfl) rfl
theorem q284 : (Jvm.Cond.laysFinal "SnowForSummer" "SnowForSummer" "nets" "[I") ∈ lw_all := lw_g (lw_at lw_m1 196 rfl) rfl
theorem q285 : (Jvm.Cond.soleField "SnowForSummer" "nets") ∈ lw_all := lw_g (lw_at lw_m1 197 rfl) rfl
theorem q286 : (Jvm.Cond.laysFinal "SnowForSummer" "SnowForSummer" "ofDay" "[LSnowForSummer$Town;") ∈ lw_all := lw_g (lw_at lw_m1 198 rfl) rfl
theorem q287 : (Jvm.Cond.soleField "SnowForSummer" "ofDay") ∈ lw_all := lw_g (lw_at lw_m1 199 rfl) rfl
theorem q288 : (Jvm.Cond.laysFinal "SnowForSummer" "SnowForSummer" "swept" "[I") ∈ lw_all := lw_g (lw_at lw_m1 200 rfl) rfl
theorem q289 : (Jvm.Cond.soleField "SnowForSummer" "swept") ∈ lw_all := lw_g (lw_at lw_m1 201 rfl) rfl
theorem q290 : (Jvm.Cond.laysFinal "SnowForSummer" "SnowForSummer" "bestSwept" "[I") ∈ lw_all := lw_g (lw_at lw_m1 202 rfl) rfl
theorem q291 : (Jvm.Cond.soleField "SnowForSummer" "bestSwept") ∈ lw_all := lw_g (lw_at lw_m1 203 rfl) rfl
theorem q292 : (Jvm.Cond.lays "SnowForSummer" "SnowForSummer" "bestOwed" "I") ∈ lw_all := lw_g (lw_at lw_m1 204 rfl) rfl
theorem q293 : (Jvm.Cond.soleField "SnowForSummer" "bestOwed") ∈ lw_all := lw_g (lw_at lw_m1 205 rfl) rfl
theorem q294 : (Jvm.Cond.lays "SnowForSummer" "SnowForSummer" "sweeper" "I") ∈ lw_all := lw_g (lw_at lw_m1 206 rfl) rfl
theorem q295 : (Jvm.Cond.soleField "SnowForSummer" "sweeper") ∈ lw_all := lw_g (lw_at lw_m1 207 rfl) rfl
theorem q296 : (Jvm.Cond.lays "SnowForSummer" "SnowForSummer" "owedLoose" "I") ∈ lw_all := lw_g (lw_at lw_m1 208 rfl) rfl
theorem q297 : (Jvm.Cond.soleField "SnowForSummer" "owedLoose") ∈ lw_all := lw_g (lw_at lw_m1 209 rfl) rfl
theorem q298 : (Jvm.Cond.lays "SnowForSummer" "SnowForSummer" "owedElse" "I") ∈ lw_all := lw_g (lw_at lw_m1 210 rfl) rfl
theorem q299 : (Jvm.Cond.soleField "SnowForSummer" "owedElse") ∈ lw_all := lw_g (lw_at lw_m1 211 rfl) rfl
theorem q300 : (Jvm.Cond.laysFinal "SnowForSummer" "SnowForSummer" "trackHouse" "[I") ∈ lw_all := lw_g (lw_at lw_m1 212 rfl) rfl
theorem q301 : (Jvm.Cond.soleField "SnowForSummer" "trackHouse") ∈ lw_all := lw_g (lw_at lw_m1 213 rfl) rfl
theorem q302 : (Jvm.Cond.laysFinal "SnowForSummer" "SnowForSummer" "trackDay" "[I") ∈ lw_all := lw_g (lw_at lw_m1 214 rfl) rfl
theorem q303 : (Jvm.Cond.soleField "SnowForSummer" "trackDay") ∈ lw_all := lw_g (lw_at lw_m1 215 rfl) rfl
theorem q304 : (Jvm.Cond.lays "SnowForSummer" "SnowForSummer" "tracks" "I") ∈ lw_all := lw_g (lw_at lw_m1 216 rfl) rfl
theorem q305 : (Jvm.Cond.soleField "SnowForSummer" "tracks") ∈ lw_all := lw_g (lw_at lw_m1 217 rfl) rfl
theorem q306 : (Jvm.Cond.laysFinal "SnowForSummer" "SnowForSummer" "kept" "[LSnowForSummer$Town;") ∈ lw_all := lw_g (lw_at lw_m1 218 rfl) rfl
theorem q307 : (Jvm.Cond.soleField "SnowForSummer" "kept") ∈ lw_all := lw_g (lw_at lw_m1 219 rfl) rfl
theorem q308 : (Jvm.Cond.laysFinal "SnowForSummer" "SnowForSummer" "keptHouses" "[I") ∈ lw_all := lw_g (lw_at lw_m1 220 rfl) rfl
theorem q309 : (Jvm.Cond.soleField "SnowForSummer" "keptHouses") ∈ lw_all := lw_g (lw_at lw_m1 221 rfl) rfl
theorem q310 : (Jvm.Cond.laysFinal "SnowForSummer" "SnowForSummer" "row" "[I") ∈ lw_all := lw_g (lw_at lw_m1 222 rfl) rfl
theorem q311 : (Jvm.Cond.soleField "SnowForSummer" "row") ∈ lw_all := lw_g (lw_at lw_m1 223 rfl) rfl
theorem q312 : (Jvm.Cond.lays "SnowForSummer" "SnowForSummer" "rowMany" "I") ∈ lw_all := lw_g (lw_at lw_m1 224 rfl) rfl
theorem q313 : (Jvm.Cond.soleField "SnowForSummer" "rowMany") ∈ lw_all := lw_g (lw_at lw_m1 225 rfl) rfl
theorem q314 : (Jvm.Cond.superclass "SnowForSummer" "java/lang/Object") ∈ lw_all := lw_g (lw_at lw_m1 226 rfl) rfl
theorem q316 : (Jvm.Cond.instanceMethod ({ cls := "SnowForSummer", name := "sign", desc := "(I)I" } : Jvm.MethodName)) ∈ lw_all := lw_g (lw_at lw_m1 228 rfl) rfl
theorem q317 : (Jvm.Cond.selects "SnowForSummer" ({ cls := "SnowForSummer", name := "sign", desc := "(I)I" } : Jvm.MethodName) ({ cls := "SnowForSummer", name := "sign", desc := "(I)I" } : Jvm.MethodName)) ∈ lw_all := lw_g (lw_at lw_m1 229 rfl) rfl
theorem q318 : (Jvm.Cond.code ({ cls := "SnowForSummer", name := "sign", desc := "(I)I" } : Jvm.MethodName) prog_1_method_9_code (3 : Nat) (Option.some Jvm.ClassFile.FieldType.int)) ∈ lw_all := lw_g (lw_at lw_m1 230 rfl) rfl
theorem q320 : (Jvm.Cond.instanceMethod ({ cls := "SnowForSummer", name := "end", desc := "(I)Z" } : Jvm.MethodName)) ∈ lw_all := lw_g (lw_at lw_m1 232 rfl) rfl
theorem q321 : (Jvm.Cond.selects "SnowForSummer" ({ cls := "SnowForSummer", name := "end", desc := "(I)Z" } : Jvm.MethodName) ({ cls := "SnowForSummer", name := "end", desc := "(I)Z" } : Jvm.MethodName)) ∈ lw_all := lw_g (lw_at lw_m1 233 rfl) rfl
theorem q322 : (Jvm.Cond.code ({ cls := "SnowForSummer", name := "end", desc := "(I)Z" } : Jvm.MethodName) prog_1_method_10_code (2 : Nat) (Option.some Jvm.ClassFile.FieldType.boolean)) ∈ lw_all := lw_g (lw_at lw_m1 234 rfl) rfl
theorem q323 : (Jvm.Cond.methodLink "SnowForSummer" (100 : Nat) ({ cls := "SnowForSummer", name := "in", desc := "(JJJ)Z" } : Jvm.MethodName)) ∈ lw_all := lw_g (lw_at lw_m1 235 rfl) rfl
theorem q324 : (Jvm.Cond.static ({ cls := "SnowForSummer", name := "in", desc := "(JJJ)Z" } : Jvm.MethodName)) ∈ lw_all := lw_g (lw_at lw_m1 236 rfl) rfl
theorem q325 : (Jvm.Cond.code ({ cls := "SnowForSummer", name := "in", desc := "(JJJ)Z" } : Jvm.MethodName) prog_1_method_2_code (6 : Nat) (Option.some Jvm.ClassFile.FieldType.boolean)) ∈ lw_all := lw_g (lw_at lw_m1 237 rfl) rfl
theorem q327 : (Jvm.Cond.instanceMethod ({ cls := "SnowForSummer", name := "town", desc := "()I" } : Jvm.MethodName)) ∈ lw_all := lw_g (lw_at lw_m1 239 rfl) rfl
theorem q328 : (Jvm.Cond.selects "SnowForSummer" ({ cls := "SnowForSummer", name := "town", desc := "()I" } : Jvm.MethodName) ({ cls := "SnowForSummer", name := "town", desc := "()I" } : Jvm.MethodName)) ∈ lw_all := lw_g (lw_at lw_m2 0 rfl) rfl
theorem q329 : (Jvm.Cond.code ({ cls := "SnowForSummer", name := "town", desc := "()I" } : Jvm.MethodName) prog_1_method_19_code (7 : Nat) (Option.some Jvm.ClassFile.FieldType.int)) ∈ lw_all := lw_g (lw_at lw_m2 1 rfl) rfl
theorem q330 : (Jvm.Cond.methodLink "SnowForSummer" (163 : Nat) ({ cls := "SnowForSummer", name := "begins", desc := "(I)I" } : Jvm.MethodName)) ∈ lw_all := lw_g (lw_at lw_m2 2 rfl) rfl
theorem q331 : (Jvm.Cond.privateMethod ({ cls := "SnowForSummer", name := "begins", desc := "(I)I" } : Jvm.MethodName)) ∈ lw_tbl := lw_at lw_m2 3 rfl
theorem q332 : (Jvm.Cond.instanceMethod ({ cls := "SnowForSummer", name := "begins", desc := "(I)I" } : Jvm.MethodName)) ∈ lw_all := lw_g (lw_at lw_m2 4 rfl) rfl
theorem q333 : (Jvm.Cond.code ({ cls := "SnowForSummer", name := "begins", desc := "(I)I" } : Jvm.MethodName) prog_1_method_11_code (3 : Nat) (Option.some Jvm.ClassFile.FieldType.int)) ∈ lw_all := lw_g (lw_at lw_m2 5 rfl) rfl
theorem q334 : (Jvm.Cond.methodLink "SnowForSummer" (130 : Nat) ({ cls := "java/lang/Math", name := "min", desc := "(II)I" } : Jvm.MethodName)) ∈ lw_all := lw_g (lw_at lw_m2 6 rfl) rfl
theorem q337 : (Jvm.Cond.methodLink "SnowForSummer" (166 : Nat) ({ cls := "SnowForSummer", name := "readsHouse", desc := "()Z" } : Jvm.MethodName)) ∈ lw_all := lw_g (lw_at lw_m2 9 rfl) rfl
theorem q338 : (Jvm.Cond.privateMethod ({ cls := "SnowForSummer", name := "readsHouse", desc := "()Z" } : Jvm.MethodName)) ∈ lw_tbl := lw_at lw_m2 10 rfl
theorem q339 : (Jvm.Cond.instanceMethod ({ cls := "SnowForSummer", name := "readsHouse", desc := "()Z" } : Jvm.MethodName)) ∈ lw_all := lw_g (lw_at lw_m2 11 rfl) rfl
theorem q340 : (Jvm.Cond.code ({ cls := "SnowForSummer", name := "readsHouse", desc := "()Z" } : Jvm.MethodName) prog_1_method_18_code (3 : Nat) (Option.some Jvm.ClassFile.FieldType.boolean)) ∈ lw_all := lw_g (lw_at lw_m2 12 rfl) rfl
theorem q341 : (Jvm.Cond.methodLink "SnowForSummer" (149 : Nat) ({ cls := "SnowForSummer", name := "isDigit", desc := "()Z" } : Jvm.MethodName)) ∈ lw_all := lw_g (lw_at lw_m2 13 rfl) rfl
theorem q342 : (Jvm.Cond.privateMethod ({ cls := "SnowForSummer", name := "isDigit", desc := "()Z" } : Jvm.MethodName)) ∈ lw_tbl := lw_at lw_m2 14 rfl
theorem q343 : (Jvm.Cond.instanceMethod ({ cls := "SnowForSummer", name := "isDigit", desc := "()Z" } : Jvm.MethodName)) ∈ lw_all := lw_g (lw_at lw_m2 15 rfl) rfl
theorem q344 : (Jvm.Cond.code ({ cls := "SnowForSummer", name := "isDigit", desc := "()Z" } : Jvm.MethodName) prog_1_method_15_code (1 : Nat) (Option.some Jvm.ClassFile.FieldType.boolean)) ∈ lw_all := lw_g (lw_at lw_m2 16 rfl) rfl
theorem q345 : (Jvm.Cond.constantLong "SnowForSummer" (145 : Nat) (48 : Int64)) ∈ lw_all := lw_g (lw_at lw_m2 17 rfl) rfl
theorem q346 : (Jvm.Cond.constantLong "SnowForSummer" (147 : Nat) (57 : Int64)) ∈ lw_all := lw_g (lw_at lw_m2 18 rfl) rfl
theorem q347 : (Jvm.Cond.methodLink "SnowForSummer" (156 : Nat) ({ cls := "SnowForSummer", name := "number", desc := "(III)I" } : Jvm.MethodName)) ∈ lw_all := lw_g (lw_at lw_m2 19 rfl) rfl
theorem q348 : (Jvm.Cond.privateMethod ({ cls := "SnowForSummer", name := "number", desc := "(III)I" } : Jvm.MethodName)) ∈ lw_tbl := lw_at lw_m2 20 rfl
theorem q349 : (Jvm.Cond.instanceMethod ({ cls := "SnowForSummer", name := "number", desc := "(III)I" } : Jvm.MethodName)) ∈ lw_all := lw_g (lw_at lw_m2 21 rfl) rfl
theorem q350 : (Jvm.Cond.code ({ cls := "SnowForSummer", name := "number", desc := "(III)I" } : Jvm.MethodName) prog_1_method_16_code (6 : Nat) (Option.some Jvm.ClassFile.FieldType.int)) ∈ lw_all := lw_g (lw_at lw_m2 22 rfl) rfl
theorem q351 : (Jvm.Cond.methodLink "SnowForSummer" (160 : Nat) ({ cls := "SnowForSummer", name := "takes", desc := "(C)Z" } : Jvm.MethodName)) ∈ lw_all := lw_g (lw_at lw_m2 23 rfl) rfl
theorem q352 : (Jvm.Cond.privateMethod ({ cls := "SnowForSummer", name := "takes", desc := "(C)Z" } : Jvm.MethodName)) ∈ lw_tbl := lw_at lw_m2 24 rfl
theorem q353 : (Jvm.Cond.instanceMethod ({ cls := "SnowForSummer", name := "takes", desc := "(C)Z" } : Jvm.MethodName)) ∈ lw_all := lw_g (lw_at lw_m2 25 rfl) rfl
theorem q354 : (Jvm.Cond.code ({ cls := "SnowForSummer", name := "takes", desc := "(C)Z" } : Jvm.MethodName) prog_1_method_13_code (3 : Nat) (Option.some Jvm.ClassFile.FieldType.boolean)) ∈ lw_all := lw_g (lw_at lw_m2 26 rfl) rfl
theorem q355 : (Jvm.Cond.methodLink "SnowForSummer" (136 : Nat) ({ cls := "SnowForSummer", name := "isAt", desc := "(C)Z" } : Jvm.MethodName)) ∈ lw_all := lw_g (lw_at lw_m2 27 rfl) rfl
theorem q356 : (Jvm.Cond.privateMethod ({ cls := "SnowForSummer", name := "isAt", desc := "(C)Z" } : Jvm.MethodName)) ∈ lw_tbl := lw_at lw_m2 28 rfl
theorem q357 : (Jvm.Cond.instanceMethod ({ cls := "SnowForSummer", name := "isAt", desc := "(C)Z" } : Jvm.MethodName)) ∈ lw_all := lw_g (lw_at lw_m2 29 rfl) rfl
theorem q358 : (Jvm.Cond.code ({ cls := "SnowForSummer", name := "isAt", desc := "(C)Z" } : Jvm.MethodName) prog_1_method_12_code (2 : Nat) (Option.some Jvm.ClassFile.FieldType.boolean)) ∈ lw_all := lw_g (lw_at lw_m2 30 rfl) rfl
theorem q359 : (Jvm.Cond.methodLink "SnowForSummer" (169 : Nat) ({ cls := "SnowForSummer", name := "faultOf", desc := "(IZ)I" } : Jvm.MethodName)) ∈ lw_all := lw_g (lw_at lw_m2 31 rfl) rfl
theorem q360 : (Jvm.Cond.privateMethod ({ cls := "SnowForSummer", name := "faultOf", desc := "(IZ)I" } : Jvm.MethodName)) ∈ lw_tbl := lw_at lw_m2 32 rfl
theorem q361 : (Jvm.Cond.instanceMethod ({ cls := "SnowForSummer", name := "faultOf", desc := "(IZ)I" } : Jvm.MethodName)) ∈ lw_all := lw_g (lw_at lw_m2 33 rfl) rfl
theorem q362 : (Jvm.Cond.code ({ cls := "SnowForSummer", name := "faultOf", desc := "(IZ)I" } : Jvm.MethodName) prog_1_method_17_code (4 : Nat) (Option.some Jvm.ClassFile.FieldType.int)) ∈ lw_all := lw_g (lw_at lw_m2 34 rfl) rfl
theorem q364 : (Jvm.Cond.instanceMethod ({ cls := "SnowForSummer", name := "weather", desc := "()I" } : Jvm.MethodName)) ∈ lw_all := lw_g (lw_at lw_m2 36 rfl) rfl
theorem q365 : (Jvm.Cond.selects "SnowForSummer" ({ cls := "SnowForSummer", name := "weather", desc := "()I" } : Jvm.MethodName) ({ cls := "SnowForSummer", name := "weather", desc := "()I" } : Jvm.MethodName)) ∈ lw_all := lw_g (lw_at lw_m2 37 rfl) rfl
theorem q366 : (Jvm.Cond.code ({ cls := "SnowForSummer", name := "weather", desc := "()I" } : Jvm.MethodName) prog_1_method_20_code (4 : Nat) (Option.some Jvm.ClassFile.FieldType.int)) ∈ lw_all := lw_g (lw_at lw_m2 38 rfl) rfl
theorem q367 : (Jvm.Cond.stringRef "SnowForSummer" (176 : Nat) "0123456789abcdefghi") ∈ lw_tbl := lw_at lw_m2 39 rfl
theorem q368 : (Jvm.Cond.methodLink "SnowForSummer" (178 : Nat) ({ cls := "SnowForSummer", name := "isOf", desc := "(Ljava/lang/String;)Z" } : Jvm.MethodName)) ∈ lw_all := lw_g (lw_at lw_m2 40 rfl) rfl
theorem q369 : (Jvm.Cond.privateMethod ({ cls := "SnowForSummer", name := "isOf", desc := "(Ljava/lang/String;)Z" } : Jvm.MethodName)) ∈ lw_tbl := lw_at lw_m2 41 rfl
theorem q370 : (Jvm.Cond.instanceMethod ({ cls := "SnowForSummer", name := "isOf", desc := "(Ljava/lang/String;)Z" } : Jvm.MethodName)) ∈ lw_all := lw_g (lw_at lw_m2 42 rfl) rfl
theorem q371 : (Jvm.Cond.code ({ cls := "SnowForSummer", name := "isOf", desc := "(Ljava/lang/String;)Z" } : Jvm.MethodName) prog_1_method_14_code (2 : Nat) (Option.some Jvm.ClassFile.FieldType.boolean)) ∈ lw_all := lw_g (lw_at lw_m2 43 rfl) rfl
theorem q372 : (Jvm.Cond.methodLink "SnowForSummer" (140 : Nat) ({ cls := "java/lang/String", name := "indexOf", desc := "(I)I" } : Jvm.MethodName)) ∈ lw_all := lw_g (lw_at lw_m2 44 rfl) rfl
theorem q456 : (Jvm.Cond.methodLink "SnowForSummer" (182 : Nat) ({ cls := "java/lang/System", name := "arraycopy", desc := "(Ljava/lang/Object;ILjava/lang/Object;II)V" } : Jvm.MethodName)) ∈ lw_all := lw_g (lw_at lw_m2 128 rfl) rfl
theorem q461 : (Jvm.Cond.instanceMethod ({ cls := "SnowForSummer", name := "winter", desc := "(II)I" } : Jvm.MethodName)) ∈ lw_all := lw_g (lw_at lw_m2 133 rfl) rfl
theorem q462 : (Jvm.Cond.selects "SnowForSummer" ({ cls := "SnowForSummer", name := "winter", desc := "(II)I" } : Jvm.MethodName) ({ cls := "SnowForSummer", name := "winter", desc := "(II)I" } : Jvm.MethodName)) ∈ lw_all := lw_g (lw_at lw_m2 134 rfl) rfl
theorem q463 : (Jvm.Cond.code ({ cls := "SnowForSummer", name := "winter", desc := "(II)I" } : Jvm.MethodName) prog_1_method_21_code (7 : Nat) (Option.some Jvm.ClassFile.FieldType.int)) ∈ lw_all := lw_g (lw_at lw_m2 135 rfl) rfl
theorem q464 : (Jvm.Cond.constantLong "SnowForSummer" (188 : Nat) (40 : Int64)) ∈ lw_all := lw_g (lw_at lw_m2 136 rfl) rfl
theorem q465 : (Jvm.Cond.constant "SnowForSummer" (190 : Nat) (1103515245 : Int32)) ∈ lw_all := lw_g (lw_at lw_m2 137 rfl) rfl
theorem q467 : (Jvm.Cond.instanceMethod ({ cls := "SnowForSummer", name := "falls", desc := "(I)I" } : Jvm.MethodName)) ∈ lw_all := lw_g (lw_at lw_m2 139 rfl) rfl
theorem q468 : (Jvm.Cond.selects "SnowForSummer" ({ cls := "SnowForSummer", name := "falls", desc := "(I)I" } : Jvm.MethodName) ({ cls := "SnowForSummer", name := "falls", desc := "(I)I" } : Jvm.MethodName)) ∈ lw_all := lw_g (lw_at lw_m2 140 rfl) rfl
theorem q469 : (Jvm.Cond.code ({ cls := "SnowForSummer", name := "falls", desc := "(I)I" } : Jvm.MethodName) prog_1_method_22_code (2 : Nat) (Option.some Jvm.ClassFile.FieldType.int)) ∈ lw_all := lw_g (lw_at lw_m2 141 rfl) rfl
theorem q470 : (Jvm.Cond.constantLong "SnowForSummer" (191 : Nat) (9999 : Int64)) ∈ lw_all := lw_g (lw_at lw_m2 142 rfl) rfl
theorem q471 : (Jvm.Cond.methodLink "SnowForSummer" (111 : Nat) ({ cls := "SnowForSummer", name := "fallsIn", desc := "(I)I" } : Jvm.MethodName)) ∈ lw_all := lw_g (lw_at lw_m2 143 rfl) rfl
theorem q472 : (Jvm.Cond.privateMethod ({ cls := "SnowForSummer", name := "fallsIn", desc := "(I)I" } : Jvm.MethodName)) ∈ lw_tbl := lw_at lw_m2 144 rfl
theorem q473 : (Jvm.Cond.instanceMethod ({ cls := "SnowForSummer", name := "fallsIn", desc := "(I)I" } : Jvm.MethodName)) ∈ lw_all := lw_g (lw_at lw_m2 145 rfl) rfl
theorem q474 : (Jvm.Cond.code ({ cls := "SnowForSummer", name := "fallsIn", desc := "(I)I" } : Jvm.MethodName) prog_1_method_7_code (2 : Nat) (Option.some Jvm.ClassFile.FieldType.int)) ∈ lw_all := lw_g (lw_at lw_m2 146 rfl) rfl
theorem q476 : (Jvm.Cond.instanceMethod ({ cls := "SnowForSummer", name := "rule", desc := "()I" } : Jvm.MethodName)) ∈ lw_all := lw_g (lw_at lw_m2 148 rfl) rfl
theorem q477 : (Jvm.Cond.selects "SnowForSummer" ({ cls := "SnowForSummer", name := "rule", desc := "()I" } : Jvm.MethodName) ({ cls := "SnowForSummer", name := "rule", desc := "()I" } : Jvm.MethodName)) ∈ lw_all := lw_g (lw_at lw_m2 149 rfl) rfl
theorem q478 : (Jvm.Cond.code ({ cls := "SnowForSummer", name := "rule", desc := "()I" } : Jvm.MethodName) prog_1_method_26_code (4 : Nat) (Option.some Jvm.ClassFile.FieldType.int)) ∈ lw_all := lw_g (lw_at lw_m2 150 rfl) rfl
theorem q479 : (Jvm.Cond.methodLink "SnowForSummer" (212 : Nat) ({ cls := "SnowForSummer", name := "reads", desc := "(I)LSnowForSummer$Node;" } : Jvm.MethodName)) ∈ lw_all := lw_g (lw_at lw_m2 151 rfl) rfl
theorem q480 : (Jvm.Cond.privateMethod ({ cls := "SnowForSummer", name := "reads", desc := "(I)LSnowForSummer$Node;" } : Jvm.MethodName)) ∈ lw_tbl := lw_at lw_m2 152 rfl
theorem q481 : (Jvm.Cond.instanceMethod ({ cls := "SnowForSummer", name := "reads", desc := "(I)LSnowForSummer$Node;" } : Jvm.MethodName)) ∈ lw_all := lw_g (lw_at lw_m2 153 rfl) rfl
theorem q482 : (Jvm.Cond.code ({ cls := "SnowForSummer", name := "reads", desc := "(I)LSnowForSummer$Node;" } : Jvm.MethodName) prog_1_method_25_code (6 : Nat) (Option.some (Jvm.ClassFile.FieldType.object "SnowForSummer$Node"))) ∈ lw_all := lw_g (lw_at lw_m2 154 rfl) rfl
theorem q483 : (Jvm.Cond.methodLink "SnowForSummer" (193 : Nat) ({ cls := "SnowForSummer", name := "readsThing", desc := "()LSnowForSummer$Node;" } : Jvm.MethodName)) ∈ lw_all := lw_g (lw_at lw_m2 155 rfl) rfl
theorem q484 : (Jvm.Cond.privateMethod ({ cls := "SnowForSummer", name := "readsThing", desc := "()LSnowForSummer$Node;" } : Jvm.MethodName)) ∈ lw_tbl := lw_at lw_m2 156 rfl
theorem q485 : (Jvm.Cond.instanceMethod ({ cls := "SnowForSummer", name := "readsThing", desc := "()LSnowForSummer$Node;" } : Jvm.MethodName)) ∈ lw_all := lw_g (lw_at lw_m2 157 rfl) rfl
theorem q486 : (Jvm.Cond.code ({ cls := "SnowForSummer", name := "readsThing", desc := "()LSnowForSummer$Node;" } : Jvm.MethodName) prog_1_method_23_code (2 : Nat) (Option.some (Jvm.ClassFile.FieldType.object "SnowForSummer$Node"))) ∈ lw_all := lw_g (lw_at lw_m2 158 rfl) rfl
theorem q487 : (Jvm.Cond.classLink "SnowForSummer" (197 : Nat) "SnowForSummer$Less") ∈ lw_all := lw_g (lw_at lw_m2 159 rfl) rfl
theorem q489 : (Jvm.Cond.methodLink "SnowForSummer" (199 : Nat) ({ cls := "SnowForSummer$Less", name := "<init>", desc := "(LSnowForSummer;LSnowForSummer$Node;)V" } : Jvm.MethodName)) ∈ lw_all := lw_g (lw_at lw_m2 161 rfl) rfl
theorem q506 : (Jvm.Cond.classLink "SnowForSummer" (202 : Nat) "SnowForSummer$Number") ∈ lw_all := lw_g (lw_at lw_m2 178 rfl) rfl
theorem q508 : (Jvm.Cond.methodLink "SnowForSummer" (204 : Nat) ({ cls := "SnowForSummer$Number", name := "<init>", desc := "(LSnowForSummer;I)V" } : Jvm.MethodName)) ∈ lw_all := lw_g (lw_at lw_m2 180 rfl) rfl
theorem q520 : (Jvm.Cond.stringRef "SnowForSummer" (207 : Nat) "dptonxhb") ∈ lw_tbl := lw_at lw_m2 192 rfl
theorem q521 : (Jvm.Cond.classLink "SnowForSummer" (209 : Nat) "SnowForSummer$Sign") ∈ lw_all := lw_g (lw_at lw_m2 193 rfl) rfl
theorem q523 : (Jvm.Cond.methodLink "SnowForSummer" (211 : Nat) ({ cls := "SnowForSummer$Sign", name := "<init>", desc := "(LSnowForSummer;I)V" } : Jvm.MethodName)) ∈ lw_all := lw_g (lw_at lw_m2 195 rfl) rfl
theorem q535 : (Jvm.Cond.methodLink "SnowForSummer" (222 : Nat) ({ cls := "SnowForSummer", name := "acts", desc := "(I)Ljava/lang/String;" } : Jvm.MethodName)) ∈ lw_all := lw_g (lw_at lw_m2 207 rfl) rfl
theorem q536 : (Jvm.Cond.static ({ cls := "SnowForSummer", name := "acts", desc := "(I)Ljava/lang/String;" } : Jvm.MethodName)) ∈ lw_all := lw_g (lw_at lw_m2 208 rfl) rfl
theorem q537 : (Jvm.Cond.code ({ cls := "SnowForSummer", name := "acts", desc := "(I)Ljava/lang/String;" } : Jvm.MethodName) prog_1_method_24_code (1 : Nat) (Option.some (Jvm.ClassFile.FieldType.object "java/lang/String"))) ∈ lw_all := lw_g (lw_at lw_m2 209 rfl) rfl
theorem q538 : (Jvm.Cond.stringRef "SnowForSummer" (216 : Nat) "<>=") ∈ lw_tbl := lw_at lw_m2 210 rfl
theorem q539 : (Jvm.Cond.stringRef "SnowForSummer" (218 : Nat) "+-") ∈ lw_tbl := lw_at lw_m2 211 rfl
theorem q540 : (Jvm.Cond.stringRef "SnowForSummer" (220 : Nat) "*/") ∈ lw_tbl := lw_at lw_m2 212 rfl
theorem q541 : (Jvm.Cond.classLink "SnowForSummer" (226 : Nat) "SnowForSummer$Act") ∈ lw_all := lw_g (lw_at lw_m2 213 rfl) rfl
theorem q543 : (Jvm.Cond.methodLink "SnowForSummer" (228 : Nat) ({ cls := "SnowForSummer$Act", name := "<init>", desc := "(LSnowForSummer;CLSnowForSummer$Node;LSnowForSummer$Node;)V" } : Jvm.MethodName)) ∈ lw_all := lw_g (lw_at lw_m2 215 rfl) rfl
theorem q562 : (Jvm.Cond.instanceMethod ({ cls := "SnowForSummer", name := "set", desc := "(III)I" } : Jvm.MethodName)) ∈ lw_all := lw_g (lw_at lw_m2 234 rfl) rfl
theorem q563 : (Jvm.Cond.selects "SnowForSummer" ({ cls := "SnowForSummer", name := "set", desc := "(III)I" } : Jvm.MethodName) ({ cls := "SnowForSummer", name := "set", desc := "(III)I" } : Jvm.MethodName)) ∈ lw_all := lw_g (lw_at lw_m2 235 rfl) rfl
theorem q564 : (Jvm.Cond.code ({ cls := "SnowForSummer", name := "set", desc := "(III)I" } : Jvm.MethodName) prog_1_method_29_code (4 : Nat) (Option.some Jvm.ClassFile.FieldType.int)) ∈ lw_all := lw_g (lw_at lw_m2 236 rfl) rfl
theorem q565 : (Jvm.Cond.methodLink "SnowForSummer" (104 : Nat) ({ cls := "SnowForSummer", name := "isHouse", desc := "(I)Z" } : Jvm.MethodName)) ∈ lw_all := lw_g (lw_at lw_m2 237 rfl) rfl
theorem q566 : (Jvm.Cond.privateMethod ({ cls := "SnowForSummer", name := "isHouse", desc := "(I)Z" } : Jvm.MethodName)) ∈ lw_tbl := lw_at lw_m2 238 rfl
theorem q567 : (Jvm.Cond.instanceMethod ({ cls := "SnowForSummer", name := "isHouse", desc := "(I)Z" } : Jvm.MethodName)) ∈ lw_all := lw_g (lw_at lw_m2 239 rfl) rfl
theorem q568 : (Jvm.Cond.code ({ cls := "SnowForSummer", name := "isHouse", desc := "(I)Z" } : Jvm.MethodName) prog_1_method_4_code (2 : Nat) (Option.some Jvm.ClassFile.FieldType.boolean)) ∈ lw_all := lw_g (lw_at lw_m3 0 rfl) rfl
theorem q569 : (Jvm.Cond.constantLong "SnowForSummer" (250 : Nat) (99 : Int64)) ∈ lw_all := lw_g (lw_at lw_m3 1 rfl) rfl
theorem q570 : (Jvm.Cond.methodLink "SnowForSummer" (252 : Nat) ({ cls := "SnowForSummer", name := "puts", desc := "([III)I" } : Jvm.MethodName)) ∈ lw_all := lw_g (lw_at lw_m3 2 rfl) rfl
theorem q571 : (Jvm.Cond.static ({ cls := "SnowForSummer", name := "puts", desc := "([III)I" } : Jvm.MethodName)) ∈ lw_all := lw_g (lw_at lw_m3 3 rfl) rfl
theorem q572 : (Jvm.Cond.code ({ cls := "SnowForSummer", name := "puts", desc := "([III)I" } : Jvm.MethodName) prog_1_method_28_code (4 : Nat) (Option.some Jvm.ClassFile.FieldType.int)) ∈ lw_all := lw_g (lw_at lw_m3 4 rfl) rfl
theorem q573 : (Jvm.Cond.constantLong "SnowForSummer" (256 : Nat) (999 : Int64)) ∈ lw_all := lw_g (lw_at lw_m3 5 rfl) rfl
theorem q574 : (Jvm.Cond.constantLong "SnowForSummer" (258 : Nat) (6 : Int64)) ∈ lw_all := lw_g (lw_at lw_m3 6 rfl) rfl
theorem q575 : (Jvm.Cond.constantLong "SnowForSummer" (260 : Nat) (30 : Int64)) ∈ lw_all := lw_g (lw_at lw_m3 7 rfl) rfl
theorem q577 : (Jvm.Cond.instanceMethod ({ cls := "SnowForSummer", name := "sheet", desc := "(IIII)I" } : Jvm.MethodName)) ∈ lw_all := lw_g (lw_at lw_m3 9 rfl) rfl
theorem q578 : (Jvm.Cond.selects "SnowForSummer" ({ cls := "SnowForSummer", name := "sheet", desc := "(IIII)I" } : Jvm.MethodName) ({ cls := "SnowForSummer", name := "sheet", desc := "(IIII)I" } : Jvm.MethodName)) ∈ lw_all := lw_g (lw_at lw_m3 10 rfl) rfl
theorem q579 : (Jvm.Cond.code ({ cls := "SnowForSummer", name := "sheet", desc := "(IIII)I" } : Jvm.MethodName) prog_1_method_30_code (9 : Nat) (Option.some Jvm.ClassFile.FieldType.int)) ∈ lw_all := lw_g (lw_at lw_m3 11 rfl) rfl
theorem q580 : (Jvm.Cond.constantLong "SnowForSummer" (262 : Nat) (3 : Int64)) ∈ lw_all := lw_g (lw_at lw_m3 12 rfl) rfl
theorem q581 : (Jvm.Cond.methodLink "SnowForSummer" (115 : Nat) ({ cls := "java/lang/Math", name := "max", desc := "(II)I" } : Jvm.MethodName)) ∈ lw_all := lw_g (lw_at lw_m3 13 rfl) rfl
theorem q583 : (Jvm.Cond.instanceMethod ({ cls := "SnowForSummer", name := "above", desc := "(I)I" } : Jvm.MethodName)) ∈ lw_all := lw_g (lw_at lw_m3 15 rfl) rfl
theorem q584 : (Jvm.Cond.selects "SnowForSummer" ({ cls := "SnowForSummer", name := "above", desc := "(I)I" } : Jvm.MethodName) ({ cls := "SnowForSummer", name := "above", desc := "(I)I" } : Jvm.MethodName)) ∈ lw_all := lw_g (lw_at lw_m3 16 rfl) rfl
theorem q585 : (Jvm.Cond.code ({ cls := "SnowForSummer", name := "above", desc := "(I)I" } : Jvm.MethodName) prog_1_method_31_code (6 : Nat) (Option.some Jvm.ClassFile.FieldType.int)) ∈ lw_all := lw_g (lw_at lw_m3 17 rfl) rfl
theorem q586 : (Jvm.Cond.methodLink "SnowForSummer" (267 : Nat) ({ cls := "SnowForSummer", name := "tells", desc := "(I)V" } : Jvm.MethodName)) ∈ lw_all := lw_g (lw_at lw_m3 18 rfl) rfl
theorem q587 : (Jvm.Cond.privateMethod ({ cls := "SnowForSummer", name := "tells", desc := "(I)V" } : Jvm.MethodName)) ∈ lw_tbl := lw_at lw_m3 19 rfl
theorem q588 : (Jvm.Cond.instanceMethod ({ cls := "SnowForSummer", name := "tells", desc := "(I)V" } : Jvm.MethodName)) ∈ lw_all := lw_g (lw_at lw_m3 20 rfl) rfl
theorem q589 : (Jvm.Cond.code ({ cls := "SnowForSummer", name := "tells", desc := "(I)V" } : Jvm.MethodName) prog_1_method_103_code (2 : Nat) (Option.none : Option Jvm.ClassFile.FieldType)) ∈ lw_all := lw_g (lw_at lw_m3 21 rfl) rfl
theorem q591 : (Jvm.Cond.instanceMethod ({ cls := "SnowForSummer", name := "debt", desc := "(II)I" } : Jvm.MethodName)) ∈ lw_all := lw_g (lw_at lw_m3 23 rfl) rfl
theorem q592 : (Jvm.Cond.selects "SnowForSummer" ({ cls := "SnowForSummer", name := "debt", desc := "(II)I" } : Jvm.MethodName) ({ cls := "SnowForSummer", name := "debt", desc := "(II)I" } : Jvm.MethodName)) ∈ lw_all := lw_g (lw_at lw_m3 24 rfl) rfl
theorem q593 : (Jvm.Cond.code ({ cls := "SnowForSummer", name := "debt", desc := "(II)I" } : Jvm.MethodName) prog_1_method_32_code (3 : Nat) (Option.some Jvm.ClassFile.FieldType.int)) ∈ lw_all := lw_g (lw_at lw_m3 25 rfl) rfl
theorem q594 : (Jvm.Cond.methodLink "SnowForSummer" (271 : Nat) ({ cls := "SnowForSummer", name := "areTwo", desc := "(II)Z" } : Jvm.MethodName)) ∈ lw_all := lw_g (lw_at lw_m3 26 rfl) rfl
theorem q595 : (Jvm.Cond.privateMethod ({ cls := "SnowForSummer", name := "areTwo", desc := "(II)Z" } : Jvm.MethodName)) ∈ lw_tbl := lw_at lw_m3 27 rfl
theorem q596 : (Jvm.Cond.instanceMethod ({ cls := "SnowForSummer", name := "areTwo", desc := "(II)Z" } : Jvm.MethodName)) ∈ lw_all := lw_g (lw_at lw_m3 28 rfl) rfl
theorem q597 : (Jvm.Cond.code ({ cls := "SnowForSummer", name := "areTwo", desc := "(II)Z" } : Jvm.MethodName) prog_1_method_6_code (3 : Nat) (Option.some Jvm.ClassFile.FieldType.boolean)) ∈ lw_all := lw_g (lw_at lw_m3 29 rfl) rfl
theorem q599 : (Jvm.Cond.instanceMethod ({ cls := "SnowForSummer", name := "undo", desc := "()I" } : Jvm.MethodName)) ∈ lw_all := lw_g (lw_at lw_m3 31 rfl) rfl
theorem q600 : (Jvm.Cond.selects "SnowForSummer" ({ cls := "SnowForSummer", name := "undo", desc := "()I" } : Jvm.MethodName) ({ cls := "SnowForSummer", name := "undo", desc := "()I" } : Jvm.MethodName)) ∈ lw_all := lw_g (lw_at lw_m3 32 rfl) rfl
theorem q601 : (Jvm.Cond.code ({ cls := "SnowForSummer", name := "undo", desc := "()I" } : Jvm.MethodName) prog_1_method_35_code (1 : Nat) (Option.some Jvm.ClassFile.FieldType.int)) ∈ lw_all := lw_g (lw_at lw_m3 33 rfl) rfl
theorem q602 : (Jvm.Cond.methodLink "SnowForSummer" (282 : Nat) ({ cls := "SnowForSummer$Town", name := "becomes", desc := "(LSnowForSummer$Town;)V" } : Jvm.MethodName)) ∈ lw_all := lw_g (lw_at lw_m3 34 rfl) rfl
theorem q612 : (Jvm.Cond.instanceMethod ({ cls := "SnowForSummer", name := "day", desc := "()I" } : Jvm.MethodName)) ∈ lw_all := lw_g (lw_at lw_m3 44 rfl) rfl
theorem q613 : (Jvm.Cond.selects "SnowForSummer" ({ cls := "SnowForSummer", name := "day", desc := "()I" } : Jvm.MethodName) ({ cls := "SnowForSummer", name := "day", desc := "()I" } : Jvm.MethodName)) ∈ lw_all := lw_g (lw_at lw_m3 45 rfl) rfl
theorem q614 : (Jvm.Cond.code ({ cls := "SnowForSummer", name := "day", desc := "()I" } : Jvm.MethodName) prog_1_method_40_code (1 : Nat) (Option.some Jvm.ClassFile.FieldType.int)) ∈ lw_all := lw_g (lw_at lw_m3 46 rfl) rfl
theorem q615 : (Jvm.Cond.methodLink "SnowForSummer" (340 : Nat) ({ cls := "SnowForSummer", name := "putsBy", desc := "()V" } : Jvm.MethodName)) ∈ lw_all := lw_g (lw_at lw_m3 47 rfl) rfl
theorem q616 : (Jvm.Cond.privateMethod ({ cls := "SnowForSummer", name := "putsBy", desc := "()V" } : Jvm.MethodName)) ∈ lw_tbl := lw_at lw_m3 48 rfl
theorem q617 : (Jvm.Cond.instanceMethod ({ cls := "SnowForSummer", name := "putsBy", desc := "()V" } : Jvm.MethodName)) ∈ lw_all := lw_g (lw_at lw_m3 49 rfl) rfl
theorem q618 : (Jvm.Cond.code ({ cls := "SnowForSummer", name := "putsBy", desc := "()V" } : Jvm.MethodName) prog_1_method_33_code (1 : Nat) (Option.none : Option Jvm.ClassFile.FieldType)) ∈ lw_all := lw_g (lw_at lw_m3 50 rfl) rfl
theorem q619 : (Jvm.Cond.methodLink "SnowForSummer" (278 : Nat) ({ cls := "SnowForSummer", name := "putsBy", desc := "(LSnowForSummer$Town;)V" } : Jvm.MethodName)) ∈ lw_all := lw_g (lw_at lw_m3 51 rfl) rfl
theorem q620 : (Jvm.Cond.privateMethod ({ cls := "SnowForSummer", name := "putsBy", desc := "(LSnowForSummer$Town;)V" } : Jvm.MethodName)) ∈ lw_tbl := lw_at lw_m3 52 rfl
theorem q621 : (Jvm.Cond.instanceMethod ({ cls := "SnowForSummer", name := "putsBy", desc := "(LSnowForSummer$Town;)V" } : Jvm.MethodName)) ∈ lw_all := lw_g (lw_at lw_m3 53 rfl) rfl
theorem q622 : (Jvm.Cond.code ({ cls := "SnowForSummer", name := "putsBy", desc := "(LSnowForSummer$Town;)V" } : Jvm.MethodName) prog_1_method_34_code (4 : Nat) (Option.none : Option Jvm.ClassFile.FieldType)) ∈ lw_all := lw_g (lw_at lw_m3 54 rfl) rfl
theorem q623 : (Jvm.Cond.methodLink "SnowForSummer" (342 : Nat) ({ cls := "SnowForSummer$Town", name := "counts", desc := "()V" } : Jvm.MethodName)) ∈ lw_all := lw_g (lw_at lw_m3 55 rfl) rfl
theorem q624 : (Jvm.Cond.methodLink "SnowForSummer" (331 : Nat) ({ cls := "SnowForSummer", name := "dayGoes", desc := "(LSnowForSummer$Town;)V" } : Jvm.MethodName)) ∈ lw_all := lw_g (lw_at lw_m3 56 rfl) rfl
theorem q625 : (Jvm.Cond.privateMethod ({ cls := "SnowForSummer", name := "dayGoes", desc := "(LSnowForSummer$Town;)V" } : Jvm.MethodName)) ∈ lw_tbl := lw_at lw_m3 57 rfl
theorem q626 : (Jvm.Cond.instanceMethod ({ cls := "SnowForSummer", name := "dayGoes", desc := "(LSnowForSummer$Town;)V" } : Jvm.MethodName)) ∈ lw_all := lw_g (lw_at lw_m3 58 rfl) rfl
theorem q627 : (Jvm.Cond.code ({ cls := "SnowForSummer", name := "dayGoes", desc := "(LSnowForSummer$Town;)V" } : Jvm.MethodName) prog_1_method_37_code (5 : Nat) (Option.none : Option Jvm.ClassFile.FieldType)) ∈ lw_all := lw_g (lw_at lw_m3 59 rfl) rfl
theorem q628 : (Jvm.Cond.methodLink "SnowForSummer" (300 : Nat) ({ cls := "SnowForSummer", name := "thawsIn", desc := "(I)I" } : Jvm.MethodName)) ∈ lw_all := lw_g (lw_at lw_m3 60 rfl) rfl
theorem q629 : (Jvm.Cond.privateMethod ({ cls := "SnowForSummer", name := "thawsIn", desc := "(I)I" } : Jvm.MethodName)) ∈ lw_tbl := lw_at lw_m3 61 rfl
theorem q630 : (Jvm.Cond.instanceMethod ({ cls := "SnowForSummer", name := "thawsIn", desc := "(I)I" } : Jvm.MethodName)) ∈ lw_all := lw_g (lw_at lw_m3 62 rfl) rfl
theorem q631 : (Jvm.Cond.code ({ cls := "SnowForSummer", name := "thawsIn", desc := "(I)I" } : Jvm.MethodName) prog_1_method_8_code (2 : Nat) (Option.some Jvm.ClassFile.FieldType.int)) ∈ lw_all := lw_g (lw_at lw_m3 63 rfl) rfl
theorem q632 : (Jvm.Cond.methodLink "SnowForSummer" (327 : Nat) ({ cls := "SnowForSummer", name := "slide", desc := "(LSnowForSummer$Town;IIZ)I" } : Jvm.MethodName)) ∈ lw_all := lw_g (lw_at lw_m3 64 rfl) rfl
theorem q633 : (Jvm.Cond.privateMethod ({ cls := "SnowForSummer", name := "slide", desc := "(LSnowForSummer$Town;IIZ)I" } : Jvm.MethodName)) ∈ lw_tbl := lw_at lw_m3 65 rfl
theorem q634 : (Jvm.Cond.instanceMethod ({ cls := "SnowForSummer", name := "slide", desc := "(LSnowForSummer$Town;IIZ)I" } : Jvm.MethodName)) ∈ lw_all := lw_g (lw_at lw_m3 66 rfl) rfl
theorem q635 : (Jvm.Cond.code ({ cls := "SnowForSummer", name := "slide", desc := "(LSnowForSummer$Town;IIZ)I" } : Jvm.MethodName) prog_1_method_36_code (10 : Nat) (Option.some Jvm.ClassFile.FieldType.int)) ∈ lw_all := lw_g (lw_at lw_m3 67 rfl) rfl
theorem q636 : (Jvm.Cond.methodLink "SnowForSummer" (318 : Nat) ({ cls := "SnowForSummer$Node", name := "value", desc := "()I" } : Jvm.MethodName)) ∈ lw_all := lw_g (lw_at lw_m3 68 rfl) rfl
theorem q653 : (Jvm.Cond.methodLink "SnowForSummer" (345 : Nat) ({ cls := "SnowForSummer", name := "tellsDays", desc := "(LSnowForSummer$Town;)I" } : Jvm.MethodName)) ∈ lw_all := lw_g (lw_at lw_m3 85 rfl) rfl
theorem q654 : (Jvm.Cond.privateMethod ({ cls := "SnowForSummer", name := "tellsDays", desc := "(LSnowForSummer$Town;)I" } : Jvm.MethodName)) ∈ lw_tbl := lw_at lw_m3 86 rfl
theorem q655 : (Jvm.Cond.instanceMethod ({ cls := "SnowForSummer", name := "tellsDays", desc := "(LSnowForSummer$Town;)I" } : Jvm.MethodName)) ∈ lw_all := lw_g (lw_at lw_m3 87 rfl) rfl
theorem q656 : (Jvm.Cond.code ({ cls := "SnowForSummer", name := "tellsDays", desc := "(LSnowForSummer$Town;)I" } : Jvm.MethodName) prog_1_method_39_code (2 : Nat) (Option.some Jvm.ClassFile.FieldType.int)) ∈ lw_all := lw_g (lw_at lw_m3 88 rfl) rfl
theorem q657 : (Jvm.Cond.methodLink "SnowForSummer" (334 : Nat) ({ cls := "SnowForSummer$Town", name := "newlyAll", desc := "()I" } : Jvm.MethodName)) ∈ lw_all := lw_g (lw_at lw_m3 89 rfl) rfl
theorem q661 : (Jvm.Cond.methodLink "SnowForSummer" (337 : Nat) ({ cls := "SnowForSummer$Town", name := "paths", desc := "()I" } : Jvm.MethodName)) ∈ lw_all := lw_g (lw_at lw_m3 93 rfl) rfl
theorem q666 : (Jvm.Cond.instanceMethod ({ cls := "SnowForSummer", name := "days", desc := "(I)I" } : Jvm.MethodName)) ∈ lw_all := lw_g (lw_at lw_m3 98 rfl) rfl
theorem q667 : (Jvm.Cond.selects "SnowForSummer" ({ cls := "SnowForSummer", name := "days", desc := "(I)I" } : Jvm.MethodName) ({ cls := "SnowForSummer", name := "days", desc := "(I)I" } : Jvm.MethodName)) ∈ lw_all := lw_g (lw_at lw_m3 99 rfl) rfl
theorem q668 : (Jvm.Cond.code ({ cls := "SnowForSummer", name := "days", desc := "(I)I" } : Jvm.MethodName) prog_1_method_42_code (2 : Nat) (Option.some Jvm.ClassFile.FieldType.int)) ∈ lw_all := lw_g (lw_at lw_m3 100 rfl) rfl
theorem q669 : (Jvm.Cond.methodLink "SnowForSummer" (351 : Nat) ({ cls := "SnowForSummer", name := "areDays", desc := "(I)Z" } : Jvm.MethodName)) ∈ lw_all := lw_g (lw_at lw_m3 101 rfl) rfl
theorem q670 : (Jvm.Cond.static ({ cls := "SnowForSummer", name := "areDays", desc := "(I)Z" } : Jvm.MethodName)) ∈ lw_all := lw_g (lw_at lw_m3 102 rfl) rfl
theorem q671 : (Jvm.Cond.code ({ cls := "SnowForSummer", name := "areDays", desc := "(I)Z" } : Jvm.MethodName) prog_1_method_41_code (1 : Nat) (Option.some Jvm.ClassFile.FieldType.boolean)) ∈ lw_all := lw_g (lw_at lw_m3 103 rfl) rfl
theorem q672 : (Jvm.Cond.constantLong "SnowForSummer" (349 : Nat) (60 : Int64)) ∈ lw_all := lw_g (lw_at lw_m3 104 rfl) rfl
theorem q673 : (Jvm.Cond.methodLink "SnowForSummer" (354 : Nat) ({ cls := "SnowForSummer", name := "daysGo", desc := "(LSnowForSummer$Town;I)V" } : Jvm.MethodName)) ∈ lw_all := lw_g (lw_at lw_m3 105 rfl) rfl
theorem q674 : (Jvm.Cond.privateMethod ({ cls := "SnowForSummer", name := "daysGo", desc := "(LSnowForSummer$Town;I)V" } : Jvm.MethodName)) ∈ lw_tbl := lw_at lw_m3 106 rfl
theorem q675 : (Jvm.Cond.instanceMethod ({ cls := "SnowForSummer", name := "daysGo", desc := "(LSnowForSummer$Town;I)V" } : Jvm.MethodName)) ∈ lw_all := lw_g (lw_at lw_m3 107 rfl) rfl
theorem q676 : (Jvm.Cond.code ({ cls := "SnowForSummer", name := "daysGo", desc := "(LSnowForSummer$Town;I)V" } : Jvm.MethodName) prog_1_method_38_code (4 : Nat) (Option.none : Option Jvm.ClassFile.FieldType)) ∈ lw_all := lw_g (lw_at lw_m3 108 rfl) rfl
theorem q678 : (Jvm.Cond.instanceMethod ({ cls := "SnowForSummer", name := "sweep", desc := "(II)I" } : Jvm.MethodName)) ∈ lw_all := lw_g (lw_at lw_m3 110 rfl) rfl
theorem q679 : (Jvm.Cond.selects "SnowForSummer" ({ cls := "SnowForSummer", name := "sweep", desc := "(II)I" } : Jvm.MethodName) ({ cls := "SnowForSummer", name := "sweep", desc := "(II)I" } : Jvm.MethodName)) ∈ lw_all := lw_g (lw_at lw_m3 111 rfl) rfl
theorem q680 : (Jvm.Cond.code ({ cls := "SnowForSummer", name := "sweep", desc := "(II)I" } : Jvm.MethodName) prog_1_method_44_code (3 : Nat) (Option.some Jvm.ClassFile.FieldType.int)) ∈ lw_all := lw_g (lw_at lw_m3 112 rfl) rfl
theorem q681 : (Jvm.Cond.methodLink "SnowForSummer" (358 : Nat) ({ cls := "SnowForSummer", name := "isSide", desc := "(I)Z" } : Jvm.MethodName)) ∈ lw_all := lw_g (lw_at lw_m3 113 rfl) rfl
theorem q682 : (Jvm.Cond.privateMethod ({ cls := "SnowForSummer", name := "isSide", desc := "(I)Z" } : Jvm.MethodName)) ∈ lw_tbl := lw_at lw_m3 114 rfl
theorem q683 : (Jvm.Cond.instanceMethod ({ cls := "SnowForSummer", name := "isSide", desc := "(I)Z" } : Jvm.MethodName)) ∈ lw_all := lw_g (lw_at lw_m3 115 rfl) rfl
theorem q684 : (Jvm.Cond.code ({ cls := "SnowForSummer", name := "isSide", desc := "(I)Z" } : Jvm.MethodName) prog_1_method_5_code (2 : Nat) (Option.some Jvm.ClassFile.FieldType.boolean)) ∈ lw_all := lw_g (lw_at lw_m3 116 rfl) rfl
theorem q685 : (Jvm.Cond.methodLink "SnowForSummer" (361 : Nat) ({ cls := "SnowForSummer", name := "sweeps", desc := "(LSnowForSummer$Town;II)V" } : Jvm.MethodName)) ∈ lw_all := lw_g (lw_at lw_m3 117 rfl) rfl
theorem q686 : (Jvm.Cond.static ({ cls := "SnowForSummer", name := "sweeps", desc := "(LSnowForSummer$Town;II)V" } : Jvm.MethodName)) ∈ lw_all := lw_g (lw_at lw_m3 118 rfl) rfl
theorem q687 : (Jvm.Cond.code ({ cls := "SnowForSummer", name := "sweeps", desc := "(LSnowForSummer$Town;II)V" } : Jvm.MethodName) prog_1_method_43_code (3 : Nat) (Option.none : Option Jvm.ClassFile.FieldType)) ∈ lw_all := lw_g (lw_at lw_m3 119 rfl) rfl
theorem q689 : (Jvm.Cond.instanceMethod ({ cls := "SnowForSummer", name := "clear", desc := "(II)I" } : Jvm.MethodName)) ∈ lw_all := lw_g (lw_at lw_m3 121 rfl) rfl
theorem q690 : (Jvm.Cond.selects "SnowForSummer" ({ cls := "SnowForSummer", name := "clear", desc := "(II)I" } : Jvm.MethodName) ({ cls := "SnowForSummer", name := "clear", desc := "(II)I" } : Jvm.MethodName)) ∈ lw_all := lw_g (lw_at lw_m3 122 rfl) rfl
theorem q691 : (Jvm.Cond.code ({ cls := "SnowForSummer", name := "clear", desc := "(II)I" } : Jvm.MethodName) prog_1_method_45_code (3 : Nat) (Option.some Jvm.ClassFile.FieldType.int)) ∈ lw_all := lw_g (lw_at lw_m3 123 rfl) rfl
theorem q693 : (Jvm.Cond.instanceMethod ({ cls := "SnowForSummer", name := "wind", desc := "(II)I" } : Jvm.MethodName)) ∈ lw_all := lw_g (lw_at lw_m3 125 rfl) rfl
theorem q694 : (Jvm.Cond.selects "SnowForSummer" ({ cls := "SnowForSummer", name := "wind", desc := "(II)I" } : Jvm.MethodName) ({ cls := "SnowForSummer", name := "wind", desc := "(II)I" } : Jvm.MethodName)) ∈ lw_all := lw_g (lw_at lw_m3 126 rfl) rfl
theorem q695 : (Jvm.Cond.code ({ cls := "SnowForSummer", name := "wind", desc := "(II)I" } : Jvm.MethodName) prog_1_method_46_code (6 : Nat) (Option.some Jvm.ClassFile.FieldType.int)) ∈ lw_all := lw_g (lw_at lw_m3 127 rfl) rfl
theorem q697 : (Jvm.Cond.instanceMethod ({ cls := "SnowForSummer", name := "loose", desc := "(II)I" } : Jvm.MethodName)) ∈ lw_all := lw_g (lw_at lw_m3 129 rfl) rfl
theorem q698 : (Jvm.Cond.selects "SnowForSummer" ({ cls := "SnowForSummer", name := "loose", desc := "(II)I" } : Jvm.MethodName) ({ cls := "SnowForSummer", name := "loose", desc := "(II)I" } : Jvm.MethodName)) ∈ lw_all := lw_g (lw_at lw_m3 130 rfl) rfl
theorem q699 : (Jvm.Cond.code ({ cls := "SnowForSummer", name := "loose", desc := "(II)I" } : Jvm.MethodName) prog_1_method_47_code (4 : Nat) (Option.some Jvm.ClassFile.FieldType.int)) ∈ lw_all := lw_g (lw_at lw_m3 131 rfl) rfl
theorem q701 : (Jvm.Cond.instanceMethod ({ cls := "SnowForSummer", name := "work", desc := "(III)I" } : Jvm.MethodName)) ∈ lw_all := lw_g (lw_at lw_m3 133 rfl) rfl
theorem q702 : (Jvm.Cond.selects "SnowForSummer" ({ cls := "SnowForSummer", name := "work", desc := "(III)I" } : Jvm.MethodName) ({ cls := "SnowForSummer", name := "work", desc := "(III)I" } : Jvm.MethodName)) ∈ lw_all := lw_g (lw_at lw_m3 134 rfl) rfl
theorem q703 : (Jvm.Cond.code ({ cls := "SnowForSummer", name := "work", desc := "(III)I" } : Jvm.MethodName) prog_1_method_48_code (4 : Nat) (Option.some Jvm.ClassFile.FieldType.int)) ∈ lw_all := lw_g (lw_at lw_m3 135 rfl) rfl
theorem q705 : (Jvm.Cond.instanceMethod ({ cls := "SnowForSummer", name := "night", desc := "()I" } : Jvm.MethodName)) ∈ lw_all := lw_g (lw_at lw_m3 137 rfl) rfl
theorem q706 : (Jvm.Cond.selects "SnowForSummer" ({ cls := "SnowForSummer", name := "night", desc := "()I" } : Jvm.MethodName) ({ cls := "SnowForSummer", name := "night", desc := "()I" } : Jvm.MethodName)) ∈ lw_all := lw_g (lw_at lw_m3 138 rfl) rfl
theorem q707 : (Jvm.Cond.code ({ cls := "SnowForSummer", name := "night", desc := "()I" } : Jvm.MethodName) prog_1_method_53_code (6 : Nat) (Option.some Jvm.ClassFile.FieldType.int)) ∈ lw_all := lw_g (lw_at lw_m3 139 rfl) rfl
theorem q708 : (Jvm.Cond.methodLink "SnowForSummer" (375 : Nat) ({ cls := "SnowForSummer", name := "readsAct", desc := "()Z" } : Jvm.MethodName)) ∈ lw_all := lw_g (lw_at lw_m3 140 rfl) rfl
theorem q709 : (Jvm.Cond.privateMethod ({ cls := "SnowForSummer", name := "readsAct", desc := "()Z" } : Jvm.MethodName)) ∈ lw_tbl := lw_at lw_m3 141 rfl
theorem q710 : (Jvm.Cond.instanceMethod ({ cls := "SnowForSummer", name := "readsAct", desc := "()Z" } : Jvm.MethodName)) ∈ lw_all := lw_g (lw_at lw_m3 142 rfl) rfl
theorem q711 : (Jvm.Cond.code ({ cls := "SnowForSummer", name := "readsAct", desc := "()Z" } : Jvm.MethodName) prog_1_method_49_code (3 : Nat) (Option.some Jvm.ClassFile.FieldType.boolean)) ∈ lw_all := lw_g (lw_at lw_m3 143 rfl) rfl
theorem q712 : (Jvm.Cond.stringRef "SnowForSummer" (367 : Nat) "scld") ∈ lw_tbl := lw_at lw_m3 144 rfl
theorem q713 : (Jvm.Cond.methodLink "SnowForSummer" (378 : Nat) ({ cls := "SnowForSummer", name := "does", desc := "(I)Z" } : Jvm.MethodName)) ∈ lw_all := lw_g (lw_at lw_m3 145 rfl) rfl
theorem q714 : (Jvm.Cond.privateMethod ({ cls := "SnowForSummer", name := "does", desc := "(I)Z" } : Jvm.MethodName)) ∈ lw_tbl := lw_at lw_m3 146 rfl
theorem q715 : (Jvm.Cond.instanceMethod ({ cls := "SnowForSummer", name := "does", desc := "(I)Z" } : Jvm.MethodName)) ∈ lw_all := lw_g (lw_at lw_m3 147 rfl) rfl
theorem q716 : (Jvm.Cond.code ({ cls := "SnowForSummer", name := "does", desc := "(I)Z" } : Jvm.MethodName) prog_1_method_50_code (2 : Nat) (Option.some Jvm.ClassFile.FieldType.boolean)) ∈ lw_all := lw_g (lw_at lw_m3 148 rfl) rfl
theorem q717 : (Jvm.Cond.methodLink "SnowForSummer" (369 : Nat) ({ cls := "SnowForSummer", name := "canSweep", desc := "(II)Z" } : Jvm.MethodName)) ∈ lw_all := lw_g (lw_at lw_m3 149 rfl) rfl
theorem q718 : (Jvm.Cond.privateMethod ({ cls := "SnowForSummer", name := "canSweep", desc := "(II)Z" } : Jvm.MethodName)) ∈ lw_tbl := lw_at lw_m3 150 rfl
theorem q719 : (Jvm.Cond.instanceMethod ({ cls := "SnowForSummer", name := "canSweep", desc := "(II)Z" } : Jvm.MethodName)) ∈ lw_all := lw_g (lw_at lw_m3 151 rfl) rfl
theorem q720 : (Jvm.Cond.code ({ cls := "SnowForSummer", name := "canSweep", desc := "(II)Z" } : Jvm.MethodName) prog_1_method_51_code (3 : Nat) (Option.some Jvm.ClassFile.FieldType.boolean)) ∈ lw_all := lw_g (lw_at lw_m3 152 rfl) rfl
theorem q721 : (Jvm.Cond.methodLink "SnowForSummer" (372 : Nat) ({ cls := "SnowForSummer", name := "canClear", desc := "(II)Z" } : Jvm.MethodName)) ∈ lw_all := lw_g (lw_at lw_m3 153 rfl) rfl
theorem q722 : (Jvm.Cond.privateMethod ({ cls := "SnowForSummer", name := "canClear", desc := "(II)Z" } : Jvm.MethodName)) ∈ lw_tbl := lw_at lw_m3 154 rfl
theorem q723 : (Jvm.Cond.instanceMethod ({ cls := "SnowForSummer", name := "canClear", desc := "(II)Z" } : Jvm.MethodName)) ∈ lw_all := lw_g (lw_at lw_m3 155 rfl) rfl
theorem q724 : (Jvm.Cond.code ({ cls := "SnowForSummer", name := "canClear", desc := "(II)Z" } : Jvm.MethodName) prog_1_method_52_code (3 : Nat) (Option.some Jvm.ClassFile.FieldType.boolean)) ∈ lw_all := lw_g (lw_at lw_m3 156 rfl) rfl
theorem q726 : (Jvm.Cond.instanceMethod ({ cls := "SnowForSummer", name := "ring", desc := "()I" } : Jvm.MethodName)) ∈ lw_all := lw_g (lw_at lw_m3 158 rfl) rfl
theorem q727 : (Jvm.Cond.selects "SnowForSummer" ({ cls := "SnowForSummer", name := "ring", desc := "()I" } : Jvm.MethodName) ({ cls := "SnowForSummer", name := "ring", desc := "()I" } : Jvm.MethodName)) ∈ lw_all := lw_g (lw_at lw_m3 159 rfl) rfl
theorem q728 : (Jvm.Cond.code ({ cls := "SnowForSummer", name := "ring", desc := "()I" } : Jvm.MethodName) prog_1_method_58_code (2 : Nat) (Option.some Jvm.ClassFile.FieldType.int)) ∈ lw_all := lw_g (lw_at lw_m3 160 rfl) rfl
theorem q729 : (Jvm.Cond.methodLink "SnowForSummer" (393 : Nat) ({ cls := "SnowForSummer", name := "findsRing", desc := "()Z" } : Jvm.MethodName)) ∈ lw_all := lw_g (lw_at lw_m3 161 rfl) rfl
theorem q730 : (Jvm.Cond.privateMethod ({ cls := "SnowForSummer", name := "findsRing", desc := "()Z" } : Jvm.MethodName)) ∈ lw_tbl := lw_at lw_m3 162 rfl
theorem q731 : (Jvm.Cond.instanceMethod ({ cls := "SnowForSummer", name := "findsRing", desc := "()Z" } : Jvm.MethodName)) ∈ lw_all := lw_g (lw_at lw_m3 163 rfl) rfl
theorem q732 : (Jvm.Cond.code ({ cls := "SnowForSummer", name := "findsRing", desc := "()Z" } : Jvm.MethodName) prog_1_method_56_code (1 : Nat) (Option.some Jvm.ClassFile.FieldType.boolean)) ∈ lw_all := lw_g (lw_at lw_m3 164 rfl) rfl
theorem q733 : (Jvm.Cond.methodLink "SnowForSummer" (389 : Nat) ({ cls := "SnowForSummer", name := "rounds", desc := "(II)Z" } : Jvm.MethodName)) ∈ lw_all := lw_g (lw_at lw_m3 165 rfl) rfl
theorem q734 : (Jvm.Cond.privateMethod ({ cls := "SnowForSummer", name := "rounds", desc := "(II)Z" } : Jvm.MethodName)) ∈ lw_tbl := lw_at lw_m3 166 rfl
theorem q735 : (Jvm.Cond.instanceMethod ({ cls := "SnowForSummer", name := "rounds", desc := "(II)Z" } : Jvm.MethodName)) ∈ lw_all := lw_g (lw_at lw_m3 167 rfl) rfl
theorem q736 : (Jvm.Cond.code ({ cls := "SnowForSummer", name := "rounds", desc := "(II)Z" } : Jvm.MethodName) prog_1_method_55_code (4 : Nat) (Option.some Jvm.ClassFile.FieldType.boolean)) ∈ lw_all := lw_g (lw_at lw_m3 168 rfl) rfl
theorem q737 : (Jvm.Cond.methodLink "SnowForSummer" (384 : Nat) ({ cls := "SnowForSummer", name := "owes", desc := "(II)Z" } : Jvm.MethodName)) ∈ lw_all := lw_g (lw_at lw_m3 169 rfl) rfl
theorem q738 : (Jvm.Cond.privateMethod ({ cls := "SnowForSummer", name := "owes", desc := "(II)Z" } : Jvm.MethodName)) ∈ lw_tbl := lw_at lw_m3 170 rfl
theorem q739 : (Jvm.Cond.instanceMethod ({ cls := "SnowForSummer", name := "owes", desc := "(II)Z" } : Jvm.MethodName)) ∈ lw_all := lw_g (lw_at lw_m3 171 rfl) rfl
theorem q740 : (Jvm.Cond.code ({ cls := "SnowForSummer", name := "owes", desc := "(II)Z" } : Jvm.MethodName) prog_1_method_54_code (3 : Nat) (Option.some Jvm.ClassFile.FieldType.boolean)) ∈ lw_all := lw_g (lw_at lw_m3 172 rfl) rfl
theorem q741 : (Jvm.Cond.methodLink "SnowForSummer" (386 : Nat) ({ cls := "SnowForSummer", name := "has", desc := "(II)Z" } : Jvm.MethodName)) ∈ lw_all := lw_g (lw_at lw_m3 173 rfl) rfl
theorem q742 : (Jvm.Cond.static ({ cls := "SnowForSummer", name := "has", desc := "(II)Z" } : Jvm.MethodName)) ∈ lw_all := lw_g (lw_at lw_m3 174 rfl) rfl
theorem q743 : (Jvm.Cond.code ({ cls := "SnowForSummer", name := "has", desc := "(II)Z" } : Jvm.MethodName) prog_1_method_3_code (2 : Nat) (Option.some Jvm.ClassFile.FieldType.boolean)) ∈ lw_all := lw_g (lw_at lw_m3 175 rfl) rfl
theorem q744 : (Jvm.Cond.methodLink "SnowForSummer" (396 : Nat) ({ cls := "SnowForSummer", name := "leastInRing", desc := "()I" } : Jvm.MethodName)) ∈ lw_all := lw_g (lw_at lw_m3 176 rfl) rfl
theorem q745 : (Jvm.Cond.privateMethod ({ cls := "SnowForSummer", name := "leastInRing", desc := "()I" } : Jvm.MethodName)) ∈ lw_tbl := lw_at lw_m3 177 rfl
theorem q746 : (Jvm.Cond.instanceMethod ({ cls := "SnowForSummer", name := "leastInRing", desc := "()I" } : Jvm.MethodName)) ∈ lw_all := lw_g (lw_at lw_m3 178 rfl) rfl
theorem q747 : (Jvm.Cond.code ({ cls := "SnowForSummer", name := "leastInRing", desc := "()I" } : Jvm.MethodName) prog_1_method_57_code (3 : Nat) (Option.some Jvm.ClassFile.FieldType.int)) ∈ lw_all := lw_g (lw_at lw_m3 179 rfl) rfl
theorem q748 : (Jvm.Cond.constant "SnowForSummer" (392 : Nat) (100000000 : Int32)) ∈ lw_all := lw_g (lw_at lw_m3 180 rfl) rfl
theorem q750 : (Jvm.Cond.instanceMethod ({ cls := "SnowForSummer", name := "cancel", desc := "()I" } : Jvm.MethodName)) ∈ lw_all := lw_g (lw_at lw_m3 182 rfl) rfl
theorem q751 : (Jvm.Cond.selects "SnowForSummer" ({ cls := "SnowForSummer", name := "cancel", desc := "()I" } : Jvm.MethodName) ({ cls := "SnowForSummer", name := "cancel", desc := "()I" } : Jvm.MethodName)) ∈ lw_all := lw_g (lw_at lw_m3 183 rfl) rfl
theorem q752 : (Jvm.Cond.code ({ cls := "SnowForSummer", name := "cancel", desc := "()I" } : Jvm.MethodName) prog_1_method_60_code (1 : Nat) (Option.some Jvm.ClassFile.FieldType.int)) ∈ lw_all := lw_g (lw_at lw_m3 184 rfl) rfl
theorem q753 : (Jvm.Cond.methodLink "SnowForSummer" (399 : Nat) ({ cls := "SnowForSummer", name := "cancels", desc := "()I" } : Jvm.MethodName)) ∈ lw_all := lw_g (lw_at lw_m3 185 rfl) rfl
theorem q754 : (Jvm.Cond.privateMethod ({ cls := "SnowForSummer", name := "cancels", desc := "()I" } : Jvm.MethodName)) ∈ lw_tbl := lw_at lw_m3 186 rfl
theorem q755 : (Jvm.Cond.instanceMethod ({ cls := "SnowForSummer", name := "cancels", desc := "()I" } : Jvm.MethodName)) ∈ lw_all := lw_g (lw_at lw_m3 187 rfl) rfl
theorem q756 : (Jvm.Cond.code ({ cls := "SnowForSummer", name := "cancels", desc := "()I" } : Jvm.MethodName) prog_1_method_59_code (3 : Nat) (Option.some Jvm.ClassFile.FieldType.int)) ∈ lw_all := lw_g (lw_at lw_m3 188 rfl) rfl
theorem q758 : (Jvm.Cond.instanceMethod ({ cls := "SnowForSummer", name := "rings", desc := "()I" } : Jvm.MethodName)) ∈ lw_all := lw_g (lw_at lw_m3 190 rfl) rfl
theorem q759 : (Jvm.Cond.selects "SnowForSummer" ({ cls := "SnowForSummer", name := "rings", desc := "()I" } : Jvm.MethodName) ({ cls := "SnowForSummer", name := "rings", desc := "()I" } : Jvm.MethodName)) ∈ lw_all := lw_g (lw_at lw_m3 191 rfl) rfl
theorem q760 : (Jvm.Cond.code ({ cls := "SnowForSummer", name := "rings", desc := "()I" } : Jvm.MethodName) prog_1_method_61_code (3 : Nat) (Option.some Jvm.ClassFile.FieldType.int)) ∈ lw_all := lw_g (lw_at lw_m3 192 rfl) rfl
theorem q762 : (Jvm.Cond.instanceMethod ({ cls := "SnowForSummer", name := "least", desc := "()I" } : Jvm.MethodName)) ∈ lw_all := lw_g (lw_at lw_m3 194 rfl) rfl
theorem q763 : (Jvm.Cond.selects "SnowForSummer" ({ cls := "SnowForSummer", name := "least", desc := "()I" } : Jvm.MethodName) ({ cls := "SnowForSummer", name := "least", desc := "()I" } : Jvm.MethodName)) ∈ lw_all := lw_g (lw_at lw_m3 195 rfl) rfl
theorem q764 : (Jvm.Cond.code ({ cls := "SnowForSummer", name := "least", desc := "()I" } : Jvm.MethodName) prog_1_method_63_code (3 : Nat) (Option.some Jvm.ClassFile.FieldType.int)) ∈ lw_all := lw_g (lw_at lw_m3 196 rfl) rfl
theorem q765 : (Jvm.Cond.methodLink "SnowForSummer" (247 : Nat) ({ cls := "SnowForSummer$Town", name := "owed", desc := "(I)I" } : Jvm.MethodName)) ∈ lw_all := lw_g (lw_at lw_m3 197 rfl) rfl
theorem q769 : (Jvm.Cond.methodLink "SnowForSummer" (244 : Nat) ({ cls := "SnowForSummer$Town", name := "owes", desc := "(I)I" } : Jvm.MethodName)) ∈ lw_all := lw_g (lw_at lw_m3 201 rfl) rfl
theorem q773 : (Jvm.Cond.methodLink "SnowForSummer" (402 : Nat) ({ cls := "SnowForSummer$Town", name := "debts", desc := "()I" } : Jvm.MethodName)) ∈ lw_all := lw_g (lw_at lw_m3 205 rfl) rfl
theorem q778 : (Jvm.Cond.instanceMethod ({ cls := "SnowForSummer", name := "even", desc := "()I" } : Jvm.MethodName)) ∈ lw_all := lw_g (lw_at lw_m3 210 rfl) rfl
theorem q779 : (Jvm.Cond.selects "SnowForSummer" ({ cls := "SnowForSummer", name := "even", desc := "()I" } : Jvm.MethodName) ({ cls := "SnowForSummer", name := "even", desc := "()I" } : Jvm.MethodName)) ∈ lw_all := lw_g (lw_at lw_m3 211 rfl) rfl
theorem q780 : (Jvm.Cond.code ({ cls := "SnowForSummer", name := "even", desc := "()I" } : Jvm.MethodName) prog_1_method_64_code (6 : Nat) (Option.some Jvm.ClassFile.FieldType.int)) ∈ lw_all := lw_g (lw_at lw_m3 212 rfl) rfl
theorem q782 : (Jvm.Cond.instanceMethod ({ cls := "SnowForSummer", name := "debtor", desc := "()I" } : Jvm.MethodName)) ∈ lw_all := lw_g (lw_at lw_m3 214 rfl) rfl
theorem q783 : (Jvm.Cond.selects "SnowForSummer" ({ cls := "SnowForSummer", name := "debtor", desc := "()I" } : Jvm.MethodName) ({ cls := "SnowForSummer", name := "debtor", desc := "()I" } : Jvm.MethodName)) ∈ lw_all := lw_g (lw_at lw_m3 215 rfl) rfl
theorem q784 : (Jvm.Cond.code ({ cls := "SnowForSummer", name := "debtor", desc := "()I" } : Jvm.MethodName) prog_1_method_65_code (5 : Nat) (Option.some Jvm.ClassFile.FieldType.int)) ∈ lw_all := lw_g (lw_at lw_m3 216 rfl) rfl
theorem q786 : (Jvm.Cond.instanceMethod ({ cls := "SnowForSummer", name := "june", desc := "()I" } : Jvm.MethodName)) ∈ lw_all := lw_g (lw_at lw_m3 218 rfl) rfl
theorem q787 : (Jvm.Cond.selects "SnowForSummer" ({ cls := "SnowForSummer", name := "june", desc := "()I" } : Jvm.MethodName) ({ cls := "SnowForSummer", name := "june", desc := "()I" } : Jvm.MethodName)) ∈ lw_all := lw_g (lw_at lw_m3 219 rfl) rfl
theorem q788 : (Jvm.Cond.code ({ cls := "SnowForSummer", name := "june", desc := "()I" } : Jvm.MethodName) prog_1_method_66_code (4 : Nat) (Option.some Jvm.ClassFile.FieldType.int)) ∈ lw_all := lw_g (lw_at lw_m3 220 rfl) rfl
theorem q790 : (Jvm.Cond.instanceMethod ({ cls := "SnowForSummer", name := "hay", desc := "(I)I" } : Jvm.MethodName)) ∈ lw_all := lw_g (lw_at lw_m3 222 rfl) rfl
theorem q791 : (Jvm.Cond.selects "SnowForSummer" ({ cls := "SnowForSummer", name := "hay", desc := "(I)I" } : Jvm.MethodName) ({ cls := "SnowForSummer", name := "hay", desc := "(I)I" } : Jvm.MethodName)) ∈ lw_all := lw_g (lw_at lw_m3 223 rfl) rfl
theorem q792 : (Jvm.Cond.code ({ cls := "SnowForSummer", name := "hay", desc := "(I)I" } : Jvm.MethodName) prog_1_method_69_code (4 : Nat) (Option.some Jvm.ClassFile.FieldType.int)) ∈ lw_all := lw_g (lw_at lw_m3 224 rfl) rfl
theorem q793 : (Jvm.Cond.methodLink "SnowForSummer" (405 : Nat) ({ cls := "SnowForSummer", name := "workedAt", desc := "(II)I" } : Jvm.MethodName)) ∈ lw_all := lw_g (lw_at lw_m3 225 rfl) rfl
theorem q794 : (Jvm.Cond.privateMethod ({ cls := "SnowForSummer", name := "workedAt", desc := "(II)I" } : Jvm.MethodName)) ∈ lw_tbl := lw_at lw_m3 226 rfl
theorem q795 : (Jvm.Cond.instanceMethod ({ cls := "SnowForSummer", name := "workedAt", desc := "(II)I" } : Jvm.MethodName)) ∈ lw_all := lw_g (lw_at lw_m3 227 rfl) rfl
theorem q796 : (Jvm.Cond.code ({ cls := "SnowForSummer", name := "workedAt", desc := "(II)I" } : Jvm.MethodName) prog_1_method_67_code (7 : Nat) (Option.some Jvm.ClassFile.FieldType.int)) ∈ lw_all := lw_g (lw_at lw_m3 228 rfl) rfl
theorem q797 : (Jvm.Cond.methodLink "SnowForSummer" (408 : Nat) ({ cls := "SnowForSummer", name := "wanting", desc := "(I)I" } : Jvm.MethodName)) ∈ lw_all := lw_g (lw_at lw_m3 229 rfl) rfl
theorem q798 : (Jvm.Cond.privateMethod ({ cls := "SnowForSummer", name := "wanting", desc := "(I)I" } : Jvm.MethodName)) ∈ lw_tbl := lw_at lw_m3 230 rfl
theorem q799 : (Jvm.Cond.instanceMethod ({ cls := "SnowForSummer", name := "wanting", desc := "(I)I" } : Jvm.MethodName)) ∈ lw_all := lw_g (lw_at lw_m3 231 rfl) rfl
theorem q800 : (Jvm.Cond.code ({ cls := "SnowForSummer", name := "wanting", desc := "(I)I" } : Jvm.MethodName) prog_1_method_68_code (4 : Nat) (Option.some Jvm.ClassFile.FieldType.int)) ∈ lw_all := lw_g (lw_at lw_m3 232 rfl) rfl
theorem q802 : (Jvm.Cond.instanceMethod ({ cls := "SnowForSummer", name := "works", desc := "(II)I" } : Jvm.MethodName)) ∈ lw_all := lw_g (lw_at lw_m3 234 rfl) rfl
theorem q803 : (Jvm.Cond.selects "SnowForSummer" ({ cls := "SnowForSummer", name := "works", desc := "(II)I" } : Jvm.MethodName) ({ cls := "SnowForSummer", name := "works", desc := "(II)I" } : Jvm.MethodName)) ∈ lw_all := lw_g (lw_at lw_m3 235 rfl) rfl
theorem q804 : (Jvm.Cond.code ({ cls := "SnowForSummer", name := "works", desc := "(II)I" } : Jvm.MethodName) prog_1_method_70_code (5 : Nat) (Option.some Jvm.ClassFile.FieldType.int)) ∈ lw_all := lw_g (lw_at lw_m3 236 rfl) rfl
theorem q806 : (Jvm.Cond.instanceMethod ({ cls := "SnowForSummer", name := "summer", desc := "()I" } : Jvm.MethodName)) ∈ lw_all := lw_g (lw_at lw_m3 238 rfl) rfl
theorem q807 : (Jvm.Cond.selects "SnowForSummer" ({ cls := "SnowForSummer", name := "summer", desc := "()I" } : Jvm.MethodName) ({ cls := "SnowForSummer", name := "summer", desc := "()I" } : Jvm.MethodName)) ∈ lw_all := lw_g (lw_at lw_m3 239 rfl) rfl
theorem q808 : (Jvm.Cond.code ({ cls := "SnowForSummer", name := "summer", desc := "()I" } : Jvm.MethodName) prog_1_method_71_code (2 : Nat) (Option.some Jvm.ClassFile.FieldType.int)) ∈ lw_all := lw_g (lw_at lw_m4 0 rfl) rfl
theorem q810 : (Jvm.Cond.instanceMethod ({ cls := "SnowForSummer", name := "ahead", desc := "(I)I" } : Jvm.MethodName)) ∈ lw_all := lw_g (lw_at lw_m4 2 rfl) rfl
theorem q811 : (Jvm.Cond.selects "SnowForSummer" ({ cls := "SnowForSummer", name := "ahead", desc := "(I)I" } : Jvm.MethodName) ({ cls := "SnowForSummer", name := "ahead", desc := "(I)I" } : Jvm.MethodName)) ∈ lw_all := lw_g (lw_at lw_m4 3 rfl) rfl
theorem q812 : (Jvm.Cond.code ({ cls := "SnowForSummer", name := "ahead", desc := "(I)I" } : Jvm.MethodName) prog_1_method_72_code (3 : Nat) (Option.some Jvm.ClassFile.FieldType.int)) ∈ lw_all := lw_g (lw_at lw_m4 4 rfl) rfl
theorem q814 : (Jvm.Cond.instanceMethod ({ cls := "SnowForSummer", name := "slides", desc := "(I)I" } : Jvm.MethodName)) ∈ lw_all := lw_g (lw_at lw_m4 6 rfl) rfl
theorem q815 : (Jvm.Cond.selects "SnowForSummer" ({ cls := "SnowForSummer", name := "slides", desc := "(I)I" } : Jvm.MethodName) ({ cls := "SnowForSummer", name := "slides", desc := "(I)I" } : Jvm.MethodName)) ∈ lw_all := lw_g (lw_at lw_m4 7 rfl) rfl
theorem q816 : (Jvm.Cond.code ({ cls := "SnowForSummer", name := "slides", desc := "(I)I" } : Jvm.MethodName) prog_1_method_73_code (4 : Nat) (Option.some Jvm.ClassFile.FieldType.int)) ∈ lw_all := lw_g (lw_at lw_m4 8 rfl) rfl
theorem q818 : (Jvm.Cond.instanceMethod ({ cls := "SnowForSummer", name := "later", desc := "(II)I" } : Jvm.MethodName)) ∈ lw_all := lw_g (lw_at lw_m4 10 rfl) rfl
theorem q819 : (Jvm.Cond.selects "SnowForSummer" ({ cls := "SnowForSummer", name := "later", desc := "(II)I" } : Jvm.MethodName) ({ cls := "SnowForSummer", name := "later", desc := "(II)I" } : Jvm.MethodName)) ∈ lw_all := lw_g (lw_at lw_m4 11 rfl) rfl
theorem q820 : (Jvm.Cond.code ({ cls := "SnowForSummer", name := "later", desc := "(II)I" } : Jvm.MethodName) prog_1_method_74_code (4 : Nat) (Option.some Jvm.ClassFile.FieldType.int)) ∈ lw_all := lw_g (lw_at lw_m4 12 rfl) rfl
theorem q822 : (Jvm.Cond.instanceMethod ({ cls := "SnowForSummer", name := "deepest", desc := "(II)I" } : Jvm.MethodName)) ∈ lw_all := lw_g (lw_at lw_m4 14 rfl) rfl
theorem q823 : (Jvm.Cond.selects "SnowForSummer" ({ cls := "SnowForSummer", name := "deepest", desc := "(II)I" } : Jvm.MethodName) ({ cls := "SnowForSummer", name := "deepest", desc := "(II)I" } : Jvm.MethodName)) ∈ lw_all := lw_g (lw_at lw_m4 15 rfl) rfl
theorem q824 : (Jvm.Cond.code ({ cls := "SnowForSummer", name := "deepest", desc := "(II)I" } : Jvm.MethodName) prog_1_method_75_code (6 : Nat) (Option.some Jvm.ClassFile.FieldType.int)) ∈ lw_all := lw_g (lw_at lw_m4 16 rfl) rfl
theorem q826 : (Jvm.Cond.instanceMethod ({ cls := "SnowForSummer", name := "lord", desc := "(I)I" } : Jvm.MethodName)) ∈ lw_all := lw_g (lw_at lw_m4 18 rfl) rfl
theorem q827 : (Jvm.Cond.selects "SnowForSummer" ({ cls := "SnowForSummer", name := "lord", desc := "(I)I" } : Jvm.MethodName) ({ cls := "SnowForSummer", name := "lord", desc := "(I)I" } : Jvm.MethodName)) ∈ lw_all := lw_g (lw_at lw_m4 19 rfl) rfl
theorem q828 : (Jvm.Cond.code ({ cls := "SnowForSummer", name := "lord", desc := "(I)I" } : Jvm.MethodName) prog_1_method_76_code (6 : Nat) (Option.some Jvm.ClassFile.FieldType.int)) ∈ lw_all := lw_g (lw_at lw_m4 20 rfl) rfl
theorem q830 : (Jvm.Cond.instanceMethod ({ cls := "SnowForSummer", name := "worst", desc := "(I)I" } : Jvm.MethodName)) ∈ lw_all := lw_g (lw_at lw_m4 22 rfl) rfl
theorem q831 : (Jvm.Cond.selects "SnowForSummer" ({ cls := "SnowForSummer", name := "worst", desc := "(I)I" } : Jvm.MethodName) ({ cls := "SnowForSummer", name := "worst", desc := "(I)I" } : Jvm.MethodName)) ∈ lw_all := lw_g (lw_at lw_m4 23 rfl) rfl
theorem q832 : (Jvm.Cond.code ({ cls := "SnowForSummer", name := "worst", desc := "(I)I" } : Jvm.MethodName) prog_1_method_77_code (7 : Nat) (Option.some Jvm.ClassFile.FieldType.int)) ∈ lw_all := lw_g (lw_at lw_m4 24 rfl) rfl
theorem q834 : (Jvm.Cond.instanceMethod ({ cls := "SnowForSummer", name := "melt", desc := "()I" } : Jvm.MethodName)) ∈ lw_all := lw_g (lw_at lw_m4 26 rfl) rfl
theorem q835 : (Jvm.Cond.selects "SnowForSummer" ({ cls := "SnowForSummer", name := "melt", desc := "()I" } : Jvm.MethodName) ({ cls := "SnowForSummer", name := "melt", desc := "()I" } : Jvm.MethodName)) ∈ lw_all := lw_g (lw_at lw_m4 27 rfl) rfl
theorem q836 : (Jvm.Cond.code ({ cls := "SnowForSummer", name := "melt", desc := "()I" } : Jvm.MethodName) prog_1_method_78_code (2 : Nat) (Option.some Jvm.ClassFile.FieldType.int)) ∈ lw_all := lw_g (lw_at lw_m4 28 rfl) rfl
theorem q837 : (Jvm.Cond.methodLink "SnowForSummer" (411 : Nat) ({ cls := "SnowForSummer$Town", name := "roofs", desc := "()I" } : Jvm.MethodName)) ∈ lw_all := lw_g (lw_at lw_m4 29 rfl) rfl
theorem q842 : (Jvm.Cond.instanceMethod ({ cls := "SnowForSummer", name := "lazy", desc := "(I)I" } : Jvm.MethodName)) ∈ lw_all := lw_g (lw_at lw_m4 34 rfl) rfl
theorem q843 : (Jvm.Cond.selects "SnowForSummer" ({ cls := "SnowForSummer", name := "lazy", desc := "(I)I" } : Jvm.MethodName) ({ cls := "SnowForSummer", name := "lazy", desc := "(I)I" } : Jvm.MethodName)) ∈ lw_all := lw_g (lw_at lw_m4 35 rfl) rfl
theorem q844 : (Jvm.Cond.code ({ cls := "SnowForSummer", name := "lazy", desc := "(I)I" } : Jvm.MethodName) prog_1_method_79_code (4 : Nat) (Option.some Jvm.ClassFile.FieldType.int)) ∈ lw_all := lw_g (lw_at lw_m4 36 rfl) rfl
theorem q846 : (Jvm.Cond.instanceMethod ({ cls := "SnowForSummer", name := "dig", desc := "(III)I" } : Jvm.MethodName)) ∈ lw_all := lw_g (lw_at lw_m4 38 rfl) rfl
theorem q847 : (Jvm.Cond.selects "SnowForSummer" ({ cls := "SnowForSummer", name := "dig", desc := "(III)I" } : Jvm.MethodName) ({ cls := "SnowForSummer", name := "dig", desc := "(III)I" } : Jvm.MethodName)) ∈ lw_all := lw_g (lw_at lw_m4 39 rfl) rfl
theorem q848 : (Jvm.Cond.code ({ cls := "SnowForSummer", name := "dig", desc := "(III)I" } : Jvm.MethodName) prog_1_method_80_code (7 : Nat) (Option.some Jvm.ClassFile.FieldType.int)) ∈ lw_all := lw_g (lw_at lw_m4 40 rfl) rfl
theorem q850 : (Jvm.Cond.instanceMethod ({ cls := "SnowForSummer", name := "best", desc := "(II)I" } : Jvm.MethodName)) ∈ lw_all := lw_g (lw_at lw_m4 42 rfl) rfl
theorem q851 : (Jvm.Cond.selects "SnowForSummer" ({ cls := "SnowForSummer", name := "best", desc := "(II)I" } : Jvm.MethodName) ({ cls := "SnowForSummer", name := "best", desc := "(II)I" } : Jvm.MethodName)) ∈ lw_all := lw_g (lw_at lw_m4 43 rfl) rfl
theorem q852 : (Jvm.Cond.code ({ cls := "SnowForSummer", name := "best", desc := "(II)I" } : Jvm.MethodName) prog_1_method_85_code (3 : Nat) (Option.some Jvm.ClassFile.FieldType.int)) ∈ lw_all := lw_g (lw_at lw_m4 44 rfl) rfl
theorem q853 : (Jvm.Cond.methodLink "SnowForSummer" (427 : Nat) ({ cls := "SnowForSummer", name := "sweepsBest", desc := "(II)I" } : Jvm.MethodName)) ∈ lw_all := lw_g (lw_at lw_m4 45 rfl) rfl
theorem q854 : (Jvm.Cond.privateMethod ({ cls := "SnowForSummer", name := "sweepsBest", desc := "(II)I" } : Jvm.MethodName)) ∈ lw_tbl := lw_at lw_m4 46 rfl
theorem q855 : (Jvm.Cond.instanceMethod ({ cls := "SnowForSummer", name := "sweepsBest", desc := "(II)I" } : Jvm.MethodName)) ∈ lw_all := lw_g (lw_at lw_m4 47 rfl) rfl
theorem q856 : (Jvm.Cond.code ({ cls := "SnowForSummer", name := "sweepsBest", desc := "(II)I" } : Jvm.MethodName) prog_1_method_84_code (4 : Nat) (Option.some Jvm.ClassFile.FieldType.int)) ∈ lw_all := lw_g (lw_at lw_m4 48 rfl) rfl
theorem q857 : (Jvm.Cond.methodLink "SnowForSummer" (423 : Nat) ({ cls := "SnowForSummer", name := "sweepsFrom", desc := "(IIII)V" } : Jvm.MethodName)) ∈ lw_all := lw_g (lw_at lw_m4 49 rfl) rfl
theorem q858 : (Jvm.Cond.privateMethod ({ cls := "SnowForSummer", name := "sweepsFrom", desc := "(IIII)V" } : Jvm.MethodName)) ∈ lw_tbl := lw_at lw_m4 50 rfl
theorem q859 : (Jvm.Cond.instanceMethod ({ cls := "SnowForSummer", name := "sweepsFrom", desc := "(IIII)V" } : Jvm.MethodName)) ∈ lw_all := lw_g (lw_at lw_m4 51 rfl) rfl
theorem q860 : (Jvm.Cond.code ({ cls := "SnowForSummer", name := "sweepsFrom", desc := "(IIII)V" } : Jvm.MethodName) prog_1_method_83_code (8 : Nat) (Option.none : Option Jvm.ClassFile.FieldType)) ∈ lw_all := lw_g (lw_at lw_m4 52 rfl) rfl
theorem q862 : (Jvm.Cond.instanceMethod ({ cls := "SnowForSummer", name := "own", desc := "(III)I" } : Jvm.MethodName)) ∈ lw_all := lw_g (lw_at lw_m4 54 rfl) rfl
theorem q863 : (Jvm.Cond.selects "SnowForSummer" ({ cls := "SnowForSummer", name := "own", desc := "(III)I" } : Jvm.MethodName) ({ cls := "SnowForSummer", name := "own", desc := "(III)I" } : Jvm.MethodName)) ∈ lw_all := lw_g (lw_at lw_m4 55 rfl) rfl
theorem q864 : (Jvm.Cond.code ({ cls := "SnowForSummer", name := "own", desc := "(III)I" } : Jvm.MethodName) prog_1_method_86_code (4 : Nat) (Option.some Jvm.ClassFile.FieldType.int)) ∈ lw_all := lw_g (lw_at lw_m4 56 rfl) rfl
theorem q866 : (Jvm.Cond.instanceMethod ({ cls := "SnowForSummer", name := "better", desc := "(II)I" } : Jvm.MethodName)) ∈ lw_all := lw_g (lw_at lw_m4 58 rfl) rfl
theorem q867 : (Jvm.Cond.selects "SnowForSummer" ({ cls := "SnowForSummer", name := "better", desc := "(II)I" } : Jvm.MethodName) ({ cls := "SnowForSummer", name := "better", desc := "(II)I" } : Jvm.MethodName)) ∈ lw_all := lw_g (lw_at lw_m4 59 rfl) rfl
theorem q868 : (Jvm.Cond.code ({ cls := "SnowForSummer", name := "better", desc := "(II)I" } : Jvm.MethodName) prog_1_method_88_code (4 : Nat) (Option.some Jvm.ClassFile.FieldType.int)) ∈ lw_all := lw_g (lw_at lw_m4 60 rfl) rfl
theorem q869 : (Jvm.Cond.methodLink "SnowForSummer" (436 : Nat) ({ cls := "SnowForSummer", name := "isBetter", desc := "(LSnowForSummer$Town;II)Z" } : Jvm.MethodName)) ∈ lw_all := lw_g (lw_at lw_m4 61 rfl) rfl
theorem q870 : (Jvm.Cond.privateMethod ({ cls := "SnowForSummer", name := "isBetter", desc := "(LSnowForSummer$Town;II)Z" } : Jvm.MethodName)) ∈ lw_tbl := lw_at lw_m4 62 rfl
theorem q871 : (Jvm.Cond.instanceMethod ({ cls := "SnowForSummer", name := "isBetter", desc := "(LSnowForSummer$Town;II)Z" } : Jvm.MethodName)) ∈ lw_all := lw_g (lw_at lw_m4 63 rfl) rfl
theorem q872 : (Jvm.Cond.code ({ cls := "SnowForSummer", name := "isBetter", desc := "(LSnowForSummer$Town;II)Z" } : Jvm.MethodName) prog_1_method_87_code (5 : Nat) (Option.some Jvm.ClassFile.FieldType.boolean)) ∈ lw_all := lw_g (lw_at lw_m4 64 rfl) rfl
theorem q874 : (Jvm.Cond.instanceMethod ({ cls := "SnowForSummer", name := "rests", desc := "(II)I" } : Jvm.MethodName)) ∈ lw_all := lw_g (lw_at lw_m4 66 rfl) rfl
theorem q875 : (Jvm.Cond.selects "SnowForSummer" ({ cls := "SnowForSummer", name := "rests", desc := "(II)I" } : Jvm.MethodName) ({ cls := "SnowForSummer", name := "rests", desc := "(II)I" } : Jvm.MethodName)) ∈ lw_all := lw_g (lw_at lw_m4 67 rfl) rfl
theorem q876 : (Jvm.Cond.code ({ cls := "SnowForSummer", name := "rests", desc := "(II)I" } : Jvm.MethodName) prog_1_method_89_code (7 : Nat) (Option.some Jvm.ClassFile.FieldType.int)) ∈ lw_all := lw_g (lw_at lw_m4 68 rfl) rfl
theorem q877 : (Jvm.Cond.constantLong "SnowForSummer" (440 : Nat) (20 : Int64)) ∈ lw_all := lw_g (lw_at lw_m4 69 rfl) rfl
theorem q879 : (Jvm.Cond.instanceMethod ({ cls := "SnowForSummer", name := "rough", desc := "(II)I" } : Jvm.MethodName)) ∈ lw_all := lw_g (lw_at lw_m4 71 rfl) rfl
theorem q880 : (Jvm.Cond.selects "SnowForSummer" ({ cls := "SnowForSummer", name := "rough", desc := "(II)I" } : Jvm.MethodName) ({ cls := "SnowForSummer", name := "rough", desc := "(II)I" } : Jvm.MethodName)) ∈ lw_all := lw_g (lw_at lw_m4 72 rfl) rfl
theorem q881 : (Jvm.Cond.code ({ cls := "SnowForSummer", name := "rough", desc := "(II)I" } : Jvm.MethodName) prog_1_method_90_code (8 : Nat) (Option.some Jvm.ClassFile.FieldType.int)) ∈ lw_all := lw_g (lw_at lw_m4 73 rfl) rfl
theorem q882 : (Jvm.Cond.methodLink "SnowForSummer" (414 : Nat) ({ cls := "SnowForSummer", name := "owedAhead", desc := "(I)I" } : Jvm.MethodName)) ∈ lw_all := lw_g (lw_at lw_m4 74 rfl) rfl
theorem q883 : (Jvm.Cond.privateMethod ({ cls := "SnowForSummer", name := "owedAhead", desc := "(I)I" } : Jvm.MethodName)) ∈ lw_tbl := lw_at lw_m4 75 rfl
theorem q884 : (Jvm.Cond.instanceMethod ({ cls := "SnowForSummer", name := "owedAhead", desc := "(I)I" } : Jvm.MethodName)) ∈ lw_all := lw_g (lw_at lw_m4 76 rfl) rfl
theorem q885 : (Jvm.Cond.code ({ cls := "SnowForSummer", name := "owedAhead", desc := "(I)I" } : Jvm.MethodName) prog_1_method_81_code (2 : Nat) (Option.some Jvm.ClassFile.FieldType.int)) ∈ lw_all := lw_g (lw_at lw_m4 77 rfl) rfl
theorem q887 : (Jvm.Cond.instanceMethod ({ cls := "SnowForSummer", name := "turned", desc := "(I)I" } : Jvm.MethodName)) ∈ lw_all := lw_g (lw_at lw_m4 79 rfl) rfl
theorem q888 : (Jvm.Cond.selects "SnowForSummer" ({ cls := "SnowForSummer", name := "turned", desc := "(I)I" } : Jvm.MethodName) ({ cls := "SnowForSummer", name := "turned", desc := "(I)I" } : Jvm.MethodName)) ∈ lw_all := lw_g (lw_at lw_m4 80 rfl) rfl
theorem q889 : (Jvm.Cond.code ({ cls := "SnowForSummer", name := "turned", desc := "(I)I" } : Jvm.MethodName) prog_1_method_92_code (6 : Nat) (Option.some Jvm.ClassFile.FieldType.int)) ∈ lw_all := lw_g (lw_at lw_m4 81 rfl) rfl
theorem q890 : (Jvm.Cond.methodLink "SnowForSummer" (442 : Nat) ({ cls := "SnowForSummer", name := "turns", desc := "(I)V" } : Jvm.MethodName)) ∈ lw_all := lw_g (lw_at lw_m4 82 rfl) rfl
theorem q891 : (Jvm.Cond.privateMethod ({ cls := "SnowForSummer", name := "turns", desc := "(I)V" } : Jvm.MethodName)) ∈ lw_tbl := lw_at lw_m4 83 rfl
theorem q892 : (Jvm.Cond.instanceMethod ({ cls := "SnowForSummer", name := "turns", desc := "(I)V" } : Jvm.MethodName)) ∈ lw_all := lw_g (lw_at lw_m4 84 rfl) rfl
theorem q893 : (Jvm.Cond.code ({ cls := "SnowForSummer", name := "turns", desc := "(I)V" } : Jvm.MethodName) prog_1_method_91_code (3 : Nat) (Option.none : Option Jvm.ClassFile.FieldType)) ∈ lw_all := lw_g (lw_at lw_m4 85 rfl) rfl
theorem q895 : (Jvm.Cond.instanceMethod ({ cls := "SnowForSummer", name := "needs", desc := "(II)I" } : Jvm.MethodName)) ∈ lw_all := lw_g (lw_at lw_m4 87 rfl) rfl
theorem q896 : (Jvm.Cond.selects "SnowForSummer" ({ cls := "SnowForSummer", name := "needs", desc := "(II)I" } : Jvm.MethodName) ({ cls := "SnowForSummer", name := "needs", desc := "(II)I" } : Jvm.MethodName)) ∈ lw_all := lw_g (lw_at lw_m4 88 rfl) rfl
theorem q897 : (Jvm.Cond.code ({ cls := "SnowForSummer", name := "needs", desc := "(II)I" } : Jvm.MethodName) prog_1_method_93_code (6 : Nat) (Option.some Jvm.ClassFile.FieldType.int)) ∈ lw_all := lw_g (lw_at lw_m4 89 rfl) rfl
theorem q899 : (Jvm.Cond.instanceMethod ({ cls := "SnowForSummer", name := "track", desc := "(II)I" } : Jvm.MethodName)) ∈ lw_all := lw_g (lw_at lw_m4 91 rfl) rfl
theorem q900 : (Jvm.Cond.selects "SnowForSummer" ({ cls := "SnowForSummer", name := "track", desc := "(II)I" } : Jvm.MethodName) ({ cls := "SnowForSummer", name := "track", desc := "(II)I" } : Jvm.MethodName)) ∈ lw_all := lw_g (lw_at lw_m4 92 rfl) rfl
theorem q901 : (Jvm.Cond.code ({ cls := "SnowForSummer", name := "track", desc := "(II)I" } : Jvm.MethodName) prog_1_method_95_code (3 : Nat) (Option.some Jvm.ClassFile.FieldType.int)) ∈ lw_all := lw_g (lw_at lw_m4 93 rfl) rfl
theorem q903 : (Jvm.Cond.instanceMethod ({ cls := "SnowForSummer", name := "thaw", desc := "()I" } : Jvm.MethodName)) ∈ lw_all := lw_g (lw_at lw_m4 95 rfl) rfl
theorem q904 : (Jvm.Cond.selects "SnowForSummer" ({ cls := "SnowForSummer", name := "thaw", desc := "()I" } : Jvm.MethodName) ({ cls := "SnowForSummer", name := "thaw", desc := "()I" } : Jvm.MethodName)) ∈ lw_all := lw_g (lw_at lw_m4 96 rfl) rfl
theorem q905 : (Jvm.Cond.code ({ cls := "SnowForSummer", name := "thaw", desc := "()I" } : Jvm.MethodName) prog_1_method_96_code (2 : Nat) (Option.some Jvm.ClassFile.FieldType.int)) ∈ lw_all := lw_g (lw_at lw_m4 97 rfl) rfl
theorem q907 : (Jvm.Cond.instanceMethod ({ cls := "SnowForSummer", name := "suspects", desc := "(I)I" } : Jvm.MethodName)) ∈ lw_all := lw_g (lw_at lw_m4 99 rfl) rfl
theorem q908 : (Jvm.Cond.selects "SnowForSummer" ({ cls := "SnowForSummer", name := "suspects", desc := "(I)I" } : Jvm.MethodName) ({ cls := "SnowForSummer", name := "suspects", desc := "(I)I" } : Jvm.MethodName)) ∈ lw_all := lw_g (lw_at lw_m4 100 rfl) rfl
theorem q909 : (Jvm.Cond.code ({ cls := "SnowForSummer", name := "suspects", desc := "(I)I" } : Jvm.MethodName) prog_1_method_98_code (4 : Nat) (Option.some Jvm.ClassFile.FieldType.int)) ∈ lw_all := lw_g (lw_at lw_m4 101 rfl) rfl
theorem q910 : (Jvm.Cond.methodLink "SnowForSummer" (448 : Nat) ({ cls := "SnowForSummer", name := "outIn", desc := "(I)I" } : Jvm.MethodName)) ∈ lw_all := lw_g (lw_at lw_m4 102 rfl) rfl
theorem q911 : (Jvm.Cond.privateMethod ({ cls := "SnowForSummer", name := "outIn", desc := "(I)I" } : Jvm.MethodName)) ∈ lw_tbl := lw_at lw_m4 103 rfl
theorem q912 : (Jvm.Cond.instanceMethod ({ cls := "SnowForSummer", name := "outIn", desc := "(I)I" } : Jvm.MethodName)) ∈ lw_all := lw_g (lw_at lw_m4 104 rfl) rfl
theorem q913 : (Jvm.Cond.code ({ cls := "SnowForSummer", name := "outIn", desc := "(I)I" } : Jvm.MethodName) prog_1_method_97_code (4 : Nat) (Option.some Jvm.ClassFile.FieldType.int)) ∈ lw_all := lw_g (lw_at lw_m4 105 rfl) rfl
theorem q915 : (Jvm.Cond.instanceMethod ({ cls := "SnowForSummer", name := "gang", desc := "(I)I" } : Jvm.MethodName)) ∈ lw_all := lw_g (lw_at lw_m4 107 rfl) rfl
theorem q916 : (Jvm.Cond.selects "SnowForSummer" ({ cls := "SnowForSummer", name := "gang", desc := "(I)I" } : Jvm.MethodName) ({ cls := "SnowForSummer", name := "gang", desc := "(I)I" } : Jvm.MethodName)) ∈ lw_all := lw_g (lw_at lw_m4 108 rfl) rfl
theorem q917 : (Jvm.Cond.code ({ cls := "SnowForSummer", name := "gang", desc := "(I)I" } : Jvm.MethodName) prog_1_method_99_code (6 : Nat) (Option.some Jvm.ClassFile.FieldType.int)) ∈ lw_all := lw_g (lw_at lw_m4 109 rfl) rfl
theorem q918 : (Jvm.Cond.methodLink "SnowForSummer" (451 : Nat) ({ cls := "java/lang/Integer", name := "bitCount", desc := "(I)I" } : Jvm.MethodName)) ∈ lw_all := lw_g (lw_at lw_m4 110 rfl) rfl
theorem q925 : (Jvm.Cond.instanceMethod ({ cls := "SnowForSummer", name := "keep", desc := "(I)Z" } : Jvm.MethodName)) ∈ lw_all := lw_g (lw_at lw_m4 117 rfl) rfl
theorem q926 : (Jvm.Cond.selects "SnowForSummer" ({ cls := "SnowForSummer", name := "keep", desc := "(I)Z" } : Jvm.MethodName) ({ cls := "SnowForSummer", name := "keep", desc := "(I)Z" } : Jvm.MethodName)) ∈ lw_all := lw_g (lw_at lw_m4 118 rfl) rfl
theorem q927 : (Jvm.Cond.code ({ cls := "SnowForSummer", name := "keep", desc := "(I)Z" } : Jvm.MethodName) prog_1_method_100_code (2 : Nat) (Option.some Jvm.ClassFile.FieldType.boolean)) ∈ lw_all := lw_g (lw_at lw_m4 119 rfl) rfl
theorem q929 : (Jvm.Cond.instanceMethod ({ cls := "SnowForSummer", name := "again", desc := "(I)Z" } : Jvm.MethodName)) ∈ lw_all := lw_g (lw_at lw_m4 121 rfl) rfl
theorem q930 : (Jvm.Cond.selects "SnowForSummer" ({ cls := "SnowForSummer", name := "again", desc := "(I)Z" } : Jvm.MethodName) ({ cls := "SnowForSummer", name := "again", desc := "(I)Z" } : Jvm.MethodName)) ∈ lw_all := lw_g (lw_at lw_m4 122 rfl) rfl
theorem q931 : (Jvm.Cond.code ({ cls := "SnowForSummer", name := "again", desc := "(I)Z" } : Jvm.MethodName) prog_1_method_101_code (2 : Nat) (Option.some Jvm.ClassFile.FieldType.boolean)) ∈ lw_all := lw_g (lw_at lw_m4 123 rfl) rfl
theorem q933 : (Jvm.Cond.instanceMethod ({ cls := "SnowForSummer", name := "count", desc := "(I)I" } : Jvm.MethodName)) ∈ lw_all := lw_g (lw_at lw_m4 125 rfl) rfl
theorem q934 : (Jvm.Cond.selects "SnowForSummer" ({ cls := "SnowForSummer", name := "count", desc := "(I)I" } : Jvm.MethodName) ({ cls := "SnowForSummer", name := "count", desc := "(I)I" } : Jvm.MethodName)) ∈ lw_all := lw_g (lw_at lw_m4 126 rfl) rfl
theorem q935 : (Jvm.Cond.code ({ cls := "SnowForSummer", name := "count", desc := "(I)I" } : Jvm.MethodName) prog_1_method_102_code (2 : Nat) (Option.some Jvm.ClassFile.FieldType.int)) ∈ lw_all := lw_g (lw_at lw_m4 127 rfl) rfl
theorem q941 : (Jvm.Cond.instanceMethod ({ cls := "SnowForSummer", name := "of", desc := "(II)I" } : Jvm.MethodName)) ∈ lw_all := lw_g (lw_at lw_m4 133 rfl) rfl
theorem q942 : (Jvm.Cond.selects "SnowForSummer" ({ cls := "SnowForSummer", name := "of", desc := "(II)I" } : Jvm.MethodName) ({ cls := "SnowForSummer", name := "of", desc := "(II)I" } : Jvm.MethodName)) ∈ lw_all := lw_g (lw_at lw_m4 134 rfl) rfl
theorem q943 : (Jvm.Cond.code ({ cls := "SnowForSummer", name := "of", desc := "(II)I" } : Jvm.MethodName) prog_1_method_27_code (3 : Nat) (Option.some Jvm.ClassFile.FieldType.int)) ∈ lw_all := lw_g (lw_at lw_m4 135 rfl) rfl
theorem q944 : (Jvm.Cond.classLink "SnowForSummer" (235 : Nat) "java/util/NoSuchElementException") ∈ lw_all := lw_g (lw_at lw_m4 136 rfl) rfl
theorem q983 : (Jvm.Cond.methodLink "SnowForSummer" (237 : Nat) ({ cls := "java/util/NoSuchElementException", name := "<init>", desc := "()V" } : Jvm.MethodName)) ∈ lw_all := lw_g (lw_at lw_m4 175 rfl) rfl
theorem q1009 : (Jvm.Cond.instanceMethod ({ cls := "SnowForSummer", name := "net", desc := "(I)I" } : Jvm.MethodName)) ∈ lw_all := lw_g (lw_at lw_m4 201 rfl) rfl
theorem q1010 : (Jvm.Cond.selects "SnowForSummer" ({ cls := "SnowForSummer", name := "net", desc := "(I)I" } : Jvm.MethodName) ({ cls := "SnowForSummer", name := "net", desc := "(I)I" } : Jvm.MethodName)) ∈ lw_all := lw_g (lw_at lw_m4 202 rfl) rfl
theorem q1011 : (Jvm.Cond.code ({ cls := "SnowForSummer", name := "net", desc := "(I)I" } : Jvm.MethodName) prog_1_method_62_code (2 : Nat) (Option.some Jvm.ClassFile.FieldType.int)) ∈ lw_all := lw_g (lw_at lw_m4 203 rfl) rfl
theorem q1016 : (Jvm.Cond.instanceMethod ({ cls := "SnowForSummer", name := "bare", desc := "(II)I" } : Jvm.MethodName)) ∈ lw_all := lw_g (lw_at lw_m4 208 rfl) rfl
theorem q1017 : (Jvm.Cond.selects "SnowForSummer" ({ cls := "SnowForSummer", name := "bare", desc := "(II)I" } : Jvm.MethodName) ({ cls := "SnowForSummer", name := "bare", desc := "(II)I" } : Jvm.MethodName)) ∈ lw_all := lw_g (lw_at lw_m4 209 rfl) rfl
theorem q1018 : (Jvm.Cond.code ({ cls := "SnowForSummer", name := "bare", desc := "(II)I" } : Jvm.MethodName) prog_1_method_82_code (4 : Nat) (Option.some Jvm.ClassFile.FieldType.int)) ∈ lw_all := lw_g (lw_at lw_m4 210 rfl) rfl
theorem q1023 : (Jvm.Cond.instanceMethod ({ cls := "SnowForSummer", name := "premium", desc := "(I)I" } : Jvm.MethodName)) ∈ lw_all := lw_g (lw_at lw_m4 215 rfl) rfl
theorem q1024 : (Jvm.Cond.selects "SnowForSummer" ({ cls := "SnowForSummer", name := "premium", desc := "(I)I" } : Jvm.MethodName) ({ cls := "SnowForSummer", name := "premium", desc := "(I)I" } : Jvm.MethodName)) ∈ lw_all := lw_g (lw_at lw_m4 216 rfl) rfl
theorem q1025 : (Jvm.Cond.code ({ cls := "SnowForSummer", name := "premium", desc := "(I)I" } : Jvm.MethodName) prog_1_method_94_code (5 : Nat) (Option.some Jvm.ClassFile.FieldType.int)) ∈ lw_all := lw_g (lw_at lw_m4 217 rfl) rfl
theorem q1030 : (Jvm.Cond.instanceMethod ({ cls := "SnowForSummer", name := "row", desc := "(I)I" } : Jvm.MethodName)) ∈ lw_all := lw_g (lw_at lw_m4 222 rfl) rfl
theorem q1031 : (Jvm.Cond.selects "SnowForSummer" ({ cls := "SnowForSummer", name := "row", desc := "(I)I" } : Jvm.MethodName) ({ cls := "SnowForSummer", name := "row", desc := "(I)I" } : Jvm.MethodName)) ∈ lw_all := lw_g (lw_at lw_m4 223 rfl) rfl
theorem q1032 : (Jvm.Cond.code ({ cls := "SnowForSummer", name := "row", desc := "(I)I" } : Jvm.MethodName) prog_1_method_104_code (2 : Nat) (Option.some Jvm.ClassFile.FieldType.int)) ∈ lw_all := lw_g (lw_at lw_m4 224 rfl) rfl
theorem q1651 : (Jvm.Cond.castable "SnowForSummer" "java/lang/Object") ∈ lw_tbl := lw_at lw_m7 123 rfl
theorem in_X1 : ∀ w ∈ wsX10, w ∈ lw_all := lw_in wsX10 [210, 212, 214, 216, 218, 220, 222, 224, 226, 228, 230, 232, 234, 236, 238, 240, 242, 244, 246, 248, 250, 252, 254, 256, 258, 260, 262, 264, 266, 268, 270, 272, 274, 276, 278, 280, 282, 284, 286, 288, 290, 292, 294, 296, 298, 300, 302, 304, 306, 308, 310, 312] (by decide +kernel) (by decide +kernel)
