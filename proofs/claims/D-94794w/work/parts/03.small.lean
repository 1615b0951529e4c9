theorem q148 : (Jvm.Cond.arrayClass Jvm.ClassFile.FieldType.int) ∈ lw_all := lw_g (lw_at lw_m1 60 rfl) rfl
set_option maxRecDepth 100000
theorem q149 : (Jvm.Cond.arrayOver (Jvm.ClassFile.FieldType.object "SnowForSummer$Town")) ∈ lw_tbl := lw_at lw_m1 61 rfl
theorem q459 : (Jvm.Cond.arrayClass Jvm.ClassFile.FieldType.byte) ∈ lw_all := lw_g (lw_at lw_m2 131 rfl) rfl
theorem q1196 : (Jvm.Cond.arrayClass Jvm.ClassFile.FieldType.boolean) ∈ lw_all := lw_g (lw_at lw_m5 148 rfl) rfl
theorem q1649 : (Jvm.Cond.arrayClass Jvm.ClassFile.FieldType.long) ∈ lw_all := lw_g (lw_at lw_m7 121 rfl) rfl

theorem q98 : (Jvm.Cond.initialized "java/lang/System") ∈ lw_all := lw_g (lw_at lw_m1 10 rfl) rfl
set_option maxRecDepth 100000
theorem q457 : (Jvm.Cond.static ({ cls := "java/lang/System", name := "arraycopy", desc := "(Ljava/lang/Object;ILjava/lang/Object;II)V" } : Jvm.MethodName)) ∈ lw_all := lw_g (lw_at lw_m2 129 rfl) rfl
theorem q458 : (Jvm.Cond.native ({ cls := "java/lang/System", name := "arraycopy", desc := "(Ljava/lang/Object;ILjava/lang/Object;II)V" } : Jvm.MethodName)) ∈ lw_all := lw_g (lw_at lw_m2 130 rfl) rfl

/-! java/lang/Math -/
set_option maxRecDepth 100000
def RJ0 : String := "java/lang/Math"
abbrev cJ0_min : ByteArray := prog_16_method_69_code
def yJ0_min : MethodName := ⟨RJ0, "min", "(II)I"⟩
def dkwJ0_min_0 : List UInt8 := [26, 27, 163, 0, 7, 26, 167, 0, 4, 27, 172]
abbrev dktJ0_min_0 : List UInt8 := dkwJ0_min_0 ++ []
theorem dksJ0_min_0 : cJ0_min.data.toList.drop 0 = dktJ0_min_0 := by decide +kernel
theorem dJ0_min_0 : decode cJ0_min 0 = .ok (.iload_n 0, 1) := dk_26 (dk_at dksJ0_min_0 0 rfl rfl)
theorem dJ0_min_1 : decode cJ0_min 1 = .ok (.iload_n 1, 1) := dk_27 (dk_at dksJ0_min_0 1 rfl rfl)
theorem dJ0_min_2 : decode cJ0_min 2 = .ok (.if_icmp .gt 7, 3) := dk_163 0 7 (dk_at dksJ0_min_0 2 rfl rfl)
theorem dJ0_min_5 : decode cJ0_min 5 = .ok (.iload_n 0, 1) := dk_26 (dk_at dksJ0_min_0 5 rfl rfl)
theorem dJ0_min_6 : decode cJ0_min 6 = .ok (.goto 4, 3) := dk_167 0 4 (dk_at dksJ0_min_0 6 rfl rfl)
theorem dJ0_min_9 : decode cJ0_min 9 = .ok (.iload_n 1, 1) := dk_27 (dk_at dksJ0_min_0 9 rfl rfl)
theorem dJ0_min_10 : decode cJ0_min 10 = .ok (.ireturn, 1) := dk_172 (dk_at dksJ0_min_0 10 rfl rfl)
abbrev cJ0_max : ByteArray := prog_16_method_65_code
def yJ0_max : MethodName := ⟨RJ0, "max", "(II)I"⟩
def dkwJ0_max_0 : List UInt8 := [26, 27, 161, 0, 7, 26, 167, 0, 4, 27, 172]
abbrev dktJ0_max_0 : List UInt8 := dkwJ0_max_0 ++ []
theorem dksJ0_max_0 : cJ0_max.data.toList.drop 0 = dktJ0_max_0 := by decide +kernel
theorem dJ0_max_0 : decode cJ0_max 0 = .ok (.iload_n 0, 1) := dk_26 (dk_at dksJ0_max_0 0 rfl rfl)
theorem dJ0_max_1 : decode cJ0_max 1 = .ok (.iload_n 1, 1) := dk_27 (dk_at dksJ0_max_0 1 rfl rfl)
theorem dJ0_max_2 : decode cJ0_max 2 = .ok (.if_icmp .lt 7, 3) := dk_161 0 7 (dk_at dksJ0_max_0 2 rfl rfl)
theorem dJ0_max_5 : decode cJ0_max 5 = .ok (.iload_n 0, 1) := dk_26 (dk_at dksJ0_max_0 5 rfl rfl)
theorem dJ0_max_6 : decode cJ0_max 6 = .ok (.goto 4, 3) := dk_167 0 4 (dk_at dksJ0_max_0 6 rfl rfl)
theorem dJ0_max_9 : decode cJ0_max 9 = .ok (.iload_n 1, 1) := dk_27 (dk_at dksJ0_max_0 9 rfl rfl)
theorem dJ0_max_10 : decode cJ0_max 10 = .ok (.ireturn, 1) := dk_172 (dk_at dksJ0_max_0 10 rfl rfl)
theorem q92 : (Jvm.Cond.initialized "java/lang/Math") ∈ lw_all := lw_g (lw_at lw_m1 4 rfl) rfl
theorem q335 : (Jvm.Cond.static ({ cls := "java/lang/Math", name := "min", desc := "(II)I" } : Jvm.MethodName)) ∈ lw_all := lw_g (lw_at lw_m2 7 rfl) rfl
theorem q336 : (Jvm.Cond.code ({ cls := "java/lang/Math", name := "min", desc := "(II)I" } : Jvm.MethodName) prog_16_method_69_code (2 : Nat) (Option.some Jvm.ClassFile.FieldType.int)) ∈ lw_all := lw_g (lw_at lw_m2 8 rfl) rfl
theorem q401 : (Jvm.Cond.static ({ cls := "java/lang/Math", name := "max", desc := "(II)I" } : Jvm.MethodName)) ∈ lw_all := lw_g (lw_at lw_m2 73 rfl) rfl
theorem q402 : (Jvm.Cond.code ({ cls := "java/lang/Math", name := "max", desc := "(II)I" } : Jvm.MethodName) prog_16_method_65_code (2 : Nat) (Option.some Jvm.ClassFile.FieldType.int)) ∈ lw_all := lw_g (lw_at lw_m2 74 rfl) rfl

/-! java/lang/Integer -/
set_option maxRecDepth 100000
def RJ10 : String := "java/lang/Integer"
abbrev cJ10_bitCount : ByteArray := prog_15_method_49_code
def yJ10_bitCount : MethodName := ⟨RJ10, "bitCount", "(I)I"⟩
def dkwJ10_bitCount_2 : List UInt8 := [26, 16, 63, 126, 172]
abbrev dktJ10_bitCount_2 : List UInt8 := dkwJ10_bitCount_2 ++ []
def dkwJ10_bitCount_1 : List UInt8 := [26, 26, 7, 124, 96, 19, 1, 11, 126, 59, 26, 26, 16, 8, 124, 96, 59, 26, 26, 16, 16, 124, 96, 59]
abbrev dktJ10_bitCount_1 : List UInt8 := dkwJ10_bitCount_1 ++ dktJ10_bitCount_2
def dkwJ10_bitCount_0 : List UInt8 := [26, 26, 4, 124, 19, 1, 9, 126, 100, 59, 26, 19, 1, 10, 126, 26, 5, 124, 19, 1, 10, 126, 96, 59]
abbrev dktJ10_bitCount_0 : List UInt8 := dkwJ10_bitCount_0 ++ dktJ10_bitCount_1
theorem dksJ10_bitCount_0 : cJ10_bitCount.data.toList.drop 0 = dktJ10_bitCount_0 := by decide +kernel
theorem dksJ10_bitCount_1 : cJ10_bitCount.data.toList.drop 24 = dktJ10_bitCount_1 := dk_seg dksJ10_bitCount_0 24 rfl rfl
theorem dksJ10_bitCount_2 : cJ10_bitCount.data.toList.drop 48 = dktJ10_bitCount_2 := dk_seg dksJ10_bitCount_1 24 rfl rfl
theorem dJ10_bitCount_0 : decode cJ10_bitCount 0 = .ok (.iload_n 0, 1) := dk_26 (dk_at dksJ10_bitCount_0 0 rfl rfl)
theorem dJ10_bitCount_1 : decode cJ10_bitCount 1 = .ok (.iload_n 0, 1) := dk_26 (dk_at dksJ10_bitCount_0 1 rfl rfl)
theorem dJ10_bitCount_2 : decode cJ10_bitCount 2 = .ok (.iconst 1, 1) := dk_4 (dk_at dksJ10_bitCount_0 2 rfl rfl)
theorem dJ10_bitCount_3 : decode cJ10_bitCount 3 = .ok (.iushr, 1) := dk_124 (dk_at dksJ10_bitCount_0 3 rfl rfl)
theorem dJ10_bitCount_4 : decode cJ10_bitCount 4 = .ok (.ldc_w 265, 3) := dk_19 1 9 (dk_at dksJ10_bitCount_0 4 rfl rfl)
theorem dJ10_bitCount_7 : decode cJ10_bitCount 7 = .ok (.iand, 1) := dk_126 (dk_at dksJ10_bitCount_0 7 rfl rfl)
theorem dJ10_bitCount_8 : decode cJ10_bitCount 8 = .ok (.isub, 1) := dk_100 (dk_at dksJ10_bitCount_0 8 rfl rfl)
theorem dJ10_bitCount_9 : decode cJ10_bitCount 9 = .ok (.istore_n 0, 1) := dk_59 (dk_at dksJ10_bitCount_0 9 rfl rfl)
theorem dJ10_bitCount_10 : decode cJ10_bitCount 10 = .ok (.iload_n 0, 1) := dk_26 (dk_at dksJ10_bitCount_0 10 rfl rfl)
theorem dJ10_bitCount_11 : decode cJ10_bitCount 11 = .ok (.ldc_w 266, 3) := dk_19 1 10 (dk_at dksJ10_bitCount_0 11 rfl rfl)
theorem dJ10_bitCount_14 : decode cJ10_bitCount 14 = .ok (.iand, 1) := dk_126 (dk_at dksJ10_bitCount_0 14 rfl rfl)
theorem dJ10_bitCount_15 : decode cJ10_bitCount 15 = .ok (.iload_n 0, 1) := dk_26 (dk_at dksJ10_bitCount_0 15 rfl rfl)
theorem dJ10_bitCount_16 : decode cJ10_bitCount 16 = .ok (.iconst 2, 1) := dk_5 (dk_at dksJ10_bitCount_0 16 rfl rfl)
theorem dJ10_bitCount_17 : decode cJ10_bitCount 17 = .ok (.iushr, 1) := dk_124 (dk_at dksJ10_bitCount_0 17 rfl rfl)
theorem dJ10_bitCount_18 : decode cJ10_bitCount 18 = .ok (.ldc_w 266, 3) := dk_19 1 10 (dk_at dksJ10_bitCount_0 18 rfl rfl)
theorem dJ10_bitCount_21 : decode cJ10_bitCount 21 = .ok (.iand, 1) := dk_126 (dk_at dksJ10_bitCount_0 21 rfl rfl)
theorem dJ10_bitCount_22 : decode cJ10_bitCount 22 = .ok (.iadd, 1) := dk_96 (dk_at dksJ10_bitCount_0 22 rfl rfl)
theorem dJ10_bitCount_23 : decode cJ10_bitCount 23 = .ok (.istore_n 0, 1) := dk_59 (dk_at dksJ10_bitCount_0 23 rfl rfl)
theorem dJ10_bitCount_24 : decode cJ10_bitCount 24 = .ok (.iload_n 0, 1) := dk_26 (dk_at dksJ10_bitCount_1 0 rfl rfl)
theorem dJ10_bitCount_25 : decode cJ10_bitCount 25 = .ok (.iload_n 0, 1) := dk_26 (dk_at dksJ10_bitCount_1 1 rfl rfl)
theorem dJ10_bitCount_26 : decode cJ10_bitCount 26 = .ok (.iconst 4, 1) := dk_7 (dk_at dksJ10_bitCount_1 2 rfl rfl)
theorem dJ10_bitCount_27 : decode cJ10_bitCount 27 = .ok (.iushr, 1) := dk_124 (dk_at dksJ10_bitCount_1 3 rfl rfl)
theorem dJ10_bitCount_28 : decode cJ10_bitCount 28 = .ok (.iadd, 1) := dk_96 (dk_at dksJ10_bitCount_1 4 rfl rfl)
theorem dJ10_bitCount_29 : decode cJ10_bitCount 29 = .ok (.ldc_w 267, 3) := dk_19 1 11 (dk_at dksJ10_bitCount_1 5 rfl rfl)
theorem dJ10_bitCount_32 : decode cJ10_bitCount 32 = .ok (.iand, 1) := dk_126 (dk_at dksJ10_bitCount_1 8 rfl rfl)
theorem dJ10_bitCount_33 : decode cJ10_bitCount 33 = .ok (.istore_n 0, 1) := dk_59 (dk_at dksJ10_bitCount_1 9 rfl rfl)
theorem dJ10_bitCount_34 : decode cJ10_bitCount 34 = .ok (.iload_n 0, 1) := dk_26 (dk_at dksJ10_bitCount_1 10 rfl rfl)
theorem dJ10_bitCount_35 : decode cJ10_bitCount 35 = .ok (.iload_n 0, 1) := dk_26 (dk_at dksJ10_bitCount_1 11 rfl rfl)
theorem dJ10_bitCount_36 : decode cJ10_bitCount 36 = .ok (.bipush 8, 2) := dk_16 8 (dk_at dksJ10_bitCount_1 12 rfl rfl)
theorem dJ10_bitCount_38 : decode cJ10_bitCount 38 = .ok (.iushr, 1) := dk_124 (dk_at dksJ10_bitCount_1 14 rfl rfl)
theorem dJ10_bitCount_39 : decode cJ10_bitCount 39 = .ok (.iadd, 1) := dk_96 (dk_at dksJ10_bitCount_1 15 rfl rfl)
theorem dJ10_bitCount_40 : decode cJ10_bitCount 40 = .ok (.istore_n 0, 1) := dk_59 (dk_at dksJ10_bitCount_1 16 rfl rfl)
theorem dJ10_bitCount_41 : decode cJ10_bitCount 41 = .ok (.iload_n 0, 1) := dk_26 (dk_at dksJ10_bitCount_1 17 rfl rfl)
theorem dJ10_bitCount_42 : decode cJ10_bitCount 42 = .ok (.iload_n 0, 1) := dk_26 (dk_at dksJ10_bitCount_1 18 rfl rfl)
theorem dJ10_bitCount_43 : decode cJ10_bitCount 43 = .ok (.bipush 16, 2) := dk_16 16 (dk_at dksJ10_bitCount_1 19 rfl rfl)
theorem dJ10_bitCount_45 : decode cJ10_bitCount 45 = .ok (.iushr, 1) := dk_124 (dk_at dksJ10_bitCount_1 21 rfl rfl)
theorem dJ10_bitCount_46 : decode cJ10_bitCount 46 = .ok (.iadd, 1) := dk_96 (dk_at dksJ10_bitCount_1 22 rfl rfl)
theorem dJ10_bitCount_47 : decode cJ10_bitCount 47 = .ok (.istore_n 0, 1) := dk_59 (dk_at dksJ10_bitCount_1 23 rfl rfl)
theorem dJ10_bitCount_48 : decode cJ10_bitCount 48 = .ok (.iload_n 0, 1) := dk_26 (dk_at dksJ10_bitCount_2 0 rfl rfl)
theorem dJ10_bitCount_49 : decode cJ10_bitCount 49 = .ok (.bipush 63, 2) := dk_16 63 (dk_at dksJ10_bitCount_2 1 rfl rfl)
theorem dJ10_bitCount_51 : decode cJ10_bitCount 51 = .ok (.iand, 1) := dk_126 (dk_at dksJ10_bitCount_2 3 rfl rfl)
theorem dJ10_bitCount_52 : decode cJ10_bitCount 52 = .ok (.ireturn, 1) := dk_172 (dk_at dksJ10_bitCount_2 4 rfl rfl)
theorem q108 : (Jvm.Cond.initialized "java/lang/Integer") ∈ lw_all := lw_g (lw_at lw_m1 20 rfl) rfl
theorem q919 : (Jvm.Cond.static ({ cls := "java/lang/Integer", name := "bitCount", desc := "(I)I" } : Jvm.MethodName)) ∈ lw_all := lw_g (lw_at lw_m4 111 rfl) rfl
theorem q920 : (Jvm.Cond.code ({ cls := "java/lang/Integer", name := "bitCount", desc := "(I)I" } : Jvm.MethodName) prog_15_method_49_code (1 : Nat) (Option.some Jvm.ClassFile.FieldType.int)) ∈ lw_all := lw_g (lw_at lw_m4 112 rfl) rfl
theorem q921 : (Jvm.Cond.constant "java/lang/Integer" (265 : Nat) (1431655765 : Int32)) ∈ lw_all := lw_g (lw_at lw_m4 113 rfl) rfl
theorem q922 : (Jvm.Cond.constant "java/lang/Integer" (266 : Nat) (858993459 : Int32)) ∈ lw_all := lw_g (lw_at lw_m4 114 rfl) rfl
theorem q923 : (Jvm.Cond.constant "java/lang/Integer" (267 : Nat) (252645135 : Int32)) ∈ lw_all := lw_g (lw_at lw_m4 115 rfl) rfl

/-! java/lang/Object -/
set_option maxRecDepth 100000
def RJ11 : String := "java/lang/Object"
abbrev cJ11_init : ByteArray := object_method_1_code
def yJ11_init : MethodName := ⟨RJ11, "<init>", "()V"⟩
theorem dJ11_init_0 : decode cJ11_init 0 = .ok (.return_, 1) := by decide +kernel
theorem q115 : (Jvm.Cond.instanceMethod ({ cls := "java/lang/Object", name := "<init>", desc := "()V" } : Jvm.MethodName)) ∈ lw_all := lw_g (lw_at lw_m1 27 rfl) rfl
theorem q116 : (Jvm.Cond.code ({ cls := "java/lang/Object", name := "<init>", desc := "()V" } : Jvm.MethodName) object_method_1_code (1 : Nat) (Option.none : Option Jvm.ClassFile.FieldType)) ∈ lw_all := lw_g (lw_at lw_m1 28 rfl) rfl

/-! SnowForSummer$Town -/
set_option maxRecDepth 100000
def RX2 : String := "SnowForSummer$Town"
def TX2 : u_T := fun k => match k with
  | 0 => ("SnowForSummer$Town", "snow", "[I", true)
  | 1 => ("SnowForSummer$Town", "path", "[I", true)
  | 2 => ("SnowForSummer$Town", "debt", "[I", true)
  | 3 => ("SnowForSummer$Town", "newly", "[I", true)
  | 4 => ("SnowForSummer$Town", "day", "I", false)
  | _ => ("SnowForSummer$Town", "slid", "I", false)
def tyX2 : Nat → FieldType := fun k => match k with
  | 0 => .array .int
  | 1 => .array .int
  | 2 => .array .int
  | 3 => .array .int
  | 4 => .int
  | _ => .int
abbrev wsX20 : List Cond := u_ws RX2 TX2 6
theorem nmX2 : ∀ a, a < 6 → ∀ b, b < 6 → a ≠ b → (TX2 a).2.1 ≠ (TX2 b).2.1 := by decide +kernel
theorem tyX2_ok : ∀ k, k < 6 → parseFieldDescriptor (TX2 k).2.2.1 = some (tyX2 k) := by decide +kernel
abbrev cX2_init : ByteArray := prog_7_method_1_code
def yX2_init : MethodName := ⟨RX2, "<init>", "()V"⟩
def dkwX2_init_1 : List UInt8 := [188, 10, 181, 0, 18, 42, 16, 7, 188, 10, 181, 0, 21, 177]
abbrev dktX2_init_1 : List UInt8 := dkwX2_init_1 ++ []
def dkwX2_init_0 : List UInt8 := [42, 183, 0, 3, 42, 16, 14, 188, 10, 181, 0, 9, 42, 16, 7, 188, 10, 181, 0, 15, 42, 16, 49]
abbrev dktX2_init_0 : List UInt8 := dkwX2_init_0 ++ dktX2_init_1
theorem dksX2_init_0 : cX2_init.data.toList.drop 0 = dktX2_init_0 := by decide +kernel
theorem dksX2_init_1 : cX2_init.data.toList.drop 23 = dktX2_init_1 := dk_seg dksX2_init_0 23 rfl rfl
theorem dX2_init_0 : decode cX2_init 0 = .ok (.aload_n 0, 1) := dk_42 (dk_at dksX2_init_0 0 rfl rfl)
theorem dX2_init_1 : decode cX2_init 1 = .ok (.invokespecial 3, 3) := dk_183 0 3 (dk_at dksX2_init_0 1 rfl rfl)
theorem dX2_init_4 : decode cX2_init 4 = .ok (.aload_n 0, 1) := dk_42 (dk_at dksX2_init_0 4 rfl rfl)
theorem dX2_init_5 : decode cX2_init 5 = .ok (.bipush 14, 2) := dk_16 14 (dk_at dksX2_init_0 5 rfl rfl)
theorem dX2_init_7 : decode cX2_init 7 = .ok (.newarray .int, 2) := dk_188_10 (dk_at dksX2_init_0 7 rfl rfl)
theorem dX2_init_9 : decode cX2_init 9 = .ok (.putfield 9, 3) := dk_181 0 9 (dk_at dksX2_init_0 9 rfl rfl)
theorem dX2_init_12 : decode cX2_init 12 = .ok (.aload_n 0, 1) := dk_42 (dk_at dksX2_init_0 12 rfl rfl)
theorem dX2_init_13 : decode cX2_init 13 = .ok (.bipush 7, 2) := dk_16 7 (dk_at dksX2_init_0 13 rfl rfl)
theorem dX2_init_15 : decode cX2_init 15 = .ok (.newarray .int, 2) := dk_188_10 (dk_at dksX2_init_0 15 rfl rfl)
theorem dX2_init_17 : decode cX2_init 17 = .ok (.putfield 15, 3) := dk_181 0 15 (dk_at dksX2_init_0 17 rfl rfl)
theorem dX2_init_20 : decode cX2_init 20 = .ok (.aload_n 0, 1) := dk_42 (dk_at dksX2_init_0 20 rfl rfl)
theorem dX2_init_21 : decode cX2_init 21 = .ok (.bipush 49, 2) := dk_16 49 (dk_at dksX2_init_0 21 rfl rfl)
theorem dX2_init_23 : decode cX2_init 23 = .ok (.newarray .int, 2) := dk_188_10 (dk_at dksX2_init_1 0 rfl rfl)
theorem dX2_init_25 : decode cX2_init 25 = .ok (.putfield 18, 3) := dk_181 0 18 (dk_at dksX2_init_1 2 rfl rfl)
theorem dX2_init_28 : decode cX2_init 28 = .ok (.aload_n 0, 1) := dk_42 (dk_at dksX2_init_1 5 rfl rfl)
theorem dX2_init_29 : decode cX2_init 29 = .ok (.bipush 7, 2) := dk_16 7 (dk_at dksX2_init_1 6 rfl rfl)
theorem dX2_init_31 : decode cX2_init 31 = .ok (.newarray .int, 2) := dk_188_10 (dk_at dksX2_init_1 8 rfl rfl)
theorem dX2_init_33 : decode cX2_init 33 = .ok (.putfield 21, 3) := dk_181 0 21 (dk_at dksX2_init_1 10 rfl rfl)
theorem dX2_init_36 : decode cX2_init 36 = .ok (.return_, 1) := dk_177 (dk_at dksX2_init_1 13 rfl rfl)
abbrev cX2_becomes : ByteArray := prog_7_method_2_code
def yX2_becomes : MethodName := ⟨RX2, "becomes", "(LSnowForSummer$Town;)V"⟩
def dkwX2_becomes_2 : List UInt8 := [180, 0, 30, 181, 0, 30, 42, 182, 0, 34, 177]
abbrev dktX2_becomes_2 : List UInt8 := dkwX2_becomes_2 ++ []
def dkwX2_becomes_1 : List UInt8 := [3, 16, 7, 184, 0, 24, 43, 180, 0, 18, 3, 42, 180, 0, 18, 3, 16, 49, 184, 0, 24, 42, 43]
abbrev dktX2_becomes_1 : List UInt8 := dkwX2_becomes_1 ++ dktX2_becomes_2
def dkwX2_becomes_0 : List UInt8 := [43, 180, 0, 9, 3, 42, 180, 0, 9, 3, 16, 14, 184, 0, 24, 43, 180, 0, 15, 3, 42, 180, 0, 15]
abbrev dktX2_becomes_0 : List UInt8 := dkwX2_becomes_0 ++ dktX2_becomes_1
theorem dksX2_becomes_0 : cX2_becomes.data.toList.drop 0 = dktX2_becomes_0 := by decide +kernel
theorem dksX2_becomes_1 : cX2_becomes.data.toList.drop 24 = dktX2_becomes_1 := dk_seg dksX2_becomes_0 24 rfl rfl
theorem dksX2_becomes_2 : cX2_becomes.data.toList.drop 47 = dktX2_becomes_2 := dk_seg dksX2_becomes_1 23 rfl rfl
theorem dX2_becomes_0 : decode cX2_becomes 0 = .ok (.aload_n 1, 1) := dk_43 (dk_at dksX2_becomes_0 0 rfl rfl)
theorem dX2_becomes_1 : decode cX2_becomes 1 = .ok (.getfield 9, 3) := dk_180 0 9 (dk_at dksX2_becomes_0 1 rfl rfl)
theorem dX2_becomes_4 : decode cX2_becomes 4 = .ok (.iconst 0, 1) := dk_3 (dk_at dksX2_becomes_0 4 rfl rfl)
theorem dX2_becomes_5 : decode cX2_becomes 5 = .ok (.aload_n 0, 1) := dk_42 (dk_at dksX2_becomes_0 5 rfl rfl)
theorem dX2_becomes_6 : decode cX2_becomes 6 = .ok (.getfield 9, 3) := dk_180 0 9 (dk_at dksX2_becomes_0 6 rfl rfl)
theorem dX2_becomes_9 : decode cX2_becomes 9 = .ok (.iconst 0, 1) := dk_3 (dk_at dksX2_becomes_0 9 rfl rfl)
theorem dX2_becomes_10 : decode cX2_becomes 10 = .ok (.bipush 14, 2) := dk_16 14 (dk_at dksX2_becomes_0 10 rfl rfl)
theorem dX2_becomes_12 : decode cX2_becomes 12 = .ok (.invokestatic 24, 3) := dk_184 0 24 (dk_at dksX2_becomes_0 12 rfl rfl)
theorem dX2_becomes_15 : decode cX2_becomes 15 = .ok (.aload_n 1, 1) := dk_43 (dk_at dksX2_becomes_0 15 rfl rfl)
theorem dX2_becomes_16 : decode cX2_becomes 16 = .ok (.getfield 15, 3) := dk_180 0 15 (dk_at dksX2_becomes_0 16 rfl rfl)
theorem dX2_becomes_19 : decode cX2_becomes 19 = .ok (.iconst 0, 1) := dk_3 (dk_at dksX2_becomes_0 19 rfl rfl)
theorem dX2_becomes_20 : decode cX2_becomes 20 = .ok (.aload_n 0, 1) := dk_42 (dk_at dksX2_becomes_0 20 rfl rfl)
theorem dX2_becomes_21 : decode cX2_becomes 21 = .ok (.getfield 15, 3) := dk_180 0 15 (dk_at dksX2_becomes_0 21 rfl rfl)
theorem dX2_becomes_24 : decode cX2_becomes 24 = .ok (.iconst 0, 1) := dk_3 (dk_at dksX2_becomes_1 0 rfl rfl)
theorem dX2_becomes_25 : decode cX2_becomes 25 = .ok (.bipush 7, 2) := dk_16 7 (dk_at dksX2_becomes_1 1 rfl rfl)
theorem dX2_becomes_27 : decode cX2_becomes 27 = .ok (.invokestatic 24, 3) := dk_184 0 24 (dk_at dksX2_becomes_1 3 rfl rfl)
theorem dX2_becomes_30 : decode cX2_becomes 30 = .ok (.aload_n 1, 1) := dk_43 (dk_at dksX2_becomes_1 6 rfl rfl)
theorem dX2_becomes_31 : decode cX2_becomes 31 = .ok (.getfield 18, 3) := dk_180 0 18 (dk_at dksX2_becomes_1 7 rfl rfl)
theorem dX2_becomes_34 : decode cX2_becomes 34 = .ok (.iconst 0, 1) := dk_3 (dk_at dksX2_becomes_1 10 rfl rfl)
theorem dX2_becomes_35 : decode cX2_becomes 35 = .ok (.aload_n 0, 1) := dk_42 (dk_at dksX2_becomes_1 11 rfl rfl)
theorem dX2_becomes_36 : decode cX2_becomes 36 = .ok (.getfield 18, 3) := dk_180 0 18 (dk_at dksX2_becomes_1 12 rfl rfl)
theorem dX2_becomes_39 : decode cX2_becomes 39 = .ok (.iconst 0, 1) := dk_3 (dk_at dksX2_becomes_1 15 rfl rfl)
theorem dX2_becomes_40 : decode cX2_becomes 40 = .ok (.bipush 49, 2) := dk_16 49 (dk_at dksX2_becomes_1 16 rfl rfl)
theorem dX2_becomes_42 : decode cX2_becomes 42 = .ok (.invokestatic 24, 3) := dk_184 0 24 (dk_at dksX2_becomes_1 18 rfl rfl)
theorem dX2_becomes_45 : decode cX2_becomes 45 = .ok (.aload_n 0, 1) := dk_42 (dk_at dksX2_becomes_1 21 rfl rfl)
theorem dX2_becomes_46 : decode cX2_becomes 46 = .ok (.aload_n 1, 1) := dk_43 (dk_at dksX2_becomes_1 22 rfl rfl)
theorem dX2_becomes_47 : decode cX2_becomes 47 = .ok (.getfield 30, 3) := dk_180 0 30 (dk_at dksX2_becomes_2 0 rfl rfl)
theorem dX2_becomes_50 : decode cX2_becomes 50 = .ok (.putfield 30, 3) := dk_181 0 30 (dk_at dksX2_becomes_2 3 rfl rfl)
theorem dX2_becomes_53 : decode cX2_becomes 53 = .ok (.aload_n 0, 1) := dk_42 (dk_at dksX2_becomes_2 6 rfl rfl)
theorem dX2_becomes_54 : decode cX2_becomes 54 = .ok (.invokevirtual 34, 3) := dk_182 0 34 (dk_at dksX2_becomes_2 7 rfl rfl)
theorem dX2_becomes_57 : decode cX2_becomes 57 = .ok (.return_, 1) := dk_177 (dk_at dksX2_becomes_2 10 rfl rfl)
abbrev cX2_counts : ByteArray := prog_7_method_3_code
def yX2_counts : MethodName := ⟨RX2, "counts", "()V"⟩
def dkwX2_counts_1 : List UInt8 := [181, 0, 37, 177]
abbrev dktX2_counts_1 : List UInt8 := dkwX2_counts_1 ++ []
def dkwX2_counts_0 : List UInt8 := [3, 60, 27, 16, 7, 162, 0, 16, 42, 180, 0, 21, 27, 3, 79, 132, 1, 1, 167, 255, 240, 42, 3]
abbrev dktX2_counts_0 : List UInt8 := dkwX2_counts_0 ++ dktX2_counts_1
theorem dksX2_counts_0 : cX2_counts.data.toList.drop 0 = dktX2_counts_0 := by decide +kernel
theorem dksX2_counts_1 : cX2_counts.data.toList.drop 23 = dktX2_counts_1 := dk_seg dksX2_counts_0 23 rfl rfl
theorem dX2_counts_0 : decode cX2_counts 0 = .ok (.iconst 0, 1) := dk_3 (dk_at dksX2_counts_0 0 rfl rfl)
theorem dX2_counts_1 : decode cX2_counts 1 = .ok (.istore_n 1, 1) := dk_60 (dk_at dksX2_counts_0 1 rfl rfl)
theorem dX2_counts_2 : decode cX2_counts 2 = .ok (.iload_n 1, 1) := dk_27 (dk_at dksX2_counts_0 2 rfl rfl)
theorem dX2_counts_3 : decode cX2_counts 3 = .ok (.bipush 7, 2) := dk_16 7 (dk_at dksX2_counts_0 3 rfl rfl)
theorem dX2_counts_5 : decode cX2_counts 5 = .ok (.if_icmp .ge 16, 3) := dk_162 0 16 (dk_at dksX2_counts_0 5 rfl rfl)
theorem dX2_counts_8 : decode cX2_counts 8 = .ok (.aload_n 0, 1) := dk_42 (dk_at dksX2_counts_0 8 rfl rfl)
theorem dX2_counts_9 : decode cX2_counts 9 = .ok (.getfield 21, 3) := dk_180 0 21 (dk_at dksX2_counts_0 9 rfl rfl)
theorem dX2_counts_12 : decode cX2_counts 12 = .ok (.iload_n 1, 1) := dk_27 (dk_at dksX2_counts_0 12 rfl rfl)
theorem dX2_counts_13 : decode cX2_counts 13 = .ok (.iconst 0, 1) := dk_3 (dk_at dksX2_counts_0 13 rfl rfl)
theorem dX2_counts_14 : decode cX2_counts 14 = .ok (.iastore, 1) := dk_79 (dk_at dksX2_counts_0 14 rfl rfl)
theorem dX2_counts_15 : decode cX2_counts 15 = .ok (.iinc 1 1, 3) := dk_132 1 1 (dk_at dksX2_counts_0 15 rfl rfl)
theorem dX2_counts_18 : decode cX2_counts 18 = .ok (.goto (-16), 3) := dk_167 255 240 (dk_at dksX2_counts_0 18 rfl rfl)
theorem dX2_counts_21 : decode cX2_counts 21 = .ok (.aload_n 0, 1) := dk_42 (dk_at dksX2_counts_0 21 rfl rfl)
theorem dX2_counts_22 : decode cX2_counts 22 = .ok (.iconst 0, 1) := dk_3 (dk_at dksX2_counts_0 22 rfl rfl)
theorem dX2_counts_23 : decode cX2_counts 23 = .ok (.putfield 37, 3) := dk_181 0 37 (dk_at dksX2_counts_1 0 rfl rfl)
theorem dX2_counts_26 : decode cX2_counts 26 = .ok (.return_, 1) := dk_177 (dk_at dksX2_counts_1 3 rfl rfl)
abbrev cX2_newlyAll : ByteArray := prog_7_method_6_code
def yX2_newlyAll : MethodName := ⟨RX2, "newlyAll", "()I"⟩
def dkwX2_newlyAll_1 : List UInt8 := [54, 5, 27, 21, 5, 96, 60, 132, 4, 1, 167, 255, 236, 27, 172]
abbrev dktX2_newlyAll_1 : List UInt8 := dkwX2_newlyAll_1 ++ []
def dkwX2_newlyAll_0 : List UInt8 := [3, 60, 42, 180, 0, 21, 77, 44, 190, 62, 3, 54, 4, 21, 4, 29, 162, 0, 20, 44, 21, 4, 46]
abbrev dktX2_newlyAll_0 : List UInt8 := dkwX2_newlyAll_0 ++ dktX2_newlyAll_1
theorem dksX2_newlyAll_0 : cX2_newlyAll.data.toList.drop 0 = dktX2_newlyAll_0 := by decide +kernel
theorem dksX2_newlyAll_1 : cX2_newlyAll.data.toList.drop 23 = dktX2_newlyAll_1 := dk_seg dksX2_newlyAll_0 23 rfl rfl
theorem dX2_newlyAll_0 : decode cX2_newlyAll 0 = .ok (.iconst 0, 1) := dk_3 (dk_at dksX2_newlyAll_0 0 rfl rfl)
theorem dX2_newlyAll_1 : decode cX2_newlyAll 1 = .ok (.istore_n 1, 1) := dk_60 (dk_at dksX2_newlyAll_0 1 rfl rfl)
theorem dX2_newlyAll_2 : decode cX2_newlyAll 2 = .ok (.aload_n 0, 1) := dk_42 (dk_at dksX2_newlyAll_0 2 rfl rfl)
theorem dX2_newlyAll_3 : decode cX2_newlyAll 3 = .ok (.getfield 21, 3) := dk_180 0 21 (dk_at dksX2_newlyAll_0 3 rfl rfl)
theorem dX2_newlyAll_6 : decode cX2_newlyAll 6 = .ok (.astore_n 2, 1) := dk_77 (dk_at dksX2_newlyAll_0 6 rfl rfl)
theorem dX2_newlyAll_7 : decode cX2_newlyAll 7 = .ok (.aload_n 2, 1) := dk_44 (dk_at dksX2_newlyAll_0 7 rfl rfl)
theorem dX2_newlyAll_8 : decode cX2_newlyAll 8 = .ok (.arraylength, 1) := dk_190 (dk_at dksX2_newlyAll_0 8 rfl rfl)
theorem dX2_newlyAll_9 : decode cX2_newlyAll 9 = .ok (.istore_n 3, 1) := dk_62 (dk_at dksX2_newlyAll_0 9 rfl rfl)
theorem dX2_newlyAll_10 : decode cX2_newlyAll 10 = .ok (.iconst 0, 1) := dk_3 (dk_at dksX2_newlyAll_0 10 rfl rfl)
theorem dX2_newlyAll_11 : decode cX2_newlyAll 11 = .ok (.istore 4, 2) := dk_54 4 (dk_at dksX2_newlyAll_0 11 rfl rfl)
theorem dX2_newlyAll_13 : decode cX2_newlyAll 13 = .ok (.iload 4, 2) := dk_21 4 (dk_at dksX2_newlyAll_0 13 rfl rfl)
theorem dX2_newlyAll_15 : decode cX2_newlyAll 15 = .ok (.iload_n 3, 1) := dk_29 (dk_at dksX2_newlyAll_0 15 rfl rfl)
theorem dX2_newlyAll_16 : decode cX2_newlyAll 16 = .ok (.if_icmp .ge 20, 3) := dk_162 0 20 (dk_at dksX2_newlyAll_0 16 rfl rfl)
theorem dX2_newlyAll_19 : decode cX2_newlyAll 19 = .ok (.aload_n 2, 1) := dk_44 (dk_at dksX2_newlyAll_0 19 rfl rfl)
theorem dX2_newlyAll_20 : decode cX2_newlyAll 20 = .ok (.iload 4, 2) := dk_21 4 (dk_at dksX2_newlyAll_0 20 rfl rfl)
theorem dX2_newlyAll_22 : decode cX2_newlyAll 22 = .ok (.iaload, 1) := dk_46 (dk_at dksX2_newlyAll_0 22 rfl rfl)
theorem dX2_newlyAll_23 : decode cX2_newlyAll 23 = .ok (.istore 5, 2) := dk_54 5 (dk_at dksX2_newlyAll_1 0 rfl rfl)
theorem dX2_newlyAll_25 : decode cX2_newlyAll 25 = .ok (.iload_n 1, 1) := dk_27 (dk_at dksX2_newlyAll_1 2 rfl rfl)
theorem dX2_newlyAll_26 : decode cX2_newlyAll 26 = .ok (.iload 5, 2) := dk_21 5 (dk_at dksX2_newlyAll_1 3 rfl rfl)
theorem dX2_newlyAll_28 : decode cX2_newlyAll 28 = .ok (.iadd, 1) := dk_96 (dk_at dksX2_newlyAll_1 5 rfl rfl)
theorem dX2_newlyAll_29 : decode cX2_newlyAll 29 = .ok (.istore_n 1, 1) := dk_60 (dk_at dksX2_newlyAll_1 6 rfl rfl)
theorem dX2_newlyAll_30 : decode cX2_newlyAll 30 = .ok (.iinc 4 1, 3) := dk_132 4 1 (dk_at dksX2_newlyAll_1 7 rfl rfl)
theorem dX2_newlyAll_33 : decode cX2_newlyAll 33 = .ok (.goto (-20), 3) := dk_167 255 236 (dk_at dksX2_newlyAll_1 10 rfl rfl)
theorem dX2_newlyAll_36 : decode cX2_newlyAll 36 = .ok (.iload_n 1, 1) := dk_27 (dk_at dksX2_newlyAll_1 13 rfl rfl)
theorem dX2_newlyAll_37 : decode cX2_newlyAll 37 = .ok (.ireturn, 1) := dk_172 (dk_at dksX2_newlyAll_1 14 rfl rfl)
abbrev cX2_paths : ByteArray := prog_7_method_7_code
def yX2_paths : MethodName := ⟨RX2, "paths", "()I"⟩
def dkwX2_paths_1 : List UInt8 := [54, 5, 27, 21, 5, 96, 60, 132, 4, 1, 167, 255, 236, 27, 172]
abbrev dktX2_paths_1 : List UInt8 := dkwX2_paths_1 ++ []
def dkwX2_paths_0 : List UInt8 := [3, 60, 42, 180, 0, 15, 77, 44, 190, 62, 3, 54, 4, 21, 4, 29, 162, 0, 20, 44, 21, 4, 46]
abbrev dktX2_paths_0 : List UInt8 := dkwX2_paths_0 ++ dktX2_paths_1
theorem dksX2_paths_0 : cX2_paths.data.toList.drop 0 = dktX2_paths_0 := by decide +kernel
theorem dksX2_paths_1 : cX2_paths.data.toList.drop 23 = dktX2_paths_1 := dk_seg dksX2_paths_0 23 rfl rfl
theorem dX2_paths_0 : decode cX2_paths 0 = .ok (.iconst 0, 1) := dk_3 (dk_at dksX2_paths_0 0 rfl rfl)
theorem dX2_paths_1 : decode cX2_paths 1 = .ok (.istore_n 1, 1) := dk_60 (dk_at dksX2_paths_0 1 rfl rfl)
theorem dX2_paths_2 : decode cX2_paths 2 = .ok (.aload_n 0, 1) := dk_42 (dk_at dksX2_paths_0 2 rfl rfl)
theorem dX2_paths_3 : decode cX2_paths 3 = .ok (.getfield 15, 3) := dk_180 0 15 (dk_at dksX2_paths_0 3 rfl rfl)
theorem dX2_paths_6 : decode cX2_paths 6 = .ok (.astore_n 2, 1) := dk_77 (dk_at dksX2_paths_0 6 rfl rfl)
theorem dX2_paths_7 : decode cX2_paths 7 = .ok (.aload_n 2, 1) := dk_44 (dk_at dksX2_paths_0 7 rfl rfl)
theorem dX2_paths_8 : decode cX2_paths 8 = .ok (.arraylength, 1) := dk_190 (dk_at dksX2_paths_0 8 rfl rfl)
theorem dX2_paths_9 : decode cX2_paths 9 = .ok (.istore_n 3, 1) := dk_62 (dk_at dksX2_paths_0 9 rfl rfl)
theorem dX2_paths_10 : decode cX2_paths 10 = .ok (.iconst 0, 1) := dk_3 (dk_at dksX2_paths_0 10 rfl rfl)
theorem dX2_paths_11 : decode cX2_paths 11 = .ok (.istore 4, 2) := dk_54 4 (dk_at dksX2_paths_0 11 rfl rfl)
theorem dX2_paths_13 : decode cX2_paths 13 = .ok (.iload 4, 2) := dk_21 4 (dk_at dksX2_paths_0 13 rfl rfl)
theorem dX2_paths_15 : decode cX2_paths 15 = .ok (.iload_n 3, 1) := dk_29 (dk_at dksX2_paths_0 15 rfl rfl)
theorem dX2_paths_16 : decode cX2_paths 16 = .ok (.if_icmp .ge 20, 3) := dk_162 0 20 (dk_at dksX2_paths_0 16 rfl rfl)
theorem dX2_paths_19 : decode cX2_paths 19 = .ok (.aload_n 2, 1) := dk_44 (dk_at dksX2_paths_0 19 rfl rfl)
theorem dX2_paths_20 : decode cX2_paths 20 = .ok (.iload 4, 2) := dk_21 4 (dk_at dksX2_paths_0 20 rfl rfl)
theorem dX2_paths_22 : decode cX2_paths 22 = .ok (.iaload, 1) := dk_46 (dk_at dksX2_paths_0 22 rfl rfl)
theorem dX2_paths_23 : decode cX2_paths 23 = .ok (.istore 5, 2) := dk_54 5 (dk_at dksX2_paths_1 0 rfl rfl)
theorem dX2_paths_25 : decode cX2_paths 25 = .ok (.iload_n 1, 1) := dk_27 (dk_at dksX2_paths_1 2 rfl rfl)
theorem dX2_paths_26 : decode cX2_paths 26 = .ok (.iload 5, 2) := dk_21 5 (dk_at dksX2_paths_1 3 rfl rfl)
theorem dX2_paths_28 : decode cX2_paths 28 = .ok (.iadd, 1) := dk_96 (dk_at dksX2_paths_1 5 rfl rfl)
theorem dX2_paths_29 : decode cX2_paths 29 = .ok (.istore_n 1, 1) := dk_60 (dk_at dksX2_paths_1 6 rfl rfl)
theorem dX2_paths_30 : decode cX2_paths 30 = .ok (.iinc 4 1, 3) := dk_132 4 1 (dk_at dksX2_paths_1 7 rfl rfl)
theorem dX2_paths_33 : decode cX2_paths 33 = .ok (.goto (-20), 3) := dk_167 255 236 (dk_at dksX2_paths_1 10 rfl rfl)
theorem dX2_paths_36 : decode cX2_paths 36 = .ok (.iload_n 1, 1) := dk_27 (dk_at dksX2_paths_1 13 rfl rfl)
theorem dX2_paths_37 : decode cX2_paths 37 = .ok (.ireturn, 1) := dk_172 (dk_at dksX2_paths_1 14 rfl rfl)
abbrev cX2_owed : ByteArray := prog_7_method_5_code
def yX2_owed : MethodName := ⟨RX2, "owed", "(I)I"⟩
def dkwX2_owed_1 : List UInt8 := [132, 3, 1, 167, 255, 233, 28, 172]
abbrev dktX2_owed_1 : List UInt8 := dkwX2_owed_1 ++ []
def dkwX2_owed_0 : List UInt8 := [3, 61, 3, 62, 29, 16, 7, 162, 0, 23, 28, 42, 180, 0, 18, 16, 7, 29, 104, 27, 96, 46, 96, 61]
abbrev dktX2_owed_0 : List UInt8 := dkwX2_owed_0 ++ dktX2_owed_1
theorem dksX2_owed_0 : cX2_owed.data.toList.drop 0 = dktX2_owed_0 := by decide +kernel
theorem dksX2_owed_1 : cX2_owed.data.toList.drop 24 = dktX2_owed_1 := dk_seg dksX2_owed_0 24 rfl rfl
theorem dX2_owed_0 : decode cX2_owed 0 = .ok (.iconst 0, 1) := dk_3 (dk_at dksX2_owed_0 0 rfl rfl)
theorem dX2_owed_1 : decode cX2_owed 1 = .ok (.istore_n 2, 1) := dk_61 (dk_at dksX2_owed_0 1 rfl rfl)
theorem dX2_owed_2 : decode cX2_owed 2 = .ok (.iconst 0, 1) := dk_3 (dk_at dksX2_owed_0 2 rfl rfl)
theorem dX2_owed_3 : decode cX2_owed 3 = .ok (.istore_n 3, 1) := dk_62 (dk_at dksX2_owed_0 3 rfl rfl)
theorem dX2_owed_4 : decode cX2_owed 4 = .ok (.iload_n 3, 1) := dk_29 (dk_at dksX2_owed_0 4 rfl rfl)
theorem dX2_owed_5 : decode cX2_owed 5 = .ok (.bipush 7, 2) := dk_16 7 (dk_at dksX2_owed_0 5 rfl rfl)
theorem dX2_owed_7 : decode cX2_owed 7 = .ok (.if_icmp .ge 23, 3) := dk_162 0 23 (dk_at dksX2_owed_0 7 rfl rfl)
theorem dX2_owed_10 : decode cX2_owed 10 = .ok (.iload_n 2, 1) := dk_28 (dk_at dksX2_owed_0 10 rfl rfl)
theorem dX2_owed_11 : decode cX2_owed 11 = .ok (.aload_n 0, 1) := dk_42 (dk_at dksX2_owed_0 11 rfl rfl)
theorem dX2_owed_12 : decode cX2_owed 12 = .ok (.getfield 18, 3) := dk_180 0 18 (dk_at dksX2_owed_0 12 rfl rfl)
theorem dX2_owed_15 : decode cX2_owed 15 = .ok (.bipush 7, 2) := dk_16 7 (dk_at dksX2_owed_0 15 rfl rfl)
theorem dX2_owed_17 : decode cX2_owed 17 = .ok (.iload_n 3, 1) := dk_29 (dk_at dksX2_owed_0 17 rfl rfl)
theorem dX2_owed_18 : decode cX2_owed 18 = .ok (.imul, 1) := dk_104 (dk_at dksX2_owed_0 18 rfl rfl)
theorem dX2_owed_19 : decode cX2_owed 19 = .ok (.iload_n 1, 1) := dk_27 (dk_at dksX2_owed_0 19 rfl rfl)
theorem dX2_owed_20 : decode cX2_owed 20 = .ok (.iadd, 1) := dk_96 (dk_at dksX2_owed_0 20 rfl rfl)
theorem dX2_owed_21 : decode cX2_owed 21 = .ok (.iaload, 1) := dk_46 (dk_at dksX2_owed_0 21 rfl rfl)
theorem dX2_owed_22 : decode cX2_owed 22 = .ok (.iadd, 1) := dk_96 (dk_at dksX2_owed_0 22 rfl rfl)
theorem dX2_owed_23 : decode cX2_owed 23 = .ok (.istore_n 2, 1) := dk_61 (dk_at dksX2_owed_0 23 rfl rfl)
theorem dX2_owed_24 : decode cX2_owed 24 = .ok (.iinc 3 1, 3) := dk_132 3 1 (dk_at dksX2_owed_1 0 rfl rfl)
theorem dX2_owed_27 : decode cX2_owed 27 = .ok (.goto (-23), 3) := dk_167 255 233 (dk_at dksX2_owed_1 3 rfl rfl)
theorem dX2_owed_30 : decode cX2_owed 30 = .ok (.iload_n 2, 1) := dk_28 (dk_at dksX2_owed_1 6 rfl rfl)
theorem dX2_owed_31 : decode cX2_owed 31 = .ok (.ireturn, 1) := dk_172 (dk_at dksX2_owed_1 7 rfl rfl)
abbrev cX2_owes : ByteArray := prog_7_method_4_code
def yX2_owes : MethodName := ⟨RX2, "owes", "(I)I"⟩
def dkwX2_owes_1 : List UInt8 := [132, 3, 1, 167, 255, 233, 28, 172]
abbrev dktX2_owes_1 : List UInt8 := dkwX2_owes_1 ++ []
def dkwX2_owes_0 : List UInt8 := [3, 61, 3, 62, 29, 16, 7, 162, 0, 23, 28, 42, 180, 0, 18, 16, 7, 27, 104, 29, 96, 46, 96, 61]
abbrev dktX2_owes_0 : List UInt8 := dkwX2_owes_0 ++ dktX2_owes_1
theorem dksX2_owes_0 : cX2_owes.data.toList.drop 0 = dktX2_owes_0 := by decide +kernel
theorem dksX2_owes_1 : cX2_owes.data.toList.drop 24 = dktX2_owes_1 := dk_seg dksX2_owes_0 24 rfl rfl
theorem dX2_owes_0 : decode cX2_owes 0 = .ok (.iconst 0, 1) := dk_3 (dk_at dksX2_owes_0 0 rfl rfl)
theorem dX2_owes_1 : decode cX2_owes 1 = .ok (.istore_n 2, 1) := dk_61 (dk_at dksX2_owes_0 1 rfl rfl)
theorem dX2_owes_2 : decode cX2_owes 2 = .ok (.iconst 0, 1) := dk_3 (dk_at dksX2_owes_0 2 rfl rfl)
theorem dX2_owes_3 : decode cX2_owes 3 = .ok (.istore_n 3, 1) := dk_62 (dk_at dksX2_owes_0 3 rfl rfl)
theorem dX2_owes_4 : decode cX2_owes 4 = .ok (.iload_n 3, 1) := dk_29 (dk_at dksX2_owes_0 4 rfl rfl)
theorem dX2_owes_5 : decode cX2_owes 5 = .ok (.bipush 7, 2) := dk_16 7 (dk_at dksX2_owes_0 5 rfl rfl)
theorem dX2_owes_7 : decode cX2_owes 7 = .ok (.if_icmp .ge 23, 3) := dk_162 0 23 (dk_at dksX2_owes_0 7 rfl rfl)
theorem dX2_owes_10 : decode cX2_owes 10 = .ok (.iload_n 2, 1) := dk_28 (dk_at dksX2_owes_0 10 rfl rfl)
theorem dX2_owes_11 : decode cX2_owes 11 = .ok (.aload_n 0, 1) := dk_42 (dk_at dksX2_owes_0 11 rfl rfl)
theorem dX2_owes_12 : decode cX2_owes 12 = .ok (.getfield 18, 3) := dk_180 0 18 (dk_at dksX2_owes_0 12 rfl rfl)
theorem dX2_owes_15 : decode cX2_owes 15 = .ok (.bipush 7, 2) := dk_16 7 (dk_at dksX2_owes_0 15 rfl rfl)
theorem dX2_owes_17 : decode cX2_owes 17 = .ok (.iload_n 1, 1) := dk_27 (dk_at dksX2_owes_0 17 rfl rfl)
theorem dX2_owes_18 : decode cX2_owes 18 = .ok (.imul, 1) := dk_104 (dk_at dksX2_owes_0 18 rfl rfl)
theorem dX2_owes_19 : decode cX2_owes 19 = .ok (.iload_n 3, 1) := dk_29 (dk_at dksX2_owes_0 19 rfl rfl)
theorem dX2_owes_20 : decode cX2_owes 20 = .ok (.iadd, 1) := dk_96 (dk_at dksX2_owes_0 20 rfl rfl)
theorem dX2_owes_21 : decode cX2_owes 21 = .ok (.iaload, 1) := dk_46 (dk_at dksX2_owes_0 21 rfl rfl)
theorem dX2_owes_22 : decode cX2_owes 22 = .ok (.iadd, 1) := dk_96 (dk_at dksX2_owes_0 22 rfl rfl)
theorem dX2_owes_23 : decode cX2_owes 23 = .ok (.istore_n 2, 1) := dk_61 (dk_at dksX2_owes_0 23 rfl rfl)
theorem dX2_owes_24 : decode cX2_owes 24 = .ok (.iinc 3 1, 3) := dk_132 3 1 (dk_at dksX2_owes_1 0 rfl rfl)
theorem dX2_owes_27 : decode cX2_owes 27 = .ok (.goto (-23), 3) := dk_167 255 233 (dk_at dksX2_owes_1 3 rfl rfl)
theorem dX2_owes_30 : decode cX2_owes 30 = .ok (.iload_n 2, 1) := dk_28 (dk_at dksX2_owes_1 6 rfl rfl)
theorem dX2_owes_31 : decode cX2_owes 31 = .ok (.ireturn, 1) := dk_172 (dk_at dksX2_owes_1 7 rfl rfl)
abbrev cX2_debts : ByteArray := prog_7_method_9_code
def yX2_debts : MethodName := ⟨RX2, "debts", "()I"⟩
def dkwX2_debts_1 : List UInt8 := [54, 5, 27, 21, 5, 96, 60, 132, 4, 1, 167, 255, 236, 27, 172]
abbrev dktX2_debts_1 : List UInt8 := dkwX2_debts_1 ++ []
def dkwX2_debts_0 : List UInt8 := [3, 60, 42, 180, 0, 18, 77, 44, 190, 62, 3, 54, 4, 21, 4, 29, 162, 0, 20, 44, 21, 4, 46]
abbrev dktX2_debts_0 : List UInt8 := dkwX2_debts_0 ++ dktX2_debts_1
theorem dksX2_debts_0 : cX2_debts.data.toList.drop 0 = dktX2_debts_0 := by decide +kernel
theorem dksX2_debts_1 : cX2_debts.data.toList.drop 23 = dktX2_debts_1 := dk_seg dksX2_debts_0 23 rfl rfl
theorem dX2_debts_0 : decode cX2_debts 0 = .ok (.iconst 0, 1) := dk_3 (dk_at dksX2_debts_0 0 rfl rfl)
theorem dX2_debts_1 : decode cX2_debts 1 = .ok (.istore_n 1, 1) := dk_60 (dk_at dksX2_debts_0 1 rfl rfl)
theorem dX2_debts_2 : decode cX2_debts 2 = .ok (.aload_n 0, 1) := dk_42 (dk_at dksX2_debts_0 2 rfl rfl)
theorem dX2_debts_3 : decode cX2_debts 3 = .ok (.getfield 18, 3) := dk_180 0 18 (dk_at dksX2_debts_0 3 rfl rfl)
theorem dX2_debts_6 : decode cX2_debts 6 = .ok (.astore_n 2, 1) := dk_77 (dk_at dksX2_debts_0 6 rfl rfl)
theorem dX2_debts_7 : decode cX2_debts 7 = .ok (.aload_n 2, 1) := dk_44 (dk_at dksX2_debts_0 7 rfl rfl)
theorem dX2_debts_8 : decode cX2_debts 8 = .ok (.arraylength, 1) := dk_190 (dk_at dksX2_debts_0 8 rfl rfl)
theorem dX2_debts_9 : decode cX2_debts 9 = .ok (.istore_n 3, 1) := dk_62 (dk_at dksX2_debts_0 9 rfl rfl)
theorem dX2_debts_10 : decode cX2_debts 10 = .ok (.iconst 0, 1) := dk_3 (dk_at dksX2_debts_0 10 rfl rfl)
theorem dX2_debts_11 : decode cX2_debts 11 = .ok (.istore 4, 2) := dk_54 4 (dk_at dksX2_debts_0 11 rfl rfl)
theorem dX2_debts_13 : decode cX2_debts 13 = .ok (.iload 4, 2) := dk_21 4 (dk_at dksX2_debts_0 13 rfl rfl)
theorem dX2_debts_15 : decode cX2_debts 15 = .ok (.iload_n 3, 1) := dk_29 (dk_at dksX2_debts_0 15 rfl rfl)
theorem dX2_debts_16 : decode cX2_debts 16 = .ok (.if_icmp .ge 20, 3) := dk_162 0 20 (dk_at dksX2_debts_0 16 rfl rfl)
theorem dX2_debts_19 : decode cX2_debts 19 = .ok (.aload_n 2, 1) := dk_44 (dk_at dksX2_debts_0 19 rfl rfl)
theorem dX2_debts_20 : decode cX2_debts 20 = .ok (.iload 4, 2) := dk_21 4 (dk_at dksX2_debts_0 20 rfl rfl)
theorem dX2_debts_22 : decode cX2_debts 22 = .ok (.iaload, 1) := dk_46 (dk_at dksX2_debts_0 22 rfl rfl)
theorem dX2_debts_23 : decode cX2_debts 23 = .ok (.istore 5, 2) := dk_54 5 (dk_at dksX2_debts_1 0 rfl rfl)
theorem dX2_debts_25 : decode cX2_debts 25 = .ok (.iload_n 1, 1) := dk_27 (dk_at dksX2_debts_1 2 rfl rfl)
theorem dX2_debts_26 : decode cX2_debts 26 = .ok (.iload 5, 2) := dk_21 5 (dk_at dksX2_debts_1 3 rfl rfl)
theorem dX2_debts_28 : decode cX2_debts 28 = .ok (.iadd, 1) := dk_96 (dk_at dksX2_debts_1 5 rfl rfl)
theorem dX2_debts_29 : decode cX2_debts 29 = .ok (.istore_n 1, 1) := dk_60 (dk_at dksX2_debts_1 6 rfl rfl)
theorem dX2_debts_30 : decode cX2_debts 30 = .ok (.iinc 4 1, 3) := dk_132 4 1 (dk_at dksX2_debts_1 7 rfl rfl)
theorem dX2_debts_33 : decode cX2_debts 33 = .ok (.goto (-20), 3) := dk_167 255 236 (dk_at dksX2_debts_1 10 rfl rfl)
theorem dX2_debts_36 : decode cX2_debts 36 = .ok (.iload_n 1, 1) := dk_27 (dk_at dksX2_debts_1 13 rfl rfl)
theorem dX2_debts_37 : decode cX2_debts 37 = .ok (.ireturn, 1) := dk_172 (dk_at dksX2_debts_1 14 rfl rfl)
abbrev cX2_roofs : ByteArray := prog_7_method_8_code
def yX2_roofs : MethodName := ⟨RX2, "roofs", "()I"⟩
def dkwX2_roofs_1 : List UInt8 := [54, 5, 27, 21, 5, 96, 60, 132, 4, 1, 167, 255, 236, 27, 172]
abbrev dktX2_roofs_1 : List UInt8 := dkwX2_roofs_1 ++ []
def dkwX2_roofs_0 : List UInt8 := [3, 60, 42, 180, 0, 9, 77, 44, 190, 62, 3, 54, 4, 21, 4, 29, 162, 0, 20, 44, 21, 4, 46]
abbrev dktX2_roofs_0 : List UInt8 := dkwX2_roofs_0 ++ dktX2_roofs_1
theorem dksX2_roofs_0 : cX2_roofs.data.toList.drop 0 = dktX2_roofs_0 := by decide +kernel
theorem dksX2_roofs_1 : cX2_roofs.data.toList.drop 23 = dktX2_roofs_1 := dk_seg dksX2_roofs_0 23 rfl rfl
theorem dX2_roofs_0 : decode cX2_roofs 0 = .ok (.iconst 0, 1) := dk_3 (dk_at dksX2_roofs_0 0 rfl rfl)
theorem dX2_roofs_1 : decode cX2_roofs 1 = .ok (.istore_n 1, 1) := dk_60 (dk_at dksX2_roofs_0 1 rfl rfl)
theorem dX2_roofs_2 : decode cX2_roofs 2 = .ok (.aload_n 0, 1) := dk_42 (dk_at dksX2_roofs_0 2 rfl rfl)
theorem dX2_roofs_3 : decode cX2_roofs 3 = .ok (.getfield 9, 3) := dk_180 0 9 (dk_at dksX2_roofs_0 3 rfl rfl)
theorem dX2_roofs_6 : decode cX2_roofs 6 = .ok (.astore_n 2, 1) := dk_77 (dk_at dksX2_roofs_0 6 rfl rfl)
theorem dX2_roofs_7 : decode cX2_roofs 7 = .ok (.aload_n 2, 1) := dk_44 (dk_at dksX2_roofs_0 7 rfl rfl)
theorem dX2_roofs_8 : decode cX2_roofs 8 = .ok (.arraylength, 1) := dk_190 (dk_at dksX2_roofs_0 8 rfl rfl)
theorem dX2_roofs_9 : decode cX2_roofs 9 = .ok (.istore_n 3, 1) := dk_62 (dk_at dksX2_roofs_0 9 rfl rfl)
theorem dX2_roofs_10 : decode cX2_roofs 10 = .ok (.iconst 0, 1) := dk_3 (dk_at dksX2_roofs_0 10 rfl rfl)
theorem dX2_roofs_11 : decode cX2_roofs 11 = .ok (.istore 4, 2) := dk_54 4 (dk_at dksX2_roofs_0 11 rfl rfl)
theorem dX2_roofs_13 : decode cX2_roofs 13 = .ok (.iload 4, 2) := dk_21 4 (dk_at dksX2_roofs_0 13 rfl rfl)
theorem dX2_roofs_15 : decode cX2_roofs 15 = .ok (.iload_n 3, 1) := dk_29 (dk_at dksX2_roofs_0 15 rfl rfl)
theorem dX2_roofs_16 : decode cX2_roofs 16 = .ok (.if_icmp .ge 20, 3) := dk_162 0 20 (dk_at dksX2_roofs_0 16 rfl rfl)
theorem dX2_roofs_19 : decode cX2_roofs 19 = .ok (.aload_n 2, 1) := dk_44 (dk_at dksX2_roofs_0 19 rfl rfl)
theorem dX2_roofs_20 : decode cX2_roofs 20 = .ok (.iload 4, 2) := dk_21 4 (dk_at dksX2_roofs_0 20 rfl rfl)
theorem dX2_roofs_22 : decode cX2_roofs 22 = .ok (.iaload, 1) := dk_46 (dk_at dksX2_roofs_0 22 rfl rfl)
theorem dX2_roofs_23 : decode cX2_roofs 23 = .ok (.istore 5, 2) := dk_54 5 (dk_at dksX2_roofs_1 0 rfl rfl)
theorem dX2_roofs_25 : decode cX2_roofs 25 = .ok (.iload_n 1, 1) := dk_27 (dk_at dksX2_roofs_1 2 rfl rfl)
theorem dX2_roofs_26 : decode cX2_roofs 26 = .ok (.iload 5, 2) := dk_21 5 (dk_at dksX2_roofs_1 3 rfl rfl)
theorem dX2_roofs_28 : decode cX2_roofs 28 = .ok (.iadd, 1) := dk_96 (dk_at dksX2_roofs_1 5 rfl rfl)
theorem dX2_roofs_29 : decode cX2_roofs 29 = .ok (.istore_n 1, 1) := dk_60 (dk_at dksX2_roofs_1 6 rfl rfl)
theorem dX2_roofs_30 : decode cX2_roofs 30 = .ok (.iinc 4 1, 3) := dk_132 4 1 (dk_at dksX2_roofs_1 7 rfl rfl)
theorem dX2_roofs_33 : decode cX2_roofs 33 = .ok (.goto (-20), 3) := dk_167 255 236 (dk_at dksX2_roofs_1 10 rfl rfl)
theorem dX2_roofs_36 : decode cX2_roofs 36 = .ok (.iload_n 1, 1) := dk_27 (dk_at dksX2_roofs_1 13 rfl rfl)
theorem dX2_roofs_37 : decode cX2_roofs 37 = .ok (.ireturn, 1) := dk_172 (dk_at dksX2_roofs_1 14 rfl rfl)
theorem q90 : (Jvm.Cond.initialized "SnowForSummer$Town") ∈ lw_all := lw_g (lw_at lw_m1 2 rfl) rfl
theorem q118 : (Jvm.Cond.instantiable "SnowForSummer$Town" (6 : Nat)) ∈ lw_all := lw_g (lw_at lw_m1 30 rfl) rfl
theorem q120 : (Jvm.Cond.instanceMethod ({ cls := "SnowForSummer$Town", name := "<init>", desc := "()V" } : Jvm.MethodName)) ∈ lw_all := lw_g (lw_at lw_m1 32 rfl) rfl
theorem q121 : (Jvm.Cond.code ({ cls := "SnowForSummer$Town", name := "<init>", desc := "()V" } : Jvm.MethodName) prog_7_method_1_code (1 : Nat) (Option.none : Option Jvm.ClassFile.FieldType)) ∈ lw_all := lw_g (lw_at lw_m1 33 rfl) rfl
theorem q122 : (Jvm.Cond.methodLink "SnowForSummer$Town" (3 : Nat) ({ cls := "java/lang/Object", name := "<init>", desc := "()V" } : Jvm.MethodName)) ∈ lw_all := lw_g (lw_at lw_m1 34 rfl) rfl
theorem q123 : (Jvm.Cond.fieldLink "SnowForSummer$Town" (9 : Nat) "SnowForSummer$Town" "snow" "[I") ∈ lw_all := lw_g (lw_at lw_m1 35 rfl) rfl
theorem q125 : (Jvm.Cond.fieldLink "SnowForSummer$Town" (15 : Nat) "SnowForSummer$Town" "path" "[I") ∈ lw_all := lw_g (lw_at lw_m1 37 rfl) rfl
theorem q127 : (Jvm.Cond.fieldLink "SnowForSummer$Town" (18 : Nat) "SnowForSummer$Town" "debt" "[I") ∈ lw_all := lw_g (lw_at lw_m1 39 rfl) rfl
theorem q129 : (Jvm.Cond.fieldLink "SnowForSummer$Town" (21 : Nat) "SnowForSummer$Town" "newly" "[I") ∈ lw_all := lw_g (lw_at lw_m1 41 rfl) rfl
theorem q131 : (Jvm.Cond.fieldLink "SnowForSummer$Town" (30 : Nat) "SnowForSummer$Town" "day" "I") ∈ lw_all := lw_g (lw_at lw_m1 43 rfl) rfl
theorem q133 : (Jvm.Cond.fieldLink "SnowForSummer$Town" (37 : Nat) "SnowForSummer$Town" "slid" "I") ∈ lw_all := lw_g (lw_at lw_m1 45 rfl) rfl
theorem q135 : (Jvm.Cond.laysFinal "SnowForSummer$Town" "SnowForSummer$Town" "snow" "[I") ∈ lw_all := lw_g (lw_at lw_m1 47 rfl) rfl
theorem q136 : (Jvm.Cond.soleField "SnowForSummer$Town" "snow") ∈ lw_all := lw_g (lw_at lw_m1 48 rfl) rfl
theorem q137 : (Jvm.Cond.laysFinal "SnowForSummer$Town" "SnowForSummer$Town" "path" "[I") ∈ lw_all := lw_g (lw_at lw_m1 49 rfl) rfl
theorem q138 : (Jvm.Cond.soleField "SnowForSummer$Town" "path") ∈ lw_all := lw_g (lw_at lw_m1 50 rfl) rfl
theorem q139 : (Jvm.Cond.laysFinal "SnowForSummer$Town" "SnowForSummer$Town" "debt" "[I") ∈ lw_all := lw_g (lw_at lw_m1 51 rfl) rfl
theorem q140 : (Jvm.Cond.soleField "SnowForSummer$Town" "debt") ∈ lw_all := lw_g (lw_at lw_m1 52 rfl) rfl
theorem q141 : (Jvm.Cond.laysFinal "SnowForSummer$Town" "SnowForSummer$Town" "newly" "[I") ∈ lw_all := lw_g (lw_at lw_m1 53 rfl) rfl
theorem q142 : (Jvm.Cond.soleField "SnowForSummer$Town" "newly") ∈ lw_all := lw_g (lw_at lw_m1 54 rfl) rfl
theorem q143 : (Jvm.Cond.lays "SnowForSummer$Town" "SnowForSummer$Town" "day" "I") ∈ lw_all := lw_g (lw_at lw_m1 55 rfl) rfl
theorem q144 : (Jvm.Cond.soleField "SnowForSummer$Town" "day") ∈ lw_all := lw_g (lw_at lw_m1 56 rfl) rfl
theorem q145 : (Jvm.Cond.lays "SnowForSummer$Town" "SnowForSummer$Town" "slid" "I") ∈ lw_all := lw_g (lw_at lw_m1 57 rfl) rfl
theorem q146 : (Jvm.Cond.soleField "SnowForSummer$Town" "slid") ∈ lw_all := lw_g (lw_at lw_m1 58 rfl) rfl
theorem q147 : (Jvm.Cond.superclass "SnowForSummer$Town" "java/lang/Object") ∈ lw_all := lw_g (lw_at lw_m1 59 rfl) rfl
theorem q603 : (Jvm.Cond.instanceMethod ({ cls := "SnowForSummer$Town", name := "becomes", desc := "(LSnowForSummer$Town;)V" } : Jvm.MethodName)) ∈ lw_all := lw_g (lw_at lw_m3 35 rfl) rfl
theorem q604 : (Jvm.Cond.selects "SnowForSummer$Town" ({ cls := "SnowForSummer$Town", name := "becomes", desc := "(LSnowForSummer$Town;)V" } : Jvm.MethodName) ({ cls := "SnowForSummer$Town", name := "becomes", desc := "(LSnowForSummer$Town;)V" } : Jvm.MethodName)) ∈ lw_all := lw_g (lw_at lw_m3 36 rfl) rfl
theorem q605 : (Jvm.Cond.code ({ cls := "SnowForSummer$Town", name := "becomes", desc := "(LSnowForSummer$Town;)V" } : Jvm.MethodName) prog_7_method_2_code (2 : Nat) (Option.none : Option Jvm.ClassFile.FieldType)) ∈ lw_all := lw_g (lw_at lw_m3 37 rfl) rfl
theorem q606 : (Jvm.Cond.methodLink "SnowForSummer$Town" (24 : Nat) ({ cls := "java/lang/System", name := "arraycopy", desc := "(Ljava/lang/Object;ILjava/lang/Object;II)V" } : Jvm.MethodName)) ∈ lw_all := lw_g (lw_at lw_m3 38 rfl) rfl
theorem q607 : (Jvm.Cond.methodLink "SnowForSummer$Town" (34 : Nat) ({ cls := "SnowForSummer$Town", name := "counts", desc := "()V" } : Jvm.MethodName)) ∈ lw_all := lw_g (lw_at lw_m3 39 rfl) rfl
theorem q608 : (Jvm.Cond.instanceMethod ({ cls := "SnowForSummer$Town", name := "counts", desc := "()V" } : Jvm.MethodName)) ∈ lw_all := lw_g (lw_at lw_m3 40 rfl) rfl
theorem q609 : (Jvm.Cond.selects "SnowForSummer$Town" ({ cls := "SnowForSummer$Town", name := "counts", desc := "()V" } : Jvm.MethodName) ({ cls := "SnowForSummer$Town", name := "counts", desc := "()V" } : Jvm.MethodName)) ∈ lw_all := lw_g (lw_at lw_m3 41 rfl) rfl
theorem q610 : (Jvm.Cond.code ({ cls := "SnowForSummer$Town", name := "counts", desc := "()V" } : Jvm.MethodName) prog_7_method_3_code (2 : Nat) (Option.none : Option Jvm.ClassFile.FieldType)) ∈ lw_all := lw_g (lw_at lw_m3 42 rfl) rfl
theorem q658 : (Jvm.Cond.instanceMethod ({ cls := "SnowForSummer$Town", name := "newlyAll", desc := "()I" } : Jvm.MethodName)) ∈ lw_all := lw_g (lw_at lw_m3 90 rfl) rfl
theorem q659 : (Jvm.Cond.selects "SnowForSummer$Town" ({ cls := "SnowForSummer$Town", name := "newlyAll", desc := "()I" } : Jvm.MethodName) ({ cls := "SnowForSummer$Town", name := "newlyAll", desc := "()I" } : Jvm.MethodName)) ∈ lw_all := lw_g (lw_at lw_m3 91 rfl) rfl
theorem q660 : (Jvm.Cond.code ({ cls := "SnowForSummer$Town", name := "newlyAll", desc := "()I" } : Jvm.MethodName) prog_7_method_6_code (6 : Nat) (Option.some Jvm.ClassFile.FieldType.int)) ∈ lw_all := lw_g (lw_at lw_m3 92 rfl) rfl
theorem q662 : (Jvm.Cond.instanceMethod ({ cls := "SnowForSummer$Town", name := "paths", desc := "()I" } : Jvm.MethodName)) ∈ lw_all := lw_g (lw_at lw_m3 94 rfl) rfl
theorem q663 : (Jvm.Cond.selects "SnowForSummer$Town" ({ cls := "SnowForSummer$Town", name := "paths", desc := "()I" } : Jvm.MethodName) ({ cls := "SnowForSummer$Town", name := "paths", desc := "()I" } : Jvm.MethodName)) ∈ lw_all := lw_g (lw_at lw_m3 95 rfl) rfl
theorem q664 : (Jvm.Cond.code ({ cls := "SnowForSummer$Town", name := "paths", desc := "()I" } : Jvm.MethodName) prog_7_method_7_code (6 : Nat) (Option.some Jvm.ClassFile.FieldType.int)) ∈ lw_all := lw_g (lw_at lw_m3 96 rfl) rfl
theorem q766 : (Jvm.Cond.instanceMethod ({ cls := "SnowForSummer$Town", name := "owed", desc := "(I)I" } : Jvm.MethodName)) ∈ lw_all := lw_g (lw_at lw_m3 198 rfl) rfl
theorem q767 : (Jvm.Cond.selects "SnowForSummer$Town" ({ cls := "SnowForSummer$Town", name := "owed", desc := "(I)I" } : Jvm.MethodName) ({ cls := "SnowForSummer$Town", name := "owed", desc := "(I)I" } : Jvm.MethodName)) ∈ lw_all := lw_g (lw_at lw_m3 199 rfl) rfl
theorem q768 : (Jvm.Cond.code ({ cls := "SnowForSummer$Town", name := "owed", desc := "(I)I" } : Jvm.MethodName) prog_7_method_5_code (4 : Nat) (Option.some Jvm.ClassFile.FieldType.int)) ∈ lw_all := lw_g (lw_at lw_m3 200 rfl) rfl
theorem q770 : (Jvm.Cond.instanceMethod ({ cls := "SnowForSummer$Town", name := "owes", desc := "(I)I" } : Jvm.MethodName)) ∈ lw_all := lw_g (lw_at lw_m3 202 rfl) rfl
theorem q771 : (Jvm.Cond.selects "SnowForSummer$Town" ({ cls := "SnowForSummer$Town", name := "owes", desc := "(I)I" } : Jvm.MethodName) ({ cls := "SnowForSummer$Town", name := "owes", desc := "(I)I" } : Jvm.MethodName)) ∈ lw_all := lw_g (lw_at lw_m3 203 rfl) rfl
theorem q772 : (Jvm.Cond.code ({ cls := "SnowForSummer$Town", name := "owes", desc := "(I)I" } : Jvm.MethodName) prog_7_method_4_code (4 : Nat) (Option.some Jvm.ClassFile.FieldType.int)) ∈ lw_all := lw_g (lw_at lw_m3 204 rfl) rfl
theorem q774 : (Jvm.Cond.instanceMethod ({ cls := "SnowForSummer$Town", name := "debts", desc := "()I" } : Jvm.MethodName)) ∈ lw_all := lw_g (lw_at lw_m3 206 rfl) rfl
theorem q775 : (Jvm.Cond.selects "SnowForSummer$Town" ({ cls := "SnowForSummer$Town", name := "debts", desc := "()I" } : Jvm.MethodName) ({ cls := "SnowForSummer$Town", name := "debts", desc := "()I" } : Jvm.MethodName)) ∈ lw_all := lw_g (lw_at lw_m3 207 rfl) rfl
theorem q776 : (Jvm.Cond.code ({ cls := "SnowForSummer$Town", name := "debts", desc := "()I" } : Jvm.MethodName) prog_7_method_9_code (6 : Nat) (Option.some Jvm.ClassFile.FieldType.int)) ∈ lw_all := lw_g (lw_at lw_m3 208 rfl) rfl
theorem q838 : (Jvm.Cond.instanceMethod ({ cls := "SnowForSummer$Town", name := "roofs", desc := "()I" } : Jvm.MethodName)) ∈ lw_all := lw_g (lw_at lw_m4 30 rfl) rfl
theorem q839 : (Jvm.Cond.selects "SnowForSummer$Town" ({ cls := "SnowForSummer$Town", name := "roofs", desc := "()I" } : Jvm.MethodName) ({ cls := "SnowForSummer$Town", name := "roofs", desc := "()I" } : Jvm.MethodName)) ∈ lw_all := lw_g (lw_at lw_m4 31 rfl) rfl
theorem q840 : (Jvm.Cond.code ({ cls := "SnowForSummer$Town", name := "roofs", desc := "()I" } : Jvm.MethodName) prog_7_method_8_code (6 : Nat) (Option.some Jvm.ClassFile.FieldType.int)) ∈ lw_all := lw_g (lw_at lw_m4 32 rfl) rfl
theorem q1652 : (Jvm.Cond.castable "SnowForSummer$Town" "java/lang/Object") ∈ lw_tbl := lw_at lw_m7 124 rfl
theorem in_X2 : ∀ w ∈ wsX20, w ∈ lw_all := lw_in wsX20 [135, 137, 139, 141, 143, 145] (by decide +kernel) (by decide +kernel)

/-! SnowForSummer$Node -/
set_option maxRecDepth 100000
def RX4 : String := "SnowForSummer$Node"
abbrev cX4_init : ByteArray := prog_4_method_1_code
def yX4_init : MethodName := ⟨RX4, "<init>", "(LSnowForSummer;)V"⟩
def dkwX4_init_0 : List UInt8 := [42, 43, 181, 0, 1, 42, 183, 0, 7, 177]
abbrev dktX4_init_0 : List UInt8 := dkwX4_init_0 ++ []
theorem dksX4_init_0 : cX4_init.data.toList.drop 0 = dktX4_init_0 := by decide +kernel
theorem dX4_init_0 : decode cX4_init 0 = .ok (.aload_n 0, 1) := dk_42 (dk_at dksX4_init_0 0 rfl rfl)
theorem dX4_init_1 : decode cX4_init 1 = .ok (.aload_n 1, 1) := dk_43 (dk_at dksX4_init_0 1 rfl rfl)
theorem dX4_init_2 : decode cX4_init 2 = .ok (.putfield 1, 3) := dk_181 0 1 (dk_at dksX4_init_0 2 rfl rfl)
theorem dX4_init_5 : decode cX4_init 5 = .ok (.aload_n 0, 1) := dk_42 (dk_at dksX4_init_0 5 rfl rfl)
theorem dX4_init_6 : decode cX4_init 6 = .ok (.invokespecial 7, 3) := dk_183 0 7 (dk_at dksX4_init_0 6 rfl rfl)
theorem dX4_init_9 : decode cX4_init 9 = .ok (.return_, 1) := dk_177 (dk_at dksX4_init_0 9 rfl rfl)
theorem q99 : (Jvm.Cond.initialized "SnowForSummer$Node") ∈ lw_all := lw_g (lw_at lw_m1 11 rfl) rfl
theorem q493 : (Jvm.Cond.instanceMethod ({ cls := "SnowForSummer$Node", name := "<init>", desc := "(LSnowForSummer;)V" } : Jvm.MethodName)) ∈ lw_all := lw_g (lw_at lw_m2 165 rfl) rfl
theorem q494 : (Jvm.Cond.code ({ cls := "SnowForSummer$Node", name := "<init>", desc := "(LSnowForSummer;)V" } : Jvm.MethodName) prog_4_method_1_code (2 : Nat) (Option.none : Option Jvm.ClassFile.FieldType)) ∈ lw_all := lw_g (lw_at lw_m2 166 rfl) rfl
theorem q495 : (Jvm.Cond.methodLink "SnowForSummer$Node" (7 : Nat) ({ cls := "java/lang/Object", name := "<init>", desc := "()V" } : Jvm.MethodName)) ∈ lw_all := lw_g (lw_at lw_m2 167 rfl) rfl
theorem q498 : (Jvm.Cond.fieldLink "SnowForSummer$Node" (1 : Nat) "SnowForSummer$Node" "this$0" "LSnowForSummer;") ∈ lw_all := lw_g (lw_at lw_m2 170 rfl) rfl
theorem q504 : (Jvm.Cond.soleField "SnowForSummer$Node" "this$0") ∈ lw_all := lw_g (lw_at lw_m2 176 rfl) rfl
theorem q637 : (Jvm.Cond.declares ({ cls := "SnowForSummer$Node", name := "value", desc := "()I" } : Jvm.MethodName)) ∈ lw_tbl := lw_at lw_m3 69 rfl
theorem q638 : (Jvm.Cond.sameMethod "SnowForSummer$Node" "SnowForSummer$Node" "value" "()I") ∈ lw_all := lw_g (lw_at lw_m3 70 rfl) rfl

/-! SnowForSummer$Less -/
set_option maxRecDepth 100000
def RX5 : String := "SnowForSummer$Less"
def TX5 : u_T := fun k => match k with
  | 0 => ("SnowForSummer$Node", "this$0", "LSnowForSummer;", true)
  | 1 => ("SnowForSummer$Less", "its", "LSnowForSummer$Node;", true)
  | _ => ("SnowForSummer$Less", "this$0", "LSnowForSummer;", true)
def tyX5 : Nat → FieldType := fun k => match k with
  | 0 => .object "SnowForSummer"
  | 1 => .object "SnowForSummer$Node"
  | _ => .object "SnowForSummer"
abbrev wsX50 : List Cond := u_ws RX5 TX5 3
-- two fields of one name: no nmX5
theorem tyX5_ok : ∀ k, k < 3 → parseFieldDescriptor (TX5 k).2.2.1 = some (tyX5 k) := by decide +kernel
abbrev cX5_init : ByteArray := prog_3_method_1_code
def yX5_init : MethodName := ⟨RX5, "<init>", "(LSnowForSummer;LSnowForSummer$Node;)V"⟩
def dkwX5_init_0 : List UInt8 := [42, 43, 181, 0, 1, 42, 43, 183, 0, 7, 42, 44, 181, 0, 13, 177]
abbrev dktX5_init_0 : List UInt8 := dkwX5_init_0 ++ []
theorem dksX5_init_0 : cX5_init.data.toList.drop 0 = dktX5_init_0 := by decide +kernel
theorem dX5_init_0 : decode cX5_init 0 = .ok (.aload_n 0, 1) := dk_42 (dk_at dksX5_init_0 0 rfl rfl)
theorem dX5_init_1 : decode cX5_init 1 = .ok (.aload_n 1, 1) := dk_43 (dk_at dksX5_init_0 1 rfl rfl)
theorem dX5_init_2 : decode cX5_init 2 = .ok (.putfield 1, 3) := dk_181 0 1 (dk_at dksX5_init_0 2 rfl rfl)
theorem dX5_init_5 : decode cX5_init 5 = .ok (.aload_n 0, 1) := dk_42 (dk_at dksX5_init_0 5 rfl rfl)
theorem dX5_init_6 : decode cX5_init 6 = .ok (.aload_n 1, 1) := dk_43 (dk_at dksX5_init_0 6 rfl rfl)
theorem dX5_init_7 : decode cX5_init 7 = .ok (.invokespecial 7, 3) := dk_183 0 7 (dk_at dksX5_init_0 7 rfl rfl)
theorem dX5_init_10 : decode cX5_init 10 = .ok (.aload_n 0, 1) := dk_42 (dk_at dksX5_init_0 10 rfl rfl)
theorem dX5_init_11 : decode cX5_init 11 = .ok (.aload_n 2, 1) := dk_44 (dk_at dksX5_init_0 11 rfl rfl)
theorem dX5_init_12 : decode cX5_init 12 = .ok (.putfield 13, 3) := dk_181 0 13 (dk_at dksX5_init_0 12 rfl rfl)
theorem dX5_init_15 : decode cX5_init 15 = .ok (.return_, 1) := dk_177 (dk_at dksX5_init_0 15 rfl rfl)
abbrev cX5_value : ByteArray := prog_3_method_2_code
def yX5_value : MethodName := ⟨RX5, "value", "()I"⟩
def dkwX5_value_0 : List UInt8 := [42, 180, 0, 13, 182, 0, 17, 116, 172]
abbrev dktX5_value_0 : List UInt8 := dkwX5_value_0 ++ []
theorem dksX5_value_0 : cX5_value.data.toList.drop 0 = dktX5_value_0 := by decide +kernel
theorem dX5_value_0 : decode cX5_value 0 = .ok (.aload_n 0, 1) := dk_42 (dk_at dksX5_value_0 0 rfl rfl)
theorem dX5_value_1 : decode cX5_value 1 = .ok (.getfield 13, 3) := dk_180 0 13 (dk_at dksX5_value_0 1 rfl rfl)
theorem dX5_value_4 : decode cX5_value 4 = .ok (.invokevirtual 17, 3) := dk_182 0 17 (dk_at dksX5_value_0 4 rfl rfl)
theorem dX5_value_7 : decode cX5_value 7 = .ok (.ineg, 1) := dk_116 (dk_at dksX5_value_0 7 rfl rfl)
theorem dX5_value_8 : decode cX5_value 8 = .ok (.ireturn, 1) := dk_172 (dk_at dksX5_value_0 8 rfl rfl)
theorem q100 : (Jvm.Cond.initialized "SnowForSummer$Less") ∈ lw_all := lw_g (lw_at lw_m1 12 rfl) rfl
theorem q488 : (Jvm.Cond.instantiable "SnowForSummer$Less" (3 : Nat)) ∈ lw_all := lw_g (lw_at lw_m2 160 rfl) rfl
theorem q490 : (Jvm.Cond.instanceMethod ({ cls := "SnowForSummer$Less", name := "<init>", desc := "(LSnowForSummer;LSnowForSummer$Node;)V" } : Jvm.MethodName)) ∈ lw_all := lw_g (lw_at lw_m2 162 rfl) rfl
theorem q491 : (Jvm.Cond.code ({ cls := "SnowForSummer$Less", name := "<init>", desc := "(LSnowForSummer;LSnowForSummer$Node;)V" } : Jvm.MethodName) prog_3_method_1_code (3 : Nat) (Option.none : Option Jvm.ClassFile.FieldType)) ∈ lw_all := lw_g (lw_at lw_m2 163 rfl) rfl
theorem q492 : (Jvm.Cond.methodLinkNest "SnowForSummer$Less" (7 : Nat) ({ cls := "SnowForSummer$Node", name := "<init>", desc := "(LSnowForSummer;)V" } : Jvm.MethodName) "SnowForSummer") ∈ lw_tbl := lw_at lw_m2 164 rfl
theorem q496 : (Jvm.Cond.fieldLink "SnowForSummer$Less" (13 : Nat) "SnowForSummer$Less" "its" "LSnowForSummer$Node;") ∈ lw_all := lw_g (lw_at lw_m2 168 rfl) rfl
theorem q497 : (Jvm.Cond.fieldLink "SnowForSummer$Less" (1 : Nat) "SnowForSummer$Less" "this$0" "LSnowForSummer;") ∈ lw_all := lw_g (lw_at lw_m2 169 rfl) rfl
theorem q499 : (Jvm.Cond.laysFinal "SnowForSummer$Less" "SnowForSummer$Less" "its" "LSnowForSummer$Node;") ∈ lw_all := lw_g (lw_at lw_m2 171 rfl) rfl
theorem q500 : (Jvm.Cond.soleField "SnowForSummer$Less" "its") ∈ lw_all := lw_g (lw_at lw_m2 172 rfl) rfl
theorem q501 : (Jvm.Cond.laysFinal "SnowForSummer$Less" "SnowForSummer$Less" "this$0" "LSnowForSummer;") ∈ lw_all := lw_g (lw_at lw_m2 173 rfl) rfl
theorem q502 : (Jvm.Cond.soleField "SnowForSummer$Less" "this$0") ∈ lw_all := lw_g (lw_at lw_m2 174 rfl) rfl
theorem q503 : (Jvm.Cond.laysFinal "SnowForSummer$Less" "SnowForSummer$Node" "this$0" "LSnowForSummer;") ∈ lw_all := lw_g (lw_at lw_m2 175 rfl) rfl
theorem q505 : (Jvm.Cond.superclass "SnowForSummer$Less" "SnowForSummer$Node") ∈ lw_all := lw_g (lw_at lw_m2 177 rfl) rfl
theorem q643 : (Jvm.Cond.instanceMethod ({ cls := "SnowForSummer$Less", name := "value", desc := "()I" } : Jvm.MethodName)) ∈ lw_all := lw_g (lw_at lw_m3 75 rfl) rfl
theorem q644 : (Jvm.Cond.code ({ cls := "SnowForSummer$Less", name := "value", desc := "()I" } : Jvm.MethodName) prog_3_method_2_code (1 : Nat) (Option.some Jvm.ClassFile.FieldType.int)) ∈ lw_all := lw_g (lw_at lw_m3 76 rfl) rfl
theorem q645 : (Jvm.Cond.methodLink "SnowForSummer$Less" (17 : Nat) ({ cls := "SnowForSummer$Node", name := "value", desc := "()I" } : Jvm.MethodName)) ∈ lw_all := lw_g (lw_at lw_m3 77 rfl) rfl
theorem q650 : (Jvm.Cond.selects "SnowForSummer$Less" ({ cls := "SnowForSummer$Node", name := "value", desc := "()I" } : Jvm.MethodName) ({ cls := "SnowForSummer$Less", name := "value", desc := "()I" } : Jvm.MethodName)) ∈ lw_all := lw_g (lw_at lw_m3 82 rfl) rfl
theorem q1654 : (Jvm.Cond.castable "SnowForSummer$Less" "java/lang/Object") ∈ lw_tbl := lw_at lw_m7 126 rfl
theorem in_X5 : ∀ w ∈ wsX50, w ∈ lw_all := lw_in wsX50 [503, 499, 501] (by decide +kernel) (by decide +kernel)

/-! SnowForSummer$Number -/
set_option maxRecDepth 100000
def RX6 : String := "SnowForSummer$Number"
def TX6 : u_T := fun k => match k with
  | 0 => ("SnowForSummer$Node", "this$0", "LSnowForSummer;", true)
  | 1 => ("SnowForSummer$Number", "v", "I", true)
  | _ => ("SnowForSummer$Number", "this$0", "LSnowForSummer;", true)
def tyX6 : Nat → FieldType := fun k => match k with
  | 0 => .object "SnowForSummer"
  | 1 => .int
  | _ => .object "SnowForSummer"
abbrev wsX60 : List Cond := u_ws RX6 TX6 3
-- two fields of one name: no nmX6
theorem tyX6_ok : ∀ k, k < 3 → parseFieldDescriptor (TX6 k).2.2.1 = some (tyX6 k) := by decide +kernel
abbrev cX6_init : ByteArray := prog_5_method_1_code
def yX6_init : MethodName := ⟨RX6, "<init>", "(LSnowForSummer;I)V"⟩
def dkwX6_init_0 : List UInt8 := [42, 43, 181, 0, 1, 42, 43, 183, 0, 7, 42, 28, 181, 0, 13, 177]
abbrev dktX6_init_0 : List UInt8 := dkwX6_init_0 ++ []
theorem dksX6_init_0 : cX6_init.data.toList.drop 0 = dktX6_init_0 := by decide +kernel
theorem dX6_init_0 : decode cX6_init 0 = .ok (.aload_n 0, 1) := dk_42 (dk_at dksX6_init_0 0 rfl rfl)
theorem dX6_init_1 : decode cX6_init 1 = .ok (.aload_n 1, 1) := dk_43 (dk_at dksX6_init_0 1 rfl rfl)
theorem dX6_init_2 : decode cX6_init 2 = .ok (.putfield 1, 3) := dk_181 0 1 (dk_at dksX6_init_0 2 rfl rfl)
theorem dX6_init_5 : decode cX6_init 5 = .ok (.aload_n 0, 1) := dk_42 (dk_at dksX6_init_0 5 rfl rfl)
theorem dX6_init_6 : decode cX6_init 6 = .ok (.aload_n 1, 1) := dk_43 (dk_at dksX6_init_0 6 rfl rfl)
theorem dX6_init_7 : decode cX6_init 7 = .ok (.invokespecial 7, 3) := dk_183 0 7 (dk_at dksX6_init_0 7 rfl rfl)
theorem dX6_init_10 : decode cX6_init 10 = .ok (.aload_n 0, 1) := dk_42 (dk_at dksX6_init_0 10 rfl rfl)
theorem dX6_init_11 : decode cX6_init 11 = .ok (.iload_n 2, 1) := dk_28 (dk_at dksX6_init_0 11 rfl rfl)
theorem dX6_init_12 : decode cX6_init 12 = .ok (.putfield 13, 3) := dk_181 0 13 (dk_at dksX6_init_0 12 rfl rfl)
theorem dX6_init_15 : decode cX6_init 15 = .ok (.return_, 1) := dk_177 (dk_at dksX6_init_0 15 rfl rfl)
abbrev cX6_value : ByteArray := prog_5_method_2_code
def yX6_value : MethodName := ⟨RX6, "value", "()I"⟩
theorem dX6_value_0 : decode cX6_value 0 = .ok (.aload_n 0, 1) := by decide +kernel
theorem dX6_value_1 : decode cX6_value 1 = .ok (.getfield 13, 3) := by decide +kernel
theorem dX6_value_4 : decode cX6_value 4 = .ok (.ireturn, 1) := by decide +kernel
theorem q101 : (Jvm.Cond.initialized "SnowForSummer$Number") ∈ lw_all := lw_g (lw_at lw_m1 13 rfl) rfl
theorem q507 : (Jvm.Cond.instantiable "SnowForSummer$Number" (3 : Nat)) ∈ lw_all := lw_g (lw_at lw_m2 179 rfl) rfl
theorem q509 : (Jvm.Cond.instanceMethod ({ cls := "SnowForSummer$Number", name := "<init>", desc := "(LSnowForSummer;I)V" } : Jvm.MethodName)) ∈ lw_all := lw_g (lw_at lw_m2 181 rfl) rfl
theorem q510 : (Jvm.Cond.code ({ cls := "SnowForSummer$Number", name := "<init>", desc := "(LSnowForSummer;I)V" } : Jvm.MethodName) prog_5_method_1_code (3 : Nat) (Option.none : Option Jvm.ClassFile.FieldType)) ∈ lw_all := lw_g (lw_at lw_m2 182 rfl) rfl
theorem q511 : (Jvm.Cond.methodLinkNest "SnowForSummer$Number" (7 : Nat) ({ cls := "SnowForSummer$Node", name := "<init>", desc := "(LSnowForSummer;)V" } : Jvm.MethodName) "SnowForSummer") ∈ lw_tbl := lw_at lw_m2 183 rfl
theorem q512 : (Jvm.Cond.fieldLink "SnowForSummer$Number" (13 : Nat) "SnowForSummer$Number" "v" "I") ∈ lw_all := lw_g (lw_at lw_m2 184 rfl) rfl
theorem q513 : (Jvm.Cond.fieldLink "SnowForSummer$Number" (1 : Nat) "SnowForSummer$Number" "this$0" "LSnowForSummer;") ∈ lw_all := lw_g (lw_at lw_m2 185 rfl) rfl
theorem q514 : (Jvm.Cond.laysFinal "SnowForSummer$Number" "SnowForSummer$Number" "v" "I") ∈ lw_all := lw_g (lw_at lw_m2 186 rfl) rfl
theorem q515 : (Jvm.Cond.soleField "SnowForSummer$Number" "v") ∈ lw_all := lw_g (lw_at lw_m2 187 rfl) rfl
theorem q516 : (Jvm.Cond.laysFinal "SnowForSummer$Number" "SnowForSummer$Number" "this$0" "LSnowForSummer;") ∈ lw_all := lw_g (lw_at lw_m2 188 rfl) rfl
theorem q517 : (Jvm.Cond.soleField "SnowForSummer$Number" "this$0") ∈ lw_all := lw_g (lw_at lw_m2 189 rfl) rfl
theorem q518 : (Jvm.Cond.laysFinal "SnowForSummer$Number" "SnowForSummer$Node" "this$0" "LSnowForSummer;") ∈ lw_all := lw_g (lw_at lw_m2 190 rfl) rfl
theorem q519 : (Jvm.Cond.superclass "SnowForSummer$Number" "SnowForSummer$Node") ∈ lw_all := lw_g (lw_at lw_m2 191 rfl) rfl
theorem q646 : (Jvm.Cond.instanceMethod ({ cls := "SnowForSummer$Number", name := "value", desc := "()I" } : Jvm.MethodName)) ∈ lw_all := lw_g (lw_at lw_m3 78 rfl) rfl
theorem q647 : (Jvm.Cond.code ({ cls := "SnowForSummer$Number", name := "value", desc := "()I" } : Jvm.MethodName) prog_5_method_2_code (1 : Nat) (Option.some Jvm.ClassFile.FieldType.int)) ∈ lw_all := lw_g (lw_at lw_m3 79 rfl) rfl
theorem q651 : (Jvm.Cond.selects "SnowForSummer$Number" ({ cls := "SnowForSummer$Node", name := "value", desc := "()I" } : Jvm.MethodName) ({ cls := "SnowForSummer$Number", name := "value", desc := "()I" } : Jvm.MethodName)) ∈ lw_all := lw_g (lw_at lw_m3 83 rfl) rfl
theorem q1655 : (Jvm.Cond.castable "SnowForSummer$Number" "java/lang/Object") ∈ lw_tbl := lw_at lw_m7 127 rfl
theorem in_X6 : ∀ w ∈ wsX60, w ∈ lw_all := lw_in wsX60 [518, 514, 516] (by decide +kernel) (by decide +kernel)

/-! SnowForSummer$Sign -/
set_option maxRecDepth 100000
def RX7 : String := "SnowForSummer$Sign"
def TX7 : u_T := fun k => match k with
  | 0 => ("SnowForSummer$Node", "this$0", "LSnowForSummer;", true)
  | 1 => ("SnowForSummer$Sign", "sign", "I", true)
  | _ => ("SnowForSummer$Sign", "this$0", "LSnowForSummer;", true)
def tyX7 : Nat → FieldType := fun k => match k with
  | 0 => .object "SnowForSummer"
  | 1 => .int
  | _ => .object "SnowForSummer"
abbrev wsX70 : List Cond := u_ws RX7 TX7 3
-- two fields of one name: no nmX7
theorem tyX7_ok : ∀ k, k < 3 → parseFieldDescriptor (TX7 k).2.2.1 = some (tyX7 k) := by decide +kernel
abbrev cX7_init : ByteArray := prog_6_method_1_code
def yX7_init : MethodName := ⟨RX7, "<init>", "(LSnowForSummer;I)V"⟩
def dkwX7_init_0 : List UInt8 := [42, 43, 181, 0, 1, 42, 43, 183, 0, 7, 42, 28, 181, 0, 13, 177]
abbrev dktX7_init_0 : List UInt8 := dkwX7_init_0 ++ []
theorem dksX7_init_0 : cX7_init.data.toList.drop 0 = dktX7_init_0 := by decide +kernel
theorem dX7_init_0 : decode cX7_init 0 = .ok (.aload_n 0, 1) := dk_42 (dk_at dksX7_init_0 0 rfl rfl)
theorem dX7_init_1 : decode cX7_init 1 = .ok (.aload_n 1, 1) := dk_43 (dk_at dksX7_init_0 1 rfl rfl)
theorem dX7_init_2 : decode cX7_init 2 = .ok (.putfield 1, 3) := dk_181 0 1 (dk_at dksX7_init_0 2 rfl rfl)
theorem dX7_init_5 : decode cX7_init 5 = .ok (.aload_n 0, 1) := dk_42 (dk_at dksX7_init_0 5 rfl rfl)
theorem dX7_init_6 : decode cX7_init 6 = .ok (.aload_n 1, 1) := dk_43 (dk_at dksX7_init_0 6 rfl rfl)
theorem dX7_init_7 : decode cX7_init 7 = .ok (.invokespecial 7, 3) := dk_183 0 7 (dk_at dksX7_init_0 7 rfl rfl)
theorem dX7_init_10 : decode cX7_init 10 = .ok (.aload_n 0, 1) := dk_42 (dk_at dksX7_init_0 10 rfl rfl)
theorem dX7_init_11 : decode cX7_init 11 = .ok (.iload_n 2, 1) := dk_28 (dk_at dksX7_init_0 11 rfl rfl)
theorem dX7_init_12 : decode cX7_init 12 = .ok (.putfield 13, 3) := dk_181 0 13 (dk_at dksX7_init_0 12 rfl rfl)
theorem dX7_init_15 : decode cX7_init 15 = .ok (.return_, 1) := dk_177 (dk_at dksX7_init_0 15 rfl rfl)
abbrev cX7_value : ByteArray := prog_6_method_2_code
def yX7_value : MethodName := ⟨RX7, "value", "()I"⟩
def dkwX7_value_4 : List UInt8 := [42, 180, 0, 1, 180, 0, 38, 172, 42, 180, 0, 1, 180, 0, 32, 172, 42, 180, 0, 1, 180, 0, 41, 172]
abbrev dktX7_value_4 : List UInt8 := dkwX7_value_4 ++ []
def dkwX7_value_3 : List UInt8 := [42, 180, 0, 1, 180, 0, 28, 42, 180, 0, 1, 180, 0, 32, 46, 172, 42, 180, 0, 1, 180, 0, 35, 172]
abbrev dktX7_value_3 : List UInt8 := dkwX7_value_3 ++ dktX7_value_4
def dkwX7_value_2 : List UInt8 := [42, 180, 0, 1, 180, 0, 17, 172, 42, 180, 0, 1, 180, 0, 22, 172, 42, 180, 0, 1, 180, 0, 25, 172]
abbrev dktX7_value_2 : List UInt8 := dkwX7_value_2 ++ dktX7_value_3
def dkwX7_value_1 : List UInt8 := [170, 0, 0, 0, 0, 0, 0, 164, 0, 0, 0, 100, 0, 0, 0, 120, 0, 0, 0, 100, 0, 0, 0, 164, 0, 0, 0, 164, 0, 0, 0, 164, 0, 0, 0, 156, 0, 0, 0, 164, 0, 0, 0, 164, 0, 0, 0, 164, 0, 0, 0, 164, 0, 0, 0, 164, 0, 0, 0, 140, 0, 0, 0, 124, 0, 0, 0, 108, 0, 0, 0, 164, 0, 0, 0, 164, 0, 0, 0, 164, 0, 0, 0, 116, 0, 0, 0, 164, 0, 0, 0, 164, 0, 0, 0, 164, 0, 0, 0, 148]
abbrev dktX7_value_1 : List UInt8 := dkwX7_value_1 ++ dktX7_value_2
def dkwX7_value_0 : List UInt8 := [42, 180, 0, 13]
abbrev dktX7_value_0 : List UInt8 := dkwX7_value_0 ++ dktX7_value_1
theorem dksX7_value_0 : cX7_value.data.toList.drop 0 = dktX7_value_0 := by decide +kernel
theorem dksX7_value_1 : cX7_value.data.toList.drop 4 = dktX7_value_1 := dk_seg dksX7_value_0 4 rfl rfl
theorem dksX7_value_2 : cX7_value.data.toList.drop 104 = dktX7_value_2 := dk_seg dksX7_value_1 100 rfl rfl
theorem dksX7_value_3 : cX7_value.data.toList.drop 128 = dktX7_value_3 := dk_seg dksX7_value_2 24 rfl rfl
theorem dksX7_value_4 : cX7_value.data.toList.drop 152 = dktX7_value_4 := dk_seg dksX7_value_3 24 rfl rfl
theorem dX7_value_0 : decode cX7_value 0 = .ok (.aload_n 0, 1) := dk_42 (dk_at dksX7_value_0 0 rfl rfl)
theorem dX7_value_1 : decode cX7_value 1 = .ok (.getfield 13, 3) := dk_180 0 13 (dk_at dksX7_value_0 1 rfl rfl)
theorem dX7_value_4 : decode cX7_value 4 = .ok (.tableswitch 164 100 120 #[100, 164, 164, 164, 156, 164, 164, 164, 164, 164, 140, 124, 108, 164, 164, 164, 116, 164, 164, 164, 148], 100) := by decide +kernel
theorem dX7_value_104 : decode cX7_value 104 = .ok (.aload_n 0, 1) := dk_42 (dk_at dksX7_value_2 0 rfl rfl)
theorem dX7_value_105 : decode cX7_value 105 = .ok (.getfield 1, 3) := dk_180 0 1 (dk_at dksX7_value_2 1 rfl rfl)
theorem dX7_value_108 : decode cX7_value 108 = .ok (.getfield 17, 3) := dk_180 0 17 (dk_at dksX7_value_2 4 rfl rfl)
theorem dX7_value_111 : decode cX7_value 111 = .ok (.ireturn, 1) := dk_172 (dk_at dksX7_value_2 7 rfl rfl)
theorem dX7_value_112 : decode cX7_value 112 = .ok (.aload_n 0, 1) := dk_42 (dk_at dksX7_value_2 8 rfl rfl)
theorem dX7_value_113 : decode cX7_value 113 = .ok (.getfield 1, 3) := dk_180 0 1 (dk_at dksX7_value_2 9 rfl rfl)
theorem dX7_value_116 : decode cX7_value 116 = .ok (.getfield 22, 3) := dk_180 0 22 (dk_at dksX7_value_2 12 rfl rfl)
theorem dX7_value_119 : decode cX7_value 119 = .ok (.ireturn, 1) := dk_172 (dk_at dksX7_value_2 15 rfl rfl)
theorem dX7_value_120 : decode cX7_value 120 = .ok (.aload_n 0, 1) := dk_42 (dk_at dksX7_value_2 16 rfl rfl)
theorem dX7_value_121 : decode cX7_value 121 = .ok (.getfield 1, 3) := dk_180 0 1 (dk_at dksX7_value_2 17 rfl rfl)
theorem dX7_value_124 : decode cX7_value 124 = .ok (.getfield 25, 3) := dk_180 0 25 (dk_at dksX7_value_2 20 rfl rfl)
theorem dX7_value_127 : decode cX7_value 127 = .ok (.ireturn, 1) := dk_172 (dk_at dksX7_value_2 23 rfl rfl)
theorem dX7_value_128 : decode cX7_value 128 = .ok (.aload_n 0, 1) := dk_42 (dk_at dksX7_value_3 0 rfl rfl)
theorem dX7_value_129 : decode cX7_value 129 = .ok (.getfield 1, 3) := dk_180 0 1 (dk_at dksX7_value_3 1 rfl rfl)
theorem dX7_value_132 : decode cX7_value 132 = .ok (.getfield 28, 3) := dk_180 0 28 (dk_at dksX7_value_3 4 rfl rfl)
theorem dX7_value_135 : decode cX7_value 135 = .ok (.aload_n 0, 1) := dk_42 (dk_at dksX7_value_3 7 rfl rfl)
theorem dX7_value_136 : decode cX7_value 136 = .ok (.getfield 1, 3) := dk_180 0 1 (dk_at dksX7_value_3 8 rfl rfl)
theorem dX7_value_139 : decode cX7_value 139 = .ok (.getfield 32, 3) := dk_180 0 32 (dk_at dksX7_value_3 11 rfl rfl)
theorem dX7_value_142 : decode cX7_value 142 = .ok (.iaload, 1) := dk_46 (dk_at dksX7_value_3 14 rfl rfl)
theorem dX7_value_143 : decode cX7_value 143 = .ok (.ireturn, 1) := dk_172 (dk_at dksX7_value_3 15 rfl rfl)
theorem dX7_value_144 : decode cX7_value 144 = .ok (.aload_n 0, 1) := dk_42 (dk_at dksX7_value_3 16 rfl rfl)
theorem dX7_value_145 : decode cX7_value 145 = .ok (.getfield 1, 3) := dk_180 0 1 (dk_at dksX7_value_3 17 rfl rfl)
theorem dX7_value_148 : decode cX7_value 148 = .ok (.getfield 35, 3) := dk_180 0 35 (dk_at dksX7_value_3 20 rfl rfl)
theorem dX7_value_151 : decode cX7_value 151 = .ok (.ireturn, 1) := dk_172 (dk_at dksX7_value_3 23 rfl rfl)
theorem dX7_value_152 : decode cX7_value 152 = .ok (.aload_n 0, 1) := dk_42 (dk_at dksX7_value_4 0 rfl rfl)
theorem dX7_value_153 : decode cX7_value 153 = .ok (.getfield 1, 3) := dk_180 0 1 (dk_at dksX7_value_4 1 rfl rfl)
theorem dX7_value_156 : decode cX7_value 156 = .ok (.getfield 38, 3) := dk_180 0 38 (dk_at dksX7_value_4 4 rfl rfl)
theorem dX7_value_159 : decode cX7_value 159 = .ok (.ireturn, 1) := dk_172 (dk_at dksX7_value_4 7 rfl rfl)
theorem dX7_value_160 : decode cX7_value 160 = .ok (.aload_n 0, 1) := dk_42 (dk_at dksX7_value_4 8 rfl rfl)
theorem dX7_value_161 : decode cX7_value 161 = .ok (.getfield 1, 3) := dk_180 0 1 (dk_at dksX7_value_4 9 rfl rfl)
theorem dX7_value_164 : decode cX7_value 164 = .ok (.getfield 32, 3) := dk_180 0 32 (dk_at dksX7_value_4 12 rfl rfl)
theorem dX7_value_167 : decode cX7_value 167 = .ok (.ireturn, 1) := dk_172 (dk_at dksX7_value_4 15 rfl rfl)
theorem dX7_value_168 : decode cX7_value 168 = .ok (.aload_n 0, 1) := dk_42 (dk_at dksX7_value_4 16 rfl rfl)
theorem dX7_value_169 : decode cX7_value 169 = .ok (.getfield 1, 3) := dk_180 0 1 (dk_at dksX7_value_4 17 rfl rfl)
theorem dX7_value_172 : decode cX7_value 172 = .ok (.getfield 41, 3) := dk_180 0 41 (dk_at dksX7_value_4 20 rfl rfl)
theorem dX7_value_175 : decode cX7_value 175 = .ok (.ireturn, 1) := dk_172 (dk_at dksX7_value_4 23 rfl rfl)
theorem q102 : (Jvm.Cond.initialized "SnowForSummer$Sign") ∈ lw_all := lw_g (lw_at lw_m1 14 rfl) rfl
theorem q154 : (Jvm.Cond.fieldLinkNest "SnowForSummer$Sign" (28 : Nat) "SnowForSummer" "hold" "[I" "SnowForSummer") ∈ lw_tbl := lw_at lw_m1 66 rfl
theorem q170 : (Jvm.Cond.fieldLinkNest "SnowForSummer$Sign" (17 : Nat) "SnowForSummer" "askedDeep" "I" "SnowForSummer") ∈ lw_tbl := lw_at lw_m1 82 rfl
theorem q172 : (Jvm.Cond.fieldLinkNest "SnowForSummer$Sign" (22 : Nat) "SnowForSummer" "askedPath" "I" "SnowForSummer") ∈ lw_tbl := lw_at lw_m1 84 rfl
theorem q174 : (Jvm.Cond.fieldLinkNest "SnowForSummer$Sign" (25 : Nat) "SnowForSummer" "askedThaw" "I" "SnowForSummer") ∈ lw_tbl := lw_at lw_m1 86 rfl
theorem q176 : (Jvm.Cond.fieldLinkNest "SnowForSummer$Sign" (35 : Nat) "SnowForSummer" "askedDay" "I" "SnowForSummer") ∈ lw_tbl := lw_at lw_m1 88 rfl
theorem q178 : (Jvm.Cond.fieldLinkNest "SnowForSummer$Sign" (38 : Nat) "SnowForSummer" "askedLoose" "I" "SnowForSummer") ∈ lw_tbl := lw_at lw_m1 90 rfl
theorem q180 : (Jvm.Cond.fieldLinkNest "SnowForSummer$Sign" (32 : Nat) "SnowForSummer" "askedHouse" "I" "SnowForSummer") ∈ lw_tbl := lw_at lw_m1 92 rfl
theorem q182 : (Jvm.Cond.fieldLinkNest "SnowForSummer$Sign" (41 : Nat) "SnowForSummer" "askedBelow" "I" "SnowForSummer") ∈ lw_tbl := lw_at lw_m1 94 rfl
theorem q522 : (Jvm.Cond.instantiable "SnowForSummer$Sign" (3 : Nat)) ∈ lw_all := lw_g (lw_at lw_m2 194 rfl) rfl
theorem q524 : (Jvm.Cond.instanceMethod ({ cls := "SnowForSummer$Sign", name := "<init>", desc := "(LSnowForSummer;I)V" } : Jvm.MethodName)) ∈ lw_all := lw_g (lw_at lw_m2 196 rfl) rfl
theorem q525 : (Jvm.Cond.code ({ cls := "SnowForSummer$Sign", name := "<init>", desc := "(LSnowForSummer;I)V" } : Jvm.MethodName) prog_6_method_1_code (3 : Nat) (Option.none : Option Jvm.ClassFile.FieldType)) ∈ lw_all := lw_g (lw_at lw_m2 197 rfl) rfl
theorem q526 : (Jvm.Cond.methodLinkNest "SnowForSummer$Sign" (7 : Nat) ({ cls := "SnowForSummer$Node", name := "<init>", desc := "(LSnowForSummer;)V" } : Jvm.MethodName) "SnowForSummer") ∈ lw_tbl := lw_at lw_m2 198 rfl
theorem q527 : (Jvm.Cond.fieldLink "SnowForSummer$Sign" (13 : Nat) "SnowForSummer$Sign" "sign" "I") ∈ lw_all := lw_g (lw_at lw_m2 199 rfl) rfl
theorem q528 : (Jvm.Cond.fieldLink "SnowForSummer$Sign" (1 : Nat) "SnowForSummer$Sign" "this$0" "LSnowForSummer;") ∈ lw_all := lw_g (lw_at lw_m2 200 rfl) rfl
theorem q529 : (Jvm.Cond.laysFinal "SnowForSummer$Sign" "SnowForSummer$Sign" "sign" "I") ∈ lw_all := lw_g (lw_at lw_m2 201 rfl) rfl
theorem q530 : (Jvm.Cond.soleField "SnowForSummer$Sign" "sign") ∈ lw_all := lw_g (lw_at lw_m2 202 rfl) rfl
theorem q531 : (Jvm.Cond.laysFinal "SnowForSummer$Sign" "SnowForSummer$Sign" "this$0" "LSnowForSummer;") ∈ lw_all := lw_g (lw_at lw_m2 203 rfl) rfl
theorem q532 : (Jvm.Cond.soleField "SnowForSummer$Sign" "this$0") ∈ lw_all := lw_g (lw_at lw_m2 204 rfl) rfl
theorem q533 : (Jvm.Cond.laysFinal "SnowForSummer$Sign" "SnowForSummer$Node" "this$0" "LSnowForSummer;") ∈ lw_all := lw_g (lw_at lw_m2 205 rfl) rfl
theorem q534 : (Jvm.Cond.superclass "SnowForSummer$Sign" "SnowForSummer$Node") ∈ lw_all := lw_g (lw_at lw_m2 206 rfl) rfl
theorem q648 : (Jvm.Cond.instanceMethod ({ cls := "SnowForSummer$Sign", name := "value", desc := "()I" } : Jvm.MethodName)) ∈ lw_all := lw_g (lw_at lw_m3 80 rfl) rfl
theorem q649 : (Jvm.Cond.code ({ cls := "SnowForSummer$Sign", name := "value", desc := "()I" } : Jvm.MethodName) prog_6_method_2_code (1 : Nat) (Option.some Jvm.ClassFile.FieldType.int)) ∈ lw_all := lw_g (lw_at lw_m3 81 rfl) rfl
theorem q652 : (Jvm.Cond.selects "SnowForSummer$Sign" ({ cls := "SnowForSummer$Node", name := "value", desc := "()I" } : Jvm.MethodName) ({ cls := "SnowForSummer$Sign", name := "value", desc := "()I" } : Jvm.MethodName)) ∈ lw_all := lw_g (lw_at lw_m3 84 rfl) rfl
theorem q1656 : (Jvm.Cond.castable "SnowForSummer$Sign" "java/lang/Object") ∈ lw_tbl := lw_at lw_m7 128 rfl
theorem in_X7 : ∀ w ∈ wsX70, w ∈ lw_all := lw_in wsX70 [533, 529, 531] (by decide +kernel) (by decide +kernel)

/-! SnowForSummer$Act -/
set_option maxRecDepth 100000
def RX8 : String := "SnowForSummer$Act"
def TX8 : u_T := fun k => match k with
  | 0 => ("SnowForSummer$Node", "this$0", "LSnowForSummer;", true)
  | 1 => ("SnowForSummer$Act", "sign", "C", true)
  | 2 => ("SnowForSummer$Act", "one", "LSnowForSummer$Node;", true)
  | 3 => ("SnowForSummer$Act", "two", "LSnowForSummer$Node;", true)
  | _ => ("SnowForSummer$Act", "this$0", "LSnowForSummer;", true)
def tyX8 : Nat → FieldType := fun k => match k with
  | 0 => .object "SnowForSummer"
  | 1 => .char
  | 2 => .object "SnowForSummer$Node"
  | 3 => .object "SnowForSummer$Node"
  | _ => .object "SnowForSummer"
abbrev wsX80 : List Cond := u_ws RX8 TX8 5
-- two fields of one name: no nmX8
theorem tyX8_ok : ∀ k, k < 5 → parseFieldDescriptor (TX8 k).2.2.1 = some (tyX8 k) := by decide +kernel
abbrev cX8_init : ByteArray := prog_2_method_1_code
def yX8_init : MethodName := ⟨RX8, "<init>", "(LSnowForSummer;CLSnowForSummer$Node;LSnowForSummer$Node;)V"⟩
def dkwX8_init_1 : List UInt8 := [181, 0, 21, 177]
abbrev dktX8_init_1 : List UInt8 := dkwX8_init_1 ++ []
def dkwX8_init_0 : List UInt8 := [42, 43, 181, 0, 1, 42, 43, 183, 0, 7, 42, 28, 181, 0, 13, 42, 45, 181, 0, 17, 42, 25, 4]
abbrev dktX8_init_0 : List UInt8 := dkwX8_init_0 ++ dktX8_init_1
theorem dksX8_init_0 : cX8_init.data.toList.drop 0 = dktX8_init_0 := by decide +kernel
theorem dksX8_init_1 : cX8_init.data.toList.drop 23 = dktX8_init_1 := dk_seg dksX8_init_0 23 rfl rfl
theorem dX8_init_0 : decode cX8_init 0 = .ok (.aload_n 0, 1) := dk_42 (dk_at dksX8_init_0 0 rfl rfl)
theorem dX8_init_1 : decode cX8_init 1 = .ok (.aload_n 1, 1) := dk_43 (dk_at dksX8_init_0 1 rfl rfl)
theorem dX8_init_2 : decode cX8_init 2 = .ok (.putfield 1, 3) := dk_181 0 1 (dk_at dksX8_init_0 2 rfl rfl)
theorem dX8_init_5 : decode cX8_init 5 = .ok (.aload_n 0, 1) := dk_42 (dk_at dksX8_init_0 5 rfl rfl)
theorem dX8_init_6 : decode cX8_init 6 = .ok (.aload_n 1, 1) := dk_43 (dk_at dksX8_init_0 6 rfl rfl)
theorem dX8_init_7 : decode cX8_init 7 = .ok (.invokespecial 7, 3) := dk_183 0 7 (dk_at dksX8_init_0 7 rfl rfl)
theorem dX8_init_10 : decode cX8_init 10 = .ok (.aload_n 0, 1) := dk_42 (dk_at dksX8_init_0 10 rfl rfl)
theorem dX8_init_11 : decode cX8_init 11 = .ok (.iload_n 2, 1) := dk_28 (dk_at dksX8_init_0 11 rfl rfl)
theorem dX8_init_12 : decode cX8_init 12 = .ok (.putfield 13, 3) := dk_181 0 13 (dk_at dksX8_init_0 12 rfl rfl)
theorem dX8_init_15 : decode cX8_init 15 = .ok (.aload_n 0, 1) := dk_42 (dk_at dksX8_init_0 15 rfl rfl)
theorem dX8_init_16 : decode cX8_init 16 = .ok (.aload_n 3, 1) := dk_45 (dk_at dksX8_init_0 16 rfl rfl)
theorem dX8_init_17 : decode cX8_init 17 = .ok (.putfield 17, 3) := dk_181 0 17 (dk_at dksX8_init_0 17 rfl rfl)
theorem dX8_init_20 : decode cX8_init 20 = .ok (.aload_n 0, 1) := dk_42 (dk_at dksX8_init_0 20 rfl rfl)
theorem dX8_init_21 : decode cX8_init 21 = .ok (.aload 4, 2) := dk_25 4 (dk_at dksX8_init_0 21 rfl rfl)
theorem dX8_init_23 : decode cX8_init 23 = .ok (.putfield 21, 3) := dk_181 0 21 (dk_at dksX8_init_1 0 rfl rfl)
theorem dX8_init_26 : decode cX8_init 26 = .ok (.return_, 1) := dk_177 (dk_at dksX8_init_1 3 rfl rfl)
abbrev cX8_value : ByteArray := prog_2_method_2_code
def yX8_value : MethodName := ⟨RX8, "value", "()I"⟩
def dkwX8_value_4 : List UInt8 := [160, 0, 7, 4, 167, 0, 4, 3, 172]
abbrev dktX8_value_4 : List UInt8 := dkwX8_value_4 ++ []
def dkwX8_value_3 : List UInt8 := [27, 28, 162, 0, 7, 4, 167, 0, 4, 3, 172, 27, 28, 164, 0, 7, 4, 167, 0, 4, 3, 172, 27, 28]
abbrev dktX8_value_3 : List UInt8 := dkwX8_value_3 ++ dktX8_value_4
def dkwX8_value_2 : List UInt8 := [27, 28, 96, 172, 27, 28, 100, 172, 27, 28, 104, 172, 28, 154, 0, 7, 3, 167, 0, 6, 27, 28, 108, 172]
abbrev dktX8_value_2 : List UInt8 := dkwX8_value_2 ++ dktX8_value_3
def dkwX8_value_1 : List UInt8 := [171, 0, 0, 0, 0, 0, 0, 106, 0, 0, 0, 6, 0, 0, 0, 42, 0, 0, 0, 68, 0, 0, 0, 43, 0, 0, 0, 60, 0, 0, 0, 45, 0, 0, 0, 64, 0, 0, 0, 47, 0, 0, 0, 72, 0, 0, 0, 60, 0, 0, 0, 84, 0, 0, 0, 62, 0, 0, 0, 95]
abbrev dktX8_value_1 : List UInt8 := dkwX8_value_1 ++ dktX8_value_2
def dkwX8_value_0 : List UInt8 := [42, 180, 0, 17, 182, 0, 24, 60, 42, 180, 0, 21, 182, 0, 24, 61, 42, 180, 0, 13]
abbrev dktX8_value_0 : List UInt8 := dkwX8_value_0 ++ dktX8_value_1
theorem dksX8_value_0 : cX8_value.data.toList.drop 0 = dktX8_value_0 := by decide +kernel
theorem dksX8_value_1 : cX8_value.data.toList.drop 20 = dktX8_value_1 := dk_seg dksX8_value_0 20 rfl rfl
theorem dksX8_value_2 : cX8_value.data.toList.drop 80 = dktX8_value_2 := dk_seg dksX8_value_1 60 rfl rfl
theorem dksX8_value_3 : cX8_value.data.toList.drop 104 = dktX8_value_3 := dk_seg dksX8_value_2 24 rfl rfl
theorem dksX8_value_4 : cX8_value.data.toList.drop 128 = dktX8_value_4 := dk_seg dksX8_value_3 24 rfl rfl
theorem dX8_value_0 : decode cX8_value 0 = .ok (.aload_n 0, 1) := dk_42 (dk_at dksX8_value_0 0 rfl rfl)
theorem dX8_value_1 : decode cX8_value 1 = .ok (.getfield 17, 3) := dk_180 0 17 (dk_at dksX8_value_0 1 rfl rfl)
theorem dX8_value_4 : decode cX8_value 4 = .ok (.invokevirtual 24, 3) := dk_182 0 24 (dk_at dksX8_value_0 4 rfl rfl)
theorem dX8_value_7 : decode cX8_value 7 = .ok (.istore_n 1, 1) := dk_60 (dk_at dksX8_value_0 7 rfl rfl)
theorem dX8_value_8 : decode cX8_value 8 = .ok (.aload_n 0, 1) := dk_42 (dk_at dksX8_value_0 8 rfl rfl)
theorem dX8_value_9 : decode cX8_value 9 = .ok (.getfield 21, 3) := dk_180 0 21 (dk_at dksX8_value_0 9 rfl rfl)
theorem dX8_value_12 : decode cX8_value 12 = .ok (.invokevirtual 24, 3) := dk_182 0 24 (dk_at dksX8_value_0 12 rfl rfl)
theorem dX8_value_15 : decode cX8_value 15 = .ok (.istore_n 2, 1) := dk_61 (dk_at dksX8_value_0 15 rfl rfl)
theorem dX8_value_16 : decode cX8_value 16 = .ok (.aload_n 0, 1) := dk_42 (dk_at dksX8_value_0 16 rfl rfl)
theorem dX8_value_17 : decode cX8_value 17 = .ok (.getfield 13, 3) := dk_180 0 13 (dk_at dksX8_value_0 17 rfl rfl)
theorem dX8_value_20 : decode cX8_value 20 = .ok (.lookupswitch 106 #[(42, 68), (43, 60), (45, 64), (47, 72), (60, 84), (62, 95)], 60) := by decide +kernel
theorem dX8_value_80 : decode cX8_value 80 = .ok (.iload_n 1, 1) := dk_27 (dk_at dksX8_value_2 0 rfl rfl)
theorem dX8_value_81 : decode cX8_value 81 = .ok (.iload_n 2, 1) := dk_28 (dk_at dksX8_value_2 1 rfl rfl)
theorem dX8_value_82 : decode cX8_value 82 = .ok (.iadd, 1) := dk_96 (dk_at dksX8_value_2 2 rfl rfl)
theorem dX8_value_83 : decode cX8_value 83 = .ok (.ireturn, 1) := dk_172 (dk_at dksX8_value_2 3 rfl rfl)
theorem dX8_value_84 : decode cX8_value 84 = .ok (.iload_n 1, 1) := dk_27 (dk_at dksX8_value_2 4 rfl rfl)
theorem dX8_value_85 : decode cX8_value 85 = .ok (.iload_n 2, 1) := dk_28 (dk_at dksX8_value_2 5 rfl rfl)
theorem dX8_value_86 : decode cX8_value 86 = .ok (.isub, 1) := dk_100 (dk_at dksX8_value_2 6 rfl rfl)
theorem dX8_value_87 : decode cX8_value 87 = .ok (.ireturn, 1) := dk_172 (dk_at dksX8_value_2 7 rfl rfl)
theorem dX8_value_88 : decode cX8_value 88 = .ok (.iload_n 1, 1) := dk_27 (dk_at dksX8_value_2 8 rfl rfl)
theorem dX8_value_89 : decode cX8_value 89 = .ok (.iload_n 2, 1) := dk_28 (dk_at dksX8_value_2 9 rfl rfl)
theorem dX8_value_90 : decode cX8_value 90 = .ok (.imul, 1) := dk_104 (dk_at dksX8_value_2 10 rfl rfl)
theorem dX8_value_91 : decode cX8_value 91 = .ok (.ireturn, 1) := dk_172 (dk_at dksX8_value_2 11 rfl rfl)
theorem dX8_value_92 : decode cX8_value 92 = .ok (.iload_n 2, 1) := dk_28 (dk_at dksX8_value_2 12 rfl rfl)
theorem dX8_value_93 : decode cX8_value 93 = .ok (.ifCond .ne 7, 3) := dk_154 0 7 (dk_at dksX8_value_2 13 rfl rfl)
theorem dX8_value_96 : decode cX8_value 96 = .ok (.iconst 0, 1) := dk_3 (dk_at dksX8_value_2 16 rfl rfl)
theorem dX8_value_97 : decode cX8_value 97 = .ok (.goto 6, 3) := dk_167 0 6 (dk_at dksX8_value_2 17 rfl rfl)
theorem dX8_value_100 : decode cX8_value 100 = .ok (.iload_n 1, 1) := dk_27 (dk_at dksX8_value_2 20 rfl rfl)
theorem dX8_value_101 : decode cX8_value 101 = .ok (.iload_n 2, 1) := dk_28 (dk_at dksX8_value_2 21 rfl rfl)
theorem dX8_value_102 : decode cX8_value 102 = .ok (.idiv, 1) := dk_108 (dk_at dksX8_value_2 22 rfl rfl)
theorem dX8_value_103 : decode cX8_value 103 = .ok (.ireturn, 1) := dk_172 (dk_at dksX8_value_2 23 rfl rfl)
theorem dX8_value_104 : decode cX8_value 104 = .ok (.iload_n 1, 1) := dk_27 (dk_at dksX8_value_3 0 rfl rfl)
theorem dX8_value_105 : decode cX8_value 105 = .ok (.iload_n 2, 1) := dk_28 (dk_at dksX8_value_3 1 rfl rfl)
theorem dX8_value_106 : decode cX8_value 106 = .ok (.if_icmp .ge 7, 3) := dk_162 0 7 (dk_at dksX8_value_3 2 rfl rfl)
theorem dX8_value_109 : decode cX8_value 109 = .ok (.iconst 1, 1) := dk_4 (dk_at dksX8_value_3 5 rfl rfl)
theorem dX8_value_110 : decode cX8_value 110 = .ok (.goto 4, 3) := dk_167 0 4 (dk_at dksX8_value_3 6 rfl rfl)
theorem dX8_value_113 : decode cX8_value 113 = .ok (.iconst 0, 1) := dk_3 (dk_at dksX8_value_3 9 rfl rfl)
theorem dX8_value_114 : decode cX8_value 114 = .ok (.ireturn, 1) := dk_172 (dk_at dksX8_value_3 10 rfl rfl)
theorem dX8_value_115 : decode cX8_value 115 = .ok (.iload_n 1, 1) := dk_27 (dk_at dksX8_value_3 11 rfl rfl)
theorem dX8_value_116 : decode cX8_value 116 = .ok (.iload_n 2, 1) := dk_28 (dk_at dksX8_value_3 12 rfl rfl)
theorem dX8_value_117 : decode cX8_value 117 = .ok (.if_icmp .le 7, 3) := dk_164 0 7 (dk_at dksX8_value_3 13 rfl rfl)
theorem dX8_value_120 : decode cX8_value 120 = .ok (.iconst 1, 1) := dk_4 (dk_at dksX8_value_3 16 rfl rfl)
theorem dX8_value_121 : decode cX8_value 121 = .ok (.goto 4, 3) := dk_167 0 4 (dk_at dksX8_value_3 17 rfl rfl)
theorem dX8_value_124 : decode cX8_value 124 = .ok (.iconst 0, 1) := dk_3 (dk_at dksX8_value_3 20 rfl rfl)
theorem dX8_value_125 : decode cX8_value 125 = .ok (.ireturn, 1) := dk_172 (dk_at dksX8_value_3 21 rfl rfl)
theorem dX8_value_126 : decode cX8_value 126 = .ok (.iload_n 1, 1) := dk_27 (dk_at dksX8_value_3 22 rfl rfl)
theorem dX8_value_127 : decode cX8_value 127 = .ok (.iload_n 2, 1) := dk_28 (dk_at dksX8_value_3 23 rfl rfl)
theorem dX8_value_128 : decode cX8_value 128 = .ok (.if_icmp .ne 7, 3) := dk_160 0 7 (dk_at dksX8_value_4 0 rfl rfl)
theorem dX8_value_131 : decode cX8_value 131 = .ok (.iconst 1, 1) := dk_4 (dk_at dksX8_value_4 3 rfl rfl)
theorem dX8_value_132 : decode cX8_value 132 = .ok (.goto 4, 3) := dk_167 0 4 (dk_at dksX8_value_4 4 rfl rfl)
theorem dX8_value_135 : decode cX8_value 135 = .ok (.iconst 0, 1) := dk_3 (dk_at dksX8_value_4 7 rfl rfl)
theorem dX8_value_136 : decode cX8_value 136 = .ok (.ireturn, 1) := dk_172 (dk_at dksX8_value_4 8 rfl rfl)
theorem q103 : (Jvm.Cond.initialized "SnowForSummer$Act") ∈ lw_all := lw_g (lw_at lw_m1 15 rfl) rfl
theorem q542 : (Jvm.Cond.instantiable "SnowForSummer$Act" (5 : Nat)) ∈ lw_all := lw_g (lw_at lw_m2 214 rfl) rfl
theorem q544 : (Jvm.Cond.instanceMethod ({ cls := "SnowForSummer$Act", name := "<init>", desc := "(LSnowForSummer;CLSnowForSummer$Node;LSnowForSummer$Node;)V" } : Jvm.MethodName)) ∈ lw_all := lw_g (lw_at lw_m2 216 rfl) rfl
theorem q545 : (Jvm.Cond.code ({ cls := "SnowForSummer$Act", name := "<init>", desc := "(LSnowForSummer;CLSnowForSummer$Node;LSnowForSummer$Node;)V" } : Jvm.MethodName) prog_2_method_1_code (5 : Nat) (Option.none : Option Jvm.ClassFile.FieldType)) ∈ lw_all := lw_g (lw_at lw_m2 217 rfl) rfl
theorem q546 : (Jvm.Cond.methodLinkNest "SnowForSummer$Act" (7 : Nat) ({ cls := "SnowForSummer$Node", name := "<init>", desc := "(LSnowForSummer;)V" } : Jvm.MethodName) "SnowForSummer") ∈ lw_tbl := lw_at lw_m2 218 rfl
theorem q547 : (Jvm.Cond.fieldLink "SnowForSummer$Act" (13 : Nat) "SnowForSummer$Act" "sign" "C") ∈ lw_all := lw_g (lw_at lw_m2 219 rfl) rfl
theorem q548 : (Jvm.Cond.fieldLink "SnowForSummer$Act" (17 : Nat) "SnowForSummer$Act" "one" "LSnowForSummer$Node;") ∈ lw_all := lw_g (lw_at lw_m2 220 rfl) rfl
theorem q549 : (Jvm.Cond.fieldLink "SnowForSummer$Act" (21 : Nat) "SnowForSummer$Act" "two" "LSnowForSummer$Node;") ∈ lw_all := lw_g (lw_at lw_m2 221 rfl) rfl
theorem q550 : (Jvm.Cond.fieldLink "SnowForSummer$Act" (1 : Nat) "SnowForSummer$Act" "this$0" "LSnowForSummer;") ∈ lw_all := lw_g (lw_at lw_m2 222 rfl) rfl
theorem q551 : (Jvm.Cond.laysFinal "SnowForSummer$Act" "SnowForSummer$Act" "sign" "C") ∈ lw_all := lw_g (lw_at lw_m2 223 rfl) rfl
theorem q552 : (Jvm.Cond.soleField "SnowForSummer$Act" "sign") ∈ lw_all := lw_g (lw_at lw_m2 224 rfl) rfl
theorem q553 : (Jvm.Cond.laysFinal "SnowForSummer$Act" "SnowForSummer$Act" "one" "LSnowForSummer$Node;") ∈ lw_all := lw_g (lw_at lw_m2 225 rfl) rfl
theorem q554 : (Jvm.Cond.soleField "SnowForSummer$Act" "one") ∈ lw_all := lw_g (lw_at lw_m2 226 rfl) rfl
theorem q555 : (Jvm.Cond.laysFinal "SnowForSummer$Act" "SnowForSummer$Act" "two" "LSnowForSummer$Node;") ∈ lw_all := lw_g (lw_at lw_m2 227 rfl) rfl
theorem q556 : (Jvm.Cond.soleField "SnowForSummer$Act" "two") ∈ lw_all := lw_g (lw_at lw_m2 228 rfl) rfl
theorem q557 : (Jvm.Cond.laysFinal "SnowForSummer$Act" "SnowForSummer$Act" "this$0" "LSnowForSummer;") ∈ lw_all := lw_g (lw_at lw_m2 229 rfl) rfl
theorem q558 : (Jvm.Cond.soleField "SnowForSummer$Act" "this$0") ∈ lw_all := lw_g (lw_at lw_m2 230 rfl) rfl
theorem q559 : (Jvm.Cond.laysFinal "SnowForSummer$Act" "SnowForSummer$Node" "this$0" "LSnowForSummer;") ∈ lw_all := lw_g (lw_at lw_m2 231 rfl) rfl
theorem q560 : (Jvm.Cond.superclass "SnowForSummer$Act" "SnowForSummer$Node") ∈ lw_all := lw_g (lw_at lw_m2 232 rfl) rfl
theorem q639 : (Jvm.Cond.selects "SnowForSummer$Act" ({ cls := "SnowForSummer$Node", name := "value", desc := "()I" } : Jvm.MethodName) ({ cls := "SnowForSummer$Act", name := "value", desc := "()I" } : Jvm.MethodName)) ∈ lw_all := lw_g (lw_at lw_m3 71 rfl) rfl
theorem q640 : (Jvm.Cond.instanceMethod ({ cls := "SnowForSummer$Act", name := "value", desc := "()I" } : Jvm.MethodName)) ∈ lw_all := lw_g (lw_at lw_m3 72 rfl) rfl
theorem q641 : (Jvm.Cond.code ({ cls := "SnowForSummer$Act", name := "value", desc := "()I" } : Jvm.MethodName) prog_2_method_2_code (3 : Nat) (Option.some Jvm.ClassFile.FieldType.int)) ∈ lw_all := lw_g (lw_at lw_m3 73 rfl) rfl
theorem q642 : (Jvm.Cond.methodLink "SnowForSummer$Act" (24 : Nat) ({ cls := "SnowForSummer$Node", name := "value", desc := "()I" } : Jvm.MethodName)) ∈ lw_all := lw_g (lw_at lw_m3 74 rfl) rfl
theorem q1657 : (Jvm.Cond.castable "SnowForSummer$Act" "java/lang/Object") ∈ lw_tbl := lw_at lw_m7 129 rfl
theorem in_X8 : ∀ w ∈ wsX80, w ∈ lw_all := lw_in wsX80 [559, 551, 553, 555, 557] (by decide +kernel) (by decide +kernel)
