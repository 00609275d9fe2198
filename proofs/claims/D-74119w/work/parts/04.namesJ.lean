/-! java/lang/Math -/
set_option maxRecDepth 100000
def RJ4 : String := "java/lang/Math"
abbrev cJ4_max : ByteArray := prog_24_method_65_code
def yJ4_max : MethodName := ⟨RJ4, "max", "(II)I"⟩
def dkwJ4_max_0 : List UInt8 := [26, 27, 161, 0, 7, 26, 167, 0, 4, 27, 172]
abbrev dktJ4_max_0 : List UInt8 := dkwJ4_max_0 ++ []
theorem dksJ4_max_0 : cJ4_max.data.toList.drop 0 = dktJ4_max_0 := by decide +kernel
theorem dJ4_max_0 : decode cJ4_max 0 = .ok (.iload_n 0, 1) := dk_26 (dk_at dksJ4_max_0 0 rfl rfl)
theorem dJ4_max_1 : decode cJ4_max 1 = .ok (.iload_n 1, 1) := dk_27 (dk_at dksJ4_max_0 1 rfl rfl)
theorem dJ4_max_2 : decode cJ4_max 2 = .ok (.if_icmp .lt 7, 3) := dk_161 0 7 (dk_at dksJ4_max_0 2 rfl rfl)
theorem dJ4_max_5 : decode cJ4_max 5 = .ok (.iload_n 0, 1) := dk_26 (dk_at dksJ4_max_0 5 rfl rfl)
theorem dJ4_max_6 : decode cJ4_max 6 = .ok (.goto 4, 3) := dk_167 0 4 (dk_at dksJ4_max_0 6 rfl rfl)
theorem dJ4_max_9 : decode cJ4_max 9 = .ok (.iload_n 1, 1) := dk_27 (dk_at dksJ4_max_0 9 rfl rfl)
theorem dJ4_max_10 : decode cJ4_max 10 = .ok (.ireturn, 1) := dk_172 (dk_at dksJ4_max_0 10 rfl rfl)
abbrev cJ4_min : ByteArray := prog_24_method_69_code
def yJ4_min : MethodName := ⟨RJ4, "min", "(II)I"⟩
def dkwJ4_min_0 : List UInt8 := [26, 27, 163, 0, 7, 26, 167, 0, 4, 27, 172]
abbrev dktJ4_min_0 : List UInt8 := dkwJ4_min_0 ++ []
theorem dksJ4_min_0 : cJ4_min.data.toList.drop 0 = dktJ4_min_0 := by decide +kernel
theorem dJ4_min_0 : decode cJ4_min 0 = .ok (.iload_n 0, 1) := dk_26 (dk_at dksJ4_min_0 0 rfl rfl)
theorem dJ4_min_1 : decode cJ4_min 1 = .ok (.iload_n 1, 1) := dk_27 (dk_at dksJ4_min_0 1 rfl rfl)
theorem dJ4_min_2 : decode cJ4_min 2 = .ok (.if_icmp .gt 7, 3) := dk_163 0 7 (dk_at dksJ4_min_0 2 rfl rfl)
theorem dJ4_min_5 : decode cJ4_min 5 = .ok (.iload_n 0, 1) := dk_26 (dk_at dksJ4_min_0 5 rfl rfl)
theorem dJ4_min_6 : decode cJ4_min 6 = .ok (.goto 4, 3) := dk_167 0 4 (dk_at dksJ4_min_0 6 rfl rfl)
theorem dJ4_min_9 : decode cJ4_min 9 = .ok (.iload_n 1, 1) := dk_27 (dk_at dksJ4_min_0 9 rfl rfl)
theorem dJ4_min_10 : decode cJ4_min 10 = .ok (.ireturn, 1) := dk_172 (dk_at dksJ4_min_0 10 rfl rfl)
abbrev cJ4_abs : ByteArray := prog_24_method_64_code
def yJ4_abs : MethodName := ⟨RJ4, "abs", "(D)D"⟩
def dkwJ4_abs_0 : List UInt8 := [38, 184, 0, 79, 20, 0, 135, 127, 184, 0, 166, 175]
abbrev dktJ4_abs_0 : List UInt8 := dkwJ4_abs_0 ++ []
theorem dksJ4_abs_0 : cJ4_abs.data.toList.drop 0 = dktJ4_abs_0 := by decide +kernel
theorem dJ4_abs_0 : decode cJ4_abs 0 = .ok (.dload_n 0, 1) := dk_38 (dk_at dksJ4_abs_0 0 rfl rfl)
theorem dJ4_abs_1 : decode cJ4_abs 1 = .ok (.invokestatic 79, 3) := dk_184 0 79 (dk_at dksJ4_abs_0 1 rfl rfl)
theorem dJ4_abs_4 : decode cJ4_abs 4 = .ok (.ldc2_w 135, 3) := dk_20 0 135 (dk_at dksJ4_abs_0 4 rfl rfl)
theorem dJ4_abs_7 : decode cJ4_abs 7 = .ok (.land, 1) := dk_127 (dk_at dksJ4_abs_0 7 rfl rfl)
theorem dJ4_abs_8 : decode cJ4_abs 8 = .ok (.invokestatic 166, 3) := dk_184 0 166 (dk_at dksJ4_abs_0 8 rfl rfl)
theorem dJ4_abs_11 : decode cJ4_abs 11 = .ok (.dreturn, 1) := dk_175 (dk_at dksJ4_abs_0 11 rfl rfl)
theorem q139 : (Jvm.Cond.initialized "java/lang/Math") ∈ lw_all := lw_g (lw_at lw_m1 18 rfl) rfl
theorem q667 : (Jvm.Cond.static ({ cls := "java/lang/Math", name := "max", desc := "(II)I" } : Jvm.MethodName)) ∈ lw_all := lw_g (lw_at lw_m3 66 rfl) rfl
theorem q668 : (Jvm.Cond.code ({ cls := "java/lang/Math", name := "max", desc := "(II)I" } : Jvm.MethodName) prog_24_method_65_code (2 : Nat) (Option.some Jvm.ClassFile.FieldType.int)) ∈ lw_all := lw_g (lw_at lw_m3 67 rfl) rfl
theorem q670 : (Jvm.Cond.static ({ cls := "java/lang/Math", name := "min", desc := "(II)I" } : Jvm.MethodName)) ∈ lw_all := lw_g (lw_at lw_m3 69 rfl) rfl
theorem q671 : (Jvm.Cond.code ({ cls := "java/lang/Math", name := "min", desc := "(II)I" } : Jvm.MethodName) prog_24_method_69_code (2 : Nat) (Option.some Jvm.ClassFile.FieldType.int)) ∈ lw_all := lw_g (lw_at lw_m3 70 rfl) rfl
theorem q1136 : (Jvm.Cond.static ({ cls := "java/lang/Math", name := "abs", desc := "(D)D" } : Jvm.MethodName)) ∈ lw_all := lw_g (lw_at lw_m5 55 rfl) rfl
theorem q1137 : (Jvm.Cond.code ({ cls := "java/lang/Math", name := "abs", desc := "(D)D" } : Jvm.MethodName) prog_24_method_64_code (2 : Nat) (Option.some Jvm.ClassFile.FieldType.double)) ∈ lw_all := lw_g (lw_at lw_m5 56 rfl) rfl
theorem q1138 : (Jvm.Cond.methodLink "java/lang/Math" (79 : Nat) ({ cls := "java/lang/Double", name := "doubleToRawLongBits", desc := "(D)J" } : Jvm.MethodName)) ∈ lw_all := lw_g (lw_at lw_m5 57 rfl) rfl
theorem q1139 : (Jvm.Cond.constantLong "java/lang/Math" (135 : Nat) (9223372036854775807 : Int64)) ∈ lw_all := lw_g (lw_at lw_m5 58 rfl) rfl
theorem q1140 : (Jvm.Cond.methodLink "java/lang/Math" (166 : Nat) ({ cls := "java/lang/Double", name := "longBitsToDouble", desc := "(J)D" } : Jvm.MethodName)) ∈ lw_all := lw_g (lw_at lw_m5 59 rfl) rfl

/-! java/lang/Double -/
set_option maxRecDepth 100000
def RJ10 : String := "java/lang/Double"
abbrev cJ10_doubleToLongBits : ByteArray := prog_20_method_23_code
def yJ10_doubleToLongBits : MethodName := ⟨RJ10, "doubleToLongBits", "(D)J"⟩
def dkwJ10_doubleToLongBits_0 : List UInt8 := [38, 184, 0, 122, 154, 0, 8, 38, 184, 0, 134, 173, 20, 0, 137, 173]
abbrev dktJ10_doubleToLongBits_0 : List UInt8 := dkwJ10_doubleToLongBits_0 ++ []
theorem dksJ10_doubleToLongBits_0 : cJ10_doubleToLongBits.data.toList.drop 0 = dktJ10_doubleToLongBits_0 := by decide +kernel
theorem dJ10_doubleToLongBits_0 : decode cJ10_doubleToLongBits 0 = .ok (.dload_n 0, 1) := dk_38 (dk_at dksJ10_doubleToLongBits_0 0 rfl rfl)
theorem dJ10_doubleToLongBits_1 : decode cJ10_doubleToLongBits 1 = .ok (.invokestatic 122, 3) := dk_184 0 122 (dk_at dksJ10_doubleToLongBits_0 1 rfl rfl)
theorem dJ10_doubleToLongBits_4 : decode cJ10_doubleToLongBits 4 = .ok (.ifCond .ne 8, 3) := dk_154 0 8 (dk_at dksJ10_doubleToLongBits_0 4 rfl rfl)
theorem dJ10_doubleToLongBits_7 : decode cJ10_doubleToLongBits 7 = .ok (.dload_n 0, 1) := dk_38 (dk_at dksJ10_doubleToLongBits_0 7 rfl rfl)
theorem dJ10_doubleToLongBits_8 : decode cJ10_doubleToLongBits 8 = .ok (.invokestatic 134, 3) := dk_184 0 134 (dk_at dksJ10_doubleToLongBits_0 8 rfl rfl)
theorem dJ10_doubleToLongBits_11 : decode cJ10_doubleToLongBits 11 = .ok (.lreturn, 1) := dk_173 (dk_at dksJ10_doubleToLongBits_0 11 rfl rfl)
theorem dJ10_doubleToLongBits_12 : decode cJ10_doubleToLongBits 12 = .ok (.ldc2_w 137, 3) := dk_20 0 137 (dk_at dksJ10_doubleToLongBits_0 12 rfl rfl)
theorem dJ10_doubleToLongBits_15 : decode cJ10_doubleToLongBits 15 = .ok (.lreturn, 1) := dk_173 (dk_at dksJ10_doubleToLongBits_0 15 rfl rfl)
abbrev cJ10_isNaN : ByteArray := prog_20_method_6_code
def yJ10_isNaN : MethodName := ⟨RJ10, "isNaN", "(D)Z"⟩
def dkwJ10_isNaN_0 : List UInt8 := [38, 38, 151, 153, 0, 7, 4, 167, 0, 4, 3, 172]
abbrev dktJ10_isNaN_0 : List UInt8 := dkwJ10_isNaN_0 ++ []
theorem dksJ10_isNaN_0 : cJ10_isNaN.data.toList.drop 0 = dktJ10_isNaN_0 := by decide +kernel
theorem dJ10_isNaN_0 : decode cJ10_isNaN 0 = .ok (.dload_n 0, 1) := dk_38 (dk_at dksJ10_isNaN_0 0 rfl rfl)
theorem dJ10_isNaN_1 : decode cJ10_isNaN 1 = .ok (.dload_n 0, 1) := dk_38 (dk_at dksJ10_isNaN_0 1 rfl rfl)
theorem dJ10_isNaN_2 : decode cJ10_isNaN 2 = .ok (.dcmp .l, 1) := dk_151 (dk_at dksJ10_isNaN_0 2 rfl rfl)
theorem dJ10_isNaN_3 : decode cJ10_isNaN 3 = .ok (.ifCond .eq 7, 3) := dk_153 0 7 (dk_at dksJ10_isNaN_0 3 rfl rfl)
theorem dJ10_isNaN_6 : decode cJ10_isNaN 6 = .ok (.iconst 1, 1) := dk_4 (dk_at dksJ10_isNaN_0 6 rfl rfl)
theorem dJ10_isNaN_7 : decode cJ10_isNaN 7 = .ok (.goto 4, 3) := dk_167 0 4 (dk_at dksJ10_isNaN_0 7 rfl rfl)
theorem dJ10_isNaN_10 : decode cJ10_isNaN 10 = .ok (.iconst 0, 1) := dk_3 (dk_at dksJ10_isNaN_0 10 rfl rfl)
theorem dJ10_isNaN_11 : decode cJ10_isNaN 11 = .ok (.ireturn, 1) := dk_172 (dk_at dksJ10_isNaN_0 11 rfl rfl)
theorem q146 : (Jvm.Cond.initialized "java/lang/Double") ∈ lw_all := lw_g (lw_at lw_m1 25 rfl) rfl
theorem q1107 : (Jvm.Cond.static ({ cls := "java/lang/Double", name := "doubleToLongBits", desc := "(D)J" } : Jvm.MethodName)) ∈ lw_all := lw_g (lw_at lw_m5 26 rfl) rfl
theorem q1108 : (Jvm.Cond.code ({ cls := "java/lang/Double", name := "doubleToLongBits", desc := "(D)J" } : Jvm.MethodName) prog_20_method_23_code (2 : Nat) (Option.some Jvm.ClassFile.FieldType.long)) ∈ lw_all := lw_g (lw_at lw_m5 27 rfl) rfl
theorem q1109 : (Jvm.Cond.methodLink "java/lang/Double" (122 : Nat) ({ cls := "java/lang/Double", name := "isNaN", desc := "(D)Z" } : Jvm.MethodName)) ∈ lw_all := lw_g (lw_at lw_m5 28 rfl) rfl
theorem q1110 : (Jvm.Cond.static ({ cls := "java/lang/Double", name := "isNaN", desc := "(D)Z" } : Jvm.MethodName)) ∈ lw_all := lw_g (lw_at lw_m5 29 rfl) rfl
theorem q1111 : (Jvm.Cond.code ({ cls := "java/lang/Double", name := "isNaN", desc := "(D)Z" } : Jvm.MethodName) prog_20_method_6_code (2 : Nat) (Option.some Jvm.ClassFile.FieldType.boolean)) ∈ lw_all := lw_g (lw_at lw_m5 30 rfl) rfl
theorem q1112 : (Jvm.Cond.methodLink "java/lang/Double" (134 : Nat) ({ cls := "java/lang/Double", name := "doubleToRawLongBits", desc := "(D)J" } : Jvm.MethodName)) ∈ lw_all := lw_g (lw_at lw_m5 31 rfl) rfl
theorem q1113 : (Jvm.Cond.static ({ cls := "java/lang/Double", name := "doubleToRawLongBits", desc := "(D)J" } : Jvm.MethodName)) ∈ lw_all := lw_g (lw_at lw_m5 32 rfl) rfl
theorem q1114 : (Jvm.Cond.native ({ cls := "java/lang/Double", name := "doubleToRawLongBits", desc := "(D)J" } : Jvm.MethodName)) ∈ lw_all := lw_g (lw_at lw_m5 33 rfl) rfl
theorem q1115 : (Jvm.Cond.constantLong "java/lang/Double" (137 : Nat) (9221120237041090560 : Int64)) ∈ lw_all := lw_g (lw_at lw_m5 34 rfl) rfl
theorem q1141 : (Jvm.Cond.static ({ cls := "java/lang/Double", name := "longBitsToDouble", desc := "(J)D" } : Jvm.MethodName)) ∈ lw_all := lw_g (lw_at lw_m5 60 rfl) rfl
theorem q1142 : (Jvm.Cond.native ({ cls := "java/lang/Double", name := "longBitsToDouble", desc := "(J)D" } : Jvm.MethodName)) ∈ lw_all := lw_g (lw_at lw_m5 61 rfl) rfl

/-! java/lang/Float -/
set_option maxRecDepth 100000
def RJ11 : String := "java/lang/Float"
abbrev cJ11_floatToIntBits : ByteArray := prog_22_method_24_code
def yJ11_floatToIntBits : MethodName := ⟨RJ11, "floatToIntBits", "(F)I"⟩
def dkwJ11_floatToIntBits_0 : List UInt8 := [34, 184, 0, 59, 154, 0, 8, 34, 184, 0, 74, 172, 18, 77, 172]
abbrev dktJ11_floatToIntBits_0 : List UInt8 := dkwJ11_floatToIntBits_0 ++ []
theorem dksJ11_floatToIntBits_0 : cJ11_floatToIntBits.data.toList.drop 0 = dktJ11_floatToIntBits_0 := by decide +kernel
theorem dJ11_floatToIntBits_0 : decode cJ11_floatToIntBits 0 = .ok (.fload_n 0, 1) := dk_34 (dk_at dksJ11_floatToIntBits_0 0 rfl rfl)
theorem dJ11_floatToIntBits_1 : decode cJ11_floatToIntBits 1 = .ok (.invokestatic 59, 3) := dk_184 0 59 (dk_at dksJ11_floatToIntBits_0 1 rfl rfl)
theorem dJ11_floatToIntBits_4 : decode cJ11_floatToIntBits 4 = .ok (.ifCond .ne 8, 3) := dk_154 0 8 (dk_at dksJ11_floatToIntBits_0 4 rfl rfl)
theorem dJ11_floatToIntBits_7 : decode cJ11_floatToIntBits 7 = .ok (.fload_n 0, 1) := dk_34 (dk_at dksJ11_floatToIntBits_0 7 rfl rfl)
theorem dJ11_floatToIntBits_8 : decode cJ11_floatToIntBits 8 = .ok (.invokestatic 74, 3) := dk_184 0 74 (dk_at dksJ11_floatToIntBits_0 8 rfl rfl)
theorem dJ11_floatToIntBits_11 : decode cJ11_floatToIntBits 11 = .ok (.ireturn, 1) := dk_172 (dk_at dksJ11_floatToIntBits_0 11 rfl rfl)
theorem dJ11_floatToIntBits_12 : decode cJ11_floatToIntBits 12 = .ok (.ldc 77, 2) := dk_18 77 (dk_at dksJ11_floatToIntBits_0 12 rfl rfl)
theorem dJ11_floatToIntBits_14 : decode cJ11_floatToIntBits 14 = .ok (.ireturn, 1) := dk_172 (dk_at dksJ11_floatToIntBits_0 14 rfl rfl)
abbrev cJ11_isNaN : ByteArray := prog_22_method_6_code
def yJ11_isNaN : MethodName := ⟨RJ11, "isNaN", "(F)Z"⟩
def dkwJ11_isNaN_0 : List UInt8 := [34, 34, 149, 153, 0, 7, 4, 167, 0, 4, 3, 172]
abbrev dktJ11_isNaN_0 : List UInt8 := dkwJ11_isNaN_0 ++ []
theorem dksJ11_isNaN_0 : cJ11_isNaN.data.toList.drop 0 = dktJ11_isNaN_0 := by decide +kernel
theorem dJ11_isNaN_0 : decode cJ11_isNaN 0 = .ok (.fload_n 0, 1) := dk_34 (dk_at dksJ11_isNaN_0 0 rfl rfl)
theorem dJ11_isNaN_1 : decode cJ11_isNaN 1 = .ok (.fload_n 0, 1) := dk_34 (dk_at dksJ11_isNaN_0 1 rfl rfl)
theorem dJ11_isNaN_2 : decode cJ11_isNaN 2 = .ok (.fcmp .l, 1) := dk_149 (dk_at dksJ11_isNaN_0 2 rfl rfl)
theorem dJ11_isNaN_3 : decode cJ11_isNaN 3 = .ok (.ifCond .eq 7, 3) := dk_153 0 7 (dk_at dksJ11_isNaN_0 3 rfl rfl)
theorem dJ11_isNaN_6 : decode cJ11_isNaN 6 = .ok (.iconst 1, 1) := dk_4 (dk_at dksJ11_isNaN_0 6 rfl rfl)
theorem dJ11_isNaN_7 : decode cJ11_isNaN 7 = .ok (.goto 4, 3) := dk_167 0 4 (dk_at dksJ11_isNaN_0 7 rfl rfl)
theorem dJ11_isNaN_10 : decode cJ11_isNaN 10 = .ok (.iconst 0, 1) := dk_3 (dk_at dksJ11_isNaN_0 10 rfl rfl)
theorem dJ11_isNaN_11 : decode cJ11_isNaN 11 = .ok (.ireturn, 1) := dk_172 (dk_at dksJ11_isNaN_0 11 rfl rfl)
theorem q147 : (Jvm.Cond.initialized "java/lang/Float") ∈ lw_all := lw_g (lw_at lw_m1 26 rfl) rfl
theorem q1122 : (Jvm.Cond.static ({ cls := "java/lang/Float", name := "floatToIntBits", desc := "(F)I" } : Jvm.MethodName)) ∈ lw_all := lw_g (lw_at lw_m5 41 rfl) rfl
theorem q1123 : (Jvm.Cond.code ({ cls := "java/lang/Float", name := "floatToIntBits", desc := "(F)I" } : Jvm.MethodName) prog_22_method_24_code (1 : Nat) (Option.some Jvm.ClassFile.FieldType.int)) ∈ lw_all := lw_g (lw_at lw_m5 42 rfl) rfl
theorem q1124 : (Jvm.Cond.methodLink "java/lang/Float" (59 : Nat) ({ cls := "java/lang/Float", name := "isNaN", desc := "(F)Z" } : Jvm.MethodName)) ∈ lw_all := lw_g (lw_at lw_m5 43 rfl) rfl
theorem q1125 : (Jvm.Cond.static ({ cls := "java/lang/Float", name := "isNaN", desc := "(F)Z" } : Jvm.MethodName)) ∈ lw_all := lw_g (lw_at lw_m5 44 rfl) rfl
theorem q1126 : (Jvm.Cond.code ({ cls := "java/lang/Float", name := "isNaN", desc := "(F)Z" } : Jvm.MethodName) prog_22_method_6_code (1 : Nat) (Option.some Jvm.ClassFile.FieldType.boolean)) ∈ lw_all := lw_g (lw_at lw_m5 45 rfl) rfl
theorem q1127 : (Jvm.Cond.methodLink "java/lang/Float" (74 : Nat) ({ cls := "java/lang/Float", name := "floatToRawIntBits", desc := "(F)I" } : Jvm.MethodName)) ∈ lw_all := lw_g (lw_at lw_m5 46 rfl) rfl
theorem q1128 : (Jvm.Cond.static ({ cls := "java/lang/Float", name := "floatToRawIntBits", desc := "(F)I" } : Jvm.MethodName)) ∈ lw_all := lw_g (lw_at lw_m5 47 rfl) rfl
theorem q1129 : (Jvm.Cond.native ({ cls := "java/lang/Float", name := "floatToRawIntBits", desc := "(F)I" } : Jvm.MethodName)) ∈ lw_all := lw_g (lw_at lw_m5 48 rfl) rfl
theorem q1130 : (Jvm.Cond.constant "java/lang/Float" (77 : Nat) (2143289344 : Int32)) ∈ lw_all := lw_g (lw_at lw_m5 49 rfl) rfl

/-! java/lang/Integer -/
set_option maxRecDepth 100000
def RJ13 : String := "java/lang/Integer"
abbrev cJ13_bitCount : ByteArray := prog_23_method_49_code
def yJ13_bitCount : MethodName := ⟨RJ13, "bitCount", "(I)I"⟩
def dkwJ13_bitCount_2 : List UInt8 := [26, 16, 63, 126, 172]
abbrev dktJ13_bitCount_2 : List UInt8 := dkwJ13_bitCount_2 ++ []
def dkwJ13_bitCount_1 : List UInt8 := [26, 26, 7, 124, 96, 19, 1, 11, 126, 59, 26, 26, 16, 8, 124, 96, 59, 26, 26, 16, 16, 124, 96, 59]
abbrev dktJ13_bitCount_1 : List UInt8 := dkwJ13_bitCount_1 ++ dktJ13_bitCount_2
def dkwJ13_bitCount_0 : List UInt8 := [26, 26, 4, 124, 19, 1, 9, 126, 100, 59, 26, 19, 1, 10, 126, 26, 5, 124, 19, 1, 10, 126, 96, 59]
abbrev dktJ13_bitCount_0 : List UInt8 := dkwJ13_bitCount_0 ++ dktJ13_bitCount_1
theorem dksJ13_bitCount_0 : cJ13_bitCount.data.toList.drop 0 = dktJ13_bitCount_0 := by decide +kernel
theorem dksJ13_bitCount_1 : cJ13_bitCount.data.toList.drop 24 = dktJ13_bitCount_1 := dk_seg dksJ13_bitCount_0 24 rfl rfl
theorem dksJ13_bitCount_2 : cJ13_bitCount.data.toList.drop 48 = dktJ13_bitCount_2 := dk_seg dksJ13_bitCount_1 24 rfl rfl
theorem dJ13_bitCount_0 : decode cJ13_bitCount 0 = .ok (.iload_n 0, 1) := dk_26 (dk_at dksJ13_bitCount_0 0 rfl rfl)
theorem dJ13_bitCount_1 : decode cJ13_bitCount 1 = .ok (.iload_n 0, 1) := dk_26 (dk_at dksJ13_bitCount_0 1 rfl rfl)
theorem dJ13_bitCount_2 : decode cJ13_bitCount 2 = .ok (.iconst 1, 1) := dk_4 (dk_at dksJ13_bitCount_0 2 rfl rfl)
theorem dJ13_bitCount_3 : decode cJ13_bitCount 3 = .ok (.iushr, 1) := dk_124 (dk_at dksJ13_bitCount_0 3 rfl rfl)
theorem dJ13_bitCount_4 : decode cJ13_bitCount 4 = .ok (.ldc_w 265, 3) := dk_19 1 9 (dk_at dksJ13_bitCount_0 4 rfl rfl)
theorem dJ13_bitCount_7 : decode cJ13_bitCount 7 = .ok (.iand, 1) := dk_126 (dk_at dksJ13_bitCount_0 7 rfl rfl)
theorem dJ13_bitCount_8 : decode cJ13_bitCount 8 = .ok (.isub, 1) := dk_100 (dk_at dksJ13_bitCount_0 8 rfl rfl)
theorem dJ13_bitCount_9 : decode cJ13_bitCount 9 = .ok (.istore_n 0, 1) := dk_59 (dk_at dksJ13_bitCount_0 9 rfl rfl)
theorem dJ13_bitCount_10 : decode cJ13_bitCount 10 = .ok (.iload_n 0, 1) := dk_26 (dk_at dksJ13_bitCount_0 10 rfl rfl)
theorem dJ13_bitCount_11 : decode cJ13_bitCount 11 = .ok (.ldc_w 266, 3) := dk_19 1 10 (dk_at dksJ13_bitCount_0 11 rfl rfl)
theorem dJ13_bitCount_14 : decode cJ13_bitCount 14 = .ok (.iand, 1) := dk_126 (dk_at dksJ13_bitCount_0 14 rfl rfl)
theorem dJ13_bitCount_15 : decode cJ13_bitCount 15 = .ok (.iload_n 0, 1) := dk_26 (dk_at dksJ13_bitCount_0 15 rfl rfl)
theorem dJ13_bitCount_16 : decode cJ13_bitCount 16 = .ok (.iconst 2, 1) := dk_5 (dk_at dksJ13_bitCount_0 16 rfl rfl)
theorem dJ13_bitCount_17 : decode cJ13_bitCount 17 = .ok (.iushr, 1) := dk_124 (dk_at dksJ13_bitCount_0 17 rfl rfl)
theorem dJ13_bitCount_18 : decode cJ13_bitCount 18 = .ok (.ldc_w 266, 3) := dk_19 1 10 (dk_at dksJ13_bitCount_0 18 rfl rfl)
theorem dJ13_bitCount_21 : decode cJ13_bitCount 21 = .ok (.iand, 1) := dk_126 (dk_at dksJ13_bitCount_0 21 rfl rfl)
theorem dJ13_bitCount_22 : decode cJ13_bitCount 22 = .ok (.iadd, 1) := dk_96 (dk_at dksJ13_bitCount_0 22 rfl rfl)
theorem dJ13_bitCount_23 : decode cJ13_bitCount 23 = .ok (.istore_n 0, 1) := dk_59 (dk_at dksJ13_bitCount_0 23 rfl rfl)
theorem dJ13_bitCount_24 : decode cJ13_bitCount 24 = .ok (.iload_n 0, 1) := dk_26 (dk_at dksJ13_bitCount_1 0 rfl rfl)
theorem dJ13_bitCount_25 : decode cJ13_bitCount 25 = .ok (.iload_n 0, 1) := dk_26 (dk_at dksJ13_bitCount_1 1 rfl rfl)
theorem dJ13_bitCount_26 : decode cJ13_bitCount 26 = .ok (.iconst 4, 1) := dk_7 (dk_at dksJ13_bitCount_1 2 rfl rfl)
theorem dJ13_bitCount_27 : decode cJ13_bitCount 27 = .ok (.iushr, 1) := dk_124 (dk_at dksJ13_bitCount_1 3 rfl rfl)
theorem dJ13_bitCount_28 : decode cJ13_bitCount 28 = .ok (.iadd, 1) := dk_96 (dk_at dksJ13_bitCount_1 4 rfl rfl)
theorem dJ13_bitCount_29 : decode cJ13_bitCount 29 = .ok (.ldc_w 267, 3) := dk_19 1 11 (dk_at dksJ13_bitCount_1 5 rfl rfl)
theorem dJ13_bitCount_32 : decode cJ13_bitCount 32 = .ok (.iand, 1) := dk_126 (dk_at dksJ13_bitCount_1 8 rfl rfl)
theorem dJ13_bitCount_33 : decode cJ13_bitCount 33 = .ok (.istore_n 0, 1) := dk_59 (dk_at dksJ13_bitCount_1 9 rfl rfl)
theorem dJ13_bitCount_34 : decode cJ13_bitCount 34 = .ok (.iload_n 0, 1) := dk_26 (dk_at dksJ13_bitCount_1 10 rfl rfl)
theorem dJ13_bitCount_35 : decode cJ13_bitCount 35 = .ok (.iload_n 0, 1) := dk_26 (dk_at dksJ13_bitCount_1 11 rfl rfl)
theorem dJ13_bitCount_36 : decode cJ13_bitCount 36 = .ok (.bipush 8, 2) := dk_16 8 (dk_at dksJ13_bitCount_1 12 rfl rfl)
theorem dJ13_bitCount_38 : decode cJ13_bitCount 38 = .ok (.iushr, 1) := dk_124 (dk_at dksJ13_bitCount_1 14 rfl rfl)
theorem dJ13_bitCount_39 : decode cJ13_bitCount 39 = .ok (.iadd, 1) := dk_96 (dk_at dksJ13_bitCount_1 15 rfl rfl)
theorem dJ13_bitCount_40 : decode cJ13_bitCount 40 = .ok (.istore_n 0, 1) := dk_59 (dk_at dksJ13_bitCount_1 16 rfl rfl)
theorem dJ13_bitCount_41 : decode cJ13_bitCount 41 = .ok (.iload_n 0, 1) := dk_26 (dk_at dksJ13_bitCount_1 17 rfl rfl)
theorem dJ13_bitCount_42 : decode cJ13_bitCount 42 = .ok (.iload_n 0, 1) := dk_26 (dk_at dksJ13_bitCount_1 18 rfl rfl)
theorem dJ13_bitCount_43 : decode cJ13_bitCount 43 = .ok (.bipush 16, 2) := dk_16 16 (dk_at dksJ13_bitCount_1 19 rfl rfl)
theorem dJ13_bitCount_45 : decode cJ13_bitCount 45 = .ok (.iushr, 1) := dk_124 (dk_at dksJ13_bitCount_1 21 rfl rfl)
theorem dJ13_bitCount_46 : decode cJ13_bitCount 46 = .ok (.iadd, 1) := dk_96 (dk_at dksJ13_bitCount_1 22 rfl rfl)
theorem dJ13_bitCount_47 : decode cJ13_bitCount 47 = .ok (.istore_n 0, 1) := dk_59 (dk_at dksJ13_bitCount_1 23 rfl rfl)
theorem dJ13_bitCount_48 : decode cJ13_bitCount 48 = .ok (.iload_n 0, 1) := dk_26 (dk_at dksJ13_bitCount_2 0 rfl rfl)
theorem dJ13_bitCount_49 : decode cJ13_bitCount 49 = .ok (.bipush 63, 2) := dk_16 63 (dk_at dksJ13_bitCount_2 1 rfl rfl)
theorem dJ13_bitCount_51 : decode cJ13_bitCount 51 = .ok (.iand, 1) := dk_126 (dk_at dksJ13_bitCount_2 3 rfl rfl)
theorem dJ13_bitCount_52 : decode cJ13_bitCount 52 = .ok (.ireturn, 1) := dk_172 (dk_at dksJ13_bitCount_2 4 rfl rfl)
theorem q149 : (Jvm.Cond.initialized "java/lang/Integer") ∈ lw_all := lw_g (lw_at lw_m1 28 rfl) rfl
theorem q1187 : (Jvm.Cond.static ({ cls := "java/lang/Integer", name := "bitCount", desc := "(I)I" } : Jvm.MethodName)) ∈ lw_all := lw_g (lw_at lw_m5 106 rfl) rfl
theorem q1188 : (Jvm.Cond.code ({ cls := "java/lang/Integer", name := "bitCount", desc := "(I)I" } : Jvm.MethodName) prog_23_method_49_code (1 : Nat) (Option.some Jvm.ClassFile.FieldType.int)) ∈ lw_all := lw_g (lw_at lw_m5 107 rfl) rfl
theorem q1189 : (Jvm.Cond.constant "java/lang/Integer" (265 : Nat) (1431655765 : Int32)) ∈ lw_all := lw_g (lw_at lw_m5 108 rfl) rfl
theorem q1190 : (Jvm.Cond.constant "java/lang/Integer" (266 : Nat) (858993459 : Int32)) ∈ lw_all := lw_g (lw_at lw_m5 109 rfl) rfl
theorem q1191 : (Jvm.Cond.constant "java/lang/Integer" (267 : Nat) (252645135 : Int32)) ∈ lw_all := lw_g (lw_at lw_m5 110 rfl) rfl

theorem q174 : (Jvm.Cond.arrayOver (Jvm.ClassFile.FieldType.object "LeapJoin$Script")) ∈ lw_tbl := lw_at lw_m1 53 rfl
set_option maxRecDepth 100000
theorem q176 : (Jvm.Cond.arrayOver (Jvm.ClassFile.FieldType.object "LeapJoin$Table")) ∈ lw_tbl := lw_at lw_m1 55 rfl
theorem q214 : (Jvm.Cond.arrayClass Jvm.ClassFile.FieldType.byte) ∈ lw_all := lw_g (lw_at lw_m1 93 rfl) rfl
theorem q215 : (Jvm.Cond.arrayClass Jvm.ClassFile.FieldType.int) ∈ lw_all := lw_g (lw_at lw_m1 94 rfl) rfl
theorem q224 : (Jvm.Cond.arrayOver (Jvm.ClassFile.FieldType.array (Jvm.ClassFile.FieldType.array Jvm.ClassFile.FieldType.int))) ∈ lw_tbl := lw_at lw_m1 103 rfl
theorem q225 : (Jvm.Cond.arrayOver (Jvm.ClassFile.FieldType.array Jvm.ClassFile.FieldType.int)) ∈ lw_tbl := lw_at lw_m1 104 rfl
theorem q271 : (Jvm.Cond.arrayOver (Jvm.ClassFile.FieldType.object "LeapJoin$State")) ∈ lw_tbl := lw_at lw_m1 150 rfl
theorem q471 : (Jvm.Cond.arrayOver (Jvm.ClassFile.FieldType.object "LeapJoin$One")) ∈ lw_tbl := lw_at lw_m2 110 rfl
theorem q473 : (Jvm.Cond.arrayOver (Jvm.ClassFile.FieldType.object "LeapJoin$Two")) ∈ lw_tbl := lw_at lw_m2 112 rfl
theorem q475 : (Jvm.Cond.arrayOver (Jvm.ClassFile.FieldType.object "LeapJoin$Three")) ∈ lw_tbl := lw_at lw_m2 114 rfl
theorem q482 : (Jvm.Cond.arrayOver (Jvm.ClassFile.FieldType.object "LeapJoin$Row")) ∈ lw_tbl := lw_at lw_m2 121 rfl
theorem q1385 : (Jvm.Cond.arrayClass Jvm.ClassFile.FieldType.boolean) ∈ lw_all := lw_g (lw_at lw_m6 64 rfl) rfl
theorem q1884 : (Jvm.Cond.arrayClass Jvm.ClassFile.FieldType.long) ∈ lw_all := lw_g (lw_at lw_m8 83 rfl) rfl
