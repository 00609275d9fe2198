/-! LeapJoinModel -/
set_option maxRecDepth 100000
def RX4 : String := "LeapJoinModel"
def TX4 : u_T := fun k => match k with
  | 0 => ("LeapJoinModel", "thrown", "I", false)
  | 1 => ("LeapJoinModel", "tape", "[I", true)
  | 2 => ("LeapJoinModel", "taped", "I", false)
  | 3 => ("LeapJoinModel", "at", "I", false)
  | 4 => ("LeapJoinModel", "wrong", "I", false)
  | 5 => ("LeapJoinModel", "readWide", "[I", true)
  | 6 => ("LeapJoinModel", "readLetters", "[I", true)
  | 7 => ("LeapJoinModel", "readMany", "[I", true)
  | 8 => ("LeapJoinModel", "readRows", "[I", true)
  | 9 => ("LeapJoinModel", "readTables", "I", false)
  | 10 => ("LeapJoinModel", "script", "[I", true)
  | 11 => ("LeapJoinModel", "scriptLong", "[I", true)
  | 12 => ("LeapJoinModel", "scripts", "I", false)
  | 13 => ("LeapJoinModel", "now", "[I", true)
  | 14 => ("LeapJoinModel", "refused", "[I", true)
  | 15 => ("LeapJoinModel", "wide", "[I", true)
  | 16 => ("LeapJoinModel", "letters", "[I", true)
  | 17 => ("LeapJoinModel", "tables", "I", false)
  | 18 => ("LeapJoinModel", "inOrder", "[I", true)
  | 19 => ("LeapJoinModel", "depthMany", "I", false)
  | 20 => ("LeapJoinModel", "found", "[I", true)
  | 21 => ("LeapJoinModel", "keys", "[I", true)
  | 22 => ("LeapJoinModel", "keyMany", "[I", true)
  | 23 => ("LeapJoinModel", "stand", "[I", true)
  | 24 => ("LeapJoinModel", "begun", "[I", true)
  | 25 => ("LeapJoinModel", "joined", "[I", true)
  | 26 => ("LeapJoinModel", "joinMany", "I", false)
  | 27 => ("LeapJoinModel", "leapMany", "I", false)
  | 28 => ("LeapJoinModel", "kept", "[I", true)
  | 29 => ("LeapJoinModel", "acts", "I", false)
  | 30 => ("LeapJoinModel", "drawn", "J", false)
  | 31 => ("LeapJoinModel", "bestOrder", "I", false)
  | 32 => ("LeapJoinModel", "fewestLeaps", "I", false)
  | 33 => ("LeapJoinModel", "mostLeaps", "I", false)
  | 34 => ("LeapJoinModel", "timesOf", "[I", true)
  | 35 => ("LeapJoinModel", "rankOf", "[I", true)
  | 36 => ("LeapJoinModel", "unlikeOf", "[I", true)
  | 37 => ("LeapJoinModel", "isMet", "[Z", true)
  | 38 => ("LeapJoinModel", "toldBy", "[I", true)
  | 39 => ("LeapJoinModel", "given4", "[I", true)
  | 40 => ("LeapJoinModel", "aside", "[I", true)
  | 41 => ("LeapJoinModel", "image", "[I", true)
  | _ => ("LeapJoinModel", "hasImage", "Z", false)
def tyX4 : Nat → FieldType := fun k => match k with
  | 0 => .int
  | 1 => .array .int
  | 2 => .int
  | 3 => .int
  | 4 => .int
  | 5 => .array .int
  | 6 => .array .int
  | 7 => .array .int
  | 8 => .array .int
  | 9 => .int
  | 10 => .array .int
  | 11 => .array .int
  | 12 => .int
  | 13 => .array .int
  | 14 => .array .int
  | 15 => .array .int
  | 16 => .array .int
  | 17 => .int
  | 18 => .array .int
  | 19 => .int
  | 20 => .array .int
  | 21 => .array .int
  | 22 => .array .int
  | 23 => .array .int
  | 24 => .array .int
  | 25 => .array .int
  | 26 => .int
  | 27 => .int
  | 28 => .array .int
  | 29 => .int
  | 30 => .long
  | 31 => .int
  | 32 => .int
  | 33 => .int
  | 34 => .array .int
  | 35 => .array .int
  | 36 => .array .int
  | 37 => .array .boolean
  | 38 => .array .int
  | 39 => .array .int
  | 40 => .array .int
  | 41 => .array .int
  | _ => .boolean
abbrev wsX40 : List Cond := u_ws RX4 TX4 43
set_option maxRecDepth 100000 in
theorem nmX4 : ∀ a, a < 43 → ∀ b, b < 43 → a ≠ b → (TX4 a).2.1 ≠ (TX4 b).2.1 := by decide +kernel
set_option maxRecDepth 100000 in
theorem tyX4_ok : ∀ k, k < 43 → parseFieldDescriptor (TX4 k).2.2.1 = some (tyX4 k) := by decide +kernel
abbrev cX4_init : ByteArray := prog_13_method_4_code
def yX4_init : MethodName := ⟨RX4, "<init>", "()V"⟩
def dkwX4_init_9 : List UInt8 := [42, 17, 1, 75, 188, 10, 181, 0, 90, 177]
abbrev dktX4_init_9 : List UInt8 := dkwX4_init_9 ++ []
def dkwX4_init_8 : List UInt8 := [42, 16, 100, 188, 10, 181, 0, 81, 42, 7, 188, 10, 181, 0, 84, 42, 17, 0, 150, 188, 10, 181, 0, 87]
abbrev dktX4_init_8 : List UInt8 := dkwX4_init_8 ++ dktX4_init_9
def dkwX4_init_7 : List UInt8 := [17, 1, 144, 188, 10, 181, 0, 71, 42, 7, 188, 10, 181, 0, 74, 42, 17, 81, 0, 188, 4, 181, 0, 77]
abbrev dktX4_init_7 : List UInt8 := dkwX4_init_7 ++ dktX4_init_8
def dkwX4_init_6 : List UInt8 := [188, 10, 181, 0, 62, 42, 17, 51, 184, 188, 10, 181, 0, 65, 42, 17, 1, 144, 188, 10, 181, 0, 68, 42]
abbrev dktX4_init_6 : List UInt8 := dkwX4_init_6 ++ dktX4_init_7
def dkwX4_init_5 : List UInt8 := [188, 10, 181, 0, 52, 42, 16, 16, 188, 10, 181, 0, 55, 42, 8, 188, 10, 181, 0, 58, 42, 18, 61]
abbrev dktX4_init_5 : List UInt8 := dkwX4_init_5 ++ dktX4_init_6
def dkwX4_init_4 : List UInt8 := [188, 10, 181, 0, 43, 42, 7, 188, 10, 181, 0, 46, 42, 17, 0, 192, 188, 10, 181, 0, 49, 42, 16, 16]
abbrev dktX4_init_4 : List UInt8 := dkwX4_init_4 ++ dktX4_init_5
def dkwX4_init_3 : List UInt8 := [42, 7, 188, 10, 181, 0, 34, 42, 7, 188, 10, 181, 0, 37, 42, 16, 12, 188, 10, 181, 0, 40, 42, 7]
abbrev dktX4_init_3 : List UInt8 := dkwX4_init_3 ++ dktX4_init_4
def dkwX4_init_2 : List UInt8 := [17, 1, 44, 188, 10, 181, 0, 25, 42, 8, 188, 10, 181, 0, 28, 42, 17, 1, 75, 188, 10, 181, 0, 31]
abbrev dktX4_init_2 : List UInt8 := dkwX4_init_2 ++ dktX4_init_3
def dkwX4_init_1 : List UInt8 := [188, 10, 181, 0, 16, 42, 7, 188, 10, 181, 0, 19, 42, 17, 0, 144, 188, 10, 181, 0, 22, 42]
abbrev dktX4_init_1 : List UInt8 := dkwX4_init_1 ++ dktX4_init_2
def dkwX4_init_0 : List UInt8 := [42, 183, 0, 3, 42, 17, 1, 144, 188, 10, 181, 0, 9, 42, 7, 188, 10, 181, 0, 13, 42, 16, 12]
abbrev dktX4_init_0 : List UInt8 := dkwX4_init_0 ++ dktX4_init_1
theorem dksX4_init_0 : cX4_init.data.toList.drop 0 = dktX4_init_0 := by decide +kernel
theorem dksX4_init_1 : cX4_init.data.toList.drop 23 = dktX4_init_1 := dk_seg dksX4_init_0 23 rfl rfl
theorem dksX4_init_2 : cX4_init.data.toList.drop 45 = dktX4_init_2 := dk_seg dksX4_init_1 22 rfl rfl
theorem dksX4_init_3 : cX4_init.data.toList.drop 69 = dktX4_init_3 := dk_seg dksX4_init_2 24 rfl rfl
theorem dksX4_init_4 : cX4_init.data.toList.drop 93 = dktX4_init_4 := dk_seg dksX4_init_3 24 rfl rfl
theorem dksX4_init_5 : cX4_init.data.toList.drop 117 = dktX4_init_5 := dk_seg dksX4_init_4 24 rfl rfl
theorem dksX4_init_6 : cX4_init.data.toList.drop 140 = dktX4_init_6 := dk_seg dksX4_init_5 23 rfl rfl
theorem dksX4_init_7 : cX4_init.data.toList.drop 164 = dktX4_init_7 := dk_seg dksX4_init_6 24 rfl rfl
theorem dksX4_init_8 : cX4_init.data.toList.drop 188 = dktX4_init_8 := dk_seg dksX4_init_7 24 rfl rfl
theorem dksX4_init_9 : cX4_init.data.toList.drop 212 = dktX4_init_9 := dk_seg dksX4_init_8 24 rfl rfl
theorem dX4_init_0 : decode cX4_init 0 = .ok (.aload_n 0, 1) := dk_42 (dk_at dksX4_init_0 0 rfl rfl)
theorem dX4_init_1 : decode cX4_init 1 = .ok (.invokespecial 3, 3) := dk_183 0 3 (dk_at dksX4_init_0 1 rfl rfl)
theorem dX4_init_4 : decode cX4_init 4 = .ok (.aload_n 0, 1) := dk_42 (dk_at dksX4_init_0 4 rfl rfl)
theorem dX4_init_5 : decode cX4_init 5 = .ok (.sipush 400, 3) := dk_17 1 144 (dk_at dksX4_init_0 5 rfl rfl)
theorem dX4_init_8 : decode cX4_init 8 = .ok (.newarray .int, 2) := dk_188_10 (dk_at dksX4_init_0 8 rfl rfl)
theorem dX4_init_10 : decode cX4_init 10 = .ok (.putfield 9, 3) := dk_181 0 9 (dk_at dksX4_init_0 10 rfl rfl)
theorem dX4_init_13 : decode cX4_init 13 = .ok (.aload_n 0, 1) := dk_42 (dk_at dksX4_init_0 13 rfl rfl)
theorem dX4_init_14 : decode cX4_init 14 = .ok (.iconst 4, 1) := dk_7 (dk_at dksX4_init_0 14 rfl rfl)
theorem dX4_init_15 : decode cX4_init 15 = .ok (.newarray .int, 2) := dk_188_10 (dk_at dksX4_init_0 15 rfl rfl)
theorem dX4_init_17 : decode cX4_init 17 = .ok (.putfield 13, 3) := dk_181 0 13 (dk_at dksX4_init_0 17 rfl rfl)
theorem dX4_init_20 : decode cX4_init 20 = .ok (.aload_n 0, 1) := dk_42 (dk_at dksX4_init_0 20 rfl rfl)
theorem dX4_init_21 : decode cX4_init 21 = .ok (.bipush 12, 2) := dk_16 12 (dk_at dksX4_init_0 21 rfl rfl)
theorem dX4_init_23 : decode cX4_init 23 = .ok (.newarray .int, 2) := dk_188_10 (dk_at dksX4_init_1 0 rfl rfl)
theorem dX4_init_25 : decode cX4_init 25 = .ok (.putfield 16, 3) := dk_181 0 16 (dk_at dksX4_init_1 2 rfl rfl)
theorem dX4_init_28 : decode cX4_init 28 = .ok (.aload_n 0, 1) := dk_42 (dk_at dksX4_init_1 5 rfl rfl)
theorem dX4_init_29 : decode cX4_init 29 = .ok (.iconst 4, 1) := dk_7 (dk_at dksX4_init_1 6 rfl rfl)
theorem dX4_init_30 : decode cX4_init 30 = .ok (.newarray .int, 2) := dk_188_10 (dk_at dksX4_init_1 7 rfl rfl)
theorem dX4_init_32 : decode cX4_init 32 = .ok (.putfield 19, 3) := dk_181 0 19 (dk_at dksX4_init_1 9 rfl rfl)
theorem dX4_init_35 : decode cX4_init 35 = .ok (.aload_n 0, 1) := dk_42 (dk_at dksX4_init_1 12 rfl rfl)
theorem dX4_init_36 : decode cX4_init 36 = .ok (.sipush 144, 3) := dk_17 0 144 (dk_at dksX4_init_1 13 rfl rfl)
theorem dX4_init_39 : decode cX4_init 39 = .ok (.newarray .int, 2) := dk_188_10 (dk_at dksX4_init_1 16 rfl rfl)
theorem dX4_init_41 : decode cX4_init 41 = .ok (.putfield 22, 3) := dk_181 0 22 (dk_at dksX4_init_1 18 rfl rfl)
theorem dX4_init_44 : decode cX4_init 44 = .ok (.aload_n 0, 1) := dk_42 (dk_at dksX4_init_1 21 rfl rfl)
theorem dX4_init_45 : decode cX4_init 45 = .ok (.sipush 300, 3) := dk_17 1 44 (dk_at dksX4_init_2 0 rfl rfl)
theorem dX4_init_48 : decode cX4_init 48 = .ok (.newarray .int, 2) := dk_188_10 (dk_at dksX4_init_2 3 rfl rfl)
theorem dX4_init_50 : decode cX4_init 50 = .ok (.putfield 25, 3) := dk_181 0 25 (dk_at dksX4_init_2 5 rfl rfl)
theorem dX4_init_53 : decode cX4_init 53 = .ok (.aload_n 0, 1) := dk_42 (dk_at dksX4_init_2 8 rfl rfl)
theorem dX4_init_54 : decode cX4_init 54 = .ok (.iconst 5, 1) := dk_8 (dk_at dksX4_init_2 9 rfl rfl)
theorem dX4_init_55 : decode cX4_init 55 = .ok (.newarray .int, 2) := dk_188_10 (dk_at dksX4_init_2 10 rfl rfl)
theorem dX4_init_57 : decode cX4_init 57 = .ok (.putfield 28, 3) := dk_181 0 28 (dk_at dksX4_init_2 12 rfl rfl)
theorem dX4_init_60 : decode cX4_init 60 = .ok (.aload_n 0, 1) := dk_42 (dk_at dksX4_init_2 15 rfl rfl)
theorem dX4_init_61 : decode cX4_init 61 = .ok (.sipush 331, 3) := dk_17 1 75 (dk_at dksX4_init_2 16 rfl rfl)
theorem dX4_init_64 : decode cX4_init 64 = .ok (.newarray .int, 2) := dk_188_10 (dk_at dksX4_init_2 19 rfl rfl)
theorem dX4_init_66 : decode cX4_init 66 = .ok (.putfield 31, 3) := dk_181 0 31 (dk_at dksX4_init_2 21 rfl rfl)
theorem dX4_init_69 : decode cX4_init 69 = .ok (.aload_n 0, 1) := dk_42 (dk_at dksX4_init_3 0 rfl rfl)
theorem dX4_init_70 : decode cX4_init 70 = .ok (.iconst 4, 1) := dk_7 (dk_at dksX4_init_3 1 rfl rfl)
theorem dX4_init_71 : decode cX4_init 71 = .ok (.newarray .int, 2) := dk_188_10 (dk_at dksX4_init_3 2 rfl rfl)
theorem dX4_init_73 : decode cX4_init 73 = .ok (.putfield 34, 3) := dk_181 0 34 (dk_at dksX4_init_3 4 rfl rfl)
theorem dX4_init_76 : decode cX4_init 76 = .ok (.aload_n 0, 1) := dk_42 (dk_at dksX4_init_3 7 rfl rfl)
theorem dX4_init_77 : decode cX4_init 77 = .ok (.iconst 4, 1) := dk_7 (dk_at dksX4_init_3 8 rfl rfl)
theorem dX4_init_78 : decode cX4_init 78 = .ok (.newarray .int, 2) := dk_188_10 (dk_at dksX4_init_3 9 rfl rfl)
theorem dX4_init_80 : decode cX4_init 80 = .ok (.putfield 37, 3) := dk_181 0 37 (dk_at dksX4_init_3 11 rfl rfl)
theorem dX4_init_83 : decode cX4_init 83 = .ok (.aload_n 0, 1) := dk_42 (dk_at dksX4_init_3 14 rfl rfl)
theorem dX4_init_84 : decode cX4_init 84 = .ok (.bipush 12, 2) := dk_16 12 (dk_at dksX4_init_3 15 rfl rfl)
theorem dX4_init_86 : decode cX4_init 86 = .ok (.newarray .int, 2) := dk_188_10 (dk_at dksX4_init_3 17 rfl rfl)
theorem dX4_init_88 : decode cX4_init 88 = .ok (.putfield 40, 3) := dk_181 0 40 (dk_at dksX4_init_3 19 rfl rfl)
theorem dX4_init_91 : decode cX4_init 91 = .ok (.aload_n 0, 1) := dk_42 (dk_at dksX4_init_3 22 rfl rfl)
theorem dX4_init_92 : decode cX4_init 92 = .ok (.iconst 4, 1) := dk_7 (dk_at dksX4_init_3 23 rfl rfl)
theorem dX4_init_93 : decode cX4_init 93 = .ok (.newarray .int, 2) := dk_188_10 (dk_at dksX4_init_4 0 rfl rfl)
theorem dX4_init_95 : decode cX4_init 95 = .ok (.putfield 43, 3) := dk_181 0 43 (dk_at dksX4_init_4 2 rfl rfl)
theorem dX4_init_98 : decode cX4_init 98 = .ok (.aload_n 0, 1) := dk_42 (dk_at dksX4_init_4 5 rfl rfl)
theorem dX4_init_99 : decode cX4_init 99 = .ok (.iconst 4, 1) := dk_7 (dk_at dksX4_init_4 6 rfl rfl)
theorem dX4_init_100 : decode cX4_init 100 = .ok (.newarray .int, 2) := dk_188_10 (dk_at dksX4_init_4 7 rfl rfl)
theorem dX4_init_102 : decode cX4_init 102 = .ok (.putfield 46, 3) := dk_181 0 46 (dk_at dksX4_init_4 9 rfl rfl)
theorem dX4_init_105 : decode cX4_init 105 = .ok (.aload_n 0, 1) := dk_42 (dk_at dksX4_init_4 12 rfl rfl)
theorem dX4_init_106 : decode cX4_init 106 = .ok (.sipush 192, 3) := dk_17 0 192 (dk_at dksX4_init_4 13 rfl rfl)
theorem dX4_init_109 : decode cX4_init 109 = .ok (.newarray .int, 2) := dk_188_10 (dk_at dksX4_init_4 16 rfl rfl)
theorem dX4_init_111 : decode cX4_init 111 = .ok (.putfield 49, 3) := dk_181 0 49 (dk_at dksX4_init_4 18 rfl rfl)
theorem dX4_init_114 : decode cX4_init 114 = .ok (.aload_n 0, 1) := dk_42 (dk_at dksX4_init_4 21 rfl rfl)
theorem dX4_init_115 : decode cX4_init 115 = .ok (.bipush 16, 2) := dk_16 16 (dk_at dksX4_init_4 22 rfl rfl)
theorem dX4_init_117 : decode cX4_init 117 = .ok (.newarray .int, 2) := dk_188_10 (dk_at dksX4_init_5 0 rfl rfl)
theorem dX4_init_119 : decode cX4_init 119 = .ok (.putfield 52, 3) := dk_181 0 52 (dk_at dksX4_init_5 2 rfl rfl)
theorem dX4_init_122 : decode cX4_init 122 = .ok (.aload_n 0, 1) := dk_42 (dk_at dksX4_init_5 5 rfl rfl)
theorem dX4_init_123 : decode cX4_init 123 = .ok (.bipush 16, 2) := dk_16 16 (dk_at dksX4_init_5 6 rfl rfl)
theorem dX4_init_125 : decode cX4_init 125 = .ok (.newarray .int, 2) := dk_188_10 (dk_at dksX4_init_5 8 rfl rfl)
theorem dX4_init_127 : decode cX4_init 127 = .ok (.putfield 55, 3) := dk_181 0 55 (dk_at dksX4_init_5 10 rfl rfl)
theorem dX4_init_130 : decode cX4_init 130 = .ok (.aload_n 0, 1) := dk_42 (dk_at dksX4_init_5 13 rfl rfl)
theorem dX4_init_131 : decode cX4_init 131 = .ok (.iconst 5, 1) := dk_8 (dk_at dksX4_init_5 14 rfl rfl)
theorem dX4_init_132 : decode cX4_init 132 = .ok (.newarray .int, 2) := dk_188_10 (dk_at dksX4_init_5 15 rfl rfl)
theorem dX4_init_134 : decode cX4_init 134 = .ok (.putfield 58, 3) := dk_181 0 58 (dk_at dksX4_init_5 17 rfl rfl)
theorem dX4_init_137 : decode cX4_init 137 = .ok (.aload_n 0, 1) := dk_42 (dk_at dksX4_init_5 20 rfl rfl)
theorem dX4_init_138 : decode cX4_init 138 = .ok (.ldc 61, 2) := dk_18 61 (dk_at dksX4_init_5 21 rfl rfl)
theorem dX4_init_140 : decode cX4_init 140 = .ok (.newarray .int, 2) := dk_188_10 (dk_at dksX4_init_6 0 rfl rfl)
theorem dX4_init_142 : decode cX4_init 142 = .ok (.putfield 62, 3) := dk_181 0 62 (dk_at dksX4_init_6 2 rfl rfl)
theorem dX4_init_145 : decode cX4_init 145 = .ok (.aload_n 0, 1) := dk_42 (dk_at dksX4_init_6 5 rfl rfl)
theorem dX4_init_146 : decode cX4_init 146 = .ok (.sipush 13240, 3) := dk_17 51 184 (dk_at dksX4_init_6 6 rfl rfl)
theorem dX4_init_149 : decode cX4_init 149 = .ok (.newarray .int, 2) := dk_188_10 (dk_at dksX4_init_6 9 rfl rfl)
theorem dX4_init_151 : decode cX4_init 151 = .ok (.putfield 65, 3) := dk_181 0 65 (dk_at dksX4_init_6 11 rfl rfl)
theorem dX4_init_154 : decode cX4_init 154 = .ok (.aload_n 0, 1) := dk_42 (dk_at dksX4_init_6 14 rfl rfl)
theorem dX4_init_155 : decode cX4_init 155 = .ok (.sipush 400, 3) := dk_17 1 144 (dk_at dksX4_init_6 15 rfl rfl)
theorem dX4_init_158 : decode cX4_init 158 = .ok (.newarray .int, 2) := dk_188_10 (dk_at dksX4_init_6 18 rfl rfl)
theorem dX4_init_160 : decode cX4_init 160 = .ok (.putfield 68, 3) := dk_181 0 68 (dk_at dksX4_init_6 20 rfl rfl)
theorem dX4_init_163 : decode cX4_init 163 = .ok (.aload_n 0, 1) := dk_42 (dk_at dksX4_init_6 23 rfl rfl)
theorem dX4_init_164 : decode cX4_init 164 = .ok (.sipush 400, 3) := dk_17 1 144 (dk_at dksX4_init_7 0 rfl rfl)
theorem dX4_init_167 : decode cX4_init 167 = .ok (.newarray .int, 2) := dk_188_10 (dk_at dksX4_init_7 3 rfl rfl)
theorem dX4_init_169 : decode cX4_init 169 = .ok (.putfield 71, 3) := dk_181 0 71 (dk_at dksX4_init_7 5 rfl rfl)
theorem dX4_init_172 : decode cX4_init 172 = .ok (.aload_n 0, 1) := dk_42 (dk_at dksX4_init_7 8 rfl rfl)
theorem dX4_init_173 : decode cX4_init 173 = .ok (.iconst 4, 1) := dk_7 (dk_at dksX4_init_7 9 rfl rfl)
theorem dX4_init_174 : decode cX4_init 174 = .ok (.newarray .int, 2) := dk_188_10 (dk_at dksX4_init_7 10 rfl rfl)
theorem dX4_init_176 : decode cX4_init 176 = .ok (.putfield 74, 3) := dk_181 0 74 (dk_at dksX4_init_7 12 rfl rfl)
theorem dX4_init_179 : decode cX4_init 179 = .ok (.aload_n 0, 1) := dk_42 (dk_at dksX4_init_7 15 rfl rfl)
theorem dX4_init_180 : decode cX4_init 180 = .ok (.sipush 20736, 3) := dk_17 81 0 (dk_at dksX4_init_7 16 rfl rfl)
theorem dX4_init_183 : decode cX4_init 183 = .ok (.newarray .boolean, 2) := dk_188_4 (dk_at dksX4_init_7 19 rfl rfl)
theorem dX4_init_185 : decode cX4_init 185 = .ok (.putfield 77, 3) := dk_181 0 77 (dk_at dksX4_init_7 21 rfl rfl)
theorem dX4_init_188 : decode cX4_init 188 = .ok (.aload_n 0, 1) := dk_42 (dk_at dksX4_init_8 0 rfl rfl)
theorem dX4_init_189 : decode cX4_init 189 = .ok (.bipush 100, 2) := dk_16 100 (dk_at dksX4_init_8 1 rfl rfl)
theorem dX4_init_191 : decode cX4_init 191 = .ok (.newarray .int, 2) := dk_188_10 (dk_at dksX4_init_8 3 rfl rfl)
theorem dX4_init_193 : decode cX4_init 193 = .ok (.putfield 81, 3) := dk_181 0 81 (dk_at dksX4_init_8 5 rfl rfl)
theorem dX4_init_196 : decode cX4_init 196 = .ok (.aload_n 0, 1) := dk_42 (dk_at dksX4_init_8 8 rfl rfl)
theorem dX4_init_197 : decode cX4_init 197 = .ok (.iconst 4, 1) := dk_7 (dk_at dksX4_init_8 9 rfl rfl)
theorem dX4_init_198 : decode cX4_init 198 = .ok (.newarray .int, 2) := dk_188_10 (dk_at dksX4_init_8 10 rfl rfl)
theorem dX4_init_200 : decode cX4_init 200 = .ok (.putfield 84, 3) := dk_181 0 84 (dk_at dksX4_init_8 12 rfl rfl)
theorem dX4_init_203 : decode cX4_init 203 = .ok (.aload_n 0, 1) := dk_42 (dk_at dksX4_init_8 15 rfl rfl)
theorem dX4_init_204 : decode cX4_init 204 = .ok (.sipush 150, 3) := dk_17 0 150 (dk_at dksX4_init_8 16 rfl rfl)
theorem dX4_init_207 : decode cX4_init 207 = .ok (.newarray .int, 2) := dk_188_10 (dk_at dksX4_init_8 19 rfl rfl)
theorem dX4_init_209 : decode cX4_init 209 = .ok (.putfield 87, 3) := dk_181 0 87 (dk_at dksX4_init_8 21 rfl rfl)
theorem dX4_init_212 : decode cX4_init 212 = .ok (.aload_n 0, 1) := dk_42 (dk_at dksX4_init_9 0 rfl rfl)
theorem dX4_init_213 : decode cX4_init 213 = .ok (.sipush 331, 3) := dk_17 1 75 (dk_at dksX4_init_9 1 rfl rfl)
theorem dX4_init_216 : decode cX4_init 216 = .ok (.newarray .int, 2) := dk_188_10 (dk_at dksX4_init_9 4 rfl rfl)
theorem dX4_init_218 : decode cX4_init 218 = .ok (.putfield 90, 3) := dk_181 0 90 (dk_at dksX4_init_9 6 rfl rfl)
theorem dX4_init_221 : decode cX4_init 221 = .ok (.return_, 1) := dk_177 (dk_at dksX4_init_9 9 rfl rfl)
abbrev cX4_thrown : ByteArray := prog_13_method_5_code
def yX4_thrown : MethodName := ⟨RX4, "thrown", "()I"⟩
theorem dX4_thrown_0 : decode cX4_thrown 0 = .ok (.aload_n 0, 1) := by decide +kernel
theorem dX4_thrown_1 : decode cX4_thrown 1 = .ok (.getfield 93, 3) := by decide +kernel
theorem dX4_thrown_4 : decode cX4_thrown 4 = .ok (.ireturn, 1) := by decide +kernel
abbrev cX4_feed : ByteArray := prog_13_method_7_code
def yX4_feed : MethodName := ⟨RX4, "feed", "(IIIII)I"⟩
def dkwX4_feed_4 : List UInt8 := [21, 8, 79, 42, 89, 180, 0, 101, 4, 96, 181, 0, 101, 132, 7, 1, 167, 255, 206, 42, 180, 0, 101, 172]
abbrev dktX4_feed_4 : List UInt8 := dkwX4_feed_4 ++ []
def dkwX4_feed_3 : List UInt8 := [21, 4, 21, 5, 21, 7, 184, 0, 97, 54, 8, 21, 8, 153, 0, 24, 42, 180, 0, 9, 42, 180, 0, 101]
abbrev dktX4_feed_3 : List UInt8 := dkwX4_feed_3 ++ dktX4_feed_4
def dkwX4_feed_2 : List UInt8 := [21, 6, 96, 17, 1, 144, 164, 0, 5, 2, 172, 3, 54, 7, 21, 7, 16, 20, 162, 0, 49, 27, 28, 29]
abbrev dktX4_feed_2 : List UInt8 := dkwX4_feed_2 ++ dktX4_feed_3
def dkwX4_feed_1 : List UInt8 := [184, 0, 97, 153, 0, 7, 4, 167, 0, 4, 3, 96, 54, 6, 132, 7, 1, 167, 255, 221, 42, 180, 0, 101]
abbrev dktX4_feed_1 : List UInt8 := dkwX4_feed_1 ++ dktX4_feed_2
def dkwX4_feed_0 : List UInt8 := [3, 54, 6, 3, 54, 7, 21, 7, 16, 20, 162, 0, 34, 21, 6, 27, 28, 29, 21, 4, 21, 5, 21, 7]
abbrev dktX4_feed_0 : List UInt8 := dkwX4_feed_0 ++ dktX4_feed_1
theorem dksX4_feed_0 : cX4_feed.data.toList.drop 0 = dktX4_feed_0 := by decide +kernel
theorem dksX4_feed_1 : cX4_feed.data.toList.drop 24 = dktX4_feed_1 := dk_seg dksX4_feed_0 24 rfl rfl
theorem dksX4_feed_2 : cX4_feed.data.toList.drop 48 = dktX4_feed_2 := dk_seg dksX4_feed_1 24 rfl rfl
theorem dksX4_feed_3 : cX4_feed.data.toList.drop 72 = dktX4_feed_3 := dk_seg dksX4_feed_2 24 rfl rfl
theorem dksX4_feed_4 : cX4_feed.data.toList.drop 96 = dktX4_feed_4 := dk_seg dksX4_feed_3 24 rfl rfl
theorem dX4_feed_0 : decode cX4_feed 0 = .ok (.iconst 0, 1) := dk_3 (dk_at dksX4_feed_0 0 rfl rfl)
theorem dX4_feed_1 : decode cX4_feed 1 = .ok (.istore 6, 2) := dk_54 6 (dk_at dksX4_feed_0 1 rfl rfl)
theorem dX4_feed_3 : decode cX4_feed 3 = .ok (.iconst 0, 1) := dk_3 (dk_at dksX4_feed_0 3 rfl rfl)
theorem dX4_feed_4 : decode cX4_feed 4 = .ok (.istore 7, 2) := dk_54 7 (dk_at dksX4_feed_0 4 rfl rfl)
theorem dX4_feed_6 : decode cX4_feed 6 = .ok (.iload 7, 2) := dk_21 7 (dk_at dksX4_feed_0 6 rfl rfl)
theorem dX4_feed_8 : decode cX4_feed 8 = .ok (.bipush 20, 2) := dk_16 20 (dk_at dksX4_feed_0 8 rfl rfl)
theorem dX4_feed_10 : decode cX4_feed 10 = .ok (.if_icmp .ge 34, 3) := dk_162 0 34 (dk_at dksX4_feed_0 10 rfl rfl)
theorem dX4_feed_13 : decode cX4_feed 13 = .ok (.iload 6, 2) := dk_21 6 (dk_at dksX4_feed_0 13 rfl rfl)
theorem dX4_feed_15 : decode cX4_feed 15 = .ok (.iload_n 1, 1) := dk_27 (dk_at dksX4_feed_0 15 rfl rfl)
theorem dX4_feed_16 : decode cX4_feed 16 = .ok (.iload_n 2, 1) := dk_28 (dk_at dksX4_feed_0 16 rfl rfl)
theorem dX4_feed_17 : decode cX4_feed 17 = .ok (.iload_n 3, 1) := dk_29 (dk_at dksX4_feed_0 17 rfl rfl)
theorem dX4_feed_18 : decode cX4_feed 18 = .ok (.iload 4, 2) := dk_21 4 (dk_at dksX4_feed_0 18 rfl rfl)
theorem dX4_feed_20 : decode cX4_feed 20 = .ok (.iload 5, 2) := dk_21 5 (dk_at dksX4_feed_0 20 rfl rfl)
theorem dX4_feed_22 : decode cX4_feed 22 = .ok (.iload 7, 2) := dk_21 7 (dk_at dksX4_feed_0 22 rfl rfl)
theorem dX4_feed_24 : decode cX4_feed 24 = .ok (.invokestatic 97, 3) := dk_184 0 97 (dk_at dksX4_feed_1 0 rfl rfl)
theorem dX4_feed_27 : decode cX4_feed 27 = .ok (.ifCond .eq 7, 3) := dk_153 0 7 (dk_at dksX4_feed_1 3 rfl rfl)
theorem dX4_feed_30 : decode cX4_feed 30 = .ok (.iconst 1, 1) := dk_4 (dk_at dksX4_feed_1 6 rfl rfl)
theorem dX4_feed_31 : decode cX4_feed 31 = .ok (.goto 4, 3) := dk_167 0 4 (dk_at dksX4_feed_1 7 rfl rfl)
theorem dX4_feed_34 : decode cX4_feed 34 = .ok (.iconst 0, 1) := dk_3 (dk_at dksX4_feed_1 10 rfl rfl)
theorem dX4_feed_35 : decode cX4_feed 35 = .ok (.iadd, 1) := dk_96 (dk_at dksX4_feed_1 11 rfl rfl)
theorem dX4_feed_36 : decode cX4_feed 36 = .ok (.istore 6, 2) := dk_54 6 (dk_at dksX4_feed_1 12 rfl rfl)
theorem dX4_feed_38 : decode cX4_feed 38 = .ok (.iinc 7 1, 3) := dk_132 7 1 (dk_at dksX4_feed_1 14 rfl rfl)
theorem dX4_feed_41 : decode cX4_feed 41 = .ok (.goto (-35), 3) := dk_167 255 221 (dk_at dksX4_feed_1 17 rfl rfl)
theorem dX4_feed_44 : decode cX4_feed 44 = .ok (.aload_n 0, 1) := dk_42 (dk_at dksX4_feed_1 20 rfl rfl)
theorem dX4_feed_45 : decode cX4_feed 45 = .ok (.getfield 101, 3) := dk_180 0 101 (dk_at dksX4_feed_1 21 rfl rfl)
theorem dX4_feed_48 : decode cX4_feed 48 = .ok (.iload 6, 2) := dk_21 6 (dk_at dksX4_feed_2 0 rfl rfl)
theorem dX4_feed_50 : decode cX4_feed 50 = .ok (.iadd, 1) := dk_96 (dk_at dksX4_feed_2 2 rfl rfl)
theorem dX4_feed_51 : decode cX4_feed 51 = .ok (.sipush 400, 3) := dk_17 1 144 (dk_at dksX4_feed_2 3 rfl rfl)
theorem dX4_feed_54 : decode cX4_feed 54 = .ok (.if_icmp .le 5, 3) := dk_164 0 5 (dk_at dksX4_feed_2 6 rfl rfl)
theorem dX4_feed_57 : decode cX4_feed 57 = .ok (.iconst (-1), 1) := dk_2 (dk_at dksX4_feed_2 9 rfl rfl)
theorem dX4_feed_58 : decode cX4_feed 58 = .ok (.ireturn, 1) := dk_172 (dk_at dksX4_feed_2 10 rfl rfl)
theorem dX4_feed_59 : decode cX4_feed 59 = .ok (.iconst 0, 1) := dk_3 (dk_at dksX4_feed_2 11 rfl rfl)
theorem dX4_feed_60 : decode cX4_feed 60 = .ok (.istore 7, 2) := dk_54 7 (dk_at dksX4_feed_2 12 rfl rfl)
theorem dX4_feed_62 : decode cX4_feed 62 = .ok (.iload 7, 2) := dk_21 7 (dk_at dksX4_feed_2 14 rfl rfl)
theorem dX4_feed_64 : decode cX4_feed 64 = .ok (.bipush 20, 2) := dk_16 20 (dk_at dksX4_feed_2 16 rfl rfl)
theorem dX4_feed_66 : decode cX4_feed 66 = .ok (.if_icmp .ge 49, 3) := dk_162 0 49 (dk_at dksX4_feed_2 18 rfl rfl)
theorem dX4_feed_69 : decode cX4_feed 69 = .ok (.iload_n 1, 1) := dk_27 (dk_at dksX4_feed_2 21 rfl rfl)
theorem dX4_feed_70 : decode cX4_feed 70 = .ok (.iload_n 2, 1) := dk_28 (dk_at dksX4_feed_2 22 rfl rfl)
theorem dX4_feed_71 : decode cX4_feed 71 = .ok (.iload_n 3, 1) := dk_29 (dk_at dksX4_feed_2 23 rfl rfl)
theorem dX4_feed_72 : decode cX4_feed 72 = .ok (.iload 4, 2) := dk_21 4 (dk_at dksX4_feed_3 0 rfl rfl)
theorem dX4_feed_74 : decode cX4_feed 74 = .ok (.iload 5, 2) := dk_21 5 (dk_at dksX4_feed_3 2 rfl rfl)
theorem dX4_feed_76 : decode cX4_feed 76 = .ok (.iload 7, 2) := dk_21 7 (dk_at dksX4_feed_3 4 rfl rfl)
theorem dX4_feed_78 : decode cX4_feed 78 = .ok (.invokestatic 97, 3) := dk_184 0 97 (dk_at dksX4_feed_3 6 rfl rfl)
theorem dX4_feed_81 : decode cX4_feed 81 = .ok (.istore 8, 2) := dk_54 8 (dk_at dksX4_feed_3 9 rfl rfl)
theorem dX4_feed_83 : decode cX4_feed 83 = .ok (.iload 8, 2) := dk_21 8 (dk_at dksX4_feed_3 11 rfl rfl)
theorem dX4_feed_85 : decode cX4_feed 85 = .ok (.ifCond .eq 24, 3) := dk_153 0 24 (dk_at dksX4_feed_3 13 rfl rfl)
theorem dX4_feed_88 : decode cX4_feed 88 = .ok (.aload_n 0, 1) := dk_42 (dk_at dksX4_feed_3 16 rfl rfl)
theorem dX4_feed_89 : decode cX4_feed 89 = .ok (.getfield 9, 3) := dk_180 0 9 (dk_at dksX4_feed_3 17 rfl rfl)
theorem dX4_feed_92 : decode cX4_feed 92 = .ok (.aload_n 0, 1) := dk_42 (dk_at dksX4_feed_3 20 rfl rfl)
theorem dX4_feed_93 : decode cX4_feed 93 = .ok (.getfield 101, 3) := dk_180 0 101 (dk_at dksX4_feed_3 21 rfl rfl)
theorem dX4_feed_96 : decode cX4_feed 96 = .ok (.iload 8, 2) := dk_21 8 (dk_at dksX4_feed_4 0 rfl rfl)
theorem dX4_feed_98 : decode cX4_feed 98 = .ok (.iastore, 1) := dk_79 (dk_at dksX4_feed_4 2 rfl rfl)
theorem dX4_feed_99 : decode cX4_feed 99 = .ok (.aload_n 0, 1) := dk_42 (dk_at dksX4_feed_4 3 rfl rfl)
theorem dX4_feed_100 : decode cX4_feed 100 = .ok (.dup, 1) := dk_89 (dk_at dksX4_feed_4 4 rfl rfl)
theorem dX4_feed_101 : decode cX4_feed 101 = .ok (.getfield 101, 3) := dk_180 0 101 (dk_at dksX4_feed_4 5 rfl rfl)
theorem dX4_feed_104 : decode cX4_feed 104 = .ok (.iconst 1, 1) := dk_4 (dk_at dksX4_feed_4 8 rfl rfl)
theorem dX4_feed_105 : decode cX4_feed 105 = .ok (.iadd, 1) := dk_96 (dk_at dksX4_feed_4 9 rfl rfl)
theorem dX4_feed_106 : decode cX4_feed 106 = .ok (.putfield 101, 3) := dk_181 0 101 (dk_at dksX4_feed_4 10 rfl rfl)
theorem dX4_feed_109 : decode cX4_feed 109 = .ok (.iinc 7 1, 3) := dk_132 7 1 (dk_at dksX4_feed_4 13 rfl rfl)
theorem dX4_feed_112 : decode cX4_feed 112 = .ok (.goto (-50), 3) := dk_167 255 206 (dk_at dksX4_feed_4 16 rfl rfl)
theorem dX4_feed_115 : decode cX4_feed 115 = .ok (.aload_n 0, 1) := dk_42 (dk_at dksX4_feed_4 19 rfl rfl)
theorem dX4_feed_116 : decode cX4_feed 116 = .ok (.getfield 101, 3) := dk_180 0 101 (dk_at dksX4_feed_4 20 rfl rfl)
theorem dX4_feed_119 : decode cX4_feed 119 = .ok (.ireturn, 1) := dk_172 (dk_at dksX4_feed_4 23 rfl rfl)
abbrev cX4_byteOf : ByteArray := prog_13_method_6_code
def yX4_byteOf : MethodName := ⟨RX4, "byteOf", "(IIIIII)I"⟩
def dkwX4_byteOf_2 : List UInt8 := [21, 6, 16, 24, 16, 8, 21, 5, 7, 112, 104, 100, 122, 17, 0, 255, 126, 172]
abbrev dktX4_byteOf_2 : List UInt8 := dkwX4_byteOf_2 ++ []
def dkwX4_byteOf_1 : List UInt8 := [16, 12, 162, 0, 7, 28, 167, 0, 16, 21, 5, 16, 16, 162, 0, 7, 29, 167, 0, 5, 21, 4, 54, 6]
abbrev dktX4_byteOf_1 : List UInt8 := dkwX4_byteOf_1 ++ dktX4_byteOf_2
def dkwX4_byteOf_0 : List UInt8 := [21, 5, 7, 162, 0, 7, 26, 167, 0, 38, 21, 5, 16, 8, 162, 0, 7, 27, 167, 0, 27, 21, 5]
abbrev dktX4_byteOf_0 : List UInt8 := dkwX4_byteOf_0 ++ dktX4_byteOf_1
theorem dksX4_byteOf_0 : cX4_byteOf.data.toList.drop 0 = dktX4_byteOf_0 := by decide +kernel
theorem dksX4_byteOf_1 : cX4_byteOf.data.toList.drop 23 = dktX4_byteOf_1 := dk_seg dksX4_byteOf_0 23 rfl rfl
theorem dksX4_byteOf_2 : cX4_byteOf.data.toList.drop 47 = dktX4_byteOf_2 := dk_seg dksX4_byteOf_1 24 rfl rfl
theorem dX4_byteOf_0 : decode cX4_byteOf 0 = .ok (.iload 5, 2) := dk_21 5 (dk_at dksX4_byteOf_0 0 rfl rfl)
theorem dX4_byteOf_2 : decode cX4_byteOf 2 = .ok (.iconst 4, 1) := dk_7 (dk_at dksX4_byteOf_0 2 rfl rfl)
theorem dX4_byteOf_3 : decode cX4_byteOf 3 = .ok (.if_icmp .ge 7, 3) := dk_162 0 7 (dk_at dksX4_byteOf_0 3 rfl rfl)
theorem dX4_byteOf_6 : decode cX4_byteOf 6 = .ok (.iload_n 0, 1) := dk_26 (dk_at dksX4_byteOf_0 6 rfl rfl)
theorem dX4_byteOf_7 : decode cX4_byteOf 7 = .ok (.goto 38, 3) := dk_167 0 38 (dk_at dksX4_byteOf_0 7 rfl rfl)
theorem dX4_byteOf_10 : decode cX4_byteOf 10 = .ok (.iload 5, 2) := dk_21 5 (dk_at dksX4_byteOf_0 10 rfl rfl)
theorem dX4_byteOf_12 : decode cX4_byteOf 12 = .ok (.bipush 8, 2) := dk_16 8 (dk_at dksX4_byteOf_0 12 rfl rfl)
theorem dX4_byteOf_14 : decode cX4_byteOf 14 = .ok (.if_icmp .ge 7, 3) := dk_162 0 7 (dk_at dksX4_byteOf_0 14 rfl rfl)
theorem dX4_byteOf_17 : decode cX4_byteOf 17 = .ok (.iload_n 1, 1) := dk_27 (dk_at dksX4_byteOf_0 17 rfl rfl)
theorem dX4_byteOf_18 : decode cX4_byteOf 18 = .ok (.goto 27, 3) := dk_167 0 27 (dk_at dksX4_byteOf_0 18 rfl rfl)
theorem dX4_byteOf_21 : decode cX4_byteOf 21 = .ok (.iload 5, 2) := dk_21 5 (dk_at dksX4_byteOf_0 21 rfl rfl)
theorem dX4_byteOf_23 : decode cX4_byteOf 23 = .ok (.bipush 12, 2) := dk_16 12 (dk_at dksX4_byteOf_1 0 rfl rfl)
theorem dX4_byteOf_25 : decode cX4_byteOf 25 = .ok (.if_icmp .ge 7, 3) := dk_162 0 7 (dk_at dksX4_byteOf_1 2 rfl rfl)
theorem dX4_byteOf_28 : decode cX4_byteOf 28 = .ok (.iload_n 2, 1) := dk_28 (dk_at dksX4_byteOf_1 5 rfl rfl)
theorem dX4_byteOf_29 : decode cX4_byteOf 29 = .ok (.goto 16, 3) := dk_167 0 16 (dk_at dksX4_byteOf_1 6 rfl rfl)
theorem dX4_byteOf_32 : decode cX4_byteOf 32 = .ok (.iload 5, 2) := dk_21 5 (dk_at dksX4_byteOf_1 9 rfl rfl)
theorem dX4_byteOf_34 : decode cX4_byteOf 34 = .ok (.bipush 16, 2) := dk_16 16 (dk_at dksX4_byteOf_1 11 rfl rfl)
theorem dX4_byteOf_36 : decode cX4_byteOf 36 = .ok (.if_icmp .ge 7, 3) := dk_162 0 7 (dk_at dksX4_byteOf_1 13 rfl rfl)
theorem dX4_byteOf_39 : decode cX4_byteOf 39 = .ok (.iload_n 3, 1) := dk_29 (dk_at dksX4_byteOf_1 16 rfl rfl)
theorem dX4_byteOf_40 : decode cX4_byteOf 40 = .ok (.goto 5, 3) := dk_167 0 5 (dk_at dksX4_byteOf_1 17 rfl rfl)
theorem dX4_byteOf_43 : decode cX4_byteOf 43 = .ok (.iload 4, 2) := dk_21 4 (dk_at dksX4_byteOf_1 20 rfl rfl)
theorem dX4_byteOf_45 : decode cX4_byteOf 45 = .ok (.istore 6, 2) := dk_54 6 (dk_at dksX4_byteOf_1 22 rfl rfl)
theorem dX4_byteOf_47 : decode cX4_byteOf 47 = .ok (.iload 6, 2) := dk_21 6 (dk_at dksX4_byteOf_2 0 rfl rfl)
theorem dX4_byteOf_49 : decode cX4_byteOf 49 = .ok (.bipush 24, 2) := dk_16 24 (dk_at dksX4_byteOf_2 2 rfl rfl)
theorem dX4_byteOf_51 : decode cX4_byteOf 51 = .ok (.bipush 8, 2) := dk_16 8 (dk_at dksX4_byteOf_2 4 rfl rfl)
theorem dX4_byteOf_53 : decode cX4_byteOf 53 = .ok (.iload 5, 2) := dk_21 5 (dk_at dksX4_byteOf_2 6 rfl rfl)
theorem dX4_byteOf_55 : decode cX4_byteOf 55 = .ok (.iconst 4, 1) := dk_7 (dk_at dksX4_byteOf_2 8 rfl rfl)
theorem dX4_byteOf_56 : decode cX4_byteOf 56 = .ok (.irem, 1) := dk_112 (dk_at dksX4_byteOf_2 9 rfl rfl)
theorem dX4_byteOf_57 : decode cX4_byteOf 57 = .ok (.imul, 1) := dk_104 (dk_at dksX4_byteOf_2 10 rfl rfl)
theorem dX4_byteOf_58 : decode cX4_byteOf 58 = .ok (.isub, 1) := dk_100 (dk_at dksX4_byteOf_2 11 rfl rfl)
theorem dX4_byteOf_59 : decode cX4_byteOf 59 = .ok (.ishr, 1) := dk_122 (dk_at dksX4_byteOf_2 12 rfl rfl)
theorem dX4_byteOf_60 : decode cX4_byteOf 60 = .ok (.sipush 255, 3) := dk_17 0 255 (dk_at dksX4_byteOf_2 13 rfl rfl)
theorem dX4_byteOf_63 : decode cX4_byteOf 63 = .ok (.iand, 1) := dk_126 (dk_at dksX4_byteOf_2 16 rfl rfl)
theorem dX4_byteOf_64 : decode cX4_byteOf 64 = .ok (.ireturn, 1) := dk_172 (dk_at dksX4_byteOf_2 17 rfl rfl)
abbrev cX4_end : ByteArray := prog_13_method_8_code
def yX4_end : MethodName := ⟨RX4, "end", "(I)Z"⟩
def dkwX4_end_0 : List UInt8 := [27, 3, 42, 180, 0, 101, 184, 0, 104, 154, 0, 5, 3, 172, 42, 27, 181, 0, 101, 4, 172]
abbrev dktX4_end_0 : List UInt8 := dkwX4_end_0 ++ []
theorem dksX4_end_0 : cX4_end.data.toList.drop 0 = dktX4_end_0 := by decide +kernel
theorem dX4_end_0 : decode cX4_end 0 = .ok (.iload_n 1, 1) := dk_27 (dk_at dksX4_end_0 0 rfl rfl)
theorem dX4_end_1 : decode cX4_end 1 = .ok (.iconst 0, 1) := dk_3 (dk_at dksX4_end_0 1 rfl rfl)
theorem dX4_end_2 : decode cX4_end 2 = .ok (.aload_n 0, 1) := dk_42 (dk_at dksX4_end_0 2 rfl rfl)
theorem dX4_end_3 : decode cX4_end 3 = .ok (.getfield 101, 3) := dk_180 0 101 (dk_at dksX4_end_0 3 rfl rfl)
theorem dX4_end_6 : decode cX4_end 6 = .ok (.invokestatic 104, 3) := dk_184 0 104 (dk_at dksX4_end_0 6 rfl rfl)
theorem dX4_end_9 : decode cX4_end 9 = .ok (.ifCond .ne 5, 3) := dk_154 0 5 (dk_at dksX4_end_0 9 rfl rfl)
theorem dX4_end_12 : decode cX4_end 12 = .ok (.iconst 0, 1) := dk_3 (dk_at dksX4_end_0 12 rfl rfl)
theorem dX4_end_13 : decode cX4_end 13 = .ok (.ireturn, 1) := dk_172 (dk_at dksX4_end_0 13 rfl rfl)
theorem dX4_end_14 : decode cX4_end 14 = .ok (.aload_n 0, 1) := dk_42 (dk_at dksX4_end_0 14 rfl rfl)
theorem dX4_end_15 : decode cX4_end 15 = .ok (.iload_n 1, 1) := dk_27 (dk_at dksX4_end_0 15 rfl rfl)
theorem dX4_end_16 : decode cX4_end 16 = .ok (.putfield 101, 3) := dk_181 0 101 (dk_at dksX4_end_0 16 rfl rfl)
theorem dX4_end_19 : decode cX4_end 19 = .ok (.iconst 1, 1) := dk_4 (dk_at dksX4_end_0 19 rfl rfl)
theorem dX4_end_20 : decode cX4_end 20 = .ok (.ireturn, 1) := dk_172 (dk_at dksX4_end_0 20 rfl rfl)
abbrev cX4_in : ByteArray := prog_13_method_1_code
def yX4_in : MethodName := ⟨RX4, "in", "(III)Z"⟩
def dkwX4_in_0 : List UInt8 := [26, 27, 161, 0, 12, 26, 28, 163, 0, 7, 4, 167, 0, 4, 3, 172]
abbrev dktX4_in_0 : List UInt8 := dkwX4_in_0 ++ []
theorem dksX4_in_0 : cX4_in.data.toList.drop 0 = dktX4_in_0 := by decide +kernel
theorem dX4_in_0 : decode cX4_in 0 = .ok (.iload_n 0, 1) := dk_26 (dk_at dksX4_in_0 0 rfl rfl)
theorem dX4_in_1 : decode cX4_in 1 = .ok (.iload_n 1, 1) := dk_27 (dk_at dksX4_in_0 1 rfl rfl)
theorem dX4_in_2 : decode cX4_in 2 = .ok (.if_icmp .lt 12, 3) := dk_161 0 12 (dk_at dksX4_in_0 2 rfl rfl)
theorem dX4_in_5 : decode cX4_in 5 = .ok (.iload_n 0, 1) := dk_26 (dk_at dksX4_in_0 5 rfl rfl)
theorem dX4_in_6 : decode cX4_in 6 = .ok (.iload_n 2, 1) := dk_28 (dk_at dksX4_in_0 6 rfl rfl)
theorem dX4_in_7 : decode cX4_in 7 = .ok (.if_icmp .gt 7, 3) := dk_163 0 7 (dk_at dksX4_in_0 7 rfl rfl)
theorem dX4_in_10 : decode cX4_in 10 = .ok (.iconst 1, 1) := dk_4 (dk_at dksX4_in_0 10 rfl rfl)
theorem dX4_in_11 : decode cX4_in 11 = .ok (.goto 4, 3) := dk_167 0 4 (dk_at dksX4_in_0 11 rfl rfl)
theorem dX4_in_14 : decode cX4_in 14 = .ok (.iconst 0, 1) := dk_3 (dk_at dksX4_in_0 14 rfl rfl)
theorem dX4_in_15 : decode cX4_in 15 = .ok (.ireturn, 1) := dk_172 (dk_at dksX4_in_0 15 rfl rfl)
abbrev cX4_fault : ByteArray := prog_13_method_25_code
def yX4_fault : MethodName := ⟨RX4, "fault", "(I)I"⟩
def dkwX4_fault_1 : List UInt8 := [16, 254, 172]
abbrev dktX4_fault_1 : List UInt8 := dkwX4_fault_1 ++ []
def dkwX4_fault_0 : List UInt8 := [27, 154, 0, 10, 42, 182, 0, 167, 167, 0, 18, 27, 4, 160, 0, 11, 42, 7, 182, 0, 170, 167, 0, 5]
abbrev dktX4_fault_0 : List UInt8 := dkwX4_fault_0 ++ dktX4_fault_1
theorem dksX4_fault_0 : cX4_fault.data.toList.drop 0 = dktX4_fault_0 := by decide +kernel
theorem dksX4_fault_1 : cX4_fault.data.toList.drop 24 = dktX4_fault_1 := dk_seg dksX4_fault_0 24 rfl rfl
theorem dX4_fault_0 : decode cX4_fault 0 = .ok (.iload_n 1, 1) := dk_27 (dk_at dksX4_fault_0 0 rfl rfl)
theorem dX4_fault_1 : decode cX4_fault 1 = .ok (.ifCond .ne 10, 3) := dk_154 0 10 (dk_at dksX4_fault_0 1 rfl rfl)
theorem dX4_fault_4 : decode cX4_fault 4 = .ok (.aload_n 0, 1) := dk_42 (dk_at dksX4_fault_0 4 rfl rfl)
theorem dX4_fault_5 : decode cX4_fault 5 = .ok (.invokevirtual 167, 3) := dk_182 0 167 (dk_at dksX4_fault_0 5 rfl rfl)
theorem dX4_fault_8 : decode cX4_fault 8 = .ok (.goto 18, 3) := dk_167 0 18 (dk_at dksX4_fault_0 8 rfl rfl)
theorem dX4_fault_11 : decode cX4_fault 11 = .ok (.iload_n 1, 1) := dk_27 (dk_at dksX4_fault_0 11 rfl rfl)
theorem dX4_fault_12 : decode cX4_fault 12 = .ok (.iconst 1, 1) := dk_4 (dk_at dksX4_fault_0 12 rfl rfl)
theorem dX4_fault_13 : decode cX4_fault 13 = .ok (.if_icmp .ne 11, 3) := dk_160 0 11 (dk_at dksX4_fault_0 13 rfl rfl)
theorem dX4_fault_16 : decode cX4_fault 16 = .ok (.aload_n 0, 1) := dk_42 (dk_at dksX4_fault_0 16 rfl rfl)
theorem dX4_fault_17 : decode cX4_fault 17 = .ok (.iconst 4, 1) := dk_7 (dk_at dksX4_fault_0 17 rfl rfl)
theorem dX4_fault_18 : decode cX4_fault 18 = .ok (.invokevirtual 170, 3) := dk_182 0 170 (dk_at dksX4_fault_0 18 rfl rfl)
theorem dX4_fault_21 : decode cX4_fault 21 = .ok (.goto 5, 3) := dk_167 0 5 (dk_at dksX4_fault_0 21 rfl rfl)
theorem dX4_fault_24 : decode cX4_fault 24 = .ok (.bipush (-2), 2) := dk_16 254 (dk_at dksX4_fault_1 0 rfl rfl)
theorem dX4_fault_26 : decode cX4_fault 26 = .ok (.ireturn, 1) := dk_172 (dk_at dksX4_fault_1 2 rfl rfl)
abbrev cX4_readAll : ByteArray := prog_13_method_22_code
def yX4_readAll : MethodName := ⟨RX4, "readAll", "()I"⟩
def dkwX4_readAll_3 : List UInt8 := [153, 0, 7, 4, 167, 0, 4, 3, 96, 181, 0, 108, 167, 255, 185, 42, 182, 0, 158, 172]
abbrev dktX4_readAll_3 : List UInt8 := dkwX4_readAll_3 ++ []
def dkwX4_readAll_2 : List UInt8 := [160, 0, 15, 42, 180, 0, 152, 7, 162, 0, 7, 4, 167, 0, 4, 3, 60, 42, 89, 180, 0, 108, 27]
abbrev dktX4_readAll_2 : List UInt8 := dkwX4_readAll_2 ++ dktX4_readAll_3
def dkwX4_readAll_1 : List UInt8 := [89, 180, 0, 152, 4, 96, 181, 0, 152, 42, 180, 0, 115, 2, 160, 0, 24, 42, 182, 0, 118, 16, 59]
abbrev dktX4_readAll_1 : List UInt8 := dkwX4_readAll_1 ++ dktX4_readAll_2
def dkwX4_readAll_0 : List UInt8 := [42, 182, 0, 149, 42, 3, 181, 0, 152, 4, 60, 27, 153, 0, 73, 42, 42, 180, 0, 152, 182, 0, 155, 42]
abbrev dktX4_readAll_0 : List UInt8 := dkwX4_readAll_0 ++ dktX4_readAll_1
theorem dksX4_readAll_0 : cX4_readAll.data.toList.drop 0 = dktX4_readAll_0 := by decide +kernel
theorem dksX4_readAll_1 : cX4_readAll.data.toList.drop 24 = dktX4_readAll_1 := dk_seg dksX4_readAll_0 24 rfl rfl
theorem dksX4_readAll_2 : cX4_readAll.data.toList.drop 47 = dktX4_readAll_2 := dk_seg dksX4_readAll_1 23 rfl rfl
theorem dksX4_readAll_3 : cX4_readAll.data.toList.drop 70 = dktX4_readAll_3 := dk_seg dksX4_readAll_2 23 rfl rfl
theorem dX4_readAll_0 : decode cX4_readAll 0 = .ok (.aload_n 0, 1) := dk_42 (dk_at dksX4_readAll_0 0 rfl rfl)
theorem dX4_readAll_1 : decode cX4_readAll 1 = .ok (.invokevirtual 149, 3) := dk_182 0 149 (dk_at dksX4_readAll_0 1 rfl rfl)
theorem dX4_readAll_4 : decode cX4_readAll 4 = .ok (.aload_n 0, 1) := dk_42 (dk_at dksX4_readAll_0 4 rfl rfl)
theorem dX4_readAll_5 : decode cX4_readAll 5 = .ok (.iconst 0, 1) := dk_3 (dk_at dksX4_readAll_0 5 rfl rfl)
theorem dX4_readAll_6 : decode cX4_readAll 6 = .ok (.putfield 152, 3) := dk_181 0 152 (dk_at dksX4_readAll_0 6 rfl rfl)
theorem dX4_readAll_9 : decode cX4_readAll 9 = .ok (.iconst 1, 1) := dk_4 (dk_at dksX4_readAll_0 9 rfl rfl)
theorem dX4_readAll_10 : decode cX4_readAll 10 = .ok (.istore_n 1, 1) := dk_60 (dk_at dksX4_readAll_0 10 rfl rfl)
theorem dX4_readAll_11 : decode cX4_readAll 11 = .ok (.iload_n 1, 1) := dk_27 (dk_at dksX4_readAll_0 11 rfl rfl)
theorem dX4_readAll_12 : decode cX4_readAll 12 = .ok (.ifCond .eq 73, 3) := dk_153 0 73 (dk_at dksX4_readAll_0 12 rfl rfl)
theorem dX4_readAll_15 : decode cX4_readAll 15 = .ok (.aload_n 0, 1) := dk_42 (dk_at dksX4_readAll_0 15 rfl rfl)
theorem dX4_readAll_16 : decode cX4_readAll 16 = .ok (.aload_n 0, 1) := dk_42 (dk_at dksX4_readAll_0 16 rfl rfl)
theorem dX4_readAll_17 : decode cX4_readAll 17 = .ok (.getfield 152, 3) := dk_180 0 152 (dk_at dksX4_readAll_0 17 rfl rfl)
theorem dX4_readAll_20 : decode cX4_readAll 20 = .ok (.invokevirtual 155, 3) := dk_182 0 155 (dk_at dksX4_readAll_0 20 rfl rfl)
theorem dX4_readAll_23 : decode cX4_readAll 23 = .ok (.aload_n 0, 1) := dk_42 (dk_at dksX4_readAll_0 23 rfl rfl)
theorem dX4_readAll_24 : decode cX4_readAll 24 = .ok (.dup, 1) := dk_89 (dk_at dksX4_readAll_1 0 rfl rfl)
theorem dX4_readAll_25 : decode cX4_readAll 25 = .ok (.getfield 152, 3) := dk_180 0 152 (dk_at dksX4_readAll_1 1 rfl rfl)
theorem dX4_readAll_28 : decode cX4_readAll 28 = .ok (.iconst 1, 1) := dk_4 (dk_at dksX4_readAll_1 4 rfl rfl)
theorem dX4_readAll_29 : decode cX4_readAll 29 = .ok (.iadd, 1) := dk_96 (dk_at dksX4_readAll_1 5 rfl rfl)
theorem dX4_readAll_30 : decode cX4_readAll 30 = .ok (.putfield 152, 3) := dk_181 0 152 (dk_at dksX4_readAll_1 6 rfl rfl)
theorem dX4_readAll_33 : decode cX4_readAll 33 = .ok (.aload_n 0, 1) := dk_42 (dk_at dksX4_readAll_1 9 rfl rfl)
theorem dX4_readAll_34 : decode cX4_readAll 34 = .ok (.getfield 115, 3) := dk_180 0 115 (dk_at dksX4_readAll_1 10 rfl rfl)
theorem dX4_readAll_37 : decode cX4_readAll 37 = .ok (.iconst (-1), 1) := dk_2 (dk_at dksX4_readAll_1 13 rfl rfl)
theorem dX4_readAll_38 : decode cX4_readAll 38 = .ok (.if_icmp .ne 24, 3) := dk_160 0 24 (dk_at dksX4_readAll_1 14 rfl rfl)
theorem dX4_readAll_41 : decode cX4_readAll 41 = .ok (.aload_n 0, 1) := dk_42 (dk_at dksX4_readAll_1 17 rfl rfl)
theorem dX4_readAll_42 : decode cX4_readAll 42 = .ok (.invokevirtual 118, 3) := dk_182 0 118 (dk_at dksX4_readAll_1 18 rfl rfl)
theorem dX4_readAll_45 : decode cX4_readAll 45 = .ok (.bipush 59, 2) := dk_16 59 (dk_at dksX4_readAll_1 21 rfl rfl)
theorem dX4_readAll_47 : decode cX4_readAll 47 = .ok (.if_icmp .ne 15, 3) := dk_160 0 15 (dk_at dksX4_readAll_2 0 rfl rfl)
theorem dX4_readAll_50 : decode cX4_readAll 50 = .ok (.aload_n 0, 1) := dk_42 (dk_at dksX4_readAll_2 3 rfl rfl)
theorem dX4_readAll_51 : decode cX4_readAll 51 = .ok (.getfield 152, 3) := dk_180 0 152 (dk_at dksX4_readAll_2 4 rfl rfl)
theorem dX4_readAll_54 : decode cX4_readAll 54 = .ok (.iconst 4, 1) := dk_7 (dk_at dksX4_readAll_2 7 rfl rfl)
theorem dX4_readAll_55 : decode cX4_readAll 55 = .ok (.if_icmp .ge 7, 3) := dk_162 0 7 (dk_at dksX4_readAll_2 8 rfl rfl)
theorem dX4_readAll_58 : decode cX4_readAll 58 = .ok (.iconst 1, 1) := dk_4 (dk_at dksX4_readAll_2 11 rfl rfl)
theorem dX4_readAll_59 : decode cX4_readAll 59 = .ok (.goto 4, 3) := dk_167 0 4 (dk_at dksX4_readAll_2 12 rfl rfl)
theorem dX4_readAll_62 : decode cX4_readAll 62 = .ok (.iconst 0, 1) := dk_3 (dk_at dksX4_readAll_2 15 rfl rfl)
theorem dX4_readAll_63 : decode cX4_readAll 63 = .ok (.istore_n 1, 1) := dk_60 (dk_at dksX4_readAll_2 16 rfl rfl)
theorem dX4_readAll_64 : decode cX4_readAll 64 = .ok (.aload_n 0, 1) := dk_42 (dk_at dksX4_readAll_2 17 rfl rfl)
theorem dX4_readAll_65 : decode cX4_readAll 65 = .ok (.dup, 1) := dk_89 (dk_at dksX4_readAll_2 18 rfl rfl)
theorem dX4_readAll_66 : decode cX4_readAll 66 = .ok (.getfield 108, 3) := dk_180 0 108 (dk_at dksX4_readAll_2 19 rfl rfl)
theorem dX4_readAll_69 : decode cX4_readAll 69 = .ok (.iload_n 1, 1) := dk_27 (dk_at dksX4_readAll_2 22 rfl rfl)
theorem dX4_readAll_70 : decode cX4_readAll 70 = .ok (.ifCond .eq 7, 3) := dk_153 0 7 (dk_at dksX4_readAll_3 0 rfl rfl)
theorem dX4_readAll_73 : decode cX4_readAll 73 = .ok (.iconst 1, 1) := dk_4 (dk_at dksX4_readAll_3 3 rfl rfl)
theorem dX4_readAll_74 : decode cX4_readAll 74 = .ok (.goto 4, 3) := dk_167 0 4 (dk_at dksX4_readAll_3 4 rfl rfl)
theorem dX4_readAll_77 : decode cX4_readAll 77 = .ok (.iconst 0, 1) := dk_3 (dk_at dksX4_readAll_3 7 rfl rfl)
theorem dX4_readAll_78 : decode cX4_readAll 78 = .ok (.iadd, 1) := dk_96 (dk_at dksX4_readAll_3 8 rfl rfl)
theorem dX4_readAll_79 : decode cX4_readAll 79 = .ok (.putfield 108, 3) := dk_181 0 108 (dk_at dksX4_readAll_3 9 rfl rfl)
theorem dX4_readAll_82 : decode cX4_readAll 82 = .ok (.goto (-71), 3) := dk_167 255 185 (dk_at dksX4_readAll_3 12 rfl rfl)
theorem dX4_readAll_85 : decode cX4_readAll 85 = .ok (.aload_n 0, 1) := dk_42 (dk_at dksX4_readAll_3 15 rfl rfl)
theorem dX4_readAll_86 : decode cX4_readAll 86 = .ok (.invokevirtual 158, 3) := dk_182 0 158 (dk_at dksX4_readAll_3 16 rfl rfl)
theorem dX4_readAll_89 : decode cX4_readAll 89 = .ok (.ireturn, 1) := dk_172 (dk_at dksX4_readAll_3 19 rfl rfl)
abbrev cX4_begins : ByteArray := prog_13_method_21_code
def yX4_begins : MethodName := ⟨RX4, "begins", "()V"⟩
def dkwX4_begins_0 : List UInt8 := [42, 3, 181, 0, 108, 42, 2, 181, 0, 115, 177]
abbrev dktX4_begins_0 : List UInt8 := dkwX4_begins_0 ++ []
theorem dksX4_begins_0 : cX4_begins.data.toList.drop 0 = dktX4_begins_0 := by decide +kernel
theorem dX4_begins_0 : decode cX4_begins 0 = .ok (.aload_n 0, 1) := dk_42 (dk_at dksX4_begins_0 0 rfl rfl)
theorem dX4_begins_1 : decode cX4_begins 1 = .ok (.iconst 0, 1) := dk_3 (dk_at dksX4_begins_0 1 rfl rfl)
theorem dX4_begins_2 : decode cX4_begins 2 = .ok (.putfield 108, 3) := dk_181 0 108 (dk_at dksX4_begins_0 2 rfl rfl)
theorem dX4_begins_5 : decode cX4_begins 5 = .ok (.aload_n 0, 1) := dk_42 (dk_at dksX4_begins_0 5 rfl rfl)
theorem dX4_begins_6 : decode cX4_begins 6 = .ok (.iconst (-1), 1) := dk_2 (dk_at dksX4_begins_0 6 rfl rfl)
theorem dX4_begins_7 : decode cX4_begins 7 = .ok (.putfield 115, 3) := dk_181 0 115 (dk_at dksX4_begins_0 7 rfl rfl)
theorem dX4_begins_10 : decode cX4_begins 10 = .ok (.return_, 1) := dk_177 (dk_at dksX4_begins_0 10 rfl rfl)
abbrev cX4_readTable : ByteArray := prog_13_method_19_code
def yX4_readTable : MethodName := ⟨RX4, "readTable", "(I)V"⟩
def dkwX4_readTable_4 : List UInt8 := [181, 0, 108, 167, 255, 195, 177]
abbrev dktX4_readTable_4 : List UInt8 := dkwX4_readTable_4 ++ []
def dkwX4_readTable_3 : List UInt8 := [162, 0, 7, 4, 167, 0, 4, 3, 61, 42, 89, 180, 0, 108, 28, 153, 0, 7, 4, 167, 0, 4, 3, 96]
abbrev dktX4_readTable_3 : List UInt8 := dkwX4_readTable_3 ++ dktX4_readTable_4
def dkwX4_readTable_2 : List UInt8 := [180, 0, 115, 2, 160, 0, 27, 42, 182, 0, 118, 16, 47, 160, 0, 18, 42, 180, 0, 19, 27, 46, 16, 12]
abbrev dktX4_readTable_2 : List UInt8 := dkwX4_readTable_2 ++ dktX4_readTable_3
def dkwX4_readTable_1 : List UInt8 := [184, 0, 124, 153, 0, 7, 4, 167, 0, 4, 3, 61, 28, 153, 0, 63, 42, 27, 182, 0, 146, 42]
abbrev dktX4_readTable_1 : List UInt8 := dkwX4_readTable_1 ++ dktX4_readTable_2
def dkwX4_readTable_0 : List UInt8 := [42, 27, 182, 0, 143, 42, 180, 0, 19, 27, 3, 79, 42, 180, 0, 115, 2, 160, 0, 17, 42, 182, 0, 118]
abbrev dktX4_readTable_0 : List UInt8 := dkwX4_readTable_0 ++ dktX4_readTable_1
theorem dksX4_readTable_0 : cX4_readTable.data.toList.drop 0 = dktX4_readTable_0 := by decide +kernel
theorem dksX4_readTable_1 : cX4_readTable.data.toList.drop 24 = dktX4_readTable_1 := dk_seg dksX4_readTable_0 24 rfl rfl
theorem dksX4_readTable_2 : cX4_readTable.data.toList.drop 46 = dktX4_readTable_2 := dk_seg dksX4_readTable_1 22 rfl rfl
theorem dksX4_readTable_3 : cX4_readTable.data.toList.drop 70 = dktX4_readTable_3 := dk_seg dksX4_readTable_2 24 rfl rfl
theorem dksX4_readTable_4 : cX4_readTable.data.toList.drop 94 = dktX4_readTable_4 := dk_seg dksX4_readTable_3 24 rfl rfl
theorem dX4_readTable_0 : decode cX4_readTable 0 = .ok (.aload_n 0, 1) := dk_42 (dk_at dksX4_readTable_0 0 rfl rfl)
theorem dX4_readTable_1 : decode cX4_readTable 1 = .ok (.iload_n 1, 1) := dk_27 (dk_at dksX4_readTable_0 1 rfl rfl)
theorem dX4_readTable_2 : decode cX4_readTable 2 = .ok (.invokevirtual 143, 3) := dk_182 0 143 (dk_at dksX4_readTable_0 2 rfl rfl)
theorem dX4_readTable_5 : decode cX4_readTable 5 = .ok (.aload_n 0, 1) := dk_42 (dk_at dksX4_readTable_0 5 rfl rfl)
theorem dX4_readTable_6 : decode cX4_readTable 6 = .ok (.getfield 19, 3) := dk_180 0 19 (dk_at dksX4_readTable_0 6 rfl rfl)
theorem dX4_readTable_9 : decode cX4_readTable 9 = .ok (.iload_n 1, 1) := dk_27 (dk_at dksX4_readTable_0 9 rfl rfl)
theorem dX4_readTable_10 : decode cX4_readTable 10 = .ok (.iconst 0, 1) := dk_3 (dk_at dksX4_readTable_0 10 rfl rfl)
theorem dX4_readTable_11 : decode cX4_readTable 11 = .ok (.iastore, 1) := dk_79 (dk_at dksX4_readTable_0 11 rfl rfl)
theorem dX4_readTable_12 : decode cX4_readTable 12 = .ok (.aload_n 0, 1) := dk_42 (dk_at dksX4_readTable_0 12 rfl rfl)
theorem dX4_readTable_13 : decode cX4_readTable 13 = .ok (.getfield 115, 3) := dk_180 0 115 (dk_at dksX4_readTable_0 13 rfl rfl)
theorem dX4_readTable_16 : decode cX4_readTable 16 = .ok (.iconst (-1), 1) := dk_2 (dk_at dksX4_readTable_0 16 rfl rfl)
theorem dX4_readTable_17 : decode cX4_readTable 17 = .ok (.if_icmp .ne 17, 3) := dk_160 0 17 (dk_at dksX4_readTable_0 17 rfl rfl)
theorem dX4_readTable_20 : decode cX4_readTable 20 = .ok (.aload_n 0, 1) := dk_42 (dk_at dksX4_readTable_0 20 rfl rfl)
theorem dX4_readTable_21 : decode cX4_readTable 21 = .ok (.invokevirtual 118, 3) := dk_182 0 118 (dk_at dksX4_readTable_0 21 rfl rfl)
theorem dX4_readTable_24 : decode cX4_readTable 24 = .ok (.invokestatic 124, 3) := dk_184 0 124 (dk_at dksX4_readTable_1 0 rfl rfl)
theorem dX4_readTable_27 : decode cX4_readTable 27 = .ok (.ifCond .eq 7, 3) := dk_153 0 7 (dk_at dksX4_readTable_1 3 rfl rfl)
theorem dX4_readTable_30 : decode cX4_readTable 30 = .ok (.iconst 1, 1) := dk_4 (dk_at dksX4_readTable_1 6 rfl rfl)
theorem dX4_readTable_31 : decode cX4_readTable 31 = .ok (.goto 4, 3) := dk_167 0 4 (dk_at dksX4_readTable_1 7 rfl rfl)
theorem dX4_readTable_34 : decode cX4_readTable 34 = .ok (.iconst 0, 1) := dk_3 (dk_at dksX4_readTable_1 10 rfl rfl)
theorem dX4_readTable_35 : decode cX4_readTable 35 = .ok (.istore_n 2, 1) := dk_61 (dk_at dksX4_readTable_1 11 rfl rfl)
theorem dX4_readTable_36 : decode cX4_readTable 36 = .ok (.iload_n 2, 1) := dk_28 (dk_at dksX4_readTable_1 12 rfl rfl)
theorem dX4_readTable_37 : decode cX4_readTable 37 = .ok (.ifCond .eq 63, 3) := dk_153 0 63 (dk_at dksX4_readTable_1 13 rfl rfl)
theorem dX4_readTable_40 : decode cX4_readTable 40 = .ok (.aload_n 0, 1) := dk_42 (dk_at dksX4_readTable_1 16 rfl rfl)
theorem dX4_readTable_41 : decode cX4_readTable 41 = .ok (.iload_n 1, 1) := dk_27 (dk_at dksX4_readTable_1 17 rfl rfl)
theorem dX4_readTable_42 : decode cX4_readTable 42 = .ok (.invokevirtual 146, 3) := dk_182 0 146 (dk_at dksX4_readTable_1 18 rfl rfl)
theorem dX4_readTable_45 : decode cX4_readTable 45 = .ok (.aload_n 0, 1) := dk_42 (dk_at dksX4_readTable_1 21 rfl rfl)
theorem dX4_readTable_46 : decode cX4_readTable 46 = .ok (.getfield 115, 3) := dk_180 0 115 (dk_at dksX4_readTable_2 0 rfl rfl)
theorem dX4_readTable_49 : decode cX4_readTable 49 = .ok (.iconst (-1), 1) := dk_2 (dk_at dksX4_readTable_2 3 rfl rfl)
theorem dX4_readTable_50 : decode cX4_readTable 50 = .ok (.if_icmp .ne 27, 3) := dk_160 0 27 (dk_at dksX4_readTable_2 4 rfl rfl)
theorem dX4_readTable_53 : decode cX4_readTable 53 = .ok (.aload_n 0, 1) := dk_42 (dk_at dksX4_readTable_2 7 rfl rfl)
theorem dX4_readTable_54 : decode cX4_readTable 54 = .ok (.invokevirtual 118, 3) := dk_182 0 118 (dk_at dksX4_readTable_2 8 rfl rfl)
theorem dX4_readTable_57 : decode cX4_readTable 57 = .ok (.bipush 47, 2) := dk_16 47 (dk_at dksX4_readTable_2 11 rfl rfl)
theorem dX4_readTable_59 : decode cX4_readTable 59 = .ok (.if_icmp .ne 18, 3) := dk_160 0 18 (dk_at dksX4_readTable_2 13 rfl rfl)
theorem dX4_readTable_62 : decode cX4_readTable 62 = .ok (.aload_n 0, 1) := dk_42 (dk_at dksX4_readTable_2 16 rfl rfl)
theorem dX4_readTable_63 : decode cX4_readTable 63 = .ok (.getfield 19, 3) := dk_180 0 19 (dk_at dksX4_readTable_2 17 rfl rfl)
theorem dX4_readTable_66 : decode cX4_readTable 66 = .ok (.iload_n 1, 1) := dk_27 (dk_at dksX4_readTable_2 20 rfl rfl)
theorem dX4_readTable_67 : decode cX4_readTable 67 = .ok (.iaload, 1) := dk_46 (dk_at dksX4_readTable_2 21 rfl rfl)
theorem dX4_readTable_68 : decode cX4_readTable 68 = .ok (.bipush 12, 2) := dk_16 12 (dk_at dksX4_readTable_2 22 rfl rfl)
theorem dX4_readTable_70 : decode cX4_readTable 70 = .ok (.if_icmp .ge 7, 3) := dk_162 0 7 (dk_at dksX4_readTable_3 0 rfl rfl)
theorem dX4_readTable_73 : decode cX4_readTable 73 = .ok (.iconst 1, 1) := dk_4 (dk_at dksX4_readTable_3 3 rfl rfl)
theorem dX4_readTable_74 : decode cX4_readTable 74 = .ok (.goto 4, 3) := dk_167 0 4 (dk_at dksX4_readTable_3 4 rfl rfl)
theorem dX4_readTable_77 : decode cX4_readTable 77 = .ok (.iconst 0, 1) := dk_3 (dk_at dksX4_readTable_3 7 rfl rfl)
theorem dX4_readTable_78 : decode cX4_readTable 78 = .ok (.istore_n 2, 1) := dk_61 (dk_at dksX4_readTable_3 8 rfl rfl)
theorem dX4_readTable_79 : decode cX4_readTable 79 = .ok (.aload_n 0, 1) := dk_42 (dk_at dksX4_readTable_3 9 rfl rfl)
theorem dX4_readTable_80 : decode cX4_readTable 80 = .ok (.dup, 1) := dk_89 (dk_at dksX4_readTable_3 10 rfl rfl)
theorem dX4_readTable_81 : decode cX4_readTable 81 = .ok (.getfield 108, 3) := dk_180 0 108 (dk_at dksX4_readTable_3 11 rfl rfl)
theorem dX4_readTable_84 : decode cX4_readTable 84 = .ok (.iload_n 2, 1) := dk_28 (dk_at dksX4_readTable_3 14 rfl rfl)
theorem dX4_readTable_85 : decode cX4_readTable 85 = .ok (.ifCond .eq 7, 3) := dk_153 0 7 (dk_at dksX4_readTable_3 15 rfl rfl)
theorem dX4_readTable_88 : decode cX4_readTable 88 = .ok (.iconst 1, 1) := dk_4 (dk_at dksX4_readTable_3 18 rfl rfl)
theorem dX4_readTable_89 : decode cX4_readTable 89 = .ok (.goto 4, 3) := dk_167 0 4 (dk_at dksX4_readTable_3 19 rfl rfl)
theorem dX4_readTable_92 : decode cX4_readTable 92 = .ok (.iconst 0, 1) := dk_3 (dk_at dksX4_readTable_3 22 rfl rfl)
theorem dX4_readTable_93 : decode cX4_readTable 93 = .ok (.iadd, 1) := dk_96 (dk_at dksX4_readTable_3 23 rfl rfl)
theorem dX4_readTable_94 : decode cX4_readTable 94 = .ok (.putfield 108, 3) := dk_181 0 108 (dk_at dksX4_readTable_4 0 rfl rfl)
theorem dX4_readTable_97 : decode cX4_readTable 97 = .ok (.goto (-61), 3) := dk_167 255 195 (dk_at dksX4_readTable_4 3 rfl rfl)
theorem dX4_readTable_100 : decode cX4_readTable 100 = .ok (.return_, 1) := dk_177 (dk_at dksX4_readTable_4 6 rfl rfl)
abbrev cX4_readHead : ByteArray := prog_13_method_17_code
def yX4_readHead : MethodName := ⟨RX4, "readHead", "(I)V"⟩
def dkwX4_readHead_5 : List UInt8 := [167, 255, 162, 42, 16, 58, 182, 0, 135, 177]
abbrev dktX4_readHead_5 : List UInt8 := dkwX4_readHead_5 ++ []
def dkwX4_readHead_4 : List UInt8 := [46, 96, 29, 79, 42, 180, 0, 13, 27, 92, 46, 4, 96, 79, 42, 89, 180, 0, 108, 4, 96, 181, 0, 108]
abbrev dktX4_readHead_4 : List UInt8 := dkwX4_readHead_4 ++ dktX4_readHead_5
def dkwX4_readHead_3 : List UInt8 := [182, 0, 121, 167, 0, 45, 28, 4, 29, 120, 128, 61, 42, 180, 0, 16, 6, 27, 104, 42, 180, 0, 13, 27]
abbrev dktX4_readHead_3 : List UInt8 := dkwX4_readHead_3 ++ dktX4_readHead_4
def dkwX4_readHead_2 : List UInt8 := [16, 97, 100, 62, 42, 180, 0, 13, 27, 46, 6, 159, 0, 11, 28, 29, 184, 0, 131, 153, 0, 10, 42]
abbrev dktX4_readHead_2 : List UInt8 := dkwX4_readHead_2 ++ dktX4_readHead_3
def dkwX4_readHead_1 : List UInt8 := [42, 180, 0, 115, 2, 160, 0, 92, 42, 42, 182, 0, 118, 182, 0, 128, 153, 0, 81, 42, 182, 0, 111]
abbrev dktX4_readHead_1 : List UInt8 := dkwX4_readHead_1 ++ dktX4_readHead_2
def dkwX4_readHead_0 : List UInt8 := [42, 180, 0, 13, 27, 3, 79, 3, 61, 42, 42, 182, 0, 118, 182, 0, 128, 154, 0, 7, 42, 182, 0, 121]
abbrev dktX4_readHead_0 : List UInt8 := dkwX4_readHead_0 ++ dktX4_readHead_1
theorem dksX4_readHead_0 : cX4_readHead.data.toList.drop 0 = dktX4_readHead_0 := by decide +kernel
theorem dksX4_readHead_1 : cX4_readHead.data.toList.drop 24 = dktX4_readHead_1 := dk_seg dksX4_readHead_0 24 rfl rfl
theorem dksX4_readHead_2 : cX4_readHead.data.toList.drop 47 = dktX4_readHead_2 := dk_seg dksX4_readHead_1 23 rfl rfl
theorem dksX4_readHead_3 : cX4_readHead.data.toList.drop 70 = dktX4_readHead_3 := dk_seg dksX4_readHead_2 23 rfl rfl
theorem dksX4_readHead_4 : cX4_readHead.data.toList.drop 94 = dktX4_readHead_4 := dk_seg dksX4_readHead_3 24 rfl rfl
theorem dksX4_readHead_5 : cX4_readHead.data.toList.drop 118 = dktX4_readHead_5 := dk_seg dksX4_readHead_4 24 rfl rfl
theorem dX4_readHead_0 : decode cX4_readHead 0 = .ok (.aload_n 0, 1) := dk_42 (dk_at dksX4_readHead_0 0 rfl rfl)
theorem dX4_readHead_1 : decode cX4_readHead 1 = .ok (.getfield 13, 3) := dk_180 0 13 (dk_at dksX4_readHead_0 1 rfl rfl)
theorem dX4_readHead_4 : decode cX4_readHead 4 = .ok (.iload_n 1, 1) := dk_27 (dk_at dksX4_readHead_0 4 rfl rfl)
theorem dX4_readHead_5 : decode cX4_readHead 5 = .ok (.iconst 0, 1) := dk_3 (dk_at dksX4_readHead_0 5 rfl rfl)
theorem dX4_readHead_6 : decode cX4_readHead 6 = .ok (.iastore, 1) := dk_79 (dk_at dksX4_readHead_0 6 rfl rfl)
theorem dX4_readHead_7 : decode cX4_readHead 7 = .ok (.iconst 0, 1) := dk_3 (dk_at dksX4_readHead_0 7 rfl rfl)
theorem dX4_readHead_8 : decode cX4_readHead 8 = .ok (.istore_n 2, 1) := dk_61 (dk_at dksX4_readHead_0 8 rfl rfl)
theorem dX4_readHead_9 : decode cX4_readHead 9 = .ok (.aload_n 0, 1) := dk_42 (dk_at dksX4_readHead_0 9 rfl rfl)
theorem dX4_readHead_10 : decode cX4_readHead 10 = .ok (.aload_n 0, 1) := dk_42 (dk_at dksX4_readHead_0 10 rfl rfl)
theorem dX4_readHead_11 : decode cX4_readHead 11 = .ok (.invokevirtual 118, 3) := dk_182 0 118 (dk_at dksX4_readHead_0 11 rfl rfl)
theorem dX4_readHead_14 : decode cX4_readHead 14 = .ok (.invokevirtual 128, 3) := dk_182 0 128 (dk_at dksX4_readHead_0 14 rfl rfl)
theorem dX4_readHead_17 : decode cX4_readHead 17 = .ok (.ifCond .ne 7, 3) := dk_154 0 7 (dk_at dksX4_readHead_0 17 rfl rfl)
theorem dX4_readHead_20 : decode cX4_readHead 20 = .ok (.aload_n 0, 1) := dk_42 (dk_at dksX4_readHead_0 20 rfl rfl)
theorem dX4_readHead_21 : decode cX4_readHead 21 = .ok (.invokevirtual 121, 3) := dk_182 0 121 (dk_at dksX4_readHead_0 21 rfl rfl)
theorem dX4_readHead_24 : decode cX4_readHead 24 = .ok (.aload_n 0, 1) := dk_42 (dk_at dksX4_readHead_1 0 rfl rfl)
theorem dX4_readHead_25 : decode cX4_readHead 25 = .ok (.getfield 115, 3) := dk_180 0 115 (dk_at dksX4_readHead_1 1 rfl rfl)
theorem dX4_readHead_28 : decode cX4_readHead 28 = .ok (.iconst (-1), 1) := dk_2 (dk_at dksX4_readHead_1 4 rfl rfl)
theorem dX4_readHead_29 : decode cX4_readHead 29 = .ok (.if_icmp .ne 92, 3) := dk_160 0 92 (dk_at dksX4_readHead_1 5 rfl rfl)
theorem dX4_readHead_32 : decode cX4_readHead 32 = .ok (.aload_n 0, 1) := dk_42 (dk_at dksX4_readHead_1 8 rfl rfl)
theorem dX4_readHead_33 : decode cX4_readHead 33 = .ok (.aload_n 0, 1) := dk_42 (dk_at dksX4_readHead_1 9 rfl rfl)
theorem dX4_readHead_34 : decode cX4_readHead 34 = .ok (.invokevirtual 118, 3) := dk_182 0 118 (dk_at dksX4_readHead_1 10 rfl rfl)
theorem dX4_readHead_37 : decode cX4_readHead 37 = .ok (.invokevirtual 128, 3) := dk_182 0 128 (dk_at dksX4_readHead_1 13 rfl rfl)
theorem dX4_readHead_40 : decode cX4_readHead 40 = .ok (.ifCond .eq 81, 3) := dk_153 0 81 (dk_at dksX4_readHead_1 16 rfl rfl)
theorem dX4_readHead_43 : decode cX4_readHead 43 = .ok (.aload_n 0, 1) := dk_42 (dk_at dksX4_readHead_1 19 rfl rfl)
theorem dX4_readHead_44 : decode cX4_readHead 44 = .ok (.invokevirtual 111, 3) := dk_182 0 111 (dk_at dksX4_readHead_1 20 rfl rfl)
theorem dX4_readHead_47 : decode cX4_readHead 47 = .ok (.bipush 97, 2) := dk_16 97 (dk_at dksX4_readHead_2 0 rfl rfl)
theorem dX4_readHead_49 : decode cX4_readHead 49 = .ok (.isub, 1) := dk_100 (dk_at dksX4_readHead_2 2 rfl rfl)
theorem dX4_readHead_50 : decode cX4_readHead 50 = .ok (.istore_n 3, 1) := dk_62 (dk_at dksX4_readHead_2 3 rfl rfl)
theorem dX4_readHead_51 : decode cX4_readHead 51 = .ok (.aload_n 0, 1) := dk_42 (dk_at dksX4_readHead_2 4 rfl rfl)
theorem dX4_readHead_52 : decode cX4_readHead 52 = .ok (.getfield 13, 3) := dk_180 0 13 (dk_at dksX4_readHead_2 5 rfl rfl)
theorem dX4_readHead_55 : decode cX4_readHead 55 = .ok (.iload_n 1, 1) := dk_27 (dk_at dksX4_readHead_2 8 rfl rfl)
theorem dX4_readHead_56 : decode cX4_readHead 56 = .ok (.iaload, 1) := dk_46 (dk_at dksX4_readHead_2 9 rfl rfl)
theorem dX4_readHead_57 : decode cX4_readHead 57 = .ok (.iconst 3, 1) := dk_6 (dk_at dksX4_readHead_2 10 rfl rfl)
theorem dX4_readHead_58 : decode cX4_readHead 58 = .ok (.if_icmp .eq 11, 3) := dk_159 0 11 (dk_at dksX4_readHead_2 11 rfl rfl)
theorem dX4_readHead_61 : decode cX4_readHead 61 = .ok (.iload_n 2, 1) := dk_28 (dk_at dksX4_readHead_2 14 rfl rfl)
theorem dX4_readHead_62 : decode cX4_readHead 62 = .ok (.iload_n 3, 1) := dk_29 (dk_at dksX4_readHead_2 15 rfl rfl)
theorem dX4_readHead_63 : decode cX4_readHead 63 = .ok (.invokestatic 131, 3) := dk_184 0 131 (dk_at dksX4_readHead_2 16 rfl rfl)
theorem dX4_readHead_66 : decode cX4_readHead 66 = .ok (.ifCond .eq 10, 3) := dk_153 0 10 (dk_at dksX4_readHead_2 19 rfl rfl)
theorem dX4_readHead_69 : decode cX4_readHead 69 = .ok (.aload_n 0, 1) := dk_42 (dk_at dksX4_readHead_2 22 rfl rfl)
theorem dX4_readHead_70 : decode cX4_readHead 70 = .ok (.invokevirtual 121, 3) := dk_182 0 121 (dk_at dksX4_readHead_3 0 rfl rfl)
theorem dX4_readHead_73 : decode cX4_readHead 73 = .ok (.goto 45, 3) := dk_167 0 45 (dk_at dksX4_readHead_3 3 rfl rfl)
theorem dX4_readHead_76 : decode cX4_readHead 76 = .ok (.iload_n 2, 1) := dk_28 (dk_at dksX4_readHead_3 6 rfl rfl)
theorem dX4_readHead_77 : decode cX4_readHead 77 = .ok (.iconst 1, 1) := dk_4 (dk_at dksX4_readHead_3 7 rfl rfl)
theorem dX4_readHead_78 : decode cX4_readHead 78 = .ok (.iload_n 3, 1) := dk_29 (dk_at dksX4_readHead_3 8 rfl rfl)
theorem dX4_readHead_79 : decode cX4_readHead 79 = .ok (.ishl, 1) := dk_120 (dk_at dksX4_readHead_3 9 rfl rfl)
theorem dX4_readHead_80 : decode cX4_readHead 80 = .ok (.ior, 1) := dk_128 (dk_at dksX4_readHead_3 10 rfl rfl)
theorem dX4_readHead_81 : decode cX4_readHead 81 = .ok (.istore_n 2, 1) := dk_61 (dk_at dksX4_readHead_3 11 rfl rfl)
theorem dX4_readHead_82 : decode cX4_readHead 82 = .ok (.aload_n 0, 1) := dk_42 (dk_at dksX4_readHead_3 12 rfl rfl)
theorem dX4_readHead_83 : decode cX4_readHead 83 = .ok (.getfield 16, 3) := dk_180 0 16 (dk_at dksX4_readHead_3 13 rfl rfl)
theorem dX4_readHead_86 : decode cX4_readHead 86 = .ok (.iconst 3, 1) := dk_6 (dk_at dksX4_readHead_3 16 rfl rfl)
theorem dX4_readHead_87 : decode cX4_readHead 87 = .ok (.iload_n 1, 1) := dk_27 (dk_at dksX4_readHead_3 17 rfl rfl)
theorem dX4_readHead_88 : decode cX4_readHead 88 = .ok (.imul, 1) := dk_104 (dk_at dksX4_readHead_3 18 rfl rfl)
theorem dX4_readHead_89 : decode cX4_readHead 89 = .ok (.aload_n 0, 1) := dk_42 (dk_at dksX4_readHead_3 19 rfl rfl)
theorem dX4_readHead_90 : decode cX4_readHead 90 = .ok (.getfield 13, 3) := dk_180 0 13 (dk_at dksX4_readHead_3 20 rfl rfl)
theorem dX4_readHead_93 : decode cX4_readHead 93 = .ok (.iload_n 1, 1) := dk_27 (dk_at dksX4_readHead_3 23 rfl rfl)
theorem dX4_readHead_94 : decode cX4_readHead 94 = .ok (.iaload, 1) := dk_46 (dk_at dksX4_readHead_4 0 rfl rfl)
theorem dX4_readHead_95 : decode cX4_readHead 95 = .ok (.iadd, 1) := dk_96 (dk_at dksX4_readHead_4 1 rfl rfl)
theorem dX4_readHead_96 : decode cX4_readHead 96 = .ok (.iload_n 3, 1) := dk_29 (dk_at dksX4_readHead_4 2 rfl rfl)
theorem dX4_readHead_97 : decode cX4_readHead 97 = .ok (.iastore, 1) := dk_79 (dk_at dksX4_readHead_4 3 rfl rfl)
theorem dX4_readHead_98 : decode cX4_readHead 98 = .ok (.aload_n 0, 1) := dk_42 (dk_at dksX4_readHead_4 4 rfl rfl)
theorem dX4_readHead_99 : decode cX4_readHead 99 = .ok (.getfield 13, 3) := dk_180 0 13 (dk_at dksX4_readHead_4 5 rfl rfl)
theorem dX4_readHead_102 : decode cX4_readHead 102 = .ok (.iload_n 1, 1) := dk_27 (dk_at dksX4_readHead_4 8 rfl rfl)
theorem dX4_readHead_103 : decode cX4_readHead 103 = .ok (.dup2, 1) := dk_92 (dk_at dksX4_readHead_4 9 rfl rfl)
theorem dX4_readHead_104 : decode cX4_readHead 104 = .ok (.iaload, 1) := dk_46 (dk_at dksX4_readHead_4 10 rfl rfl)
theorem dX4_readHead_105 : decode cX4_readHead 105 = .ok (.iconst 1, 1) := dk_4 (dk_at dksX4_readHead_4 11 rfl rfl)
theorem dX4_readHead_106 : decode cX4_readHead 106 = .ok (.iadd, 1) := dk_96 (dk_at dksX4_readHead_4 12 rfl rfl)
theorem dX4_readHead_107 : decode cX4_readHead 107 = .ok (.iastore, 1) := dk_79 (dk_at dksX4_readHead_4 13 rfl rfl)
theorem dX4_readHead_108 : decode cX4_readHead 108 = .ok (.aload_n 0, 1) := dk_42 (dk_at dksX4_readHead_4 14 rfl rfl)
theorem dX4_readHead_109 : decode cX4_readHead 109 = .ok (.dup, 1) := dk_89 (dk_at dksX4_readHead_4 15 rfl rfl)
theorem dX4_readHead_110 : decode cX4_readHead 110 = .ok (.getfield 108, 3) := dk_180 0 108 (dk_at dksX4_readHead_4 16 rfl rfl)
theorem dX4_readHead_113 : decode cX4_readHead 113 = .ok (.iconst 1, 1) := dk_4 (dk_at dksX4_readHead_4 19 rfl rfl)
theorem dX4_readHead_114 : decode cX4_readHead 114 = .ok (.iadd, 1) := dk_96 (dk_at dksX4_readHead_4 20 rfl rfl)
theorem dX4_readHead_115 : decode cX4_readHead 115 = .ok (.putfield 108, 3) := dk_181 0 108 (dk_at dksX4_readHead_4 21 rfl rfl)
theorem dX4_readHead_118 : decode cX4_readHead 118 = .ok (.goto (-94), 3) := dk_167 255 162 (dk_at dksX4_readHead_5 0 rfl rfl)
theorem dX4_readHead_121 : decode cX4_readHead 121 = .ok (.aload_n 0, 1) := dk_42 (dk_at dksX4_readHead_5 3 rfl rfl)
theorem dX4_readHead_122 : decode cX4_readHead 122 = .ok (.bipush 58, 2) := dk_16 58 (dk_at dksX4_readHead_5 4 rfl rfl)
theorem dX4_readHead_124 : decode cX4_readHead 124 = .ok (.invokevirtual 135, 3) := dk_182 0 135 (dk_at dksX4_readHead_5 6 rfl rfl)
theorem dX4_readHead_127 : decode cX4_readHead 127 = .ok (.return_, 1) := dk_177 (dk_at dksX4_readHead_5 9 rfl rfl)
abbrev cX4_ahead : ByteArray := prog_13_method_10_code
def yX4_ahead : MethodName := ⟨RX4, "ahead", "()I"⟩
def dkwX4_ahead_1 : List UInt8 := [182, 0, 111, 172]
abbrev dktX4_ahead_1 : List UInt8 := dkwX4_ahead_1 ++ []
def dkwX4_ahead_0 : List UInt8 := [42, 182, 0, 111, 16, 32, 160, 0, 16, 42, 89, 180, 0, 108, 4, 96, 181, 0, 108, 167, 255, 237, 42]
abbrev dktX4_ahead_0 : List UInt8 := dkwX4_ahead_0 ++ dktX4_ahead_1
theorem dksX4_ahead_0 : cX4_ahead.data.toList.drop 0 = dktX4_ahead_0 := by decide +kernel
theorem dksX4_ahead_1 : cX4_ahead.data.toList.drop 23 = dktX4_ahead_1 := dk_seg dksX4_ahead_0 23 rfl rfl
theorem dX4_ahead_0 : decode cX4_ahead 0 = .ok (.aload_n 0, 1) := dk_42 (dk_at dksX4_ahead_0 0 rfl rfl)
theorem dX4_ahead_1 : decode cX4_ahead 1 = .ok (.invokevirtual 111, 3) := dk_182 0 111 (dk_at dksX4_ahead_0 1 rfl rfl)
theorem dX4_ahead_4 : decode cX4_ahead 4 = .ok (.bipush 32, 2) := dk_16 32 (dk_at dksX4_ahead_0 4 rfl rfl)
theorem dX4_ahead_6 : decode cX4_ahead 6 = .ok (.if_icmp .ne 16, 3) := dk_160 0 16 (dk_at dksX4_ahead_0 6 rfl rfl)
theorem dX4_ahead_9 : decode cX4_ahead 9 = .ok (.aload_n 0, 1) := dk_42 (dk_at dksX4_ahead_0 9 rfl rfl)
theorem dX4_ahead_10 : decode cX4_ahead 10 = .ok (.dup, 1) := dk_89 (dk_at dksX4_ahead_0 10 rfl rfl)
theorem dX4_ahead_11 : decode cX4_ahead 11 = .ok (.getfield 108, 3) := dk_180 0 108 (dk_at dksX4_ahead_0 11 rfl rfl)
theorem dX4_ahead_14 : decode cX4_ahead 14 = .ok (.iconst 1, 1) := dk_4 (dk_at dksX4_ahead_0 14 rfl rfl)
theorem dX4_ahead_15 : decode cX4_ahead 15 = .ok (.iadd, 1) := dk_96 (dk_at dksX4_ahead_0 15 rfl rfl)
theorem dX4_ahead_16 : decode cX4_ahead 16 = .ok (.putfield 108, 3) := dk_181 0 108 (dk_at dksX4_ahead_0 16 rfl rfl)
theorem dX4_ahead_19 : decode cX4_ahead 19 = .ok (.goto (-19), 3) := dk_167 255 237 (dk_at dksX4_ahead_0 19 rfl rfl)
theorem dX4_ahead_22 : decode cX4_ahead 22 = .ok (.aload_n 0, 1) := dk_42 (dk_at dksX4_ahead_0 22 rfl rfl)
theorem dX4_ahead_23 : decode cX4_ahead 23 = .ok (.invokevirtual 111, 3) := dk_182 0 111 (dk_at dksX4_ahead_1 0 rfl rfl)
theorem dX4_ahead_26 : decode cX4_ahead 26 = .ok (.ireturn, 1) := dk_172 (dk_at dksX4_ahead_1 3 rfl rfl)
abbrev cX4_here : ByteArray := prog_13_method_9_code
def yX4_here : MethodName := ⟨RX4, "here", "()I"⟩
def dkwX4_here_1 : List UInt8 := [172]
abbrev dktX4_here_1 : List UInt8 := dkwX4_here_1 ++ []
def dkwX4_here_0 : List UInt8 := [42, 180, 0, 108, 42, 180, 0, 101, 162, 0, 15, 42, 180, 0, 9, 42, 180, 0, 108, 46, 167, 0, 4, 2]
abbrev dktX4_here_0 : List UInt8 := dkwX4_here_0 ++ dktX4_here_1
theorem dksX4_here_0 : cX4_here.data.toList.drop 0 = dktX4_here_0 := by decide +kernel
theorem dksX4_here_1 : cX4_here.data.toList.drop 24 = dktX4_here_1 := dk_seg dksX4_here_0 24 rfl rfl
theorem dX4_here_0 : decode cX4_here 0 = .ok (.aload_n 0, 1) := dk_42 (dk_at dksX4_here_0 0 rfl rfl)
theorem dX4_here_1 : decode cX4_here 1 = .ok (.getfield 108, 3) := dk_180 0 108 (dk_at dksX4_here_0 1 rfl rfl)
theorem dX4_here_4 : decode cX4_here 4 = .ok (.aload_n 0, 1) := dk_42 (dk_at dksX4_here_0 4 rfl rfl)
theorem dX4_here_5 : decode cX4_here 5 = .ok (.getfield 101, 3) := dk_180 0 101 (dk_at dksX4_here_0 5 rfl rfl)
theorem dX4_here_8 : decode cX4_here 8 = .ok (.if_icmp .ge 15, 3) := dk_162 0 15 (dk_at dksX4_here_0 8 rfl rfl)
theorem dX4_here_11 : decode cX4_here 11 = .ok (.aload_n 0, 1) := dk_42 (dk_at dksX4_here_0 11 rfl rfl)
theorem dX4_here_12 : decode cX4_here 12 = .ok (.getfield 9, 3) := dk_180 0 9 (dk_at dksX4_here_0 12 rfl rfl)
theorem dX4_here_15 : decode cX4_here 15 = .ok (.aload_n 0, 1) := dk_42 (dk_at dksX4_here_0 15 rfl rfl)
theorem dX4_here_16 : decode cX4_here 16 = .ok (.getfield 108, 3) := dk_180 0 108 (dk_at dksX4_here_0 16 rfl rfl)
theorem dX4_here_19 : decode cX4_here 19 = .ok (.iaload, 1) := dk_46 (dk_at dksX4_here_0 19 rfl rfl)
theorem dX4_here_20 : decode cX4_here 20 = .ok (.goto 4, 3) := dk_167 0 4 (dk_at dksX4_here_0 20 rfl rfl)
theorem dX4_here_23 : decode cX4_here 23 = .ok (.iconst (-1), 1) := dk_2 (dk_at dksX4_here_0 23 rfl rfl)
theorem dX4_here_24 : decode cX4_here 24 = .ok (.ireturn, 1) := dk_172 (dk_at dksX4_here_1 0 rfl rfl)
abbrev cX4_isLetter : ByteArray := prog_13_method_16_code
def yX4_isLetter : MethodName := ⟨RX4, "isLetter", "(I)Z"⟩
def dkwX4_isLetter_0 : List UInt8 := [27, 16, 97, 161, 0, 13, 27, 16, 100, 163, 0, 7, 4, 167, 0, 4, 3, 172]
abbrev dktX4_isLetter_0 : List UInt8 := dkwX4_isLetter_0 ++ []
theorem dksX4_isLetter_0 : cX4_isLetter.data.toList.drop 0 = dktX4_isLetter_0 := by decide +kernel
theorem dX4_isLetter_0 : decode cX4_isLetter 0 = .ok (.iload_n 1, 1) := dk_27 (dk_at dksX4_isLetter_0 0 rfl rfl)
theorem dX4_isLetter_1 : decode cX4_isLetter 1 = .ok (.bipush 97, 2) := dk_16 97 (dk_at dksX4_isLetter_0 1 rfl rfl)
theorem dX4_isLetter_3 : decode cX4_isLetter 3 = .ok (.if_icmp .lt 13, 3) := dk_161 0 13 (dk_at dksX4_isLetter_0 3 rfl rfl)
theorem dX4_isLetter_6 : decode cX4_isLetter 6 = .ok (.iload_n 1, 1) := dk_27 (dk_at dksX4_isLetter_0 6 rfl rfl)
theorem dX4_isLetter_7 : decode cX4_isLetter 7 = .ok (.bipush 100, 2) := dk_16 100 (dk_at dksX4_isLetter_0 7 rfl rfl)
theorem dX4_isLetter_9 : decode cX4_isLetter 9 = .ok (.if_icmp .gt 7, 3) := dk_163 0 7 (dk_at dksX4_isLetter_0 9 rfl rfl)
theorem dX4_isLetter_12 : decode cX4_isLetter 12 = .ok (.iconst 1, 1) := dk_4 (dk_at dksX4_isLetter_0 12 rfl rfl)
theorem dX4_isLetter_13 : decode cX4_isLetter 13 = .ok (.goto 4, 3) := dk_167 0 4 (dk_at dksX4_isLetter_0 13 rfl rfl)
theorem dX4_isLetter_16 : decode cX4_isLetter 16 = .ok (.iconst 0, 1) := dk_3 (dk_at dksX4_isLetter_0 16 rfl rfl)
theorem dX4_isLetter_17 : decode cX4_isLetter 17 = .ok (.ireturn, 1) := dk_172 (dk_at dksX4_isLetter_0 17 rfl rfl)
abbrev cX4_bad : ByteArray := prog_13_method_11_code
def yX4_bad : MethodName := ⟨RX4, "bad", "()V"⟩
def dkwX4_bad_0 : List UInt8 := [42, 42, 180, 0, 115, 2, 160, 0, 10, 42, 180, 0, 108, 167, 0, 7, 42, 180, 0, 115, 181, 0, 115, 177]
abbrev dktX4_bad_0 : List UInt8 := dkwX4_bad_0 ++ []
theorem dksX4_bad_0 : cX4_bad.data.toList.drop 0 = dktX4_bad_0 := by decide +kernel
theorem dX4_bad_0 : decode cX4_bad 0 = .ok (.aload_n 0, 1) := dk_42 (dk_at dksX4_bad_0 0 rfl rfl)
theorem dX4_bad_1 : decode cX4_bad 1 = .ok (.aload_n 0, 1) := dk_42 (dk_at dksX4_bad_0 1 rfl rfl)
theorem dX4_bad_2 : decode cX4_bad 2 = .ok (.getfield 115, 3) := dk_180 0 115 (dk_at dksX4_bad_0 2 rfl rfl)
theorem dX4_bad_5 : decode cX4_bad 5 = .ok (.iconst (-1), 1) := dk_2 (dk_at dksX4_bad_0 5 rfl rfl)
theorem dX4_bad_6 : decode cX4_bad 6 = .ok (.if_icmp .ne 10, 3) := dk_160 0 10 (dk_at dksX4_bad_0 6 rfl rfl)
theorem dX4_bad_9 : decode cX4_bad 9 = .ok (.aload_n 0, 1) := dk_42 (dk_at dksX4_bad_0 9 rfl rfl)
theorem dX4_bad_10 : decode cX4_bad 10 = .ok (.getfield 108, 3) := dk_180 0 108 (dk_at dksX4_bad_0 10 rfl rfl)
theorem dX4_bad_13 : decode cX4_bad 13 = .ok (.goto 7, 3) := dk_167 0 7 (dk_at dksX4_bad_0 13 rfl rfl)
theorem dX4_bad_16 : decode cX4_bad 16 = .ok (.aload_n 0, 1) := dk_42 (dk_at dksX4_bad_0 16 rfl rfl)
theorem dX4_bad_17 : decode cX4_bad 17 = .ok (.getfield 115, 3) := dk_180 0 115 (dk_at dksX4_bad_0 17 rfl rfl)
theorem dX4_bad_20 : decode cX4_bad 20 = .ok (.putfield 115, 3) := dk_181 0 115 (dk_at dksX4_bad_0 20 rfl rfl)
theorem dX4_bad_23 : decode cX4_bad 23 = .ok (.return_, 1) := dk_177 (dk_at dksX4_bad_0 23 rfl rfl)
abbrev cX4_has : ByteArray := prog_13_method_2_code
def yX4_has : MethodName := ⟨RX4, "has", "(II)Z"⟩
def dkwX4_has_0 : List UInt8 := [26, 27, 122, 4, 126, 4, 160, 0, 7, 4, 167, 0, 4, 3, 172]
abbrev dktX4_has_0 : List UInt8 := dkwX4_has_0 ++ []
theorem dksX4_has_0 : cX4_has.data.toList.drop 0 = dktX4_has_0 := by decide +kernel
theorem dX4_has_0 : decode cX4_has 0 = .ok (.iload_n 0, 1) := dk_26 (dk_at dksX4_has_0 0 rfl rfl)
theorem dX4_has_1 : decode cX4_has 1 = .ok (.iload_n 1, 1) := dk_27 (dk_at dksX4_has_0 1 rfl rfl)
theorem dX4_has_2 : decode cX4_has 2 = .ok (.ishr, 1) := dk_122 (dk_at dksX4_has_0 2 rfl rfl)
theorem dX4_has_3 : decode cX4_has 3 = .ok (.iconst 1, 1) := dk_4 (dk_at dksX4_has_0 3 rfl rfl)
theorem dX4_has_4 : decode cX4_has 4 = .ok (.iand, 1) := dk_126 (dk_at dksX4_has_0 4 rfl rfl)
theorem dX4_has_5 : decode cX4_has 5 = .ok (.iconst 1, 1) := dk_4 (dk_at dksX4_has_0 5 rfl rfl)
theorem dX4_has_6 : decode cX4_has 6 = .ok (.if_icmp .ne 7, 3) := dk_160 0 7 (dk_at dksX4_has_0 6 rfl rfl)
theorem dX4_has_9 : decode cX4_has 9 = .ok (.iconst 1, 1) := dk_4 (dk_at dksX4_has_0 9 rfl rfl)
theorem dX4_has_10 : decode cX4_has 10 = .ok (.goto 4, 3) := dk_167 0 4 (dk_at dksX4_has_0 10 rfl rfl)
theorem dX4_has_13 : decode cX4_has 13 = .ok (.iconst 0, 1) := dk_3 (dk_at dksX4_has_0 13 rfl rfl)
theorem dX4_has_14 : decode cX4_has 14 = .ok (.ireturn, 1) := dk_172 (dk_at dksX4_has_0 14 rfl rfl)
abbrev cX4_must : ByteArray := prog_13_method_12_code
def yX4_must : MethodName := ⟨RX4, "must", "(I)V"⟩
def dkwX4_must_1 : List UInt8 := [181, 0, 108, 167, 0, 7, 42, 182, 0, 121, 177]
abbrev dktX4_must_1 : List UInt8 := dkwX4_must_1 ++ []
def dkwX4_must_0 : List UInt8 := [42, 180, 0, 115, 2, 160, 0, 24, 42, 182, 0, 118, 27, 160, 0, 16, 42, 89, 180, 0, 108, 4, 96]
abbrev dktX4_must_0 : List UInt8 := dkwX4_must_0 ++ dktX4_must_1
theorem dksX4_must_0 : cX4_must.data.toList.drop 0 = dktX4_must_0 := by decide +kernel
theorem dksX4_must_1 : cX4_must.data.toList.drop 23 = dktX4_must_1 := dk_seg dksX4_must_0 23 rfl rfl
theorem dX4_must_0 : decode cX4_must 0 = .ok (.aload_n 0, 1) := dk_42 (dk_at dksX4_must_0 0 rfl rfl)
theorem dX4_must_1 : decode cX4_must 1 = .ok (.getfield 115, 3) := dk_180 0 115 (dk_at dksX4_must_0 1 rfl rfl)
theorem dX4_must_4 : decode cX4_must 4 = .ok (.iconst (-1), 1) := dk_2 (dk_at dksX4_must_0 4 rfl rfl)
theorem dX4_must_5 : decode cX4_must 5 = .ok (.if_icmp .ne 24, 3) := dk_160 0 24 (dk_at dksX4_must_0 5 rfl rfl)
theorem dX4_must_8 : decode cX4_must 8 = .ok (.aload_n 0, 1) := dk_42 (dk_at dksX4_must_0 8 rfl rfl)
theorem dX4_must_9 : decode cX4_must 9 = .ok (.invokevirtual 118, 3) := dk_182 0 118 (dk_at dksX4_must_0 9 rfl rfl)
theorem dX4_must_12 : decode cX4_must 12 = .ok (.iload_n 1, 1) := dk_27 (dk_at dksX4_must_0 12 rfl rfl)
theorem dX4_must_13 : decode cX4_must 13 = .ok (.if_icmp .ne 16, 3) := dk_160 0 16 (dk_at dksX4_must_0 13 rfl rfl)
theorem dX4_must_16 : decode cX4_must 16 = .ok (.aload_n 0, 1) := dk_42 (dk_at dksX4_must_0 16 rfl rfl)
theorem dX4_must_17 : decode cX4_must 17 = .ok (.dup, 1) := dk_89 (dk_at dksX4_must_0 17 rfl rfl)
theorem dX4_must_18 : decode cX4_must 18 = .ok (.getfield 108, 3) := dk_180 0 108 (dk_at dksX4_must_0 18 rfl rfl)
theorem dX4_must_21 : decode cX4_must 21 = .ok (.iconst 1, 1) := dk_4 (dk_at dksX4_must_0 21 rfl rfl)
theorem dX4_must_22 : decode cX4_must 22 = .ok (.iadd, 1) := dk_96 (dk_at dksX4_must_0 22 rfl rfl)
theorem dX4_must_23 : decode cX4_must 23 = .ok (.putfield 108, 3) := dk_181 0 108 (dk_at dksX4_must_1 0 rfl rfl)
theorem dX4_must_26 : decode cX4_must 26 = .ok (.goto 7, 3) := dk_167 0 7 (dk_at dksX4_must_1 3 rfl rfl)
theorem dX4_must_29 : decode cX4_must 29 = .ok (.aload_n 0, 1) := dk_42 (dk_at dksX4_must_1 6 rfl rfl)
theorem dX4_must_30 : decode cX4_must 30 = .ok (.invokevirtual 121, 3) := dk_182 0 121 (dk_at dksX4_must_1 7 rfl rfl)
theorem dX4_must_33 : decode cX4_must 33 = .ok (.return_, 1) := dk_177 (dk_at dksX4_must_1 10 rfl rfl)
abbrev cX4_isDigit : ByteArray := prog_13_method_13_code
def yX4_isDigit : MethodName := ⟨RX4, "isDigit", "(I)Z"⟩
def dkwX4_isDigit_0 : List UInt8 := [26, 16, 48, 161, 0, 13, 26, 16, 57, 163, 0, 7, 4, 167, 0, 4, 3, 172]
abbrev dktX4_isDigit_0 : List UInt8 := dkwX4_isDigit_0 ++ []
theorem dksX4_isDigit_0 : cX4_isDigit.data.toList.drop 0 = dktX4_isDigit_0 := by decide +kernel
theorem dX4_isDigit_0 : decode cX4_isDigit 0 = .ok (.iload_n 0, 1) := dk_26 (dk_at dksX4_isDigit_0 0 rfl rfl)
theorem dX4_isDigit_1 : decode cX4_isDigit 1 = .ok (.bipush 48, 2) := dk_16 48 (dk_at dksX4_isDigit_0 1 rfl rfl)
theorem dX4_isDigit_3 : decode cX4_isDigit 3 = .ok (.if_icmp .lt 13, 3) := dk_161 0 13 (dk_at dksX4_isDigit_0 3 rfl rfl)
theorem dX4_isDigit_6 : decode cX4_isDigit 6 = .ok (.iload_n 0, 1) := dk_26 (dk_at dksX4_isDigit_0 6 rfl rfl)
theorem dX4_isDigit_7 : decode cX4_isDigit 7 = .ok (.bipush 57, 2) := dk_16 57 (dk_at dksX4_isDigit_0 7 rfl rfl)
theorem dX4_isDigit_9 : decode cX4_isDigit 9 = .ok (.if_icmp .gt 7, 3) := dk_163 0 7 (dk_at dksX4_isDigit_0 9 rfl rfl)
theorem dX4_isDigit_12 : decode cX4_isDigit 12 = .ok (.iconst 1, 1) := dk_4 (dk_at dksX4_isDigit_0 12 rfl rfl)
theorem dX4_isDigit_13 : decode cX4_isDigit 13 = .ok (.goto 4, 3) := dk_167 0 4 (dk_at dksX4_isDigit_0 13 rfl rfl)
theorem dX4_isDigit_16 : decode cX4_isDigit 16 = .ok (.iconst 0, 1) := dk_3 (dk_at dksX4_isDigit_0 16 rfl rfl)
theorem dX4_isDigit_17 : decode cX4_isDigit 17 = .ok (.ireturn, 1) := dk_172 (dk_at dksX4_isDigit_0 17 rfl rfl)
abbrev cX4_readRow : ByteArray := prog_13_method_18_code
def yX4_readRow : MethodName := ⟨RX4, "readRow", "(I)V"⟩
def dkwX4_readRow_3 : List UInt8 := [132, 3, 1, 167, 255, 200, 42, 180, 0, 19, 27, 92, 46, 4, 96, 79, 177]
abbrev dktX4_readRow_3 : List UInt8 := dkwX4_readRow_3 ++ []
def dkwX4_readRow_2 : List UInt8 := [29, 96, 29, 42, 180, 0, 13, 27, 46, 162, 0, 12, 42, 16, 99, 182, 0, 139, 167, 0, 4, 2, 79]
abbrev dktX4_readRow_2 : List UInt8 := dkwX4_readRow_2 ++ dktX4_readRow_3
def dkwX4_readRow_1 : List UInt8 := [158, 0, 19, 29, 42, 180, 0, 13, 27, 46, 162, 0, 9, 42, 16, 44, 182, 0, 135, 42, 180, 0, 22, 28]
abbrev dktX4_readRow_1 : List UInt8 := dkwX4_readRow_1 ++ dktX4_readRow_2
def dkwX4_readRow_0 : List UInt8 := [6, 16, 12, 27, 104, 42, 180, 0, 19, 27, 46, 96, 104, 61, 3, 62, 29, 6, 162, 0, 57, 29]
abbrev dktX4_readRow_0 : List UInt8 := dkwX4_readRow_0 ++ dktX4_readRow_1
theorem dksX4_readRow_0 : cX4_readRow.data.toList.drop 0 = dktX4_readRow_0 := by decide +kernel
theorem dksX4_readRow_1 : cX4_readRow.data.toList.drop 22 = dktX4_readRow_1 := dk_seg dksX4_readRow_0 22 rfl rfl
theorem dksX4_readRow_2 : cX4_readRow.data.toList.drop 46 = dktX4_readRow_2 := dk_seg dksX4_readRow_1 24 rfl rfl
theorem dksX4_readRow_3 : cX4_readRow.data.toList.drop 69 = dktX4_readRow_3 := dk_seg dksX4_readRow_2 23 rfl rfl
theorem dX4_readRow_0 : decode cX4_readRow 0 = .ok (.iconst 3, 1) := dk_6 (dk_at dksX4_readRow_0 0 rfl rfl)
theorem dX4_readRow_1 : decode cX4_readRow 1 = .ok (.bipush 12, 2) := dk_16 12 (dk_at dksX4_readRow_0 1 rfl rfl)
theorem dX4_readRow_3 : decode cX4_readRow 3 = .ok (.iload_n 1, 1) := dk_27 (dk_at dksX4_readRow_0 3 rfl rfl)
theorem dX4_readRow_4 : decode cX4_readRow 4 = .ok (.imul, 1) := dk_104 (dk_at dksX4_readRow_0 4 rfl rfl)
theorem dX4_readRow_5 : decode cX4_readRow 5 = .ok (.aload_n 0, 1) := dk_42 (dk_at dksX4_readRow_0 5 rfl rfl)
theorem dX4_readRow_6 : decode cX4_readRow 6 = .ok (.getfield 19, 3) := dk_180 0 19 (dk_at dksX4_readRow_0 6 rfl rfl)
theorem dX4_readRow_9 : decode cX4_readRow 9 = .ok (.iload_n 1, 1) := dk_27 (dk_at dksX4_readRow_0 9 rfl rfl)
theorem dX4_readRow_10 : decode cX4_readRow 10 = .ok (.iaload, 1) := dk_46 (dk_at dksX4_readRow_0 10 rfl rfl)
theorem dX4_readRow_11 : decode cX4_readRow 11 = .ok (.iadd, 1) := dk_96 (dk_at dksX4_readRow_0 11 rfl rfl)
theorem dX4_readRow_12 : decode cX4_readRow 12 = .ok (.imul, 1) := dk_104 (dk_at dksX4_readRow_0 12 rfl rfl)
theorem dX4_readRow_13 : decode cX4_readRow 13 = .ok (.istore_n 2, 1) := dk_61 (dk_at dksX4_readRow_0 13 rfl rfl)
theorem dX4_readRow_14 : decode cX4_readRow 14 = .ok (.iconst 0, 1) := dk_3 (dk_at dksX4_readRow_0 14 rfl rfl)
theorem dX4_readRow_15 : decode cX4_readRow 15 = .ok (.istore_n 3, 1) := dk_62 (dk_at dksX4_readRow_0 15 rfl rfl)
theorem dX4_readRow_16 : decode cX4_readRow 16 = .ok (.iload_n 3, 1) := dk_29 (dk_at dksX4_readRow_0 16 rfl rfl)
theorem dX4_readRow_17 : decode cX4_readRow 17 = .ok (.iconst 3, 1) := dk_6 (dk_at dksX4_readRow_0 17 rfl rfl)
theorem dX4_readRow_18 : decode cX4_readRow 18 = .ok (.if_icmp .ge 57, 3) := dk_162 0 57 (dk_at dksX4_readRow_0 18 rfl rfl)
theorem dX4_readRow_21 : decode cX4_readRow 21 = .ok (.iload_n 3, 1) := dk_29 (dk_at dksX4_readRow_0 21 rfl rfl)
theorem dX4_readRow_22 : decode cX4_readRow 22 = .ok (.ifCond .le 19, 3) := dk_158 0 19 (dk_at dksX4_readRow_1 0 rfl rfl)
theorem dX4_readRow_25 : decode cX4_readRow 25 = .ok (.iload_n 3, 1) := dk_29 (dk_at dksX4_readRow_1 3 rfl rfl)
theorem dX4_readRow_26 : decode cX4_readRow 26 = .ok (.aload_n 0, 1) := dk_42 (dk_at dksX4_readRow_1 4 rfl rfl)
theorem dX4_readRow_27 : decode cX4_readRow 27 = .ok (.getfield 13, 3) := dk_180 0 13 (dk_at dksX4_readRow_1 5 rfl rfl)
theorem dX4_readRow_30 : decode cX4_readRow 30 = .ok (.iload_n 1, 1) := dk_27 (dk_at dksX4_readRow_1 8 rfl rfl)
theorem dX4_readRow_31 : decode cX4_readRow 31 = .ok (.iaload, 1) := dk_46 (dk_at dksX4_readRow_1 9 rfl rfl)
theorem dX4_readRow_32 : decode cX4_readRow 32 = .ok (.if_icmp .ge 9, 3) := dk_162 0 9 (dk_at dksX4_readRow_1 10 rfl rfl)
theorem dX4_readRow_35 : decode cX4_readRow 35 = .ok (.aload_n 0, 1) := dk_42 (dk_at dksX4_readRow_1 13 rfl rfl)
theorem dX4_readRow_36 : decode cX4_readRow 36 = .ok (.bipush 44, 2) := dk_16 44 (dk_at dksX4_readRow_1 14 rfl rfl)
theorem dX4_readRow_38 : decode cX4_readRow 38 = .ok (.invokevirtual 135, 3) := dk_182 0 135 (dk_at dksX4_readRow_1 16 rfl rfl)
theorem dX4_readRow_41 : decode cX4_readRow 41 = .ok (.aload_n 0, 1) := dk_42 (dk_at dksX4_readRow_1 19 rfl rfl)
theorem dX4_readRow_42 : decode cX4_readRow 42 = .ok (.getfield 22, 3) := dk_180 0 22 (dk_at dksX4_readRow_1 20 rfl rfl)
theorem dX4_readRow_45 : decode cX4_readRow 45 = .ok (.iload_n 2, 1) := dk_28 (dk_at dksX4_readRow_1 23 rfl rfl)
theorem dX4_readRow_46 : decode cX4_readRow 46 = .ok (.iload_n 3, 1) := dk_29 (dk_at dksX4_readRow_2 0 rfl rfl)
theorem dX4_readRow_47 : decode cX4_readRow 47 = .ok (.iadd, 1) := dk_96 (dk_at dksX4_readRow_2 1 rfl rfl)
theorem dX4_readRow_48 : decode cX4_readRow 48 = .ok (.iload_n 3, 1) := dk_29 (dk_at dksX4_readRow_2 2 rfl rfl)
theorem dX4_readRow_49 : decode cX4_readRow 49 = .ok (.aload_n 0, 1) := dk_42 (dk_at dksX4_readRow_2 3 rfl rfl)
theorem dX4_readRow_50 : decode cX4_readRow 50 = .ok (.getfield 13, 3) := dk_180 0 13 (dk_at dksX4_readRow_2 4 rfl rfl)
theorem dX4_readRow_53 : decode cX4_readRow 53 = .ok (.iload_n 1, 1) := dk_27 (dk_at dksX4_readRow_2 7 rfl rfl)
theorem dX4_readRow_54 : decode cX4_readRow 54 = .ok (.iaload, 1) := dk_46 (dk_at dksX4_readRow_2 8 rfl rfl)
theorem dX4_readRow_55 : decode cX4_readRow 55 = .ok (.if_icmp .ge 12, 3) := dk_162 0 12 (dk_at dksX4_readRow_2 9 rfl rfl)
theorem dX4_readRow_58 : decode cX4_readRow 58 = .ok (.aload_n 0, 1) := dk_42 (dk_at dksX4_readRow_2 12 rfl rfl)
theorem dX4_readRow_59 : decode cX4_readRow 59 = .ok (.bipush 99, 2) := dk_16 99 (dk_at dksX4_readRow_2 13 rfl rfl)
theorem dX4_readRow_61 : decode cX4_readRow 61 = .ok (.invokevirtual 139, 3) := dk_182 0 139 (dk_at dksX4_readRow_2 15 rfl rfl)
theorem dX4_readRow_64 : decode cX4_readRow 64 = .ok (.goto 4, 3) := dk_167 0 4 (dk_at dksX4_readRow_2 18 rfl rfl)
theorem dX4_readRow_67 : decode cX4_readRow 67 = .ok (.iconst (-1), 1) := dk_2 (dk_at dksX4_readRow_2 21 rfl rfl)
theorem dX4_readRow_68 : decode cX4_readRow 68 = .ok (.iastore, 1) := dk_79 (dk_at dksX4_readRow_2 22 rfl rfl)
theorem dX4_readRow_69 : decode cX4_readRow 69 = .ok (.iinc 3 1, 3) := dk_132 3 1 (dk_at dksX4_readRow_3 0 rfl rfl)
theorem dX4_readRow_72 : decode cX4_readRow 72 = .ok (.goto (-56), 3) := dk_167 255 200 (dk_at dksX4_readRow_3 3 rfl rfl)
theorem dX4_readRow_75 : decode cX4_readRow 75 = .ok (.aload_n 0, 1) := dk_42 (dk_at dksX4_readRow_3 6 rfl rfl)
theorem dX4_readRow_76 : decode cX4_readRow 76 = .ok (.getfield 19, 3) := dk_180 0 19 (dk_at dksX4_readRow_3 7 rfl rfl)
theorem dX4_readRow_79 : decode cX4_readRow 79 = .ok (.iload_n 1, 1) := dk_27 (dk_at dksX4_readRow_3 10 rfl rfl)
theorem dX4_readRow_80 : decode cX4_readRow 80 = .ok (.dup2, 1) := dk_92 (dk_at dksX4_readRow_3 11 rfl rfl)
theorem dX4_readRow_81 : decode cX4_readRow 81 = .ok (.iaload, 1) := dk_46 (dk_at dksX4_readRow_3 12 rfl rfl)
theorem dX4_readRow_82 : decode cX4_readRow 82 = .ok (.iconst 1, 1) := dk_4 (dk_at dksX4_readRow_3 13 rfl rfl)
theorem dX4_readRow_83 : decode cX4_readRow 83 = .ok (.iadd, 1) := dk_96 (dk_at dksX4_readRow_3 14 rfl rfl)
theorem dX4_readRow_84 : decode cX4_readRow 84 = .ok (.iastore, 1) := dk_79 (dk_at dksX4_readRow_3 15 rfl rfl)
theorem dX4_readRow_85 : decode cX4_readRow 85 = .ok (.return_, 1) := dk_177 (dk_at dksX4_readRow_3 16 rfl rfl)
abbrev cX4_number : ByteArray := prog_13_method_14_code
def yX4_number : MethodName := ⟨RX4, "number", "(I)I"⟩
def dkwX4_number_4 : List UInt8 := [180, 0, 108, 4, 100, 181, 0, 108, 42, 182, 0, 121, 28, 172]
abbrev dktX4_number_4 : List UInt8 := dkwX4_number_4 ++ []
def dkwX4_number_3 : List UInt8 := [42, 182, 0, 111, 184, 0, 124, 153, 0, 10, 42, 182, 0, 121, 167, 0, 22, 28, 27, 164, 0, 17, 42, 89]
abbrev dktX4_number_3 : List UInt8 := dkwX4_number_3 ++ dktX4_number_4
def dkwX4_number_2 : List UInt8 := [182, 0, 111, 96, 16, 48, 100, 61, 42, 89, 180, 0, 108, 4, 96, 181, 0, 108, 132, 3, 1, 167, 255, 215]
abbrev dktX4_number_2 : List UInt8 := dkwX4_number_2 ++ dktX4_number_3
def dkwX4_number_1 : List UInt8 := [3, 61, 3, 62, 29, 5, 162, 0, 42, 42, 182, 0, 111, 184, 0, 124, 153, 0, 32, 16, 10, 28, 104, 42]
abbrev dktX4_number_1 : List UInt8 := dkwX4_number_1 ++ dktX4_number_2
def dkwX4_number_0 : List UInt8 := [42, 180, 0, 115, 2, 160, 0, 13, 42, 182, 0, 118, 184, 0, 124, 154, 0, 9, 42, 182, 0, 121, 3, 172]
abbrev dktX4_number_0 : List UInt8 := dkwX4_number_0 ++ dktX4_number_1
theorem dksX4_number_0 : cX4_number.data.toList.drop 0 = dktX4_number_0 := by decide +kernel
theorem dksX4_number_1 : cX4_number.data.toList.drop 24 = dktX4_number_1 := dk_seg dksX4_number_0 24 rfl rfl
theorem dksX4_number_2 : cX4_number.data.toList.drop 48 = dktX4_number_2 := dk_seg dksX4_number_1 24 rfl rfl
theorem dksX4_number_3 : cX4_number.data.toList.drop 72 = dktX4_number_3 := dk_seg dksX4_number_2 24 rfl rfl
theorem dksX4_number_4 : cX4_number.data.toList.drop 96 = dktX4_number_4 := dk_seg dksX4_number_3 24 rfl rfl
theorem dX4_number_0 : decode cX4_number 0 = .ok (.aload_n 0, 1) := dk_42 (dk_at dksX4_number_0 0 rfl rfl)
theorem dX4_number_1 : decode cX4_number 1 = .ok (.getfield 115, 3) := dk_180 0 115 (dk_at dksX4_number_0 1 rfl rfl)
theorem dX4_number_4 : decode cX4_number 4 = .ok (.iconst (-1), 1) := dk_2 (dk_at dksX4_number_0 4 rfl rfl)
theorem dX4_number_5 : decode cX4_number 5 = .ok (.if_icmp .ne 13, 3) := dk_160 0 13 (dk_at dksX4_number_0 5 rfl rfl)
theorem dX4_number_8 : decode cX4_number 8 = .ok (.aload_n 0, 1) := dk_42 (dk_at dksX4_number_0 8 rfl rfl)
theorem dX4_number_9 : decode cX4_number 9 = .ok (.invokevirtual 118, 3) := dk_182 0 118 (dk_at dksX4_number_0 9 rfl rfl)
theorem dX4_number_12 : decode cX4_number 12 = .ok (.invokestatic 124, 3) := dk_184 0 124 (dk_at dksX4_number_0 12 rfl rfl)
theorem dX4_number_15 : decode cX4_number 15 = .ok (.ifCond .ne 9, 3) := dk_154 0 9 (dk_at dksX4_number_0 15 rfl rfl)
theorem dX4_number_18 : decode cX4_number 18 = .ok (.aload_n 0, 1) := dk_42 (dk_at dksX4_number_0 18 rfl rfl)
theorem dX4_number_19 : decode cX4_number 19 = .ok (.invokevirtual 121, 3) := dk_182 0 121 (dk_at dksX4_number_0 19 rfl rfl)
theorem dX4_number_22 : decode cX4_number 22 = .ok (.iconst 0, 1) := dk_3 (dk_at dksX4_number_0 22 rfl rfl)
theorem dX4_number_23 : decode cX4_number 23 = .ok (.ireturn, 1) := dk_172 (dk_at dksX4_number_0 23 rfl rfl)
theorem dX4_number_24 : decode cX4_number 24 = .ok (.iconst 0, 1) := dk_3 (dk_at dksX4_number_1 0 rfl rfl)
theorem dX4_number_25 : decode cX4_number 25 = .ok (.istore_n 2, 1) := dk_61 (dk_at dksX4_number_1 1 rfl rfl)
theorem dX4_number_26 : decode cX4_number 26 = .ok (.iconst 0, 1) := dk_3 (dk_at dksX4_number_1 2 rfl rfl)
theorem dX4_number_27 : decode cX4_number 27 = .ok (.istore_n 3, 1) := dk_62 (dk_at dksX4_number_1 3 rfl rfl)
theorem dX4_number_28 : decode cX4_number 28 = .ok (.iload_n 3, 1) := dk_29 (dk_at dksX4_number_1 4 rfl rfl)
theorem dX4_number_29 : decode cX4_number 29 = .ok (.iconst 2, 1) := dk_5 (dk_at dksX4_number_1 5 rfl rfl)
theorem dX4_number_30 : decode cX4_number 30 = .ok (.if_icmp .ge 42, 3) := dk_162 0 42 (dk_at dksX4_number_1 6 rfl rfl)
theorem dX4_number_33 : decode cX4_number 33 = .ok (.aload_n 0, 1) := dk_42 (dk_at dksX4_number_1 9 rfl rfl)
theorem dX4_number_34 : decode cX4_number 34 = .ok (.invokevirtual 111, 3) := dk_182 0 111 (dk_at dksX4_number_1 10 rfl rfl)
theorem dX4_number_37 : decode cX4_number 37 = .ok (.invokestatic 124, 3) := dk_184 0 124 (dk_at dksX4_number_1 13 rfl rfl)
theorem dX4_number_40 : decode cX4_number 40 = .ok (.ifCond .eq 32, 3) := dk_153 0 32 (dk_at dksX4_number_1 16 rfl rfl)
theorem dX4_number_43 : decode cX4_number 43 = .ok (.bipush 10, 2) := dk_16 10 (dk_at dksX4_number_1 19 rfl rfl)
theorem dX4_number_45 : decode cX4_number 45 = .ok (.iload_n 2, 1) := dk_28 (dk_at dksX4_number_1 21 rfl rfl)
theorem dX4_number_46 : decode cX4_number 46 = .ok (.imul, 1) := dk_104 (dk_at dksX4_number_1 22 rfl rfl)
theorem dX4_number_47 : decode cX4_number 47 = .ok (.aload_n 0, 1) := dk_42 (dk_at dksX4_number_1 23 rfl rfl)
theorem dX4_number_48 : decode cX4_number 48 = .ok (.invokevirtual 111, 3) := dk_182 0 111 (dk_at dksX4_number_2 0 rfl rfl)
theorem dX4_number_51 : decode cX4_number 51 = .ok (.iadd, 1) := dk_96 (dk_at dksX4_number_2 3 rfl rfl)
theorem dX4_number_52 : decode cX4_number 52 = .ok (.bipush 48, 2) := dk_16 48 (dk_at dksX4_number_2 4 rfl rfl)
theorem dX4_number_54 : decode cX4_number 54 = .ok (.isub, 1) := dk_100 (dk_at dksX4_number_2 6 rfl rfl)
theorem dX4_number_55 : decode cX4_number 55 = .ok (.istore_n 2, 1) := dk_61 (dk_at dksX4_number_2 7 rfl rfl)
theorem dX4_number_56 : decode cX4_number 56 = .ok (.aload_n 0, 1) := dk_42 (dk_at dksX4_number_2 8 rfl rfl)
theorem dX4_number_57 : decode cX4_number 57 = .ok (.dup, 1) := dk_89 (dk_at dksX4_number_2 9 rfl rfl)
theorem dX4_number_58 : decode cX4_number 58 = .ok (.getfield 108, 3) := dk_180 0 108 (dk_at dksX4_number_2 10 rfl rfl)
theorem dX4_number_61 : decode cX4_number 61 = .ok (.iconst 1, 1) := dk_4 (dk_at dksX4_number_2 13 rfl rfl)
theorem dX4_number_62 : decode cX4_number 62 = .ok (.iadd, 1) := dk_96 (dk_at dksX4_number_2 14 rfl rfl)
theorem dX4_number_63 : decode cX4_number 63 = .ok (.putfield 108, 3) := dk_181 0 108 (dk_at dksX4_number_2 15 rfl rfl)
theorem dX4_number_66 : decode cX4_number 66 = .ok (.iinc 3 1, 3) := dk_132 3 1 (dk_at dksX4_number_2 18 rfl rfl)
theorem dX4_number_69 : decode cX4_number 69 = .ok (.goto (-41), 3) := dk_167 255 215 (dk_at dksX4_number_2 21 rfl rfl)
theorem dX4_number_72 : decode cX4_number 72 = .ok (.aload_n 0, 1) := dk_42 (dk_at dksX4_number_3 0 rfl rfl)
theorem dX4_number_73 : decode cX4_number 73 = .ok (.invokevirtual 111, 3) := dk_182 0 111 (dk_at dksX4_number_3 1 rfl rfl)
theorem dX4_number_76 : decode cX4_number 76 = .ok (.invokestatic 124, 3) := dk_184 0 124 (dk_at dksX4_number_3 4 rfl rfl)
theorem dX4_number_79 : decode cX4_number 79 = .ok (.ifCond .eq 10, 3) := dk_153 0 10 (dk_at dksX4_number_3 7 rfl rfl)
theorem dX4_number_82 : decode cX4_number 82 = .ok (.aload_n 0, 1) := dk_42 (dk_at dksX4_number_3 10 rfl rfl)
theorem dX4_number_83 : decode cX4_number 83 = .ok (.invokevirtual 121, 3) := dk_182 0 121 (dk_at dksX4_number_3 11 rfl rfl)
theorem dX4_number_86 : decode cX4_number 86 = .ok (.goto 22, 3) := dk_167 0 22 (dk_at dksX4_number_3 14 rfl rfl)
theorem dX4_number_89 : decode cX4_number 89 = .ok (.iload_n 2, 1) := dk_28 (dk_at dksX4_number_3 17 rfl rfl)
theorem dX4_number_90 : decode cX4_number 90 = .ok (.iload_n 1, 1) := dk_27 (dk_at dksX4_number_3 18 rfl rfl)
theorem dX4_number_91 : decode cX4_number 91 = .ok (.if_icmp .le 17, 3) := dk_164 0 17 (dk_at dksX4_number_3 19 rfl rfl)
theorem dX4_number_94 : decode cX4_number 94 = .ok (.aload_n 0, 1) := dk_42 (dk_at dksX4_number_3 22 rfl rfl)
theorem dX4_number_95 : decode cX4_number 95 = .ok (.dup, 1) := dk_89 (dk_at dksX4_number_3 23 rfl rfl)
theorem dX4_number_96 : decode cX4_number 96 = .ok (.getfield 108, 3) := dk_180 0 108 (dk_at dksX4_number_4 0 rfl rfl)
theorem dX4_number_99 : decode cX4_number 99 = .ok (.iconst 1, 1) := dk_4 (dk_at dksX4_number_4 3 rfl rfl)
theorem dX4_number_100 : decode cX4_number 100 = .ok (.isub, 1) := dk_100 (dk_at dksX4_number_4 4 rfl rfl)
theorem dX4_number_101 : decode cX4_number 101 = .ok (.putfield 108, 3) := dk_181 0 108 (dk_at dksX4_number_4 5 rfl rfl)
theorem dX4_number_104 : decode cX4_number 104 = .ok (.aload_n 0, 1) := dk_42 (dk_at dksX4_number_4 8 rfl rfl)
theorem dX4_number_105 : decode cX4_number 105 = .ok (.invokevirtual 121, 3) := dk_182 0 121 (dk_at dksX4_number_4 9 rfl rfl)
theorem dX4_number_108 : decode cX4_number 108 = .ok (.iload_n 2, 1) := dk_28 (dk_at dksX4_number_4 12 rfl rfl)
theorem dX4_number_109 : decode cX4_number 109 = .ok (.ireturn, 1) := dk_172 (dk_at dksX4_number_4 13 rfl rfl)
abbrev cX4_ends : ByteArray := prog_13_method_20_code
def yX4_ends : MethodName := ⟨RX4, "ends", "()I"⟩
def dkwX4_ends_1 : List UInt8 := [172]
abbrev dktX4_ends_1 : List UInt8 := dkwX4_ends_1 ++ []
def dkwX4_ends_0 : List UInt8 := [42, 180, 0, 115, 2, 160, 0, 15, 42, 182, 0, 118, 2, 159, 0, 7, 42, 182, 0, 121, 42, 180, 0, 115]
abbrev dktX4_ends_0 : List UInt8 := dkwX4_ends_0 ++ dktX4_ends_1
theorem dksX4_ends_0 : cX4_ends.data.toList.drop 0 = dktX4_ends_0 := by decide +kernel
theorem dksX4_ends_1 : cX4_ends.data.toList.drop 24 = dktX4_ends_1 := dk_seg dksX4_ends_0 24 rfl rfl
theorem dX4_ends_0 : decode cX4_ends 0 = .ok (.aload_n 0, 1) := dk_42 (dk_at dksX4_ends_0 0 rfl rfl)
theorem dX4_ends_1 : decode cX4_ends 1 = .ok (.getfield 115, 3) := dk_180 0 115 (dk_at dksX4_ends_0 1 rfl rfl)
theorem dX4_ends_4 : decode cX4_ends 4 = .ok (.iconst (-1), 1) := dk_2 (dk_at dksX4_ends_0 4 rfl rfl)
theorem dX4_ends_5 : decode cX4_ends 5 = .ok (.if_icmp .ne 15, 3) := dk_160 0 15 (dk_at dksX4_ends_0 5 rfl rfl)
theorem dX4_ends_8 : decode cX4_ends 8 = .ok (.aload_n 0, 1) := dk_42 (dk_at dksX4_ends_0 8 rfl rfl)
theorem dX4_ends_9 : decode cX4_ends 9 = .ok (.invokevirtual 118, 3) := dk_182 0 118 (dk_at dksX4_ends_0 9 rfl rfl)
theorem dX4_ends_12 : decode cX4_ends 12 = .ok (.iconst (-1), 1) := dk_2 (dk_at dksX4_ends_0 12 rfl rfl)
theorem dX4_ends_13 : decode cX4_ends 13 = .ok (.if_icmp .eq 7, 3) := dk_159 0 7 (dk_at dksX4_ends_0 13 rfl rfl)
theorem dX4_ends_16 : decode cX4_ends 16 = .ok (.aload_n 0, 1) := dk_42 (dk_at dksX4_ends_0 16 rfl rfl)
theorem dX4_ends_17 : decode cX4_ends 17 = .ok (.invokevirtual 121, 3) := dk_182 0 121 (dk_at dksX4_ends_0 17 rfl rfl)
theorem dX4_ends_20 : decode cX4_ends 20 = .ok (.aload_n 0, 1) := dk_42 (dk_at dksX4_ends_0 20 rfl rfl)
theorem dX4_ends_21 : decode cX4_ends 21 = .ok (.getfield 115, 3) := dk_180 0 115 (dk_at dksX4_ends_0 21 rfl rfl)
theorem dX4_ends_24 : decode cX4_ends 24 = .ok (.ireturn, 1) := dk_172 (dk_at dksX4_ends_1 0 rfl rfl)
abbrev cX4_readScript : ByteArray := prog_13_method_24_code
def yX4_readScript : MethodName := ⟨RX4, "readScript", "(I)I"⟩
def dkwX4_readScript_4 : List UInt8 := [167, 255, 173, 42, 182, 0, 158, 172]
abbrev dktX4_readScript_4 : List UInt8 := dkwX4_readScript_4 ++ []
def dkwX4_readScript_3 : List UInt8 := [4, 167, 0, 4, 3, 61, 42, 89, 180, 0, 108, 28, 153, 0, 7, 4, 167, 0, 4, 3, 96, 181, 0, 108]
abbrev dktX4_readScript_3 : List UInt8 := dkwX4_readScript_3 ++ dktX4_readScript_4
def dkwX4_readScript_2 : List UInt8 := [2, 160, 0, 27, 42, 182, 0, 118, 16, 59, 160, 0, 18, 42, 180, 0, 28, 27, 46, 16, 12, 162, 0, 7]
abbrev dktX4_readScript_2 : List UInt8 := dkwX4_readScript_2 ++ dktX4_readScript_3
def dkwX4_readScript_1 : List UInt8 := [180, 0, 28, 27, 46, 96, 104, 182, 0, 164, 42, 180, 0, 28, 27, 92, 46, 4, 96, 79, 42, 180, 0, 115]
abbrev dktX4_readScript_1 : List UInt8 := dkwX4_readScript_1 ++ dktX4_readScript_2
def dkwX4_readScript_0 : List UInt8 := [42, 182, 0, 149, 42, 180, 0, 28, 27, 3, 79, 4, 61, 28, 153, 0, 85, 42, 8, 16, 12, 27, 104, 42]
abbrev dktX4_readScript_0 : List UInt8 := dkwX4_readScript_0 ++ dktX4_readScript_1
theorem dksX4_readScript_0 : cX4_readScript.data.toList.drop 0 = dktX4_readScript_0 := by decide +kernel
theorem dksX4_readScript_1 : cX4_readScript.data.toList.drop 24 = dktX4_readScript_1 := dk_seg dksX4_readScript_0 24 rfl rfl
theorem dksX4_readScript_2 : cX4_readScript.data.toList.drop 48 = dktX4_readScript_2 := dk_seg dksX4_readScript_1 24 rfl rfl
theorem dksX4_readScript_3 : cX4_readScript.data.toList.drop 72 = dktX4_readScript_3 := dk_seg dksX4_readScript_2 24 rfl rfl
theorem dksX4_readScript_4 : cX4_readScript.data.toList.drop 96 = dktX4_readScript_4 := dk_seg dksX4_readScript_3 24 rfl rfl
theorem dX4_readScript_0 : decode cX4_readScript 0 = .ok (.aload_n 0, 1) := dk_42 (dk_at dksX4_readScript_0 0 rfl rfl)
theorem dX4_readScript_1 : decode cX4_readScript 1 = .ok (.invokevirtual 149, 3) := dk_182 0 149 (dk_at dksX4_readScript_0 1 rfl rfl)
theorem dX4_readScript_4 : decode cX4_readScript 4 = .ok (.aload_n 0, 1) := dk_42 (dk_at dksX4_readScript_0 4 rfl rfl)
theorem dX4_readScript_5 : decode cX4_readScript 5 = .ok (.getfield 28, 3) := dk_180 0 28 (dk_at dksX4_readScript_0 5 rfl rfl)
theorem dX4_readScript_8 : decode cX4_readScript 8 = .ok (.iload_n 1, 1) := dk_27 (dk_at dksX4_readScript_0 8 rfl rfl)
theorem dX4_readScript_9 : decode cX4_readScript 9 = .ok (.iconst 0, 1) := dk_3 (dk_at dksX4_readScript_0 9 rfl rfl)
theorem dX4_readScript_10 : decode cX4_readScript 10 = .ok (.iastore, 1) := dk_79 (dk_at dksX4_readScript_0 10 rfl rfl)
theorem dX4_readScript_11 : decode cX4_readScript 11 = .ok (.iconst 1, 1) := dk_4 (dk_at dksX4_readScript_0 11 rfl rfl)
theorem dX4_readScript_12 : decode cX4_readScript 12 = .ok (.istore_n 2, 1) := dk_61 (dk_at dksX4_readScript_0 12 rfl rfl)
theorem dX4_readScript_13 : decode cX4_readScript 13 = .ok (.iload_n 2, 1) := dk_28 (dk_at dksX4_readScript_0 13 rfl rfl)
theorem dX4_readScript_14 : decode cX4_readScript 14 = .ok (.ifCond .eq 85, 3) := dk_153 0 85 (dk_at dksX4_readScript_0 14 rfl rfl)
theorem dX4_readScript_17 : decode cX4_readScript 17 = .ok (.aload_n 0, 1) := dk_42 (dk_at dksX4_readScript_0 17 rfl rfl)
theorem dX4_readScript_18 : decode cX4_readScript 18 = .ok (.iconst 5, 1) := dk_8 (dk_at dksX4_readScript_0 18 rfl rfl)
theorem dX4_readScript_19 : decode cX4_readScript 19 = .ok (.bipush 12, 2) := dk_16 12 (dk_at dksX4_readScript_0 19 rfl rfl)
theorem dX4_readScript_21 : decode cX4_readScript 21 = .ok (.iload_n 1, 1) := dk_27 (dk_at dksX4_readScript_0 21 rfl rfl)
theorem dX4_readScript_22 : decode cX4_readScript 22 = .ok (.imul, 1) := dk_104 (dk_at dksX4_readScript_0 22 rfl rfl)
theorem dX4_readScript_23 : decode cX4_readScript 23 = .ok (.aload_n 0, 1) := dk_42 (dk_at dksX4_readScript_0 23 rfl rfl)
theorem dX4_readScript_24 : decode cX4_readScript 24 = .ok (.getfield 28, 3) := dk_180 0 28 (dk_at dksX4_readScript_1 0 rfl rfl)
theorem dX4_readScript_27 : decode cX4_readScript 27 = .ok (.iload_n 1, 1) := dk_27 (dk_at dksX4_readScript_1 3 rfl rfl)
theorem dX4_readScript_28 : decode cX4_readScript 28 = .ok (.iaload, 1) := dk_46 (dk_at dksX4_readScript_1 4 rfl rfl)
theorem dX4_readScript_29 : decode cX4_readScript 29 = .ok (.iadd, 1) := dk_96 (dk_at dksX4_readScript_1 5 rfl rfl)
theorem dX4_readScript_30 : decode cX4_readScript 30 = .ok (.imul, 1) := dk_104 (dk_at dksX4_readScript_1 6 rfl rfl)
theorem dX4_readScript_31 : decode cX4_readScript 31 = .ok (.invokevirtual 164, 3) := dk_182 0 164 (dk_at dksX4_readScript_1 7 rfl rfl)
theorem dX4_readScript_34 : decode cX4_readScript 34 = .ok (.aload_n 0, 1) := dk_42 (dk_at dksX4_readScript_1 10 rfl rfl)
theorem dX4_readScript_35 : decode cX4_readScript 35 = .ok (.getfield 28, 3) := dk_180 0 28 (dk_at dksX4_readScript_1 11 rfl rfl)
theorem dX4_readScript_38 : decode cX4_readScript 38 = .ok (.iload_n 1, 1) := dk_27 (dk_at dksX4_readScript_1 14 rfl rfl)
theorem dX4_readScript_39 : decode cX4_readScript 39 = .ok (.dup2, 1) := dk_92 (dk_at dksX4_readScript_1 15 rfl rfl)
theorem dX4_readScript_40 : decode cX4_readScript 40 = .ok (.iaload, 1) := dk_46 (dk_at dksX4_readScript_1 16 rfl rfl)
theorem dX4_readScript_41 : decode cX4_readScript 41 = .ok (.iconst 1, 1) := dk_4 (dk_at dksX4_readScript_1 17 rfl rfl)
theorem dX4_readScript_42 : decode cX4_readScript 42 = .ok (.iadd, 1) := dk_96 (dk_at dksX4_readScript_1 18 rfl rfl)
theorem dX4_readScript_43 : decode cX4_readScript 43 = .ok (.iastore, 1) := dk_79 (dk_at dksX4_readScript_1 19 rfl rfl)
theorem dX4_readScript_44 : decode cX4_readScript 44 = .ok (.aload_n 0, 1) := dk_42 (dk_at dksX4_readScript_1 20 rfl rfl)
theorem dX4_readScript_45 : decode cX4_readScript 45 = .ok (.getfield 115, 3) := dk_180 0 115 (dk_at dksX4_readScript_1 21 rfl rfl)
theorem dX4_readScript_48 : decode cX4_readScript 48 = .ok (.iconst (-1), 1) := dk_2 (dk_at dksX4_readScript_2 0 rfl rfl)
theorem dX4_readScript_49 : decode cX4_readScript 49 = .ok (.if_icmp .ne 27, 3) := dk_160 0 27 (dk_at dksX4_readScript_2 1 rfl rfl)
theorem dX4_readScript_52 : decode cX4_readScript 52 = .ok (.aload_n 0, 1) := dk_42 (dk_at dksX4_readScript_2 4 rfl rfl)
theorem dX4_readScript_53 : decode cX4_readScript 53 = .ok (.invokevirtual 118, 3) := dk_182 0 118 (dk_at dksX4_readScript_2 5 rfl rfl)
theorem dX4_readScript_56 : decode cX4_readScript 56 = .ok (.bipush 59, 2) := dk_16 59 (dk_at dksX4_readScript_2 8 rfl rfl)
theorem dX4_readScript_58 : decode cX4_readScript 58 = .ok (.if_icmp .ne 18, 3) := dk_160 0 18 (dk_at dksX4_readScript_2 10 rfl rfl)
theorem dX4_readScript_61 : decode cX4_readScript 61 = .ok (.aload_n 0, 1) := dk_42 (dk_at dksX4_readScript_2 13 rfl rfl)
theorem dX4_readScript_62 : decode cX4_readScript 62 = .ok (.getfield 28, 3) := dk_180 0 28 (dk_at dksX4_readScript_2 14 rfl rfl)
theorem dX4_readScript_65 : decode cX4_readScript 65 = .ok (.iload_n 1, 1) := dk_27 (dk_at dksX4_readScript_2 17 rfl rfl)
theorem dX4_readScript_66 : decode cX4_readScript 66 = .ok (.iaload, 1) := dk_46 (dk_at dksX4_readScript_2 18 rfl rfl)
theorem dX4_readScript_67 : decode cX4_readScript 67 = .ok (.bipush 12, 2) := dk_16 12 (dk_at dksX4_readScript_2 19 rfl rfl)
theorem dX4_readScript_69 : decode cX4_readScript 69 = .ok (.if_icmp .ge 7, 3) := dk_162 0 7 (dk_at dksX4_readScript_2 21 rfl rfl)
theorem dX4_readScript_72 : decode cX4_readScript 72 = .ok (.iconst 1, 1) := dk_4 (dk_at dksX4_readScript_3 0 rfl rfl)
theorem dX4_readScript_73 : decode cX4_readScript 73 = .ok (.goto 4, 3) := dk_167 0 4 (dk_at dksX4_readScript_3 1 rfl rfl)
theorem dX4_readScript_76 : decode cX4_readScript 76 = .ok (.iconst 0, 1) := dk_3 (dk_at dksX4_readScript_3 4 rfl rfl)
theorem dX4_readScript_77 : decode cX4_readScript 77 = .ok (.istore_n 2, 1) := dk_61 (dk_at dksX4_readScript_3 5 rfl rfl)
theorem dX4_readScript_78 : decode cX4_readScript 78 = .ok (.aload_n 0, 1) := dk_42 (dk_at dksX4_readScript_3 6 rfl rfl)
theorem dX4_readScript_79 : decode cX4_readScript 79 = .ok (.dup, 1) := dk_89 (dk_at dksX4_readScript_3 7 rfl rfl)
theorem dX4_readScript_80 : decode cX4_readScript 80 = .ok (.getfield 108, 3) := dk_180 0 108 (dk_at dksX4_readScript_3 8 rfl rfl)
theorem dX4_readScript_83 : decode cX4_readScript 83 = .ok (.iload_n 2, 1) := dk_28 (dk_at dksX4_readScript_3 11 rfl rfl)
theorem dX4_readScript_84 : decode cX4_readScript 84 = .ok (.ifCond .eq 7, 3) := dk_153 0 7 (dk_at dksX4_readScript_3 12 rfl rfl)
theorem dX4_readScript_87 : decode cX4_readScript 87 = .ok (.iconst 1, 1) := dk_4 (dk_at dksX4_readScript_3 15 rfl rfl)
theorem dX4_readScript_88 : decode cX4_readScript 88 = .ok (.goto 4, 3) := dk_167 0 4 (dk_at dksX4_readScript_3 16 rfl rfl)
theorem dX4_readScript_91 : decode cX4_readScript 91 = .ok (.iconst 0, 1) := dk_3 (dk_at dksX4_readScript_3 19 rfl rfl)
theorem dX4_readScript_92 : decode cX4_readScript 92 = .ok (.iadd, 1) := dk_96 (dk_at dksX4_readScript_3 20 rfl rfl)
theorem dX4_readScript_93 : decode cX4_readScript 93 = .ok (.putfield 108, 3) := dk_181 0 108 (dk_at dksX4_readScript_3 21 rfl rfl)
theorem dX4_readScript_96 : decode cX4_readScript 96 = .ok (.goto (-83), 3) := dk_167 255 173 (dk_at dksX4_readScript_4 0 rfl rfl)
theorem dX4_readScript_99 : decode cX4_readScript 99 = .ok (.aload_n 0, 1) := dk_42 (dk_at dksX4_readScript_4 3 rfl rfl)
theorem dX4_readScript_100 : decode cX4_readScript 100 = .ok (.invokevirtual 158, 3) := dk_182 0 158 (dk_at dksX4_readScript_4 4 rfl rfl)
theorem dX4_readScript_103 : decode cX4_readScript 103 = .ok (.ireturn, 1) := dk_172 (dk_at dksX4_readScript_4 7 rfl rfl)
abbrev cX4_readStep : ByteArray := prog_13_method_23_code
def yX4_readStep : MethodName := ⟨RX4, "readStep", "(I)V"⟩
def dkwX4_readStep_10 : List UInt8 := [181, 0, 108, 132, 5, 1, 167, 255, 176, 177]
abbrev dktX4_readStep_10 : List UInt8 := dkwX4_readStep_10 ++ []
def dkwX4_readStep_9 : List UInt8 := [167, 0, 4, 3, 54, 4, 42, 89, 180, 0, 108, 21, 4, 153, 0, 7, 4, 167, 0, 4, 3, 96]
abbrev dktX4_readStep_9 : List UInt8 := dkwX4_readStep_9 ++ dktX4_readStep_10
def dkwX4_readStep_8 : List UInt8 := [180, 0, 115, 2, 160, 0, 22, 21, 5, 5, 162, 0, 16, 42, 182, 0, 118, 16, 44, 160, 0, 7, 4]
abbrev dktX4_readStep_8 : List UInt8 := dkwX4_readStep_8 ++ dktX4_readStep_9
def dkwX4_readStep_7 : List UInt8 := [21, 4, 153, 0, 75, 42, 180, 0, 25, 27, 5, 96, 21, 5, 96, 42, 16, 99, 182, 0, 139, 79, 42]
abbrev dktX4_readStep_7 : List UInt8 := dkwX4_readStep_7 ++ dktX4_readStep_8
def dkwX4_readStep_6 : List UInt8 := [180, 0, 115, 2, 160, 0, 7, 4, 167, 0, 4, 3, 54, 4, 3, 54, 5, 21, 5, 6, 162, 0, 80]
abbrev dktX4_readStep_6 : List UInt8 := dkwX4_readStep_6 ++ dktX4_readStep_7
def dkwX4_readStep_5 : List UInt8 := [21, 4, 96, 2, 79, 132, 4, 1, 167, 255, 235, 29, 4, 164, 0, 4, 177, 42, 16, 58, 182, 0, 135, 42]
abbrev dktX4_readStep_5 : List UInt8 := dkwX4_readStep_5 ++ dktX4_readStep_6
def dkwX4_readStep_4 : List UInt8 := [167, 0, 7, 42, 182, 0, 161, 79, 3, 54, 4, 21, 4, 6, 162, 0, 21, 42, 180, 0, 25, 27, 5, 96]
abbrev dktX4_readStep_4 : List UInt8 := dkwX4_readStep_4 ++ dktX4_readStep_5
def dkwX4_readStep_3 : List UInt8 := [180, 0, 25, 27, 29, 79, 42, 180, 0, 25, 27, 4, 96, 29, 6, 160, 0, 12, 42, 16, 23, 182, 0, 139]
abbrev dktX4_readStep_3 : List UInt8 := dkwX4_readStep_3 ++ dktX4_readStep_4
def dkwX4_readStep_2 : List UInt8 := [62, 29, 2, 160, 0, 8, 42, 182, 0, 121, 177, 42, 89, 180, 0, 108, 4, 96, 181, 0, 108, 42]
abbrev dktX4_readStep_2 : List UInt8 := dkwX4_readStep_2 ++ dktX4_readStep_3
def dkwX4_readStep_1 : List UInt8 := [167, 0, 24, 28, 16, 117, 160, 0, 7, 5, 167, 0, 14, 28, 16, 111, 160, 0, 7, 6, 167, 0, 4, 2]
abbrev dktX4_readStep_1 : List UInt8 := dkwX4_readStep_1 ++ dktX4_readStep_2
def dkwX4_readStep_0 : List UInt8 := [42, 182, 0, 118, 61, 28, 16, 112, 160, 0, 7, 3, 167, 0, 34, 28, 16, 116, 160, 0, 7, 4]
abbrev dktX4_readStep_0 : List UInt8 := dkwX4_readStep_0 ++ dktX4_readStep_1
theorem dksX4_readStep_0 : cX4_readStep.data.toList.drop 0 = dktX4_readStep_0 := by decide +kernel
theorem dksX4_readStep_1 : cX4_readStep.data.toList.drop 22 = dktX4_readStep_1 := dk_seg dksX4_readStep_0 22 rfl rfl
theorem dksX4_readStep_2 : cX4_readStep.data.toList.drop 46 = dktX4_readStep_2 := dk_seg dksX4_readStep_1 24 rfl rfl
theorem dksX4_readStep_3 : cX4_readStep.data.toList.drop 68 = dktX4_readStep_3 := dk_seg dksX4_readStep_2 22 rfl rfl
theorem dksX4_readStep_4 : cX4_readStep.data.toList.drop 92 = dktX4_readStep_4 := dk_seg dksX4_readStep_3 24 rfl rfl
theorem dksX4_readStep_5 : cX4_readStep.data.toList.drop 116 = dktX4_readStep_5 := dk_seg dksX4_readStep_4 24 rfl rfl
theorem dksX4_readStep_6 : cX4_readStep.data.toList.drop 140 = dktX4_readStep_6 := dk_seg dksX4_readStep_5 24 rfl rfl
theorem dksX4_readStep_7 : cX4_readStep.data.toList.drop 163 = dktX4_readStep_7 := dk_seg dksX4_readStep_6 23 rfl rfl
theorem dksX4_readStep_8 : cX4_readStep.data.toList.drop 186 = dktX4_readStep_8 := dk_seg dksX4_readStep_7 23 rfl rfl
theorem dksX4_readStep_9 : cX4_readStep.data.toList.drop 209 = dktX4_readStep_9 := dk_seg dksX4_readStep_8 23 rfl rfl
theorem dksX4_readStep_10 : cX4_readStep.data.toList.drop 231 = dktX4_readStep_10 := dk_seg dksX4_readStep_9 22 rfl rfl
theorem dX4_readStep_0 : decode cX4_readStep 0 = .ok (.aload_n 0, 1) := dk_42 (dk_at dksX4_readStep_0 0 rfl rfl)
theorem dX4_readStep_1 : decode cX4_readStep 1 = .ok (.invokevirtual 118, 3) := dk_182 0 118 (dk_at dksX4_readStep_0 1 rfl rfl)
theorem dX4_readStep_4 : decode cX4_readStep 4 = .ok (.istore_n 2, 1) := dk_61 (dk_at dksX4_readStep_0 4 rfl rfl)
theorem dX4_readStep_5 : decode cX4_readStep 5 = .ok (.iload_n 2, 1) := dk_28 (dk_at dksX4_readStep_0 5 rfl rfl)
theorem dX4_readStep_6 : decode cX4_readStep 6 = .ok (.bipush 112, 2) := dk_16 112 (dk_at dksX4_readStep_0 6 rfl rfl)
theorem dX4_readStep_8 : decode cX4_readStep 8 = .ok (.if_icmp .ne 7, 3) := dk_160 0 7 (dk_at dksX4_readStep_0 8 rfl rfl)
theorem dX4_readStep_11 : decode cX4_readStep 11 = .ok (.iconst 0, 1) := dk_3 (dk_at dksX4_readStep_0 11 rfl rfl)
theorem dX4_readStep_12 : decode cX4_readStep 12 = .ok (.goto 34, 3) := dk_167 0 34 (dk_at dksX4_readStep_0 12 rfl rfl)
theorem dX4_readStep_15 : decode cX4_readStep 15 = .ok (.iload_n 2, 1) := dk_28 (dk_at dksX4_readStep_0 15 rfl rfl)
theorem dX4_readStep_16 : decode cX4_readStep 16 = .ok (.bipush 116, 2) := dk_16 116 (dk_at dksX4_readStep_0 16 rfl rfl)
theorem dX4_readStep_18 : decode cX4_readStep 18 = .ok (.if_icmp .ne 7, 3) := dk_160 0 7 (dk_at dksX4_readStep_0 18 rfl rfl)
theorem dX4_readStep_21 : decode cX4_readStep 21 = .ok (.iconst 1, 1) := dk_4 (dk_at dksX4_readStep_0 21 rfl rfl)
theorem dX4_readStep_22 : decode cX4_readStep 22 = .ok (.goto 24, 3) := dk_167 0 24 (dk_at dksX4_readStep_1 0 rfl rfl)
theorem dX4_readStep_25 : decode cX4_readStep 25 = .ok (.iload_n 2, 1) := dk_28 (dk_at dksX4_readStep_1 3 rfl rfl)
theorem dX4_readStep_26 : decode cX4_readStep 26 = .ok (.bipush 117, 2) := dk_16 117 (dk_at dksX4_readStep_1 4 rfl rfl)
theorem dX4_readStep_28 : decode cX4_readStep 28 = .ok (.if_icmp .ne 7, 3) := dk_160 0 7 (dk_at dksX4_readStep_1 6 rfl rfl)
theorem dX4_readStep_31 : decode cX4_readStep 31 = .ok (.iconst 2, 1) := dk_5 (dk_at dksX4_readStep_1 9 rfl rfl)
theorem dX4_readStep_32 : decode cX4_readStep 32 = .ok (.goto 14, 3) := dk_167 0 14 (dk_at dksX4_readStep_1 10 rfl rfl)
theorem dX4_readStep_35 : decode cX4_readStep 35 = .ok (.iload_n 2, 1) := dk_28 (dk_at dksX4_readStep_1 13 rfl rfl)
theorem dX4_readStep_36 : decode cX4_readStep 36 = .ok (.bipush 111, 2) := dk_16 111 (dk_at dksX4_readStep_1 14 rfl rfl)
theorem dX4_readStep_38 : decode cX4_readStep 38 = .ok (.if_icmp .ne 7, 3) := dk_160 0 7 (dk_at dksX4_readStep_1 16 rfl rfl)
theorem dX4_readStep_41 : decode cX4_readStep 41 = .ok (.iconst 3, 1) := dk_6 (dk_at dksX4_readStep_1 19 rfl rfl)
theorem dX4_readStep_42 : decode cX4_readStep 42 = .ok (.goto 4, 3) := dk_167 0 4 (dk_at dksX4_readStep_1 20 rfl rfl)
theorem dX4_readStep_45 : decode cX4_readStep 45 = .ok (.iconst (-1), 1) := dk_2 (dk_at dksX4_readStep_1 23 rfl rfl)
theorem dX4_readStep_46 : decode cX4_readStep 46 = .ok (.istore_n 3, 1) := dk_62 (dk_at dksX4_readStep_2 0 rfl rfl)
theorem dX4_readStep_47 : decode cX4_readStep 47 = .ok (.iload_n 3, 1) := dk_29 (dk_at dksX4_readStep_2 1 rfl rfl)
theorem dX4_readStep_48 : decode cX4_readStep 48 = .ok (.iconst (-1), 1) := dk_2 (dk_at dksX4_readStep_2 2 rfl rfl)
theorem dX4_readStep_49 : decode cX4_readStep 49 = .ok (.if_icmp .ne 8, 3) := dk_160 0 8 (dk_at dksX4_readStep_2 3 rfl rfl)
theorem dX4_readStep_52 : decode cX4_readStep 52 = .ok (.aload_n 0, 1) := dk_42 (dk_at dksX4_readStep_2 6 rfl rfl)
theorem dX4_readStep_53 : decode cX4_readStep 53 = .ok (.invokevirtual 121, 3) := dk_182 0 121 (dk_at dksX4_readStep_2 7 rfl rfl)
theorem dX4_readStep_56 : decode cX4_readStep 56 = .ok (.return_, 1) := dk_177 (dk_at dksX4_readStep_2 10 rfl rfl)
theorem dX4_readStep_57 : decode cX4_readStep 57 = .ok (.aload_n 0, 1) := dk_42 (dk_at dksX4_readStep_2 11 rfl rfl)
theorem dX4_readStep_58 : decode cX4_readStep 58 = .ok (.dup, 1) := dk_89 (dk_at dksX4_readStep_2 12 rfl rfl)
theorem dX4_readStep_59 : decode cX4_readStep 59 = .ok (.getfield 108, 3) := dk_180 0 108 (dk_at dksX4_readStep_2 13 rfl rfl)
theorem dX4_readStep_62 : decode cX4_readStep 62 = .ok (.iconst 1, 1) := dk_4 (dk_at dksX4_readStep_2 16 rfl rfl)
theorem dX4_readStep_63 : decode cX4_readStep 63 = .ok (.iadd, 1) := dk_96 (dk_at dksX4_readStep_2 17 rfl rfl)
theorem dX4_readStep_64 : decode cX4_readStep 64 = .ok (.putfield 108, 3) := dk_181 0 108 (dk_at dksX4_readStep_2 18 rfl rfl)
theorem dX4_readStep_67 : decode cX4_readStep 67 = .ok (.aload_n 0, 1) := dk_42 (dk_at dksX4_readStep_2 21 rfl rfl)
theorem dX4_readStep_68 : decode cX4_readStep 68 = .ok (.getfield 25, 3) := dk_180 0 25 (dk_at dksX4_readStep_3 0 rfl rfl)
theorem dX4_readStep_71 : decode cX4_readStep 71 = .ok (.iload_n 1, 1) := dk_27 (dk_at dksX4_readStep_3 3 rfl rfl)
theorem dX4_readStep_72 : decode cX4_readStep 72 = .ok (.iload_n 3, 1) := dk_29 (dk_at dksX4_readStep_3 4 rfl rfl)
theorem dX4_readStep_73 : decode cX4_readStep 73 = .ok (.iastore, 1) := dk_79 (dk_at dksX4_readStep_3 5 rfl rfl)
theorem dX4_readStep_74 : decode cX4_readStep 74 = .ok (.aload_n 0, 1) := dk_42 (dk_at dksX4_readStep_3 6 rfl rfl)
theorem dX4_readStep_75 : decode cX4_readStep 75 = .ok (.getfield 25, 3) := dk_180 0 25 (dk_at dksX4_readStep_3 7 rfl rfl)
theorem dX4_readStep_78 : decode cX4_readStep 78 = .ok (.iload_n 1, 1) := dk_27 (dk_at dksX4_readStep_3 10 rfl rfl)
theorem dX4_readStep_79 : decode cX4_readStep 79 = .ok (.iconst 1, 1) := dk_4 (dk_at dksX4_readStep_3 11 rfl rfl)
theorem dX4_readStep_80 : decode cX4_readStep 80 = .ok (.iadd, 1) := dk_96 (dk_at dksX4_readStep_3 12 rfl rfl)
theorem dX4_readStep_81 : decode cX4_readStep 81 = .ok (.iload_n 3, 1) := dk_29 (dk_at dksX4_readStep_3 13 rfl rfl)
theorem dX4_readStep_82 : decode cX4_readStep 82 = .ok (.iconst 3, 1) := dk_6 (dk_at dksX4_readStep_3 14 rfl rfl)
theorem dX4_readStep_83 : decode cX4_readStep 83 = .ok (.if_icmp .ne 12, 3) := dk_160 0 12 (dk_at dksX4_readStep_3 15 rfl rfl)
theorem dX4_readStep_86 : decode cX4_readStep 86 = .ok (.aload_n 0, 1) := dk_42 (dk_at dksX4_readStep_3 18 rfl rfl)
theorem dX4_readStep_87 : decode cX4_readStep 87 = .ok (.bipush 23, 2) := dk_16 23 (dk_at dksX4_readStep_3 19 rfl rfl)
theorem dX4_readStep_89 : decode cX4_readStep 89 = .ok (.invokevirtual 139, 3) := dk_182 0 139 (dk_at dksX4_readStep_3 21 rfl rfl)
theorem dX4_readStep_92 : decode cX4_readStep 92 = .ok (.goto 7, 3) := dk_167 0 7 (dk_at dksX4_readStep_4 0 rfl rfl)
theorem dX4_readStep_95 : decode cX4_readStep 95 = .ok (.aload_n 0, 1) := dk_42 (dk_at dksX4_readStep_4 3 rfl rfl)
theorem dX4_readStep_96 : decode cX4_readStep 96 = .ok (.invokevirtual 161, 3) := dk_182 0 161 (dk_at dksX4_readStep_4 4 rfl rfl)
theorem dX4_readStep_99 : decode cX4_readStep 99 = .ok (.iastore, 1) := dk_79 (dk_at dksX4_readStep_4 7 rfl rfl)
theorem dX4_readStep_100 : decode cX4_readStep 100 = .ok (.iconst 0, 1) := dk_3 (dk_at dksX4_readStep_4 8 rfl rfl)
theorem dX4_readStep_101 : decode cX4_readStep 101 = .ok (.istore 4, 2) := dk_54 4 (dk_at dksX4_readStep_4 9 rfl rfl)
theorem dX4_readStep_103 : decode cX4_readStep 103 = .ok (.iload 4, 2) := dk_21 4 (dk_at dksX4_readStep_4 11 rfl rfl)
theorem dX4_readStep_105 : decode cX4_readStep 105 = .ok (.iconst 3, 1) := dk_6 (dk_at dksX4_readStep_4 13 rfl rfl)
theorem dX4_readStep_106 : decode cX4_readStep 106 = .ok (.if_icmp .ge 21, 3) := dk_162 0 21 (dk_at dksX4_readStep_4 14 rfl rfl)
theorem dX4_readStep_109 : decode cX4_readStep 109 = .ok (.aload_n 0, 1) := dk_42 (dk_at dksX4_readStep_4 17 rfl rfl)
theorem dX4_readStep_110 : decode cX4_readStep 110 = .ok (.getfield 25, 3) := dk_180 0 25 (dk_at dksX4_readStep_4 18 rfl rfl)
theorem dX4_readStep_113 : decode cX4_readStep 113 = .ok (.iload_n 1, 1) := dk_27 (dk_at dksX4_readStep_4 21 rfl rfl)
theorem dX4_readStep_114 : decode cX4_readStep 114 = .ok (.iconst 2, 1) := dk_5 (dk_at dksX4_readStep_4 22 rfl rfl)
theorem dX4_readStep_115 : decode cX4_readStep 115 = .ok (.iadd, 1) := dk_96 (dk_at dksX4_readStep_4 23 rfl rfl)
theorem dX4_readStep_116 : decode cX4_readStep 116 = .ok (.iload 4, 2) := dk_21 4 (dk_at dksX4_readStep_5 0 rfl rfl)
theorem dX4_readStep_118 : decode cX4_readStep 118 = .ok (.iadd, 1) := dk_96 (dk_at dksX4_readStep_5 2 rfl rfl)
theorem dX4_readStep_119 : decode cX4_readStep 119 = .ok (.iconst (-1), 1) := dk_2 (dk_at dksX4_readStep_5 3 rfl rfl)
theorem dX4_readStep_120 : decode cX4_readStep 120 = .ok (.iastore, 1) := dk_79 (dk_at dksX4_readStep_5 4 rfl rfl)
theorem dX4_readStep_121 : decode cX4_readStep 121 = .ok (.iinc 4 1, 3) := dk_132 4 1 (dk_at dksX4_readStep_5 5 rfl rfl)
theorem dX4_readStep_124 : decode cX4_readStep 124 = .ok (.goto (-21), 3) := dk_167 255 235 (dk_at dksX4_readStep_5 8 rfl rfl)
theorem dX4_readStep_127 : decode cX4_readStep 127 = .ok (.iload_n 3, 1) := dk_29 (dk_at dksX4_readStep_5 11 rfl rfl)
theorem dX4_readStep_128 : decode cX4_readStep 128 = .ok (.iconst 1, 1) := dk_4 (dk_at dksX4_readStep_5 12 rfl rfl)
theorem dX4_readStep_129 : decode cX4_readStep 129 = .ok (.if_icmp .le 4, 3) := dk_164 0 4 (dk_at dksX4_readStep_5 13 rfl rfl)
theorem dX4_readStep_132 : decode cX4_readStep 132 = .ok (.return_, 1) := dk_177 (dk_at dksX4_readStep_5 16 rfl rfl)
theorem dX4_readStep_133 : decode cX4_readStep 133 = .ok (.aload_n 0, 1) := dk_42 (dk_at dksX4_readStep_5 17 rfl rfl)
theorem dX4_readStep_134 : decode cX4_readStep 134 = .ok (.bipush 58, 2) := dk_16 58 (dk_at dksX4_readStep_5 18 rfl rfl)
theorem dX4_readStep_136 : decode cX4_readStep 136 = .ok (.invokevirtual 135, 3) := dk_182 0 135 (dk_at dksX4_readStep_5 20 rfl rfl)
theorem dX4_readStep_139 : decode cX4_readStep 139 = .ok (.aload_n 0, 1) := dk_42 (dk_at dksX4_readStep_5 23 rfl rfl)
theorem dX4_readStep_140 : decode cX4_readStep 140 = .ok (.getfield 115, 3) := dk_180 0 115 (dk_at dksX4_readStep_6 0 rfl rfl)
theorem dX4_readStep_143 : decode cX4_readStep 143 = .ok (.iconst (-1), 1) := dk_2 (dk_at dksX4_readStep_6 3 rfl rfl)
theorem dX4_readStep_144 : decode cX4_readStep 144 = .ok (.if_icmp .ne 7, 3) := dk_160 0 7 (dk_at dksX4_readStep_6 4 rfl rfl)
theorem dX4_readStep_147 : decode cX4_readStep 147 = .ok (.iconst 1, 1) := dk_4 (dk_at dksX4_readStep_6 7 rfl rfl)
theorem dX4_readStep_148 : decode cX4_readStep 148 = .ok (.goto 4, 3) := dk_167 0 4 (dk_at dksX4_readStep_6 8 rfl rfl)
theorem dX4_readStep_151 : decode cX4_readStep 151 = .ok (.iconst 0, 1) := dk_3 (dk_at dksX4_readStep_6 11 rfl rfl)
theorem dX4_readStep_152 : decode cX4_readStep 152 = .ok (.istore 4, 2) := dk_54 4 (dk_at dksX4_readStep_6 12 rfl rfl)
theorem dX4_readStep_154 : decode cX4_readStep 154 = .ok (.iconst 0, 1) := dk_3 (dk_at dksX4_readStep_6 14 rfl rfl)
theorem dX4_readStep_155 : decode cX4_readStep 155 = .ok (.istore 5, 2) := dk_54 5 (dk_at dksX4_readStep_6 15 rfl rfl)
theorem dX4_readStep_157 : decode cX4_readStep 157 = .ok (.iload 5, 2) := dk_21 5 (dk_at dksX4_readStep_6 17 rfl rfl)
theorem dX4_readStep_159 : decode cX4_readStep 159 = .ok (.iconst 3, 1) := dk_6 (dk_at dksX4_readStep_6 19 rfl rfl)
theorem dX4_readStep_160 : decode cX4_readStep 160 = .ok (.if_icmp .ge 80, 3) := dk_162 0 80 (dk_at dksX4_readStep_6 20 rfl rfl)
theorem dX4_readStep_163 : decode cX4_readStep 163 = .ok (.iload 4, 2) := dk_21 4 (dk_at dksX4_readStep_7 0 rfl rfl)
theorem dX4_readStep_165 : decode cX4_readStep 165 = .ok (.ifCond .eq 75, 3) := dk_153 0 75 (dk_at dksX4_readStep_7 2 rfl rfl)
theorem dX4_readStep_168 : decode cX4_readStep 168 = .ok (.aload_n 0, 1) := dk_42 (dk_at dksX4_readStep_7 5 rfl rfl)
theorem dX4_readStep_169 : decode cX4_readStep 169 = .ok (.getfield 25, 3) := dk_180 0 25 (dk_at dksX4_readStep_7 6 rfl rfl)
theorem dX4_readStep_172 : decode cX4_readStep 172 = .ok (.iload_n 1, 1) := dk_27 (dk_at dksX4_readStep_7 9 rfl rfl)
theorem dX4_readStep_173 : decode cX4_readStep 173 = .ok (.iconst 2, 1) := dk_5 (dk_at dksX4_readStep_7 10 rfl rfl)
theorem dX4_readStep_174 : decode cX4_readStep 174 = .ok (.iadd, 1) := dk_96 (dk_at dksX4_readStep_7 11 rfl rfl)
theorem dX4_readStep_175 : decode cX4_readStep 175 = .ok (.iload 5, 2) := dk_21 5 (dk_at dksX4_readStep_7 12 rfl rfl)
theorem dX4_readStep_177 : decode cX4_readStep 177 = .ok (.iadd, 1) := dk_96 (dk_at dksX4_readStep_7 14 rfl rfl)
theorem dX4_readStep_178 : decode cX4_readStep 178 = .ok (.aload_n 0, 1) := dk_42 (dk_at dksX4_readStep_7 15 rfl rfl)
theorem dX4_readStep_179 : decode cX4_readStep 179 = .ok (.bipush 99, 2) := dk_16 99 (dk_at dksX4_readStep_7 16 rfl rfl)
theorem dX4_readStep_181 : decode cX4_readStep 181 = .ok (.invokevirtual 139, 3) := dk_182 0 139 (dk_at dksX4_readStep_7 18 rfl rfl)
theorem dX4_readStep_184 : decode cX4_readStep 184 = .ok (.iastore, 1) := dk_79 (dk_at dksX4_readStep_7 21 rfl rfl)
theorem dX4_readStep_185 : decode cX4_readStep 185 = .ok (.aload_n 0, 1) := dk_42 (dk_at dksX4_readStep_7 22 rfl rfl)
theorem dX4_readStep_186 : decode cX4_readStep 186 = .ok (.getfield 115, 3) := dk_180 0 115 (dk_at dksX4_readStep_8 0 rfl rfl)
theorem dX4_readStep_189 : decode cX4_readStep 189 = .ok (.iconst (-1), 1) := dk_2 (dk_at dksX4_readStep_8 3 rfl rfl)
theorem dX4_readStep_190 : decode cX4_readStep 190 = .ok (.if_icmp .ne 22, 3) := dk_160 0 22 (dk_at dksX4_readStep_8 4 rfl rfl)
theorem dX4_readStep_193 : decode cX4_readStep 193 = .ok (.iload 5, 2) := dk_21 5 (dk_at dksX4_readStep_8 7 rfl rfl)
theorem dX4_readStep_195 : decode cX4_readStep 195 = .ok (.iconst 2, 1) := dk_5 (dk_at dksX4_readStep_8 9 rfl rfl)
theorem dX4_readStep_196 : decode cX4_readStep 196 = .ok (.if_icmp .ge 16, 3) := dk_162 0 16 (dk_at dksX4_readStep_8 10 rfl rfl)
theorem dX4_readStep_199 : decode cX4_readStep 199 = .ok (.aload_n 0, 1) := dk_42 (dk_at dksX4_readStep_8 13 rfl rfl)
theorem dX4_readStep_200 : decode cX4_readStep 200 = .ok (.invokevirtual 118, 3) := dk_182 0 118 (dk_at dksX4_readStep_8 14 rfl rfl)
theorem dX4_readStep_203 : decode cX4_readStep 203 = .ok (.bipush 44, 2) := dk_16 44 (dk_at dksX4_readStep_8 17 rfl rfl)
theorem dX4_readStep_205 : decode cX4_readStep 205 = .ok (.if_icmp .ne 7, 3) := dk_160 0 7 (dk_at dksX4_readStep_8 19 rfl rfl)
theorem dX4_readStep_208 : decode cX4_readStep 208 = .ok (.iconst 1, 1) := dk_4 (dk_at dksX4_readStep_8 22 rfl rfl)
theorem dX4_readStep_209 : decode cX4_readStep 209 = .ok (.goto 4, 3) := dk_167 0 4 (dk_at dksX4_readStep_9 0 rfl rfl)
theorem dX4_readStep_212 : decode cX4_readStep 212 = .ok (.iconst 0, 1) := dk_3 (dk_at dksX4_readStep_9 3 rfl rfl)
theorem dX4_readStep_213 : decode cX4_readStep 213 = .ok (.istore 4, 2) := dk_54 4 (dk_at dksX4_readStep_9 4 rfl rfl)
theorem dX4_readStep_215 : decode cX4_readStep 215 = .ok (.aload_n 0, 1) := dk_42 (dk_at dksX4_readStep_9 6 rfl rfl)
theorem dX4_readStep_216 : decode cX4_readStep 216 = .ok (.dup, 1) := dk_89 (dk_at dksX4_readStep_9 7 rfl rfl)
theorem dX4_readStep_217 : decode cX4_readStep 217 = .ok (.getfield 108, 3) := dk_180 0 108 (dk_at dksX4_readStep_9 8 rfl rfl)
theorem dX4_readStep_220 : decode cX4_readStep 220 = .ok (.iload 4, 2) := dk_21 4 (dk_at dksX4_readStep_9 11 rfl rfl)
theorem dX4_readStep_222 : decode cX4_readStep 222 = .ok (.ifCond .eq 7, 3) := dk_153 0 7 (dk_at dksX4_readStep_9 13 rfl rfl)
theorem dX4_readStep_225 : decode cX4_readStep 225 = .ok (.iconst 1, 1) := dk_4 (dk_at dksX4_readStep_9 16 rfl rfl)
theorem dX4_readStep_226 : decode cX4_readStep 226 = .ok (.goto 4, 3) := dk_167 0 4 (dk_at dksX4_readStep_9 17 rfl rfl)
theorem dX4_readStep_229 : decode cX4_readStep 229 = .ok (.iconst 0, 1) := dk_3 (dk_at dksX4_readStep_9 20 rfl rfl)
theorem dX4_readStep_230 : decode cX4_readStep 230 = .ok (.iadd, 1) := dk_96 (dk_at dksX4_readStep_9 21 rfl rfl)
theorem dX4_readStep_231 : decode cX4_readStep 231 = .ok (.putfield 108, 3) := dk_181 0 108 (dk_at dksX4_readStep_10 0 rfl rfl)
theorem dX4_readStep_234 : decode cX4_readStep 234 = .ok (.iinc 5 1, 3) := dk_132 5 1 (dk_at dksX4_readStep_10 3 rfl rfl)
theorem dX4_readStep_237 : decode cX4_readStep 237 = .ok (.goto (-80), 3) := dk_167 255 176 (dk_at dksX4_readStep_10 6 rfl rfl)
theorem dX4_readStep_240 : decode cX4_readStep 240 = .ok (.return_, 1) := dk_177 (dk_at dksX4_readStep_10 9 rfl rfl)
abbrev cX4_digit : ByteArray := prog_13_method_15_code
def yX4_digit : MethodName := ⟨RX4, "digit", "()I"⟩
def dkwX4_digit_2 : List UInt8 := [172]
abbrev dktX4_digit_2 : List UInt8 := dkwX4_digit_2 ++ []
def dkwX4_digit_1 : List UInt8 := [42, 89, 180, 0, 108, 4, 96, 181, 0, 108, 42, 180, 0, 9, 42, 180, 0, 108, 4, 100, 46, 16, 48, 100]
abbrev dktX4_digit_1 : List UInt8 := dkwX4_digit_1 ++ dktX4_digit_2
def dkwX4_digit_0 : List UInt8 := [42, 180, 0, 115, 2, 160, 0, 13, 42, 182, 0, 118, 184, 0, 124, 154, 0, 9, 42, 182, 0, 121, 3, 172]
abbrev dktX4_digit_0 : List UInt8 := dkwX4_digit_0 ++ dktX4_digit_1
theorem dksX4_digit_0 : cX4_digit.data.toList.drop 0 = dktX4_digit_0 := by decide +kernel
theorem dksX4_digit_1 : cX4_digit.data.toList.drop 24 = dktX4_digit_1 := dk_seg dksX4_digit_0 24 rfl rfl
theorem dksX4_digit_2 : cX4_digit.data.toList.drop 48 = dktX4_digit_2 := dk_seg dksX4_digit_1 24 rfl rfl
theorem dX4_digit_0 : decode cX4_digit 0 = .ok (.aload_n 0, 1) := dk_42 (dk_at dksX4_digit_0 0 rfl rfl)
theorem dX4_digit_1 : decode cX4_digit 1 = .ok (.getfield 115, 3) := dk_180 0 115 (dk_at dksX4_digit_0 1 rfl rfl)
theorem dX4_digit_4 : decode cX4_digit 4 = .ok (.iconst (-1), 1) := dk_2 (dk_at dksX4_digit_0 4 rfl rfl)
theorem dX4_digit_5 : decode cX4_digit 5 = .ok (.if_icmp .ne 13, 3) := dk_160 0 13 (dk_at dksX4_digit_0 5 rfl rfl)
theorem dX4_digit_8 : decode cX4_digit 8 = .ok (.aload_n 0, 1) := dk_42 (dk_at dksX4_digit_0 8 rfl rfl)
theorem dX4_digit_9 : decode cX4_digit 9 = .ok (.invokevirtual 118, 3) := dk_182 0 118 (dk_at dksX4_digit_0 9 rfl rfl)
theorem dX4_digit_12 : decode cX4_digit 12 = .ok (.invokestatic 124, 3) := dk_184 0 124 (dk_at dksX4_digit_0 12 rfl rfl)
theorem dX4_digit_15 : decode cX4_digit 15 = .ok (.ifCond .ne 9, 3) := dk_154 0 9 (dk_at dksX4_digit_0 15 rfl rfl)
theorem dX4_digit_18 : decode cX4_digit 18 = .ok (.aload_n 0, 1) := dk_42 (dk_at dksX4_digit_0 18 rfl rfl)
theorem dX4_digit_19 : decode cX4_digit 19 = .ok (.invokevirtual 121, 3) := dk_182 0 121 (dk_at dksX4_digit_0 19 rfl rfl)
theorem dX4_digit_22 : decode cX4_digit 22 = .ok (.iconst 0, 1) := dk_3 (dk_at dksX4_digit_0 22 rfl rfl)
theorem dX4_digit_23 : decode cX4_digit 23 = .ok (.ireturn, 1) := dk_172 (dk_at dksX4_digit_0 23 rfl rfl)
theorem dX4_digit_24 : decode cX4_digit 24 = .ok (.aload_n 0, 1) := dk_42 (dk_at dksX4_digit_1 0 rfl rfl)
theorem dX4_digit_25 : decode cX4_digit 25 = .ok (.dup, 1) := dk_89 (dk_at dksX4_digit_1 1 rfl rfl)
theorem dX4_digit_26 : decode cX4_digit 26 = .ok (.getfield 108, 3) := dk_180 0 108 (dk_at dksX4_digit_1 2 rfl rfl)
theorem dX4_digit_29 : decode cX4_digit 29 = .ok (.iconst 1, 1) := dk_4 (dk_at dksX4_digit_1 5 rfl rfl)
theorem dX4_digit_30 : decode cX4_digit 30 = .ok (.iadd, 1) := dk_96 (dk_at dksX4_digit_1 6 rfl rfl)
theorem dX4_digit_31 : decode cX4_digit 31 = .ok (.putfield 108, 3) := dk_181 0 108 (dk_at dksX4_digit_1 7 rfl rfl)
theorem dX4_digit_34 : decode cX4_digit 34 = .ok (.aload_n 0, 1) := dk_42 (dk_at dksX4_digit_1 10 rfl rfl)
theorem dX4_digit_35 : decode cX4_digit 35 = .ok (.getfield 9, 3) := dk_180 0 9 (dk_at dksX4_digit_1 11 rfl rfl)
theorem dX4_digit_38 : decode cX4_digit 38 = .ok (.aload_n 0, 1) := dk_42 (dk_at dksX4_digit_1 14 rfl rfl)
theorem dX4_digit_39 : decode cX4_digit 39 = .ok (.getfield 108, 3) := dk_180 0 108 (dk_at dksX4_digit_1 15 rfl rfl)
theorem dX4_digit_42 : decode cX4_digit 42 = .ok (.iconst 1, 1) := dk_4 (dk_at dksX4_digit_1 18 rfl rfl)
theorem dX4_digit_43 : decode cX4_digit 43 = .ok (.isub, 1) := dk_100 (dk_at dksX4_digit_1 19 rfl rfl)
theorem dX4_digit_44 : decode cX4_digit 44 = .ok (.iaload, 1) := dk_46 (dk_at dksX4_digit_1 20 rfl rfl)
theorem dX4_digit_45 : decode cX4_digit 45 = .ok (.bipush 48, 2) := dk_16 48 (dk_at dksX4_digit_1 21 rfl rfl)
theorem dX4_digit_47 : decode cX4_digit 47 = .ok (.isub, 1) := dk_100 (dk_at dksX4_digit_1 23 rfl rfl)
theorem dX4_digit_48 : decode cX4_digit 48 = .ok (.ireturn, 1) := dk_172 (dk_at dksX4_digit_2 0 rfl rfl)
abbrev cX4_text : ByteArray := prog_13_method_39_code
def yX4_text : MethodName := ⟨RX4, "text", "(I)I"⟩
def dkwX4_text_2 : List UInt8 := [3, 181, 0, 101, 42, 89, 180, 0, 214, 4, 96, 181, 0, 214, 42, 180, 0, 214, 4, 100, 172, 2, 172]
abbrev dktX4_text_2 : List UInt8 := dkwX4_text_2 ++ []
def dkwX4_text_1 : List UInt8 := [160, 0, 45, 42, 180, 0, 214, 7, 162, 0, 37, 42, 42, 180, 0, 214, 182, 0, 170, 2, 160, 0, 25, 42]
abbrev dktX4_text_1 : List UInt8 := dkwX4_text_1 ++ dktX4_text_2
def dkwX4_text_0 : List UInt8 := [27, 154, 0, 21, 42, 182, 0, 167, 2, 160, 0, 13, 42, 3, 181, 0, 101, 42, 182, 0, 211, 172, 27, 4]
abbrev dktX4_text_0 : List UInt8 := dkwX4_text_0 ++ dktX4_text_1
theorem dksX4_text_0 : cX4_text.data.toList.drop 0 = dktX4_text_0 := by decide +kernel
theorem dksX4_text_1 : cX4_text.data.toList.drop 24 = dktX4_text_1 := dk_seg dksX4_text_0 24 rfl rfl
theorem dksX4_text_2 : cX4_text.data.toList.drop 48 = dktX4_text_2 := dk_seg dksX4_text_1 24 rfl rfl
theorem dX4_text_0 : decode cX4_text 0 = .ok (.iload_n 1, 1) := dk_27 (dk_at dksX4_text_0 0 rfl rfl)
theorem dX4_text_1 : decode cX4_text 1 = .ok (.ifCond .ne 21, 3) := dk_154 0 21 (dk_at dksX4_text_0 1 rfl rfl)
theorem dX4_text_4 : decode cX4_text 4 = .ok (.aload_n 0, 1) := dk_42 (dk_at dksX4_text_0 4 rfl rfl)
theorem dX4_text_5 : decode cX4_text 5 = .ok (.invokevirtual 167, 3) := dk_182 0 167 (dk_at dksX4_text_0 5 rfl rfl)
theorem dX4_text_8 : decode cX4_text 8 = .ok (.iconst (-1), 1) := dk_2 (dk_at dksX4_text_0 8 rfl rfl)
theorem dX4_text_9 : decode cX4_text 9 = .ok (.if_icmp .ne 13, 3) := dk_160 0 13 (dk_at dksX4_text_0 9 rfl rfl)
theorem dX4_text_12 : decode cX4_text 12 = .ok (.aload_n 0, 1) := dk_42 (dk_at dksX4_text_0 12 rfl rfl)
theorem dX4_text_13 : decode cX4_text 13 = .ok (.iconst 0, 1) := dk_3 (dk_at dksX4_text_0 13 rfl rfl)
theorem dX4_text_14 : decode cX4_text 14 = .ok (.putfield 101, 3) := dk_181 0 101 (dk_at dksX4_text_0 14 rfl rfl)
theorem dX4_text_17 : decode cX4_text 17 = .ok (.aload_n 0, 1) := dk_42 (dk_at dksX4_text_0 17 rfl rfl)
theorem dX4_text_18 : decode cX4_text 18 = .ok (.invokevirtual 211, 3) := dk_182 0 211 (dk_at dksX4_text_0 18 rfl rfl)
theorem dX4_text_21 : decode cX4_text 21 = .ok (.ireturn, 1) := dk_172 (dk_at dksX4_text_0 21 rfl rfl)
theorem dX4_text_22 : decode cX4_text 22 = .ok (.iload_n 1, 1) := dk_27 (dk_at dksX4_text_0 22 rfl rfl)
theorem dX4_text_23 : decode cX4_text 23 = .ok (.iconst 1, 1) := dk_4 (dk_at dksX4_text_0 23 rfl rfl)
theorem dX4_text_24 : decode cX4_text 24 = .ok (.if_icmp .ne 45, 3) := dk_160 0 45 (dk_at dksX4_text_1 0 rfl rfl)
theorem dX4_text_27 : decode cX4_text 27 = .ok (.aload_n 0, 1) := dk_42 (dk_at dksX4_text_1 3 rfl rfl)
theorem dX4_text_28 : decode cX4_text 28 = .ok (.getfield 214, 3) := dk_180 0 214 (dk_at dksX4_text_1 4 rfl rfl)
theorem dX4_text_31 : decode cX4_text 31 = .ok (.iconst 4, 1) := dk_7 (dk_at dksX4_text_1 7 rfl rfl)
theorem dX4_text_32 : decode cX4_text 32 = .ok (.if_icmp .ge 37, 3) := dk_162 0 37 (dk_at dksX4_text_1 8 rfl rfl)
theorem dX4_text_35 : decode cX4_text 35 = .ok (.aload_n 0, 1) := dk_42 (dk_at dksX4_text_1 11 rfl rfl)
theorem dX4_text_36 : decode cX4_text 36 = .ok (.aload_n 0, 1) := dk_42 (dk_at dksX4_text_1 12 rfl rfl)
theorem dX4_text_37 : decode cX4_text 37 = .ok (.getfield 214, 3) := dk_180 0 214 (dk_at dksX4_text_1 13 rfl rfl)
theorem dX4_text_40 : decode cX4_text 40 = .ok (.invokevirtual 170, 3) := dk_182 0 170 (dk_at dksX4_text_1 16 rfl rfl)
theorem dX4_text_43 : decode cX4_text 43 = .ok (.iconst (-1), 1) := dk_2 (dk_at dksX4_text_1 19 rfl rfl)
theorem dX4_text_44 : decode cX4_text 44 = .ok (.if_icmp .ne 25, 3) := dk_160 0 25 (dk_at dksX4_text_1 20 rfl rfl)
theorem dX4_text_47 : decode cX4_text 47 = .ok (.aload_n 0, 1) := dk_42 (dk_at dksX4_text_1 23 rfl rfl)
theorem dX4_text_48 : decode cX4_text 48 = .ok (.iconst 0, 1) := dk_3 (dk_at dksX4_text_2 0 rfl rfl)
theorem dX4_text_49 : decode cX4_text 49 = .ok (.putfield 101, 3) := dk_181 0 101 (dk_at dksX4_text_2 1 rfl rfl)
theorem dX4_text_52 : decode cX4_text 52 = .ok (.aload_n 0, 1) := dk_42 (dk_at dksX4_text_2 4 rfl rfl)
theorem dX4_text_53 : decode cX4_text 53 = .ok (.dup, 1) := dk_89 (dk_at dksX4_text_2 5 rfl rfl)
theorem dX4_text_54 : decode cX4_text 54 = .ok (.getfield 214, 3) := dk_180 0 214 (dk_at dksX4_text_2 6 rfl rfl)
theorem dX4_text_57 : decode cX4_text 57 = .ok (.iconst 1, 1) := dk_4 (dk_at dksX4_text_2 9 rfl rfl)
theorem dX4_text_58 : decode cX4_text 58 = .ok (.iadd, 1) := dk_96 (dk_at dksX4_text_2 10 rfl rfl)
theorem dX4_text_59 : decode cX4_text 59 = .ok (.putfield 214, 3) := dk_181 0 214 (dk_at dksX4_text_2 11 rfl rfl)
theorem dX4_text_62 : decode cX4_text 62 = .ok (.aload_n 0, 1) := dk_42 (dk_at dksX4_text_2 14 rfl rfl)
theorem dX4_text_63 : decode cX4_text 63 = .ok (.getfield 214, 3) := dk_180 0 214 (dk_at dksX4_text_2 15 rfl rfl)
theorem dX4_text_66 : decode cX4_text 66 = .ok (.iconst 1, 1) := dk_4 (dk_at dksX4_text_2 18 rfl rfl)
theorem dX4_text_67 : decode cX4_text 67 = .ok (.isub, 1) := dk_100 (dk_at dksX4_text_2 19 rfl rfl)
theorem dX4_text_68 : decode cX4_text 68 = .ok (.ireturn, 1) := dk_172 (dk_at dksX4_text_2 20 rfl rfl)
theorem dX4_text_69 : decode cX4_text 69 = .ok (.iconst (-1), 1) := dk_2 (dk_at dksX4_text_2 21 rfl rfl)
theorem dX4_text_70 : decode cX4_text 70 = .ok (.ireturn, 1) := dk_172 (dk_at dksX4_text_2 22 rfl rfl)
abbrev cX4_takeTables : ByteArray := prog_13_method_38_code
def yX4_takeTables : MethodName := ⟨RX4, "takeTables", "()I"⟩
def dkwX4_takeTables_8 : List UInt8 := [167, 255, 115, 42, 3, 181, 0, 204, 42, 3, 181, 0, 207, 42, 180, 0, 173, 172]
abbrev dktX4_takeTables_8 : List UInt8 := dkwX4_takeTables_8 ++ []
def dkwX4_takeTables_7 : List UInt8 := [46, 42, 180, 0, 22, 29, 5, 96, 46, 182, 0, 201, 87, 132, 2, 1, 167, 255, 176, 132, 1, 1]
abbrev dktX4_takeTables_7 : List UInt8 := dkwX4_takeTables_7 ++ dktX4_takeTables_8
def dkwX4_takeTables_6 : List UInt8 := [5, 96, 46, 182, 0, 197, 154, 0, 31, 42, 27, 42, 180, 0, 22, 29, 46, 42, 180, 0, 22, 29, 4, 96]
abbrev dktX4_takeTables_6 : List UInt8 := dkwX4_takeTables_6 ++ dktX4_takeTables_7
def dkwX4_takeTables_5 : List UInt8 := [96, 104, 62, 42, 27, 42, 180, 0, 22, 29, 46, 42, 180, 0, 22, 29, 4, 96, 46, 42, 180, 0, 22, 29]
abbrev dktX4_takeTables_5 : List UInt8 := dkwX4_takeTables_5 ++ dktX4_takeTables_6
def dkwX4_takeTables_4 : List UInt8 := [132, 2, 1, 167, 255, 228, 3, 61, 28, 42, 180, 0, 19, 27, 46, 162, 0, 76, 6, 16, 12, 27, 104, 28]
abbrev dktX4_takeTables_4 : List UInt8 := dkwX4_takeTables_4 ++ dktX4_takeTables_5
def dkwX4_takeTables_3 : List UInt8 := [162, 0, 29, 42, 180, 0, 40, 6, 27, 104, 28, 96, 42, 180, 0, 16, 6, 27, 104, 28, 96, 46, 79]
abbrev dktX4_takeTables_3 : List UInt8 := dkwX4_takeTables_3 ++ dktX4_takeTables_4
def dkwX4_takeTables_2 : List UInt8 := [180, 0, 173, 162, 0, 139, 42, 180, 0, 37, 27, 42, 180, 0, 13, 27, 46, 79, 3, 61, 28, 6]
abbrev dktX4_takeTables_2 : List UInt8 := dkwX4_takeTables_2 ++ dktX4_takeTables_3
def dkwX4_takeTables_1 : List UInt8 := [132, 1, 1, 167, 255, 239, 42, 180, 0, 31, 3, 4, 42, 180, 0, 173, 120, 4, 100, 79, 3, 60, 27, 42]
abbrev dktX4_takeTables_1 : List UInt8 := dkwX4_takeTables_1 ++ dktX4_takeTables_2
def dkwX4_takeTables_0 : List UInt8 := [42, 42, 180, 0, 152, 181, 0, 173, 3, 60, 27, 17, 1, 75, 162, 0, 16, 42, 180, 0, 31, 27, 3, 79]
abbrev dktX4_takeTables_0 : List UInt8 := dkwX4_takeTables_0 ++ dktX4_takeTables_1
theorem dksX4_takeTables_0 : cX4_takeTables.data.toList.drop 0 = dktX4_takeTables_0 := by decide +kernel
theorem dksX4_takeTables_1 : cX4_takeTables.data.toList.drop 24 = dktX4_takeTables_1 := dk_seg dksX4_takeTables_0 24 rfl rfl
theorem dksX4_takeTables_2 : cX4_takeTables.data.toList.drop 48 = dktX4_takeTables_2 := dk_seg dksX4_takeTables_1 24 rfl rfl
theorem dksX4_takeTables_3 : cX4_takeTables.data.toList.drop 70 = dktX4_takeTables_3 := dk_seg dksX4_takeTables_2 22 rfl rfl
theorem dksX4_takeTables_4 : cX4_takeTables.data.toList.drop 93 = dktX4_takeTables_4 := dk_seg dksX4_takeTables_3 23 rfl rfl
theorem dksX4_takeTables_5 : cX4_takeTables.data.toList.drop 117 = dktX4_takeTables_5 := dk_seg dksX4_takeTables_4 24 rfl rfl
theorem dksX4_takeTables_6 : cX4_takeTables.data.toList.drop 141 = dktX4_takeTables_6 := dk_seg dksX4_takeTables_5 24 rfl rfl
theorem dksX4_takeTables_7 : cX4_takeTables.data.toList.drop 165 = dktX4_takeTables_7 := dk_seg dksX4_takeTables_6 24 rfl rfl
theorem dksX4_takeTables_8 : cX4_takeTables.data.toList.drop 187 = dktX4_takeTables_8 := dk_seg dksX4_takeTables_7 22 rfl rfl
theorem dX4_takeTables_0 : decode cX4_takeTables 0 = .ok (.aload_n 0, 1) := dk_42 (dk_at dksX4_takeTables_0 0 rfl rfl)
theorem dX4_takeTables_1 : decode cX4_takeTables 1 = .ok (.aload_n 0, 1) := dk_42 (dk_at dksX4_takeTables_0 1 rfl rfl)
theorem dX4_takeTables_2 : decode cX4_takeTables 2 = .ok (.getfield 152, 3) := dk_180 0 152 (dk_at dksX4_takeTables_0 2 rfl rfl)
theorem dX4_takeTables_5 : decode cX4_takeTables 5 = .ok (.putfield 173, 3) := dk_181 0 173 (dk_at dksX4_takeTables_0 5 rfl rfl)
theorem dX4_takeTables_8 : decode cX4_takeTables 8 = .ok (.iconst 0, 1) := dk_3 (dk_at dksX4_takeTables_0 8 rfl rfl)
theorem dX4_takeTables_9 : decode cX4_takeTables 9 = .ok (.istore_n 1, 1) := dk_60 (dk_at dksX4_takeTables_0 9 rfl rfl)
theorem dX4_takeTables_10 : decode cX4_takeTables 10 = .ok (.iload_n 1, 1) := dk_27 (dk_at dksX4_takeTables_0 10 rfl rfl)
theorem dX4_takeTables_11 : decode cX4_takeTables 11 = .ok (.sipush 331, 3) := dk_17 1 75 (dk_at dksX4_takeTables_0 11 rfl rfl)
theorem dX4_takeTables_14 : decode cX4_takeTables 14 = .ok (.if_icmp .ge 16, 3) := dk_162 0 16 (dk_at dksX4_takeTables_0 14 rfl rfl)
theorem dX4_takeTables_17 : decode cX4_takeTables 17 = .ok (.aload_n 0, 1) := dk_42 (dk_at dksX4_takeTables_0 17 rfl rfl)
theorem dX4_takeTables_18 : decode cX4_takeTables 18 = .ok (.getfield 31, 3) := dk_180 0 31 (dk_at dksX4_takeTables_0 18 rfl rfl)
theorem dX4_takeTables_21 : decode cX4_takeTables 21 = .ok (.iload_n 1, 1) := dk_27 (dk_at dksX4_takeTables_0 21 rfl rfl)
theorem dX4_takeTables_22 : decode cX4_takeTables 22 = .ok (.iconst 0, 1) := dk_3 (dk_at dksX4_takeTables_0 22 rfl rfl)
theorem dX4_takeTables_23 : decode cX4_takeTables 23 = .ok (.iastore, 1) := dk_79 (dk_at dksX4_takeTables_0 23 rfl rfl)
theorem dX4_takeTables_24 : decode cX4_takeTables 24 = .ok (.iinc 1 1, 3) := dk_132 1 1 (dk_at dksX4_takeTables_1 0 rfl rfl)
theorem dX4_takeTables_27 : decode cX4_takeTables 27 = .ok (.goto (-17), 3) := dk_167 255 239 (dk_at dksX4_takeTables_1 3 rfl rfl)
theorem dX4_takeTables_30 : decode cX4_takeTables 30 = .ok (.aload_n 0, 1) := dk_42 (dk_at dksX4_takeTables_1 6 rfl rfl)
theorem dX4_takeTables_31 : decode cX4_takeTables 31 = .ok (.getfield 31, 3) := dk_180 0 31 (dk_at dksX4_takeTables_1 7 rfl rfl)
theorem dX4_takeTables_34 : decode cX4_takeTables 34 = .ok (.iconst 0, 1) := dk_3 (dk_at dksX4_takeTables_1 10 rfl rfl)
theorem dX4_takeTables_35 : decode cX4_takeTables 35 = .ok (.iconst 1, 1) := dk_4 (dk_at dksX4_takeTables_1 11 rfl rfl)
theorem dX4_takeTables_36 : decode cX4_takeTables 36 = .ok (.aload_n 0, 1) := dk_42 (dk_at dksX4_takeTables_1 12 rfl rfl)
theorem dX4_takeTables_37 : decode cX4_takeTables 37 = .ok (.getfield 173, 3) := dk_180 0 173 (dk_at dksX4_takeTables_1 13 rfl rfl)
theorem dX4_takeTables_40 : decode cX4_takeTables 40 = .ok (.ishl, 1) := dk_120 (dk_at dksX4_takeTables_1 16 rfl rfl)
theorem dX4_takeTables_41 : decode cX4_takeTables 41 = .ok (.iconst 1, 1) := dk_4 (dk_at dksX4_takeTables_1 17 rfl rfl)
theorem dX4_takeTables_42 : decode cX4_takeTables 42 = .ok (.isub, 1) := dk_100 (dk_at dksX4_takeTables_1 18 rfl rfl)
theorem dX4_takeTables_43 : decode cX4_takeTables 43 = .ok (.iastore, 1) := dk_79 (dk_at dksX4_takeTables_1 19 rfl rfl)
theorem dX4_takeTables_44 : decode cX4_takeTables 44 = .ok (.iconst 0, 1) := dk_3 (dk_at dksX4_takeTables_1 20 rfl rfl)
theorem dX4_takeTables_45 : decode cX4_takeTables 45 = .ok (.istore_n 1, 1) := dk_60 (dk_at dksX4_takeTables_1 21 rfl rfl)
theorem dX4_takeTables_46 : decode cX4_takeTables 46 = .ok (.iload_n 1, 1) := dk_27 (dk_at dksX4_takeTables_1 22 rfl rfl)
theorem dX4_takeTables_47 : decode cX4_takeTables 47 = .ok (.aload_n 0, 1) := dk_42 (dk_at dksX4_takeTables_1 23 rfl rfl)
theorem dX4_takeTables_48 : decode cX4_takeTables 48 = .ok (.getfield 173, 3) := dk_180 0 173 (dk_at dksX4_takeTables_2 0 rfl rfl)
theorem dX4_takeTables_51 : decode cX4_takeTables 51 = .ok (.if_icmp .ge 139, 3) := dk_162 0 139 (dk_at dksX4_takeTables_2 3 rfl rfl)
theorem dX4_takeTables_54 : decode cX4_takeTables 54 = .ok (.aload_n 0, 1) := dk_42 (dk_at dksX4_takeTables_2 6 rfl rfl)
theorem dX4_takeTables_55 : decode cX4_takeTables 55 = .ok (.getfield 37, 3) := dk_180 0 37 (dk_at dksX4_takeTables_2 7 rfl rfl)
theorem dX4_takeTables_58 : decode cX4_takeTables 58 = .ok (.iload_n 1, 1) := dk_27 (dk_at dksX4_takeTables_2 10 rfl rfl)
theorem dX4_takeTables_59 : decode cX4_takeTables 59 = .ok (.aload_n 0, 1) := dk_42 (dk_at dksX4_takeTables_2 11 rfl rfl)
theorem dX4_takeTables_60 : decode cX4_takeTables 60 = .ok (.getfield 13, 3) := dk_180 0 13 (dk_at dksX4_takeTables_2 12 rfl rfl)
theorem dX4_takeTables_63 : decode cX4_takeTables 63 = .ok (.iload_n 1, 1) := dk_27 (dk_at dksX4_takeTables_2 15 rfl rfl)
theorem dX4_takeTables_64 : decode cX4_takeTables 64 = .ok (.iaload, 1) := dk_46 (dk_at dksX4_takeTables_2 16 rfl rfl)
theorem dX4_takeTables_65 : decode cX4_takeTables 65 = .ok (.iastore, 1) := dk_79 (dk_at dksX4_takeTables_2 17 rfl rfl)
theorem dX4_takeTables_66 : decode cX4_takeTables 66 = .ok (.iconst 0, 1) := dk_3 (dk_at dksX4_takeTables_2 18 rfl rfl)
theorem dX4_takeTables_67 : decode cX4_takeTables 67 = .ok (.istore_n 2, 1) := dk_61 (dk_at dksX4_takeTables_2 19 rfl rfl)
theorem dX4_takeTables_68 : decode cX4_takeTables 68 = .ok (.iload_n 2, 1) := dk_28 (dk_at dksX4_takeTables_2 20 rfl rfl)
theorem dX4_takeTables_69 : decode cX4_takeTables 69 = .ok (.iconst 3, 1) := dk_6 (dk_at dksX4_takeTables_2 21 rfl rfl)
theorem dX4_takeTables_70 : decode cX4_takeTables 70 = .ok (.if_icmp .ge 29, 3) := dk_162 0 29 (dk_at dksX4_takeTables_3 0 rfl rfl)
theorem dX4_takeTables_73 : decode cX4_takeTables 73 = .ok (.aload_n 0, 1) := dk_42 (dk_at dksX4_takeTables_3 3 rfl rfl)
theorem dX4_takeTables_74 : decode cX4_takeTables 74 = .ok (.getfield 40, 3) := dk_180 0 40 (dk_at dksX4_takeTables_3 4 rfl rfl)
theorem dX4_takeTables_77 : decode cX4_takeTables 77 = .ok (.iconst 3, 1) := dk_6 (dk_at dksX4_takeTables_3 7 rfl rfl)
theorem dX4_takeTables_78 : decode cX4_takeTables 78 = .ok (.iload_n 1, 1) := dk_27 (dk_at dksX4_takeTables_3 8 rfl rfl)
theorem dX4_takeTables_79 : decode cX4_takeTables 79 = .ok (.imul, 1) := dk_104 (dk_at dksX4_takeTables_3 9 rfl rfl)
theorem dX4_takeTables_80 : decode cX4_takeTables 80 = .ok (.iload_n 2, 1) := dk_28 (dk_at dksX4_takeTables_3 10 rfl rfl)
theorem dX4_takeTables_81 : decode cX4_takeTables 81 = .ok (.iadd, 1) := dk_96 (dk_at dksX4_takeTables_3 11 rfl rfl)
theorem dX4_takeTables_82 : decode cX4_takeTables 82 = .ok (.aload_n 0, 1) := dk_42 (dk_at dksX4_takeTables_3 12 rfl rfl)
theorem dX4_takeTables_83 : decode cX4_takeTables 83 = .ok (.getfield 16, 3) := dk_180 0 16 (dk_at dksX4_takeTables_3 13 rfl rfl)
theorem dX4_takeTables_86 : decode cX4_takeTables 86 = .ok (.iconst 3, 1) := dk_6 (dk_at dksX4_takeTables_3 16 rfl rfl)
theorem dX4_takeTables_87 : decode cX4_takeTables 87 = .ok (.iload_n 1, 1) := dk_27 (dk_at dksX4_takeTables_3 17 rfl rfl)
theorem dX4_takeTables_88 : decode cX4_takeTables 88 = .ok (.imul, 1) := dk_104 (dk_at dksX4_takeTables_3 18 rfl rfl)
theorem dX4_takeTables_89 : decode cX4_takeTables 89 = .ok (.iload_n 2, 1) := dk_28 (dk_at dksX4_takeTables_3 19 rfl rfl)
theorem dX4_takeTables_90 : decode cX4_takeTables 90 = .ok (.iadd, 1) := dk_96 (dk_at dksX4_takeTables_3 20 rfl rfl)
theorem dX4_takeTables_91 : decode cX4_takeTables 91 = .ok (.iaload, 1) := dk_46 (dk_at dksX4_takeTables_3 21 rfl rfl)
theorem dX4_takeTables_92 : decode cX4_takeTables 92 = .ok (.iastore, 1) := dk_79 (dk_at dksX4_takeTables_3 22 rfl rfl)
theorem dX4_takeTables_93 : decode cX4_takeTables 93 = .ok (.iinc 2 1, 3) := dk_132 2 1 (dk_at dksX4_takeTables_4 0 rfl rfl)
theorem dX4_takeTables_96 : decode cX4_takeTables 96 = .ok (.goto (-28), 3) := dk_167 255 228 (dk_at dksX4_takeTables_4 3 rfl rfl)
theorem dX4_takeTables_99 : decode cX4_takeTables 99 = .ok (.iconst 0, 1) := dk_3 (dk_at dksX4_takeTables_4 6 rfl rfl)
theorem dX4_takeTables_100 : decode cX4_takeTables 100 = .ok (.istore_n 2, 1) := dk_61 (dk_at dksX4_takeTables_4 7 rfl rfl)
theorem dX4_takeTables_101 : decode cX4_takeTables 101 = .ok (.iload_n 2, 1) := dk_28 (dk_at dksX4_takeTables_4 8 rfl rfl)
theorem dX4_takeTables_102 : decode cX4_takeTables 102 = .ok (.aload_n 0, 1) := dk_42 (dk_at dksX4_takeTables_4 9 rfl rfl)
theorem dX4_takeTables_103 : decode cX4_takeTables 103 = .ok (.getfield 19, 3) := dk_180 0 19 (dk_at dksX4_takeTables_4 10 rfl rfl)
theorem dX4_takeTables_106 : decode cX4_takeTables 106 = .ok (.iload_n 1, 1) := dk_27 (dk_at dksX4_takeTables_4 13 rfl rfl)
theorem dX4_takeTables_107 : decode cX4_takeTables 107 = .ok (.iaload, 1) := dk_46 (dk_at dksX4_takeTables_4 14 rfl rfl)
theorem dX4_takeTables_108 : decode cX4_takeTables 108 = .ok (.if_icmp .ge 76, 3) := dk_162 0 76 (dk_at dksX4_takeTables_4 15 rfl rfl)
theorem dX4_takeTables_111 : decode cX4_takeTables 111 = .ok (.iconst 3, 1) := dk_6 (dk_at dksX4_takeTables_4 18 rfl rfl)
theorem dX4_takeTables_112 : decode cX4_takeTables 112 = .ok (.bipush 12, 2) := dk_16 12 (dk_at dksX4_takeTables_4 19 rfl rfl)
theorem dX4_takeTables_114 : decode cX4_takeTables 114 = .ok (.iload_n 1, 1) := dk_27 (dk_at dksX4_takeTables_4 21 rfl rfl)
theorem dX4_takeTables_115 : decode cX4_takeTables 115 = .ok (.imul, 1) := dk_104 (dk_at dksX4_takeTables_4 22 rfl rfl)
theorem dX4_takeTables_116 : decode cX4_takeTables 116 = .ok (.iload_n 2, 1) := dk_28 (dk_at dksX4_takeTables_4 23 rfl rfl)
theorem dX4_takeTables_117 : decode cX4_takeTables 117 = .ok (.iadd, 1) := dk_96 (dk_at dksX4_takeTables_5 0 rfl rfl)
theorem dX4_takeTables_118 : decode cX4_takeTables 118 = .ok (.imul, 1) := dk_104 (dk_at dksX4_takeTables_5 1 rfl rfl)
theorem dX4_takeTables_119 : decode cX4_takeTables 119 = .ok (.istore_n 3, 1) := dk_62 (dk_at dksX4_takeTables_5 2 rfl rfl)
theorem dX4_takeTables_120 : decode cX4_takeTables 120 = .ok (.aload_n 0, 1) := dk_42 (dk_at dksX4_takeTables_5 3 rfl rfl)
theorem dX4_takeTables_121 : decode cX4_takeTables 121 = .ok (.iload_n 1, 1) := dk_27 (dk_at dksX4_takeTables_5 4 rfl rfl)
theorem dX4_takeTables_122 : decode cX4_takeTables 122 = .ok (.aload_n 0, 1) := dk_42 (dk_at dksX4_takeTables_5 5 rfl rfl)
theorem dX4_takeTables_123 : decode cX4_takeTables 123 = .ok (.getfield 22, 3) := dk_180 0 22 (dk_at dksX4_takeTables_5 6 rfl rfl)
theorem dX4_takeTables_126 : decode cX4_takeTables 126 = .ok (.iload_n 3, 1) := dk_29 (dk_at dksX4_takeTables_5 9 rfl rfl)
theorem dX4_takeTables_127 : decode cX4_takeTables 127 = .ok (.iaload, 1) := dk_46 (dk_at dksX4_takeTables_5 10 rfl rfl)
theorem dX4_takeTables_128 : decode cX4_takeTables 128 = .ok (.aload_n 0, 1) := dk_42 (dk_at dksX4_takeTables_5 11 rfl rfl)
theorem dX4_takeTables_129 : decode cX4_takeTables 129 = .ok (.getfield 22, 3) := dk_180 0 22 (dk_at dksX4_takeTables_5 12 rfl rfl)
theorem dX4_takeTables_132 : decode cX4_takeTables 132 = .ok (.iload_n 3, 1) := dk_29 (dk_at dksX4_takeTables_5 15 rfl rfl)
theorem dX4_takeTables_133 : decode cX4_takeTables 133 = .ok (.iconst 1, 1) := dk_4 (dk_at dksX4_takeTables_5 16 rfl rfl)
theorem dX4_takeTables_134 : decode cX4_takeTables 134 = .ok (.iadd, 1) := dk_96 (dk_at dksX4_takeTables_5 17 rfl rfl)
theorem dX4_takeTables_135 : decode cX4_takeTables 135 = .ok (.iaload, 1) := dk_46 (dk_at dksX4_takeTables_5 18 rfl rfl)
theorem dX4_takeTables_136 : decode cX4_takeTables 136 = .ok (.aload_n 0, 1) := dk_42 (dk_at dksX4_takeTables_5 19 rfl rfl)
theorem dX4_takeTables_137 : decode cX4_takeTables 137 = .ok (.getfield 22, 3) := dk_180 0 22 (dk_at dksX4_takeTables_5 20 rfl rfl)
theorem dX4_takeTables_140 : decode cX4_takeTables 140 = .ok (.iload_n 3, 1) := dk_29 (dk_at dksX4_takeTables_5 23 rfl rfl)
theorem dX4_takeTables_141 : decode cX4_takeTables 141 = .ok (.iconst 2, 1) := dk_5 (dk_at dksX4_takeTables_6 0 rfl rfl)
theorem dX4_takeTables_142 : decode cX4_takeTables 142 = .ok (.iadd, 1) := dk_96 (dk_at dksX4_takeTables_6 1 rfl rfl)
theorem dX4_takeTables_143 : decode cX4_takeTables 143 = .ok (.iaload, 1) := dk_46 (dk_at dksX4_takeTables_6 2 rfl rfl)
theorem dX4_takeTables_144 : decode cX4_takeTables 144 = .ok (.invokevirtual 197, 3) := dk_182 0 197 (dk_at dksX4_takeTables_6 3 rfl rfl)
theorem dX4_takeTables_147 : decode cX4_takeTables 147 = .ok (.ifCond .ne 31, 3) := dk_154 0 31 (dk_at dksX4_takeTables_6 6 rfl rfl)
theorem dX4_takeTables_150 : decode cX4_takeTables 150 = .ok (.aload_n 0, 1) := dk_42 (dk_at dksX4_takeTables_6 9 rfl rfl)
theorem dX4_takeTables_151 : decode cX4_takeTables 151 = .ok (.iload_n 1, 1) := dk_27 (dk_at dksX4_takeTables_6 10 rfl rfl)
theorem dX4_takeTables_152 : decode cX4_takeTables 152 = .ok (.aload_n 0, 1) := dk_42 (dk_at dksX4_takeTables_6 11 rfl rfl)
theorem dX4_takeTables_153 : decode cX4_takeTables 153 = .ok (.getfield 22, 3) := dk_180 0 22 (dk_at dksX4_takeTables_6 12 rfl rfl)
theorem dX4_takeTables_156 : decode cX4_takeTables 156 = .ok (.iload_n 3, 1) := dk_29 (dk_at dksX4_takeTables_6 15 rfl rfl)
theorem dX4_takeTables_157 : decode cX4_takeTables 157 = .ok (.iaload, 1) := dk_46 (dk_at dksX4_takeTables_6 16 rfl rfl)
theorem dX4_takeTables_158 : decode cX4_takeTables 158 = .ok (.aload_n 0, 1) := dk_42 (dk_at dksX4_takeTables_6 17 rfl rfl)
theorem dX4_takeTables_159 : decode cX4_takeTables 159 = .ok (.getfield 22, 3) := dk_180 0 22 (dk_at dksX4_takeTables_6 18 rfl rfl)
theorem dX4_takeTables_162 : decode cX4_takeTables 162 = .ok (.iload_n 3, 1) := dk_29 (dk_at dksX4_takeTables_6 21 rfl rfl)
theorem dX4_takeTables_163 : decode cX4_takeTables 163 = .ok (.iconst 1, 1) := dk_4 (dk_at dksX4_takeTables_6 22 rfl rfl)
theorem dX4_takeTables_164 : decode cX4_takeTables 164 = .ok (.iadd, 1) := dk_96 (dk_at dksX4_takeTables_6 23 rfl rfl)
theorem dX4_takeTables_165 : decode cX4_takeTables 165 = .ok (.iaload, 1) := dk_46 (dk_at dksX4_takeTables_7 0 rfl rfl)
theorem dX4_takeTables_166 : decode cX4_takeTables 166 = .ok (.aload_n 0, 1) := dk_42 (dk_at dksX4_takeTables_7 1 rfl rfl)
theorem dX4_takeTables_167 : decode cX4_takeTables 167 = .ok (.getfield 22, 3) := dk_180 0 22 (dk_at dksX4_takeTables_7 2 rfl rfl)
theorem dX4_takeTables_170 : decode cX4_takeTables 170 = .ok (.iload_n 3, 1) := dk_29 (dk_at dksX4_takeTables_7 5 rfl rfl)
theorem dX4_takeTables_171 : decode cX4_takeTables 171 = .ok (.iconst 2, 1) := dk_5 (dk_at dksX4_takeTables_7 6 rfl rfl)
theorem dX4_takeTables_172 : decode cX4_takeTables 172 = .ok (.iadd, 1) := dk_96 (dk_at dksX4_takeTables_7 7 rfl rfl)
theorem dX4_takeTables_173 : decode cX4_takeTables 173 = .ok (.iaload, 1) := dk_46 (dk_at dksX4_takeTables_7 8 rfl rfl)
theorem dX4_takeTables_174 : decode cX4_takeTables 174 = .ok (.invokevirtual 201, 3) := dk_182 0 201 (dk_at dksX4_takeTables_7 9 rfl rfl)
theorem dX4_takeTables_177 : decode cX4_takeTables 177 = .ok (.pop, 1) := dk_87 (dk_at dksX4_takeTables_7 12 rfl rfl)
theorem dX4_takeTables_178 : decode cX4_takeTables 178 = .ok (.iinc 2 1, 3) := dk_132 2 1 (dk_at dksX4_takeTables_7 13 rfl rfl)
theorem dX4_takeTables_181 : decode cX4_takeTables 181 = .ok (.goto (-80), 3) := dk_167 255 176 (dk_at dksX4_takeTables_7 16 rfl rfl)
theorem dX4_takeTables_184 : decode cX4_takeTables 184 = .ok (.iinc 1 1, 3) := dk_132 1 1 (dk_at dksX4_takeTables_7 19 rfl rfl)
theorem dX4_takeTables_187 : decode cX4_takeTables 187 = .ok (.goto (-141), 3) := dk_167 255 115 (dk_at dksX4_takeTables_8 0 rfl rfl)
theorem dX4_takeTables_190 : decode cX4_takeTables 190 = .ok (.aload_n 0, 1) := dk_42 (dk_at dksX4_takeTables_8 3 rfl rfl)
theorem dX4_takeTables_191 : decode cX4_takeTables 191 = .ok (.iconst 0, 1) := dk_3 (dk_at dksX4_takeTables_8 4 rfl rfl)
theorem dX4_takeTables_192 : decode cX4_takeTables 192 = .ok (.putfield 204, 3) := dk_181 0 204 (dk_at dksX4_takeTables_8 5 rfl rfl)
theorem dX4_takeTables_195 : decode cX4_takeTables 195 = .ok (.aload_n 0, 1) := dk_42 (dk_at dksX4_takeTables_8 8 rfl rfl)
theorem dX4_takeTables_196 : decode cX4_takeTables 196 = .ok (.iconst 0, 1) := dk_3 (dk_at dksX4_takeTables_8 9 rfl rfl)
theorem dX4_takeTables_197 : decode cX4_takeTables 197 = .ok (.putfield 207, 3) := dk_181 0 207 (dk_at dksX4_takeTables_8 10 rfl rfl)
theorem dX4_takeTables_200 : decode cX4_takeTables 200 = .ok (.aload_n 0, 1) := dk_42 (dk_at dksX4_takeTables_8 13 rfl rfl)
theorem dX4_takeTables_201 : decode cX4_takeTables 201 = .ok (.getfield 173, 3) := dk_180 0 173 (dk_at dksX4_takeTables_8 14 rfl rfl)
theorem dX4_takeTables_204 : decode cX4_takeTables 204 = .ok (.ireturn, 1) := dk_172 (dk_at dksX4_takeTables_8 17 rfl rfl)
abbrev cX4_hasRow : ByteArray := prog_13_method_35_code
def yX4_hasRow : MethodName := ⟨RX4, "hasRow", "(IIII)Z"⟩
def dkwX4_hasRow_1 : List UInt8 := [21, 5, 28, 29, 21, 4, 182, 0, 189, 154, 0, 7, 4, 167, 0, 4, 3, 172]
abbrev dktX4_hasRow_1 : List UInt8 := dkwX4_hasRow_1 ++ []
def dkwX4_hasRow_0 : List UInt8 := [42, 27, 28, 29, 21, 4, 182, 0, 193, 54, 5, 21, 5, 42, 27, 182, 0, 186, 162, 0, 21, 42, 27]
abbrev dktX4_hasRow_0 : List UInt8 := dkwX4_hasRow_0 ++ dktX4_hasRow_1
theorem dksX4_hasRow_0 : cX4_hasRow.data.toList.drop 0 = dktX4_hasRow_0 := by decide +kernel
theorem dksX4_hasRow_1 : cX4_hasRow.data.toList.drop 23 = dktX4_hasRow_1 := dk_seg dksX4_hasRow_0 23 rfl rfl
theorem dX4_hasRow_0 : decode cX4_hasRow 0 = .ok (.aload_n 0, 1) := dk_42 (dk_at dksX4_hasRow_0 0 rfl rfl)
theorem dX4_hasRow_1 : decode cX4_hasRow 1 = .ok (.iload_n 1, 1) := dk_27 (dk_at dksX4_hasRow_0 1 rfl rfl)
theorem dX4_hasRow_2 : decode cX4_hasRow 2 = .ok (.iload_n 2, 1) := dk_28 (dk_at dksX4_hasRow_0 2 rfl rfl)
theorem dX4_hasRow_3 : decode cX4_hasRow 3 = .ok (.iload_n 3, 1) := dk_29 (dk_at dksX4_hasRow_0 3 rfl rfl)
theorem dX4_hasRow_4 : decode cX4_hasRow 4 = .ok (.iload 4, 2) := dk_21 4 (dk_at dksX4_hasRow_0 4 rfl rfl)
theorem dX4_hasRow_6 : decode cX4_hasRow 6 = .ok (.invokevirtual 193, 3) := dk_182 0 193 (dk_at dksX4_hasRow_0 6 rfl rfl)
theorem dX4_hasRow_9 : decode cX4_hasRow 9 = .ok (.istore 5, 2) := dk_54 5 (dk_at dksX4_hasRow_0 9 rfl rfl)
theorem dX4_hasRow_11 : decode cX4_hasRow 11 = .ok (.iload 5, 2) := dk_21 5 (dk_at dksX4_hasRow_0 11 rfl rfl)
theorem dX4_hasRow_13 : decode cX4_hasRow 13 = .ok (.aload_n 0, 1) := dk_42 (dk_at dksX4_hasRow_0 13 rfl rfl)
theorem dX4_hasRow_14 : decode cX4_hasRow 14 = .ok (.iload_n 1, 1) := dk_27 (dk_at dksX4_hasRow_0 14 rfl rfl)
theorem dX4_hasRow_15 : decode cX4_hasRow 15 = .ok (.invokevirtual 186, 3) := dk_182 0 186 (dk_at dksX4_hasRow_0 15 rfl rfl)
theorem dX4_hasRow_18 : decode cX4_hasRow 18 = .ok (.if_icmp .ge 21, 3) := dk_162 0 21 (dk_at dksX4_hasRow_0 18 rfl rfl)
theorem dX4_hasRow_21 : decode cX4_hasRow 21 = .ok (.aload_n 0, 1) := dk_42 (dk_at dksX4_hasRow_0 21 rfl rfl)
theorem dX4_hasRow_22 : decode cX4_hasRow 22 = .ok (.iload_n 1, 1) := dk_27 (dk_at dksX4_hasRow_0 22 rfl rfl)
theorem dX4_hasRow_23 : decode cX4_hasRow 23 = .ok (.iload 5, 2) := dk_21 5 (dk_at dksX4_hasRow_1 0 rfl rfl)
theorem dX4_hasRow_25 : decode cX4_hasRow 25 = .ok (.iload_n 2, 1) := dk_28 (dk_at dksX4_hasRow_1 2 rfl rfl)
theorem dX4_hasRow_26 : decode cX4_hasRow 26 = .ok (.iload_n 3, 1) := dk_29 (dk_at dksX4_hasRow_1 3 rfl rfl)
theorem dX4_hasRow_27 : decode cX4_hasRow 27 = .ok (.iload 4, 2) := dk_21 4 (dk_at dksX4_hasRow_1 4 rfl rfl)
theorem dX4_hasRow_29 : decode cX4_hasRow 29 = .ok (.invokevirtual 189, 3) := dk_182 0 189 (dk_at dksX4_hasRow_1 6 rfl rfl)
theorem dX4_hasRow_32 : decode cX4_hasRow 32 = .ok (.ifCond .ne 7, 3) := dk_154 0 7 (dk_at dksX4_hasRow_1 9 rfl rfl)
theorem dX4_hasRow_35 : decode cX4_hasRow 35 = .ok (.iconst 1, 1) := dk_4 (dk_at dksX4_hasRow_1 12 rfl rfl)
theorem dX4_hasRow_36 : decode cX4_hasRow 36 = .ok (.goto 4, 3) := dk_167 0 4 (dk_at dksX4_hasRow_1 13 rfl rfl)
theorem dX4_hasRow_39 : decode cX4_hasRow 39 = .ok (.iconst 0, 1) := dk_3 (dk_at dksX4_hasRow_1 16 rfl rfl)
theorem dX4_hasRow_40 : decode cX4_hasRow 40 = .ok (.ireturn, 1) := dk_172 (dk_at dksX4_hasRow_1 17 rfl rfl)
abbrev cX4_countLess : ByteArray := prog_13_method_34_code
def yX4_countLess : MethodName := ⟨RX4, "countLess", "(IIII)I"⟩
def dkwX4_countLess_1 : List UInt8 := [156, 0, 9, 132, 5, 1, 167, 255, 229, 21, 5, 172]
abbrev dktX4_countLess_1 : List UInt8 := dkwX4_countLess_1 ++ []
def dkwX4_countLess_0 : List UInt8 := [3, 54, 5, 21, 5, 42, 27, 182, 0, 186, 162, 0, 23, 42, 27, 21, 5, 28, 29, 21, 4, 182, 0, 189]
abbrev dktX4_countLess_0 : List UInt8 := dkwX4_countLess_0 ++ dktX4_countLess_1
theorem dksX4_countLess_0 : cX4_countLess.data.toList.drop 0 = dktX4_countLess_0 := by decide +kernel
theorem dksX4_countLess_1 : cX4_countLess.data.toList.drop 24 = dktX4_countLess_1 := dk_seg dksX4_countLess_0 24 rfl rfl
theorem dX4_countLess_0 : decode cX4_countLess 0 = .ok (.iconst 0, 1) := dk_3 (dk_at dksX4_countLess_0 0 rfl rfl)
theorem dX4_countLess_1 : decode cX4_countLess 1 = .ok (.istore 5, 2) := dk_54 5 (dk_at dksX4_countLess_0 1 rfl rfl)
theorem dX4_countLess_3 : decode cX4_countLess 3 = .ok (.iload 5, 2) := dk_21 5 (dk_at dksX4_countLess_0 3 rfl rfl)
theorem dX4_countLess_5 : decode cX4_countLess 5 = .ok (.aload_n 0, 1) := dk_42 (dk_at dksX4_countLess_0 5 rfl rfl)
theorem dX4_countLess_6 : decode cX4_countLess 6 = .ok (.iload_n 1, 1) := dk_27 (dk_at dksX4_countLess_0 6 rfl rfl)
theorem dX4_countLess_7 : decode cX4_countLess 7 = .ok (.invokevirtual 186, 3) := dk_182 0 186 (dk_at dksX4_countLess_0 7 rfl rfl)
theorem dX4_countLess_10 : decode cX4_countLess 10 = .ok (.if_icmp .ge 23, 3) := dk_162 0 23 (dk_at dksX4_countLess_0 10 rfl rfl)
theorem dX4_countLess_13 : decode cX4_countLess 13 = .ok (.aload_n 0, 1) := dk_42 (dk_at dksX4_countLess_0 13 rfl rfl)
theorem dX4_countLess_14 : decode cX4_countLess 14 = .ok (.iload_n 1, 1) := dk_27 (dk_at dksX4_countLess_0 14 rfl rfl)
theorem dX4_countLess_15 : decode cX4_countLess 15 = .ok (.iload 5, 2) := dk_21 5 (dk_at dksX4_countLess_0 15 rfl rfl)
theorem dX4_countLess_17 : decode cX4_countLess 17 = .ok (.iload_n 2, 1) := dk_28 (dk_at dksX4_countLess_0 17 rfl rfl)
theorem dX4_countLess_18 : decode cX4_countLess 18 = .ok (.iload_n 3, 1) := dk_29 (dk_at dksX4_countLess_0 18 rfl rfl)
theorem dX4_countLess_19 : decode cX4_countLess 19 = .ok (.iload 4, 2) := dk_21 4 (dk_at dksX4_countLess_0 19 rfl rfl)
theorem dX4_countLess_21 : decode cX4_countLess 21 = .ok (.invokevirtual 189, 3) := dk_182 0 189 (dk_at dksX4_countLess_0 21 rfl rfl)
theorem dX4_countLess_24 : decode cX4_countLess 24 = .ok (.ifCond .ge 9, 3) := dk_156 0 9 (dk_at dksX4_countLess_1 0 rfl rfl)
theorem dX4_countLess_27 : decode cX4_countLess 27 = .ok (.iinc 5 1, 3) := dk_132 5 1 (dk_at dksX4_countLess_1 3 rfl rfl)
theorem dX4_countLess_30 : decode cX4_countLess 30 = .ok (.goto (-27), 3) := dk_167 255 229 (dk_at dksX4_countLess_1 6 rfl rfl)
theorem dX4_countLess_33 : decode cX4_countLess 33 = .ok (.iload 5, 2) := dk_21 5 (dk_at dksX4_countLess_1 9 rfl rfl)
theorem dX4_countLess_35 : decode cX4_countLess 35 = .ok (.ireturn, 1) := dk_172 (dk_at dksX4_countLess_1 11 rfl rfl)
abbrev cX4_many : ByteArray := prog_13_method_30_code
def yX4_many : MethodName := ⟨RX4, "many", "(I)I"⟩
def dkwX4_many_0 : List UInt8 := [42, 180, 0, 31, 5, 27, 96, 46, 172]
abbrev dktX4_many_0 : List UInt8 := dkwX4_many_0 ++ []
theorem dksX4_many_0 : cX4_many.data.toList.drop 0 = dktX4_many_0 := by decide +kernel
theorem dX4_many_0 : decode cX4_many 0 = .ok (.aload_n 0, 1) := dk_42 (dk_at dksX4_many_0 0 rfl rfl)
theorem dX4_many_1 : decode cX4_many 1 = .ok (.getfield 31, 3) := dk_180 0 31 (dk_at dksX4_many_0 1 rfl rfl)
theorem dX4_many_4 : decode cX4_many 4 = .ok (.iconst 2, 1) := dk_5 (dk_at dksX4_many_0 4 rfl rfl)
theorem dX4_many_5 : decode cX4_many 5 = .ok (.iload_n 1, 1) := dk_27 (dk_at dksX4_many_0 5 rfl rfl)
theorem dX4_many_6 : decode cX4_many 6 = .ok (.iadd, 1) := dk_96 (dk_at dksX4_many_0 6 rfl rfl)
theorem dX4_many_7 : decode cX4_many 7 = .ok (.iaload, 1) := dk_46 (dk_at dksX4_many_0 7 rfl rfl)
theorem dX4_many_8 : decode cX4_many 8 = .ok (.ireturn, 1) := dk_172 (dk_at dksX4_many_0 8 rfl rfl)
abbrev cX4_compares : ByteArray := prog_13_method_33_code
def yX4_compares : MethodName := ⟨RX4, "compares", "(IIIII)I"⟩
def dkwX4_compares_2 : List UInt8 := [21, 6, 4, 96, 46, 21, 4, 100, 167, 0, 15, 42, 180, 0, 31, 21, 6, 5, 96, 46, 21, 5, 100, 172]
abbrev dktX4_compares_2 : List UInt8 := dkwX4_compares_2 ++ []
def dkwX4_compares_1 : List UInt8 := [46, 29, 100, 167, 0, 44, 42, 180, 0, 31, 21, 6, 4, 96, 46, 21, 4, 159, 0, 18, 42, 180, 0, 31]
abbrev dktX4_compares_1 : List UInt8 := dkwX4_compares_1 ++ dktX4_compares_2
def dkwX4_compares_0 : List UInt8 := [27, 28, 184, 0, 182, 54, 6, 42, 180, 0, 31, 21, 6, 46, 29, 159, 0, 15, 42, 180, 0, 31, 21, 6]
abbrev dktX4_compares_0 : List UInt8 := dkwX4_compares_0 ++ dktX4_compares_1
theorem dksX4_compares_0 : cX4_compares.data.toList.drop 0 = dktX4_compares_0 := by decide +kernel
theorem dksX4_compares_1 : cX4_compares.data.toList.drop 24 = dktX4_compares_1 := dk_seg dksX4_compares_0 24 rfl rfl
theorem dksX4_compares_2 : cX4_compares.data.toList.drop 48 = dktX4_compares_2 := dk_seg dksX4_compares_1 24 rfl rfl
theorem dX4_compares_0 : decode cX4_compares 0 = .ok (.iload_n 1, 1) := dk_27 (dk_at dksX4_compares_0 0 rfl rfl)
theorem dX4_compares_1 : decode cX4_compares 1 = .ok (.iload_n 2, 1) := dk_28 (dk_at dksX4_compares_0 1 rfl rfl)
theorem dX4_compares_2 : decode cX4_compares 2 = .ok (.invokestatic 182, 3) := dk_184 0 182 (dk_at dksX4_compares_0 2 rfl rfl)
theorem dX4_compares_5 : decode cX4_compares 5 = .ok (.istore 6, 2) := dk_54 6 (dk_at dksX4_compares_0 5 rfl rfl)
theorem dX4_compares_7 : decode cX4_compares 7 = .ok (.aload_n 0, 1) := dk_42 (dk_at dksX4_compares_0 7 rfl rfl)
theorem dX4_compares_8 : decode cX4_compares 8 = .ok (.getfield 31, 3) := dk_180 0 31 (dk_at dksX4_compares_0 8 rfl rfl)
theorem dX4_compares_11 : decode cX4_compares 11 = .ok (.iload 6, 2) := dk_21 6 (dk_at dksX4_compares_0 11 rfl rfl)
theorem dX4_compares_13 : decode cX4_compares 13 = .ok (.iaload, 1) := dk_46 (dk_at dksX4_compares_0 13 rfl rfl)
theorem dX4_compares_14 : decode cX4_compares 14 = .ok (.iload_n 3, 1) := dk_29 (dk_at dksX4_compares_0 14 rfl rfl)
theorem dX4_compares_15 : decode cX4_compares 15 = .ok (.if_icmp .eq 15, 3) := dk_159 0 15 (dk_at dksX4_compares_0 15 rfl rfl)
theorem dX4_compares_18 : decode cX4_compares 18 = .ok (.aload_n 0, 1) := dk_42 (dk_at dksX4_compares_0 18 rfl rfl)
theorem dX4_compares_19 : decode cX4_compares 19 = .ok (.getfield 31, 3) := dk_180 0 31 (dk_at dksX4_compares_0 19 rfl rfl)
theorem dX4_compares_22 : decode cX4_compares 22 = .ok (.iload 6, 2) := dk_21 6 (dk_at dksX4_compares_0 22 rfl rfl)
theorem dX4_compares_24 : decode cX4_compares 24 = .ok (.iaload, 1) := dk_46 (dk_at dksX4_compares_1 0 rfl rfl)
theorem dX4_compares_25 : decode cX4_compares 25 = .ok (.iload_n 3, 1) := dk_29 (dk_at dksX4_compares_1 1 rfl rfl)
theorem dX4_compares_26 : decode cX4_compares 26 = .ok (.isub, 1) := dk_100 (dk_at dksX4_compares_1 2 rfl rfl)
theorem dX4_compares_27 : decode cX4_compares 27 = .ok (.goto 44, 3) := dk_167 0 44 (dk_at dksX4_compares_1 3 rfl rfl)
theorem dX4_compares_30 : decode cX4_compares 30 = .ok (.aload_n 0, 1) := dk_42 (dk_at dksX4_compares_1 6 rfl rfl)
theorem dX4_compares_31 : decode cX4_compares 31 = .ok (.getfield 31, 3) := dk_180 0 31 (dk_at dksX4_compares_1 7 rfl rfl)
theorem dX4_compares_34 : decode cX4_compares 34 = .ok (.iload 6, 2) := dk_21 6 (dk_at dksX4_compares_1 10 rfl rfl)
theorem dX4_compares_36 : decode cX4_compares 36 = .ok (.iconst 1, 1) := dk_4 (dk_at dksX4_compares_1 12 rfl rfl)
theorem dX4_compares_37 : decode cX4_compares 37 = .ok (.iadd, 1) := dk_96 (dk_at dksX4_compares_1 13 rfl rfl)
theorem dX4_compares_38 : decode cX4_compares 38 = .ok (.iaload, 1) := dk_46 (dk_at dksX4_compares_1 14 rfl rfl)
theorem dX4_compares_39 : decode cX4_compares 39 = .ok (.iload 4, 2) := dk_21 4 (dk_at dksX4_compares_1 15 rfl rfl)
theorem dX4_compares_41 : decode cX4_compares 41 = .ok (.if_icmp .eq 18, 3) := dk_159 0 18 (dk_at dksX4_compares_1 17 rfl rfl)
theorem dX4_compares_44 : decode cX4_compares 44 = .ok (.aload_n 0, 1) := dk_42 (dk_at dksX4_compares_1 20 rfl rfl)
theorem dX4_compares_45 : decode cX4_compares 45 = .ok (.getfield 31, 3) := dk_180 0 31 (dk_at dksX4_compares_1 21 rfl rfl)
theorem dX4_compares_48 : decode cX4_compares 48 = .ok (.iload 6, 2) := dk_21 6 (dk_at dksX4_compares_2 0 rfl rfl)
theorem dX4_compares_50 : decode cX4_compares 50 = .ok (.iconst 1, 1) := dk_4 (dk_at dksX4_compares_2 2 rfl rfl)
theorem dX4_compares_51 : decode cX4_compares 51 = .ok (.iadd, 1) := dk_96 (dk_at dksX4_compares_2 3 rfl rfl)
theorem dX4_compares_52 : decode cX4_compares 52 = .ok (.iaload, 1) := dk_46 (dk_at dksX4_compares_2 4 rfl rfl)
theorem dX4_compares_53 : decode cX4_compares 53 = .ok (.iload 4, 2) := dk_21 4 (dk_at dksX4_compares_2 5 rfl rfl)
theorem dX4_compares_55 : decode cX4_compares 55 = .ok (.isub, 1) := dk_100 (dk_at dksX4_compares_2 7 rfl rfl)
theorem dX4_compares_56 : decode cX4_compares 56 = .ok (.goto 15, 3) := dk_167 0 15 (dk_at dksX4_compares_2 8 rfl rfl)
theorem dX4_compares_59 : decode cX4_compares 59 = .ok (.aload_n 0, 1) := dk_42 (dk_at dksX4_compares_2 11 rfl rfl)
theorem dX4_compares_60 : decode cX4_compares 60 = .ok (.getfield 31, 3) := dk_180 0 31 (dk_at dksX4_compares_2 12 rfl rfl)
theorem dX4_compares_63 : decode cX4_compares 63 = .ok (.iload 6, 2) := dk_21 6 (dk_at dksX4_compares_2 15 rfl rfl)
theorem dX4_compares_65 : decode cX4_compares 65 = .ok (.iconst 2, 1) := dk_5 (dk_at dksX4_compares_2 17 rfl rfl)
theorem dX4_compares_66 : decode cX4_compares 66 = .ok (.iadd, 1) := dk_96 (dk_at dksX4_compares_2 18 rfl rfl)
theorem dX4_compares_67 : decode cX4_compares 67 = .ok (.iaload, 1) := dk_46 (dk_at dksX4_compares_2 19 rfl rfl)
theorem dX4_compares_68 : decode cX4_compares 68 = .ok (.iload 5, 2) := dk_21 5 (dk_at dksX4_compares_2 20 rfl rfl)
theorem dX4_compares_70 : decode cX4_compares 70 = .ok (.isub, 1) := dk_100 (dk_at dksX4_compares_2 22 rfl rfl)
theorem dX4_compares_71 : decode cX4_compares 71 = .ok (.ireturn, 1) := dk_172 (dk_at dksX4_compares_2 23 rfl rfl)
abbrev cX4_rowAt : ByteArray := prog_13_method_29_code
def yX4_rowAt : MethodName := ⟨RX4, "rowAt", "(II)I"⟩
def dkwX4_rowAt_0 : List UInt8 := [16, 6, 6, 16, 12, 26, 104, 27, 96, 104, 96, 172]
abbrev dktX4_rowAt_0 : List UInt8 := dkwX4_rowAt_0 ++ []
theorem dksX4_rowAt_0 : cX4_rowAt.data.toList.drop 0 = dktX4_rowAt_0 := by decide +kernel
theorem dX4_rowAt_0 : decode cX4_rowAt 0 = .ok (.bipush 6, 2) := dk_16 6 (dk_at dksX4_rowAt_0 0 rfl rfl)
theorem dX4_rowAt_2 : decode cX4_rowAt 2 = .ok (.iconst 3, 1) := dk_6 (dk_at dksX4_rowAt_0 2 rfl rfl)
theorem dX4_rowAt_3 : decode cX4_rowAt 3 = .ok (.bipush 12, 2) := dk_16 12 (dk_at dksX4_rowAt_0 3 rfl rfl)
theorem dX4_rowAt_5 : decode cX4_rowAt 5 = .ok (.iload_n 0, 1) := dk_26 (dk_at dksX4_rowAt_0 5 rfl rfl)
theorem dX4_rowAt_6 : decode cX4_rowAt 6 = .ok (.imul, 1) := dk_104 (dk_at dksX4_rowAt_0 6 rfl rfl)
theorem dX4_rowAt_7 : decode cX4_rowAt 7 = .ok (.iload_n 1, 1) := dk_27 (dk_at dksX4_rowAt_0 7 rfl rfl)
theorem dX4_rowAt_8 : decode cX4_rowAt 8 = .ok (.iadd, 1) := dk_96 (dk_at dksX4_rowAt_0 8 rfl rfl)
theorem dX4_rowAt_9 : decode cX4_rowAt 9 = .ok (.imul, 1) := dk_104 (dk_at dksX4_rowAt_0 9 rfl rfl)
theorem dX4_rowAt_10 : decode cX4_rowAt 10 = .ok (.iadd, 1) := dk_96 (dk_at dksX4_rowAt_0 10 rfl rfl)
theorem dX4_rowAt_11 : decode cX4_rowAt 11 = .ok (.ireturn, 1) := dk_172 (dk_at dksX4_rowAt_0 11 rfl rfl)
abbrev cX4_putsNow : ByteArray := prog_13_method_36_code
def yX4_putsNow : MethodName := ⟨RX4, "putsNow", "(IIII)I"⟩
def dkwX4_putsNow_4 : List UInt8 := [96, 21, 4, 79, 42, 180, 0, 31, 5, 27, 96, 92, 46, 4, 96, 79, 42, 27, 182, 0, 186, 172]
abbrev dktX4_putsNow_4 : List UInt8 := dkwX4_putsNow_4 ++ []
def dkwX4_putsNow_3 : List UInt8 := [180, 0, 31, 27, 21, 5, 184, 0, 182, 4, 96, 29, 79, 42, 180, 0, 31, 27, 21, 5, 184, 0, 182, 5]
abbrev dktX4_putsNow_3 : List UInt8 := dkwX4_putsNow_3 ++ dktX4_putsNow_4
def dkwX4_putsNow_2 : List UInt8 := [21, 6, 46, 79, 132, 6, 255, 167, 255, 226, 42, 180, 0, 31, 27, 21, 5, 184, 0, 182, 28, 79, 42]
abbrev dktX4_putsNow_2 : List UInt8 := dkwX4_putsNow_2 ++ dktX4_putsNow_3
def dkwX4_putsNow_1 : List UInt8 := [21, 6, 27, 21, 5, 184, 0, 182, 161, 0, 25, 42, 180, 0, 31, 21, 6, 6, 96, 42, 180, 0, 31]
abbrev dktX4_putsNow_1 : List UInt8 := dkwX4_putsNow_1 ++ dktX4_putsNow_2
def dkwX4_putsNow_0 : List UInt8 := [42, 27, 28, 29, 21, 4, 182, 0, 193, 54, 5, 27, 42, 27, 182, 0, 186, 184, 0, 182, 4, 100, 54, 6]
abbrev dktX4_putsNow_0 : List UInt8 := dkwX4_putsNow_0 ++ dktX4_putsNow_1
theorem dksX4_putsNow_0 : cX4_putsNow.data.toList.drop 0 = dktX4_putsNow_0 := by decide +kernel
theorem dksX4_putsNow_1 : cX4_putsNow.data.toList.drop 24 = dktX4_putsNow_1 := dk_seg dksX4_putsNow_0 24 rfl rfl
theorem dksX4_putsNow_2 : cX4_putsNow.data.toList.drop 47 = dktX4_putsNow_2 := dk_seg dksX4_putsNow_1 23 rfl rfl
theorem dksX4_putsNow_3 : cX4_putsNow.data.toList.drop 70 = dktX4_putsNow_3 := dk_seg dksX4_putsNow_2 23 rfl rfl
theorem dksX4_putsNow_4 : cX4_putsNow.data.toList.drop 94 = dktX4_putsNow_4 := dk_seg dksX4_putsNow_3 24 rfl rfl
theorem dX4_putsNow_0 : decode cX4_putsNow 0 = .ok (.aload_n 0, 1) := dk_42 (dk_at dksX4_putsNow_0 0 rfl rfl)
theorem dX4_putsNow_1 : decode cX4_putsNow 1 = .ok (.iload_n 1, 1) := dk_27 (dk_at dksX4_putsNow_0 1 rfl rfl)
theorem dX4_putsNow_2 : decode cX4_putsNow 2 = .ok (.iload_n 2, 1) := dk_28 (dk_at dksX4_putsNow_0 2 rfl rfl)
theorem dX4_putsNow_3 : decode cX4_putsNow 3 = .ok (.iload_n 3, 1) := dk_29 (dk_at dksX4_putsNow_0 3 rfl rfl)
theorem dX4_putsNow_4 : decode cX4_putsNow 4 = .ok (.iload 4, 2) := dk_21 4 (dk_at dksX4_putsNow_0 4 rfl rfl)
theorem dX4_putsNow_6 : decode cX4_putsNow 6 = .ok (.invokevirtual 193, 3) := dk_182 0 193 (dk_at dksX4_putsNow_0 6 rfl rfl)
theorem dX4_putsNow_9 : decode cX4_putsNow 9 = .ok (.istore 5, 2) := dk_54 5 (dk_at dksX4_putsNow_0 9 rfl rfl)
theorem dX4_putsNow_11 : decode cX4_putsNow 11 = .ok (.iload_n 1, 1) := dk_27 (dk_at dksX4_putsNow_0 11 rfl rfl)
theorem dX4_putsNow_12 : decode cX4_putsNow 12 = .ok (.aload_n 0, 1) := dk_42 (dk_at dksX4_putsNow_0 12 rfl rfl)
theorem dX4_putsNow_13 : decode cX4_putsNow 13 = .ok (.iload_n 1, 1) := dk_27 (dk_at dksX4_putsNow_0 13 rfl rfl)
theorem dX4_putsNow_14 : decode cX4_putsNow 14 = .ok (.invokevirtual 186, 3) := dk_182 0 186 (dk_at dksX4_putsNow_0 14 rfl rfl)
theorem dX4_putsNow_17 : decode cX4_putsNow 17 = .ok (.invokestatic 182, 3) := dk_184 0 182 (dk_at dksX4_putsNow_0 17 rfl rfl)
theorem dX4_putsNow_20 : decode cX4_putsNow 20 = .ok (.iconst 1, 1) := dk_4 (dk_at dksX4_putsNow_0 20 rfl rfl)
theorem dX4_putsNow_21 : decode cX4_putsNow 21 = .ok (.isub, 1) := dk_100 (dk_at dksX4_putsNow_0 21 rfl rfl)
theorem dX4_putsNow_22 : decode cX4_putsNow 22 = .ok (.istore 6, 2) := dk_54 6 (dk_at dksX4_putsNow_0 22 rfl rfl)
theorem dX4_putsNow_24 : decode cX4_putsNow 24 = .ok (.iload 6, 2) := dk_21 6 (dk_at dksX4_putsNow_1 0 rfl rfl)
theorem dX4_putsNow_26 : decode cX4_putsNow 26 = .ok (.iload_n 1, 1) := dk_27 (dk_at dksX4_putsNow_1 2 rfl rfl)
theorem dX4_putsNow_27 : decode cX4_putsNow 27 = .ok (.iload 5, 2) := dk_21 5 (dk_at dksX4_putsNow_1 3 rfl rfl)
theorem dX4_putsNow_29 : decode cX4_putsNow 29 = .ok (.invokestatic 182, 3) := dk_184 0 182 (dk_at dksX4_putsNow_1 5 rfl rfl)
theorem dX4_putsNow_32 : decode cX4_putsNow 32 = .ok (.if_icmp .lt 25, 3) := dk_161 0 25 (dk_at dksX4_putsNow_1 8 rfl rfl)
theorem dX4_putsNow_35 : decode cX4_putsNow 35 = .ok (.aload_n 0, 1) := dk_42 (dk_at dksX4_putsNow_1 11 rfl rfl)
theorem dX4_putsNow_36 : decode cX4_putsNow 36 = .ok (.getfield 31, 3) := dk_180 0 31 (dk_at dksX4_putsNow_1 12 rfl rfl)
theorem dX4_putsNow_39 : decode cX4_putsNow 39 = .ok (.iload 6, 2) := dk_21 6 (dk_at dksX4_putsNow_1 15 rfl rfl)
theorem dX4_putsNow_41 : decode cX4_putsNow 41 = .ok (.iconst 3, 1) := dk_6 (dk_at dksX4_putsNow_1 17 rfl rfl)
theorem dX4_putsNow_42 : decode cX4_putsNow 42 = .ok (.iadd, 1) := dk_96 (dk_at dksX4_putsNow_1 18 rfl rfl)
theorem dX4_putsNow_43 : decode cX4_putsNow 43 = .ok (.aload_n 0, 1) := dk_42 (dk_at dksX4_putsNow_1 19 rfl rfl)
theorem dX4_putsNow_44 : decode cX4_putsNow 44 = .ok (.getfield 31, 3) := dk_180 0 31 (dk_at dksX4_putsNow_1 20 rfl rfl)
theorem dX4_putsNow_47 : decode cX4_putsNow 47 = .ok (.iload 6, 2) := dk_21 6 (dk_at dksX4_putsNow_2 0 rfl rfl)
theorem dX4_putsNow_49 : decode cX4_putsNow 49 = .ok (.iaload, 1) := dk_46 (dk_at dksX4_putsNow_2 2 rfl rfl)
theorem dX4_putsNow_50 : decode cX4_putsNow 50 = .ok (.iastore, 1) := dk_79 (dk_at dksX4_putsNow_2 3 rfl rfl)
theorem dX4_putsNow_51 : decode cX4_putsNow 51 = .ok (.iinc 6 (-1), 3) := dk_132 6 255 (dk_at dksX4_putsNow_2 4 rfl rfl)
theorem dX4_putsNow_54 : decode cX4_putsNow 54 = .ok (.goto (-30), 3) := dk_167 255 226 (dk_at dksX4_putsNow_2 7 rfl rfl)
theorem dX4_putsNow_57 : decode cX4_putsNow 57 = .ok (.aload_n 0, 1) := dk_42 (dk_at dksX4_putsNow_2 10 rfl rfl)
theorem dX4_putsNow_58 : decode cX4_putsNow 58 = .ok (.getfield 31, 3) := dk_180 0 31 (dk_at dksX4_putsNow_2 11 rfl rfl)
theorem dX4_putsNow_61 : decode cX4_putsNow 61 = .ok (.iload_n 1, 1) := dk_27 (dk_at dksX4_putsNow_2 14 rfl rfl)
theorem dX4_putsNow_62 : decode cX4_putsNow 62 = .ok (.iload 5, 2) := dk_21 5 (dk_at dksX4_putsNow_2 15 rfl rfl)
theorem dX4_putsNow_64 : decode cX4_putsNow 64 = .ok (.invokestatic 182, 3) := dk_184 0 182 (dk_at dksX4_putsNow_2 17 rfl rfl)
theorem dX4_putsNow_67 : decode cX4_putsNow 67 = .ok (.iload_n 2, 1) := dk_28 (dk_at dksX4_putsNow_2 20 rfl rfl)
theorem dX4_putsNow_68 : decode cX4_putsNow 68 = .ok (.iastore, 1) := dk_79 (dk_at dksX4_putsNow_2 21 rfl rfl)
theorem dX4_putsNow_69 : decode cX4_putsNow 69 = .ok (.aload_n 0, 1) := dk_42 (dk_at dksX4_putsNow_2 22 rfl rfl)
theorem dX4_putsNow_70 : decode cX4_putsNow 70 = .ok (.getfield 31, 3) := dk_180 0 31 (dk_at dksX4_putsNow_3 0 rfl rfl)
theorem dX4_putsNow_73 : decode cX4_putsNow 73 = .ok (.iload_n 1, 1) := dk_27 (dk_at dksX4_putsNow_3 3 rfl rfl)
theorem dX4_putsNow_74 : decode cX4_putsNow 74 = .ok (.iload 5, 2) := dk_21 5 (dk_at dksX4_putsNow_3 4 rfl rfl)
theorem dX4_putsNow_76 : decode cX4_putsNow 76 = .ok (.invokestatic 182, 3) := dk_184 0 182 (dk_at dksX4_putsNow_3 6 rfl rfl)
theorem dX4_putsNow_79 : decode cX4_putsNow 79 = .ok (.iconst 1, 1) := dk_4 (dk_at dksX4_putsNow_3 9 rfl rfl)
theorem dX4_putsNow_80 : decode cX4_putsNow 80 = .ok (.iadd, 1) := dk_96 (dk_at dksX4_putsNow_3 10 rfl rfl)
theorem dX4_putsNow_81 : decode cX4_putsNow 81 = .ok (.iload_n 3, 1) := dk_29 (dk_at dksX4_putsNow_3 11 rfl rfl)
theorem dX4_putsNow_82 : decode cX4_putsNow 82 = .ok (.iastore, 1) := dk_79 (dk_at dksX4_putsNow_3 12 rfl rfl)
theorem dX4_putsNow_83 : decode cX4_putsNow 83 = .ok (.aload_n 0, 1) := dk_42 (dk_at dksX4_putsNow_3 13 rfl rfl)
theorem dX4_putsNow_84 : decode cX4_putsNow 84 = .ok (.getfield 31, 3) := dk_180 0 31 (dk_at dksX4_putsNow_3 14 rfl rfl)
theorem dX4_putsNow_87 : decode cX4_putsNow 87 = .ok (.iload_n 1, 1) := dk_27 (dk_at dksX4_putsNow_3 17 rfl rfl)
theorem dX4_putsNow_88 : decode cX4_putsNow 88 = .ok (.iload 5, 2) := dk_21 5 (dk_at dksX4_putsNow_3 18 rfl rfl)
theorem dX4_putsNow_90 : decode cX4_putsNow 90 = .ok (.invokestatic 182, 3) := dk_184 0 182 (dk_at dksX4_putsNow_3 20 rfl rfl)
theorem dX4_putsNow_93 : decode cX4_putsNow 93 = .ok (.iconst 2, 1) := dk_5 (dk_at dksX4_putsNow_3 23 rfl rfl)
theorem dX4_putsNow_94 : decode cX4_putsNow 94 = .ok (.iadd, 1) := dk_96 (dk_at dksX4_putsNow_4 0 rfl rfl)
theorem dX4_putsNow_95 : decode cX4_putsNow 95 = .ok (.iload 4, 2) := dk_21 4 (dk_at dksX4_putsNow_4 1 rfl rfl)
theorem dX4_putsNow_97 : decode cX4_putsNow 97 = .ok (.iastore, 1) := dk_79 (dk_at dksX4_putsNow_4 3 rfl rfl)
theorem dX4_putsNow_98 : decode cX4_putsNow 98 = .ok (.aload_n 0, 1) := dk_42 (dk_at dksX4_putsNow_4 4 rfl rfl)
theorem dX4_putsNow_99 : decode cX4_putsNow 99 = .ok (.getfield 31, 3) := dk_180 0 31 (dk_at dksX4_putsNow_4 5 rfl rfl)
theorem dX4_putsNow_102 : decode cX4_putsNow 102 = .ok (.iconst 2, 1) := dk_5 (dk_at dksX4_putsNow_4 8 rfl rfl)
theorem dX4_putsNow_103 : decode cX4_putsNow 103 = .ok (.iload_n 1, 1) := dk_27 (dk_at dksX4_putsNow_4 9 rfl rfl)
theorem dX4_putsNow_104 : decode cX4_putsNow 104 = .ok (.iadd, 1) := dk_96 (dk_at dksX4_putsNow_4 10 rfl rfl)
theorem dX4_putsNow_105 : decode cX4_putsNow 105 = .ok (.dup2, 1) := dk_92 (dk_at dksX4_putsNow_4 11 rfl rfl)
theorem dX4_putsNow_106 : decode cX4_putsNow 106 = .ok (.iaload, 1) := dk_46 (dk_at dksX4_putsNow_4 12 rfl rfl)
theorem dX4_putsNow_107 : decode cX4_putsNow 107 = .ok (.iconst 1, 1) := dk_4 (dk_at dksX4_putsNow_4 13 rfl rfl)
theorem dX4_putsNow_108 : decode cX4_putsNow 108 = .ok (.iadd, 1) := dk_96 (dk_at dksX4_putsNow_4 14 rfl rfl)
theorem dX4_putsNow_109 : decode cX4_putsNow 109 = .ok (.iastore, 1) := dk_79 (dk_at dksX4_putsNow_4 15 rfl rfl)
theorem dX4_putsNow_110 : decode cX4_putsNow 110 = .ok (.aload_n 0, 1) := dk_42 (dk_at dksX4_putsNow_4 16 rfl rfl)
theorem dX4_putsNow_111 : decode cX4_putsNow 111 = .ok (.iload_n 1, 1) := dk_27 (dk_at dksX4_putsNow_4 17 rfl rfl)
theorem dX4_putsNow_112 : decode cX4_putsNow 112 = .ok (.invokevirtual 186, 3) := dk_182 0 186 (dk_at dksX4_putsNow_4 18 rfl rfl)
theorem dX4_putsNow_115 : decode cX4_putsNow 115 = .ok (.ireturn, 1) := dk_172 (dk_at dksX4_putsNow_4 21 rfl rfl)
abbrev cX4_put : ByteArray := prog_13_method_67_code
def yX4_put : MethodName := ⟨RX4, "put", "(IIII)I"⟩
def dkwX4_put_0 : List UInt8 := [42, 3, 27, 28, 29, 21, 4, 182, 1, 61, 172]
abbrev dktX4_put_0 : List UInt8 := dkwX4_put_0 ++ []
theorem dksX4_put_0 : cX4_put.data.toList.drop 0 = dktX4_put_0 := by decide +kernel
theorem dX4_put_0 : decode cX4_put 0 = .ok (.aload_n 0, 1) := dk_42 (dk_at dksX4_put_0 0 rfl rfl)
theorem dX4_put_1 : decode cX4_put 1 = .ok (.iconst 0, 1) := dk_3 (dk_at dksX4_put_0 1 rfl rfl)
theorem dX4_put_2 : decode cX4_put 2 = .ok (.iload_n 1, 1) := dk_27 (dk_at dksX4_put_0 2 rfl rfl)
theorem dX4_put_3 : decode cX4_put 3 = .ok (.iload_n 2, 1) := dk_28 (dk_at dksX4_put_0 3 rfl rfl)
theorem dX4_put_4 : decode cX4_put 4 = .ok (.iload_n 3, 1) := dk_29 (dk_at dksX4_put_0 4 rfl rfl)
theorem dX4_put_5 : decode cX4_put 5 = .ok (.iload 4, 2) := dk_21 4 (dk_at dksX4_put_0 5 rfl rfl)
theorem dX4_put_7 : decode cX4_put 7 = .ok (.invokevirtual 317, 3) := dk_182 1 61 (dk_at dksX4_put_0 7 rfl rfl)
theorem dX4_put_10 : decode cX4_put 10 = .ok (.ireturn, 1) := dk_172 (dk_at dksX4_put_0 10 rfl rfl)
abbrev cX4_hand : ByteArray := prog_13_method_66_code
def yX4_hand : MethodName := ⟨RX4, "hand", "(IIIII)I"⟩
def dkwX4_hand_1 : List UInt8 := [21, 6, 92, 46, 4, 96, 79, 2, 172, 42, 27, 28, 29, 21, 4, 21, 5, 182, 1, 58, 172]
abbrev dktX4_hand_1 : List UInt8 := dkwX4_hand_1 ++ []
def dkwX4_hand_0 : List UInt8 := [42, 27, 28, 29, 21, 4, 21, 5, 182, 1, 55, 54, 6, 21, 6, 2, 159, 0, 16, 42, 180, 0, 34]
abbrev dktX4_hand_0 : List UInt8 := dkwX4_hand_0 ++ dktX4_hand_1
theorem dksX4_hand_0 : cX4_hand.data.toList.drop 0 = dktX4_hand_0 := by decide +kernel
theorem dksX4_hand_1 : cX4_hand.data.toList.drop 23 = dktX4_hand_1 := dk_seg dksX4_hand_0 23 rfl rfl
theorem dX4_hand_0 : decode cX4_hand 0 = .ok (.aload_n 0, 1) := dk_42 (dk_at dksX4_hand_0 0 rfl rfl)
theorem dX4_hand_1 : decode cX4_hand 1 = .ok (.iload_n 1, 1) := dk_27 (dk_at dksX4_hand_0 1 rfl rfl)
theorem dX4_hand_2 : decode cX4_hand 2 = .ok (.iload_n 2, 1) := dk_28 (dk_at dksX4_hand_0 2 rfl rfl)
theorem dX4_hand_3 : decode cX4_hand 3 = .ok (.iload_n 3, 1) := dk_29 (dk_at dksX4_hand_0 3 rfl rfl)
theorem dX4_hand_4 : decode cX4_hand 4 = .ok (.iload 4, 2) := dk_21 4 (dk_at dksX4_hand_0 4 rfl rfl)
theorem dX4_hand_6 : decode cX4_hand 6 = .ok (.iload 5, 2) := dk_21 5 (dk_at dksX4_hand_0 6 rfl rfl)
theorem dX4_hand_8 : decode cX4_hand 8 = .ok (.invokevirtual 311, 3) := dk_182 1 55 (dk_at dksX4_hand_0 8 rfl rfl)
theorem dX4_hand_11 : decode cX4_hand 11 = .ok (.istore 6, 2) := dk_54 6 (dk_at dksX4_hand_0 11 rfl rfl)
theorem dX4_hand_13 : decode cX4_hand 13 = .ok (.iload 6, 2) := dk_21 6 (dk_at dksX4_hand_0 13 rfl rfl)
theorem dX4_hand_15 : decode cX4_hand 15 = .ok (.iconst (-1), 1) := dk_2 (dk_at dksX4_hand_0 15 rfl rfl)
theorem dX4_hand_16 : decode cX4_hand 16 = .ok (.if_icmp .eq 16, 3) := dk_159 0 16 (dk_at dksX4_hand_0 16 rfl rfl)
theorem dX4_hand_19 : decode cX4_hand 19 = .ok (.aload_n 0, 1) := dk_42 (dk_at dksX4_hand_0 19 rfl rfl)
theorem dX4_hand_20 : decode cX4_hand 20 = .ok (.getfield 34, 3) := dk_180 0 34 (dk_at dksX4_hand_0 20 rfl rfl)
theorem dX4_hand_23 : decode cX4_hand 23 = .ok (.iload 6, 2) := dk_21 6 (dk_at dksX4_hand_1 0 rfl rfl)
theorem dX4_hand_25 : decode cX4_hand 25 = .ok (.dup2, 1) := dk_92 (dk_at dksX4_hand_1 2 rfl rfl)
theorem dX4_hand_26 : decode cX4_hand 26 = .ok (.iaload, 1) := dk_46 (dk_at dksX4_hand_1 3 rfl rfl)
theorem dX4_hand_27 : decode cX4_hand 27 = .ok (.iconst 1, 1) := dk_4 (dk_at dksX4_hand_1 4 rfl rfl)
theorem dX4_hand_28 : decode cX4_hand 28 = .ok (.iadd, 1) := dk_96 (dk_at dksX4_hand_1 5 rfl rfl)
theorem dX4_hand_29 : decode cX4_hand 29 = .ok (.iastore, 1) := dk_79 (dk_at dksX4_hand_1 6 rfl rfl)
theorem dX4_hand_30 : decode cX4_hand 30 = .ok (.iconst (-1), 1) := dk_2 (dk_at dksX4_hand_1 7 rfl rfl)
theorem dX4_hand_31 : decode cX4_hand 31 = .ok (.ireturn, 1) := dk_172 (dk_at dksX4_hand_1 8 rfl rfl)
theorem dX4_hand_32 : decode cX4_hand 32 = .ok (.aload_n 0, 1) := dk_42 (dk_at dksX4_hand_1 9 rfl rfl)
theorem dX4_hand_33 : decode cX4_hand 33 = .ok (.iload_n 1, 1) := dk_27 (dk_at dksX4_hand_1 10 rfl rfl)
theorem dX4_hand_34 : decode cX4_hand 34 = .ok (.iload_n 2, 1) := dk_28 (dk_at dksX4_hand_1 11 rfl rfl)
theorem dX4_hand_35 : decode cX4_hand 35 = .ok (.iload_n 3, 1) := dk_29 (dk_at dksX4_hand_1 12 rfl rfl)
theorem dX4_hand_36 : decode cX4_hand 36 = .ok (.iload 4, 2) := dk_21 4 (dk_at dksX4_hand_1 13 rfl rfl)
theorem dX4_hand_38 : decode cX4_hand 38 = .ok (.iload 5, 2) := dk_21 5 (dk_at dksX4_hand_1 15 rfl rfl)
theorem dX4_hand_40 : decode cX4_hand 40 = .ok (.invokevirtual 314, 3) := dk_182 1 58 (dk_at dksX4_hand_1 17 rfl rfl)
theorem dX4_hand_43 : decode cX4_hand 43 = .ok (.ireturn, 1) := dk_172 (dk_at dksX4_hand_1 20 rfl rfl)
abbrev cX4_whyNot : ByteArray := prog_13_method_60_code
def yX4_whyNot : MethodName := ⟨RX4, "whyNot", "(IIIII)I"⟩
def dkwX4_whyNot_5 : List UInt8 := [154, 0, 7, 4, 167, 0, 18, 42, 180, 0, 31, 4, 46, 28, 160, 0, 7, 5, 167, 0, 4, 2, 172]
abbrev dktX4_whyNot_5 : List UInt8 := dkwX4_whyNot_5 ++ []
def dkwX4_whyNot_4 : List UInt8 := [167, 0, 4, 2, 172, 42, 182, 1, 21, 154, 0, 7, 3, 167, 0, 32, 28, 3, 16, 23, 184, 0, 104]
abbrev dktX4_whyNot_4 : List UInt8 := dkwX4_whyNot_4 ++ dktX4_whyNot_5
def dkwX4_whyNot_3 : List UInt8 := [182, 1, 25, 154, 0, 7, 3, 167, 0, 20, 42, 180, 0, 31, 3, 46, 4, 28, 120, 160, 0, 7, 5]
abbrev dktX4_whyNot_3 : List UInt8 := dkwX4_whyNot_3 ++ dktX4_whyNot_4
def dkwX4_whyNot_2 : List UInt8 := [42, 28, 29, 21, 4, 21, 5, 182, 1, 31, 172, 42, 28, 29, 21, 4, 21, 5, 182, 1, 34, 172, 42, 28]
abbrev dktX4_whyNot_2 : List UInt8 := dkwX4_whyNot_2 ++ dktX4_whyNot_3
def dkwX4_whyNot_1 : List UInt8 := [170, 0, 0, 0, 0, 0, 79, 0, 0, 0, 0, 0, 0, 0, 2, 0, 0, 0, 27, 0, 0, 0, 38, 0, 0, 0, 49]
abbrev dktX4_whyNot_1 : List UInt8 := dkwX4_whyNot_1 ++ dktX4_whyNot_2
def dkwX4_whyNot_0 : List UInt8 := [27]
abbrev dktX4_whyNot_0 : List UInt8 := dkwX4_whyNot_0 ++ dktX4_whyNot_1
theorem dksX4_whyNot_0 : cX4_whyNot.data.toList.drop 0 = dktX4_whyNot_0 := by decide +kernel
theorem dksX4_whyNot_1 : cX4_whyNot.data.toList.drop 1 = dktX4_whyNot_1 := dk_seg dksX4_whyNot_0 1 rfl rfl
theorem dksX4_whyNot_2 : cX4_whyNot.data.toList.drop 28 = dktX4_whyNot_2 := dk_seg dksX4_whyNot_1 27 rfl rfl
theorem dksX4_whyNot_3 : cX4_whyNot.data.toList.drop 52 = dktX4_whyNot_3 := dk_seg dksX4_whyNot_2 24 rfl rfl
theorem dksX4_whyNot_4 : cX4_whyNot.data.toList.drop 75 = dktX4_whyNot_4 := dk_seg dksX4_whyNot_3 23 rfl rfl
theorem dksX4_whyNot_5 : cX4_whyNot.data.toList.drop 98 = dktX4_whyNot_5 := dk_seg dksX4_whyNot_4 23 rfl rfl
theorem dX4_whyNot_0 : decode cX4_whyNot 0 = .ok (.iload_n 1, 1) := dk_27 (dk_at dksX4_whyNot_0 0 rfl rfl)
theorem dX4_whyNot_1 : decode cX4_whyNot 1 = .ok (.tableswitch 79 0 2 #[27, 38, 49], 27) := by decide +kernel
theorem dX4_whyNot_28 : decode cX4_whyNot 28 = .ok (.aload_n 0, 1) := dk_42 (dk_at dksX4_whyNot_2 0 rfl rfl)
theorem dX4_whyNot_29 : decode cX4_whyNot 29 = .ok (.iload_n 2, 1) := dk_28 (dk_at dksX4_whyNot_2 1 rfl rfl)
theorem dX4_whyNot_30 : decode cX4_whyNot 30 = .ok (.iload_n 3, 1) := dk_29 (dk_at dksX4_whyNot_2 2 rfl rfl)
theorem dX4_whyNot_31 : decode cX4_whyNot 31 = .ok (.iload 4, 2) := dk_21 4 (dk_at dksX4_whyNot_2 3 rfl rfl)
theorem dX4_whyNot_33 : decode cX4_whyNot 33 = .ok (.iload 5, 2) := dk_21 5 (dk_at dksX4_whyNot_2 5 rfl rfl)
theorem dX4_whyNot_35 : decode cX4_whyNot 35 = .ok (.invokevirtual 287, 3) := dk_182 1 31 (dk_at dksX4_whyNot_2 7 rfl rfl)
theorem dX4_whyNot_38 : decode cX4_whyNot 38 = .ok (.ireturn, 1) := dk_172 (dk_at dksX4_whyNot_2 10 rfl rfl)
theorem dX4_whyNot_39 : decode cX4_whyNot 39 = .ok (.aload_n 0, 1) := dk_42 (dk_at dksX4_whyNot_2 11 rfl rfl)
theorem dX4_whyNot_40 : decode cX4_whyNot 40 = .ok (.iload_n 2, 1) := dk_28 (dk_at dksX4_whyNot_2 12 rfl rfl)
theorem dX4_whyNot_41 : decode cX4_whyNot 41 = .ok (.iload_n 3, 1) := dk_29 (dk_at dksX4_whyNot_2 13 rfl rfl)
theorem dX4_whyNot_42 : decode cX4_whyNot 42 = .ok (.iload 4, 2) := dk_21 4 (dk_at dksX4_whyNot_2 14 rfl rfl)
theorem dX4_whyNot_44 : decode cX4_whyNot 44 = .ok (.iload 5, 2) := dk_21 5 (dk_at dksX4_whyNot_2 16 rfl rfl)
theorem dX4_whyNot_46 : decode cX4_whyNot 46 = .ok (.invokevirtual 290, 3) := dk_182 1 34 (dk_at dksX4_whyNot_2 18 rfl rfl)
theorem dX4_whyNot_49 : decode cX4_whyNot 49 = .ok (.ireturn, 1) := dk_172 (dk_at dksX4_whyNot_2 21 rfl rfl)
theorem dX4_whyNot_50 : decode cX4_whyNot 50 = .ok (.aload_n 0, 1) := dk_42 (dk_at dksX4_whyNot_2 22 rfl rfl)
theorem dX4_whyNot_51 : decode cX4_whyNot 51 = .ok (.iload_n 2, 1) := dk_28 (dk_at dksX4_whyNot_2 23 rfl rfl)
theorem dX4_whyNot_52 : decode cX4_whyNot 52 = .ok (.invokevirtual 281, 3) := dk_182 1 25 (dk_at dksX4_whyNot_3 0 rfl rfl)
theorem dX4_whyNot_55 : decode cX4_whyNot 55 = .ok (.ifCond .ne 7, 3) := dk_154 0 7 (dk_at dksX4_whyNot_3 3 rfl rfl)
theorem dX4_whyNot_58 : decode cX4_whyNot 58 = .ok (.iconst 0, 1) := dk_3 (dk_at dksX4_whyNot_3 6 rfl rfl)
theorem dX4_whyNot_59 : decode cX4_whyNot 59 = .ok (.goto 20, 3) := dk_167 0 20 (dk_at dksX4_whyNot_3 7 rfl rfl)
theorem dX4_whyNot_62 : decode cX4_whyNot 62 = .ok (.aload_n 0, 1) := dk_42 (dk_at dksX4_whyNot_3 10 rfl rfl)
theorem dX4_whyNot_63 : decode cX4_whyNot 63 = .ok (.getfield 31, 3) := dk_180 0 31 (dk_at dksX4_whyNot_3 11 rfl rfl)
theorem dX4_whyNot_66 : decode cX4_whyNot 66 = .ok (.iconst 0, 1) := dk_3 (dk_at dksX4_whyNot_3 14 rfl rfl)
theorem dX4_whyNot_67 : decode cX4_whyNot 67 = .ok (.iaload, 1) := dk_46 (dk_at dksX4_whyNot_3 15 rfl rfl)
theorem dX4_whyNot_68 : decode cX4_whyNot 68 = .ok (.iconst 1, 1) := dk_4 (dk_at dksX4_whyNot_3 16 rfl rfl)
theorem dX4_whyNot_69 : decode cX4_whyNot 69 = .ok (.iload_n 2, 1) := dk_28 (dk_at dksX4_whyNot_3 17 rfl rfl)
theorem dX4_whyNot_70 : decode cX4_whyNot 70 = .ok (.ishl, 1) := dk_120 (dk_at dksX4_whyNot_3 18 rfl rfl)
theorem dX4_whyNot_71 : decode cX4_whyNot 71 = .ok (.if_icmp .ne 7, 3) := dk_160 0 7 (dk_at dksX4_whyNot_3 19 rfl rfl)
theorem dX4_whyNot_74 : decode cX4_whyNot 74 = .ok (.iconst 2, 1) := dk_5 (dk_at dksX4_whyNot_3 22 rfl rfl)
theorem dX4_whyNot_75 : decode cX4_whyNot 75 = .ok (.goto 4, 3) := dk_167 0 4 (dk_at dksX4_whyNot_4 0 rfl rfl)
theorem dX4_whyNot_78 : decode cX4_whyNot 78 = .ok (.iconst (-1), 1) := dk_2 (dk_at dksX4_whyNot_4 3 rfl rfl)
theorem dX4_whyNot_79 : decode cX4_whyNot 79 = .ok (.ireturn, 1) := dk_172 (dk_at dksX4_whyNot_4 4 rfl rfl)
theorem dX4_whyNot_80 : decode cX4_whyNot 80 = .ok (.aload_n 0, 1) := dk_42 (dk_at dksX4_whyNot_4 5 rfl rfl)
theorem dX4_whyNot_81 : decode cX4_whyNot 81 = .ok (.invokevirtual 277, 3) := dk_182 1 21 (dk_at dksX4_whyNot_4 6 rfl rfl)
theorem dX4_whyNot_84 : decode cX4_whyNot 84 = .ok (.ifCond .ne 7, 3) := dk_154 0 7 (dk_at dksX4_whyNot_4 9 rfl rfl)
theorem dX4_whyNot_87 : decode cX4_whyNot 87 = .ok (.iconst 0, 1) := dk_3 (dk_at dksX4_whyNot_4 12 rfl rfl)
theorem dX4_whyNot_88 : decode cX4_whyNot 88 = .ok (.goto 32, 3) := dk_167 0 32 (dk_at dksX4_whyNot_4 13 rfl rfl)
theorem dX4_whyNot_91 : decode cX4_whyNot 91 = .ok (.iload_n 2, 1) := dk_28 (dk_at dksX4_whyNot_4 16 rfl rfl)
theorem dX4_whyNot_92 : decode cX4_whyNot 92 = .ok (.iconst 0, 1) := dk_3 (dk_at dksX4_whyNot_4 17 rfl rfl)
theorem dX4_whyNot_93 : decode cX4_whyNot 93 = .ok (.bipush 23, 2) := dk_16 23 (dk_at dksX4_whyNot_4 18 rfl rfl)
theorem dX4_whyNot_95 : decode cX4_whyNot 95 = .ok (.invokestatic 104, 3) := dk_184 0 104 (dk_at dksX4_whyNot_4 20 rfl rfl)
theorem dX4_whyNot_98 : decode cX4_whyNot 98 = .ok (.ifCond .ne 7, 3) := dk_154 0 7 (dk_at dksX4_whyNot_5 0 rfl rfl)
theorem dX4_whyNot_101 : decode cX4_whyNot 101 = .ok (.iconst 1, 1) := dk_4 (dk_at dksX4_whyNot_5 3 rfl rfl)
theorem dX4_whyNot_102 : decode cX4_whyNot 102 = .ok (.goto 18, 3) := dk_167 0 18 (dk_at dksX4_whyNot_5 4 rfl rfl)
theorem dX4_whyNot_105 : decode cX4_whyNot 105 = .ok (.aload_n 0, 1) := dk_42 (dk_at dksX4_whyNot_5 7 rfl rfl)
theorem dX4_whyNot_106 : decode cX4_whyNot 106 = .ok (.getfield 31, 3) := dk_180 0 31 (dk_at dksX4_whyNot_5 8 rfl rfl)
theorem dX4_whyNot_109 : decode cX4_whyNot 109 = .ok (.iconst 1, 1) := dk_4 (dk_at dksX4_whyNot_5 11 rfl rfl)
theorem dX4_whyNot_110 : decode cX4_whyNot 110 = .ok (.iaload, 1) := dk_46 (dk_at dksX4_whyNot_5 12 rfl rfl)
theorem dX4_whyNot_111 : decode cX4_whyNot 111 = .ok (.iload_n 2, 1) := dk_28 (dk_at dksX4_whyNot_5 13 rfl rfl)
theorem dX4_whyNot_112 : decode cX4_whyNot 112 = .ok (.if_icmp .ne 7, 3) := dk_160 0 7 (dk_at dksX4_whyNot_5 14 rfl rfl)
theorem dX4_whyNot_115 : decode cX4_whyNot 115 = .ok (.iconst 2, 1) := dk_5 (dk_at dksX4_whyNot_5 17 rfl rfl)
theorem dX4_whyNot_116 : decode cX4_whyNot 116 = .ok (.goto 4, 3) := dk_167 0 4 (dk_at dksX4_whyNot_5 18 rfl rfl)
theorem dX4_whyNot_119 : decode cX4_whyNot 119 = .ok (.iconst (-1), 1) := dk_2 (dk_at dksX4_whyNot_5 21 rfl rfl)
theorem dX4_whyNot_120 : decode cX4_whyNot 120 = .ok (.ireturn, 1) := dk_172 (dk_at dksX4_whyNot_5 22 rfl rfl)
abbrev cX4_whyPut : ByteArray := prog_13_method_58_code
def yX4_whyPut : MethodName := ⟨RX4, "whyPut", "(IIII)I"⟩
def dkwX4_whyPut_2 : List UInt8 := [16, 12, 160, 0, 7, 6, 167, 0, 4, 2, 172]
abbrev dktX4_whyPut_2 : List UInt8 := dkwX4_whyPut_2 ++ []
def dkwX4_whyPut_1 : List UInt8 := [167, 0, 34, 42, 27, 28, 29, 21, 4, 182, 0, 197, 153, 0, 7, 5, 167, 0, 18, 42, 27, 182, 0, 186]
abbrev dktX4_whyPut_1 : List UInt8 := dkwX4_whyPut_1 ++ dktX4_whyPut_2
def dkwX4_whyPut_0 : List UInt8 := [42, 27, 182, 1, 25, 154, 0, 5, 3, 172, 42, 27, 28, 29, 21, 4, 182, 1, 28, 154, 0, 7, 4]
abbrev dktX4_whyPut_0 : List UInt8 := dkwX4_whyPut_0 ++ dktX4_whyPut_1
theorem dksX4_whyPut_0 : cX4_whyPut.data.toList.drop 0 = dktX4_whyPut_0 := by decide +kernel
theorem dksX4_whyPut_1 : cX4_whyPut.data.toList.drop 23 = dktX4_whyPut_1 := dk_seg dksX4_whyPut_0 23 rfl rfl
theorem dksX4_whyPut_2 : cX4_whyPut.data.toList.drop 47 = dktX4_whyPut_2 := dk_seg dksX4_whyPut_1 24 rfl rfl
theorem dX4_whyPut_0 : decode cX4_whyPut 0 = .ok (.aload_n 0, 1) := dk_42 (dk_at dksX4_whyPut_0 0 rfl rfl)
theorem dX4_whyPut_1 : decode cX4_whyPut 1 = .ok (.iload_n 1, 1) := dk_27 (dk_at dksX4_whyPut_0 1 rfl rfl)
theorem dX4_whyPut_2 : decode cX4_whyPut 2 = .ok (.invokevirtual 281, 3) := dk_182 1 25 (dk_at dksX4_whyPut_0 2 rfl rfl)
theorem dX4_whyPut_5 : decode cX4_whyPut 5 = .ok (.ifCond .ne 5, 3) := dk_154 0 5 (dk_at dksX4_whyPut_0 5 rfl rfl)
theorem dX4_whyPut_8 : decode cX4_whyPut 8 = .ok (.iconst 0, 1) := dk_3 (dk_at dksX4_whyPut_0 8 rfl rfl)
theorem dX4_whyPut_9 : decode cX4_whyPut 9 = .ok (.ireturn, 1) := dk_172 (dk_at dksX4_whyPut_0 9 rfl rfl)
theorem dX4_whyPut_10 : decode cX4_whyPut 10 = .ok (.aload_n 0, 1) := dk_42 (dk_at dksX4_whyPut_0 10 rfl rfl)
theorem dX4_whyPut_11 : decode cX4_whyPut 11 = .ok (.iload_n 1, 1) := dk_27 (dk_at dksX4_whyPut_0 11 rfl rfl)
theorem dX4_whyPut_12 : decode cX4_whyPut 12 = .ok (.iload_n 2, 1) := dk_28 (dk_at dksX4_whyPut_0 12 rfl rfl)
theorem dX4_whyPut_13 : decode cX4_whyPut 13 = .ok (.iload_n 3, 1) := dk_29 (dk_at dksX4_whyPut_0 13 rfl rfl)
theorem dX4_whyPut_14 : decode cX4_whyPut 14 = .ok (.iload 4, 2) := dk_21 4 (dk_at dksX4_whyPut_0 14 rfl rfl)
theorem dX4_whyPut_16 : decode cX4_whyPut 16 = .ok (.invokevirtual 284, 3) := dk_182 1 28 (dk_at dksX4_whyPut_0 16 rfl rfl)
theorem dX4_whyPut_19 : decode cX4_whyPut 19 = .ok (.ifCond .ne 7, 3) := dk_154 0 7 (dk_at dksX4_whyPut_0 19 rfl rfl)
theorem dX4_whyPut_22 : decode cX4_whyPut 22 = .ok (.iconst 1, 1) := dk_4 (dk_at dksX4_whyPut_0 22 rfl rfl)
theorem dX4_whyPut_23 : decode cX4_whyPut 23 = .ok (.goto 34, 3) := dk_167 0 34 (dk_at dksX4_whyPut_1 0 rfl rfl)
theorem dX4_whyPut_26 : decode cX4_whyPut 26 = .ok (.aload_n 0, 1) := dk_42 (dk_at dksX4_whyPut_1 3 rfl rfl)
theorem dX4_whyPut_27 : decode cX4_whyPut 27 = .ok (.iload_n 1, 1) := dk_27 (dk_at dksX4_whyPut_1 4 rfl rfl)
theorem dX4_whyPut_28 : decode cX4_whyPut 28 = .ok (.iload_n 2, 1) := dk_28 (dk_at dksX4_whyPut_1 5 rfl rfl)
theorem dX4_whyPut_29 : decode cX4_whyPut 29 = .ok (.iload_n 3, 1) := dk_29 (dk_at dksX4_whyPut_1 6 rfl rfl)
theorem dX4_whyPut_30 : decode cX4_whyPut 30 = .ok (.iload 4, 2) := dk_21 4 (dk_at dksX4_whyPut_1 7 rfl rfl)
theorem dX4_whyPut_32 : decode cX4_whyPut 32 = .ok (.invokevirtual 197, 3) := dk_182 0 197 (dk_at dksX4_whyPut_1 9 rfl rfl)
theorem dX4_whyPut_35 : decode cX4_whyPut 35 = .ok (.ifCond .eq 7, 3) := dk_153 0 7 (dk_at dksX4_whyPut_1 12 rfl rfl)
theorem dX4_whyPut_38 : decode cX4_whyPut 38 = .ok (.iconst 2, 1) := dk_5 (dk_at dksX4_whyPut_1 15 rfl rfl)
theorem dX4_whyPut_39 : decode cX4_whyPut 39 = .ok (.goto 18, 3) := dk_167 0 18 (dk_at dksX4_whyPut_1 16 rfl rfl)
theorem dX4_whyPut_42 : decode cX4_whyPut 42 = .ok (.aload_n 0, 1) := dk_42 (dk_at dksX4_whyPut_1 19 rfl rfl)
theorem dX4_whyPut_43 : decode cX4_whyPut 43 = .ok (.iload_n 1, 1) := dk_27 (dk_at dksX4_whyPut_1 20 rfl rfl)
theorem dX4_whyPut_44 : decode cX4_whyPut 44 = .ok (.invokevirtual 186, 3) := dk_182 0 186 (dk_at dksX4_whyPut_1 21 rfl rfl)
theorem dX4_whyPut_47 : decode cX4_whyPut 47 = .ok (.bipush 12, 2) := dk_16 12 (dk_at dksX4_whyPut_2 0 rfl rfl)
theorem dX4_whyPut_49 : decode cX4_whyPut 49 = .ok (.if_icmp .ne 7, 3) := dk_160 0 7 (dk_at dksX4_whyPut_2 2 rfl rfl)
theorem dX4_whyPut_52 : decode cX4_whyPut 52 = .ok (.iconst 3, 1) := dk_6 (dk_at dksX4_whyPut_2 5 rfl rfl)
theorem dX4_whyPut_53 : decode cX4_whyPut 53 = .ok (.goto 4, 3) := dk_167 0 4 (dk_at dksX4_whyPut_2 6 rfl rfl)
theorem dX4_whyPut_56 : decode cX4_whyPut 56 = .ok (.iconst (-1), 1) := dk_2 (dk_at dksX4_whyPut_2 9 rfl rfl)
theorem dX4_whyPut_57 : decode cX4_whyPut 57 = .ok (.ireturn, 1) := dk_172 (dk_at dksX4_whyPut_2 10 rfl rfl)
abbrev cX4_isTable : ByteArray := prog_13_method_27_code
def yX4_isTable : MethodName := ⟨RX4, "isTable", "(I)Z"⟩
def dkwX4_isTable_0 : List UInt8 := [27, 3, 42, 180, 0, 173, 4, 100, 184, 0, 104, 172]
abbrev dktX4_isTable_0 : List UInt8 := dkwX4_isTable_0 ++ []
theorem dksX4_isTable_0 : cX4_isTable.data.toList.drop 0 = dktX4_isTable_0 := by decide +kernel
theorem dX4_isTable_0 : decode cX4_isTable 0 = .ok (.iload_n 1, 1) := dk_27 (dk_at dksX4_isTable_0 0 rfl rfl)
theorem dX4_isTable_1 : decode cX4_isTable 1 = .ok (.iconst 0, 1) := dk_3 (dk_at dksX4_isTable_0 1 rfl rfl)
theorem dX4_isTable_2 : decode cX4_isTable 2 = .ok (.aload_n 0, 1) := dk_42 (dk_at dksX4_isTable_0 2 rfl rfl)
theorem dX4_isTable_3 : decode cX4_isTable 3 = .ok (.getfield 173, 3) := dk_180 0 173 (dk_at dksX4_isTable_0 3 rfl rfl)
theorem dX4_isTable_6 : decode cX4_isTable 6 = .ok (.iconst 1, 1) := dk_4 (dk_at dksX4_isTable_0 6 rfl rfl)
theorem dX4_isTable_7 : decode cX4_isTable 7 = .ok (.isub, 1) := dk_100 (dk_at dksX4_isTable_0 7 rfl rfl)
theorem dX4_isTable_8 : decode cX4_isTable 8 = .ok (.invokestatic 104, 3) := dk_184 0 104 (dk_at dksX4_isTable_0 8 rfl rfl)
theorem dX4_isTable_11 : decode cX4_isTable 11 = .ok (.ireturn, 1) := dk_172 (dk_at dksX4_isTable_0 11 rfl rfl)
abbrev cX4_isRow : ByteArray := prog_13_method_57_code
def yX4_isRow : MethodName := ⟨RX4, "isRow", "(IIII)Z"⟩
def dkwX4_isRow_3 : List UInt8 := [184, 0, 104, 153, 0, 16, 167, 0, 9, 21, 4, 2, 160, 0, 7, 4, 167, 0, 4, 3, 172]
abbrev dktX4_isRow_3 : List UInt8 := dkwX4_isRow_3 ++ []
def dkwX4_isRow_2 : List UInt8 := [54, 5, 21, 5, 153, 0, 37, 42, 180, 0, 37, 27, 46, 5, 164, 0, 17, 21, 4, 3, 16, 99]
abbrev dktX4_isRow_2 : List UInt8 := dkwX4_isRow_2 ++ dktX4_isRow_3
def dkwX4_isRow_1 : List UInt8 := [29, 3, 16, 99, 184, 0, 104, 153, 0, 15, 167, 0, 8, 29, 2, 160, 0, 7, 4, 167, 0, 4, 3]
abbrev dktX4_isRow_1 : List UInt8 := dkwX4_isRow_1 ++ dktX4_isRow_2
def dkwX4_isRow_0 : List UInt8 := [28, 3, 16, 99, 184, 0, 104, 54, 5, 21, 5, 153, 0, 35, 42, 180, 0, 37, 27, 46, 4, 164, 0, 16]
abbrev dktX4_isRow_0 : List UInt8 := dkwX4_isRow_0 ++ dktX4_isRow_1
theorem dksX4_isRow_0 : cX4_isRow.data.toList.drop 0 = dktX4_isRow_0 := by decide +kernel
theorem dksX4_isRow_1 : cX4_isRow.data.toList.drop 24 = dktX4_isRow_1 := dk_seg dksX4_isRow_0 24 rfl rfl
theorem dksX4_isRow_2 : cX4_isRow.data.toList.drop 47 = dktX4_isRow_2 := dk_seg dksX4_isRow_1 23 rfl rfl
theorem dksX4_isRow_3 : cX4_isRow.data.toList.drop 69 = dktX4_isRow_3 := dk_seg dksX4_isRow_2 22 rfl rfl
theorem dX4_isRow_0 : decode cX4_isRow 0 = .ok (.iload_n 2, 1) := dk_28 (dk_at dksX4_isRow_0 0 rfl rfl)
theorem dX4_isRow_1 : decode cX4_isRow 1 = .ok (.iconst 0, 1) := dk_3 (dk_at dksX4_isRow_0 1 rfl rfl)
theorem dX4_isRow_2 : decode cX4_isRow 2 = .ok (.bipush 99, 2) := dk_16 99 (dk_at dksX4_isRow_0 2 rfl rfl)
theorem dX4_isRow_4 : decode cX4_isRow 4 = .ok (.invokestatic 104, 3) := dk_184 0 104 (dk_at dksX4_isRow_0 4 rfl rfl)
theorem dX4_isRow_7 : decode cX4_isRow 7 = .ok (.istore 5, 2) := dk_54 5 (dk_at dksX4_isRow_0 7 rfl rfl)
theorem dX4_isRow_9 : decode cX4_isRow 9 = .ok (.iload 5, 2) := dk_21 5 (dk_at dksX4_isRow_0 9 rfl rfl)
theorem dX4_isRow_11 : decode cX4_isRow 11 = .ok (.ifCond .eq 35, 3) := dk_153 0 35 (dk_at dksX4_isRow_0 11 rfl rfl)
theorem dX4_isRow_14 : decode cX4_isRow 14 = .ok (.aload_n 0, 1) := dk_42 (dk_at dksX4_isRow_0 14 rfl rfl)
theorem dX4_isRow_15 : decode cX4_isRow 15 = .ok (.getfield 37, 3) := dk_180 0 37 (dk_at dksX4_isRow_0 15 rfl rfl)
theorem dX4_isRow_18 : decode cX4_isRow 18 = .ok (.iload_n 1, 1) := dk_27 (dk_at dksX4_isRow_0 18 rfl rfl)
theorem dX4_isRow_19 : decode cX4_isRow 19 = .ok (.iaload, 1) := dk_46 (dk_at dksX4_isRow_0 19 rfl rfl)
theorem dX4_isRow_20 : decode cX4_isRow 20 = .ok (.iconst 1, 1) := dk_4 (dk_at dksX4_isRow_0 20 rfl rfl)
theorem dX4_isRow_21 : decode cX4_isRow 21 = .ok (.if_icmp .le 16, 3) := dk_164 0 16 (dk_at dksX4_isRow_0 21 rfl rfl)
theorem dX4_isRow_24 : decode cX4_isRow 24 = .ok (.iload_n 3, 1) := dk_29 (dk_at dksX4_isRow_1 0 rfl rfl)
theorem dX4_isRow_25 : decode cX4_isRow 25 = .ok (.iconst 0, 1) := dk_3 (dk_at dksX4_isRow_1 1 rfl rfl)
theorem dX4_isRow_26 : decode cX4_isRow 26 = .ok (.bipush 99, 2) := dk_16 99 (dk_at dksX4_isRow_1 2 rfl rfl)
theorem dX4_isRow_28 : decode cX4_isRow 28 = .ok (.invokestatic 104, 3) := dk_184 0 104 (dk_at dksX4_isRow_1 4 rfl rfl)
theorem dX4_isRow_31 : decode cX4_isRow 31 = .ok (.ifCond .eq 15, 3) := dk_153 0 15 (dk_at dksX4_isRow_1 7 rfl rfl)
theorem dX4_isRow_34 : decode cX4_isRow 34 = .ok (.goto 8, 3) := dk_167 0 8 (dk_at dksX4_isRow_1 10 rfl rfl)
theorem dX4_isRow_37 : decode cX4_isRow 37 = .ok (.iload_n 3, 1) := dk_29 (dk_at dksX4_isRow_1 13 rfl rfl)
theorem dX4_isRow_38 : decode cX4_isRow 38 = .ok (.iconst (-1), 1) := dk_2 (dk_at dksX4_isRow_1 14 rfl rfl)
theorem dX4_isRow_39 : decode cX4_isRow 39 = .ok (.if_icmp .ne 7, 3) := dk_160 0 7 (dk_at dksX4_isRow_1 15 rfl rfl)
theorem dX4_isRow_42 : decode cX4_isRow 42 = .ok (.iconst 1, 1) := dk_4 (dk_at dksX4_isRow_1 18 rfl rfl)
theorem dX4_isRow_43 : decode cX4_isRow 43 = .ok (.goto 4, 3) := dk_167 0 4 (dk_at dksX4_isRow_1 19 rfl rfl)
theorem dX4_isRow_46 : decode cX4_isRow 46 = .ok (.iconst 0, 1) := dk_3 (dk_at dksX4_isRow_1 22 rfl rfl)
theorem dX4_isRow_47 : decode cX4_isRow 47 = .ok (.istore 5, 2) := dk_54 5 (dk_at dksX4_isRow_2 0 rfl rfl)
theorem dX4_isRow_49 : decode cX4_isRow 49 = .ok (.iload 5, 2) := dk_21 5 (dk_at dksX4_isRow_2 2 rfl rfl)
theorem dX4_isRow_51 : decode cX4_isRow 51 = .ok (.ifCond .eq 37, 3) := dk_153 0 37 (dk_at dksX4_isRow_2 4 rfl rfl)
theorem dX4_isRow_54 : decode cX4_isRow 54 = .ok (.aload_n 0, 1) := dk_42 (dk_at dksX4_isRow_2 7 rfl rfl)
theorem dX4_isRow_55 : decode cX4_isRow 55 = .ok (.getfield 37, 3) := dk_180 0 37 (dk_at dksX4_isRow_2 8 rfl rfl)
theorem dX4_isRow_58 : decode cX4_isRow 58 = .ok (.iload_n 1, 1) := dk_27 (dk_at dksX4_isRow_2 11 rfl rfl)
theorem dX4_isRow_59 : decode cX4_isRow 59 = .ok (.iaload, 1) := dk_46 (dk_at dksX4_isRow_2 12 rfl rfl)
theorem dX4_isRow_60 : decode cX4_isRow 60 = .ok (.iconst 2, 1) := dk_5 (dk_at dksX4_isRow_2 13 rfl rfl)
theorem dX4_isRow_61 : decode cX4_isRow 61 = .ok (.if_icmp .le 17, 3) := dk_164 0 17 (dk_at dksX4_isRow_2 14 rfl rfl)
theorem dX4_isRow_64 : decode cX4_isRow 64 = .ok (.iload 4, 2) := dk_21 4 (dk_at dksX4_isRow_2 17 rfl rfl)
theorem dX4_isRow_66 : decode cX4_isRow 66 = .ok (.iconst 0, 1) := dk_3 (dk_at dksX4_isRow_2 19 rfl rfl)
theorem dX4_isRow_67 : decode cX4_isRow 67 = .ok (.bipush 99, 2) := dk_16 99 (dk_at dksX4_isRow_2 20 rfl rfl)
theorem dX4_isRow_69 : decode cX4_isRow 69 = .ok (.invokestatic 104, 3) := dk_184 0 104 (dk_at dksX4_isRow_3 0 rfl rfl)
theorem dX4_isRow_72 : decode cX4_isRow 72 = .ok (.ifCond .eq 16, 3) := dk_153 0 16 (dk_at dksX4_isRow_3 3 rfl rfl)
theorem dX4_isRow_75 : decode cX4_isRow 75 = .ok (.goto 9, 3) := dk_167 0 9 (dk_at dksX4_isRow_3 6 rfl rfl)
theorem dX4_isRow_78 : decode cX4_isRow 78 = .ok (.iload 4, 2) := dk_21 4 (dk_at dksX4_isRow_3 9 rfl rfl)
theorem dX4_isRow_80 : decode cX4_isRow 80 = .ok (.iconst (-1), 1) := dk_2 (dk_at dksX4_isRow_3 11 rfl rfl)
theorem dX4_isRow_81 : decode cX4_isRow 81 = .ok (.if_icmp .ne 7, 3) := dk_160 0 7 (dk_at dksX4_isRow_3 12 rfl rfl)
theorem dX4_isRow_84 : decode cX4_isRow 84 = .ok (.iconst 1, 1) := dk_4 (dk_at dksX4_isRow_3 15 rfl rfl)
theorem dX4_isRow_85 : decode cX4_isRow 85 = .ok (.goto 4, 3) := dk_167 0 4 (dk_at dksX4_isRow_3 16 rfl rfl)
theorem dX4_isRow_88 : decode cX4_isRow 88 = .ok (.iconst 0, 1) := dk_3 (dk_at dksX4_isRow_3 19 rfl rfl)
theorem dX4_isRow_89 : decode cX4_isRow 89 = .ok (.ireturn, 1) := dk_172 (dk_at dksX4_isRow_3 20 rfl rfl)
abbrev cX4_whyTake : ByteArray := prog_13_method_59_code
def yX4_whyTake : MethodName := ⟨RX4, "whyTake", "(IIII)I"⟩
def dkwX4_whyTake_1 : List UInt8 := [167, 0, 20, 42, 27, 28, 29, 21, 4, 182, 0, 197, 153, 0, 7, 2, 167, 0, 4, 5, 172]
abbrev dktX4_whyTake_1 : List UInt8 := dkwX4_whyTake_1 ++ []
def dkwX4_whyTake_0 : List UInt8 := [42, 27, 182, 1, 25, 154, 0, 5, 3, 172, 42, 27, 28, 29, 21, 4, 182, 1, 28, 154, 0, 7, 4]
abbrev dktX4_whyTake_0 : List UInt8 := dkwX4_whyTake_0 ++ dktX4_whyTake_1
theorem dksX4_whyTake_0 : cX4_whyTake.data.toList.drop 0 = dktX4_whyTake_0 := by decide +kernel
theorem dksX4_whyTake_1 : cX4_whyTake.data.toList.drop 23 = dktX4_whyTake_1 := dk_seg dksX4_whyTake_0 23 rfl rfl
theorem dX4_whyTake_0 : decode cX4_whyTake 0 = .ok (.aload_n 0, 1) := dk_42 (dk_at dksX4_whyTake_0 0 rfl rfl)
theorem dX4_whyTake_1 : decode cX4_whyTake 1 = .ok (.iload_n 1, 1) := dk_27 (dk_at dksX4_whyTake_0 1 rfl rfl)
theorem dX4_whyTake_2 : decode cX4_whyTake 2 = .ok (.invokevirtual 281, 3) := dk_182 1 25 (dk_at dksX4_whyTake_0 2 rfl rfl)
theorem dX4_whyTake_5 : decode cX4_whyTake 5 = .ok (.ifCond .ne 5, 3) := dk_154 0 5 (dk_at dksX4_whyTake_0 5 rfl rfl)
theorem dX4_whyTake_8 : decode cX4_whyTake 8 = .ok (.iconst 0, 1) := dk_3 (dk_at dksX4_whyTake_0 8 rfl rfl)
theorem dX4_whyTake_9 : decode cX4_whyTake 9 = .ok (.ireturn, 1) := dk_172 (dk_at dksX4_whyTake_0 9 rfl rfl)
theorem dX4_whyTake_10 : decode cX4_whyTake 10 = .ok (.aload_n 0, 1) := dk_42 (dk_at dksX4_whyTake_0 10 rfl rfl)
theorem dX4_whyTake_11 : decode cX4_whyTake 11 = .ok (.iload_n 1, 1) := dk_27 (dk_at dksX4_whyTake_0 11 rfl rfl)
theorem dX4_whyTake_12 : decode cX4_whyTake 12 = .ok (.iload_n 2, 1) := dk_28 (dk_at dksX4_whyTake_0 12 rfl rfl)
theorem dX4_whyTake_13 : decode cX4_whyTake 13 = .ok (.iload_n 3, 1) := dk_29 (dk_at dksX4_whyTake_0 13 rfl rfl)
theorem dX4_whyTake_14 : decode cX4_whyTake 14 = .ok (.iload 4, 2) := dk_21 4 (dk_at dksX4_whyTake_0 14 rfl rfl)
theorem dX4_whyTake_16 : decode cX4_whyTake 16 = .ok (.invokevirtual 284, 3) := dk_182 1 28 (dk_at dksX4_whyTake_0 16 rfl rfl)
theorem dX4_whyTake_19 : decode cX4_whyTake 19 = .ok (.ifCond .ne 7, 3) := dk_154 0 7 (dk_at dksX4_whyTake_0 19 rfl rfl)
theorem dX4_whyTake_22 : decode cX4_whyTake 22 = .ok (.iconst 1, 1) := dk_4 (dk_at dksX4_whyTake_0 22 rfl rfl)
theorem dX4_whyTake_23 : decode cX4_whyTake 23 = .ok (.goto 20, 3) := dk_167 0 20 (dk_at dksX4_whyTake_1 0 rfl rfl)
theorem dX4_whyTake_26 : decode cX4_whyTake 26 = .ok (.aload_n 0, 1) := dk_42 (dk_at dksX4_whyTake_1 3 rfl rfl)
theorem dX4_whyTake_27 : decode cX4_whyTake 27 = .ok (.iload_n 1, 1) := dk_27 (dk_at dksX4_whyTake_1 4 rfl rfl)
theorem dX4_whyTake_28 : decode cX4_whyTake 28 = .ok (.iload_n 2, 1) := dk_28 (dk_at dksX4_whyTake_1 5 rfl rfl)
theorem dX4_whyTake_29 : decode cX4_whyTake 29 = .ok (.iload_n 3, 1) := dk_29 (dk_at dksX4_whyTake_1 6 rfl rfl)
theorem dX4_whyTake_30 : decode cX4_whyTake 30 = .ok (.iload 4, 2) := dk_21 4 (dk_at dksX4_whyTake_1 7 rfl rfl)
theorem dX4_whyTake_32 : decode cX4_whyTake 32 = .ok (.invokevirtual 197, 3) := dk_182 0 197 (dk_at dksX4_whyTake_1 9 rfl rfl)
theorem dX4_whyTake_35 : decode cX4_whyTake 35 = .ok (.ifCond .eq 7, 3) := dk_153 0 7 (dk_at dksX4_whyTake_1 12 rfl rfl)
theorem dX4_whyTake_38 : decode cX4_whyTake 38 = .ok (.iconst (-1), 1) := dk_2 (dk_at dksX4_whyTake_1 15 rfl rfl)
theorem dX4_whyTake_39 : decode cX4_whyTake 39 = .ok (.goto 4, 3) := dk_167 0 4 (dk_at dksX4_whyTake_1 16 rfl rfl)
theorem dX4_whyTake_42 : decode cX4_whyTake 42 = .ok (.iconst 2, 1) := dk_5 (dk_at dksX4_whyTake_1 19 rfl rfl)
theorem dX4_whyTake_43 : decode cX4_whyTake 43 = .ok (.ireturn, 1) := dk_172 (dk_at dksX4_whyTake_1 20 rfl rfl)
abbrev cX4_areTables : ByteArray := prog_13_method_26_code
def yX4_areTables : MethodName := ⟨RX4, "areTables", "()Z"⟩
def dkwX4_areTables_0 : List UInt8 := [42, 180, 0, 173, 158, 0, 7, 4, 167, 0, 4, 3, 172]
abbrev dktX4_areTables_0 : List UInt8 := dkwX4_areTables_0 ++ []
theorem dksX4_areTables_0 : cX4_areTables.data.toList.drop 0 = dktX4_areTables_0 := by decide +kernel
theorem dX4_areTables_0 : decode cX4_areTables 0 = .ok (.aload_n 0, 1) := dk_42 (dk_at dksX4_areTables_0 0 rfl rfl)
theorem dX4_areTables_1 : decode cX4_areTables 1 = .ok (.getfield 173, 3) := dk_180 0 173 (dk_at dksX4_areTables_0 1 rfl rfl)
theorem dX4_areTables_4 : decode cX4_areTables 4 = .ok (.ifCond .le 7, 3) := dk_158 0 7 (dk_at dksX4_areTables_0 4 rfl rfl)
theorem dX4_areTables_7 : decode cX4_areTables 7 = .ok (.iconst 1, 1) := dk_4 (dk_at dksX4_areTables_0 7 rfl rfl)
theorem dX4_areTables_8 : decode cX4_areTables 8 = .ok (.goto 4, 3) := dk_167 0 4 (dk_at dksX4_areTables_0 8 rfl rfl)
theorem dX4_areTables_11 : decode cX4_areTables 11 = .ok (.iconst 0, 1) := dk_3 (dk_at dksX4_areTables_0 11 rfl rfl)
theorem dX4_areTables_12 : decode cX4_areTables 12 = .ok (.ireturn, 1) := dk_172 (dk_at dksX4_areTables_0 12 rfl rfl)
abbrev cX4_act : ByteArray := prog_13_method_65_code
def yX4_act : MethodName := ⟨RX4, "act", "(IIIII)I"⟩
def dkwX4_act_1 : List UInt8 := [21, 6, 172]
abbrev dktX4_act_1 : List UInt8 := dkwX4_act_1 ++ []
def dkwX4_act_0 : List UInt8 := [42, 182, 1, 46, 42, 27, 28, 29, 21, 4, 21, 5, 182, 1, 49, 54, 6, 42, 27, 28, 182, 1, 52]
abbrev dktX4_act_0 : List UInt8 := dkwX4_act_0 ++ dktX4_act_1
theorem dksX4_act_0 : cX4_act.data.toList.drop 0 = dktX4_act_0 := by decide +kernel
theorem dksX4_act_1 : cX4_act.data.toList.drop 23 = dktX4_act_1 := dk_seg dksX4_act_0 23 rfl rfl
theorem dX4_act_0 : decode cX4_act 0 = .ok (.aload_n 0, 1) := dk_42 (dk_at dksX4_act_0 0 rfl rfl)
theorem dX4_act_1 : decode cX4_act 1 = .ok (.invokevirtual 302, 3) := dk_182 1 46 (dk_at dksX4_act_0 1 rfl rfl)
theorem dX4_act_4 : decode cX4_act 4 = .ok (.aload_n 0, 1) := dk_42 (dk_at dksX4_act_0 4 rfl rfl)
theorem dX4_act_5 : decode cX4_act 5 = .ok (.iload_n 1, 1) := dk_27 (dk_at dksX4_act_0 5 rfl rfl)
theorem dX4_act_6 : decode cX4_act 6 = .ok (.iload_n 2, 1) := dk_28 (dk_at dksX4_act_0 6 rfl rfl)
theorem dX4_act_7 : decode cX4_act 7 = .ok (.iload_n 3, 1) := dk_29 (dk_at dksX4_act_0 7 rfl rfl)
theorem dX4_act_8 : decode cX4_act 8 = .ok (.iload 4, 2) := dk_21 4 (dk_at dksX4_act_0 8 rfl rfl)
theorem dX4_act_10 : decode cX4_act 10 = .ok (.iload 5, 2) := dk_21 5 (dk_at dksX4_act_0 10 rfl rfl)
theorem dX4_act_12 : decode cX4_act 12 = .ok (.invokevirtual 305, 3) := dk_182 1 49 (dk_at dksX4_act_0 12 rfl rfl)
theorem dX4_act_15 : decode cX4_act 15 = .ok (.istore 6, 2) := dk_54 6 (dk_at dksX4_act_0 15 rfl rfl)
theorem dX4_act_17 : decode cX4_act 17 = .ok (.aload_n 0, 1) := dk_42 (dk_at dksX4_act_0 17 rfl rfl)
theorem dX4_act_18 : decode cX4_act 18 = .ok (.iload_n 1, 1) := dk_27 (dk_at dksX4_act_0 18 rfl rfl)
theorem dX4_act_19 : decode cX4_act 19 = .ok (.iload_n 2, 1) := dk_28 (dk_at dksX4_act_0 19 rfl rfl)
theorem dX4_act_20 : decode cX4_act 20 = .ok (.invokevirtual 308, 3) := dk_182 1 52 (dk_at dksX4_act_0 20 rfl rfl)
theorem dX4_act_23 : decode cX4_act 23 = .ok (.iload 6, 2) := dk_21 6 (dk_at dksX4_act_1 0 rfl rfl)
theorem dX4_act_25 : decode cX4_act 25 = .ok (.ireturn, 1) := dk_172 (dk_at dksX4_act_1 2 rfl rfl)
abbrev cX4_keep : ByteArray := prog_13_method_62_code
def yX4_keep : MethodName := ⟨RX4, "keep", "()V"⟩
def dkwX4_keep_4 : List UInt8 := [181, 0, 204, 177]
abbrev dktX4_keep_4 : List UInt8 := dkwX4_keep_4 ++ []
def dkwX4_keep_3 : List UInt8 := [104, 27, 96, 42, 180, 0, 31, 27, 46, 79, 132, 1, 1, 167, 255, 225, 42, 89, 180, 0, 204, 4, 96]
abbrev dktX4_keep_3 : List UInt8 := dkwX4_keep_3 ++ dktX4_keep_4
def dkwX4_keep_2 : List UInt8 := [100, 181, 0, 204, 3, 60, 27, 17, 1, 75, 162, 0, 30, 42, 180, 0, 65, 17, 1, 75, 42, 180, 0, 204]
abbrev dktX4_keep_2 : List UInt8 := dkwX4_keep_2 ++ dktX4_keep_3
def dkwX4_keep_1 : List UInt8 := [27, 17, 1, 75, 100, 42, 180, 0, 65, 27, 46, 79, 132, 1, 1, 167, 255, 230, 42, 89, 180, 0, 204, 4]
abbrev dktX4_keep_1 : List UInt8 := dkwX4_keep_1 ++ dktX4_keep_2
def dkwX4_keep_0 : List UInt8 := [42, 180, 0, 204, 16, 40, 160, 0, 46, 17, 1, 75, 60, 27, 17, 51, 184, 162, 0, 25, 42, 180, 0, 65]
abbrev dktX4_keep_0 : List UInt8 := dkwX4_keep_0 ++ dktX4_keep_1
theorem dksX4_keep_0 : cX4_keep.data.toList.drop 0 = dktX4_keep_0 := by decide +kernel
theorem dksX4_keep_1 : cX4_keep.data.toList.drop 24 = dktX4_keep_1 := dk_seg dksX4_keep_0 24 rfl rfl
theorem dksX4_keep_2 : cX4_keep.data.toList.drop 48 = dktX4_keep_2 := dk_seg dksX4_keep_1 24 rfl rfl
theorem dksX4_keep_3 : cX4_keep.data.toList.drop 72 = dktX4_keep_3 := dk_seg dksX4_keep_2 24 rfl rfl
theorem dksX4_keep_4 : cX4_keep.data.toList.drop 95 = dktX4_keep_4 := dk_seg dksX4_keep_3 23 rfl rfl
theorem dX4_keep_0 : decode cX4_keep 0 = .ok (.aload_n 0, 1) := dk_42 (dk_at dksX4_keep_0 0 rfl rfl)
theorem dX4_keep_1 : decode cX4_keep 1 = .ok (.getfield 204, 3) := dk_180 0 204 (dk_at dksX4_keep_0 1 rfl rfl)
theorem dX4_keep_4 : decode cX4_keep 4 = .ok (.bipush 40, 2) := dk_16 40 (dk_at dksX4_keep_0 4 rfl rfl)
theorem dX4_keep_6 : decode cX4_keep 6 = .ok (.if_icmp .ne 46, 3) := dk_160 0 46 (dk_at dksX4_keep_0 6 rfl rfl)
theorem dX4_keep_9 : decode cX4_keep 9 = .ok (.sipush 331, 3) := dk_17 1 75 (dk_at dksX4_keep_0 9 rfl rfl)
theorem dX4_keep_12 : decode cX4_keep 12 = .ok (.istore_n 1, 1) := dk_60 (dk_at dksX4_keep_0 12 rfl rfl)
theorem dX4_keep_13 : decode cX4_keep 13 = .ok (.iload_n 1, 1) := dk_27 (dk_at dksX4_keep_0 13 rfl rfl)
theorem dX4_keep_14 : decode cX4_keep 14 = .ok (.sipush 13240, 3) := dk_17 51 184 (dk_at dksX4_keep_0 14 rfl rfl)
theorem dX4_keep_17 : decode cX4_keep 17 = .ok (.if_icmp .ge 25, 3) := dk_162 0 25 (dk_at dksX4_keep_0 17 rfl rfl)
theorem dX4_keep_20 : decode cX4_keep 20 = .ok (.aload_n 0, 1) := dk_42 (dk_at dksX4_keep_0 20 rfl rfl)
theorem dX4_keep_21 : decode cX4_keep 21 = .ok (.getfield 65, 3) := dk_180 0 65 (dk_at dksX4_keep_0 21 rfl rfl)
theorem dX4_keep_24 : decode cX4_keep 24 = .ok (.iload_n 1, 1) := dk_27 (dk_at dksX4_keep_1 0 rfl rfl)
theorem dX4_keep_25 : decode cX4_keep 25 = .ok (.sipush 331, 3) := dk_17 1 75 (dk_at dksX4_keep_1 1 rfl rfl)
theorem dX4_keep_28 : decode cX4_keep 28 = .ok (.isub, 1) := dk_100 (dk_at dksX4_keep_1 4 rfl rfl)
theorem dX4_keep_29 : decode cX4_keep 29 = .ok (.aload_n 0, 1) := dk_42 (dk_at dksX4_keep_1 5 rfl rfl)
theorem dX4_keep_30 : decode cX4_keep 30 = .ok (.getfield 65, 3) := dk_180 0 65 (dk_at dksX4_keep_1 6 rfl rfl)
theorem dX4_keep_33 : decode cX4_keep 33 = .ok (.iload_n 1, 1) := dk_27 (dk_at dksX4_keep_1 9 rfl rfl)
theorem dX4_keep_34 : decode cX4_keep 34 = .ok (.iaload, 1) := dk_46 (dk_at dksX4_keep_1 10 rfl rfl)
theorem dX4_keep_35 : decode cX4_keep 35 = .ok (.iastore, 1) := dk_79 (dk_at dksX4_keep_1 11 rfl rfl)
theorem dX4_keep_36 : decode cX4_keep 36 = .ok (.iinc 1 1, 3) := dk_132 1 1 (dk_at dksX4_keep_1 12 rfl rfl)
theorem dX4_keep_39 : decode cX4_keep 39 = .ok (.goto (-26), 3) := dk_167 255 230 (dk_at dksX4_keep_1 15 rfl rfl)
theorem dX4_keep_42 : decode cX4_keep 42 = .ok (.aload_n 0, 1) := dk_42 (dk_at dksX4_keep_1 18 rfl rfl)
theorem dX4_keep_43 : decode cX4_keep 43 = .ok (.dup, 1) := dk_89 (dk_at dksX4_keep_1 19 rfl rfl)
theorem dX4_keep_44 : decode cX4_keep 44 = .ok (.getfield 204, 3) := dk_180 0 204 (dk_at dksX4_keep_1 20 rfl rfl)
theorem dX4_keep_47 : decode cX4_keep 47 = .ok (.iconst 1, 1) := dk_4 (dk_at dksX4_keep_1 23 rfl rfl)
theorem dX4_keep_48 : decode cX4_keep 48 = .ok (.isub, 1) := dk_100 (dk_at dksX4_keep_2 0 rfl rfl)
theorem dX4_keep_49 : decode cX4_keep 49 = .ok (.putfield 204, 3) := dk_181 0 204 (dk_at dksX4_keep_2 1 rfl rfl)
theorem dX4_keep_52 : decode cX4_keep 52 = .ok (.iconst 0, 1) := dk_3 (dk_at dksX4_keep_2 4 rfl rfl)
theorem dX4_keep_53 : decode cX4_keep 53 = .ok (.istore_n 1, 1) := dk_60 (dk_at dksX4_keep_2 5 rfl rfl)
theorem dX4_keep_54 : decode cX4_keep 54 = .ok (.iload_n 1, 1) := dk_27 (dk_at dksX4_keep_2 6 rfl rfl)
theorem dX4_keep_55 : decode cX4_keep 55 = .ok (.sipush 331, 3) := dk_17 1 75 (dk_at dksX4_keep_2 7 rfl rfl)
theorem dX4_keep_58 : decode cX4_keep 58 = .ok (.if_icmp .ge 30, 3) := dk_162 0 30 (dk_at dksX4_keep_2 10 rfl rfl)
theorem dX4_keep_61 : decode cX4_keep 61 = .ok (.aload_n 0, 1) := dk_42 (dk_at dksX4_keep_2 13 rfl rfl)
theorem dX4_keep_62 : decode cX4_keep 62 = .ok (.getfield 65, 3) := dk_180 0 65 (dk_at dksX4_keep_2 14 rfl rfl)
theorem dX4_keep_65 : decode cX4_keep 65 = .ok (.sipush 331, 3) := dk_17 1 75 (dk_at dksX4_keep_2 17 rfl rfl)
theorem dX4_keep_68 : decode cX4_keep 68 = .ok (.aload_n 0, 1) := dk_42 (dk_at dksX4_keep_2 20 rfl rfl)
theorem dX4_keep_69 : decode cX4_keep 69 = .ok (.getfield 204, 3) := dk_180 0 204 (dk_at dksX4_keep_2 21 rfl rfl)
theorem dX4_keep_72 : decode cX4_keep 72 = .ok (.imul, 1) := dk_104 (dk_at dksX4_keep_3 0 rfl rfl)
theorem dX4_keep_73 : decode cX4_keep 73 = .ok (.iload_n 1, 1) := dk_27 (dk_at dksX4_keep_3 1 rfl rfl)
theorem dX4_keep_74 : decode cX4_keep 74 = .ok (.iadd, 1) := dk_96 (dk_at dksX4_keep_3 2 rfl rfl)
theorem dX4_keep_75 : decode cX4_keep 75 = .ok (.aload_n 0, 1) := dk_42 (dk_at dksX4_keep_3 3 rfl rfl)
theorem dX4_keep_76 : decode cX4_keep 76 = .ok (.getfield 31, 3) := dk_180 0 31 (dk_at dksX4_keep_3 4 rfl rfl)
theorem dX4_keep_79 : decode cX4_keep 79 = .ok (.iload_n 1, 1) := dk_27 (dk_at dksX4_keep_3 7 rfl rfl)
theorem dX4_keep_80 : decode cX4_keep 80 = .ok (.iaload, 1) := dk_46 (dk_at dksX4_keep_3 8 rfl rfl)
theorem dX4_keep_81 : decode cX4_keep 81 = .ok (.iastore, 1) := dk_79 (dk_at dksX4_keep_3 9 rfl rfl)
theorem dX4_keep_82 : decode cX4_keep 82 = .ok (.iinc 1 1, 3) := dk_132 1 1 (dk_at dksX4_keep_3 10 rfl rfl)
theorem dX4_keep_85 : decode cX4_keep 85 = .ok (.goto (-31), 3) := dk_167 255 225 (dk_at dksX4_keep_3 13 rfl rfl)
theorem dX4_keep_88 : decode cX4_keep 88 = .ok (.aload_n 0, 1) := dk_42 (dk_at dksX4_keep_3 16 rfl rfl)
theorem dX4_keep_89 : decode cX4_keep 89 = .ok (.dup, 1) := dk_89 (dk_at dksX4_keep_3 17 rfl rfl)
theorem dX4_keep_90 : decode cX4_keep 90 = .ok (.getfield 204, 3) := dk_180 0 204 (dk_at dksX4_keep_3 18 rfl rfl)
theorem dX4_keep_93 : decode cX4_keep 93 = .ok (.iconst 1, 1) := dk_4 (dk_at dksX4_keep_3 21 rfl rfl)
theorem dX4_keep_94 : decode cX4_keep 94 = .ok (.iadd, 1) := dk_96 (dk_at dksX4_keep_3 22 rfl rfl)
theorem dX4_keep_95 : decode cX4_keep 95 = .ok (.putfield 204, 3) := dk_181 0 204 (dk_at dksX4_keep_4 0 rfl rfl)
theorem dX4_keep_98 : decode cX4_keep 98 = .ok (.return_, 1) := dk_177 (dk_at dksX4_keep_4 3 rfl rfl)
abbrev cX4_doNow : ByteArray := prog_13_method_61_code
def yX4_doNow : MethodName := ⟨RX4, "doNow", "(IIIII)I"⟩
def dkwX4_doNow_4 : List UInt8 := [172, 42, 180, 0, 31, 4, 46, 54, 6, 42, 180, 0, 31, 4, 28, 79, 21, 6, 172]
abbrev dktX4_doNow_4 : List UInt8 := dkwX4_doNow_4 ++ []
def dkwX4_doNow_3 : List UInt8 := [180, 0, 31, 3, 92, 46, 4, 28, 120, 130, 79, 42, 28, 182, 0, 176, 153, 0, 7, 4, 167, 0, 4, 3]
abbrev dktX4_doNow_3 : List UInt8 := dkwX4_doNow_3 ++ dktX4_doNow_4
def dkwX4_doNow_2 : List UInt8 := [42, 28, 29, 21, 4, 21, 5, 182, 0, 201, 172, 42, 28, 29, 21, 4, 21, 5, 182, 1, 37, 172, 42]
abbrev dktX4_doNow_2 : List UInt8 := dkwX4_doNow_2 ++ dktX4_doNow_3
def dkwX4_doNow_1 : List UInt8 := [170, 0, 0, 0, 0, 0, 75, 0, 0, 0, 0, 0, 0, 0, 2, 0, 0, 0, 27, 0, 0, 0, 38, 0, 0, 0, 49]
abbrev dktX4_doNow_1 : List UInt8 := dkwX4_doNow_1 ++ dktX4_doNow_2
def dkwX4_doNow_0 : List UInt8 := [27]
abbrev dktX4_doNow_0 : List UInt8 := dkwX4_doNow_0 ++ dktX4_doNow_1
theorem dksX4_doNow_0 : cX4_doNow.data.toList.drop 0 = dktX4_doNow_0 := by decide +kernel
theorem dksX4_doNow_1 : cX4_doNow.data.toList.drop 1 = dktX4_doNow_1 := dk_seg dksX4_doNow_0 1 rfl rfl
theorem dksX4_doNow_2 : cX4_doNow.data.toList.drop 28 = dktX4_doNow_2 := dk_seg dksX4_doNow_1 27 rfl rfl
theorem dksX4_doNow_3 : cX4_doNow.data.toList.drop 51 = dktX4_doNow_3 := dk_seg dksX4_doNow_2 23 rfl rfl
theorem dksX4_doNow_4 : cX4_doNow.data.toList.drop 75 = dktX4_doNow_4 := dk_seg dksX4_doNow_3 24 rfl rfl
theorem dX4_doNow_0 : decode cX4_doNow 0 = .ok (.iload_n 1, 1) := dk_27 (dk_at dksX4_doNow_0 0 rfl rfl)
theorem dX4_doNow_1 : decode cX4_doNow 1 = .ok (.tableswitch 75 0 2 #[27, 38, 49], 27) := by decide +kernel
theorem dX4_doNow_28 : decode cX4_doNow 28 = .ok (.aload_n 0, 1) := dk_42 (dk_at dksX4_doNow_2 0 rfl rfl)
theorem dX4_doNow_29 : decode cX4_doNow 29 = .ok (.iload_n 2, 1) := dk_28 (dk_at dksX4_doNow_2 1 rfl rfl)
theorem dX4_doNow_30 : decode cX4_doNow 30 = .ok (.iload_n 3, 1) := dk_29 (dk_at dksX4_doNow_2 2 rfl rfl)
theorem dX4_doNow_31 : decode cX4_doNow 31 = .ok (.iload 4, 2) := dk_21 4 (dk_at dksX4_doNow_2 3 rfl rfl)
theorem dX4_doNow_33 : decode cX4_doNow 33 = .ok (.iload 5, 2) := dk_21 5 (dk_at dksX4_doNow_2 5 rfl rfl)
theorem dX4_doNow_35 : decode cX4_doNow 35 = .ok (.invokevirtual 201, 3) := dk_182 0 201 (dk_at dksX4_doNow_2 7 rfl rfl)
theorem dX4_doNow_38 : decode cX4_doNow 38 = .ok (.ireturn, 1) := dk_172 (dk_at dksX4_doNow_2 10 rfl rfl)
theorem dX4_doNow_39 : decode cX4_doNow 39 = .ok (.aload_n 0, 1) := dk_42 (dk_at dksX4_doNow_2 11 rfl rfl)
theorem dX4_doNow_40 : decode cX4_doNow 40 = .ok (.iload_n 2, 1) := dk_28 (dk_at dksX4_doNow_2 12 rfl rfl)
theorem dX4_doNow_41 : decode cX4_doNow 41 = .ok (.iload_n 3, 1) := dk_29 (dk_at dksX4_doNow_2 13 rfl rfl)
theorem dX4_doNow_42 : decode cX4_doNow 42 = .ok (.iload 4, 2) := dk_21 4 (dk_at dksX4_doNow_2 14 rfl rfl)
theorem dX4_doNow_44 : decode cX4_doNow 44 = .ok (.iload 5, 2) := dk_21 5 (dk_at dksX4_doNow_2 16 rfl rfl)
theorem dX4_doNow_46 : decode cX4_doNow 46 = .ok (.invokevirtual 293, 3) := dk_182 1 37 (dk_at dksX4_doNow_2 18 rfl rfl)
theorem dX4_doNow_49 : decode cX4_doNow 49 = .ok (.ireturn, 1) := dk_172 (dk_at dksX4_doNow_2 21 rfl rfl)
theorem dX4_doNow_50 : decode cX4_doNow 50 = .ok (.aload_n 0, 1) := dk_42 (dk_at dksX4_doNow_2 22 rfl rfl)
theorem dX4_doNow_51 : decode cX4_doNow 51 = .ok (.getfield 31, 3) := dk_180 0 31 (dk_at dksX4_doNow_3 0 rfl rfl)
theorem dX4_doNow_54 : decode cX4_doNow 54 = .ok (.iconst 0, 1) := dk_3 (dk_at dksX4_doNow_3 3 rfl rfl)
theorem dX4_doNow_55 : decode cX4_doNow 55 = .ok (.dup2, 1) := dk_92 (dk_at dksX4_doNow_3 4 rfl rfl)
theorem dX4_doNow_56 : decode cX4_doNow 56 = .ok (.iaload, 1) := dk_46 (dk_at dksX4_doNow_3 5 rfl rfl)
theorem dX4_doNow_57 : decode cX4_doNow 57 = .ok (.iconst 1, 1) := dk_4 (dk_at dksX4_doNow_3 6 rfl rfl)
theorem dX4_doNow_58 : decode cX4_doNow 58 = .ok (.iload_n 2, 1) := dk_28 (dk_at dksX4_doNow_3 7 rfl rfl)
theorem dX4_doNow_59 : decode cX4_doNow 59 = .ok (.ishl, 1) := dk_120 (dk_at dksX4_doNow_3 8 rfl rfl)
theorem dX4_doNow_60 : decode cX4_doNow 60 = .ok (.ixor, 1) := dk_130 (dk_at dksX4_doNow_3 9 rfl rfl)
theorem dX4_doNow_61 : decode cX4_doNow 61 = .ok (.iastore, 1) := dk_79 (dk_at dksX4_doNow_3 10 rfl rfl)
theorem dX4_doNow_62 : decode cX4_doNow 62 = .ok (.aload_n 0, 1) := dk_42 (dk_at dksX4_doNow_3 11 rfl rfl)
theorem dX4_doNow_63 : decode cX4_doNow 63 = .ok (.iload_n 2, 1) := dk_28 (dk_at dksX4_doNow_3 12 rfl rfl)
theorem dX4_doNow_64 : decode cX4_doNow 64 = .ok (.invokevirtual 176, 3) := dk_182 0 176 (dk_at dksX4_doNow_3 13 rfl rfl)
theorem dX4_doNow_67 : decode cX4_doNow 67 = .ok (.ifCond .eq 7, 3) := dk_153 0 7 (dk_at dksX4_doNow_3 16 rfl rfl)
theorem dX4_doNow_70 : decode cX4_doNow 70 = .ok (.iconst 1, 1) := dk_4 (dk_at dksX4_doNow_3 19 rfl rfl)
theorem dX4_doNow_71 : decode cX4_doNow 71 = .ok (.goto 4, 3) := dk_167 0 4 (dk_at dksX4_doNow_3 20 rfl rfl)
theorem dX4_doNow_74 : decode cX4_doNow 74 = .ok (.iconst 0, 1) := dk_3 (dk_at dksX4_doNow_3 23 rfl rfl)
theorem dX4_doNow_75 : decode cX4_doNow 75 = .ok (.ireturn, 1) := dk_172 (dk_at dksX4_doNow_4 0 rfl rfl)
theorem dX4_doNow_76 : decode cX4_doNow 76 = .ok (.aload_n 0, 1) := dk_42 (dk_at dksX4_doNow_4 1 rfl rfl)
theorem dX4_doNow_77 : decode cX4_doNow 77 = .ok (.getfield 31, 3) := dk_180 0 31 (dk_at dksX4_doNow_4 2 rfl rfl)
theorem dX4_doNow_80 : decode cX4_doNow 80 = .ok (.iconst 1, 1) := dk_4 (dk_at dksX4_doNow_4 5 rfl rfl)
theorem dX4_doNow_81 : decode cX4_doNow 81 = .ok (.iaload, 1) := dk_46 (dk_at dksX4_doNow_4 6 rfl rfl)
theorem dX4_doNow_82 : decode cX4_doNow 82 = .ok (.istore 6, 2) := dk_54 6 (dk_at dksX4_doNow_4 7 rfl rfl)
theorem dX4_doNow_84 : decode cX4_doNow 84 = .ok (.aload_n 0, 1) := dk_42 (dk_at dksX4_doNow_4 9 rfl rfl)
theorem dX4_doNow_85 : decode cX4_doNow 85 = .ok (.getfield 31, 3) := dk_180 0 31 (dk_at dksX4_doNow_4 10 rfl rfl)
theorem dX4_doNow_88 : decode cX4_doNow 88 = .ok (.iconst 1, 1) := dk_4 (dk_at dksX4_doNow_4 13 rfl rfl)
theorem dX4_doNow_89 : decode cX4_doNow 89 = .ok (.iload_n 2, 1) := dk_28 (dk_at dksX4_doNow_4 14 rfl rfl)
theorem dX4_doNow_90 : decode cX4_doNow 90 = .ok (.iastore, 1) := dk_79 (dk_at dksX4_doNow_4 15 rfl rfl)
theorem dX4_doNow_91 : decode cX4_doNow 91 = .ok (.iload 6, 2) := dk_21 6 (dk_at dksX4_doNow_4 16 rfl rfl)
theorem dX4_doNow_93 : decode cX4_doNow 93 = .ok (.ireturn, 1) := dk_172 (dk_at dksX4_doNow_4 18 rfl rfl)
abbrev cX4_takesNow : ByteArray := prog_13_method_37_code
def yX4_takesNow : MethodName := ⟨RX4, "takesNow", "(IIII)I"⟩
def dkwX4_takesNow_3 : List UInt8 := [182, 0, 186, 172]
abbrev dktX4_takesNow_3 : List UInt8 := dkwX4_takesNow_3 ++ []
def dkwX4_takesNow_2 : List UInt8 := [96, 46, 79, 132, 6, 1, 167, 255, 221, 42, 180, 0, 31, 5, 27, 96, 92, 46, 4, 100, 79, 42, 27]
abbrev dktX4_takesNow_2 : List UInt8 := dkwX4_takesNow_2 ++ dktX4_takesNow_3
def dkwX4_takesNow_1 : List UInt8 := [182, 0, 186, 4, 100, 184, 0, 182, 162, 0, 25, 42, 180, 0, 31, 21, 6, 42, 180, 0, 31, 21, 6, 6]
abbrev dktX4_takesNow_1 : List UInt8 := dkwX4_takesNow_1 ++ dktX4_takesNow_2
def dkwX4_takesNow_0 : List UInt8 := [42, 27, 28, 29, 21, 4, 182, 0, 193, 54, 5, 27, 21, 5, 184, 0, 182, 54, 6, 21, 6, 27, 42, 27]
abbrev dktX4_takesNow_0 : List UInt8 := dkwX4_takesNow_0 ++ dktX4_takesNow_1
theorem dksX4_takesNow_0 : cX4_takesNow.data.toList.drop 0 = dktX4_takesNow_0 := by decide +kernel
theorem dksX4_takesNow_1 : cX4_takesNow.data.toList.drop 24 = dktX4_takesNow_1 := dk_seg dksX4_takesNow_0 24 rfl rfl
theorem dksX4_takesNow_2 : cX4_takesNow.data.toList.drop 48 = dktX4_takesNow_2 := dk_seg dksX4_takesNow_1 24 rfl rfl
theorem dksX4_takesNow_3 : cX4_takesNow.data.toList.drop 71 = dktX4_takesNow_3 := dk_seg dksX4_takesNow_2 23 rfl rfl
theorem dX4_takesNow_0 : decode cX4_takesNow 0 = .ok (.aload_n 0, 1) := dk_42 (dk_at dksX4_takesNow_0 0 rfl rfl)
theorem dX4_takesNow_1 : decode cX4_takesNow 1 = .ok (.iload_n 1, 1) := dk_27 (dk_at dksX4_takesNow_0 1 rfl rfl)
theorem dX4_takesNow_2 : decode cX4_takesNow 2 = .ok (.iload_n 2, 1) := dk_28 (dk_at dksX4_takesNow_0 2 rfl rfl)
theorem dX4_takesNow_3 : decode cX4_takesNow 3 = .ok (.iload_n 3, 1) := dk_29 (dk_at dksX4_takesNow_0 3 rfl rfl)
theorem dX4_takesNow_4 : decode cX4_takesNow 4 = .ok (.iload 4, 2) := dk_21 4 (dk_at dksX4_takesNow_0 4 rfl rfl)
theorem dX4_takesNow_6 : decode cX4_takesNow 6 = .ok (.invokevirtual 193, 3) := dk_182 0 193 (dk_at dksX4_takesNow_0 6 rfl rfl)
theorem dX4_takesNow_9 : decode cX4_takesNow 9 = .ok (.istore 5, 2) := dk_54 5 (dk_at dksX4_takesNow_0 9 rfl rfl)
theorem dX4_takesNow_11 : decode cX4_takesNow 11 = .ok (.iload_n 1, 1) := dk_27 (dk_at dksX4_takesNow_0 11 rfl rfl)
theorem dX4_takesNow_12 : decode cX4_takesNow 12 = .ok (.iload 5, 2) := dk_21 5 (dk_at dksX4_takesNow_0 12 rfl rfl)
theorem dX4_takesNow_14 : decode cX4_takesNow 14 = .ok (.invokestatic 182, 3) := dk_184 0 182 (dk_at dksX4_takesNow_0 14 rfl rfl)
theorem dX4_takesNow_17 : decode cX4_takesNow 17 = .ok (.istore 6, 2) := dk_54 6 (dk_at dksX4_takesNow_0 17 rfl rfl)
theorem dX4_takesNow_19 : decode cX4_takesNow 19 = .ok (.iload 6, 2) := dk_21 6 (dk_at dksX4_takesNow_0 19 rfl rfl)
theorem dX4_takesNow_21 : decode cX4_takesNow 21 = .ok (.iload_n 1, 1) := dk_27 (dk_at dksX4_takesNow_0 21 rfl rfl)
theorem dX4_takesNow_22 : decode cX4_takesNow 22 = .ok (.aload_n 0, 1) := dk_42 (dk_at dksX4_takesNow_0 22 rfl rfl)
theorem dX4_takesNow_23 : decode cX4_takesNow 23 = .ok (.iload_n 1, 1) := dk_27 (dk_at dksX4_takesNow_0 23 rfl rfl)
theorem dX4_takesNow_24 : decode cX4_takesNow 24 = .ok (.invokevirtual 186, 3) := dk_182 0 186 (dk_at dksX4_takesNow_1 0 rfl rfl)
theorem dX4_takesNow_27 : decode cX4_takesNow 27 = .ok (.iconst 1, 1) := dk_4 (dk_at dksX4_takesNow_1 3 rfl rfl)
theorem dX4_takesNow_28 : decode cX4_takesNow 28 = .ok (.isub, 1) := dk_100 (dk_at dksX4_takesNow_1 4 rfl rfl)
theorem dX4_takesNow_29 : decode cX4_takesNow 29 = .ok (.invokestatic 182, 3) := dk_184 0 182 (dk_at dksX4_takesNow_1 5 rfl rfl)
theorem dX4_takesNow_32 : decode cX4_takesNow 32 = .ok (.if_icmp .ge 25, 3) := dk_162 0 25 (dk_at dksX4_takesNow_1 8 rfl rfl)
theorem dX4_takesNow_35 : decode cX4_takesNow 35 = .ok (.aload_n 0, 1) := dk_42 (dk_at dksX4_takesNow_1 11 rfl rfl)
theorem dX4_takesNow_36 : decode cX4_takesNow 36 = .ok (.getfield 31, 3) := dk_180 0 31 (dk_at dksX4_takesNow_1 12 rfl rfl)
theorem dX4_takesNow_39 : decode cX4_takesNow 39 = .ok (.iload 6, 2) := dk_21 6 (dk_at dksX4_takesNow_1 15 rfl rfl)
theorem dX4_takesNow_41 : decode cX4_takesNow 41 = .ok (.aload_n 0, 1) := dk_42 (dk_at dksX4_takesNow_1 17 rfl rfl)
theorem dX4_takesNow_42 : decode cX4_takesNow 42 = .ok (.getfield 31, 3) := dk_180 0 31 (dk_at dksX4_takesNow_1 18 rfl rfl)
theorem dX4_takesNow_45 : decode cX4_takesNow 45 = .ok (.iload 6, 2) := dk_21 6 (dk_at dksX4_takesNow_1 21 rfl rfl)
theorem dX4_takesNow_47 : decode cX4_takesNow 47 = .ok (.iconst 3, 1) := dk_6 (dk_at dksX4_takesNow_1 23 rfl rfl)
theorem dX4_takesNow_48 : decode cX4_takesNow 48 = .ok (.iadd, 1) := dk_96 (dk_at dksX4_takesNow_2 0 rfl rfl)
theorem dX4_takesNow_49 : decode cX4_takesNow 49 = .ok (.iaload, 1) := dk_46 (dk_at dksX4_takesNow_2 1 rfl rfl)
theorem dX4_takesNow_50 : decode cX4_takesNow 50 = .ok (.iastore, 1) := dk_79 (dk_at dksX4_takesNow_2 2 rfl rfl)
theorem dX4_takesNow_51 : decode cX4_takesNow 51 = .ok (.iinc 6 1, 3) := dk_132 6 1 (dk_at dksX4_takesNow_2 3 rfl rfl)
theorem dX4_takesNow_54 : decode cX4_takesNow 54 = .ok (.goto (-35), 3) := dk_167 255 221 (dk_at dksX4_takesNow_2 6 rfl rfl)
theorem dX4_takesNow_57 : decode cX4_takesNow 57 = .ok (.aload_n 0, 1) := dk_42 (dk_at dksX4_takesNow_2 9 rfl rfl)
theorem dX4_takesNow_58 : decode cX4_takesNow 58 = .ok (.getfield 31, 3) := dk_180 0 31 (dk_at dksX4_takesNow_2 10 rfl rfl)
theorem dX4_takesNow_61 : decode cX4_takesNow 61 = .ok (.iconst 2, 1) := dk_5 (dk_at dksX4_takesNow_2 13 rfl rfl)
theorem dX4_takesNow_62 : decode cX4_takesNow 62 = .ok (.iload_n 1, 1) := dk_27 (dk_at dksX4_takesNow_2 14 rfl rfl)
theorem dX4_takesNow_63 : decode cX4_takesNow 63 = .ok (.iadd, 1) := dk_96 (dk_at dksX4_takesNow_2 15 rfl rfl)
theorem dX4_takesNow_64 : decode cX4_takesNow 64 = .ok (.dup2, 1) := dk_92 (dk_at dksX4_takesNow_2 16 rfl rfl)
theorem dX4_takesNow_65 : decode cX4_takesNow 65 = .ok (.iaload, 1) := dk_46 (dk_at dksX4_takesNow_2 17 rfl rfl)
theorem dX4_takesNow_66 : decode cX4_takesNow 66 = .ok (.iconst 1, 1) := dk_4 (dk_at dksX4_takesNow_2 18 rfl rfl)
theorem dX4_takesNow_67 : decode cX4_takesNow 67 = .ok (.isub, 1) := dk_100 (dk_at dksX4_takesNow_2 19 rfl rfl)
theorem dX4_takesNow_68 : decode cX4_takesNow 68 = .ok (.iastore, 1) := dk_79 (dk_at dksX4_takesNow_2 20 rfl rfl)
theorem dX4_takesNow_69 : decode cX4_takesNow 69 = .ok (.aload_n 0, 1) := dk_42 (dk_at dksX4_takesNow_2 21 rfl rfl)
theorem dX4_takesNow_70 : decode cX4_takesNow 70 = .ok (.iload_n 1, 1) := dk_27 (dk_at dksX4_takesNow_2 22 rfl rfl)
theorem dX4_takesNow_71 : decode cX4_takesNow 71 = .ok (.invokevirtual 186, 3) := dk_182 0 186 (dk_at dksX4_takesNow_3 0 rfl rfl)
theorem dX4_takesNow_74 : decode cX4_takesNow 74 = .ok (.ireturn, 1) := dk_172 (dk_at dksX4_takesNow_3 3 rfl rfl)
abbrev cX4_isUsed : ByteArray := prog_13_method_28_code
def yX4_isUsed : MethodName := ⟨RX4, "isUsed", "(I)Z"⟩
def dkwX4_isUsed_0 : List UInt8 := [42, 180, 0, 31, 3, 46, 27, 184, 0, 131, 172]
abbrev dktX4_isUsed_0 : List UInt8 := dkwX4_isUsed_0 ++ []
theorem dksX4_isUsed_0 : cX4_isUsed.data.toList.drop 0 = dktX4_isUsed_0 := by decide +kernel
theorem dX4_isUsed_0 : decode cX4_isUsed 0 = .ok (.aload_n 0, 1) := dk_42 (dk_at dksX4_isUsed_0 0 rfl rfl)
theorem dX4_isUsed_1 : decode cX4_isUsed 1 = .ok (.getfield 31, 3) := dk_180 0 31 (dk_at dksX4_isUsed_0 1 rfl rfl)
theorem dX4_isUsed_4 : decode cX4_isUsed 4 = .ok (.iconst 0, 1) := dk_3 (dk_at dksX4_isUsed_0 4 rfl rfl)
theorem dX4_isUsed_5 : decode cX4_isUsed 5 = .ok (.iaload, 1) := dk_46 (dk_at dksX4_isUsed_0 5 rfl rfl)
theorem dX4_isUsed_6 : decode cX4_isUsed 6 = .ok (.iload_n 1, 1) := dk_27 (dk_at dksX4_isUsed_0 6 rfl rfl)
theorem dX4_isUsed_7 : decode cX4_isUsed 7 = .ok (.invokestatic 131, 3) := dk_184 0 131 (dk_at dksX4_isUsed_0 7 rfl rfl)
theorem dX4_isUsed_10 : decode cX4_isUsed 10 = .ok (.ireturn, 1) := dk_172 (dk_at dksX4_isUsed_0 10 rfl rfl)
abbrev cX4_note : ByteArray := prog_13_method_64_code
def yX4_note : MethodName := ⟨RX4, "note", "(II)V"⟩
def dkwX4_note_4 : List UInt8 := [180, 0, 31, 29, 5, 96, 42, 182, 1, 43, 79, 42, 180, 0, 31, 17, 0, 150, 92, 46, 4, 96, 79, 177]
abbrev dktX4_note_4 : List UInt8 := dkwX4_note_4 ++ []
def dkwX4_note_3 : List UInt8 := [17, 0, 150, 46, 104, 96, 62, 42, 180, 0, 31, 29, 27, 79, 42, 180, 0, 31, 29, 4, 96, 28, 79, 42]
abbrev dktX4_note_3 : List UInt8 := dkwX4_note_3 ++ dktX4_note_4
def dkwX4_note_2 : List UInt8 := [167, 255, 224, 42, 180, 0, 31, 17, 0, 150, 92, 46, 4, 100, 79, 17, 0, 151, 6, 42, 180, 0, 31]
abbrev dktX4_note_2 : List UInt8 := dkwX4_note_2 ++ dktX4_note_3
def dkwX4_note_1 : List UInt8 := [180, 0, 31, 17, 0, 151, 29, 96, 6, 100, 42, 180, 0, 31, 17, 0, 151, 29, 96, 46, 79, 132, 3, 1]
abbrev dktX4_note_1 : List UInt8 := dkwX4_note_1 ++ dktX4_note_2
def dkwX4_note_0 : List UInt8 := [42, 180, 0, 31, 17, 0, 150, 46, 16, 60, 160, 0, 52, 6, 62, 29, 17, 0, 180, 162, 0, 31, 42]
abbrev dktX4_note_0 : List UInt8 := dkwX4_note_0 ++ dktX4_note_1
theorem dksX4_note_0 : cX4_note.data.toList.drop 0 = dktX4_note_0 := by decide +kernel
theorem dksX4_note_1 : cX4_note.data.toList.drop 23 = dktX4_note_1 := dk_seg dksX4_note_0 23 rfl rfl
theorem dksX4_note_2 : cX4_note.data.toList.drop 47 = dktX4_note_2 := dk_seg dksX4_note_1 24 rfl rfl
theorem dksX4_note_3 : cX4_note.data.toList.drop 70 = dktX4_note_3 := dk_seg dksX4_note_2 23 rfl rfl
theorem dksX4_note_4 : cX4_note.data.toList.drop 94 = dktX4_note_4 := dk_seg dksX4_note_3 24 rfl rfl
theorem dX4_note_0 : decode cX4_note 0 = .ok (.aload_n 0, 1) := dk_42 (dk_at dksX4_note_0 0 rfl rfl)
theorem dX4_note_1 : decode cX4_note 1 = .ok (.getfield 31, 3) := dk_180 0 31 (dk_at dksX4_note_0 1 rfl rfl)
theorem dX4_note_4 : decode cX4_note 4 = .ok (.sipush 150, 3) := dk_17 0 150 (dk_at dksX4_note_0 4 rfl rfl)
theorem dX4_note_7 : decode cX4_note 7 = .ok (.iaload, 1) := dk_46 (dk_at dksX4_note_0 7 rfl rfl)
theorem dX4_note_8 : decode cX4_note 8 = .ok (.bipush 60, 2) := dk_16 60 (dk_at dksX4_note_0 8 rfl rfl)
theorem dX4_note_10 : decode cX4_note 10 = .ok (.if_icmp .ne 52, 3) := dk_160 0 52 (dk_at dksX4_note_0 10 rfl rfl)
theorem dX4_note_13 : decode cX4_note 13 = .ok (.iconst 3, 1) := dk_6 (dk_at dksX4_note_0 13 rfl rfl)
theorem dX4_note_14 : decode cX4_note 14 = .ok (.istore_n 3, 1) := dk_62 (dk_at dksX4_note_0 14 rfl rfl)
theorem dX4_note_15 : decode cX4_note 15 = .ok (.iload_n 3, 1) := dk_29 (dk_at dksX4_note_0 15 rfl rfl)
theorem dX4_note_16 : decode cX4_note 16 = .ok (.sipush 180, 3) := dk_17 0 180 (dk_at dksX4_note_0 16 rfl rfl)
theorem dX4_note_19 : decode cX4_note 19 = .ok (.if_icmp .ge 31, 3) := dk_162 0 31 (dk_at dksX4_note_0 19 rfl rfl)
theorem dX4_note_22 : decode cX4_note 22 = .ok (.aload_n 0, 1) := dk_42 (dk_at dksX4_note_0 22 rfl rfl)
theorem dX4_note_23 : decode cX4_note 23 = .ok (.getfield 31, 3) := dk_180 0 31 (dk_at dksX4_note_1 0 rfl rfl)
theorem dX4_note_26 : decode cX4_note 26 = .ok (.sipush 151, 3) := dk_17 0 151 (dk_at dksX4_note_1 3 rfl rfl)
theorem dX4_note_29 : decode cX4_note 29 = .ok (.iload_n 3, 1) := dk_29 (dk_at dksX4_note_1 6 rfl rfl)
theorem dX4_note_30 : decode cX4_note 30 = .ok (.iadd, 1) := dk_96 (dk_at dksX4_note_1 7 rfl rfl)
theorem dX4_note_31 : decode cX4_note 31 = .ok (.iconst 3, 1) := dk_6 (dk_at dksX4_note_1 8 rfl rfl)
theorem dX4_note_32 : decode cX4_note 32 = .ok (.isub, 1) := dk_100 (dk_at dksX4_note_1 9 rfl rfl)
theorem dX4_note_33 : decode cX4_note 33 = .ok (.aload_n 0, 1) := dk_42 (dk_at dksX4_note_1 10 rfl rfl)
theorem dX4_note_34 : decode cX4_note 34 = .ok (.getfield 31, 3) := dk_180 0 31 (dk_at dksX4_note_1 11 rfl rfl)
theorem dX4_note_37 : decode cX4_note 37 = .ok (.sipush 151, 3) := dk_17 0 151 (dk_at dksX4_note_1 14 rfl rfl)
theorem dX4_note_40 : decode cX4_note 40 = .ok (.iload_n 3, 1) := dk_29 (dk_at dksX4_note_1 17 rfl rfl)
theorem dX4_note_41 : decode cX4_note 41 = .ok (.iadd, 1) := dk_96 (dk_at dksX4_note_1 18 rfl rfl)
theorem dX4_note_42 : decode cX4_note 42 = .ok (.iaload, 1) := dk_46 (dk_at dksX4_note_1 19 rfl rfl)
theorem dX4_note_43 : decode cX4_note 43 = .ok (.iastore, 1) := dk_79 (dk_at dksX4_note_1 20 rfl rfl)
theorem dX4_note_44 : decode cX4_note 44 = .ok (.iinc 3 1, 3) := dk_132 3 1 (dk_at dksX4_note_1 21 rfl rfl)
theorem dX4_note_47 : decode cX4_note 47 = .ok (.goto (-32), 3) := dk_167 255 224 (dk_at dksX4_note_2 0 rfl rfl)
theorem dX4_note_50 : decode cX4_note 50 = .ok (.aload_n 0, 1) := dk_42 (dk_at dksX4_note_2 3 rfl rfl)
theorem dX4_note_51 : decode cX4_note 51 = .ok (.getfield 31, 3) := dk_180 0 31 (dk_at dksX4_note_2 4 rfl rfl)
theorem dX4_note_54 : decode cX4_note 54 = .ok (.sipush 150, 3) := dk_17 0 150 (dk_at dksX4_note_2 7 rfl rfl)
theorem dX4_note_57 : decode cX4_note 57 = .ok (.dup2, 1) := dk_92 (dk_at dksX4_note_2 10 rfl rfl)
theorem dX4_note_58 : decode cX4_note 58 = .ok (.iaload, 1) := dk_46 (dk_at dksX4_note_2 11 rfl rfl)
theorem dX4_note_59 : decode cX4_note 59 = .ok (.iconst 1, 1) := dk_4 (dk_at dksX4_note_2 12 rfl rfl)
theorem dX4_note_60 : decode cX4_note 60 = .ok (.isub, 1) := dk_100 (dk_at dksX4_note_2 13 rfl rfl)
theorem dX4_note_61 : decode cX4_note 61 = .ok (.iastore, 1) := dk_79 (dk_at dksX4_note_2 14 rfl rfl)
theorem dX4_note_62 : decode cX4_note 62 = .ok (.sipush 151, 3) := dk_17 0 151 (dk_at dksX4_note_2 15 rfl rfl)
theorem dX4_note_65 : decode cX4_note 65 = .ok (.iconst 3, 1) := dk_6 (dk_at dksX4_note_2 18 rfl rfl)
theorem dX4_note_66 : decode cX4_note 66 = .ok (.aload_n 0, 1) := dk_42 (dk_at dksX4_note_2 19 rfl rfl)
theorem dX4_note_67 : decode cX4_note 67 = .ok (.getfield 31, 3) := dk_180 0 31 (dk_at dksX4_note_2 20 rfl rfl)
theorem dX4_note_70 : decode cX4_note 70 = .ok (.sipush 150, 3) := dk_17 0 150 (dk_at dksX4_note_3 0 rfl rfl)
theorem dX4_note_73 : decode cX4_note 73 = .ok (.iaload, 1) := dk_46 (dk_at dksX4_note_3 3 rfl rfl)
theorem dX4_note_74 : decode cX4_note 74 = .ok (.imul, 1) := dk_104 (dk_at dksX4_note_3 4 rfl rfl)
theorem dX4_note_75 : decode cX4_note 75 = .ok (.iadd, 1) := dk_96 (dk_at dksX4_note_3 5 rfl rfl)
theorem dX4_note_76 : decode cX4_note 76 = .ok (.istore_n 3, 1) := dk_62 (dk_at dksX4_note_3 6 rfl rfl)
theorem dX4_note_77 : decode cX4_note 77 = .ok (.aload_n 0, 1) := dk_42 (dk_at dksX4_note_3 7 rfl rfl)
theorem dX4_note_78 : decode cX4_note 78 = .ok (.getfield 31, 3) := dk_180 0 31 (dk_at dksX4_note_3 8 rfl rfl)
theorem dX4_note_81 : decode cX4_note 81 = .ok (.iload_n 3, 1) := dk_29 (dk_at dksX4_note_3 11 rfl rfl)
theorem dX4_note_82 : decode cX4_note 82 = .ok (.iload_n 1, 1) := dk_27 (dk_at dksX4_note_3 12 rfl rfl)
theorem dX4_note_83 : decode cX4_note 83 = .ok (.iastore, 1) := dk_79 (dk_at dksX4_note_3 13 rfl rfl)
theorem dX4_note_84 : decode cX4_note 84 = .ok (.aload_n 0, 1) := dk_42 (dk_at dksX4_note_3 14 rfl rfl)
theorem dX4_note_85 : decode cX4_note 85 = .ok (.getfield 31, 3) := dk_180 0 31 (dk_at dksX4_note_3 15 rfl rfl)
theorem dX4_note_88 : decode cX4_note 88 = .ok (.iload_n 3, 1) := dk_29 (dk_at dksX4_note_3 18 rfl rfl)
theorem dX4_note_89 : decode cX4_note 89 = .ok (.iconst 1, 1) := dk_4 (dk_at dksX4_note_3 19 rfl rfl)
theorem dX4_note_90 : decode cX4_note 90 = .ok (.iadd, 1) := dk_96 (dk_at dksX4_note_3 20 rfl rfl)
theorem dX4_note_91 : decode cX4_note 91 = .ok (.iload_n 2, 1) := dk_28 (dk_at dksX4_note_3 21 rfl rfl)
theorem dX4_note_92 : decode cX4_note 92 = .ok (.iastore, 1) := dk_79 (dk_at dksX4_note_3 22 rfl rfl)
theorem dX4_note_93 : decode cX4_note 93 = .ok (.aload_n 0, 1) := dk_42 (dk_at dksX4_note_3 23 rfl rfl)
theorem dX4_note_94 : decode cX4_note 94 = .ok (.getfield 31, 3) := dk_180 0 31 (dk_at dksX4_note_4 0 rfl rfl)
theorem dX4_note_97 : decode cX4_note 97 = .ok (.iload_n 3, 1) := dk_29 (dk_at dksX4_note_4 3 rfl rfl)
theorem dX4_note_98 : decode cX4_note 98 = .ok (.iconst 2, 1) := dk_5 (dk_at dksX4_note_4 4 rfl rfl)
theorem dX4_note_99 : decode cX4_note 99 = .ok (.iadd, 1) := dk_96 (dk_at dksX4_note_4 5 rfl rfl)
theorem dX4_note_100 : decode cX4_note 100 = .ok (.aload_n 0, 1) := dk_42 (dk_at dksX4_note_4 6 rfl rfl)
theorem dX4_note_101 : decode cX4_note 101 = .ok (.invokevirtual 299, 3) := dk_182 1 43 (dk_at dksX4_note_4 7 rfl rfl)
theorem dX4_note_104 : decode cX4_note 104 = .ok (.iastore, 1) := dk_79 (dk_at dksX4_note_4 10 rfl rfl)
theorem dX4_note_105 : decode cX4_note 105 = .ok (.aload_n 0, 1) := dk_42 (dk_at dksX4_note_4 11 rfl rfl)
theorem dX4_note_106 : decode cX4_note 106 = .ok (.getfield 31, 3) := dk_180 0 31 (dk_at dksX4_note_4 12 rfl rfl)
theorem dX4_note_109 : decode cX4_note 109 = .ok (.sipush 150, 3) := dk_17 0 150 (dk_at dksX4_note_4 15 rfl rfl)
theorem dX4_note_112 : decode cX4_note 112 = .ok (.dup2, 1) := dk_92 (dk_at dksX4_note_4 18 rfl rfl)
theorem dX4_note_113 : decode cX4_note 113 = .ok (.iaload, 1) := dk_46 (dk_at dksX4_note_4 19 rfl rfl)
theorem dX4_note_114 : decode cX4_note 114 = .ok (.iconst 1, 1) := dk_4 (dk_at dksX4_note_4 20 rfl rfl)
theorem dX4_note_115 : decode cX4_note 115 = .ok (.iadd, 1) := dk_96 (dk_at dksX4_note_4 21 rfl rfl)
theorem dX4_note_116 : decode cX4_note 116 = .ok (.iastore, 1) := dk_79 (dk_at dksX4_note_4 22 rfl rfl)
theorem dX4_note_117 : decode cX4_note 117 = .ok (.return_, 1) := dk_177 (dk_at dksX4_note_4 23 rfl rfl)
abbrev cX4_rowsNow : ByteArray := prog_13_method_63_code
def yX4_rowsNow : MethodName := ⟨RX4, "rowsNow", "()I"⟩
def dkwX4_rowsNow_0 : List UInt8 := [42, 182, 1, 40, 42, 180, 0, 247, 172]
abbrev dktX4_rowsNow_0 : List UInt8 := dkwX4_rowsNow_0 ++ []
theorem dksX4_rowsNow_0 : cX4_rowsNow.data.toList.drop 0 = dktX4_rowsNow_0 := by decide +kernel
theorem dX4_rowsNow_0 : decode cX4_rowsNow 0 = .ok (.aload_n 0, 1) := dk_42 (dk_at dksX4_rowsNow_0 0 rfl rfl)
theorem dX4_rowsNow_1 : decode cX4_rowsNow 1 = .ok (.invokevirtual 296, 3) := dk_182 1 40 (dk_at dksX4_rowsNow_0 1 rfl rfl)
theorem dX4_rowsNow_4 : decode cX4_rowsNow 4 = .ok (.aload_n 0, 1) := dk_42 (dk_at dksX4_rowsNow_0 4 rfl rfl)
theorem dX4_rowsNow_5 : decode cX4_rowsNow 5 = .ok (.getfield 247, 3) := dk_180 0 247 (dk_at dksX4_rowsNow_0 5 rfl rfl)
theorem dX4_rowsNow_8 : decode cX4_rowsNow 8 = .ok (.ireturn, 1) := dk_172 (dk_at dksX4_rowsNow_0 8 rfl rfl)
abbrev cX4_joinsNow : ByteArray := prog_13_method_54_code
def yX4_joinsNow : MethodName := ⟨RX4, "joinsNow", "()V"⟩
def dkwX4_joinsNow_0 : List UInt8 := [42, 42, 180, 0, 31, 4, 46, 182, 1, 18, 177]
abbrev dktX4_joinsNow_0 : List UInt8 := dkwX4_joinsNow_0 ++ []
theorem dksX4_joinsNow_0 : cX4_joinsNow.data.toList.drop 0 = dktX4_joinsNow_0 := by decide +kernel
theorem dX4_joinsNow_0 : decode cX4_joinsNow 0 = .ok (.aload_n 0, 1) := dk_42 (dk_at dksX4_joinsNow_0 0 rfl rfl)
theorem dX4_joinsNow_1 : decode cX4_joinsNow 1 = .ok (.aload_n 0, 1) := dk_42 (dk_at dksX4_joinsNow_0 1 rfl rfl)
theorem dX4_joinsNow_2 : decode cX4_joinsNow 2 = .ok (.getfield 31, 3) := dk_180 0 31 (dk_at dksX4_joinsNow_0 2 rfl rfl)
theorem dX4_joinsNow_5 : decode cX4_joinsNow 5 = .ok (.iconst 1, 1) := dk_4 (dk_at dksX4_joinsNow_0 5 rfl rfl)
theorem dX4_joinsNow_6 : decode cX4_joinsNow 6 = .ok (.iaload, 1) := dk_46 (dk_at dksX4_joinsNow_0 6 rfl rfl)
theorem dX4_joinsNow_7 : decode cX4_joinsNow 7 = .ok (.invokevirtual 274, 3) := dk_182 1 18 (dk_at dksX4_joinsNow_0 7 rfl rfl)
theorem dX4_joinsNow_10 : decode cX4_joinsNow 10 = .ok (.return_, 1) := dk_177 (dk_at dksX4_joinsNow_0 10 rfl rfl)
abbrev cX4_joins : ByteArray := prog_13_method_53_code
def yX4_joins : MethodName := ⟨RX4, "joins", "(I)V"⟩
def dkwX4_joins_2 : List UInt8 := [182, 1, 6, 177]
abbrev dktX4_joins_2 : List UInt8 := dkwX4_joins_2 ++ []
def dkwX4_joins_1 : List UInt8 := [180, 0, 46, 28, 2, 79, 42, 180, 0, 58, 28, 4, 96, 3, 79, 132, 2, 1, 167, 255, 232, 42, 3]
abbrev dktX4_joins_1 : List UInt8 := dkwX4_joins_1 ++ dktX4_joins_2
def dkwX4_joins_0 : List UInt8 := [42, 27, 182, 1, 15, 42, 3, 181, 0, 247, 42, 3, 181, 0, 244, 3, 61, 28, 7, 162, 0, 25, 42]
abbrev dktX4_joins_0 : List UInt8 := dkwX4_joins_0 ++ dktX4_joins_1
theorem dksX4_joins_0 : cX4_joins.data.toList.drop 0 = dktX4_joins_0 := by decide +kernel
theorem dksX4_joins_1 : cX4_joins.data.toList.drop 23 = dktX4_joins_1 := dk_seg dksX4_joins_0 23 rfl rfl
theorem dksX4_joins_2 : cX4_joins.data.toList.drop 46 = dktX4_joins_2 := dk_seg dksX4_joins_1 23 rfl rfl
theorem dX4_joins_0 : decode cX4_joins 0 = .ok (.aload_n 0, 1) := dk_42 (dk_at dksX4_joins_0 0 rfl rfl)
theorem dX4_joins_1 : decode cX4_joins 1 = .ok (.iload_n 1, 1) := dk_27 (dk_at dksX4_joins_0 1 rfl rfl)
theorem dX4_joins_2 : decode cX4_joins 2 = .ok (.invokevirtual 271, 3) := dk_182 1 15 (dk_at dksX4_joins_0 2 rfl rfl)
theorem dX4_joins_5 : decode cX4_joins 5 = .ok (.aload_n 0, 1) := dk_42 (dk_at dksX4_joins_0 5 rfl rfl)
theorem dX4_joins_6 : decode cX4_joins 6 = .ok (.iconst 0, 1) := dk_3 (dk_at dksX4_joins_0 6 rfl rfl)
theorem dX4_joins_7 : decode cX4_joins 7 = .ok (.putfield 247, 3) := dk_181 0 247 (dk_at dksX4_joins_0 7 rfl rfl)
theorem dX4_joins_10 : decode cX4_joins 10 = .ok (.aload_n 0, 1) := dk_42 (dk_at dksX4_joins_0 10 rfl rfl)
theorem dX4_joins_11 : decode cX4_joins 11 = .ok (.iconst 0, 1) := dk_3 (dk_at dksX4_joins_0 11 rfl rfl)
theorem dX4_joins_12 : decode cX4_joins 12 = .ok (.putfield 244, 3) := dk_181 0 244 (dk_at dksX4_joins_0 12 rfl rfl)
theorem dX4_joins_15 : decode cX4_joins 15 = .ok (.iconst 0, 1) := dk_3 (dk_at dksX4_joins_0 15 rfl rfl)
theorem dX4_joins_16 : decode cX4_joins 16 = .ok (.istore_n 2, 1) := dk_61 (dk_at dksX4_joins_0 16 rfl rfl)
theorem dX4_joins_17 : decode cX4_joins 17 = .ok (.iload_n 2, 1) := dk_28 (dk_at dksX4_joins_0 17 rfl rfl)
theorem dX4_joins_18 : decode cX4_joins 18 = .ok (.iconst 4, 1) := dk_7 (dk_at dksX4_joins_0 18 rfl rfl)
theorem dX4_joins_19 : decode cX4_joins 19 = .ok (.if_icmp .ge 25, 3) := dk_162 0 25 (dk_at dksX4_joins_0 19 rfl rfl)
theorem dX4_joins_22 : decode cX4_joins 22 = .ok (.aload_n 0, 1) := dk_42 (dk_at dksX4_joins_0 22 rfl rfl)
theorem dX4_joins_23 : decode cX4_joins 23 = .ok (.getfield 46, 3) := dk_180 0 46 (dk_at dksX4_joins_1 0 rfl rfl)
theorem dX4_joins_26 : decode cX4_joins 26 = .ok (.iload_n 2, 1) := dk_28 (dk_at dksX4_joins_1 3 rfl rfl)
theorem dX4_joins_27 : decode cX4_joins 27 = .ok (.iconst (-1), 1) := dk_2 (dk_at dksX4_joins_1 4 rfl rfl)
theorem dX4_joins_28 : decode cX4_joins 28 = .ok (.iastore, 1) := dk_79 (dk_at dksX4_joins_1 5 rfl rfl)
theorem dX4_joins_29 : decode cX4_joins 29 = .ok (.aload_n 0, 1) := dk_42 (dk_at dksX4_joins_1 6 rfl rfl)
theorem dX4_joins_30 : decode cX4_joins 30 = .ok (.getfield 58, 3) := dk_180 0 58 (dk_at dksX4_joins_1 7 rfl rfl)
theorem dX4_joins_33 : decode cX4_joins 33 = .ok (.iload_n 2, 1) := dk_28 (dk_at dksX4_joins_1 10 rfl rfl)
theorem dX4_joins_34 : decode cX4_joins 34 = .ok (.iconst 1, 1) := dk_4 (dk_at dksX4_joins_1 11 rfl rfl)
theorem dX4_joins_35 : decode cX4_joins 35 = .ok (.iadd, 1) := dk_96 (dk_at dksX4_joins_1 12 rfl rfl)
theorem dX4_joins_36 : decode cX4_joins 36 = .ok (.iconst 0, 1) := dk_3 (dk_at dksX4_joins_1 13 rfl rfl)
theorem dX4_joins_37 : decode cX4_joins 37 = .ok (.iastore, 1) := dk_79 (dk_at dksX4_joins_1 14 rfl rfl)
theorem dX4_joins_38 : decode cX4_joins 38 = .ok (.iinc 2 1, 3) := dk_132 2 1 (dk_at dksX4_joins_1 15 rfl rfl)
theorem dX4_joins_41 : decode cX4_joins 41 = .ok (.goto (-24), 3) := dk_167 255 232 (dk_at dksX4_joins_1 18 rfl rfl)
theorem dX4_joins_44 : decode cX4_joins 44 = .ok (.aload_n 0, 1) := dk_42 (dk_at dksX4_joins_1 21 rfl rfl)
theorem dX4_joins_45 : decode cX4_joins 45 = .ok (.iconst 0, 1) := dk_3 (dk_at dksX4_joins_1 22 rfl rfl)
theorem dX4_joins_46 : decode cX4_joins 46 = .ok (.invokevirtual 262, 3) := dk_182 1 6 (dk_at dksX4_joins_2 0 rfl rfl)
theorem dX4_joins_49 : decode cX4_joins 49 = .ok (.return_, 1) := dk_177 (dk_at dksX4_joins_2 3 rfl rfl)
abbrev cX4_laysOrder : ByteArray := prog_13_method_40_code
def yX4_laysOrder : MethodName := ⟨RX4, "laysOrder", "(I)V"⟩
def dkwX4_laysOrder_6 : List UInt8 := [167, 255, 133, 177]
abbrev dktX4_laysOrder_6 : List UInt8 := dkwX4_laysOrder_6 ++ []
def dkwX4_laysOrder_5 : List UInt8 := [42, 180, 0, 43, 42, 180, 0, 217, 21, 7, 79, 42, 89, 180, 0, 217, 4, 96, 181, 0, 217, 132, 5, 1]
abbrev dktX4_laysOrder_5 : List UInt8 := dkwX4_laysOrder_5 ++ dktX4_laysOrder_6
def dkwX4_laysOrder_4 : List UInt8 := [167, 255, 220, 28, 4, 21, 7, 120, 2, 130, 126, 61, 42, 182, 0, 220, 21, 7, 184, 0, 131, 153, 0, 24]
abbrev dktX4_laysOrder_4 : List UInt8 := dkwX4_laysOrder_4 ++ dktX4_laysOrder_5
def dkwX4_laysOrder_3 : List UInt8 := [21, 6, 28, 21, 7, 184, 0, 131, 153, 0, 7, 4, 167, 0, 4, 3, 100, 54, 6, 132, 7, 1]
abbrev dktX4_laysOrder_3 : List UInt8 := dkwX4_laysOrder_3 ++ dktX4_laysOrder_4
def dkwX4_laysOrder_2 : List UInt8 := [167, 0, 4, 4, 54, 4, 3, 54, 7, 28, 21, 7, 184, 0, 131, 153, 0, 8, 21, 6, 158, 0, 28]
abbrev dktX4_laysOrder_2 : List UInt8 := dkwX4_laysOrder_2 ++ dktX4_laysOrder_3
def dkwX4_laysOrder_1 : List UInt8 := [21, 4, 108, 54, 6, 29, 21, 4, 112, 62, 21, 5, 5, 162, 0, 13, 21, 4, 6, 21, 5, 100, 108]
abbrev dktX4_laysOrder_1 : List UInt8 := dkwX4_laysOrder_1 ++ dktX4_laysOrder_2
def dkwX4_laysOrder_0 : List UInt8 := [16, 15, 61, 27, 62, 42, 3, 181, 0, 217, 16, 6, 54, 4, 3, 54, 5, 21, 5, 7, 162, 0, 123, 29]
abbrev dktX4_laysOrder_0 : List UInt8 := dkwX4_laysOrder_0 ++ dktX4_laysOrder_1
theorem dksX4_laysOrder_0 : cX4_laysOrder.data.toList.drop 0 = dktX4_laysOrder_0 := by decide +kernel
theorem dksX4_laysOrder_1 : cX4_laysOrder.data.toList.drop 24 = dktX4_laysOrder_1 := dk_seg dksX4_laysOrder_0 24 rfl rfl
theorem dksX4_laysOrder_2 : cX4_laysOrder.data.toList.drop 47 = dktX4_laysOrder_2 := dk_seg dksX4_laysOrder_1 23 rfl rfl
theorem dksX4_laysOrder_3 : cX4_laysOrder.data.toList.drop 70 = dktX4_laysOrder_3 := dk_seg dksX4_laysOrder_2 23 rfl rfl
theorem dksX4_laysOrder_4 : cX4_laysOrder.data.toList.drop 92 = dktX4_laysOrder_4 := dk_seg dksX4_laysOrder_3 22 rfl rfl
theorem dksX4_laysOrder_5 : cX4_laysOrder.data.toList.drop 116 = dktX4_laysOrder_5 := dk_seg dksX4_laysOrder_4 24 rfl rfl
theorem dksX4_laysOrder_6 : cX4_laysOrder.data.toList.drop 140 = dktX4_laysOrder_6 := dk_seg dksX4_laysOrder_5 24 rfl rfl
theorem dX4_laysOrder_0 : decode cX4_laysOrder 0 = .ok (.bipush 15, 2) := dk_16 15 (dk_at dksX4_laysOrder_0 0 rfl rfl)
theorem dX4_laysOrder_2 : decode cX4_laysOrder 2 = .ok (.istore_n 2, 1) := dk_61 (dk_at dksX4_laysOrder_0 2 rfl rfl)
theorem dX4_laysOrder_3 : decode cX4_laysOrder 3 = .ok (.iload_n 1, 1) := dk_27 (dk_at dksX4_laysOrder_0 3 rfl rfl)
theorem dX4_laysOrder_4 : decode cX4_laysOrder 4 = .ok (.istore_n 3, 1) := dk_62 (dk_at dksX4_laysOrder_0 4 rfl rfl)
theorem dX4_laysOrder_5 : decode cX4_laysOrder 5 = .ok (.aload_n 0, 1) := dk_42 (dk_at dksX4_laysOrder_0 5 rfl rfl)
theorem dX4_laysOrder_6 : decode cX4_laysOrder 6 = .ok (.iconst 0, 1) := dk_3 (dk_at dksX4_laysOrder_0 6 rfl rfl)
theorem dX4_laysOrder_7 : decode cX4_laysOrder 7 = .ok (.putfield 217, 3) := dk_181 0 217 (dk_at dksX4_laysOrder_0 7 rfl rfl)
theorem dX4_laysOrder_10 : decode cX4_laysOrder 10 = .ok (.bipush 6, 2) := dk_16 6 (dk_at dksX4_laysOrder_0 10 rfl rfl)
theorem dX4_laysOrder_12 : decode cX4_laysOrder 12 = .ok (.istore 4, 2) := dk_54 4 (dk_at dksX4_laysOrder_0 12 rfl rfl)
theorem dX4_laysOrder_14 : decode cX4_laysOrder 14 = .ok (.iconst 0, 1) := dk_3 (dk_at dksX4_laysOrder_0 14 rfl rfl)
theorem dX4_laysOrder_15 : decode cX4_laysOrder 15 = .ok (.istore 5, 2) := dk_54 5 (dk_at dksX4_laysOrder_0 15 rfl rfl)
theorem dX4_laysOrder_17 : decode cX4_laysOrder 17 = .ok (.iload 5, 2) := dk_21 5 (dk_at dksX4_laysOrder_0 17 rfl rfl)
theorem dX4_laysOrder_19 : decode cX4_laysOrder 19 = .ok (.iconst 4, 1) := dk_7 (dk_at dksX4_laysOrder_0 19 rfl rfl)
theorem dX4_laysOrder_20 : decode cX4_laysOrder 20 = .ok (.if_icmp .ge 123, 3) := dk_162 0 123 (dk_at dksX4_laysOrder_0 20 rfl rfl)
theorem dX4_laysOrder_23 : decode cX4_laysOrder 23 = .ok (.iload_n 3, 1) := dk_29 (dk_at dksX4_laysOrder_0 23 rfl rfl)
theorem dX4_laysOrder_24 : decode cX4_laysOrder 24 = .ok (.iload 4, 2) := dk_21 4 (dk_at dksX4_laysOrder_1 0 rfl rfl)
theorem dX4_laysOrder_26 : decode cX4_laysOrder 26 = .ok (.idiv, 1) := dk_108 (dk_at dksX4_laysOrder_1 2 rfl rfl)
theorem dX4_laysOrder_27 : decode cX4_laysOrder 27 = .ok (.istore 6, 2) := dk_54 6 (dk_at dksX4_laysOrder_1 3 rfl rfl)
theorem dX4_laysOrder_29 : decode cX4_laysOrder 29 = .ok (.iload_n 3, 1) := dk_29 (dk_at dksX4_laysOrder_1 5 rfl rfl)
theorem dX4_laysOrder_30 : decode cX4_laysOrder 30 = .ok (.iload 4, 2) := dk_21 4 (dk_at dksX4_laysOrder_1 6 rfl rfl)
theorem dX4_laysOrder_32 : decode cX4_laysOrder 32 = .ok (.irem, 1) := dk_112 (dk_at dksX4_laysOrder_1 8 rfl rfl)
theorem dX4_laysOrder_33 : decode cX4_laysOrder 33 = .ok (.istore_n 3, 1) := dk_62 (dk_at dksX4_laysOrder_1 9 rfl rfl)
theorem dX4_laysOrder_34 : decode cX4_laysOrder 34 = .ok (.iload 5, 2) := dk_21 5 (dk_at dksX4_laysOrder_1 10 rfl rfl)
theorem dX4_laysOrder_36 : decode cX4_laysOrder 36 = .ok (.iconst 2, 1) := dk_5 (dk_at dksX4_laysOrder_1 12 rfl rfl)
theorem dX4_laysOrder_37 : decode cX4_laysOrder 37 = .ok (.if_icmp .ge 13, 3) := dk_162 0 13 (dk_at dksX4_laysOrder_1 13 rfl rfl)
theorem dX4_laysOrder_40 : decode cX4_laysOrder 40 = .ok (.iload 4, 2) := dk_21 4 (dk_at dksX4_laysOrder_1 16 rfl rfl)
theorem dX4_laysOrder_42 : decode cX4_laysOrder 42 = .ok (.iconst 3, 1) := dk_6 (dk_at dksX4_laysOrder_1 18 rfl rfl)
theorem dX4_laysOrder_43 : decode cX4_laysOrder 43 = .ok (.iload 5, 2) := dk_21 5 (dk_at dksX4_laysOrder_1 19 rfl rfl)
theorem dX4_laysOrder_45 : decode cX4_laysOrder 45 = .ok (.isub, 1) := dk_100 (dk_at dksX4_laysOrder_1 21 rfl rfl)
theorem dX4_laysOrder_46 : decode cX4_laysOrder 46 = .ok (.idiv, 1) := dk_108 (dk_at dksX4_laysOrder_1 22 rfl rfl)
theorem dX4_laysOrder_47 : decode cX4_laysOrder 47 = .ok (.goto 4, 3) := dk_167 0 4 (dk_at dksX4_laysOrder_2 0 rfl rfl)
theorem dX4_laysOrder_50 : decode cX4_laysOrder 50 = .ok (.iconst 1, 1) := dk_4 (dk_at dksX4_laysOrder_2 3 rfl rfl)
theorem dX4_laysOrder_51 : decode cX4_laysOrder 51 = .ok (.istore 4, 2) := dk_54 4 (dk_at dksX4_laysOrder_2 4 rfl rfl)
theorem dX4_laysOrder_53 : decode cX4_laysOrder 53 = .ok (.iconst 0, 1) := dk_3 (dk_at dksX4_laysOrder_2 6 rfl rfl)
theorem dX4_laysOrder_54 : decode cX4_laysOrder 54 = .ok (.istore 7, 2) := dk_54 7 (dk_at dksX4_laysOrder_2 7 rfl rfl)
theorem dX4_laysOrder_56 : decode cX4_laysOrder 56 = .ok (.iload_n 2, 1) := dk_28 (dk_at dksX4_laysOrder_2 9 rfl rfl)
theorem dX4_laysOrder_57 : decode cX4_laysOrder 57 = .ok (.iload 7, 2) := dk_21 7 (dk_at dksX4_laysOrder_2 10 rfl rfl)
theorem dX4_laysOrder_59 : decode cX4_laysOrder 59 = .ok (.invokestatic 131, 3) := dk_184 0 131 (dk_at dksX4_laysOrder_2 12 rfl rfl)
theorem dX4_laysOrder_62 : decode cX4_laysOrder 62 = .ok (.ifCond .eq 8, 3) := dk_153 0 8 (dk_at dksX4_laysOrder_2 15 rfl rfl)
theorem dX4_laysOrder_65 : decode cX4_laysOrder 65 = .ok (.iload 6, 2) := dk_21 6 (dk_at dksX4_laysOrder_2 18 rfl rfl)
theorem dX4_laysOrder_67 : decode cX4_laysOrder 67 = .ok (.ifCond .le 28, 3) := dk_158 0 28 (dk_at dksX4_laysOrder_2 20 rfl rfl)
theorem dX4_laysOrder_70 : decode cX4_laysOrder 70 = .ok (.iload 6, 2) := dk_21 6 (dk_at dksX4_laysOrder_3 0 rfl rfl)
theorem dX4_laysOrder_72 : decode cX4_laysOrder 72 = .ok (.iload_n 2, 1) := dk_28 (dk_at dksX4_laysOrder_3 2 rfl rfl)
theorem dX4_laysOrder_73 : decode cX4_laysOrder 73 = .ok (.iload 7, 2) := dk_21 7 (dk_at dksX4_laysOrder_3 3 rfl rfl)
theorem dX4_laysOrder_75 : decode cX4_laysOrder 75 = .ok (.invokestatic 131, 3) := dk_184 0 131 (dk_at dksX4_laysOrder_3 5 rfl rfl)
theorem dX4_laysOrder_78 : decode cX4_laysOrder 78 = .ok (.ifCond .eq 7, 3) := dk_153 0 7 (dk_at dksX4_laysOrder_3 8 rfl rfl)
theorem dX4_laysOrder_81 : decode cX4_laysOrder 81 = .ok (.iconst 1, 1) := dk_4 (dk_at dksX4_laysOrder_3 11 rfl rfl)
theorem dX4_laysOrder_82 : decode cX4_laysOrder 82 = .ok (.goto 4, 3) := dk_167 0 4 (dk_at dksX4_laysOrder_3 12 rfl rfl)
theorem dX4_laysOrder_85 : decode cX4_laysOrder 85 = .ok (.iconst 0, 1) := dk_3 (dk_at dksX4_laysOrder_3 15 rfl rfl)
theorem dX4_laysOrder_86 : decode cX4_laysOrder 86 = .ok (.isub, 1) := dk_100 (dk_at dksX4_laysOrder_3 16 rfl rfl)
theorem dX4_laysOrder_87 : decode cX4_laysOrder 87 = .ok (.istore 6, 2) := dk_54 6 (dk_at dksX4_laysOrder_3 17 rfl rfl)
theorem dX4_laysOrder_89 : decode cX4_laysOrder 89 = .ok (.iinc 7 1, 3) := dk_132 7 1 (dk_at dksX4_laysOrder_3 19 rfl rfl)
theorem dX4_laysOrder_92 : decode cX4_laysOrder 92 = .ok (.goto (-36), 3) := dk_167 255 220 (dk_at dksX4_laysOrder_4 0 rfl rfl)
theorem dX4_laysOrder_95 : decode cX4_laysOrder 95 = .ok (.iload_n 2, 1) := dk_28 (dk_at dksX4_laysOrder_4 3 rfl rfl)
theorem dX4_laysOrder_96 : decode cX4_laysOrder 96 = .ok (.iconst 1, 1) := dk_4 (dk_at dksX4_laysOrder_4 4 rfl rfl)
theorem dX4_laysOrder_97 : decode cX4_laysOrder 97 = .ok (.iload 7, 2) := dk_21 7 (dk_at dksX4_laysOrder_4 5 rfl rfl)
theorem dX4_laysOrder_99 : decode cX4_laysOrder 99 = .ok (.ishl, 1) := dk_120 (dk_at dksX4_laysOrder_4 7 rfl rfl)
theorem dX4_laysOrder_100 : decode cX4_laysOrder 100 = .ok (.iconst (-1), 1) := dk_2 (dk_at dksX4_laysOrder_4 8 rfl rfl)
theorem dX4_laysOrder_101 : decode cX4_laysOrder 101 = .ok (.ixor, 1) := dk_130 (dk_at dksX4_laysOrder_4 9 rfl rfl)
theorem dX4_laysOrder_102 : decode cX4_laysOrder 102 = .ok (.iand, 1) := dk_126 (dk_at dksX4_laysOrder_4 10 rfl rfl)
theorem dX4_laysOrder_103 : decode cX4_laysOrder 103 = .ok (.istore_n 2, 1) := dk_61 (dk_at dksX4_laysOrder_4 11 rfl rfl)
theorem dX4_laysOrder_104 : decode cX4_laysOrder 104 = .ok (.aload_n 0, 1) := dk_42 (dk_at dksX4_laysOrder_4 12 rfl rfl)
theorem dX4_laysOrder_105 : decode cX4_laysOrder 105 = .ok (.invokevirtual 220, 3) := dk_182 0 220 (dk_at dksX4_laysOrder_4 13 rfl rfl)
theorem dX4_laysOrder_108 : decode cX4_laysOrder 108 = .ok (.iload 7, 2) := dk_21 7 (dk_at dksX4_laysOrder_4 16 rfl rfl)
theorem dX4_laysOrder_110 : decode cX4_laysOrder 110 = .ok (.invokestatic 131, 3) := dk_184 0 131 (dk_at dksX4_laysOrder_4 18 rfl rfl)
theorem dX4_laysOrder_113 : decode cX4_laysOrder 113 = .ok (.ifCond .eq 24, 3) := dk_153 0 24 (dk_at dksX4_laysOrder_4 21 rfl rfl)
theorem dX4_laysOrder_116 : decode cX4_laysOrder 116 = .ok (.aload_n 0, 1) := dk_42 (dk_at dksX4_laysOrder_5 0 rfl rfl)
theorem dX4_laysOrder_117 : decode cX4_laysOrder 117 = .ok (.getfield 43, 3) := dk_180 0 43 (dk_at dksX4_laysOrder_5 1 rfl rfl)
theorem dX4_laysOrder_120 : decode cX4_laysOrder 120 = .ok (.aload_n 0, 1) := dk_42 (dk_at dksX4_laysOrder_5 4 rfl rfl)
theorem dX4_laysOrder_121 : decode cX4_laysOrder 121 = .ok (.getfield 217, 3) := dk_180 0 217 (dk_at dksX4_laysOrder_5 5 rfl rfl)
theorem dX4_laysOrder_124 : decode cX4_laysOrder 124 = .ok (.iload 7, 2) := dk_21 7 (dk_at dksX4_laysOrder_5 8 rfl rfl)
theorem dX4_laysOrder_126 : decode cX4_laysOrder 126 = .ok (.iastore, 1) := dk_79 (dk_at dksX4_laysOrder_5 10 rfl rfl)
theorem dX4_laysOrder_127 : decode cX4_laysOrder 127 = .ok (.aload_n 0, 1) := dk_42 (dk_at dksX4_laysOrder_5 11 rfl rfl)
theorem dX4_laysOrder_128 : decode cX4_laysOrder 128 = .ok (.dup, 1) := dk_89 (dk_at dksX4_laysOrder_5 12 rfl rfl)
theorem dX4_laysOrder_129 : decode cX4_laysOrder 129 = .ok (.getfield 217, 3) := dk_180 0 217 (dk_at dksX4_laysOrder_5 13 rfl rfl)
theorem dX4_laysOrder_132 : decode cX4_laysOrder 132 = .ok (.iconst 1, 1) := dk_4 (dk_at dksX4_laysOrder_5 16 rfl rfl)
theorem dX4_laysOrder_133 : decode cX4_laysOrder 133 = .ok (.iadd, 1) := dk_96 (dk_at dksX4_laysOrder_5 17 rfl rfl)
theorem dX4_laysOrder_134 : decode cX4_laysOrder 134 = .ok (.putfield 217, 3) := dk_181 0 217 (dk_at dksX4_laysOrder_5 18 rfl rfl)
theorem dX4_laysOrder_137 : decode cX4_laysOrder 137 = .ok (.iinc 5 1, 3) := dk_132 5 1 (dk_at dksX4_laysOrder_5 21 rfl rfl)
theorem dX4_laysOrder_140 : decode cX4_laysOrder 140 = .ok (.goto (-123), 3) := dk_167 255 133 (dk_at dksX4_laysOrder_6 0 rfl rfl)
theorem dX4_laysOrder_143 : decode cX4_laysOrder 143 = .ok (.return_, 1) := dk_177 (dk_at dksX4_laysOrder_6 3 rfl rfl)
abbrev cX4_asked : ByteArray := prog_13_method_32_code
def yX4_asked : MethodName := ⟨RX4, "asked", "()I"⟩
def dkwX4_asked_1 : List UInt8 := [182, 0, 179, 167, 0, 4, 3, 128, 60, 132, 2, 1, 167, 255, 225, 27, 172]
abbrev dktX4_asked_1 : List UInt8 := dkwX4_asked_1 ++ []
def dkwX4_asked_0 : List UInt8 := [3, 60, 3, 61, 28, 42, 180, 0, 173, 162, 0, 29, 27, 42, 28, 182, 0, 176, 153, 0, 11, 42, 28]
abbrev dktX4_asked_0 : List UInt8 := dkwX4_asked_0 ++ dktX4_asked_1
theorem dksX4_asked_0 : cX4_asked.data.toList.drop 0 = dktX4_asked_0 := by decide +kernel
theorem dksX4_asked_1 : cX4_asked.data.toList.drop 23 = dktX4_asked_1 := dk_seg dksX4_asked_0 23 rfl rfl
theorem dX4_asked_0 : decode cX4_asked 0 = .ok (.iconst 0, 1) := dk_3 (dk_at dksX4_asked_0 0 rfl rfl)
theorem dX4_asked_1 : decode cX4_asked 1 = .ok (.istore_n 1, 1) := dk_60 (dk_at dksX4_asked_0 1 rfl rfl)
theorem dX4_asked_2 : decode cX4_asked 2 = .ok (.iconst 0, 1) := dk_3 (dk_at dksX4_asked_0 2 rfl rfl)
theorem dX4_asked_3 : decode cX4_asked 3 = .ok (.istore_n 2, 1) := dk_61 (dk_at dksX4_asked_0 3 rfl rfl)
theorem dX4_asked_4 : decode cX4_asked 4 = .ok (.iload_n 2, 1) := dk_28 (dk_at dksX4_asked_0 4 rfl rfl)
theorem dX4_asked_5 : decode cX4_asked 5 = .ok (.aload_n 0, 1) := dk_42 (dk_at dksX4_asked_0 5 rfl rfl)
theorem dX4_asked_6 : decode cX4_asked 6 = .ok (.getfield 173, 3) := dk_180 0 173 (dk_at dksX4_asked_0 6 rfl rfl)
theorem dX4_asked_9 : decode cX4_asked 9 = .ok (.if_icmp .ge 29, 3) := dk_162 0 29 (dk_at dksX4_asked_0 9 rfl rfl)
theorem dX4_asked_12 : decode cX4_asked 12 = .ok (.iload_n 1, 1) := dk_27 (dk_at dksX4_asked_0 12 rfl rfl)
theorem dX4_asked_13 : decode cX4_asked 13 = .ok (.aload_n 0, 1) := dk_42 (dk_at dksX4_asked_0 13 rfl rfl)
theorem dX4_asked_14 : decode cX4_asked 14 = .ok (.iload_n 2, 1) := dk_28 (dk_at dksX4_asked_0 14 rfl rfl)
theorem dX4_asked_15 : decode cX4_asked 15 = .ok (.invokevirtual 176, 3) := dk_182 0 176 (dk_at dksX4_asked_0 15 rfl rfl)
theorem dX4_asked_18 : decode cX4_asked 18 = .ok (.ifCond .eq 11, 3) := dk_153 0 11 (dk_at dksX4_asked_0 18 rfl rfl)
theorem dX4_asked_21 : decode cX4_asked 21 = .ok (.aload_n 0, 1) := dk_42 (dk_at dksX4_asked_0 21 rfl rfl)
theorem dX4_asked_22 : decode cX4_asked 22 = .ok (.iload_n 2, 1) := dk_28 (dk_at dksX4_asked_0 22 rfl rfl)
theorem dX4_asked_23 : decode cX4_asked 23 = .ok (.invokevirtual 179, 3) := dk_182 0 179 (dk_at dksX4_asked_1 0 rfl rfl)
theorem dX4_asked_26 : decode cX4_asked 26 = .ok (.goto 4, 3) := dk_167 0 4 (dk_at dksX4_asked_1 3 rfl rfl)
theorem dX4_asked_29 : decode cX4_asked 29 = .ok (.iconst 0, 1) := dk_3 (dk_at dksX4_asked_1 6 rfl rfl)
theorem dX4_asked_30 : decode cX4_asked 30 = .ok (.ior, 1) := dk_128 (dk_at dksX4_asked_1 7 rfl rfl)
theorem dX4_asked_31 : decode cX4_asked 31 = .ok (.istore_n 1, 1) := dk_60 (dk_at dksX4_asked_1 8 rfl rfl)
theorem dX4_asked_32 : decode cX4_asked 32 = .ok (.iinc 2 1, 3) := dk_132 2 1 (dk_at dksX4_asked_1 9 rfl rfl)
theorem dX4_asked_35 : decode cX4_asked 35 = .ok (.goto (-31), 3) := dk_167 255 225 (dk_at dksX4_asked_1 12 rfl rfl)
theorem dX4_asked_38 : decode cX4_asked 38 = .ok (.iload_n 1, 1) := dk_27 (dk_at dksX4_asked_1 15 rfl rfl)
theorem dX4_asked_39 : decode cX4_asked 39 = .ok (.ireturn, 1) := dk_172 (dk_at dksX4_asked_1 16 rfl rfl)
abbrev cX4_lettersOf : ByteArray := prog_13_method_31_code
def yX4_lettersOf : MethodName := ⟨RX4, "lettersOf", "(I)I"⟩
def dkwX4_lettersOf_1 : List UInt8 := [96, 46, 120, 128, 61, 132, 3, 1, 167, 255, 228, 28, 172]
abbrev dktX4_lettersOf_1 : List UInt8 := dkwX4_lettersOf_1 ++ []
def dkwX4_lettersOf_0 : List UInt8 := [3, 61, 3, 62, 29, 42, 180, 0, 37, 27, 46, 162, 0, 24, 28, 4, 42, 180, 0, 40, 6, 27, 104, 29]
abbrev dktX4_lettersOf_0 : List UInt8 := dkwX4_lettersOf_0 ++ dktX4_lettersOf_1
theorem dksX4_lettersOf_0 : cX4_lettersOf.data.toList.drop 0 = dktX4_lettersOf_0 := by decide +kernel
theorem dksX4_lettersOf_1 : cX4_lettersOf.data.toList.drop 24 = dktX4_lettersOf_1 := dk_seg dksX4_lettersOf_0 24 rfl rfl
theorem dX4_lettersOf_0 : decode cX4_lettersOf 0 = .ok (.iconst 0, 1) := dk_3 (dk_at dksX4_lettersOf_0 0 rfl rfl)
theorem dX4_lettersOf_1 : decode cX4_lettersOf 1 = .ok (.istore_n 2, 1) := dk_61 (dk_at dksX4_lettersOf_0 1 rfl rfl)
theorem dX4_lettersOf_2 : decode cX4_lettersOf 2 = .ok (.iconst 0, 1) := dk_3 (dk_at dksX4_lettersOf_0 2 rfl rfl)
theorem dX4_lettersOf_3 : decode cX4_lettersOf 3 = .ok (.istore_n 3, 1) := dk_62 (dk_at dksX4_lettersOf_0 3 rfl rfl)
theorem dX4_lettersOf_4 : decode cX4_lettersOf 4 = .ok (.iload_n 3, 1) := dk_29 (dk_at dksX4_lettersOf_0 4 rfl rfl)
theorem dX4_lettersOf_5 : decode cX4_lettersOf 5 = .ok (.aload_n 0, 1) := dk_42 (dk_at dksX4_lettersOf_0 5 rfl rfl)
theorem dX4_lettersOf_6 : decode cX4_lettersOf 6 = .ok (.getfield 37, 3) := dk_180 0 37 (dk_at dksX4_lettersOf_0 6 rfl rfl)
theorem dX4_lettersOf_9 : decode cX4_lettersOf 9 = .ok (.iload_n 1, 1) := dk_27 (dk_at dksX4_lettersOf_0 9 rfl rfl)
theorem dX4_lettersOf_10 : decode cX4_lettersOf 10 = .ok (.iaload, 1) := dk_46 (dk_at dksX4_lettersOf_0 10 rfl rfl)
theorem dX4_lettersOf_11 : decode cX4_lettersOf 11 = .ok (.if_icmp .ge 24, 3) := dk_162 0 24 (dk_at dksX4_lettersOf_0 11 rfl rfl)
theorem dX4_lettersOf_14 : decode cX4_lettersOf 14 = .ok (.iload_n 2, 1) := dk_28 (dk_at dksX4_lettersOf_0 14 rfl rfl)
theorem dX4_lettersOf_15 : decode cX4_lettersOf 15 = .ok (.iconst 1, 1) := dk_4 (dk_at dksX4_lettersOf_0 15 rfl rfl)
theorem dX4_lettersOf_16 : decode cX4_lettersOf 16 = .ok (.aload_n 0, 1) := dk_42 (dk_at dksX4_lettersOf_0 16 rfl rfl)
theorem dX4_lettersOf_17 : decode cX4_lettersOf 17 = .ok (.getfield 40, 3) := dk_180 0 40 (dk_at dksX4_lettersOf_0 17 rfl rfl)
theorem dX4_lettersOf_20 : decode cX4_lettersOf 20 = .ok (.iconst 3, 1) := dk_6 (dk_at dksX4_lettersOf_0 20 rfl rfl)
theorem dX4_lettersOf_21 : decode cX4_lettersOf 21 = .ok (.iload_n 1, 1) := dk_27 (dk_at dksX4_lettersOf_0 21 rfl rfl)
theorem dX4_lettersOf_22 : decode cX4_lettersOf 22 = .ok (.imul, 1) := dk_104 (dk_at dksX4_lettersOf_0 22 rfl rfl)
theorem dX4_lettersOf_23 : decode cX4_lettersOf 23 = .ok (.iload_n 3, 1) := dk_29 (dk_at dksX4_lettersOf_0 23 rfl rfl)
theorem dX4_lettersOf_24 : decode cX4_lettersOf 24 = .ok (.iadd, 1) := dk_96 (dk_at dksX4_lettersOf_1 0 rfl rfl)
theorem dX4_lettersOf_25 : decode cX4_lettersOf 25 = .ok (.iaload, 1) := dk_46 (dk_at dksX4_lettersOf_1 1 rfl rfl)
theorem dX4_lettersOf_26 : decode cX4_lettersOf 26 = .ok (.ishl, 1) := dk_120 (dk_at dksX4_lettersOf_1 2 rfl rfl)
theorem dX4_lettersOf_27 : decode cX4_lettersOf 27 = .ok (.ior, 1) := dk_128 (dk_at dksX4_lettersOf_1 3 rfl rfl)
theorem dX4_lettersOf_28 : decode cX4_lettersOf 28 = .ok (.istore_n 2, 1) := dk_61 (dk_at dksX4_lettersOf_1 4 rfl rfl)
theorem dX4_lettersOf_29 : decode cX4_lettersOf 29 = .ok (.iinc 3 1, 3) := dk_132 3 1 (dk_at dksX4_lettersOf_1 5 rfl rfl)
theorem dX4_lettersOf_32 : decode cX4_lettersOf 32 = .ok (.goto (-28), 3) := dk_167 255 228 (dk_at dksX4_lettersOf_1 8 rfl rfl)
theorem dX4_lettersOf_35 : decode cX4_lettersOf 35 = .ok (.iload_n 2, 1) := dk_28 (dk_at dksX4_lettersOf_1 11 rfl rfl)
theorem dX4_lettersOf_36 : decode cX4_lettersOf 36 = .ok (.ireturn, 1) := dk_172 (dk_at dksX4_lettersOf_1 12 rfl rfl)
abbrev cX4_goes : ByteArray := prog_13_method_52_code
def yX4_goes : MethodName := ⟨RX4, "goes", "(I)V"⟩
def dkwX4_goes_4 : List UInt8 := [96, 182, 1, 12, 61, 167, 0, 12, 42, 27, 21, 4, 29, 182, 1, 12, 61, 167, 255, 163, 177]
abbrev dktX4_goes_4 : List UInt8 := dkwX4_goes_4 ++ []
def dkwX4_goes_3 : List UInt8 := [182, 1, 6, 42, 180, 0, 46, 42, 180, 0, 43, 27, 46, 2, 79, 42, 27, 42, 27, 182, 1, 9, 29, 4]
abbrev dktX4_goes_3 : List UInt8 := dkwX4_goes_3 ++ dktX4_goes_4
def dkwX4_goes_2 : List UInt8 := [180, 0, 43, 27, 46, 29, 79, 42, 180, 0, 58, 27, 4, 96, 92, 46, 4, 96, 79, 42, 27, 4, 96]
abbrev dktX4_goes_2 : List UInt8 := dkwX4_goes_2 ++ dktX4_goes_3
def dkwX4_goes_1 : List UInt8 := [27, 182, 1, 0, 62, 42, 27, 29, 182, 1, 3, 54, 4, 21, 4, 2, 160, 0, 63, 42, 180, 0, 46, 42]
abbrev dktX4_goes_1 : List UInt8 := dkwX4_goes_1 ++ dktX4_goes_2
def dkwX4_goes_0 : List UInt8 := [27, 42, 180, 0, 217, 160, 0, 8, 42, 182, 0, 250, 177, 42, 27, 182, 0, 253, 61, 28, 153, 0, 95, 42]
abbrev dktX4_goes_0 : List UInt8 := dkwX4_goes_0 ++ dktX4_goes_1
theorem dksX4_goes_0 : cX4_goes.data.toList.drop 0 = dktX4_goes_0 := by decide +kernel
theorem dksX4_goes_1 : cX4_goes.data.toList.drop 24 = dktX4_goes_1 := dk_seg dksX4_goes_0 24 rfl rfl
theorem dksX4_goes_2 : cX4_goes.data.toList.drop 48 = dktX4_goes_2 := dk_seg dksX4_goes_1 24 rfl rfl
theorem dksX4_goes_3 : cX4_goes.data.toList.drop 71 = dktX4_goes_3 := dk_seg dksX4_goes_2 23 rfl rfl
theorem dksX4_goes_4 : cX4_goes.data.toList.drop 95 = dktX4_goes_4 := dk_seg dksX4_goes_3 24 rfl rfl
theorem dX4_goes_0 : decode cX4_goes 0 = .ok (.iload_n 1, 1) := dk_27 (dk_at dksX4_goes_0 0 rfl rfl)
theorem dX4_goes_1 : decode cX4_goes 1 = .ok (.aload_n 0, 1) := dk_42 (dk_at dksX4_goes_0 1 rfl rfl)
theorem dX4_goes_2 : decode cX4_goes 2 = .ok (.getfield 217, 3) := dk_180 0 217 (dk_at dksX4_goes_0 2 rfl rfl)
theorem dX4_goes_5 : decode cX4_goes 5 = .ok (.if_icmp .ne 8, 3) := dk_160 0 8 (dk_at dksX4_goes_0 5 rfl rfl)
theorem dX4_goes_8 : decode cX4_goes 8 = .ok (.aload_n 0, 1) := dk_42 (dk_at dksX4_goes_0 8 rfl rfl)
theorem dX4_goes_9 : decode cX4_goes 9 = .ok (.invokevirtual 250, 3) := dk_182 0 250 (dk_at dksX4_goes_0 9 rfl rfl)
theorem dX4_goes_12 : decode cX4_goes 12 = .ok (.return_, 1) := dk_177 (dk_at dksX4_goes_0 12 rfl rfl)
theorem dX4_goes_13 : decode cX4_goes 13 = .ok (.aload_n 0, 1) := dk_42 (dk_at dksX4_goes_0 13 rfl rfl)
theorem dX4_goes_14 : decode cX4_goes 14 = .ok (.iload_n 1, 1) := dk_27 (dk_at dksX4_goes_0 14 rfl rfl)
theorem dX4_goes_15 : decode cX4_goes 15 = .ok (.invokevirtual 253, 3) := dk_182 0 253 (dk_at dksX4_goes_0 15 rfl rfl)
theorem dX4_goes_18 : decode cX4_goes 18 = .ok (.istore_n 2, 1) := dk_61 (dk_at dksX4_goes_0 18 rfl rfl)
theorem dX4_goes_19 : decode cX4_goes 19 = .ok (.iload_n 2, 1) := dk_28 (dk_at dksX4_goes_0 19 rfl rfl)
theorem dX4_goes_20 : decode cX4_goes 20 = .ok (.ifCond .eq 95, 3) := dk_153 0 95 (dk_at dksX4_goes_0 20 rfl rfl)
theorem dX4_goes_23 : decode cX4_goes 23 = .ok (.aload_n 0, 1) := dk_42 (dk_at dksX4_goes_0 23 rfl rfl)
theorem dX4_goes_24 : decode cX4_goes 24 = .ok (.iload_n 1, 1) := dk_27 (dk_at dksX4_goes_1 0 rfl rfl)
theorem dX4_goes_25 : decode cX4_goes 25 = .ok (.invokevirtual 256, 3) := dk_182 1 0 (dk_at dksX4_goes_1 1 rfl rfl)
theorem dX4_goes_28 : decode cX4_goes 28 = .ok (.istore_n 3, 1) := dk_62 (dk_at dksX4_goes_1 4 rfl rfl)
theorem dX4_goes_29 : decode cX4_goes 29 = .ok (.aload_n 0, 1) := dk_42 (dk_at dksX4_goes_1 5 rfl rfl)
theorem dX4_goes_30 : decode cX4_goes 30 = .ok (.iload_n 1, 1) := dk_27 (dk_at dksX4_goes_1 6 rfl rfl)
theorem dX4_goes_31 : decode cX4_goes 31 = .ok (.iload_n 3, 1) := dk_29 (dk_at dksX4_goes_1 7 rfl rfl)
theorem dX4_goes_32 : decode cX4_goes 32 = .ok (.invokevirtual 259, 3) := dk_182 1 3 (dk_at dksX4_goes_1 8 rfl rfl)
theorem dX4_goes_35 : decode cX4_goes 35 = .ok (.istore 4, 2) := dk_54 4 (dk_at dksX4_goes_1 11 rfl rfl)
theorem dX4_goes_37 : decode cX4_goes 37 = .ok (.iload 4, 2) := dk_21 4 (dk_at dksX4_goes_1 13 rfl rfl)
theorem dX4_goes_39 : decode cX4_goes 39 = .ok (.iconst (-1), 1) := dk_2 (dk_at dksX4_goes_1 15 rfl rfl)
theorem dX4_goes_40 : decode cX4_goes 40 = .ok (.if_icmp .ne 63, 3) := dk_160 0 63 (dk_at dksX4_goes_1 16 rfl rfl)
theorem dX4_goes_43 : decode cX4_goes 43 = .ok (.aload_n 0, 1) := dk_42 (dk_at dksX4_goes_1 19 rfl rfl)
theorem dX4_goes_44 : decode cX4_goes 44 = .ok (.getfield 46, 3) := dk_180 0 46 (dk_at dksX4_goes_1 20 rfl rfl)
theorem dX4_goes_47 : decode cX4_goes 47 = .ok (.aload_n 0, 1) := dk_42 (dk_at dksX4_goes_1 23 rfl rfl)
theorem dX4_goes_48 : decode cX4_goes 48 = .ok (.getfield 43, 3) := dk_180 0 43 (dk_at dksX4_goes_2 0 rfl rfl)
theorem dX4_goes_51 : decode cX4_goes 51 = .ok (.iload_n 1, 1) := dk_27 (dk_at dksX4_goes_2 3 rfl rfl)
theorem dX4_goes_52 : decode cX4_goes 52 = .ok (.iaload, 1) := dk_46 (dk_at dksX4_goes_2 4 rfl rfl)
theorem dX4_goes_53 : decode cX4_goes 53 = .ok (.iload_n 3, 1) := dk_29 (dk_at dksX4_goes_2 5 rfl rfl)
theorem dX4_goes_54 : decode cX4_goes 54 = .ok (.iastore, 1) := dk_79 (dk_at dksX4_goes_2 6 rfl rfl)
theorem dX4_goes_55 : decode cX4_goes 55 = .ok (.aload_n 0, 1) := dk_42 (dk_at dksX4_goes_2 7 rfl rfl)
theorem dX4_goes_56 : decode cX4_goes 56 = .ok (.getfield 58, 3) := dk_180 0 58 (dk_at dksX4_goes_2 8 rfl rfl)
theorem dX4_goes_59 : decode cX4_goes 59 = .ok (.iload_n 1, 1) := dk_27 (dk_at dksX4_goes_2 11 rfl rfl)
theorem dX4_goes_60 : decode cX4_goes 60 = .ok (.iconst 1, 1) := dk_4 (dk_at dksX4_goes_2 12 rfl rfl)
theorem dX4_goes_61 : decode cX4_goes 61 = .ok (.iadd, 1) := dk_96 (dk_at dksX4_goes_2 13 rfl rfl)
theorem dX4_goes_62 : decode cX4_goes 62 = .ok (.dup2, 1) := dk_92 (dk_at dksX4_goes_2 14 rfl rfl)
theorem dX4_goes_63 : decode cX4_goes 63 = .ok (.iaload, 1) := dk_46 (dk_at dksX4_goes_2 15 rfl rfl)
theorem dX4_goes_64 : decode cX4_goes 64 = .ok (.iconst 1, 1) := dk_4 (dk_at dksX4_goes_2 16 rfl rfl)
theorem dX4_goes_65 : decode cX4_goes 65 = .ok (.iadd, 1) := dk_96 (dk_at dksX4_goes_2 17 rfl rfl)
theorem dX4_goes_66 : decode cX4_goes 66 = .ok (.iastore, 1) := dk_79 (dk_at dksX4_goes_2 18 rfl rfl)
theorem dX4_goes_67 : decode cX4_goes 67 = .ok (.aload_n 0, 1) := dk_42 (dk_at dksX4_goes_2 19 rfl rfl)
theorem dX4_goes_68 : decode cX4_goes 68 = .ok (.iload_n 1, 1) := dk_27 (dk_at dksX4_goes_2 20 rfl rfl)
theorem dX4_goes_69 : decode cX4_goes 69 = .ok (.iconst 1, 1) := dk_4 (dk_at dksX4_goes_2 21 rfl rfl)
theorem dX4_goes_70 : decode cX4_goes 70 = .ok (.iadd, 1) := dk_96 (dk_at dksX4_goes_2 22 rfl rfl)
theorem dX4_goes_71 : decode cX4_goes 71 = .ok (.invokevirtual 262, 3) := dk_182 1 6 (dk_at dksX4_goes_3 0 rfl rfl)
theorem dX4_goes_74 : decode cX4_goes 74 = .ok (.aload_n 0, 1) := dk_42 (dk_at dksX4_goes_3 3 rfl rfl)
theorem dX4_goes_75 : decode cX4_goes 75 = .ok (.getfield 46, 3) := dk_180 0 46 (dk_at dksX4_goes_3 4 rfl rfl)
theorem dX4_goes_78 : decode cX4_goes 78 = .ok (.aload_n 0, 1) := dk_42 (dk_at dksX4_goes_3 7 rfl rfl)
theorem dX4_goes_79 : decode cX4_goes 79 = .ok (.getfield 43, 3) := dk_180 0 43 (dk_at dksX4_goes_3 8 rfl rfl)
theorem dX4_goes_82 : decode cX4_goes 82 = .ok (.iload_n 1, 1) := dk_27 (dk_at dksX4_goes_3 11 rfl rfl)
theorem dX4_goes_83 : decode cX4_goes 83 = .ok (.iaload, 1) := dk_46 (dk_at dksX4_goes_3 12 rfl rfl)
theorem dX4_goes_84 : decode cX4_goes 84 = .ok (.iconst (-1), 1) := dk_2 (dk_at dksX4_goes_3 13 rfl rfl)
theorem dX4_goes_85 : decode cX4_goes 85 = .ok (.iastore, 1) := dk_79 (dk_at dksX4_goes_3 14 rfl rfl)
theorem dX4_goes_86 : decode cX4_goes 86 = .ok (.aload_n 0, 1) := dk_42 (dk_at dksX4_goes_3 15 rfl rfl)
theorem dX4_goes_87 : decode cX4_goes 87 = .ok (.iload_n 1, 1) := dk_27 (dk_at dksX4_goes_3 16 rfl rfl)
theorem dX4_goes_88 : decode cX4_goes 88 = .ok (.aload_n 0, 1) := dk_42 (dk_at dksX4_goes_3 17 rfl rfl)
theorem dX4_goes_89 : decode cX4_goes 89 = .ok (.iload_n 1, 1) := dk_27 (dk_at dksX4_goes_3 18 rfl rfl)
theorem dX4_goes_90 : decode cX4_goes 90 = .ok (.invokevirtual 265, 3) := dk_182 1 9 (dk_at dksX4_goes_3 19 rfl rfl)
theorem dX4_goes_93 : decode cX4_goes 93 = .ok (.iload_n 3, 1) := dk_29 (dk_at dksX4_goes_3 22 rfl rfl)
theorem dX4_goes_94 : decode cX4_goes 94 = .ok (.iconst 1, 1) := dk_4 (dk_at dksX4_goes_3 23 rfl rfl)
theorem dX4_goes_95 : decode cX4_goes 95 = .ok (.iadd, 1) := dk_96 (dk_at dksX4_goes_4 0 rfl rfl)
theorem dX4_goes_96 : decode cX4_goes 96 = .ok (.invokevirtual 268, 3) := dk_182 1 12 (dk_at dksX4_goes_4 1 rfl rfl)
theorem dX4_goes_99 : decode cX4_goes 99 = .ok (.istore_n 2, 1) := dk_61 (dk_at dksX4_goes_4 4 rfl rfl)
theorem dX4_goes_100 : decode cX4_goes 100 = .ok (.goto 12, 3) := dk_167 0 12 (dk_at dksX4_goes_4 5 rfl rfl)
theorem dX4_goes_103 : decode cX4_goes 103 = .ok (.aload_n 0, 1) := dk_42 (dk_at dksX4_goes_4 8 rfl rfl)
theorem dX4_goes_104 : decode cX4_goes 104 = .ok (.iload_n 1, 1) := dk_27 (dk_at dksX4_goes_4 9 rfl rfl)
theorem dX4_goes_105 : decode cX4_goes 105 = .ok (.iload 4, 2) := dk_21 4 (dk_at dksX4_goes_4 10 rfl rfl)
theorem dX4_goes_107 : decode cX4_goes 107 = .ok (.iload_n 3, 1) := dk_29 (dk_at dksX4_goes_4 12 rfl rfl)
theorem dX4_goes_108 : decode cX4_goes 108 = .ok (.invokevirtual 268, 3) := dk_182 1 12 (dk_at dksX4_goes_4 13 rfl rfl)
theorem dX4_goes_111 : decode cX4_goes 111 = .ok (.istore_n 2, 1) := dk_61 (dk_at dksX4_goes_4 16 rfl rfl)
theorem dX4_goes_112 : decode cX4_goes 112 = .ok (.goto (-93), 3) := dk_167 255 163 (dk_at dksX4_goes_4 17 rfl rfl)
theorem dX4_goes_115 : decode cX4_goes 115 = .ok (.return_, 1) := dk_177 (dk_at dksX4_goes_4 20 rfl rfl)
abbrev cX4_takesRow : ByteArray := prog_13_method_51_code
def yX4_takesRow : MethodName := ⟨RX4, "takesRow", "()V"⟩
def dkwX4_takesRow_1 : List UInt8 := [46, 79, 132, 1, 1, 167, 255, 229, 42, 89, 180, 0, 247, 4, 96, 181, 0, 247, 177]
abbrev dktX4_takesRow_1 : List UInt8 := dkwX4_takesRow_1 ++ []
def dkwX4_takesRow_0 : List UInt8 := [3, 60, 27, 7, 162, 0, 28, 42, 180, 0, 62, 7, 42, 180, 0, 247, 104, 27, 96, 42, 180, 0, 46, 27]
abbrev dktX4_takesRow_0 : List UInt8 := dkwX4_takesRow_0 ++ dktX4_takesRow_1
theorem dksX4_takesRow_0 : cX4_takesRow.data.toList.drop 0 = dktX4_takesRow_0 := by decide +kernel
theorem dksX4_takesRow_1 : cX4_takesRow.data.toList.drop 24 = dktX4_takesRow_1 := dk_seg dksX4_takesRow_0 24 rfl rfl
theorem dX4_takesRow_0 : decode cX4_takesRow 0 = .ok (.iconst 0, 1) := dk_3 (dk_at dksX4_takesRow_0 0 rfl rfl)
theorem dX4_takesRow_1 : decode cX4_takesRow 1 = .ok (.istore_n 1, 1) := dk_60 (dk_at dksX4_takesRow_0 1 rfl rfl)
theorem dX4_takesRow_2 : decode cX4_takesRow 2 = .ok (.iload_n 1, 1) := dk_27 (dk_at dksX4_takesRow_0 2 rfl rfl)
theorem dX4_takesRow_3 : decode cX4_takesRow 3 = .ok (.iconst 4, 1) := dk_7 (dk_at dksX4_takesRow_0 3 rfl rfl)
theorem dX4_takesRow_4 : decode cX4_takesRow 4 = .ok (.if_icmp .ge 28, 3) := dk_162 0 28 (dk_at dksX4_takesRow_0 4 rfl rfl)
theorem dX4_takesRow_7 : decode cX4_takesRow 7 = .ok (.aload_n 0, 1) := dk_42 (dk_at dksX4_takesRow_0 7 rfl rfl)
theorem dX4_takesRow_8 : decode cX4_takesRow 8 = .ok (.getfield 62, 3) := dk_180 0 62 (dk_at dksX4_takesRow_0 8 rfl rfl)
theorem dX4_takesRow_11 : decode cX4_takesRow 11 = .ok (.iconst 4, 1) := dk_7 (dk_at dksX4_takesRow_0 11 rfl rfl)
theorem dX4_takesRow_12 : decode cX4_takesRow 12 = .ok (.aload_n 0, 1) := dk_42 (dk_at dksX4_takesRow_0 12 rfl rfl)
theorem dX4_takesRow_13 : decode cX4_takesRow 13 = .ok (.getfield 247, 3) := dk_180 0 247 (dk_at dksX4_takesRow_0 13 rfl rfl)
theorem dX4_takesRow_16 : decode cX4_takesRow 16 = .ok (.imul, 1) := dk_104 (dk_at dksX4_takesRow_0 16 rfl rfl)
theorem dX4_takesRow_17 : decode cX4_takesRow 17 = .ok (.iload_n 1, 1) := dk_27 (dk_at dksX4_takesRow_0 17 rfl rfl)
theorem dX4_takesRow_18 : decode cX4_takesRow 18 = .ok (.iadd, 1) := dk_96 (dk_at dksX4_takesRow_0 18 rfl rfl)
theorem dX4_takesRow_19 : decode cX4_takesRow 19 = .ok (.aload_n 0, 1) := dk_42 (dk_at dksX4_takesRow_0 19 rfl rfl)
theorem dX4_takesRow_20 : decode cX4_takesRow 20 = .ok (.getfield 46, 3) := dk_180 0 46 (dk_at dksX4_takesRow_0 20 rfl rfl)
theorem dX4_takesRow_23 : decode cX4_takesRow 23 = .ok (.iload_n 1, 1) := dk_27 (dk_at dksX4_takesRow_0 23 rfl rfl)
theorem dX4_takesRow_24 : decode cX4_takesRow 24 = .ok (.iaload, 1) := dk_46 (dk_at dksX4_takesRow_1 0 rfl rfl)
theorem dX4_takesRow_25 : decode cX4_takesRow 25 = .ok (.iastore, 1) := dk_79 (dk_at dksX4_takesRow_1 1 rfl rfl)
theorem dX4_takesRow_26 : decode cX4_takesRow 26 = .ok (.iinc 1 1, 3) := dk_132 1 1 (dk_at dksX4_takesRow_1 2 rfl rfl)
theorem dX4_takesRow_29 : decode cX4_takesRow 29 = .ok (.goto (-27), 3) := dk_167 255 229 (dk_at dksX4_takesRow_1 5 rfl rfl)
theorem dX4_takesRow_32 : decode cX4_takesRow 32 = .ok (.aload_n 0, 1) := dk_42 (dk_at dksX4_takesRow_1 8 rfl rfl)
theorem dX4_takesRow_33 : decode cX4_takesRow 33 = .ok (.dup, 1) := dk_89 (dk_at dksX4_takesRow_1 9 rfl rfl)
theorem dX4_takesRow_34 : decode cX4_takesRow 34 = .ok (.getfield 247, 3) := dk_180 0 247 (dk_at dksX4_takesRow_1 10 rfl rfl)
theorem dX4_takesRow_37 : decode cX4_takesRow 37 = .ok (.iconst 1, 1) := dk_4 (dk_at dksX4_takesRow_1 13 rfl rfl)
theorem dX4_takesRow_38 : decode cX4_takesRow 38 = .ok (.iadd, 1) := dk_96 (dk_at dksX4_takesRow_1 14 rfl rfl)
theorem dX4_takesRow_39 : decode cX4_takesRow 39 = .ok (.putfield 247, 3) := dk_181 0 247 (dk_at dksX4_takesRow_1 15 rfl rfl)
theorem dX4_takesRow_42 : decode cX4_takesRow 42 = .ok (.return_, 1) := dk_177 (dk_at dksX4_takesRow_1 18 rfl rfl)
abbrev cX4_laysKeys : ByteArray := prog_13_method_45_code
def yX4_laysKeys : MethodName := ⟨RX4, "laysKeys", "(I)Z"⟩
def dkwX4_laysKeys_5 : List UInt8 := [158, 0, 7, 4, 167, 0, 4, 3, 61, 132, 3, 1, 167, 255, 130, 28, 172]
abbrev dktX4_laysKeys_5 : List UInt8 := dkwX4_laysKeys_5 ++ []
def dkwX4_laysKeys_4 : List UInt8 := [21, 5, 96, 46, 182, 0, 232, 132, 6, 1, 167, 255, 212, 28, 153, 0, 17, 42, 180, 0, 52, 21, 4, 46]
abbrev dktX4_laysKeys_4 : List UInt8 := dkwX4_laysKeys_4 ++ dktX4_laysKeys_5
def dkwX4_laysKeys_3 : List UInt8 := [29, 21, 6, 27, 182, 0, 229, 153, 0, 23, 42, 21, 4, 42, 180, 0, 31, 29, 21, 6, 184, 0, 182]
abbrev dktX4_laysKeys_3 : List UInt8 := dkwX4_laysKeys_3 ++ dktX4_laysKeys_4
def dkwX4_laysKeys_2 : List UInt8 := [180, 0, 43, 27, 46, 182, 0, 223, 54, 5, 3, 54, 6, 21, 6, 42, 29, 182, 0, 186, 162, 0, 40, 42]
abbrev dktX4_laysKeys_2 : List UInt8 := dkwX4_laysKeys_2 ++ dktX4_laysKeys_3
def dkwX4_laysKeys_1 : List UInt8 := [21, 4, 3, 79, 42, 180, 0, 55, 21, 4, 3, 79, 42, 29, 27, 182, 0, 226, 153, 0, 86, 42, 29, 42]
abbrev dktX4_laysKeys_1 : List UInt8 := dkwX4_laysKeys_1 ++ dktX4_laysKeys_2
def dkwX4_laysKeys_0 : List UInt8 := [4, 61, 3, 62, 29, 42, 180, 0, 173, 162, 0, 124, 7, 27, 104, 29, 96, 54, 4, 42, 180, 0, 52]
abbrev dktX4_laysKeys_0 : List UInt8 := dkwX4_laysKeys_0 ++ dktX4_laysKeys_1
theorem dksX4_laysKeys_0 : cX4_laysKeys.data.toList.drop 0 = dktX4_laysKeys_0 := by decide +kernel
theorem dksX4_laysKeys_1 : cX4_laysKeys.data.toList.drop 23 = dktX4_laysKeys_1 := dk_seg dksX4_laysKeys_0 23 rfl rfl
theorem dksX4_laysKeys_2 : cX4_laysKeys.data.toList.drop 47 = dktX4_laysKeys_2 := dk_seg dksX4_laysKeys_1 24 rfl rfl
theorem dksX4_laysKeys_3 : cX4_laysKeys.data.toList.drop 71 = dktX4_laysKeys_3 := dk_seg dksX4_laysKeys_2 24 rfl rfl
theorem dksX4_laysKeys_4 : cX4_laysKeys.data.toList.drop 94 = dktX4_laysKeys_4 := dk_seg dksX4_laysKeys_3 23 rfl rfl
theorem dksX4_laysKeys_5 : cX4_laysKeys.data.toList.drop 118 = dktX4_laysKeys_5 := dk_seg dksX4_laysKeys_4 24 rfl rfl
theorem dX4_laysKeys_0 : decode cX4_laysKeys 0 = .ok (.iconst 1, 1) := dk_4 (dk_at dksX4_laysKeys_0 0 rfl rfl)
theorem dX4_laysKeys_1 : decode cX4_laysKeys 1 = .ok (.istore_n 2, 1) := dk_61 (dk_at dksX4_laysKeys_0 1 rfl rfl)
theorem dX4_laysKeys_2 : decode cX4_laysKeys 2 = .ok (.iconst 0, 1) := dk_3 (dk_at dksX4_laysKeys_0 2 rfl rfl)
theorem dX4_laysKeys_3 : decode cX4_laysKeys 3 = .ok (.istore_n 3, 1) := dk_62 (dk_at dksX4_laysKeys_0 3 rfl rfl)
theorem dX4_laysKeys_4 : decode cX4_laysKeys 4 = .ok (.iload_n 3, 1) := dk_29 (dk_at dksX4_laysKeys_0 4 rfl rfl)
theorem dX4_laysKeys_5 : decode cX4_laysKeys 5 = .ok (.aload_n 0, 1) := dk_42 (dk_at dksX4_laysKeys_0 5 rfl rfl)
theorem dX4_laysKeys_6 : decode cX4_laysKeys 6 = .ok (.getfield 173, 3) := dk_180 0 173 (dk_at dksX4_laysKeys_0 6 rfl rfl)
theorem dX4_laysKeys_9 : decode cX4_laysKeys 9 = .ok (.if_icmp .ge 124, 3) := dk_162 0 124 (dk_at dksX4_laysKeys_0 9 rfl rfl)
theorem dX4_laysKeys_12 : decode cX4_laysKeys 12 = .ok (.iconst 4, 1) := dk_7 (dk_at dksX4_laysKeys_0 12 rfl rfl)
theorem dX4_laysKeys_13 : decode cX4_laysKeys 13 = .ok (.iload_n 1, 1) := dk_27 (dk_at dksX4_laysKeys_0 13 rfl rfl)
theorem dX4_laysKeys_14 : decode cX4_laysKeys 14 = .ok (.imul, 1) := dk_104 (dk_at dksX4_laysKeys_0 14 rfl rfl)
theorem dX4_laysKeys_15 : decode cX4_laysKeys 15 = .ok (.iload_n 3, 1) := dk_29 (dk_at dksX4_laysKeys_0 15 rfl rfl)
theorem dX4_laysKeys_16 : decode cX4_laysKeys 16 = .ok (.iadd, 1) := dk_96 (dk_at dksX4_laysKeys_0 16 rfl rfl)
theorem dX4_laysKeys_17 : decode cX4_laysKeys 17 = .ok (.istore 4, 2) := dk_54 4 (dk_at dksX4_laysKeys_0 17 rfl rfl)
theorem dX4_laysKeys_19 : decode cX4_laysKeys 19 = .ok (.aload_n 0, 1) := dk_42 (dk_at dksX4_laysKeys_0 19 rfl rfl)
theorem dX4_laysKeys_20 : decode cX4_laysKeys 20 = .ok (.getfield 52, 3) := dk_180 0 52 (dk_at dksX4_laysKeys_0 20 rfl rfl)
theorem dX4_laysKeys_23 : decode cX4_laysKeys 23 = .ok (.iload 4, 2) := dk_21 4 (dk_at dksX4_laysKeys_1 0 rfl rfl)
theorem dX4_laysKeys_25 : decode cX4_laysKeys 25 = .ok (.iconst 0, 1) := dk_3 (dk_at dksX4_laysKeys_1 2 rfl rfl)
theorem dX4_laysKeys_26 : decode cX4_laysKeys 26 = .ok (.iastore, 1) := dk_79 (dk_at dksX4_laysKeys_1 3 rfl rfl)
theorem dX4_laysKeys_27 : decode cX4_laysKeys 27 = .ok (.aload_n 0, 1) := dk_42 (dk_at dksX4_laysKeys_1 4 rfl rfl)
theorem dX4_laysKeys_28 : decode cX4_laysKeys 28 = .ok (.getfield 55, 3) := dk_180 0 55 (dk_at dksX4_laysKeys_1 5 rfl rfl)
theorem dX4_laysKeys_31 : decode cX4_laysKeys 31 = .ok (.iload 4, 2) := dk_21 4 (dk_at dksX4_laysKeys_1 8 rfl rfl)
theorem dX4_laysKeys_33 : decode cX4_laysKeys 33 = .ok (.iconst 0, 1) := dk_3 (dk_at dksX4_laysKeys_1 10 rfl rfl)
theorem dX4_laysKeys_34 : decode cX4_laysKeys 34 = .ok (.iastore, 1) := dk_79 (dk_at dksX4_laysKeys_1 11 rfl rfl)
theorem dX4_laysKeys_35 : decode cX4_laysKeys 35 = .ok (.aload_n 0, 1) := dk_42 (dk_at dksX4_laysKeys_1 12 rfl rfl)
theorem dX4_laysKeys_36 : decode cX4_laysKeys 36 = .ok (.iload_n 3, 1) := dk_29 (dk_at dksX4_laysKeys_1 13 rfl rfl)
theorem dX4_laysKeys_37 : decode cX4_laysKeys 37 = .ok (.iload_n 1, 1) := dk_27 (dk_at dksX4_laysKeys_1 14 rfl rfl)
theorem dX4_laysKeys_38 : decode cX4_laysKeys 38 = .ok (.invokevirtual 226, 3) := dk_182 0 226 (dk_at dksX4_laysKeys_1 15 rfl rfl)
theorem dX4_laysKeys_41 : decode cX4_laysKeys 41 = .ok (.ifCond .eq 86, 3) := dk_153 0 86 (dk_at dksX4_laysKeys_1 18 rfl rfl)
theorem dX4_laysKeys_44 : decode cX4_laysKeys 44 = .ok (.aload_n 0, 1) := dk_42 (dk_at dksX4_laysKeys_1 21 rfl rfl)
theorem dX4_laysKeys_45 : decode cX4_laysKeys 45 = .ok (.iload_n 3, 1) := dk_29 (dk_at dksX4_laysKeys_1 22 rfl rfl)
theorem dX4_laysKeys_46 : decode cX4_laysKeys 46 = .ok (.aload_n 0, 1) := dk_42 (dk_at dksX4_laysKeys_1 23 rfl rfl)
theorem dX4_laysKeys_47 : decode cX4_laysKeys 47 = .ok (.getfield 43, 3) := dk_180 0 43 (dk_at dksX4_laysKeys_2 0 rfl rfl)
theorem dX4_laysKeys_50 : decode cX4_laysKeys 50 = .ok (.iload_n 1, 1) := dk_27 (dk_at dksX4_laysKeys_2 3 rfl rfl)
theorem dX4_laysKeys_51 : decode cX4_laysKeys 51 = .ok (.iaload, 1) := dk_46 (dk_at dksX4_laysKeys_2 4 rfl rfl)
theorem dX4_laysKeys_52 : decode cX4_laysKeys 52 = .ok (.invokevirtual 223, 3) := dk_182 0 223 (dk_at dksX4_laysKeys_2 5 rfl rfl)
theorem dX4_laysKeys_55 : decode cX4_laysKeys 55 = .ok (.istore 5, 2) := dk_54 5 (dk_at dksX4_laysKeys_2 8 rfl rfl)
theorem dX4_laysKeys_57 : decode cX4_laysKeys 57 = .ok (.iconst 0, 1) := dk_3 (dk_at dksX4_laysKeys_2 10 rfl rfl)
theorem dX4_laysKeys_58 : decode cX4_laysKeys 58 = .ok (.istore 6, 2) := dk_54 6 (dk_at dksX4_laysKeys_2 11 rfl rfl)
theorem dX4_laysKeys_60 : decode cX4_laysKeys 60 = .ok (.iload 6, 2) := dk_21 6 (dk_at dksX4_laysKeys_2 13 rfl rfl)
theorem dX4_laysKeys_62 : decode cX4_laysKeys 62 = .ok (.aload_n 0, 1) := dk_42 (dk_at dksX4_laysKeys_2 15 rfl rfl)
theorem dX4_laysKeys_63 : decode cX4_laysKeys 63 = .ok (.iload_n 3, 1) := dk_29 (dk_at dksX4_laysKeys_2 16 rfl rfl)
theorem dX4_laysKeys_64 : decode cX4_laysKeys 64 = .ok (.invokevirtual 186, 3) := dk_182 0 186 (dk_at dksX4_laysKeys_2 17 rfl rfl)
theorem dX4_laysKeys_67 : decode cX4_laysKeys 67 = .ok (.if_icmp .ge 40, 3) := dk_162 0 40 (dk_at dksX4_laysKeys_2 20 rfl rfl)
theorem dX4_laysKeys_70 : decode cX4_laysKeys 70 = .ok (.aload_n 0, 1) := dk_42 (dk_at dksX4_laysKeys_2 23 rfl rfl)
theorem dX4_laysKeys_71 : decode cX4_laysKeys 71 = .ok (.iload_n 3, 1) := dk_29 (dk_at dksX4_laysKeys_3 0 rfl rfl)
theorem dX4_laysKeys_72 : decode cX4_laysKeys 72 = .ok (.iload 6, 2) := dk_21 6 (dk_at dksX4_laysKeys_3 1 rfl rfl)
theorem dX4_laysKeys_74 : decode cX4_laysKeys 74 = .ok (.iload_n 1, 1) := dk_27 (dk_at dksX4_laysKeys_3 3 rfl rfl)
theorem dX4_laysKeys_75 : decode cX4_laysKeys 75 = .ok (.invokevirtual 229, 3) := dk_182 0 229 (dk_at dksX4_laysKeys_3 4 rfl rfl)
theorem dX4_laysKeys_78 : decode cX4_laysKeys 78 = .ok (.ifCond .eq 23, 3) := dk_153 0 23 (dk_at dksX4_laysKeys_3 7 rfl rfl)
theorem dX4_laysKeys_81 : decode cX4_laysKeys 81 = .ok (.aload_n 0, 1) := dk_42 (dk_at dksX4_laysKeys_3 10 rfl rfl)
theorem dX4_laysKeys_82 : decode cX4_laysKeys 82 = .ok (.iload 4, 2) := dk_21 4 (dk_at dksX4_laysKeys_3 11 rfl rfl)
theorem dX4_laysKeys_84 : decode cX4_laysKeys 84 = .ok (.aload_n 0, 1) := dk_42 (dk_at dksX4_laysKeys_3 13 rfl rfl)
theorem dX4_laysKeys_85 : decode cX4_laysKeys 85 = .ok (.getfield 31, 3) := dk_180 0 31 (dk_at dksX4_laysKeys_3 14 rfl rfl)
theorem dX4_laysKeys_88 : decode cX4_laysKeys 88 = .ok (.iload_n 3, 1) := dk_29 (dk_at dksX4_laysKeys_3 17 rfl rfl)
theorem dX4_laysKeys_89 : decode cX4_laysKeys 89 = .ok (.iload 6, 2) := dk_21 6 (dk_at dksX4_laysKeys_3 18 rfl rfl)
theorem dX4_laysKeys_91 : decode cX4_laysKeys 91 = .ok (.invokestatic 182, 3) := dk_184 0 182 (dk_at dksX4_laysKeys_3 20 rfl rfl)
theorem dX4_laysKeys_94 : decode cX4_laysKeys 94 = .ok (.iload 5, 2) := dk_21 5 (dk_at dksX4_laysKeys_4 0 rfl rfl)
theorem dX4_laysKeys_96 : decode cX4_laysKeys 96 = .ok (.iadd, 1) := dk_96 (dk_at dksX4_laysKeys_4 2 rfl rfl)
theorem dX4_laysKeys_97 : decode cX4_laysKeys 97 = .ok (.iaload, 1) := dk_46 (dk_at dksX4_laysKeys_4 3 rfl rfl)
theorem dX4_laysKeys_98 : decode cX4_laysKeys 98 = .ok (.invokevirtual 232, 3) := dk_182 0 232 (dk_at dksX4_laysKeys_4 4 rfl rfl)
theorem dX4_laysKeys_101 : decode cX4_laysKeys 101 = .ok (.iinc 6 1, 3) := dk_132 6 1 (dk_at dksX4_laysKeys_4 7 rfl rfl)
theorem dX4_laysKeys_104 : decode cX4_laysKeys 104 = .ok (.goto (-44), 3) := dk_167 255 212 (dk_at dksX4_laysKeys_4 10 rfl rfl)
theorem dX4_laysKeys_107 : decode cX4_laysKeys 107 = .ok (.iload_n 2, 1) := dk_28 (dk_at dksX4_laysKeys_4 13 rfl rfl)
theorem dX4_laysKeys_108 : decode cX4_laysKeys 108 = .ok (.ifCond .eq 17, 3) := dk_153 0 17 (dk_at dksX4_laysKeys_4 14 rfl rfl)
theorem dX4_laysKeys_111 : decode cX4_laysKeys 111 = .ok (.aload_n 0, 1) := dk_42 (dk_at dksX4_laysKeys_4 17 rfl rfl)
theorem dX4_laysKeys_112 : decode cX4_laysKeys 112 = .ok (.getfield 52, 3) := dk_180 0 52 (dk_at dksX4_laysKeys_4 18 rfl rfl)
theorem dX4_laysKeys_115 : decode cX4_laysKeys 115 = .ok (.iload 4, 2) := dk_21 4 (dk_at dksX4_laysKeys_4 21 rfl rfl)
theorem dX4_laysKeys_117 : decode cX4_laysKeys 117 = .ok (.iaload, 1) := dk_46 (dk_at dksX4_laysKeys_4 23 rfl rfl)
theorem dX4_laysKeys_118 : decode cX4_laysKeys 118 = .ok (.ifCond .le 7, 3) := dk_158 0 7 (dk_at dksX4_laysKeys_5 0 rfl rfl)
theorem dX4_laysKeys_121 : decode cX4_laysKeys 121 = .ok (.iconst 1, 1) := dk_4 (dk_at dksX4_laysKeys_5 3 rfl rfl)
theorem dX4_laysKeys_122 : decode cX4_laysKeys 122 = .ok (.goto 4, 3) := dk_167 0 4 (dk_at dksX4_laysKeys_5 4 rfl rfl)
theorem dX4_laysKeys_125 : decode cX4_laysKeys 125 = .ok (.iconst 0, 1) := dk_3 (dk_at dksX4_laysKeys_5 7 rfl rfl)
theorem dX4_laysKeys_126 : decode cX4_laysKeys 126 = .ok (.istore_n 2, 1) := dk_61 (dk_at dksX4_laysKeys_5 8 rfl rfl)
theorem dX4_laysKeys_127 : decode cX4_laysKeys 127 = .ok (.iinc 3 1, 3) := dk_132 3 1 (dk_at dksX4_laysKeys_5 9 rfl rfl)
theorem dX4_laysKeys_130 : decode cX4_laysKeys 130 = .ok (.goto (-126), 3) := dk_167 255 130 (dk_at dksX4_laysKeys_5 12 rfl rfl)
theorem dX4_laysKeys_133 : decode cX4_laysKeys 133 = .ok (.iload_n 2, 1) := dk_28 (dk_at dksX4_laysKeys_5 15 rfl rfl)
theorem dX4_laysKeys_134 : decode cX4_laysKeys 134 = .ok (.ireturn, 1) := dk_172 (dk_at dksX4_laysKeys_5 16 rfl rfl)
abbrev cX4_isIn : ByteArray := prog_13_method_44_code
def yX4_isIn : MethodName := ⟨RX4, "isIn", "(II)Z"⟩
def dkwX4_isIn_1 : List UInt8 := [167, 0, 4, 3, 172]
abbrev dktX4_isIn_1 : List UInt8 := dkwX4_isIn_1 ++ []
def dkwX4_isIn_0 : List UInt8 := [42, 27, 182, 0, 176, 153, 0, 22, 42, 27, 42, 180, 0, 43, 28, 46, 182, 0, 223, 2, 159, 0, 7, 4]
abbrev dktX4_isIn_0 : List UInt8 := dkwX4_isIn_0 ++ dktX4_isIn_1
theorem dksX4_isIn_0 : cX4_isIn.data.toList.drop 0 = dktX4_isIn_0 := by decide +kernel
theorem dksX4_isIn_1 : cX4_isIn.data.toList.drop 24 = dktX4_isIn_1 := dk_seg dksX4_isIn_0 24 rfl rfl
theorem dX4_isIn_0 : decode cX4_isIn 0 = .ok (.aload_n 0, 1) := dk_42 (dk_at dksX4_isIn_0 0 rfl rfl)
theorem dX4_isIn_1 : decode cX4_isIn 1 = .ok (.iload_n 1, 1) := dk_27 (dk_at dksX4_isIn_0 1 rfl rfl)
theorem dX4_isIn_2 : decode cX4_isIn 2 = .ok (.invokevirtual 176, 3) := dk_182 0 176 (dk_at dksX4_isIn_0 2 rfl rfl)
theorem dX4_isIn_5 : decode cX4_isIn 5 = .ok (.ifCond .eq 22, 3) := dk_153 0 22 (dk_at dksX4_isIn_0 5 rfl rfl)
theorem dX4_isIn_8 : decode cX4_isIn 8 = .ok (.aload_n 0, 1) := dk_42 (dk_at dksX4_isIn_0 8 rfl rfl)
theorem dX4_isIn_9 : decode cX4_isIn 9 = .ok (.iload_n 1, 1) := dk_27 (dk_at dksX4_isIn_0 9 rfl rfl)
theorem dX4_isIn_10 : decode cX4_isIn 10 = .ok (.aload_n 0, 1) := dk_42 (dk_at dksX4_isIn_0 10 rfl rfl)
theorem dX4_isIn_11 : decode cX4_isIn 11 = .ok (.getfield 43, 3) := dk_180 0 43 (dk_at dksX4_isIn_0 11 rfl rfl)
theorem dX4_isIn_14 : decode cX4_isIn 14 = .ok (.iload_n 2, 1) := dk_28 (dk_at dksX4_isIn_0 14 rfl rfl)
theorem dX4_isIn_15 : decode cX4_isIn 15 = .ok (.iaload, 1) := dk_46 (dk_at dksX4_isIn_0 15 rfl rfl)
theorem dX4_isIn_16 : decode cX4_isIn 16 = .ok (.invokevirtual 223, 3) := dk_182 0 223 (dk_at dksX4_isIn_0 16 rfl rfl)
theorem dX4_isIn_19 : decode cX4_isIn 19 = .ok (.iconst (-1), 1) := dk_2 (dk_at dksX4_isIn_0 19 rfl rfl)
theorem dX4_isIn_20 : decode cX4_isIn 20 = .ok (.if_icmp .eq 7, 3) := dk_159 0 7 (dk_at dksX4_isIn_0 20 rfl rfl)
theorem dX4_isIn_23 : decode cX4_isIn 23 = .ok (.iconst 1, 1) := dk_4 (dk_at dksX4_isIn_0 23 rfl rfl)
theorem dX4_isIn_24 : decode cX4_isIn 24 = .ok (.goto 4, 3) := dk_167 0 4 (dk_at dksX4_isIn_1 0 rfl rfl)
theorem dX4_isIn_27 : decode cX4_isIn 27 = .ok (.iconst 0, 1) := dk_3 (dk_at dksX4_isIn_1 3 rfl rfl)
theorem dX4_isIn_28 : decode cX4_isIn 28 = .ok (.ireturn, 1) := dk_172 (dk_at dksX4_isIn_1 4 rfl rfl)
abbrev cX4_columnOf : ByteArray := prog_13_method_41_code
def yX4_columnOf : MethodName := ⟨RX4, "columnOf", "(II)I"⟩
def dkwX4_columnOf_1 : List UInt8 := [160, 0, 5, 29, 172, 132, 3, 1, 167, 255, 227, 2, 172]
abbrev dktX4_columnOf_1 : List UInt8 := dkwX4_columnOf_1 ++ []
def dkwX4_columnOf_0 : List UInt8 := [3, 62, 29, 42, 180, 0, 37, 27, 46, 162, 0, 25, 42, 180, 0, 40, 6, 27, 104, 29, 96, 46, 28]
abbrev dktX4_columnOf_0 : List UInt8 := dkwX4_columnOf_0 ++ dktX4_columnOf_1
theorem dksX4_columnOf_0 : cX4_columnOf.data.toList.drop 0 = dktX4_columnOf_0 := by decide +kernel
theorem dksX4_columnOf_1 : cX4_columnOf.data.toList.drop 23 = dktX4_columnOf_1 := dk_seg dksX4_columnOf_0 23 rfl rfl
theorem dX4_columnOf_0 : decode cX4_columnOf 0 = .ok (.iconst 0, 1) := dk_3 (dk_at dksX4_columnOf_0 0 rfl rfl)
theorem dX4_columnOf_1 : decode cX4_columnOf 1 = .ok (.istore_n 3, 1) := dk_62 (dk_at dksX4_columnOf_0 1 rfl rfl)
theorem dX4_columnOf_2 : decode cX4_columnOf 2 = .ok (.iload_n 3, 1) := dk_29 (dk_at dksX4_columnOf_0 2 rfl rfl)
theorem dX4_columnOf_3 : decode cX4_columnOf 3 = .ok (.aload_n 0, 1) := dk_42 (dk_at dksX4_columnOf_0 3 rfl rfl)
theorem dX4_columnOf_4 : decode cX4_columnOf 4 = .ok (.getfield 37, 3) := dk_180 0 37 (dk_at dksX4_columnOf_0 4 rfl rfl)
theorem dX4_columnOf_7 : decode cX4_columnOf 7 = .ok (.iload_n 1, 1) := dk_27 (dk_at dksX4_columnOf_0 7 rfl rfl)
theorem dX4_columnOf_8 : decode cX4_columnOf 8 = .ok (.iaload, 1) := dk_46 (dk_at dksX4_columnOf_0 8 rfl rfl)
theorem dX4_columnOf_9 : decode cX4_columnOf 9 = .ok (.if_icmp .ge 25, 3) := dk_162 0 25 (dk_at dksX4_columnOf_0 9 rfl rfl)
theorem dX4_columnOf_12 : decode cX4_columnOf 12 = .ok (.aload_n 0, 1) := dk_42 (dk_at dksX4_columnOf_0 12 rfl rfl)
theorem dX4_columnOf_13 : decode cX4_columnOf 13 = .ok (.getfield 40, 3) := dk_180 0 40 (dk_at dksX4_columnOf_0 13 rfl rfl)
theorem dX4_columnOf_16 : decode cX4_columnOf 16 = .ok (.iconst 3, 1) := dk_6 (dk_at dksX4_columnOf_0 16 rfl rfl)
theorem dX4_columnOf_17 : decode cX4_columnOf 17 = .ok (.iload_n 1, 1) := dk_27 (dk_at dksX4_columnOf_0 17 rfl rfl)
theorem dX4_columnOf_18 : decode cX4_columnOf 18 = .ok (.imul, 1) := dk_104 (dk_at dksX4_columnOf_0 18 rfl rfl)
theorem dX4_columnOf_19 : decode cX4_columnOf 19 = .ok (.iload_n 3, 1) := dk_29 (dk_at dksX4_columnOf_0 19 rfl rfl)
theorem dX4_columnOf_20 : decode cX4_columnOf 20 = .ok (.iadd, 1) := dk_96 (dk_at dksX4_columnOf_0 20 rfl rfl)
theorem dX4_columnOf_21 : decode cX4_columnOf 21 = .ok (.iaload, 1) := dk_46 (dk_at dksX4_columnOf_0 21 rfl rfl)
theorem dX4_columnOf_22 : decode cX4_columnOf 22 = .ok (.iload_n 2, 1) := dk_28 (dk_at dksX4_columnOf_0 22 rfl rfl)
theorem dX4_columnOf_23 : decode cX4_columnOf 23 = .ok (.if_icmp .ne 5, 3) := dk_160 0 5 (dk_at dksX4_columnOf_1 0 rfl rfl)
theorem dX4_columnOf_26 : decode cX4_columnOf 26 = .ok (.iload_n 3, 1) := dk_29 (dk_at dksX4_columnOf_1 3 rfl rfl)
theorem dX4_columnOf_27 : decode cX4_columnOf 27 = .ok (.ireturn, 1) := dk_172 (dk_at dksX4_columnOf_1 4 rfl rfl)
theorem dX4_columnOf_28 : decode cX4_columnOf 28 = .ok (.iinc 3 1, 3) := dk_132 3 1 (dk_at dksX4_columnOf_1 5 rfl rfl)
theorem dX4_columnOf_31 : decode cX4_columnOf 31 = .ok (.goto (-29), 3) := dk_167 255 227 (dk_at dksX4_columnOf_1 8 rfl rfl)
theorem dX4_columnOf_34 : decode cX4_columnOf 34 = .ok (.iconst (-1), 1) := dk_2 (dk_at dksX4_columnOf_1 11 rfl rfl)
theorem dX4_columnOf_35 : decode cX4_columnOf 35 = .ok (.ireturn, 1) := dk_172 (dk_at dksX4_columnOf_1 12 rfl rfl)
abbrev cX4_fits : ByteArray := prog_13_method_42_code
def yX4_fits : MethodName := ⟨RX4, "fits", "(III)Z"⟩
def dkwX4_fits_3 : List UInt8 := [132, 5, 1, 167, 255, 187, 21, 4, 172]
abbrev dktX4_fits_3 : List UInt8 := dkwX4_fits_3 ++ []
def dkwX4_fits_2 : List UInt8 := [96, 46, 42, 180, 0, 46, 42, 180, 0, 43, 21, 5, 46, 46, 160, 0, 7, 4, 167, 0, 4, 3, 54, 4]
abbrev dktX4_fits_2 : List UInt8 := dkwX4_fits_2 ++ dktX4_fits_3
def dkwX4_fits_1 : List UInt8 := [54, 6, 21, 4, 153, 0, 41, 21, 6, 2, 159, 0, 31, 42, 180, 0, 31, 27, 28, 184, 0, 182, 21, 6]
abbrev dktX4_fits_1 : List UInt8 := dkwX4_fits_1 ++ dktX4_fits_2
def dkwX4_fits_0 : List UInt8 := [4, 54, 4, 3, 54, 5, 21, 5, 29, 162, 0, 69, 42, 27, 42, 180, 0, 43, 21, 5, 46, 182, 0, 223]
abbrev dktX4_fits_0 : List UInt8 := dkwX4_fits_0 ++ dktX4_fits_1
theorem dksX4_fits_0 : cX4_fits.data.toList.drop 0 = dktX4_fits_0 := by decide +kernel
theorem dksX4_fits_1 : cX4_fits.data.toList.drop 24 = dktX4_fits_1 := dk_seg dksX4_fits_0 24 rfl rfl
theorem dksX4_fits_2 : cX4_fits.data.toList.drop 48 = dktX4_fits_2 := dk_seg dksX4_fits_1 24 rfl rfl
theorem dksX4_fits_3 : cX4_fits.data.toList.drop 72 = dktX4_fits_3 := dk_seg dksX4_fits_2 24 rfl rfl
theorem dX4_fits_0 : decode cX4_fits 0 = .ok (.iconst 1, 1) := dk_4 (dk_at dksX4_fits_0 0 rfl rfl)
theorem dX4_fits_1 : decode cX4_fits 1 = .ok (.istore 4, 2) := dk_54 4 (dk_at dksX4_fits_0 1 rfl rfl)
theorem dX4_fits_3 : decode cX4_fits 3 = .ok (.iconst 0, 1) := dk_3 (dk_at dksX4_fits_0 3 rfl rfl)
theorem dX4_fits_4 : decode cX4_fits 4 = .ok (.istore 5, 2) := dk_54 5 (dk_at dksX4_fits_0 4 rfl rfl)
theorem dX4_fits_6 : decode cX4_fits 6 = .ok (.iload 5, 2) := dk_21 5 (dk_at dksX4_fits_0 6 rfl rfl)
theorem dX4_fits_8 : decode cX4_fits 8 = .ok (.iload_n 3, 1) := dk_29 (dk_at dksX4_fits_0 8 rfl rfl)
theorem dX4_fits_9 : decode cX4_fits 9 = .ok (.if_icmp .ge 69, 3) := dk_162 0 69 (dk_at dksX4_fits_0 9 rfl rfl)
theorem dX4_fits_12 : decode cX4_fits 12 = .ok (.aload_n 0, 1) := dk_42 (dk_at dksX4_fits_0 12 rfl rfl)
theorem dX4_fits_13 : decode cX4_fits 13 = .ok (.iload_n 1, 1) := dk_27 (dk_at dksX4_fits_0 13 rfl rfl)
theorem dX4_fits_14 : decode cX4_fits 14 = .ok (.aload_n 0, 1) := dk_42 (dk_at dksX4_fits_0 14 rfl rfl)
theorem dX4_fits_15 : decode cX4_fits 15 = .ok (.getfield 43, 3) := dk_180 0 43 (dk_at dksX4_fits_0 15 rfl rfl)
theorem dX4_fits_18 : decode cX4_fits 18 = .ok (.iload 5, 2) := dk_21 5 (dk_at dksX4_fits_0 18 rfl rfl)
theorem dX4_fits_20 : decode cX4_fits 20 = .ok (.iaload, 1) := dk_46 (dk_at dksX4_fits_0 20 rfl rfl)
theorem dX4_fits_21 : decode cX4_fits 21 = .ok (.invokevirtual 223, 3) := dk_182 0 223 (dk_at dksX4_fits_0 21 rfl rfl)
theorem dX4_fits_24 : decode cX4_fits 24 = .ok (.istore 6, 2) := dk_54 6 (dk_at dksX4_fits_1 0 rfl rfl)
theorem dX4_fits_26 : decode cX4_fits 26 = .ok (.iload 4, 2) := dk_21 4 (dk_at dksX4_fits_1 2 rfl rfl)
theorem dX4_fits_28 : decode cX4_fits 28 = .ok (.ifCond .eq 41, 3) := dk_153 0 41 (dk_at dksX4_fits_1 4 rfl rfl)
theorem dX4_fits_31 : decode cX4_fits 31 = .ok (.iload 6, 2) := dk_21 6 (dk_at dksX4_fits_1 7 rfl rfl)
theorem dX4_fits_33 : decode cX4_fits 33 = .ok (.iconst (-1), 1) := dk_2 (dk_at dksX4_fits_1 9 rfl rfl)
theorem dX4_fits_34 : decode cX4_fits 34 = .ok (.if_icmp .eq 31, 3) := dk_159 0 31 (dk_at dksX4_fits_1 10 rfl rfl)
theorem dX4_fits_37 : decode cX4_fits 37 = .ok (.aload_n 0, 1) := dk_42 (dk_at dksX4_fits_1 13 rfl rfl)
theorem dX4_fits_38 : decode cX4_fits 38 = .ok (.getfield 31, 3) := dk_180 0 31 (dk_at dksX4_fits_1 14 rfl rfl)
theorem dX4_fits_41 : decode cX4_fits 41 = .ok (.iload_n 1, 1) := dk_27 (dk_at dksX4_fits_1 17 rfl rfl)
theorem dX4_fits_42 : decode cX4_fits 42 = .ok (.iload_n 2, 1) := dk_28 (dk_at dksX4_fits_1 18 rfl rfl)
theorem dX4_fits_43 : decode cX4_fits 43 = .ok (.invokestatic 182, 3) := dk_184 0 182 (dk_at dksX4_fits_1 19 rfl rfl)
theorem dX4_fits_46 : decode cX4_fits 46 = .ok (.iload 6, 2) := dk_21 6 (dk_at dksX4_fits_1 22 rfl rfl)
theorem dX4_fits_48 : decode cX4_fits 48 = .ok (.iadd, 1) := dk_96 (dk_at dksX4_fits_2 0 rfl rfl)
theorem dX4_fits_49 : decode cX4_fits 49 = .ok (.iaload, 1) := dk_46 (dk_at dksX4_fits_2 1 rfl rfl)
theorem dX4_fits_50 : decode cX4_fits 50 = .ok (.aload_n 0, 1) := dk_42 (dk_at dksX4_fits_2 2 rfl rfl)
theorem dX4_fits_51 : decode cX4_fits 51 = .ok (.getfield 46, 3) := dk_180 0 46 (dk_at dksX4_fits_2 3 rfl rfl)
theorem dX4_fits_54 : decode cX4_fits 54 = .ok (.aload_n 0, 1) := dk_42 (dk_at dksX4_fits_2 6 rfl rfl)
theorem dX4_fits_55 : decode cX4_fits 55 = .ok (.getfield 43, 3) := dk_180 0 43 (dk_at dksX4_fits_2 7 rfl rfl)
theorem dX4_fits_58 : decode cX4_fits 58 = .ok (.iload 5, 2) := dk_21 5 (dk_at dksX4_fits_2 10 rfl rfl)
theorem dX4_fits_60 : decode cX4_fits 60 = .ok (.iaload, 1) := dk_46 (dk_at dksX4_fits_2 12 rfl rfl)
theorem dX4_fits_61 : decode cX4_fits 61 = .ok (.iaload, 1) := dk_46 (dk_at dksX4_fits_2 13 rfl rfl)
theorem dX4_fits_62 : decode cX4_fits 62 = .ok (.if_icmp .ne 7, 3) := dk_160 0 7 (dk_at dksX4_fits_2 14 rfl rfl)
theorem dX4_fits_65 : decode cX4_fits 65 = .ok (.iconst 1, 1) := dk_4 (dk_at dksX4_fits_2 17 rfl rfl)
theorem dX4_fits_66 : decode cX4_fits 66 = .ok (.goto 4, 3) := dk_167 0 4 (dk_at dksX4_fits_2 18 rfl rfl)
theorem dX4_fits_69 : decode cX4_fits 69 = .ok (.iconst 0, 1) := dk_3 (dk_at dksX4_fits_2 21 rfl rfl)
theorem dX4_fits_70 : decode cX4_fits 70 = .ok (.istore 4, 2) := dk_54 4 (dk_at dksX4_fits_2 22 rfl rfl)
theorem dX4_fits_72 : decode cX4_fits 72 = .ok (.iinc 5 1, 3) := dk_132 5 1 (dk_at dksX4_fits_3 0 rfl rfl)
theorem dX4_fits_75 : decode cX4_fits 75 = .ok (.goto (-69), 3) := dk_167 255 187 (dk_at dksX4_fits_3 3 rfl rfl)
theorem dX4_fits_78 : decode cX4_fits 78 = .ok (.iload 4, 2) := dk_21 4 (dk_at dksX4_fits_3 6 rfl rfl)
theorem dX4_fits_80 : decode cX4_fits 80 = .ok (.ireturn, 1) := dk_172 (dk_at dksX4_fits_3 8 rfl rfl)
abbrev cX4_takesKey : ByteArray := prog_13_method_43_code
def yX4_takesKey : MethodName := ⟨RX4, "takesKey", "(II)V"⟩
def dkwX4_takesKey_5 : List UInt8 := [28, 79, 42, 180, 0, 52, 27, 92, 46, 4, 96, 79, 177]
abbrev dktX4_takesKey_5 : List UInt8 := dkwX4_takesKey_5 ++ []
def dkwX4_takesKey_4 : List UInt8 := [21, 5, 96, 4, 100, 46, 79, 132, 5, 255, 167, 255, 220, 42, 180, 0, 49, 16, 12, 27, 104, 21, 4, 96]
abbrev dktX4_takesKey_4 : List UInt8 := dkwX4_takesKey_4 ++ dktX4_takesKey_5
def dkwX4_takesKey_3 : List UInt8 := [21, 4, 164, 0, 35, 42, 180, 0, 49, 16, 12, 27, 104, 21, 5, 96, 42, 180, 0, 49, 16, 12, 27, 104]
abbrev dktX4_takesKey_3 : List UInt8 := dkwX4_takesKey_3 ++ dktX4_takesKey_4
def dkwX4_takesKey_2 : List UInt8 := [180, 0, 49, 16, 12, 27, 104, 21, 4, 96, 4, 100, 46, 28, 160, 0, 4, 177, 29, 54, 5, 21, 5]
abbrev dktX4_takesKey_2 : List UInt8 := dkwX4_takesKey_2 ++ dktX4_takesKey_3
def dkwX4_takesKey_1 : List UInt8 := [21, 4, 96, 4, 100, 46, 28, 164, 0, 9, 132, 4, 255, 167, 255, 230, 21, 4, 158, 0, 22, 42]
abbrev dktX4_takesKey_1 : List UInt8 := dkwX4_takesKey_1 ++ dktX4_takesKey_2
def dkwX4_takesKey_0 : List UInt8 := [42, 180, 0, 52, 27, 46, 62, 29, 54, 4, 21, 4, 158, 0, 27, 42, 180, 0, 49, 16, 12, 27, 104]
abbrev dktX4_takesKey_0 : List UInt8 := dkwX4_takesKey_0 ++ dktX4_takesKey_1
theorem dksX4_takesKey_0 : cX4_takesKey.data.toList.drop 0 = dktX4_takesKey_0 := by decide +kernel
theorem dksX4_takesKey_1 : cX4_takesKey.data.toList.drop 23 = dktX4_takesKey_1 := dk_seg dksX4_takesKey_0 23 rfl rfl
theorem dksX4_takesKey_2 : cX4_takesKey.data.toList.drop 45 = dktX4_takesKey_2 := dk_seg dksX4_takesKey_1 22 rfl rfl
theorem dksX4_takesKey_3 : cX4_takesKey.data.toList.drop 68 = dktX4_takesKey_3 := dk_seg dksX4_takesKey_2 23 rfl rfl
theorem dksX4_takesKey_4 : cX4_takesKey.data.toList.drop 92 = dktX4_takesKey_4 := dk_seg dksX4_takesKey_3 24 rfl rfl
theorem dksX4_takesKey_5 : cX4_takesKey.data.toList.drop 116 = dktX4_takesKey_5 := dk_seg dksX4_takesKey_4 24 rfl rfl
theorem dX4_takesKey_0 : decode cX4_takesKey 0 = .ok (.aload_n 0, 1) := dk_42 (dk_at dksX4_takesKey_0 0 rfl rfl)
theorem dX4_takesKey_1 : decode cX4_takesKey 1 = .ok (.getfield 52, 3) := dk_180 0 52 (dk_at dksX4_takesKey_0 1 rfl rfl)
theorem dX4_takesKey_4 : decode cX4_takesKey 4 = .ok (.iload_n 1, 1) := dk_27 (dk_at dksX4_takesKey_0 4 rfl rfl)
theorem dX4_takesKey_5 : decode cX4_takesKey 5 = .ok (.iaload, 1) := dk_46 (dk_at dksX4_takesKey_0 5 rfl rfl)
theorem dX4_takesKey_6 : decode cX4_takesKey 6 = .ok (.istore_n 3, 1) := dk_62 (dk_at dksX4_takesKey_0 6 rfl rfl)
theorem dX4_takesKey_7 : decode cX4_takesKey 7 = .ok (.iload_n 3, 1) := dk_29 (dk_at dksX4_takesKey_0 7 rfl rfl)
theorem dX4_takesKey_8 : decode cX4_takesKey 8 = .ok (.istore 4, 2) := dk_54 4 (dk_at dksX4_takesKey_0 8 rfl rfl)
theorem dX4_takesKey_10 : decode cX4_takesKey 10 = .ok (.iload 4, 2) := dk_21 4 (dk_at dksX4_takesKey_0 10 rfl rfl)
theorem dX4_takesKey_12 : decode cX4_takesKey 12 = .ok (.ifCond .le 27, 3) := dk_158 0 27 (dk_at dksX4_takesKey_0 12 rfl rfl)
theorem dX4_takesKey_15 : decode cX4_takesKey 15 = .ok (.aload_n 0, 1) := dk_42 (dk_at dksX4_takesKey_0 15 rfl rfl)
theorem dX4_takesKey_16 : decode cX4_takesKey 16 = .ok (.getfield 49, 3) := dk_180 0 49 (dk_at dksX4_takesKey_0 16 rfl rfl)
theorem dX4_takesKey_19 : decode cX4_takesKey 19 = .ok (.bipush 12, 2) := dk_16 12 (dk_at dksX4_takesKey_0 19 rfl rfl)
theorem dX4_takesKey_21 : decode cX4_takesKey 21 = .ok (.iload_n 1, 1) := dk_27 (dk_at dksX4_takesKey_0 21 rfl rfl)
theorem dX4_takesKey_22 : decode cX4_takesKey 22 = .ok (.imul, 1) := dk_104 (dk_at dksX4_takesKey_0 22 rfl rfl)
theorem dX4_takesKey_23 : decode cX4_takesKey 23 = .ok (.iload 4, 2) := dk_21 4 (dk_at dksX4_takesKey_1 0 rfl rfl)
theorem dX4_takesKey_25 : decode cX4_takesKey 25 = .ok (.iadd, 1) := dk_96 (dk_at dksX4_takesKey_1 2 rfl rfl)
theorem dX4_takesKey_26 : decode cX4_takesKey 26 = .ok (.iconst 1, 1) := dk_4 (dk_at dksX4_takesKey_1 3 rfl rfl)
theorem dX4_takesKey_27 : decode cX4_takesKey 27 = .ok (.isub, 1) := dk_100 (dk_at dksX4_takesKey_1 4 rfl rfl)
theorem dX4_takesKey_28 : decode cX4_takesKey 28 = .ok (.iaload, 1) := dk_46 (dk_at dksX4_takesKey_1 5 rfl rfl)
theorem dX4_takesKey_29 : decode cX4_takesKey 29 = .ok (.iload_n 2, 1) := dk_28 (dk_at dksX4_takesKey_1 6 rfl rfl)
theorem dX4_takesKey_30 : decode cX4_takesKey 30 = .ok (.if_icmp .le 9, 3) := dk_164 0 9 (dk_at dksX4_takesKey_1 7 rfl rfl)
theorem dX4_takesKey_33 : decode cX4_takesKey 33 = .ok (.iinc 4 (-1), 3) := dk_132 4 255 (dk_at dksX4_takesKey_1 10 rfl rfl)
theorem dX4_takesKey_36 : decode cX4_takesKey 36 = .ok (.goto (-26), 3) := dk_167 255 230 (dk_at dksX4_takesKey_1 13 rfl rfl)
theorem dX4_takesKey_39 : decode cX4_takesKey 39 = .ok (.iload 4, 2) := dk_21 4 (dk_at dksX4_takesKey_1 16 rfl rfl)
theorem dX4_takesKey_41 : decode cX4_takesKey 41 = .ok (.ifCond .le 22, 3) := dk_158 0 22 (dk_at dksX4_takesKey_1 18 rfl rfl)
theorem dX4_takesKey_44 : decode cX4_takesKey 44 = .ok (.aload_n 0, 1) := dk_42 (dk_at dksX4_takesKey_1 21 rfl rfl)
theorem dX4_takesKey_45 : decode cX4_takesKey 45 = .ok (.getfield 49, 3) := dk_180 0 49 (dk_at dksX4_takesKey_2 0 rfl rfl)
theorem dX4_takesKey_48 : decode cX4_takesKey 48 = .ok (.bipush 12, 2) := dk_16 12 (dk_at dksX4_takesKey_2 3 rfl rfl)
theorem dX4_takesKey_50 : decode cX4_takesKey 50 = .ok (.iload_n 1, 1) := dk_27 (dk_at dksX4_takesKey_2 5 rfl rfl)
theorem dX4_takesKey_51 : decode cX4_takesKey 51 = .ok (.imul, 1) := dk_104 (dk_at dksX4_takesKey_2 6 rfl rfl)
theorem dX4_takesKey_52 : decode cX4_takesKey 52 = .ok (.iload 4, 2) := dk_21 4 (dk_at dksX4_takesKey_2 7 rfl rfl)
theorem dX4_takesKey_54 : decode cX4_takesKey 54 = .ok (.iadd, 1) := dk_96 (dk_at dksX4_takesKey_2 9 rfl rfl)
theorem dX4_takesKey_55 : decode cX4_takesKey 55 = .ok (.iconst 1, 1) := dk_4 (dk_at dksX4_takesKey_2 10 rfl rfl)
theorem dX4_takesKey_56 : decode cX4_takesKey 56 = .ok (.isub, 1) := dk_100 (dk_at dksX4_takesKey_2 11 rfl rfl)
theorem dX4_takesKey_57 : decode cX4_takesKey 57 = .ok (.iaload, 1) := dk_46 (dk_at dksX4_takesKey_2 12 rfl rfl)
theorem dX4_takesKey_58 : decode cX4_takesKey 58 = .ok (.iload_n 2, 1) := dk_28 (dk_at dksX4_takesKey_2 13 rfl rfl)
theorem dX4_takesKey_59 : decode cX4_takesKey 59 = .ok (.if_icmp .ne 4, 3) := dk_160 0 4 (dk_at dksX4_takesKey_2 14 rfl rfl)
theorem dX4_takesKey_62 : decode cX4_takesKey 62 = .ok (.return_, 1) := dk_177 (dk_at dksX4_takesKey_2 17 rfl rfl)
theorem dX4_takesKey_63 : decode cX4_takesKey 63 = .ok (.iload_n 3, 1) := dk_29 (dk_at dksX4_takesKey_2 18 rfl rfl)
theorem dX4_takesKey_64 : decode cX4_takesKey 64 = .ok (.istore 5, 2) := dk_54 5 (dk_at dksX4_takesKey_2 19 rfl rfl)
theorem dX4_takesKey_66 : decode cX4_takesKey 66 = .ok (.iload 5, 2) := dk_21 5 (dk_at dksX4_takesKey_2 21 rfl rfl)
theorem dX4_takesKey_68 : decode cX4_takesKey 68 = .ok (.iload 4, 2) := dk_21 4 (dk_at dksX4_takesKey_3 0 rfl rfl)
theorem dX4_takesKey_70 : decode cX4_takesKey 70 = .ok (.if_icmp .le 35, 3) := dk_164 0 35 (dk_at dksX4_takesKey_3 2 rfl rfl)
theorem dX4_takesKey_73 : decode cX4_takesKey 73 = .ok (.aload_n 0, 1) := dk_42 (dk_at dksX4_takesKey_3 5 rfl rfl)
theorem dX4_takesKey_74 : decode cX4_takesKey 74 = .ok (.getfield 49, 3) := dk_180 0 49 (dk_at dksX4_takesKey_3 6 rfl rfl)
theorem dX4_takesKey_77 : decode cX4_takesKey 77 = .ok (.bipush 12, 2) := dk_16 12 (dk_at dksX4_takesKey_3 9 rfl rfl)
theorem dX4_takesKey_79 : decode cX4_takesKey 79 = .ok (.iload_n 1, 1) := dk_27 (dk_at dksX4_takesKey_3 11 rfl rfl)
theorem dX4_takesKey_80 : decode cX4_takesKey 80 = .ok (.imul, 1) := dk_104 (dk_at dksX4_takesKey_3 12 rfl rfl)
theorem dX4_takesKey_81 : decode cX4_takesKey 81 = .ok (.iload 5, 2) := dk_21 5 (dk_at dksX4_takesKey_3 13 rfl rfl)
theorem dX4_takesKey_83 : decode cX4_takesKey 83 = .ok (.iadd, 1) := dk_96 (dk_at dksX4_takesKey_3 15 rfl rfl)
theorem dX4_takesKey_84 : decode cX4_takesKey 84 = .ok (.aload_n 0, 1) := dk_42 (dk_at dksX4_takesKey_3 16 rfl rfl)
theorem dX4_takesKey_85 : decode cX4_takesKey 85 = .ok (.getfield 49, 3) := dk_180 0 49 (dk_at dksX4_takesKey_3 17 rfl rfl)
theorem dX4_takesKey_88 : decode cX4_takesKey 88 = .ok (.bipush 12, 2) := dk_16 12 (dk_at dksX4_takesKey_3 20 rfl rfl)
theorem dX4_takesKey_90 : decode cX4_takesKey 90 = .ok (.iload_n 1, 1) := dk_27 (dk_at dksX4_takesKey_3 22 rfl rfl)
theorem dX4_takesKey_91 : decode cX4_takesKey 91 = .ok (.imul, 1) := dk_104 (dk_at dksX4_takesKey_3 23 rfl rfl)
theorem dX4_takesKey_92 : decode cX4_takesKey 92 = .ok (.iload 5, 2) := dk_21 5 (dk_at dksX4_takesKey_4 0 rfl rfl)
theorem dX4_takesKey_94 : decode cX4_takesKey 94 = .ok (.iadd, 1) := dk_96 (dk_at dksX4_takesKey_4 2 rfl rfl)
theorem dX4_takesKey_95 : decode cX4_takesKey 95 = .ok (.iconst 1, 1) := dk_4 (dk_at dksX4_takesKey_4 3 rfl rfl)
theorem dX4_takesKey_96 : decode cX4_takesKey 96 = .ok (.isub, 1) := dk_100 (dk_at dksX4_takesKey_4 4 rfl rfl)
theorem dX4_takesKey_97 : decode cX4_takesKey 97 = .ok (.iaload, 1) := dk_46 (dk_at dksX4_takesKey_4 5 rfl rfl)
theorem dX4_takesKey_98 : decode cX4_takesKey 98 = .ok (.iastore, 1) := dk_79 (dk_at dksX4_takesKey_4 6 rfl rfl)
theorem dX4_takesKey_99 : decode cX4_takesKey 99 = .ok (.iinc 5 (-1), 3) := dk_132 5 255 (dk_at dksX4_takesKey_4 7 rfl rfl)
theorem dX4_takesKey_102 : decode cX4_takesKey 102 = .ok (.goto (-36), 3) := dk_167 255 220 (dk_at dksX4_takesKey_4 10 rfl rfl)
theorem dX4_takesKey_105 : decode cX4_takesKey 105 = .ok (.aload_n 0, 1) := dk_42 (dk_at dksX4_takesKey_4 13 rfl rfl)
theorem dX4_takesKey_106 : decode cX4_takesKey 106 = .ok (.getfield 49, 3) := dk_180 0 49 (dk_at dksX4_takesKey_4 14 rfl rfl)
theorem dX4_takesKey_109 : decode cX4_takesKey 109 = .ok (.bipush 12, 2) := dk_16 12 (dk_at dksX4_takesKey_4 17 rfl rfl)
theorem dX4_takesKey_111 : decode cX4_takesKey 111 = .ok (.iload_n 1, 1) := dk_27 (dk_at dksX4_takesKey_4 19 rfl rfl)
theorem dX4_takesKey_112 : decode cX4_takesKey 112 = .ok (.imul, 1) := dk_104 (dk_at dksX4_takesKey_4 20 rfl rfl)
theorem dX4_takesKey_113 : decode cX4_takesKey 113 = .ok (.iload 4, 2) := dk_21 4 (dk_at dksX4_takesKey_4 21 rfl rfl)
theorem dX4_takesKey_115 : decode cX4_takesKey 115 = .ok (.iadd, 1) := dk_96 (dk_at dksX4_takesKey_4 23 rfl rfl)
theorem dX4_takesKey_116 : decode cX4_takesKey 116 = .ok (.iload_n 2, 1) := dk_28 (dk_at dksX4_takesKey_5 0 rfl rfl)
theorem dX4_takesKey_117 : decode cX4_takesKey 117 = .ok (.iastore, 1) := dk_79 (dk_at dksX4_takesKey_5 1 rfl rfl)
theorem dX4_takesKey_118 : decode cX4_takesKey 118 = .ok (.aload_n 0, 1) := dk_42 (dk_at dksX4_takesKey_5 2 rfl rfl)
theorem dX4_takesKey_119 : decode cX4_takesKey 119 = .ok (.getfield 52, 3) := dk_180 0 52 (dk_at dksX4_takesKey_5 3 rfl rfl)
theorem dX4_takesKey_122 : decode cX4_takesKey 122 = .ok (.iload_n 1, 1) := dk_27 (dk_at dksX4_takesKey_5 6 rfl rfl)
theorem dX4_takesKey_123 : decode cX4_takesKey 123 = .ok (.dup2, 1) := dk_92 (dk_at dksX4_takesKey_5 7 rfl rfl)
theorem dX4_takesKey_124 : decode cX4_takesKey 124 = .ok (.iaload, 1) := dk_46 (dk_at dksX4_takesKey_5 8 rfl rfl)
theorem dX4_takesKey_125 : decode cX4_takesKey 125 = .ok (.iconst 1, 1) := dk_4 (dk_at dksX4_takesKey_5 9 rfl rfl)
theorem dX4_takesKey_126 : decode cX4_takesKey 126 = .ok (.iadd, 1) := dk_96 (dk_at dksX4_takesKey_5 10 rfl rfl)
theorem dX4_takesKey_127 : decode cX4_takesKey 127 = .ok (.iastore, 1) := dk_79 (dk_at dksX4_takesKey_5 11 rfl rfl)
theorem dX4_takesKey_128 : decode cX4_takesKey 128 = .ok (.return_, 1) := dk_177 (dk_at dksX4_takesKey_5 12 rfl rfl)
abbrev cX4_greatestKey : ByteArray := prog_13_method_47_code
def yX4_greatestKey : MethodName := ⟨RX4, "greatestKey", "(I)I"⟩
def dkwX4_greatestKey_1 : List UInt8 := [29, 182, 0, 236, 184, 0, 239, 167, 0, 4, 28, 61, 132, 3, 1, 167, 255, 221, 28, 172]
abbrev dktX4_greatestKey_1 : List UInt8 := dkwX4_greatestKey_1 ++ []
def dkwX4_greatestKey_0 : List UInt8 := [2, 61, 3, 62, 29, 42, 180, 0, 173, 162, 0, 33, 42, 29, 27, 182, 0, 226, 153, 0, 16, 28, 42, 27]
abbrev dktX4_greatestKey_0 : List UInt8 := dkwX4_greatestKey_0 ++ dktX4_greatestKey_1
theorem dksX4_greatestKey_0 : cX4_greatestKey.data.toList.drop 0 = dktX4_greatestKey_0 := by decide +kernel
theorem dksX4_greatestKey_1 : cX4_greatestKey.data.toList.drop 24 = dktX4_greatestKey_1 := dk_seg dksX4_greatestKey_0 24 rfl rfl
theorem dX4_greatestKey_0 : decode cX4_greatestKey 0 = .ok (.iconst (-1), 1) := dk_2 (dk_at dksX4_greatestKey_0 0 rfl rfl)
theorem dX4_greatestKey_1 : decode cX4_greatestKey 1 = .ok (.istore_n 2, 1) := dk_61 (dk_at dksX4_greatestKey_0 1 rfl rfl)
theorem dX4_greatestKey_2 : decode cX4_greatestKey 2 = .ok (.iconst 0, 1) := dk_3 (dk_at dksX4_greatestKey_0 2 rfl rfl)
theorem dX4_greatestKey_3 : decode cX4_greatestKey 3 = .ok (.istore_n 3, 1) := dk_62 (dk_at dksX4_greatestKey_0 3 rfl rfl)
theorem dX4_greatestKey_4 : decode cX4_greatestKey 4 = .ok (.iload_n 3, 1) := dk_29 (dk_at dksX4_greatestKey_0 4 rfl rfl)
theorem dX4_greatestKey_5 : decode cX4_greatestKey 5 = .ok (.aload_n 0, 1) := dk_42 (dk_at dksX4_greatestKey_0 5 rfl rfl)
theorem dX4_greatestKey_6 : decode cX4_greatestKey 6 = .ok (.getfield 173, 3) := dk_180 0 173 (dk_at dksX4_greatestKey_0 6 rfl rfl)
theorem dX4_greatestKey_9 : decode cX4_greatestKey 9 = .ok (.if_icmp .ge 33, 3) := dk_162 0 33 (dk_at dksX4_greatestKey_0 9 rfl rfl)
theorem dX4_greatestKey_12 : decode cX4_greatestKey 12 = .ok (.aload_n 0, 1) := dk_42 (dk_at dksX4_greatestKey_0 12 rfl rfl)
theorem dX4_greatestKey_13 : decode cX4_greatestKey 13 = .ok (.iload_n 3, 1) := dk_29 (dk_at dksX4_greatestKey_0 13 rfl rfl)
theorem dX4_greatestKey_14 : decode cX4_greatestKey 14 = .ok (.iload_n 1, 1) := dk_27 (dk_at dksX4_greatestKey_0 14 rfl rfl)
theorem dX4_greatestKey_15 : decode cX4_greatestKey 15 = .ok (.invokevirtual 226, 3) := dk_182 0 226 (dk_at dksX4_greatestKey_0 15 rfl rfl)
theorem dX4_greatestKey_18 : decode cX4_greatestKey 18 = .ok (.ifCond .eq 16, 3) := dk_153 0 16 (dk_at dksX4_greatestKey_0 18 rfl rfl)
theorem dX4_greatestKey_21 : decode cX4_greatestKey 21 = .ok (.iload_n 2, 1) := dk_28 (dk_at dksX4_greatestKey_0 21 rfl rfl)
theorem dX4_greatestKey_22 : decode cX4_greatestKey 22 = .ok (.aload_n 0, 1) := dk_42 (dk_at dksX4_greatestKey_0 22 rfl rfl)
theorem dX4_greatestKey_23 : decode cX4_greatestKey 23 = .ok (.iload_n 1, 1) := dk_27 (dk_at dksX4_greatestKey_0 23 rfl rfl)
theorem dX4_greatestKey_24 : decode cX4_greatestKey 24 = .ok (.iload_n 3, 1) := dk_29 (dk_at dksX4_greatestKey_1 0 rfl rfl)
theorem dX4_greatestKey_25 : decode cX4_greatestKey 25 = .ok (.invokevirtual 236, 3) := dk_182 0 236 (dk_at dksX4_greatestKey_1 1 rfl rfl)
theorem dX4_greatestKey_28 : decode cX4_greatestKey 28 = .ok (.invokestatic 239, 3) := dk_184 0 239 (dk_at dksX4_greatestKey_1 4 rfl rfl)
theorem dX4_greatestKey_31 : decode cX4_greatestKey 31 = .ok (.goto 4, 3) := dk_167 0 4 (dk_at dksX4_greatestKey_1 7 rfl rfl)
theorem dX4_greatestKey_34 : decode cX4_greatestKey 34 = .ok (.iload_n 2, 1) := dk_28 (dk_at dksX4_greatestKey_1 10 rfl rfl)
theorem dX4_greatestKey_35 : decode cX4_greatestKey 35 = .ok (.istore_n 2, 1) := dk_61 (dk_at dksX4_greatestKey_1 11 rfl rfl)
theorem dX4_greatestKey_36 : decode cX4_greatestKey 36 = .ok (.iinc 3 1, 3) := dk_132 3 1 (dk_at dksX4_greatestKey_1 12 rfl rfl)
theorem dX4_greatestKey_39 : decode cX4_greatestKey 39 = .ok (.goto (-35), 3) := dk_167 255 221 (dk_at dksX4_greatestKey_1 15 rfl rfl)
theorem dX4_greatestKey_42 : decode cX4_greatestKey 42 = .ok (.iload_n 2, 1) := dk_28 (dk_at dksX4_greatestKey_1 18 rfl rfl)
theorem dX4_greatestKey_43 : decode cX4_greatestKey 43 = .ok (.ireturn, 1) := dk_172 (dk_at dksX4_greatestKey_1 19 rfl rfl)
abbrev cX4_keyAt : ByteArray := prog_13_method_46_code
def yX4_keyAt : MethodName := ⟨RX4, "keyAt", "(II)I"⟩
def dkwX4_keyAt_0 : List UInt8 := [7, 27, 104, 28, 96, 62, 42, 180, 0, 49, 16, 12, 29, 104, 42, 180, 0, 55, 29, 46, 96, 46, 172]
abbrev dktX4_keyAt_0 : List UInt8 := dkwX4_keyAt_0 ++ []
theorem dksX4_keyAt_0 : cX4_keyAt.data.toList.drop 0 = dktX4_keyAt_0 := by decide +kernel
theorem dX4_keyAt_0 : decode cX4_keyAt 0 = .ok (.iconst 4, 1) := dk_7 (dk_at dksX4_keyAt_0 0 rfl rfl)
theorem dX4_keyAt_1 : decode cX4_keyAt 1 = .ok (.iload_n 1, 1) := dk_27 (dk_at dksX4_keyAt_0 1 rfl rfl)
theorem dX4_keyAt_2 : decode cX4_keyAt 2 = .ok (.imul, 1) := dk_104 (dk_at dksX4_keyAt_0 2 rfl rfl)
theorem dX4_keyAt_3 : decode cX4_keyAt 3 = .ok (.iload_n 2, 1) := dk_28 (dk_at dksX4_keyAt_0 3 rfl rfl)
theorem dX4_keyAt_4 : decode cX4_keyAt 4 = .ok (.iadd, 1) := dk_96 (dk_at dksX4_keyAt_0 4 rfl rfl)
theorem dX4_keyAt_5 : decode cX4_keyAt 5 = .ok (.istore_n 3, 1) := dk_62 (dk_at dksX4_keyAt_0 5 rfl rfl)
theorem dX4_keyAt_6 : decode cX4_keyAt 6 = .ok (.aload_n 0, 1) := dk_42 (dk_at dksX4_keyAt_0 6 rfl rfl)
theorem dX4_keyAt_7 : decode cX4_keyAt 7 = .ok (.getfield 49, 3) := dk_180 0 49 (dk_at dksX4_keyAt_0 7 rfl rfl)
theorem dX4_keyAt_10 : decode cX4_keyAt 10 = .ok (.bipush 12, 2) := dk_16 12 (dk_at dksX4_keyAt_0 10 rfl rfl)
theorem dX4_keyAt_12 : decode cX4_keyAt 12 = .ok (.iload_n 3, 1) := dk_29 (dk_at dksX4_keyAt_0 12 rfl rfl)
theorem dX4_keyAt_13 : decode cX4_keyAt 13 = .ok (.imul, 1) := dk_104 (dk_at dksX4_keyAt_0 13 rfl rfl)
theorem dX4_keyAt_14 : decode cX4_keyAt 14 = .ok (.aload_n 0, 1) := dk_42 (dk_at dksX4_keyAt_0 14 rfl rfl)
theorem dX4_keyAt_15 : decode cX4_keyAt 15 = .ok (.getfield 55, 3) := dk_180 0 55 (dk_at dksX4_keyAt_0 15 rfl rfl)
theorem dX4_keyAt_18 : decode cX4_keyAt 18 = .ok (.iload_n 3, 1) := dk_29 (dk_at dksX4_keyAt_0 18 rfl rfl)
theorem dX4_keyAt_19 : decode cX4_keyAt 19 = .ok (.iaload, 1) := dk_46 (dk_at dksX4_keyAt_0 19 rfl rfl)
theorem dX4_keyAt_20 : decode cX4_keyAt 20 = .ok (.iadd, 1) := dk_96 (dk_at dksX4_keyAt_0 20 rfl rfl)
theorem dX4_keyAt_21 : decode cX4_keyAt 21 = .ok (.iaload, 1) := dk_46 (dk_at dksX4_keyAt_0 21 rfl rfl)
theorem dX4_keyAt_22 : decode cX4_keyAt 22 = .ok (.ireturn, 1) := dk_172 (dk_at dksX4_keyAt_0 22 rfl rfl)
abbrev cX4_firstBehind : ByteArray := prog_13_method_48_code
def yX4_firstBehind : MethodName := ⟨RX4, "firstBehind", "(II)I"⟩
def dkwX4_firstBehind_1 : List UInt8 := [182, 0, 236, 28, 162, 0, 5, 29, 172, 132, 3, 1, 167, 255, 224, 2, 172]
abbrev dktX4_firstBehind_1 : List UInt8 := dkwX4_firstBehind_1 ++ []
def dkwX4_firstBehind_0 : List UInt8 := [3, 62, 29, 42, 180, 0, 173, 162, 0, 30, 42, 29, 27, 182, 0, 226, 153, 0, 15, 42, 27, 29]
abbrev dktX4_firstBehind_0 : List UInt8 := dkwX4_firstBehind_0 ++ dktX4_firstBehind_1
theorem dksX4_firstBehind_0 : cX4_firstBehind.data.toList.drop 0 = dktX4_firstBehind_0 := by decide +kernel
theorem dksX4_firstBehind_1 : cX4_firstBehind.data.toList.drop 22 = dktX4_firstBehind_1 := dk_seg dksX4_firstBehind_0 22 rfl rfl
theorem dX4_firstBehind_0 : decode cX4_firstBehind 0 = .ok (.iconst 0, 1) := dk_3 (dk_at dksX4_firstBehind_0 0 rfl rfl)
theorem dX4_firstBehind_1 : decode cX4_firstBehind 1 = .ok (.istore_n 3, 1) := dk_62 (dk_at dksX4_firstBehind_0 1 rfl rfl)
theorem dX4_firstBehind_2 : decode cX4_firstBehind 2 = .ok (.iload_n 3, 1) := dk_29 (dk_at dksX4_firstBehind_0 2 rfl rfl)
theorem dX4_firstBehind_3 : decode cX4_firstBehind 3 = .ok (.aload_n 0, 1) := dk_42 (dk_at dksX4_firstBehind_0 3 rfl rfl)
theorem dX4_firstBehind_4 : decode cX4_firstBehind 4 = .ok (.getfield 173, 3) := dk_180 0 173 (dk_at dksX4_firstBehind_0 4 rfl rfl)
theorem dX4_firstBehind_7 : decode cX4_firstBehind 7 = .ok (.if_icmp .ge 30, 3) := dk_162 0 30 (dk_at dksX4_firstBehind_0 7 rfl rfl)
theorem dX4_firstBehind_10 : decode cX4_firstBehind 10 = .ok (.aload_n 0, 1) := dk_42 (dk_at dksX4_firstBehind_0 10 rfl rfl)
theorem dX4_firstBehind_11 : decode cX4_firstBehind 11 = .ok (.iload_n 3, 1) := dk_29 (dk_at dksX4_firstBehind_0 11 rfl rfl)
theorem dX4_firstBehind_12 : decode cX4_firstBehind 12 = .ok (.iload_n 1, 1) := dk_27 (dk_at dksX4_firstBehind_0 12 rfl rfl)
theorem dX4_firstBehind_13 : decode cX4_firstBehind 13 = .ok (.invokevirtual 226, 3) := dk_182 0 226 (dk_at dksX4_firstBehind_0 13 rfl rfl)
theorem dX4_firstBehind_16 : decode cX4_firstBehind 16 = .ok (.ifCond .eq 15, 3) := dk_153 0 15 (dk_at dksX4_firstBehind_0 16 rfl rfl)
theorem dX4_firstBehind_19 : decode cX4_firstBehind 19 = .ok (.aload_n 0, 1) := dk_42 (dk_at dksX4_firstBehind_0 19 rfl rfl)
theorem dX4_firstBehind_20 : decode cX4_firstBehind 20 = .ok (.iload_n 1, 1) := dk_27 (dk_at dksX4_firstBehind_0 20 rfl rfl)
theorem dX4_firstBehind_21 : decode cX4_firstBehind 21 = .ok (.iload_n 3, 1) := dk_29 (dk_at dksX4_firstBehind_0 21 rfl rfl)
theorem dX4_firstBehind_22 : decode cX4_firstBehind 22 = .ok (.invokevirtual 236, 3) := dk_182 0 236 (dk_at dksX4_firstBehind_1 0 rfl rfl)
theorem dX4_firstBehind_25 : decode cX4_firstBehind 25 = .ok (.iload_n 2, 1) := dk_28 (dk_at dksX4_firstBehind_1 3 rfl rfl)
theorem dX4_firstBehind_26 : decode cX4_firstBehind 26 = .ok (.if_icmp .ge 5, 3) := dk_162 0 5 (dk_at dksX4_firstBehind_1 4 rfl rfl)
theorem dX4_firstBehind_29 : decode cX4_firstBehind 29 = .ok (.iload_n 3, 1) := dk_29 (dk_at dksX4_firstBehind_1 7 rfl rfl)
theorem dX4_firstBehind_30 : decode cX4_firstBehind 30 = .ok (.ireturn, 1) := dk_172 (dk_at dksX4_firstBehind_1 8 rfl rfl)
theorem dX4_firstBehind_31 : decode cX4_firstBehind 31 = .ok (.iinc 3 1, 3) := dk_132 3 1 (dk_at dksX4_firstBehind_1 9 rfl rfl)
theorem dX4_firstBehind_34 : decode cX4_firstBehind 34 = .ok (.goto (-32), 3) := dk_167 255 224 (dk_at dksX4_firstBehind_1 12 rfl rfl)
theorem dX4_firstBehind_37 : decode cX4_firstBehind 37 = .ok (.iconst (-1), 1) := dk_2 (dk_at dksX4_firstBehind_1 15 rfl rfl)
theorem dX4_firstBehind_38 : decode cX4_firstBehind 38 = .ok (.ireturn, 1) := dk_172 (dk_at dksX4_firstBehind_1 16 rfl rfl)
abbrev cX4_firstIn : ByteArray := prog_13_method_49_code
def yX4_firstIn : MethodName := ⟨RX4, "firstIn", "(I)I"⟩
def dkwX4_firstIn_0 : List UInt8 := [3, 61, 42, 28, 27, 182, 0, 226, 154, 0, 9, 132, 2, 1, 167, 255, 244, 28, 172]
abbrev dktX4_firstIn_0 : List UInt8 := dkwX4_firstIn_0 ++ []
theorem dksX4_firstIn_0 : cX4_firstIn.data.toList.drop 0 = dktX4_firstIn_0 := by decide +kernel
theorem dX4_firstIn_0 : decode cX4_firstIn 0 = .ok (.iconst 0, 1) := dk_3 (dk_at dksX4_firstIn_0 0 rfl rfl)
theorem dX4_firstIn_1 : decode cX4_firstIn 1 = .ok (.istore_n 2, 1) := dk_61 (dk_at dksX4_firstIn_0 1 rfl rfl)
theorem dX4_firstIn_2 : decode cX4_firstIn 2 = .ok (.aload_n 0, 1) := dk_42 (dk_at dksX4_firstIn_0 2 rfl rfl)
theorem dX4_firstIn_3 : decode cX4_firstIn 3 = .ok (.iload_n 2, 1) := dk_28 (dk_at dksX4_firstIn_0 3 rfl rfl)
theorem dX4_firstIn_4 : decode cX4_firstIn 4 = .ok (.iload_n 1, 1) := dk_27 (dk_at dksX4_firstIn_0 4 rfl rfl)
theorem dX4_firstIn_5 : decode cX4_firstIn 5 = .ok (.invokevirtual 226, 3) := dk_182 0 226 (dk_at dksX4_firstIn_0 5 rfl rfl)
theorem dX4_firstIn_8 : decode cX4_firstIn 8 = .ok (.ifCond .ne 9, 3) := dk_154 0 9 (dk_at dksX4_firstIn_0 8 rfl rfl)
theorem dX4_firstIn_11 : decode cX4_firstIn 11 = .ok (.iinc 2 1, 3) := dk_132 2 1 (dk_at dksX4_firstIn_0 11 rfl rfl)
theorem dX4_firstIn_14 : decode cX4_firstIn 14 = .ok (.goto (-12), 3) := dk_167 255 244 (dk_at dksX4_firstIn_0 14 rfl rfl)
theorem dX4_firstIn_17 : decode cX4_firstIn 17 = .ok (.iload_n 2, 1) := dk_28 (dk_at dksX4_firstIn_0 17 rfl rfl)
theorem dX4_firstIn_18 : decode cX4_firstIn 18 = .ok (.ireturn, 1) := dk_172 (dk_at dksX4_firstIn_0 18 rfl rfl)
abbrev cX4_leaps : ByteArray := prog_13_method_50_code
def yX4_leaps : MethodName := ⟨RX4, "leaps", "(III)Z"⟩
def dkwX4_leaps_3 : List UInt8 := [180, 0, 55, 21, 4, 46, 42, 180, 0, 52, 21, 4, 46, 162, 0, 7, 4, 167, 0, 4, 3, 172]
abbrev dktX4_leaps_3 : List UInt8 := dkwX4_leaps_3 ++ []
def dkwX4_leaps_2 : List UInt8 := [21, 4, 46, 96, 46, 29, 162, 0, 17, 42, 180, 0, 55, 21, 4, 92, 46, 4, 96, 79, 167, 255, 206, 42]
abbrev dktX4_leaps_2 : List UInt8 := dkwX4_leaps_2 ++ dktX4_leaps_3
def dkwX4_leaps_1 : List UInt8 := [42, 180, 0, 52, 21, 4, 46, 162, 0, 39, 42, 180, 0, 49, 16, 12, 21, 4, 104, 42, 180, 0, 55]
abbrev dktX4_leaps_1 : List UInt8 := dkwX4_leaps_1 ++ dktX4_leaps_2
def dkwX4_leaps_0 : List UInt8 := [7, 27, 104, 28, 96, 54, 4, 42, 89, 180, 0, 244, 4, 96, 181, 0, 244, 42, 180, 0, 55, 21, 4, 46]
abbrev dktX4_leaps_0 : List UInt8 := dkwX4_leaps_0 ++ dktX4_leaps_1
theorem dksX4_leaps_0 : cX4_leaps.data.toList.drop 0 = dktX4_leaps_0 := by decide +kernel
theorem dksX4_leaps_1 : cX4_leaps.data.toList.drop 24 = dktX4_leaps_1 := dk_seg dksX4_leaps_0 24 rfl rfl
theorem dksX4_leaps_2 : cX4_leaps.data.toList.drop 47 = dktX4_leaps_2 := dk_seg dksX4_leaps_1 23 rfl rfl
theorem dksX4_leaps_3 : cX4_leaps.data.toList.drop 71 = dktX4_leaps_3 := dk_seg dksX4_leaps_2 24 rfl rfl
theorem dX4_leaps_0 : decode cX4_leaps 0 = .ok (.iconst 4, 1) := dk_7 (dk_at dksX4_leaps_0 0 rfl rfl)
theorem dX4_leaps_1 : decode cX4_leaps 1 = .ok (.iload_n 1, 1) := dk_27 (dk_at dksX4_leaps_0 1 rfl rfl)
theorem dX4_leaps_2 : decode cX4_leaps 2 = .ok (.imul, 1) := dk_104 (dk_at dksX4_leaps_0 2 rfl rfl)
theorem dX4_leaps_3 : decode cX4_leaps 3 = .ok (.iload_n 2, 1) := dk_28 (dk_at dksX4_leaps_0 3 rfl rfl)
theorem dX4_leaps_4 : decode cX4_leaps 4 = .ok (.iadd, 1) := dk_96 (dk_at dksX4_leaps_0 4 rfl rfl)
theorem dX4_leaps_5 : decode cX4_leaps 5 = .ok (.istore 4, 2) := dk_54 4 (dk_at dksX4_leaps_0 5 rfl rfl)
theorem dX4_leaps_7 : decode cX4_leaps 7 = .ok (.aload_n 0, 1) := dk_42 (dk_at dksX4_leaps_0 7 rfl rfl)
theorem dX4_leaps_8 : decode cX4_leaps 8 = .ok (.dup, 1) := dk_89 (dk_at dksX4_leaps_0 8 rfl rfl)
theorem dX4_leaps_9 : decode cX4_leaps 9 = .ok (.getfield 244, 3) := dk_180 0 244 (dk_at dksX4_leaps_0 9 rfl rfl)
theorem dX4_leaps_12 : decode cX4_leaps 12 = .ok (.iconst 1, 1) := dk_4 (dk_at dksX4_leaps_0 12 rfl rfl)
theorem dX4_leaps_13 : decode cX4_leaps 13 = .ok (.iadd, 1) := dk_96 (dk_at dksX4_leaps_0 13 rfl rfl)
theorem dX4_leaps_14 : decode cX4_leaps 14 = .ok (.putfield 244, 3) := dk_181 0 244 (dk_at dksX4_leaps_0 14 rfl rfl)
theorem dX4_leaps_17 : decode cX4_leaps 17 = .ok (.aload_n 0, 1) := dk_42 (dk_at dksX4_leaps_0 17 rfl rfl)
theorem dX4_leaps_18 : decode cX4_leaps 18 = .ok (.getfield 55, 3) := dk_180 0 55 (dk_at dksX4_leaps_0 18 rfl rfl)
theorem dX4_leaps_21 : decode cX4_leaps 21 = .ok (.iload 4, 2) := dk_21 4 (dk_at dksX4_leaps_0 21 rfl rfl)
theorem dX4_leaps_23 : decode cX4_leaps 23 = .ok (.iaload, 1) := dk_46 (dk_at dksX4_leaps_0 23 rfl rfl)
theorem dX4_leaps_24 : decode cX4_leaps 24 = .ok (.aload_n 0, 1) := dk_42 (dk_at dksX4_leaps_1 0 rfl rfl)
theorem dX4_leaps_25 : decode cX4_leaps 25 = .ok (.getfield 52, 3) := dk_180 0 52 (dk_at dksX4_leaps_1 1 rfl rfl)
theorem dX4_leaps_28 : decode cX4_leaps 28 = .ok (.iload 4, 2) := dk_21 4 (dk_at dksX4_leaps_1 4 rfl rfl)
theorem dX4_leaps_30 : decode cX4_leaps 30 = .ok (.iaload, 1) := dk_46 (dk_at dksX4_leaps_1 6 rfl rfl)
theorem dX4_leaps_31 : decode cX4_leaps 31 = .ok (.if_icmp .ge 39, 3) := dk_162 0 39 (dk_at dksX4_leaps_1 7 rfl rfl)
theorem dX4_leaps_34 : decode cX4_leaps 34 = .ok (.aload_n 0, 1) := dk_42 (dk_at dksX4_leaps_1 10 rfl rfl)
theorem dX4_leaps_35 : decode cX4_leaps 35 = .ok (.getfield 49, 3) := dk_180 0 49 (dk_at dksX4_leaps_1 11 rfl rfl)
theorem dX4_leaps_38 : decode cX4_leaps 38 = .ok (.bipush 12, 2) := dk_16 12 (dk_at dksX4_leaps_1 14 rfl rfl)
theorem dX4_leaps_40 : decode cX4_leaps 40 = .ok (.iload 4, 2) := dk_21 4 (dk_at dksX4_leaps_1 16 rfl rfl)
theorem dX4_leaps_42 : decode cX4_leaps 42 = .ok (.imul, 1) := dk_104 (dk_at dksX4_leaps_1 18 rfl rfl)
theorem dX4_leaps_43 : decode cX4_leaps 43 = .ok (.aload_n 0, 1) := dk_42 (dk_at dksX4_leaps_1 19 rfl rfl)
theorem dX4_leaps_44 : decode cX4_leaps 44 = .ok (.getfield 55, 3) := dk_180 0 55 (dk_at dksX4_leaps_1 20 rfl rfl)
theorem dX4_leaps_47 : decode cX4_leaps 47 = .ok (.iload 4, 2) := dk_21 4 (dk_at dksX4_leaps_2 0 rfl rfl)
theorem dX4_leaps_49 : decode cX4_leaps 49 = .ok (.iaload, 1) := dk_46 (dk_at dksX4_leaps_2 2 rfl rfl)
theorem dX4_leaps_50 : decode cX4_leaps 50 = .ok (.iadd, 1) := dk_96 (dk_at dksX4_leaps_2 3 rfl rfl)
theorem dX4_leaps_51 : decode cX4_leaps 51 = .ok (.iaload, 1) := dk_46 (dk_at dksX4_leaps_2 4 rfl rfl)
theorem dX4_leaps_52 : decode cX4_leaps 52 = .ok (.iload_n 3, 1) := dk_29 (dk_at dksX4_leaps_2 5 rfl rfl)
theorem dX4_leaps_53 : decode cX4_leaps 53 = .ok (.if_icmp .ge 17, 3) := dk_162 0 17 (dk_at dksX4_leaps_2 6 rfl rfl)
theorem dX4_leaps_56 : decode cX4_leaps 56 = .ok (.aload_n 0, 1) := dk_42 (dk_at dksX4_leaps_2 9 rfl rfl)
theorem dX4_leaps_57 : decode cX4_leaps 57 = .ok (.getfield 55, 3) := dk_180 0 55 (dk_at dksX4_leaps_2 10 rfl rfl)
theorem dX4_leaps_60 : decode cX4_leaps 60 = .ok (.iload 4, 2) := dk_21 4 (dk_at dksX4_leaps_2 13 rfl rfl)
theorem dX4_leaps_62 : decode cX4_leaps 62 = .ok (.dup2, 1) := dk_92 (dk_at dksX4_leaps_2 15 rfl rfl)
theorem dX4_leaps_63 : decode cX4_leaps 63 = .ok (.iaload, 1) := dk_46 (dk_at dksX4_leaps_2 16 rfl rfl)
theorem dX4_leaps_64 : decode cX4_leaps 64 = .ok (.iconst 1, 1) := dk_4 (dk_at dksX4_leaps_2 17 rfl rfl)
theorem dX4_leaps_65 : decode cX4_leaps 65 = .ok (.iadd, 1) := dk_96 (dk_at dksX4_leaps_2 18 rfl rfl)
theorem dX4_leaps_66 : decode cX4_leaps 66 = .ok (.iastore, 1) := dk_79 (dk_at dksX4_leaps_2 19 rfl rfl)
theorem dX4_leaps_67 : decode cX4_leaps 67 = .ok (.goto (-50), 3) := dk_167 255 206 (dk_at dksX4_leaps_2 20 rfl rfl)
theorem dX4_leaps_70 : decode cX4_leaps 70 = .ok (.aload_n 0, 1) := dk_42 (dk_at dksX4_leaps_2 23 rfl rfl)
theorem dX4_leaps_71 : decode cX4_leaps 71 = .ok (.getfield 55, 3) := dk_180 0 55 (dk_at dksX4_leaps_3 0 rfl rfl)
theorem dX4_leaps_74 : decode cX4_leaps 74 = .ok (.iload 4, 2) := dk_21 4 (dk_at dksX4_leaps_3 3 rfl rfl)
theorem dX4_leaps_76 : decode cX4_leaps 76 = .ok (.iaload, 1) := dk_46 (dk_at dksX4_leaps_3 5 rfl rfl)
theorem dX4_leaps_77 : decode cX4_leaps 77 = .ok (.aload_n 0, 1) := dk_42 (dk_at dksX4_leaps_3 6 rfl rfl)
theorem dX4_leaps_78 : decode cX4_leaps 78 = .ok (.getfield 52, 3) := dk_180 0 52 (dk_at dksX4_leaps_3 7 rfl rfl)
theorem dX4_leaps_81 : decode cX4_leaps 81 = .ok (.iload 4, 2) := dk_21 4 (dk_at dksX4_leaps_3 10 rfl rfl)
theorem dX4_leaps_83 : decode cX4_leaps 83 = .ok (.iaload, 1) := dk_46 (dk_at dksX4_leaps_3 12 rfl rfl)
theorem dX4_leaps_84 : decode cX4_leaps 84 = .ok (.if_icmp .ge 7, 3) := dk_162 0 7 (dk_at dksX4_leaps_3 13 rfl rfl)
theorem dX4_leaps_87 : decode cX4_leaps 87 = .ok (.iconst 1, 1) := dk_4 (dk_at dksX4_leaps_3 16 rfl rfl)
theorem dX4_leaps_88 : decode cX4_leaps 88 = .ok (.goto 4, 3) := dk_167 0 4 (dk_at dksX4_leaps_3 17 rfl rfl)
theorem dX4_leaps_91 : decode cX4_leaps 91 = .ok (.iconst 0, 1) := dk_3 (dk_at dksX4_leaps_3 20 rfl rfl)
theorem dX4_leaps_92 : decode cX4_leaps 92 = .ok (.ireturn, 1) := dk_172 (dk_at dksX4_leaps_3 21 rfl rfl)
abbrev cX4_take : ByteArray := prog_13_method_68_code
def yX4_take : MethodName := ⟨RX4, "take", "(IIII)I"⟩
def dkwX4_take_0 : List UInt8 := [42, 4, 27, 28, 29, 21, 4, 182, 1, 61, 172]
abbrev dktX4_take_0 : List UInt8 := dkwX4_take_0 ++ []
theorem dksX4_take_0 : cX4_take.data.toList.drop 0 = dktX4_take_0 := by decide +kernel
theorem dX4_take_0 : decode cX4_take 0 = .ok (.aload_n 0, 1) := dk_42 (dk_at dksX4_take_0 0 rfl rfl)
theorem dX4_take_1 : decode cX4_take 1 = .ok (.iconst 1, 1) := dk_4 (dk_at dksX4_take_0 1 rfl rfl)
theorem dX4_take_2 : decode cX4_take 2 = .ok (.iload_n 1, 1) := dk_27 (dk_at dksX4_take_0 2 rfl rfl)
theorem dX4_take_3 : decode cX4_take 3 = .ok (.iload_n 2, 1) := dk_28 (dk_at dksX4_take_0 3 rfl rfl)
theorem dX4_take_4 : decode cX4_take 4 = .ok (.iload_n 3, 1) := dk_29 (dk_at dksX4_take_0 4 rfl rfl)
theorem dX4_take_5 : decode cX4_take 5 = .ok (.iload 4, 2) := dk_21 4 (dk_at dksX4_take_0 5 rfl rfl)
theorem dX4_take_7 : decode cX4_take 7 = .ok (.invokevirtual 317, 3) := dk_182 1 61 (dk_at dksX4_take_0 7 rfl rfl)
theorem dX4_take_10 : decode cX4_take 10 = .ok (.ireturn, 1) := dk_172 (dk_at dksX4_take_0 10 rfl rfl)
abbrev cX4_use : ByteArray := prog_13_method_69_code
def yX4_use : MethodName := ⟨RX4, "use", "(I)I"⟩
def dkwX4_use_0 : List UInt8 := [42, 5, 27, 3, 3, 3, 182, 1, 61, 172]
abbrev dktX4_use_0 : List UInt8 := dkwX4_use_0 ++ []
theorem dksX4_use_0 : cX4_use.data.toList.drop 0 = dktX4_use_0 := by decide +kernel
theorem dX4_use_0 : decode cX4_use 0 = .ok (.aload_n 0, 1) := dk_42 (dk_at dksX4_use_0 0 rfl rfl)
theorem dX4_use_1 : decode cX4_use 1 = .ok (.iconst 2, 1) := dk_5 (dk_at dksX4_use_0 1 rfl rfl)
theorem dX4_use_2 : decode cX4_use 2 = .ok (.iload_n 1, 1) := dk_27 (dk_at dksX4_use_0 2 rfl rfl)
theorem dX4_use_3 : decode cX4_use 3 = .ok (.iconst 0, 1) := dk_3 (dk_at dksX4_use_0 3 rfl rfl)
theorem dX4_use_4 : decode cX4_use 4 = .ok (.iconst 0, 1) := dk_3 (dk_at dksX4_use_0 4 rfl rfl)
theorem dX4_use_5 : decode cX4_use 5 = .ok (.iconst 0, 1) := dk_3 (dk_at dksX4_use_0 5 rfl rfl)
theorem dX4_use_6 : decode cX4_use 6 = .ok (.invokevirtual 317, 3) := dk_182 1 61 (dk_at dksX4_use_0 6 rfl rfl)
theorem dX4_use_9 : decode cX4_use 9 = .ok (.ireturn, 1) := dk_172 (dk_at dksX4_use_0 9 rfl rfl)
abbrev cX4_order : ByteArray := prog_13_method_70_code
def yX4_order : MethodName := ⟨RX4, "order", "(I)I"⟩
def dkwX4_order_0 : List UInt8 := [42, 6, 27, 3, 3, 3, 182, 1, 61, 172]
abbrev dktX4_order_0 : List UInt8 := dkwX4_order_0 ++ []
theorem dksX4_order_0 : cX4_order.data.toList.drop 0 = dktX4_order_0 := by decide +kernel
theorem dX4_order_0 : decode cX4_order 0 = .ok (.aload_n 0, 1) := dk_42 (dk_at dksX4_order_0 0 rfl rfl)
theorem dX4_order_1 : decode cX4_order 1 = .ok (.iconst 3, 1) := dk_6 (dk_at dksX4_order_0 1 rfl rfl)
theorem dX4_order_2 : decode cX4_order 2 = .ok (.iload_n 1, 1) := dk_27 (dk_at dksX4_order_0 2 rfl rfl)
theorem dX4_order_3 : decode cX4_order 3 = .ok (.iconst 0, 1) := dk_3 (dk_at dksX4_order_0 3 rfl rfl)
theorem dX4_order_4 : decode cX4_order 4 = .ok (.iconst 0, 1) := dk_3 (dk_at dksX4_order_0 4 rfl rfl)
theorem dX4_order_5 : decode cX4_order 5 = .ok (.iconst 0, 1) := dk_3 (dk_at dksX4_order_0 5 rfl rfl)
theorem dX4_order_6 : decode cX4_order 6 = .ok (.invokevirtual 317, 3) := dk_182 1 61 (dk_at dksX4_order_0 6 rfl rfl)
theorem dX4_order_9 : decode cX4_order 9 = .ok (.ireturn, 1) := dk_172 (dk_at dksX4_order_0 9 rfl rfl)
abbrev cX4_ways : ByteArray := prog_13_method_74_code
def yX4_ways : MethodName := ⟨RX4, "ways", "(IJ)I"⟩
def dkwX4_ways_1 : List UInt8 := [3, 54, 4, 21, 4, 27, 162, 0, 13, 42, 182, 1, 79, 132, 4, 1, 167, 255, 243, 42, 182, 1, 43, 172]
abbrev dktX4_ways_1 : List UInt8 := dkwX4_ways_1 ++ []
def dkwX4_ways_0 : List UInt8 := [42, 182, 1, 21, 153, 0, 13, 27, 4, 16, 40, 184, 0, 104, 154, 0, 5, 2, 172, 42, 32, 181, 1, 64]
abbrev dktX4_ways_0 : List UInt8 := dkwX4_ways_0 ++ dktX4_ways_1
theorem dksX4_ways_0 : cX4_ways.data.toList.drop 0 = dktX4_ways_0 := by decide +kernel
theorem dksX4_ways_1 : cX4_ways.data.toList.drop 24 = dktX4_ways_1 := dk_seg dksX4_ways_0 24 rfl rfl
theorem dX4_ways_0 : decode cX4_ways 0 = .ok (.aload_n 0, 1) := dk_42 (dk_at dksX4_ways_0 0 rfl rfl)
theorem dX4_ways_1 : decode cX4_ways 1 = .ok (.invokevirtual 277, 3) := dk_182 1 21 (dk_at dksX4_ways_0 1 rfl rfl)
theorem dX4_ways_4 : decode cX4_ways 4 = .ok (.ifCond .eq 13, 3) := dk_153 0 13 (dk_at dksX4_ways_0 4 rfl rfl)
theorem dX4_ways_7 : decode cX4_ways 7 = .ok (.iload_n 1, 1) := dk_27 (dk_at dksX4_ways_0 7 rfl rfl)
theorem dX4_ways_8 : decode cX4_ways 8 = .ok (.iconst 1, 1) := dk_4 (dk_at dksX4_ways_0 8 rfl rfl)
theorem dX4_ways_9 : decode cX4_ways 9 = .ok (.bipush 40, 2) := dk_16 40 (dk_at dksX4_ways_0 9 rfl rfl)
theorem dX4_ways_11 : decode cX4_ways 11 = .ok (.invokestatic 104, 3) := dk_184 0 104 (dk_at dksX4_ways_0 11 rfl rfl)
theorem dX4_ways_14 : decode cX4_ways 14 = .ok (.ifCond .ne 5, 3) := dk_154 0 5 (dk_at dksX4_ways_0 14 rfl rfl)
theorem dX4_ways_17 : decode cX4_ways 17 = .ok (.iconst (-1), 1) := dk_2 (dk_at dksX4_ways_0 17 rfl rfl)
theorem dX4_ways_18 : decode cX4_ways 18 = .ok (.ireturn, 1) := dk_172 (dk_at dksX4_ways_0 18 rfl rfl)
theorem dX4_ways_19 : decode cX4_ways 19 = .ok (.aload_n 0, 1) := dk_42 (dk_at dksX4_ways_0 19 rfl rfl)
theorem dX4_ways_20 : decode cX4_ways 20 = .ok (.lload_n 2, 1) := dk_32 (dk_at dksX4_ways_0 20 rfl rfl)
theorem dX4_ways_21 : decode cX4_ways 21 = .ok (.putfield 320, 3) := dk_181 1 64 (dk_at dksX4_ways_0 21 rfl rfl)
theorem dX4_ways_24 : decode cX4_ways 24 = .ok (.iconst 0, 1) := dk_3 (dk_at dksX4_ways_1 0 rfl rfl)
theorem dX4_ways_25 : decode cX4_ways 25 = .ok (.istore 4, 2) := dk_54 4 (dk_at dksX4_ways_1 1 rfl rfl)
theorem dX4_ways_27 : decode cX4_ways 27 = .ok (.iload 4, 2) := dk_21 4 (dk_at dksX4_ways_1 3 rfl rfl)
theorem dX4_ways_29 : decode cX4_ways 29 = .ok (.iload_n 1, 1) := dk_27 (dk_at dksX4_ways_1 5 rfl rfl)
theorem dX4_ways_30 : decode cX4_ways 30 = .ok (.if_icmp .ge 13, 3) := dk_162 0 13 (dk_at dksX4_ways_1 6 rfl rfl)
theorem dX4_ways_33 : decode cX4_ways 33 = .ok (.aload_n 0, 1) := dk_42 (dk_at dksX4_ways_1 9 rfl rfl)
theorem dX4_ways_34 : decode cX4_ways 34 = .ok (.invokevirtual 335, 3) := dk_182 1 79 (dk_at dksX4_ways_1 10 rfl rfl)
theorem dX4_ways_37 : decode cX4_ways 37 = .ok (.iinc 4 1, 3) := dk_132 4 1 (dk_at dksX4_ways_1 13 rfl rfl)
theorem dX4_ways_40 : decode cX4_ways 40 = .ok (.goto (-13), 3) := dk_167 255 243 (dk_at dksX4_ways_1 16 rfl rfl)
theorem dX4_ways_43 : decode cX4_ways 43 = .ok (.aload_n 0, 1) := dk_42 (dk_at dksX4_ways_1 19 rfl rfl)
theorem dX4_ways_44 : decode cX4_ways 44 = .ok (.invokevirtual 299, 3) := dk_182 1 43 (dk_at dksX4_ways_1 20 rfl rfl)
theorem dX4_ways_47 : decode cX4_ways 47 = .ok (.ireturn, 1) := dk_172 (dk_at dksX4_ways_1 23 rfl rfl)
abbrev cX4_drawWay : ByteArray := prog_13_method_73_code
def yX4_drawWay : MethodName := ⟨RX4, "drawWay", "()V"⟩
def dkwX4_drawWay_7 : List UInt8 := [180, 0, 31, 21, 4, 5, 96, 46, 182, 1, 75, 177]
abbrev dktX4_drawWay_7 : List UInt8 := dkwX4_drawWay_7 ++ []
def dkwX4_drawWay_6 : List UInt8 := [54, 4, 42, 4, 28, 42, 180, 0, 31, 21, 4, 46, 42, 180, 0, 31, 21, 4, 4, 96, 46, 42]
abbrev dktX4_drawWay_6 : List UInt8 := dkwX4_drawWay_6 ++ dktX4_drawWay_7
def dkwX4_drawWay_5 : List UInt8 := [167, 0, 57, 42, 16, 12, 182, 1, 72, 62, 29, 42, 28, 182, 0, 186, 162, 0, 41, 28, 29, 184, 0, 182]
abbrev dktX4_drawWay_5 : List UInt8 := dkwX4_drawWay_5 ++ dktX4_drawWay_6
def dkwX4_drawWay_4 : List UInt8 := [2, 182, 1, 75, 167, 0, 75, 27, 16, 6, 160, 0, 15, 42, 5, 28, 3, 3, 3, 182, 1, 75]
abbrev dktX4_drawWay_4 : List UInt8 := dkwX4_drawWay_4 ++ dktX4_drawWay_5
def dkwX4_drawWay_3 : List UInt8 := [3, 28, 29, 21, 4, 42, 180, 0, 37, 28, 46, 5, 164, 0, 12, 42, 16, 6, 182, 1, 72, 167, 0, 4]
abbrev dktX4_drawWay_3 : List UInt8 := dkwX4_drawWay_3 ++ dktX4_drawWay_4
def dkwX4_drawWay_2 : List UInt8 := [62, 42, 180, 0, 37, 28, 46, 4, 164, 0, 12, 42, 16, 6, 182, 1, 72, 167, 0, 4, 2, 54, 4, 42]
abbrev dktX4_drawWay_2 : List UInt8 := dkwX4_drawWay_2 ++ dktX4_drawWay_3
def dkwX4_drawWay_1 : List UInt8 := [182, 1, 75, 177, 42, 42, 180, 0, 173, 182, 1, 72, 61, 27, 7, 162, 0, 64, 42, 16, 6, 182, 1, 72]
abbrev dktX4_drawWay_1 : List UInt8 := dkwX4_drawWay_1 ++ dktX4_drawWay_2
def dkwX4_drawWay_0 : List UInt8 := [42, 16, 8, 182, 1, 72, 60, 27, 16, 7, 160, 0, 18, 42, 6, 42, 16, 24, 182, 1, 72, 3, 3, 3]
abbrev dktX4_drawWay_0 : List UInt8 := dkwX4_drawWay_0 ++ dktX4_drawWay_1
theorem dksX4_drawWay_0 : cX4_drawWay.data.toList.drop 0 = dktX4_drawWay_0 := by decide +kernel
theorem dksX4_drawWay_1 : cX4_drawWay.data.toList.drop 24 = dktX4_drawWay_1 := dk_seg dksX4_drawWay_0 24 rfl rfl
theorem dksX4_drawWay_2 : cX4_drawWay.data.toList.drop 48 = dktX4_drawWay_2 := dk_seg dksX4_drawWay_1 24 rfl rfl
theorem dksX4_drawWay_3 : cX4_drawWay.data.toList.drop 72 = dktX4_drawWay_3 := dk_seg dksX4_drawWay_2 24 rfl rfl
theorem dksX4_drawWay_4 : cX4_drawWay.data.toList.drop 96 = dktX4_drawWay_4 := dk_seg dksX4_drawWay_3 24 rfl rfl
theorem dksX4_drawWay_5 : cX4_drawWay.data.toList.drop 118 = dktX4_drawWay_5 := dk_seg dksX4_drawWay_4 22 rfl rfl
theorem dksX4_drawWay_6 : cX4_drawWay.data.toList.drop 142 = dktX4_drawWay_6 := dk_seg dksX4_drawWay_5 24 rfl rfl
theorem dksX4_drawWay_7 : cX4_drawWay.data.toList.drop 164 = dktX4_drawWay_7 := dk_seg dksX4_drawWay_6 22 rfl rfl
theorem dX4_drawWay_0 : decode cX4_drawWay 0 = .ok (.aload_n 0, 1) := dk_42 (dk_at dksX4_drawWay_0 0 rfl rfl)
theorem dX4_drawWay_1 : decode cX4_drawWay 1 = .ok (.bipush 8, 2) := dk_16 8 (dk_at dksX4_drawWay_0 1 rfl rfl)
theorem dX4_drawWay_3 : decode cX4_drawWay 3 = .ok (.invokevirtual 328, 3) := dk_182 1 72 (dk_at dksX4_drawWay_0 3 rfl rfl)
theorem dX4_drawWay_6 : decode cX4_drawWay 6 = .ok (.istore_n 1, 1) := dk_60 (dk_at dksX4_drawWay_0 6 rfl rfl)
theorem dX4_drawWay_7 : decode cX4_drawWay 7 = .ok (.iload_n 1, 1) := dk_27 (dk_at dksX4_drawWay_0 7 rfl rfl)
theorem dX4_drawWay_8 : decode cX4_drawWay 8 = .ok (.bipush 7, 2) := dk_16 7 (dk_at dksX4_drawWay_0 8 rfl rfl)
theorem dX4_drawWay_10 : decode cX4_drawWay 10 = .ok (.if_icmp .ne 18, 3) := dk_160 0 18 (dk_at dksX4_drawWay_0 10 rfl rfl)
theorem dX4_drawWay_13 : decode cX4_drawWay 13 = .ok (.aload_n 0, 1) := dk_42 (dk_at dksX4_drawWay_0 13 rfl rfl)
theorem dX4_drawWay_14 : decode cX4_drawWay 14 = .ok (.iconst 3, 1) := dk_6 (dk_at dksX4_drawWay_0 14 rfl rfl)
theorem dX4_drawWay_15 : decode cX4_drawWay 15 = .ok (.aload_n 0, 1) := dk_42 (dk_at dksX4_drawWay_0 15 rfl rfl)
theorem dX4_drawWay_16 : decode cX4_drawWay 16 = .ok (.bipush 24, 2) := dk_16 24 (dk_at dksX4_drawWay_0 16 rfl rfl)
theorem dX4_drawWay_18 : decode cX4_drawWay 18 = .ok (.invokevirtual 328, 3) := dk_182 1 72 (dk_at dksX4_drawWay_0 18 rfl rfl)
theorem dX4_drawWay_21 : decode cX4_drawWay 21 = .ok (.iconst 0, 1) := dk_3 (dk_at dksX4_drawWay_0 21 rfl rfl)
theorem dX4_drawWay_22 : decode cX4_drawWay 22 = .ok (.iconst 0, 1) := dk_3 (dk_at dksX4_drawWay_0 22 rfl rfl)
theorem dX4_drawWay_23 : decode cX4_drawWay 23 = .ok (.iconst 0, 1) := dk_3 (dk_at dksX4_drawWay_0 23 rfl rfl)
theorem dX4_drawWay_24 : decode cX4_drawWay 24 = .ok (.invokevirtual 331, 3) := dk_182 1 75 (dk_at dksX4_drawWay_1 0 rfl rfl)
theorem dX4_drawWay_27 : decode cX4_drawWay 27 = .ok (.return_, 1) := dk_177 (dk_at dksX4_drawWay_1 3 rfl rfl)
theorem dX4_drawWay_28 : decode cX4_drawWay 28 = .ok (.aload_n 0, 1) := dk_42 (dk_at dksX4_drawWay_1 4 rfl rfl)
theorem dX4_drawWay_29 : decode cX4_drawWay 29 = .ok (.aload_n 0, 1) := dk_42 (dk_at dksX4_drawWay_1 5 rfl rfl)
theorem dX4_drawWay_30 : decode cX4_drawWay 30 = .ok (.getfield 173, 3) := dk_180 0 173 (dk_at dksX4_drawWay_1 6 rfl rfl)
theorem dX4_drawWay_33 : decode cX4_drawWay 33 = .ok (.invokevirtual 328, 3) := dk_182 1 72 (dk_at dksX4_drawWay_1 9 rfl rfl)
theorem dX4_drawWay_36 : decode cX4_drawWay 36 = .ok (.istore_n 2, 1) := dk_61 (dk_at dksX4_drawWay_1 12 rfl rfl)
theorem dX4_drawWay_37 : decode cX4_drawWay 37 = .ok (.iload_n 1, 1) := dk_27 (dk_at dksX4_drawWay_1 13 rfl rfl)
theorem dX4_drawWay_38 : decode cX4_drawWay 38 = .ok (.iconst 4, 1) := dk_7 (dk_at dksX4_drawWay_1 14 rfl rfl)
theorem dX4_drawWay_39 : decode cX4_drawWay 39 = .ok (.if_icmp .ge 64, 3) := dk_162 0 64 (dk_at dksX4_drawWay_1 15 rfl rfl)
theorem dX4_drawWay_42 : decode cX4_drawWay 42 = .ok (.aload_n 0, 1) := dk_42 (dk_at dksX4_drawWay_1 18 rfl rfl)
theorem dX4_drawWay_43 : decode cX4_drawWay 43 = .ok (.bipush 6, 2) := dk_16 6 (dk_at dksX4_drawWay_1 19 rfl rfl)
theorem dX4_drawWay_45 : decode cX4_drawWay 45 = .ok (.invokevirtual 328, 3) := dk_182 1 72 (dk_at dksX4_drawWay_1 21 rfl rfl)
theorem dX4_drawWay_48 : decode cX4_drawWay 48 = .ok (.istore_n 3, 1) := dk_62 (dk_at dksX4_drawWay_2 0 rfl rfl)
theorem dX4_drawWay_49 : decode cX4_drawWay 49 = .ok (.aload_n 0, 1) := dk_42 (dk_at dksX4_drawWay_2 1 rfl rfl)
theorem dX4_drawWay_50 : decode cX4_drawWay 50 = .ok (.getfield 37, 3) := dk_180 0 37 (dk_at dksX4_drawWay_2 2 rfl rfl)
theorem dX4_drawWay_53 : decode cX4_drawWay 53 = .ok (.iload_n 2, 1) := dk_28 (dk_at dksX4_drawWay_2 5 rfl rfl)
theorem dX4_drawWay_54 : decode cX4_drawWay 54 = .ok (.iaload, 1) := dk_46 (dk_at dksX4_drawWay_2 6 rfl rfl)
theorem dX4_drawWay_55 : decode cX4_drawWay 55 = .ok (.iconst 1, 1) := dk_4 (dk_at dksX4_drawWay_2 7 rfl rfl)
theorem dX4_drawWay_56 : decode cX4_drawWay 56 = .ok (.if_icmp .le 12, 3) := dk_164 0 12 (dk_at dksX4_drawWay_2 8 rfl rfl)
theorem dX4_drawWay_59 : decode cX4_drawWay 59 = .ok (.aload_n 0, 1) := dk_42 (dk_at dksX4_drawWay_2 11 rfl rfl)
theorem dX4_drawWay_60 : decode cX4_drawWay 60 = .ok (.bipush 6, 2) := dk_16 6 (dk_at dksX4_drawWay_2 12 rfl rfl)
theorem dX4_drawWay_62 : decode cX4_drawWay 62 = .ok (.invokevirtual 328, 3) := dk_182 1 72 (dk_at dksX4_drawWay_2 14 rfl rfl)
theorem dX4_drawWay_65 : decode cX4_drawWay 65 = .ok (.goto 4, 3) := dk_167 0 4 (dk_at dksX4_drawWay_2 17 rfl rfl)
theorem dX4_drawWay_68 : decode cX4_drawWay 68 = .ok (.iconst (-1), 1) := dk_2 (dk_at dksX4_drawWay_2 20 rfl rfl)
theorem dX4_drawWay_69 : decode cX4_drawWay 69 = .ok (.istore 4, 2) := dk_54 4 (dk_at dksX4_drawWay_2 21 rfl rfl)
theorem dX4_drawWay_71 : decode cX4_drawWay 71 = .ok (.aload_n 0, 1) := dk_42 (dk_at dksX4_drawWay_2 23 rfl rfl)
theorem dX4_drawWay_72 : decode cX4_drawWay 72 = .ok (.iconst 0, 1) := dk_3 (dk_at dksX4_drawWay_3 0 rfl rfl)
theorem dX4_drawWay_73 : decode cX4_drawWay 73 = .ok (.iload_n 2, 1) := dk_28 (dk_at dksX4_drawWay_3 1 rfl rfl)
theorem dX4_drawWay_74 : decode cX4_drawWay 74 = .ok (.iload_n 3, 1) := dk_29 (dk_at dksX4_drawWay_3 2 rfl rfl)
theorem dX4_drawWay_75 : decode cX4_drawWay 75 = .ok (.iload 4, 2) := dk_21 4 (dk_at dksX4_drawWay_3 3 rfl rfl)
theorem dX4_drawWay_77 : decode cX4_drawWay 77 = .ok (.aload_n 0, 1) := dk_42 (dk_at dksX4_drawWay_3 5 rfl rfl)
theorem dX4_drawWay_78 : decode cX4_drawWay 78 = .ok (.getfield 37, 3) := dk_180 0 37 (dk_at dksX4_drawWay_3 6 rfl rfl)
theorem dX4_drawWay_81 : decode cX4_drawWay 81 = .ok (.iload_n 2, 1) := dk_28 (dk_at dksX4_drawWay_3 9 rfl rfl)
theorem dX4_drawWay_82 : decode cX4_drawWay 82 = .ok (.iaload, 1) := dk_46 (dk_at dksX4_drawWay_3 10 rfl rfl)
theorem dX4_drawWay_83 : decode cX4_drawWay 83 = .ok (.iconst 2, 1) := dk_5 (dk_at dksX4_drawWay_3 11 rfl rfl)
theorem dX4_drawWay_84 : decode cX4_drawWay 84 = .ok (.if_icmp .le 12, 3) := dk_164 0 12 (dk_at dksX4_drawWay_3 12 rfl rfl)
theorem dX4_drawWay_87 : decode cX4_drawWay 87 = .ok (.aload_n 0, 1) := dk_42 (dk_at dksX4_drawWay_3 15 rfl rfl)
theorem dX4_drawWay_88 : decode cX4_drawWay 88 = .ok (.bipush 6, 2) := dk_16 6 (dk_at dksX4_drawWay_3 16 rfl rfl)
theorem dX4_drawWay_90 : decode cX4_drawWay 90 = .ok (.invokevirtual 328, 3) := dk_182 1 72 (dk_at dksX4_drawWay_3 18 rfl rfl)
theorem dX4_drawWay_93 : decode cX4_drawWay 93 = .ok (.goto 4, 3) := dk_167 0 4 (dk_at dksX4_drawWay_3 21 rfl rfl)
theorem dX4_drawWay_96 : decode cX4_drawWay 96 = .ok (.iconst (-1), 1) := dk_2 (dk_at dksX4_drawWay_4 0 rfl rfl)
theorem dX4_drawWay_97 : decode cX4_drawWay 97 = .ok (.invokevirtual 331, 3) := dk_182 1 75 (dk_at dksX4_drawWay_4 1 rfl rfl)
theorem dX4_drawWay_100 : decode cX4_drawWay 100 = .ok (.goto 75, 3) := dk_167 0 75 (dk_at dksX4_drawWay_4 4 rfl rfl)
theorem dX4_drawWay_103 : decode cX4_drawWay 103 = .ok (.iload_n 1, 1) := dk_27 (dk_at dksX4_drawWay_4 7 rfl rfl)
theorem dX4_drawWay_104 : decode cX4_drawWay 104 = .ok (.bipush 6, 2) := dk_16 6 (dk_at dksX4_drawWay_4 8 rfl rfl)
theorem dX4_drawWay_106 : decode cX4_drawWay 106 = .ok (.if_icmp .ne 15, 3) := dk_160 0 15 (dk_at dksX4_drawWay_4 10 rfl rfl)
theorem dX4_drawWay_109 : decode cX4_drawWay 109 = .ok (.aload_n 0, 1) := dk_42 (dk_at dksX4_drawWay_4 13 rfl rfl)
theorem dX4_drawWay_110 : decode cX4_drawWay 110 = .ok (.iconst 2, 1) := dk_5 (dk_at dksX4_drawWay_4 14 rfl rfl)
theorem dX4_drawWay_111 : decode cX4_drawWay 111 = .ok (.iload_n 2, 1) := dk_28 (dk_at dksX4_drawWay_4 15 rfl rfl)
theorem dX4_drawWay_112 : decode cX4_drawWay 112 = .ok (.iconst 0, 1) := dk_3 (dk_at dksX4_drawWay_4 16 rfl rfl)
theorem dX4_drawWay_113 : decode cX4_drawWay 113 = .ok (.iconst 0, 1) := dk_3 (dk_at dksX4_drawWay_4 17 rfl rfl)
theorem dX4_drawWay_114 : decode cX4_drawWay 114 = .ok (.iconst 0, 1) := dk_3 (dk_at dksX4_drawWay_4 18 rfl rfl)
theorem dX4_drawWay_115 : decode cX4_drawWay 115 = .ok (.invokevirtual 331, 3) := dk_182 1 75 (dk_at dksX4_drawWay_4 19 rfl rfl)
theorem dX4_drawWay_118 : decode cX4_drawWay 118 = .ok (.goto 57, 3) := dk_167 0 57 (dk_at dksX4_drawWay_5 0 rfl rfl)
theorem dX4_drawWay_121 : decode cX4_drawWay 121 = .ok (.aload_n 0, 1) := dk_42 (dk_at dksX4_drawWay_5 3 rfl rfl)
theorem dX4_drawWay_122 : decode cX4_drawWay 122 = .ok (.bipush 12, 2) := dk_16 12 (dk_at dksX4_drawWay_5 4 rfl rfl)
theorem dX4_drawWay_124 : decode cX4_drawWay 124 = .ok (.invokevirtual 328, 3) := dk_182 1 72 (dk_at dksX4_drawWay_5 6 rfl rfl)
theorem dX4_drawWay_127 : decode cX4_drawWay 127 = .ok (.istore_n 3, 1) := dk_62 (dk_at dksX4_drawWay_5 9 rfl rfl)
theorem dX4_drawWay_128 : decode cX4_drawWay 128 = .ok (.iload_n 3, 1) := dk_29 (dk_at dksX4_drawWay_5 10 rfl rfl)
theorem dX4_drawWay_129 : decode cX4_drawWay 129 = .ok (.aload_n 0, 1) := dk_42 (dk_at dksX4_drawWay_5 11 rfl rfl)
theorem dX4_drawWay_130 : decode cX4_drawWay 130 = .ok (.iload_n 2, 1) := dk_28 (dk_at dksX4_drawWay_5 12 rfl rfl)
theorem dX4_drawWay_131 : decode cX4_drawWay 131 = .ok (.invokevirtual 186, 3) := dk_182 0 186 (dk_at dksX4_drawWay_5 13 rfl rfl)
theorem dX4_drawWay_134 : decode cX4_drawWay 134 = .ok (.if_icmp .ge 41, 3) := dk_162 0 41 (dk_at dksX4_drawWay_5 16 rfl rfl)
theorem dX4_drawWay_137 : decode cX4_drawWay 137 = .ok (.iload_n 2, 1) := dk_28 (dk_at dksX4_drawWay_5 19 rfl rfl)
theorem dX4_drawWay_138 : decode cX4_drawWay 138 = .ok (.iload_n 3, 1) := dk_29 (dk_at dksX4_drawWay_5 20 rfl rfl)
theorem dX4_drawWay_139 : decode cX4_drawWay 139 = .ok (.invokestatic 182, 3) := dk_184 0 182 (dk_at dksX4_drawWay_5 21 rfl rfl)
theorem dX4_drawWay_142 : decode cX4_drawWay 142 = .ok (.istore 4, 2) := dk_54 4 (dk_at dksX4_drawWay_6 0 rfl rfl)
theorem dX4_drawWay_144 : decode cX4_drawWay 144 = .ok (.aload_n 0, 1) := dk_42 (dk_at dksX4_drawWay_6 2 rfl rfl)
theorem dX4_drawWay_145 : decode cX4_drawWay 145 = .ok (.iconst 1, 1) := dk_4 (dk_at dksX4_drawWay_6 3 rfl rfl)
theorem dX4_drawWay_146 : decode cX4_drawWay 146 = .ok (.iload_n 2, 1) := dk_28 (dk_at dksX4_drawWay_6 4 rfl rfl)
theorem dX4_drawWay_147 : decode cX4_drawWay 147 = .ok (.aload_n 0, 1) := dk_42 (dk_at dksX4_drawWay_6 5 rfl rfl)
theorem dX4_drawWay_148 : decode cX4_drawWay 148 = .ok (.getfield 31, 3) := dk_180 0 31 (dk_at dksX4_drawWay_6 6 rfl rfl)
theorem dX4_drawWay_151 : decode cX4_drawWay 151 = .ok (.iload 4, 2) := dk_21 4 (dk_at dksX4_drawWay_6 9 rfl rfl)
theorem dX4_drawWay_153 : decode cX4_drawWay 153 = .ok (.iaload, 1) := dk_46 (dk_at dksX4_drawWay_6 11 rfl rfl)
theorem dX4_drawWay_154 : decode cX4_drawWay 154 = .ok (.aload_n 0, 1) := dk_42 (dk_at dksX4_drawWay_6 12 rfl rfl)
theorem dX4_drawWay_155 : decode cX4_drawWay 155 = .ok (.getfield 31, 3) := dk_180 0 31 (dk_at dksX4_drawWay_6 13 rfl rfl)
theorem dX4_drawWay_158 : decode cX4_drawWay 158 = .ok (.iload 4, 2) := dk_21 4 (dk_at dksX4_drawWay_6 16 rfl rfl)
theorem dX4_drawWay_160 : decode cX4_drawWay 160 = .ok (.iconst 1, 1) := dk_4 (dk_at dksX4_drawWay_6 18 rfl rfl)
theorem dX4_drawWay_161 : decode cX4_drawWay 161 = .ok (.iadd, 1) := dk_96 (dk_at dksX4_drawWay_6 19 rfl rfl)
theorem dX4_drawWay_162 : decode cX4_drawWay 162 = .ok (.iaload, 1) := dk_46 (dk_at dksX4_drawWay_6 20 rfl rfl)
theorem dX4_drawWay_163 : decode cX4_drawWay 163 = .ok (.aload_n 0, 1) := dk_42 (dk_at dksX4_drawWay_6 21 rfl rfl)
theorem dX4_drawWay_164 : decode cX4_drawWay 164 = .ok (.getfield 31, 3) := dk_180 0 31 (dk_at dksX4_drawWay_7 0 rfl rfl)
theorem dX4_drawWay_167 : decode cX4_drawWay 167 = .ok (.iload 4, 2) := dk_21 4 (dk_at dksX4_drawWay_7 3 rfl rfl)
theorem dX4_drawWay_169 : decode cX4_drawWay 169 = .ok (.iconst 2, 1) := dk_5 (dk_at dksX4_drawWay_7 5 rfl rfl)
theorem dX4_drawWay_170 : decode cX4_drawWay 170 = .ok (.iadd, 1) := dk_96 (dk_at dksX4_drawWay_7 6 rfl rfl)
theorem dX4_drawWay_171 : decode cX4_drawWay 171 = .ok (.iaload, 1) := dk_46 (dk_at dksX4_drawWay_7 7 rfl rfl)
theorem dX4_drawWay_172 : decode cX4_drawWay 172 = .ok (.invokevirtual 331, 3) := dk_182 1 75 (dk_at dksX4_drawWay_7 8 rfl rfl)
theorem dX4_drawWay_175 : decode cX4_drawWay 175 = .ok (.return_, 1) := dk_177 (dk_at dksX4_drawWay_7 11 rfl rfl)
abbrev cX4_draw : ByteArray := prog_13_method_71_code
def yX4_draw : MethodName := ⟨RX4, "draw", "(I)I"⟩
def dkwX4_draw_1 : List UInt8 := [133, 113, 136, 172]
abbrev dktX4_draw_1 : List UInt8 := dkwX4_draw_1 ++ []
def dkwX4_draw_0 : List UInt8 := [42, 42, 180, 1, 64, 20, 1, 68, 105, 20, 1, 70, 97, 181, 1, 64, 42, 180, 1, 64, 16, 33, 125, 27]
abbrev dktX4_draw_0 : List UInt8 := dkwX4_draw_0 ++ dktX4_draw_1
theorem dksX4_draw_0 : cX4_draw.data.toList.drop 0 = dktX4_draw_0 := by decide +kernel
theorem dksX4_draw_1 : cX4_draw.data.toList.drop 24 = dktX4_draw_1 := dk_seg dksX4_draw_0 24 rfl rfl
theorem dX4_draw_0 : decode cX4_draw 0 = .ok (.aload_n 0, 1) := dk_42 (dk_at dksX4_draw_0 0 rfl rfl)
theorem dX4_draw_1 : decode cX4_draw 1 = .ok (.aload_n 0, 1) := dk_42 (dk_at dksX4_draw_0 1 rfl rfl)
theorem dX4_draw_2 : decode cX4_draw 2 = .ok (.getfield 320, 3) := dk_180 1 64 (dk_at dksX4_draw_0 2 rfl rfl)
theorem dX4_draw_5 : decode cX4_draw 5 = .ok (.ldc2_w 324, 3) := dk_20 1 68 (dk_at dksX4_draw_0 5 rfl rfl)
theorem dX4_draw_8 : decode cX4_draw 8 = .ok (.lmul, 1) := dk_105 (dk_at dksX4_draw_0 8 rfl rfl)
theorem dX4_draw_9 : decode cX4_draw 9 = .ok (.ldc2_w 326, 3) := dk_20 1 70 (dk_at dksX4_draw_0 9 rfl rfl)
theorem dX4_draw_12 : decode cX4_draw 12 = .ok (.ladd, 1) := dk_97 (dk_at dksX4_draw_0 12 rfl rfl)
theorem dX4_draw_13 : decode cX4_draw 13 = .ok (.putfield 320, 3) := dk_181 1 64 (dk_at dksX4_draw_0 13 rfl rfl)
theorem dX4_draw_16 : decode cX4_draw 16 = .ok (.aload_n 0, 1) := dk_42 (dk_at dksX4_draw_0 16 rfl rfl)
theorem dX4_draw_17 : decode cX4_draw 17 = .ok (.getfield 320, 3) := dk_180 1 64 (dk_at dksX4_draw_0 17 rfl rfl)
theorem dX4_draw_20 : decode cX4_draw 20 = .ok (.bipush 33, 2) := dk_16 33 (dk_at dksX4_draw_0 20 rfl rfl)
theorem dX4_draw_22 : decode cX4_draw 22 = .ok (.lushr, 1) := dk_125 (dk_at dksX4_draw_0 22 rfl rfl)
theorem dX4_draw_23 : decode cX4_draw 23 = .ok (.iload_n 1, 1) := dk_27 (dk_at dksX4_draw_0 23 rfl rfl)
theorem dX4_draw_24 : decode cX4_draw 24 = .ok (.i2l, 1) := dk_133 (dk_at dksX4_draw_1 0 rfl rfl)
theorem dX4_draw_25 : decode cX4_draw 25 = .ok (.lrem, 1) := dk_113 (dk_at dksX4_draw_1 1 rfl rfl)
theorem dX4_draw_26 : decode cX4_draw 26 = .ok (.l2i, 1) := dk_136 (dk_at dksX4_draw_1 2 rfl rfl)
theorem dX4_draw_27 : decode cX4_draw 27 = .ok (.ireturn, 1) := dk_172 (dk_at dksX4_draw_1 3 rfl rfl)
abbrev cX4_tryOne : ByteArray := prog_13_method_72_code
def yX4_tryOne : MethodName := ⟨RX4, "tryOne", "(IIIII)V"⟩
def dkwX4_tryOne_1 : List UInt8 := [182, 1, 58, 87, 177]
abbrev dktX4_tryOne_1 : List UInt8 := dkwX4_tryOne_1 ++ []
def dkwX4_tryOne_0 : List UInt8 := [42, 27, 28, 29, 21, 4, 21, 5, 182, 1, 55, 2, 160, 0, 15, 42, 27, 28, 29, 21, 4, 21, 5]
abbrev dktX4_tryOne_0 : List UInt8 := dkwX4_tryOne_0 ++ dktX4_tryOne_1
theorem dksX4_tryOne_0 : cX4_tryOne.data.toList.drop 0 = dktX4_tryOne_0 := by decide +kernel
theorem dksX4_tryOne_1 : cX4_tryOne.data.toList.drop 23 = dktX4_tryOne_1 := dk_seg dksX4_tryOne_0 23 rfl rfl
theorem dX4_tryOne_0 : decode cX4_tryOne 0 = .ok (.aload_n 0, 1) := dk_42 (dk_at dksX4_tryOne_0 0 rfl rfl)
theorem dX4_tryOne_1 : decode cX4_tryOne 1 = .ok (.iload_n 1, 1) := dk_27 (dk_at dksX4_tryOne_0 1 rfl rfl)
theorem dX4_tryOne_2 : decode cX4_tryOne 2 = .ok (.iload_n 2, 1) := dk_28 (dk_at dksX4_tryOne_0 2 rfl rfl)
theorem dX4_tryOne_3 : decode cX4_tryOne 3 = .ok (.iload_n 3, 1) := dk_29 (dk_at dksX4_tryOne_0 3 rfl rfl)
theorem dX4_tryOne_4 : decode cX4_tryOne 4 = .ok (.iload 4, 2) := dk_21 4 (dk_at dksX4_tryOne_0 4 rfl rfl)
theorem dX4_tryOne_6 : decode cX4_tryOne 6 = .ok (.iload 5, 2) := dk_21 5 (dk_at dksX4_tryOne_0 6 rfl rfl)
theorem dX4_tryOne_8 : decode cX4_tryOne 8 = .ok (.invokevirtual 311, 3) := dk_182 1 55 (dk_at dksX4_tryOne_0 8 rfl rfl)
theorem dX4_tryOne_11 : decode cX4_tryOne 11 = .ok (.iconst (-1), 1) := dk_2 (dk_at dksX4_tryOne_0 11 rfl rfl)
theorem dX4_tryOne_12 : decode cX4_tryOne 12 = .ok (.if_icmp .ne 15, 3) := dk_160 0 15 (dk_at dksX4_tryOne_0 12 rfl rfl)
theorem dX4_tryOne_15 : decode cX4_tryOne 15 = .ok (.aload_n 0, 1) := dk_42 (dk_at dksX4_tryOne_0 15 rfl rfl)
theorem dX4_tryOne_16 : decode cX4_tryOne 16 = .ok (.iload_n 1, 1) := dk_27 (dk_at dksX4_tryOne_0 16 rfl rfl)
theorem dX4_tryOne_17 : decode cX4_tryOne 17 = .ok (.iload_n 2, 1) := dk_28 (dk_at dksX4_tryOne_0 17 rfl rfl)
theorem dX4_tryOne_18 : decode cX4_tryOne 18 = .ok (.iload_n 3, 1) := dk_29 (dk_at dksX4_tryOne_0 18 rfl rfl)
theorem dX4_tryOne_19 : decode cX4_tryOne 19 = .ok (.iload 4, 2) := dk_21 4 (dk_at dksX4_tryOne_0 19 rfl rfl)
theorem dX4_tryOne_21 : decode cX4_tryOne 21 = .ok (.iload 5, 2) := dk_21 5 (dk_at dksX4_tryOne_0 21 rfl rfl)
theorem dX4_tryOne_23 : decode cX4_tryOne 23 = .ok (.invokevirtual 314, 3) := dk_182 1 58 (dk_at dksX4_tryOne_1 0 rfl rfl)
theorem dX4_tryOne_26 : decode cX4_tryOne 26 = .ok (.pop, 1) := dk_87 (dk_at dksX4_tryOne_1 3 rfl rfl)
theorem dX4_tryOne_27 : decode cX4_tryOne 27 = .ok (.return_, 1) := dk_177 (dk_at dksX4_tryOne_1 4 rfl rfl)
abbrev cX4_status : ByteArray := prog_13_method_75_code
def yX4_status : MethodName := ⟨RX4, "status", "(I)I"⟩
def dkwX4_status_0 : List UInt8 := [27, 3, 6, 184, 0, 104, 153, 0, 12, 42, 180, 0, 34, 27, 46, 167, 0, 4, 2, 172]
abbrev dktX4_status_0 : List UInt8 := dkwX4_status_0 ++ []
theorem dksX4_status_0 : cX4_status.data.toList.drop 0 = dktX4_status_0 := by decide +kernel
theorem dX4_status_0 : decode cX4_status 0 = .ok (.iload_n 1, 1) := dk_27 (dk_at dksX4_status_0 0 rfl rfl)
theorem dX4_status_1 : decode cX4_status 1 = .ok (.iconst 0, 1) := dk_3 (dk_at dksX4_status_0 1 rfl rfl)
theorem dX4_status_2 : decode cX4_status 2 = .ok (.iconst 3, 1) := dk_6 (dk_at dksX4_status_0 2 rfl rfl)
theorem dX4_status_3 : decode cX4_status 3 = .ok (.invokestatic 104, 3) := dk_184 0 104 (dk_at dksX4_status_0 3 rfl rfl)
theorem dX4_status_6 : decode cX4_status 6 = .ok (.ifCond .eq 12, 3) := dk_153 0 12 (dk_at dksX4_status_0 6 rfl rfl)
theorem dX4_status_9 : decode cX4_status 9 = .ok (.aload_n 0, 1) := dk_42 (dk_at dksX4_status_0 9 rfl rfl)
theorem dX4_status_10 : decode cX4_status 10 = .ok (.getfield 34, 3) := dk_180 0 34 (dk_at dksX4_status_0 10 rfl rfl)
theorem dX4_status_13 : decode cX4_status 13 = .ok (.iload_n 1, 1) := dk_27 (dk_at dksX4_status_0 13 rfl rfl)
theorem dX4_status_14 : decode cX4_status 14 = .ok (.iaload, 1) := dk_46 (dk_at dksX4_status_0 14 rfl rfl)
theorem dX4_status_15 : decode cX4_status 15 = .ok (.goto 4, 3) := dk_167 0 4 (dk_at dksX4_status_0 15 rfl rfl)
theorem dX4_status_18 : decode cX4_status 18 = .ok (.iconst (-1), 1) := dk_2 (dk_at dksX4_status_0 18 rfl rfl)
theorem dX4_status_19 : decode cX4_status 19 = .ok (.ireturn, 1) := dk_172 (dk_at dksX4_status_0 19 rfl rfl)
abbrev cX4_undo : ByteArray := prog_13_method_76_code
def yX4_undo : MethodName := ⟨RX4, "undo", "()I"⟩
def dkwX4_undo_2 : List UInt8 := [96, 46, 79, 132, 1, 1, 167, 255, 225, 42, 180, 0, 204, 172]
abbrev dktX4_undo_2 : List UInt8 := dkwX4_undo_2 ++ []
def dkwX4_undo_1 : List UInt8 := [17, 1, 75, 162, 0, 30, 42, 180, 0, 31, 27, 42, 180, 0, 65, 17, 1, 75, 42, 180, 0, 204, 104, 27]
abbrev dktX4_undo_1 : List UInt8 := dkwX4_undo_1 ++ dktX4_undo_2
def dkwX4_undo_0 : List UInt8 := [42, 180, 0, 204, 154, 0, 5, 2, 172, 42, 89, 180, 0, 204, 4, 100, 181, 0, 204, 3, 60, 27]
abbrev dktX4_undo_0 : List UInt8 := dkwX4_undo_0 ++ dktX4_undo_1
theorem dksX4_undo_0 : cX4_undo.data.toList.drop 0 = dktX4_undo_0 := by decide +kernel
theorem dksX4_undo_1 : cX4_undo.data.toList.drop 22 = dktX4_undo_1 := dk_seg dksX4_undo_0 22 rfl rfl
theorem dksX4_undo_2 : cX4_undo.data.toList.drop 46 = dktX4_undo_2 := dk_seg dksX4_undo_1 24 rfl rfl
theorem dX4_undo_0 : decode cX4_undo 0 = .ok (.aload_n 0, 1) := dk_42 (dk_at dksX4_undo_0 0 rfl rfl)
theorem dX4_undo_1 : decode cX4_undo 1 = .ok (.getfield 204, 3) := dk_180 0 204 (dk_at dksX4_undo_0 1 rfl rfl)
theorem dX4_undo_4 : decode cX4_undo 4 = .ok (.ifCond .ne 5, 3) := dk_154 0 5 (dk_at dksX4_undo_0 4 rfl rfl)
theorem dX4_undo_7 : decode cX4_undo 7 = .ok (.iconst (-1), 1) := dk_2 (dk_at dksX4_undo_0 7 rfl rfl)
theorem dX4_undo_8 : decode cX4_undo 8 = .ok (.ireturn, 1) := dk_172 (dk_at dksX4_undo_0 8 rfl rfl)
theorem dX4_undo_9 : decode cX4_undo 9 = .ok (.aload_n 0, 1) := dk_42 (dk_at dksX4_undo_0 9 rfl rfl)
theorem dX4_undo_10 : decode cX4_undo 10 = .ok (.dup, 1) := dk_89 (dk_at dksX4_undo_0 10 rfl rfl)
theorem dX4_undo_11 : decode cX4_undo 11 = .ok (.getfield 204, 3) := dk_180 0 204 (dk_at dksX4_undo_0 11 rfl rfl)
theorem dX4_undo_14 : decode cX4_undo 14 = .ok (.iconst 1, 1) := dk_4 (dk_at dksX4_undo_0 14 rfl rfl)
theorem dX4_undo_15 : decode cX4_undo 15 = .ok (.isub, 1) := dk_100 (dk_at dksX4_undo_0 15 rfl rfl)
theorem dX4_undo_16 : decode cX4_undo 16 = .ok (.putfield 204, 3) := dk_181 0 204 (dk_at dksX4_undo_0 16 rfl rfl)
theorem dX4_undo_19 : decode cX4_undo 19 = .ok (.iconst 0, 1) := dk_3 (dk_at dksX4_undo_0 19 rfl rfl)
theorem dX4_undo_20 : decode cX4_undo 20 = .ok (.istore_n 1, 1) := dk_60 (dk_at dksX4_undo_0 20 rfl rfl)
theorem dX4_undo_21 : decode cX4_undo 21 = .ok (.iload_n 1, 1) := dk_27 (dk_at dksX4_undo_0 21 rfl rfl)
theorem dX4_undo_22 : decode cX4_undo 22 = .ok (.sipush 331, 3) := dk_17 1 75 (dk_at dksX4_undo_1 0 rfl rfl)
theorem dX4_undo_25 : decode cX4_undo 25 = .ok (.if_icmp .ge 30, 3) := dk_162 0 30 (dk_at dksX4_undo_1 3 rfl rfl)
theorem dX4_undo_28 : decode cX4_undo 28 = .ok (.aload_n 0, 1) := dk_42 (dk_at dksX4_undo_1 6 rfl rfl)
theorem dX4_undo_29 : decode cX4_undo 29 = .ok (.getfield 31, 3) := dk_180 0 31 (dk_at dksX4_undo_1 7 rfl rfl)
theorem dX4_undo_32 : decode cX4_undo 32 = .ok (.iload_n 1, 1) := dk_27 (dk_at dksX4_undo_1 10 rfl rfl)
theorem dX4_undo_33 : decode cX4_undo 33 = .ok (.aload_n 0, 1) := dk_42 (dk_at dksX4_undo_1 11 rfl rfl)
theorem dX4_undo_34 : decode cX4_undo 34 = .ok (.getfield 65, 3) := dk_180 0 65 (dk_at dksX4_undo_1 12 rfl rfl)
theorem dX4_undo_37 : decode cX4_undo 37 = .ok (.sipush 331, 3) := dk_17 1 75 (dk_at dksX4_undo_1 15 rfl rfl)
theorem dX4_undo_40 : decode cX4_undo 40 = .ok (.aload_n 0, 1) := dk_42 (dk_at dksX4_undo_1 18 rfl rfl)
theorem dX4_undo_41 : decode cX4_undo 41 = .ok (.getfield 204, 3) := dk_180 0 204 (dk_at dksX4_undo_1 19 rfl rfl)
theorem dX4_undo_44 : decode cX4_undo 44 = .ok (.imul, 1) := dk_104 (dk_at dksX4_undo_1 22 rfl rfl)
theorem dX4_undo_45 : decode cX4_undo 45 = .ok (.iload_n 1, 1) := dk_27 (dk_at dksX4_undo_1 23 rfl rfl)
theorem dX4_undo_46 : decode cX4_undo 46 = .ok (.iadd, 1) := dk_96 (dk_at dksX4_undo_2 0 rfl rfl)
theorem dX4_undo_47 : decode cX4_undo 47 = .ok (.iaload, 1) := dk_46 (dk_at dksX4_undo_2 1 rfl rfl)
theorem dX4_undo_48 : decode cX4_undo 48 = .ok (.iastore, 1) := dk_79 (dk_at dksX4_undo_2 2 rfl rfl)
theorem dX4_undo_49 : decode cX4_undo 49 = .ok (.iinc 1 1, 3) := dk_132 1 1 (dk_at dksX4_undo_2 3 rfl rfl)
theorem dX4_undo_52 : decode cX4_undo 52 = .ok (.goto (-31), 3) := dk_167 255 225 (dk_at dksX4_undo_2 6 rfl rfl)
theorem dX4_undo_55 : decode cX4_undo 55 = .ok (.aload_n 0, 1) := dk_42 (dk_at dksX4_undo_2 9 rfl rfl)
theorem dX4_undo_56 : decode cX4_undo 56 = .ok (.getfield 204, 3) := dk_180 0 204 (dk_at dksX4_undo_2 10 rfl rfl)
theorem dX4_undo_59 : decode cX4_undo 59 = .ok (.ireturn, 1) := dk_172 (dk_at dksX4_undo_2 13 rfl rfl)
abbrev cX4_log : ByteArray := prog_13_method_77_code
def yX4_log : MethodName := ⟨RX4, "log", "(II)I"⟩
def dkwX4_log_2 : List UInt8 := [96, 28, 96, 46, 167, 0, 6, 19, 1, 82, 172]
abbrev dktX4_log_2 : List UInt8 := dkwX4_log_2 ++ []
def dkwX4_log_1 : List UInt8 := [153, 0, 31, 42, 180, 0, 31, 17, 0, 151, 6, 42, 180, 0, 31, 17, 0, 150, 46, 4, 100, 27, 100, 104]
abbrev dktX4_log_1 : List UInt8 := dkwX4_log_1 ++ dktX4_log_2
def dkwX4_log_0 : List UInt8 := [27, 3, 42, 180, 0, 31, 17, 0, 150, 46, 4, 100, 184, 0, 104, 153, 0, 40, 28, 3, 5, 184, 0, 104]
abbrev dktX4_log_0 : List UInt8 := dkwX4_log_0 ++ dktX4_log_1
theorem dksX4_log_0 : cX4_log.data.toList.drop 0 = dktX4_log_0 := by decide +kernel
theorem dksX4_log_1 : cX4_log.data.toList.drop 24 = dktX4_log_1 := dk_seg dksX4_log_0 24 rfl rfl
theorem dksX4_log_2 : cX4_log.data.toList.drop 48 = dktX4_log_2 := dk_seg dksX4_log_1 24 rfl rfl
theorem dX4_log_0 : decode cX4_log 0 = .ok (.iload_n 1, 1) := dk_27 (dk_at dksX4_log_0 0 rfl rfl)
theorem dX4_log_1 : decode cX4_log 1 = .ok (.iconst 0, 1) := dk_3 (dk_at dksX4_log_0 1 rfl rfl)
theorem dX4_log_2 : decode cX4_log 2 = .ok (.aload_n 0, 1) := dk_42 (dk_at dksX4_log_0 2 rfl rfl)
theorem dX4_log_3 : decode cX4_log 3 = .ok (.getfield 31, 3) := dk_180 0 31 (dk_at dksX4_log_0 3 rfl rfl)
theorem dX4_log_6 : decode cX4_log 6 = .ok (.sipush 150, 3) := dk_17 0 150 (dk_at dksX4_log_0 6 rfl rfl)
theorem dX4_log_9 : decode cX4_log 9 = .ok (.iaload, 1) := dk_46 (dk_at dksX4_log_0 9 rfl rfl)
theorem dX4_log_10 : decode cX4_log 10 = .ok (.iconst 1, 1) := dk_4 (dk_at dksX4_log_0 10 rfl rfl)
theorem dX4_log_11 : decode cX4_log 11 = .ok (.isub, 1) := dk_100 (dk_at dksX4_log_0 11 rfl rfl)
theorem dX4_log_12 : decode cX4_log 12 = .ok (.invokestatic 104, 3) := dk_184 0 104 (dk_at dksX4_log_0 12 rfl rfl)
theorem dX4_log_15 : decode cX4_log 15 = .ok (.ifCond .eq 40, 3) := dk_153 0 40 (dk_at dksX4_log_0 15 rfl rfl)
theorem dX4_log_18 : decode cX4_log 18 = .ok (.iload_n 2, 1) := dk_28 (dk_at dksX4_log_0 18 rfl rfl)
theorem dX4_log_19 : decode cX4_log 19 = .ok (.iconst 0, 1) := dk_3 (dk_at dksX4_log_0 19 rfl rfl)
theorem dX4_log_20 : decode cX4_log 20 = .ok (.iconst 2, 1) := dk_5 (dk_at dksX4_log_0 20 rfl rfl)
theorem dX4_log_21 : decode cX4_log 21 = .ok (.invokestatic 104, 3) := dk_184 0 104 (dk_at dksX4_log_0 21 rfl rfl)
theorem dX4_log_24 : decode cX4_log 24 = .ok (.ifCond .eq 31, 3) := dk_153 0 31 (dk_at dksX4_log_1 0 rfl rfl)
theorem dX4_log_27 : decode cX4_log 27 = .ok (.aload_n 0, 1) := dk_42 (dk_at dksX4_log_1 3 rfl rfl)
theorem dX4_log_28 : decode cX4_log 28 = .ok (.getfield 31, 3) := dk_180 0 31 (dk_at dksX4_log_1 4 rfl rfl)
theorem dX4_log_31 : decode cX4_log 31 = .ok (.sipush 151, 3) := dk_17 0 151 (dk_at dksX4_log_1 7 rfl rfl)
theorem dX4_log_34 : decode cX4_log 34 = .ok (.iconst 3, 1) := dk_6 (dk_at dksX4_log_1 10 rfl rfl)
theorem dX4_log_35 : decode cX4_log 35 = .ok (.aload_n 0, 1) := dk_42 (dk_at dksX4_log_1 11 rfl rfl)
theorem dX4_log_36 : decode cX4_log 36 = .ok (.getfield 31, 3) := dk_180 0 31 (dk_at dksX4_log_1 12 rfl rfl)
theorem dX4_log_39 : decode cX4_log 39 = .ok (.sipush 150, 3) := dk_17 0 150 (dk_at dksX4_log_1 15 rfl rfl)
theorem dX4_log_42 : decode cX4_log 42 = .ok (.iaload, 1) := dk_46 (dk_at dksX4_log_1 18 rfl rfl)
theorem dX4_log_43 : decode cX4_log 43 = .ok (.iconst 1, 1) := dk_4 (dk_at dksX4_log_1 19 rfl rfl)
theorem dX4_log_44 : decode cX4_log 44 = .ok (.isub, 1) := dk_100 (dk_at dksX4_log_1 20 rfl rfl)
theorem dX4_log_45 : decode cX4_log 45 = .ok (.iload_n 1, 1) := dk_27 (dk_at dksX4_log_1 21 rfl rfl)
theorem dX4_log_46 : decode cX4_log 46 = .ok (.isub, 1) := dk_100 (dk_at dksX4_log_1 22 rfl rfl)
theorem dX4_log_47 : decode cX4_log 47 = .ok (.imul, 1) := dk_104 (dk_at dksX4_log_1 23 rfl rfl)
theorem dX4_log_48 : decode cX4_log 48 = .ok (.iadd, 1) := dk_96 (dk_at dksX4_log_2 0 rfl rfl)
theorem dX4_log_49 : decode cX4_log 49 = .ok (.iload_n 2, 1) := dk_28 (dk_at dksX4_log_2 1 rfl rfl)
theorem dX4_log_50 : decode cX4_log 50 = .ok (.iadd, 1) := dk_96 (dk_at dksX4_log_2 2 rfl rfl)
theorem dX4_log_51 : decode cX4_log 51 = .ok (.iaload, 1) := dk_46 (dk_at dksX4_log_2 3 rfl rfl)
theorem dX4_log_52 : decode cX4_log 52 = .ok (.goto 6, 3) := dk_167 0 6 (dk_at dksX4_log_2 4 rfl rfl)
theorem dX4_log_55 : decode cX4_log 55 = .ok (.ldc_w 338, 3) := dk_19 1 82 (dk_at dksX4_log_2 7 rfl rfl)
theorem dX4_log_58 : decode cX4_log 58 = .ok (.ireturn, 1) := dk_172 (dk_at dksX4_log_2 10 rfl rfl)
abbrev cX4_rule : ByteArray := prog_13_method_79_code
def yX4_rule : MethodName := ⟨RX4, "rule", "(I)I"⟩
def dkwX4_rule_3 : List UInt8 := [42, 182, 1, 83, 172]
abbrev dktX4_rule_3 : List UInt8 := dkwX4_rule_3 ++ []
def dkwX4_rule_2 : List UInt8 := [42, 180, 0, 173, 172, 42, 180, 0, 31, 3, 46, 172, 42, 180, 0, 31, 4, 46, 172, 42, 182, 0, 220, 172]
abbrev dktX4_rule_2 : List UInt8 := dkwX4_rule_2 ++ dktX4_rule_3
def dkwX4_rule_1 : List UInt8 := [170, 0, 0, 0, 53, 0, 0, 0, 0, 0, 0, 0, 3, 0, 0, 0, 29, 0, 0, 0, 34, 0, 0, 0, 41, 0, 0, 0, 48]
abbrev dktX4_rule_1 : List UInt8 := dkwX4_rule_1 ++ dktX4_rule_2
def dkwX4_rule_0 : List UInt8 := [42, 182, 1, 21, 153, 0, 12, 27, 3, 7, 184, 0, 104, 154, 0, 5, 2, 172, 27]
abbrev dktX4_rule_0 : List UInt8 := dkwX4_rule_0 ++ dktX4_rule_1
theorem dksX4_rule_0 : cX4_rule.data.toList.drop 0 = dktX4_rule_0 := by decide +kernel
theorem dksX4_rule_1 : cX4_rule.data.toList.drop 19 = dktX4_rule_1 := dk_seg dksX4_rule_0 19 rfl rfl
theorem dksX4_rule_2 : cX4_rule.data.toList.drop 48 = dktX4_rule_2 := dk_seg dksX4_rule_1 29 rfl rfl
theorem dksX4_rule_3 : cX4_rule.data.toList.drop 72 = dktX4_rule_3 := dk_seg dksX4_rule_2 24 rfl rfl
theorem dX4_rule_0 : decode cX4_rule 0 = .ok (.aload_n 0, 1) := dk_42 (dk_at dksX4_rule_0 0 rfl rfl)
theorem dX4_rule_1 : decode cX4_rule 1 = .ok (.invokevirtual 277, 3) := dk_182 1 21 (dk_at dksX4_rule_0 1 rfl rfl)
theorem dX4_rule_4 : decode cX4_rule 4 = .ok (.ifCond .eq 12, 3) := dk_153 0 12 (dk_at dksX4_rule_0 4 rfl rfl)
theorem dX4_rule_7 : decode cX4_rule 7 = .ok (.iload_n 1, 1) := dk_27 (dk_at dksX4_rule_0 7 rfl rfl)
theorem dX4_rule_8 : decode cX4_rule 8 = .ok (.iconst 0, 1) := dk_3 (dk_at dksX4_rule_0 8 rfl rfl)
theorem dX4_rule_9 : decode cX4_rule 9 = .ok (.iconst 4, 1) := dk_7 (dk_at dksX4_rule_0 9 rfl rfl)
theorem dX4_rule_10 : decode cX4_rule 10 = .ok (.invokestatic 104, 3) := dk_184 0 104 (dk_at dksX4_rule_0 10 rfl rfl)
theorem dX4_rule_13 : decode cX4_rule 13 = .ok (.ifCond .ne 5, 3) := dk_154 0 5 (dk_at dksX4_rule_0 13 rfl rfl)
theorem dX4_rule_16 : decode cX4_rule 16 = .ok (.iconst (-1), 1) := dk_2 (dk_at dksX4_rule_0 16 rfl rfl)
theorem dX4_rule_17 : decode cX4_rule 17 = .ok (.ireturn, 1) := dk_172 (dk_at dksX4_rule_0 17 rfl rfl)
theorem dX4_rule_18 : decode cX4_rule 18 = .ok (.iload_n 1, 1) := dk_27 (dk_at dksX4_rule_0 18 rfl rfl)
theorem dX4_rule_19 : decode cX4_rule 19 = .ok (.tableswitch 53 0 3 #[29, 34, 41, 48], 29) := by decide +kernel
theorem dX4_rule_48 : decode cX4_rule 48 = .ok (.aload_n 0, 1) := dk_42 (dk_at dksX4_rule_2 0 rfl rfl)
theorem dX4_rule_49 : decode cX4_rule 49 = .ok (.getfield 173, 3) := dk_180 0 173 (dk_at dksX4_rule_2 1 rfl rfl)
theorem dX4_rule_52 : decode cX4_rule 52 = .ok (.ireturn, 1) := dk_172 (dk_at dksX4_rule_2 4 rfl rfl)
theorem dX4_rule_53 : decode cX4_rule 53 = .ok (.aload_n 0, 1) := dk_42 (dk_at dksX4_rule_2 5 rfl rfl)
theorem dX4_rule_54 : decode cX4_rule 54 = .ok (.getfield 31, 3) := dk_180 0 31 (dk_at dksX4_rule_2 6 rfl rfl)
theorem dX4_rule_57 : decode cX4_rule 57 = .ok (.iconst 0, 1) := dk_3 (dk_at dksX4_rule_2 9 rfl rfl)
theorem dX4_rule_58 : decode cX4_rule 58 = .ok (.iaload, 1) := dk_46 (dk_at dksX4_rule_2 10 rfl rfl)
theorem dX4_rule_59 : decode cX4_rule 59 = .ok (.ireturn, 1) := dk_172 (dk_at dksX4_rule_2 11 rfl rfl)
theorem dX4_rule_60 : decode cX4_rule 60 = .ok (.aload_n 0, 1) := dk_42 (dk_at dksX4_rule_2 12 rfl rfl)
theorem dX4_rule_61 : decode cX4_rule 61 = .ok (.getfield 31, 3) := dk_180 0 31 (dk_at dksX4_rule_2 13 rfl rfl)
theorem dX4_rule_64 : decode cX4_rule 64 = .ok (.iconst 1, 1) := dk_4 (dk_at dksX4_rule_2 16 rfl rfl)
theorem dX4_rule_65 : decode cX4_rule 65 = .ok (.iaload, 1) := dk_46 (dk_at dksX4_rule_2 17 rfl rfl)
theorem dX4_rule_66 : decode cX4_rule 66 = .ok (.ireturn, 1) := dk_172 (dk_at dksX4_rule_2 18 rfl rfl)
theorem dX4_rule_67 : decode cX4_rule 67 = .ok (.aload_n 0, 1) := dk_42 (dk_at dksX4_rule_2 19 rfl rfl)
theorem dX4_rule_68 : decode cX4_rule 68 = .ok (.invokevirtual 220, 3) := dk_182 0 220 (dk_at dksX4_rule_2 20 rfl rfl)
theorem dX4_rule_71 : decode cX4_rule 71 = .ok (.ireturn, 1) := dk_172 (dk_at dksX4_rule_2 23 rfl rfl)
theorem dX4_rule_72 : decode cX4_rule 72 = .ok (.aload_n 0, 1) := dk_42 (dk_at dksX4_rule_3 0 rfl rfl)
theorem dX4_rule_73 : decode cX4_rule 73 = .ok (.invokevirtual 339, 3) := dk_182 1 83 (dk_at dksX4_rule_3 1 rfl rfl)
theorem dX4_rule_76 : decode cX4_rule 76 = .ok (.ireturn, 1) := dk_172 (dk_at dksX4_rule_3 4 rfl rfl)
abbrev cX4_rowsOfAll : ByteArray := prog_13_method_78_code
def yX4_rowsOfAll : MethodName := ⟨RX4, "rowsOfAll", "()I"⟩
def dkwX4_rowsOfAll_1 : List UInt8 := [167, 255, 237, 27, 172]
abbrev dktX4_rowsOfAll_1 : List UInt8 := dkwX4_rowsOfAll_1 ++ []
def dkwX4_rowsOfAll_0 : List UInt8 := [3, 60, 3, 61, 28, 42, 180, 0, 173, 162, 0, 17, 27, 42, 28, 182, 0, 186, 96, 60, 132, 2, 1]
abbrev dktX4_rowsOfAll_0 : List UInt8 := dkwX4_rowsOfAll_0 ++ dktX4_rowsOfAll_1
theorem dksX4_rowsOfAll_0 : cX4_rowsOfAll.data.toList.drop 0 = dktX4_rowsOfAll_0 := by decide +kernel
theorem dksX4_rowsOfAll_1 : cX4_rowsOfAll.data.toList.drop 23 = dktX4_rowsOfAll_1 := dk_seg dksX4_rowsOfAll_0 23 rfl rfl
theorem dX4_rowsOfAll_0 : decode cX4_rowsOfAll 0 = .ok (.iconst 0, 1) := dk_3 (dk_at dksX4_rowsOfAll_0 0 rfl rfl)
theorem dX4_rowsOfAll_1 : decode cX4_rowsOfAll 1 = .ok (.istore_n 1, 1) := dk_60 (dk_at dksX4_rowsOfAll_0 1 rfl rfl)
theorem dX4_rowsOfAll_2 : decode cX4_rowsOfAll 2 = .ok (.iconst 0, 1) := dk_3 (dk_at dksX4_rowsOfAll_0 2 rfl rfl)
theorem dX4_rowsOfAll_3 : decode cX4_rowsOfAll 3 = .ok (.istore_n 2, 1) := dk_61 (dk_at dksX4_rowsOfAll_0 3 rfl rfl)
theorem dX4_rowsOfAll_4 : decode cX4_rowsOfAll 4 = .ok (.iload_n 2, 1) := dk_28 (dk_at dksX4_rowsOfAll_0 4 rfl rfl)
theorem dX4_rowsOfAll_5 : decode cX4_rowsOfAll 5 = .ok (.aload_n 0, 1) := dk_42 (dk_at dksX4_rowsOfAll_0 5 rfl rfl)
theorem dX4_rowsOfAll_6 : decode cX4_rowsOfAll 6 = .ok (.getfield 173, 3) := dk_180 0 173 (dk_at dksX4_rowsOfAll_0 6 rfl rfl)
theorem dX4_rowsOfAll_9 : decode cX4_rowsOfAll 9 = .ok (.if_icmp .ge 17, 3) := dk_162 0 17 (dk_at dksX4_rowsOfAll_0 9 rfl rfl)
theorem dX4_rowsOfAll_12 : decode cX4_rowsOfAll 12 = .ok (.iload_n 1, 1) := dk_27 (dk_at dksX4_rowsOfAll_0 12 rfl rfl)
theorem dX4_rowsOfAll_13 : decode cX4_rowsOfAll 13 = .ok (.aload_n 0, 1) := dk_42 (dk_at dksX4_rowsOfAll_0 13 rfl rfl)
theorem dX4_rowsOfAll_14 : decode cX4_rowsOfAll 14 = .ok (.iload_n 2, 1) := dk_28 (dk_at dksX4_rowsOfAll_0 14 rfl rfl)
theorem dX4_rowsOfAll_15 : decode cX4_rowsOfAll 15 = .ok (.invokevirtual 186, 3) := dk_182 0 186 (dk_at dksX4_rowsOfAll_0 15 rfl rfl)
theorem dX4_rowsOfAll_18 : decode cX4_rowsOfAll 18 = .ok (.iadd, 1) := dk_96 (dk_at dksX4_rowsOfAll_0 18 rfl rfl)
theorem dX4_rowsOfAll_19 : decode cX4_rowsOfAll 19 = .ok (.istore_n 1, 1) := dk_60 (dk_at dksX4_rowsOfAll_0 19 rfl rfl)
theorem dX4_rowsOfAll_20 : decode cX4_rowsOfAll 20 = .ok (.iinc 2 1, 3) := dk_132 2 1 (dk_at dksX4_rowsOfAll_0 20 rfl rfl)
theorem dX4_rowsOfAll_23 : decode cX4_rowsOfAll 23 = .ok (.goto (-19), 3) := dk_167 255 237 (dk_at dksX4_rowsOfAll_1 0 rfl rfl)
theorem dX4_rowsOfAll_26 : decode cX4_rowsOfAll 26 = .ok (.iload_n 1, 1) := dk_27 (dk_at dksX4_rowsOfAll_1 3 rfl rfl)
theorem dX4_rowsOfAll_27 : decode cX4_rowsOfAll 27 = .ok (.ireturn, 1) := dk_172 (dk_at dksX4_rowsOfAll_1 4 rfl rfl)
abbrev cX4_table : ByteArray := prog_13_method_80_code
def yX4_table : MethodName := ⟨RX4, "table", "(II)I"⟩
def dkwX4_table_3 : List UInt8 := [182, 0, 186, 167, 0, 16, 42, 27, 182, 0, 176, 153, 0, 7, 4, 167, 0, 4, 3, 172]
abbrev dktX4_table_3 : List UInt8 := dkwX4_table_3 ++ []
def dkwX4_table_2 : List UInt8 := [167, 0, 42, 28, 4, 160, 0, 11, 42, 27, 182, 0, 179, 167, 0, 29, 28, 5, 160, 0, 11, 42, 27]
abbrev dktX4_table_2 : List UInt8 := dkwX4_table_2 ++ dktX4_table_3
def dkwX4_table_1 : List UInt8 := [181, 0, 93, 42, 180, 0, 93, 4, 160, 0, 5, 3, 172, 28, 154, 0, 12, 42, 180, 0, 37, 27, 46]
abbrev dktX4_table_1 : List UInt8 := dkwX4_table_1 ++ dktX4_table_2
def dkwX4_table_0 : List UInt8 := [42, 42, 27, 182, 1, 25, 153, 0, 16, 28, 3, 6, 184, 0, 104, 153, 0, 7, 3, 167, 0, 4, 4]
abbrev dktX4_table_0 : List UInt8 := dkwX4_table_0 ++ dktX4_table_1
theorem dksX4_table_0 : cX4_table.data.toList.drop 0 = dktX4_table_0 := by decide +kernel
theorem dksX4_table_1 : cX4_table.data.toList.drop 23 = dktX4_table_1 := dk_seg dksX4_table_0 23 rfl rfl
theorem dksX4_table_2 : cX4_table.data.toList.drop 46 = dktX4_table_2 := dk_seg dksX4_table_1 23 rfl rfl
theorem dksX4_table_3 : cX4_table.data.toList.drop 69 = dktX4_table_3 := dk_seg dksX4_table_2 23 rfl rfl
theorem dX4_table_0 : decode cX4_table 0 = .ok (.aload_n 0, 1) := dk_42 (dk_at dksX4_table_0 0 rfl rfl)
theorem dX4_table_1 : decode cX4_table 1 = .ok (.aload_n 0, 1) := dk_42 (dk_at dksX4_table_0 1 rfl rfl)
theorem dX4_table_2 : decode cX4_table 2 = .ok (.iload_n 1, 1) := dk_27 (dk_at dksX4_table_0 2 rfl rfl)
theorem dX4_table_3 : decode cX4_table 3 = .ok (.invokevirtual 281, 3) := dk_182 1 25 (dk_at dksX4_table_0 3 rfl rfl)
theorem dX4_table_6 : decode cX4_table 6 = .ok (.ifCond .eq 16, 3) := dk_153 0 16 (dk_at dksX4_table_0 6 rfl rfl)
theorem dX4_table_9 : decode cX4_table 9 = .ok (.iload_n 2, 1) := dk_28 (dk_at dksX4_table_0 9 rfl rfl)
theorem dX4_table_10 : decode cX4_table 10 = .ok (.iconst 0, 1) := dk_3 (dk_at dksX4_table_0 10 rfl rfl)
theorem dX4_table_11 : decode cX4_table 11 = .ok (.iconst 3, 1) := dk_6 (dk_at dksX4_table_0 11 rfl rfl)
theorem dX4_table_12 : decode cX4_table 12 = .ok (.invokestatic 104, 3) := dk_184 0 104 (dk_at dksX4_table_0 12 rfl rfl)
theorem dX4_table_15 : decode cX4_table 15 = .ok (.ifCond .eq 7, 3) := dk_153 0 7 (dk_at dksX4_table_0 15 rfl rfl)
theorem dX4_table_18 : decode cX4_table 18 = .ok (.iconst 0, 1) := dk_3 (dk_at dksX4_table_0 18 rfl rfl)
theorem dX4_table_19 : decode cX4_table 19 = .ok (.goto 4, 3) := dk_167 0 4 (dk_at dksX4_table_0 19 rfl rfl)
theorem dX4_table_22 : decode cX4_table 22 = .ok (.iconst 1, 1) := dk_4 (dk_at dksX4_table_0 22 rfl rfl)
theorem dX4_table_23 : decode cX4_table 23 = .ok (.putfield 93, 3) := dk_181 0 93 (dk_at dksX4_table_1 0 rfl rfl)
theorem dX4_table_26 : decode cX4_table 26 = .ok (.aload_n 0, 1) := dk_42 (dk_at dksX4_table_1 3 rfl rfl)
theorem dX4_table_27 : decode cX4_table 27 = .ok (.getfield 93, 3) := dk_180 0 93 (dk_at dksX4_table_1 4 rfl rfl)
theorem dX4_table_30 : decode cX4_table 30 = .ok (.iconst 1, 1) := dk_4 (dk_at dksX4_table_1 7 rfl rfl)
theorem dX4_table_31 : decode cX4_table 31 = .ok (.if_icmp .ne 5, 3) := dk_160 0 5 (dk_at dksX4_table_1 8 rfl rfl)
theorem dX4_table_34 : decode cX4_table 34 = .ok (.iconst 0, 1) := dk_3 (dk_at dksX4_table_1 11 rfl rfl)
theorem dX4_table_35 : decode cX4_table 35 = .ok (.ireturn, 1) := dk_172 (dk_at dksX4_table_1 12 rfl rfl)
theorem dX4_table_36 : decode cX4_table 36 = .ok (.iload_n 2, 1) := dk_28 (dk_at dksX4_table_1 13 rfl rfl)
theorem dX4_table_37 : decode cX4_table 37 = .ok (.ifCond .ne 12, 3) := dk_154 0 12 (dk_at dksX4_table_1 14 rfl rfl)
theorem dX4_table_40 : decode cX4_table 40 = .ok (.aload_n 0, 1) := dk_42 (dk_at dksX4_table_1 17 rfl rfl)
theorem dX4_table_41 : decode cX4_table 41 = .ok (.getfield 37, 3) := dk_180 0 37 (dk_at dksX4_table_1 18 rfl rfl)
theorem dX4_table_44 : decode cX4_table 44 = .ok (.iload_n 1, 1) := dk_27 (dk_at dksX4_table_1 21 rfl rfl)
theorem dX4_table_45 : decode cX4_table 45 = .ok (.iaload, 1) := dk_46 (dk_at dksX4_table_1 22 rfl rfl)
theorem dX4_table_46 : decode cX4_table 46 = .ok (.goto 42, 3) := dk_167 0 42 (dk_at dksX4_table_2 0 rfl rfl)
theorem dX4_table_49 : decode cX4_table 49 = .ok (.iload_n 2, 1) := dk_28 (dk_at dksX4_table_2 3 rfl rfl)
theorem dX4_table_50 : decode cX4_table 50 = .ok (.iconst 1, 1) := dk_4 (dk_at dksX4_table_2 4 rfl rfl)
theorem dX4_table_51 : decode cX4_table 51 = .ok (.if_icmp .ne 11, 3) := dk_160 0 11 (dk_at dksX4_table_2 5 rfl rfl)
theorem dX4_table_54 : decode cX4_table 54 = .ok (.aload_n 0, 1) := dk_42 (dk_at dksX4_table_2 8 rfl rfl)
theorem dX4_table_55 : decode cX4_table 55 = .ok (.iload_n 1, 1) := dk_27 (dk_at dksX4_table_2 9 rfl rfl)
theorem dX4_table_56 : decode cX4_table 56 = .ok (.invokevirtual 179, 3) := dk_182 0 179 (dk_at dksX4_table_2 10 rfl rfl)
theorem dX4_table_59 : decode cX4_table 59 = .ok (.goto 29, 3) := dk_167 0 29 (dk_at dksX4_table_2 13 rfl rfl)
theorem dX4_table_62 : decode cX4_table 62 = .ok (.iload_n 2, 1) := dk_28 (dk_at dksX4_table_2 16 rfl rfl)
theorem dX4_table_63 : decode cX4_table 63 = .ok (.iconst 2, 1) := dk_5 (dk_at dksX4_table_2 17 rfl rfl)
theorem dX4_table_64 : decode cX4_table 64 = .ok (.if_icmp .ne 11, 3) := dk_160 0 11 (dk_at dksX4_table_2 18 rfl rfl)
theorem dX4_table_67 : decode cX4_table 67 = .ok (.aload_n 0, 1) := dk_42 (dk_at dksX4_table_2 21 rfl rfl)
theorem dX4_table_68 : decode cX4_table 68 = .ok (.iload_n 1, 1) := dk_27 (dk_at dksX4_table_2 22 rfl rfl)
theorem dX4_table_69 : decode cX4_table 69 = .ok (.invokevirtual 186, 3) := dk_182 0 186 (dk_at dksX4_table_3 0 rfl rfl)
theorem dX4_table_72 : decode cX4_table 72 = .ok (.goto 16, 3) := dk_167 0 16 (dk_at dksX4_table_3 3 rfl rfl)
theorem dX4_table_75 : decode cX4_table 75 = .ok (.aload_n 0, 1) := dk_42 (dk_at dksX4_table_3 6 rfl rfl)
theorem dX4_table_76 : decode cX4_table 76 = .ok (.iload_n 1, 1) := dk_27 (dk_at dksX4_table_3 7 rfl rfl)
theorem dX4_table_77 : decode cX4_table 77 = .ok (.invokevirtual 176, 3) := dk_182 0 176 (dk_at dksX4_table_3 8 rfl rfl)
theorem dX4_table_80 : decode cX4_table 80 = .ok (.ifCond .eq 7, 3) := dk_153 0 7 (dk_at dksX4_table_3 11 rfl rfl)
theorem dX4_table_83 : decode cX4_table 83 = .ok (.iconst 1, 1) := dk_4 (dk_at dksX4_table_3 14 rfl rfl)
theorem dX4_table_84 : decode cX4_table 84 = .ok (.goto 4, 3) := dk_167 0 4 (dk_at dksX4_table_3 15 rfl rfl)
theorem dX4_table_87 : decode cX4_table 87 = .ok (.iconst 0, 1) := dk_3 (dk_at dksX4_table_3 18 rfl rfl)
theorem dX4_table_88 : decode cX4_table 88 = .ok (.ireturn, 1) := dk_172 (dk_at dksX4_table_3 19 rfl rfl)
abbrev cX4_cell : ByteArray := prog_13_method_81_code
def yX4_cell : MethodName := ⟨RX4, "cell", "(III)I"⟩
def dkwX4_cell_2 : List UInt8 := [29, 96, 46, 167, 0, 4, 2, 172]
abbrev dktX4_cell_2 : List UInt8 := dkwX4_cell_2 ++ []
def dkwX4_cell_1 : List UInt8 := [3, 42, 180, 0, 37, 27, 46, 4, 100, 184, 0, 104, 153, 0, 18, 42, 180, 0, 31, 27, 28, 184, 0, 182]
abbrev dktX4_cell_1 : List UInt8 := dkwX4_cell_1 ++ dktX4_cell_2
def dkwX4_cell_0 : List UInt8 := [42, 27, 182, 1, 25, 153, 0, 49, 28, 3, 42, 27, 182, 0, 186, 4, 100, 184, 0, 104, 153, 0, 34, 29]
abbrev dktX4_cell_0 : List UInt8 := dkwX4_cell_0 ++ dktX4_cell_1
theorem dksX4_cell_0 : cX4_cell.data.toList.drop 0 = dktX4_cell_0 := by decide +kernel
theorem dksX4_cell_1 : cX4_cell.data.toList.drop 24 = dktX4_cell_1 := dk_seg dksX4_cell_0 24 rfl rfl
theorem dksX4_cell_2 : cX4_cell.data.toList.drop 48 = dktX4_cell_2 := dk_seg dksX4_cell_1 24 rfl rfl
theorem dX4_cell_0 : decode cX4_cell 0 = .ok (.aload_n 0, 1) := dk_42 (dk_at dksX4_cell_0 0 rfl rfl)
theorem dX4_cell_1 : decode cX4_cell 1 = .ok (.iload_n 1, 1) := dk_27 (dk_at dksX4_cell_0 1 rfl rfl)
theorem dX4_cell_2 : decode cX4_cell 2 = .ok (.invokevirtual 281, 3) := dk_182 1 25 (dk_at dksX4_cell_0 2 rfl rfl)
theorem dX4_cell_5 : decode cX4_cell 5 = .ok (.ifCond .eq 49, 3) := dk_153 0 49 (dk_at dksX4_cell_0 5 rfl rfl)
theorem dX4_cell_8 : decode cX4_cell 8 = .ok (.iload_n 2, 1) := dk_28 (dk_at dksX4_cell_0 8 rfl rfl)
theorem dX4_cell_9 : decode cX4_cell 9 = .ok (.iconst 0, 1) := dk_3 (dk_at dksX4_cell_0 9 rfl rfl)
theorem dX4_cell_10 : decode cX4_cell 10 = .ok (.aload_n 0, 1) := dk_42 (dk_at dksX4_cell_0 10 rfl rfl)
theorem dX4_cell_11 : decode cX4_cell 11 = .ok (.iload_n 1, 1) := dk_27 (dk_at dksX4_cell_0 11 rfl rfl)
theorem dX4_cell_12 : decode cX4_cell 12 = .ok (.invokevirtual 186, 3) := dk_182 0 186 (dk_at dksX4_cell_0 12 rfl rfl)
theorem dX4_cell_15 : decode cX4_cell 15 = .ok (.iconst 1, 1) := dk_4 (dk_at dksX4_cell_0 15 rfl rfl)
theorem dX4_cell_16 : decode cX4_cell 16 = .ok (.isub, 1) := dk_100 (dk_at dksX4_cell_0 16 rfl rfl)
theorem dX4_cell_17 : decode cX4_cell 17 = .ok (.invokestatic 104, 3) := dk_184 0 104 (dk_at dksX4_cell_0 17 rfl rfl)
theorem dX4_cell_20 : decode cX4_cell 20 = .ok (.ifCond .eq 34, 3) := dk_153 0 34 (dk_at dksX4_cell_0 20 rfl rfl)
theorem dX4_cell_23 : decode cX4_cell 23 = .ok (.iload_n 3, 1) := dk_29 (dk_at dksX4_cell_0 23 rfl rfl)
theorem dX4_cell_24 : decode cX4_cell 24 = .ok (.iconst 0, 1) := dk_3 (dk_at dksX4_cell_1 0 rfl rfl)
theorem dX4_cell_25 : decode cX4_cell 25 = .ok (.aload_n 0, 1) := dk_42 (dk_at dksX4_cell_1 1 rfl rfl)
theorem dX4_cell_26 : decode cX4_cell 26 = .ok (.getfield 37, 3) := dk_180 0 37 (dk_at dksX4_cell_1 2 rfl rfl)
theorem dX4_cell_29 : decode cX4_cell 29 = .ok (.iload_n 1, 1) := dk_27 (dk_at dksX4_cell_1 5 rfl rfl)
theorem dX4_cell_30 : decode cX4_cell 30 = .ok (.iaload, 1) := dk_46 (dk_at dksX4_cell_1 6 rfl rfl)
theorem dX4_cell_31 : decode cX4_cell 31 = .ok (.iconst 1, 1) := dk_4 (dk_at dksX4_cell_1 7 rfl rfl)
theorem dX4_cell_32 : decode cX4_cell 32 = .ok (.isub, 1) := dk_100 (dk_at dksX4_cell_1 8 rfl rfl)
theorem dX4_cell_33 : decode cX4_cell 33 = .ok (.invokestatic 104, 3) := dk_184 0 104 (dk_at dksX4_cell_1 9 rfl rfl)
theorem dX4_cell_36 : decode cX4_cell 36 = .ok (.ifCond .eq 18, 3) := dk_153 0 18 (dk_at dksX4_cell_1 12 rfl rfl)
theorem dX4_cell_39 : decode cX4_cell 39 = .ok (.aload_n 0, 1) := dk_42 (dk_at dksX4_cell_1 15 rfl rfl)
theorem dX4_cell_40 : decode cX4_cell 40 = .ok (.getfield 31, 3) := dk_180 0 31 (dk_at dksX4_cell_1 16 rfl rfl)
theorem dX4_cell_43 : decode cX4_cell 43 = .ok (.iload_n 1, 1) := dk_27 (dk_at dksX4_cell_1 19 rfl rfl)
theorem dX4_cell_44 : decode cX4_cell 44 = .ok (.iload_n 2, 1) := dk_28 (dk_at dksX4_cell_1 20 rfl rfl)
theorem dX4_cell_45 : decode cX4_cell 45 = .ok (.invokestatic 182, 3) := dk_184 0 182 (dk_at dksX4_cell_1 21 rfl rfl)
theorem dX4_cell_48 : decode cX4_cell 48 = .ok (.iload_n 3, 1) := dk_29 (dk_at dksX4_cell_2 0 rfl rfl)
theorem dX4_cell_49 : decode cX4_cell 49 = .ok (.iadd, 1) := dk_96 (dk_at dksX4_cell_2 1 rfl rfl)
theorem dX4_cell_50 : decode cX4_cell 50 = .ok (.iaload, 1) := dk_46 (dk_at dksX4_cell_2 2 rfl rfl)
theorem dX4_cell_51 : decode cX4_cell 51 = .ok (.goto 4, 3) := dk_167 0 4 (dk_at dksX4_cell_2 3 rfl rfl)
theorem dX4_cell_54 : decode cX4_cell 54 = .ok (.iconst (-1), 1) := dk_2 (dk_at dksX4_cell_2 6 rfl rfl)
theorem dX4_cell_55 : decode cX4_cell 55 = .ok (.ireturn, 1) := dk_172 (dk_at dksX4_cell_2 7 rfl rfl)
abbrev cX4_rows : ByteArray := prog_13_method_82_code
def yX4_rows : MethodName := ⟨RX4, "rows", "()I"⟩
def dkwX4_rows_0 : List UInt8 := [42, 182, 1, 21, 153, 0, 10, 42, 182, 1, 43, 167, 0, 4, 2, 172]
abbrev dktX4_rows_0 : List UInt8 := dkwX4_rows_0 ++ []
theorem dksX4_rows_0 : cX4_rows.data.toList.drop 0 = dktX4_rows_0 := by decide +kernel
theorem dX4_rows_0 : decode cX4_rows 0 = .ok (.aload_n 0, 1) := dk_42 (dk_at dksX4_rows_0 0 rfl rfl)
theorem dX4_rows_1 : decode cX4_rows 1 = .ok (.invokevirtual 277, 3) := dk_182 1 21 (dk_at dksX4_rows_0 1 rfl rfl)
theorem dX4_rows_4 : decode cX4_rows 4 = .ok (.ifCond .eq 10, 3) := dk_153 0 10 (dk_at dksX4_rows_0 4 rfl rfl)
theorem dX4_rows_7 : decode cX4_rows 7 = .ok (.aload_n 0, 1) := dk_42 (dk_at dksX4_rows_0 7 rfl rfl)
theorem dX4_rows_8 : decode cX4_rows 8 = .ok (.invokevirtual 299, 3) := dk_182 1 43 (dk_at dksX4_rows_0 8 rfl rfl)
theorem dX4_rows_11 : decode cX4_rows 11 = .ok (.goto 4, 3) := dk_167 0 4 (dk_at dksX4_rows_0 11 rfl rfl)
theorem dX4_rows_14 : decode cX4_rows 14 = .ok (.iconst (-1), 1) := dk_2 (dk_at dksX4_rows_0 14 rfl rfl)
theorem dX4_rows_15 : decode cX4_rows 15 = .ok (.ireturn, 1) := dk_172 (dk_at dksX4_rows_0 15 rfl rfl)
abbrev cX4_row : ByteArray := prog_13_method_83_code
def yX4_row : MethodName := ⟨RX4, "row", "(II)I"⟩
def dkwX4_row_1 : List UInt8 := [182, 1, 89, 167, 0, 4, 2, 172]
abbrev dktX4_row_1 : List UInt8 := dkwX4_row_1 ++ []
def dkwX4_row_0 : List UInt8 := [42, 28, 182, 1, 86, 153, 0, 24, 27, 155, 0, 20, 27, 42, 182, 1, 43, 162, 0, 12, 42, 27, 28]
abbrev dktX4_row_0 : List UInt8 := dkwX4_row_0 ++ dktX4_row_1
theorem dksX4_row_0 : cX4_row.data.toList.drop 0 = dktX4_row_0 := by decide +kernel
theorem dksX4_row_1 : cX4_row.data.toList.drop 23 = dktX4_row_1 := dk_seg dksX4_row_0 23 rfl rfl
theorem dX4_row_0 : decode cX4_row 0 = .ok (.aload_n 0, 1) := dk_42 (dk_at dksX4_row_0 0 rfl rfl)
theorem dX4_row_1 : decode cX4_row 1 = .ok (.iload_n 2, 1) := dk_28 (dk_at dksX4_row_0 1 rfl rfl)
theorem dX4_row_2 : decode cX4_row 2 = .ok (.invokevirtual 342, 3) := dk_182 1 86 (dk_at dksX4_row_0 2 rfl rfl)
theorem dX4_row_5 : decode cX4_row 5 = .ok (.ifCond .eq 24, 3) := dk_153 0 24 (dk_at dksX4_row_0 5 rfl rfl)
theorem dX4_row_8 : decode cX4_row 8 = .ok (.iload_n 1, 1) := dk_27 (dk_at dksX4_row_0 8 rfl rfl)
theorem dX4_row_9 : decode cX4_row 9 = .ok (.ifCond .lt 20, 3) := dk_155 0 20 (dk_at dksX4_row_0 9 rfl rfl)
theorem dX4_row_12 : decode cX4_row 12 = .ok (.iload_n 1, 1) := dk_27 (dk_at dksX4_row_0 12 rfl rfl)
theorem dX4_row_13 : decode cX4_row 13 = .ok (.aload_n 0, 1) := dk_42 (dk_at dksX4_row_0 13 rfl rfl)
theorem dX4_row_14 : decode cX4_row 14 = .ok (.invokevirtual 299, 3) := dk_182 1 43 (dk_at dksX4_row_0 14 rfl rfl)
theorem dX4_row_17 : decode cX4_row 17 = .ok (.if_icmp .ge 12, 3) := dk_162 0 12 (dk_at dksX4_row_0 17 rfl rfl)
theorem dX4_row_20 : decode cX4_row 20 = .ok (.aload_n 0, 1) := dk_42 (dk_at dksX4_row_0 20 rfl rfl)
theorem dX4_row_21 : decode cX4_row 21 = .ok (.iload_n 1, 1) := dk_27 (dk_at dksX4_row_0 21 rfl rfl)
theorem dX4_row_22 : decode cX4_row 22 = .ok (.iload_n 2, 1) := dk_28 (dk_at dksX4_row_0 22 rfl rfl)
theorem dX4_row_23 : decode cX4_row 23 = .ok (.invokevirtual 345, 3) := dk_182 1 89 (dk_at dksX4_row_1 0 rfl rfl)
theorem dX4_row_26 : decode cX4_row 26 = .ok (.goto 4, 3) := dk_167 0 4 (dk_at dksX4_row_1 3 rfl rfl)
theorem dX4_row_29 : decode cX4_row 29 = .ok (.iconst (-1), 1) := dk_2 (dk_at dksX4_row_1 6 rfl rfl)
theorem dX4_row_30 : decode cX4_row 30 = .ok (.ireturn, 1) := dk_172 (dk_at dksX4_row_1 7 rfl rfl)
abbrev cX4_isAsked : ByteArray := prog_13_method_56_code
def yX4_isAsked : MethodName := ⟨RX4, "isAsked", "(I)Z"⟩
def dkwX4_isAsked_1 : List UInt8 := [153, 0, 7, 4, 167, 0, 4, 3, 172]
abbrev dktX4_isAsked_1 : List UInt8 := dkwX4_isAsked_1 ++ []
def dkwX4_isAsked_0 : List UInt8 := [42, 182, 1, 21, 153, 0, 27, 27, 3, 6, 184, 0, 104, 153, 0, 18, 42, 182, 0, 220, 27, 184, 0, 131]
abbrev dktX4_isAsked_0 : List UInt8 := dkwX4_isAsked_0 ++ dktX4_isAsked_1
theorem dksX4_isAsked_0 : cX4_isAsked.data.toList.drop 0 = dktX4_isAsked_0 := by decide +kernel
theorem dksX4_isAsked_1 : cX4_isAsked.data.toList.drop 24 = dktX4_isAsked_1 := dk_seg dksX4_isAsked_0 24 rfl rfl
theorem dX4_isAsked_0 : decode cX4_isAsked 0 = .ok (.aload_n 0, 1) := dk_42 (dk_at dksX4_isAsked_0 0 rfl rfl)
theorem dX4_isAsked_1 : decode cX4_isAsked 1 = .ok (.invokevirtual 277, 3) := dk_182 1 21 (dk_at dksX4_isAsked_0 1 rfl rfl)
theorem dX4_isAsked_4 : decode cX4_isAsked 4 = .ok (.ifCond .eq 27, 3) := dk_153 0 27 (dk_at dksX4_isAsked_0 4 rfl rfl)
theorem dX4_isAsked_7 : decode cX4_isAsked 7 = .ok (.iload_n 1, 1) := dk_27 (dk_at dksX4_isAsked_0 7 rfl rfl)
theorem dX4_isAsked_8 : decode cX4_isAsked 8 = .ok (.iconst 0, 1) := dk_3 (dk_at dksX4_isAsked_0 8 rfl rfl)
theorem dX4_isAsked_9 : decode cX4_isAsked 9 = .ok (.iconst 3, 1) := dk_6 (dk_at dksX4_isAsked_0 9 rfl rfl)
theorem dX4_isAsked_10 : decode cX4_isAsked 10 = .ok (.invokestatic 104, 3) := dk_184 0 104 (dk_at dksX4_isAsked_0 10 rfl rfl)
theorem dX4_isAsked_13 : decode cX4_isAsked 13 = .ok (.ifCond .eq 18, 3) := dk_153 0 18 (dk_at dksX4_isAsked_0 13 rfl rfl)
theorem dX4_isAsked_16 : decode cX4_isAsked 16 = .ok (.aload_n 0, 1) := dk_42 (dk_at dksX4_isAsked_0 16 rfl rfl)
theorem dX4_isAsked_17 : decode cX4_isAsked 17 = .ok (.invokevirtual 220, 3) := dk_182 0 220 (dk_at dksX4_isAsked_0 17 rfl rfl)
theorem dX4_isAsked_20 : decode cX4_isAsked 20 = .ok (.iload_n 1, 1) := dk_27 (dk_at dksX4_isAsked_0 20 rfl rfl)
theorem dX4_isAsked_21 : decode cX4_isAsked 21 = .ok (.invokestatic 131, 3) := dk_184 0 131 (dk_at dksX4_isAsked_0 21 rfl rfl)
theorem dX4_isAsked_24 : decode cX4_isAsked 24 = .ok (.ifCond .eq 7, 3) := dk_153 0 7 (dk_at dksX4_isAsked_1 0 rfl rfl)
theorem dX4_isAsked_27 : decode cX4_isAsked 27 = .ok (.iconst 1, 1) := dk_4 (dk_at dksX4_isAsked_1 3 rfl rfl)
theorem dX4_isAsked_28 : decode cX4_isAsked 28 = .ok (.goto 4, 3) := dk_167 0 4 (dk_at dksX4_isAsked_1 4 rfl rfl)
theorem dX4_isAsked_31 : decode cX4_isAsked 31 = .ok (.iconst 0, 1) := dk_3 (dk_at dksX4_isAsked_1 7 rfl rfl)
theorem dX4_isAsked_32 : decode cX4_isAsked 32 = .ok (.ireturn, 1) := dk_172 (dk_at dksX4_isAsked_1 8 rfl rfl)
abbrev cX4_numberOf : ByteArray := prog_13_method_55_code
def yX4_numberOf : MethodName := ⟨RX4, "numberOf", "(II)I"⟩
def dkwX4_numberOf_0 : List UInt8 := [42, 180, 0, 62, 7, 27, 104, 28, 96, 46, 172]
abbrev dktX4_numberOf_0 : List UInt8 := dkwX4_numberOf_0 ++ []
theorem dksX4_numberOf_0 : cX4_numberOf.data.toList.drop 0 = dktX4_numberOf_0 := by decide +kernel
theorem dX4_numberOf_0 : decode cX4_numberOf 0 = .ok (.aload_n 0, 1) := dk_42 (dk_at dksX4_numberOf_0 0 rfl rfl)
theorem dX4_numberOf_1 : decode cX4_numberOf 1 = .ok (.getfield 62, 3) := dk_180 0 62 (dk_at dksX4_numberOf_0 1 rfl rfl)
theorem dX4_numberOf_4 : decode cX4_numberOf 4 = .ok (.iconst 4, 1) := dk_7 (dk_at dksX4_numberOf_0 4 rfl rfl)
theorem dX4_numberOf_5 : decode cX4_numberOf 5 = .ok (.iload_n 1, 1) := dk_27 (dk_at dksX4_numberOf_0 5 rfl rfl)
theorem dX4_numberOf_6 : decode cX4_numberOf 6 = .ok (.imul, 1) := dk_104 (dk_at dksX4_numberOf_0 6 rfl rfl)
theorem dX4_numberOf_7 : decode cX4_numberOf 7 = .ok (.iload_n 2, 1) := dk_28 (dk_at dksX4_numberOf_0 7 rfl rfl)
theorem dX4_numberOf_8 : decode cX4_numberOf 8 = .ok (.iadd, 1) := dk_96 (dk_at dksX4_numberOf_0 8 rfl rfl)
theorem dX4_numberOf_9 : decode cX4_numberOf 9 = .ok (.iaload, 1) := dk_46 (dk_at dksX4_numberOf_0 9 rfl rfl)
theorem dX4_numberOf_10 : decode cX4_numberOf 10 = .ok (.ireturn, 1) := dk_172 (dk_at dksX4_numberOf_0 10 rfl rfl)
abbrev cX4_leaps_2 : ByteArray := prog_13_method_84_code
def yX4_leaps_2 : MethodName := ⟨RX4, "leaps", "()I"⟩
def dkwX4_leaps_2_0 : List UInt8 := [42, 182, 1, 21, 154, 0, 5, 2, 172, 42, 182, 1, 40, 42, 180, 0, 244, 172]
abbrev dktX4_leaps_2_0 : List UInt8 := dkwX4_leaps_2_0 ++ []
theorem dksX4_leaps_2_0 : cX4_leaps_2.data.toList.drop 0 = dktX4_leaps_2_0 := by decide +kernel
theorem dX4_leaps_2_0 : decode cX4_leaps_2 0 = .ok (.aload_n 0, 1) := dk_42 (dk_at dksX4_leaps_2_0 0 rfl rfl)
theorem dX4_leaps_2_1 : decode cX4_leaps_2 1 = .ok (.invokevirtual 277, 3) := dk_182 1 21 (dk_at dksX4_leaps_2_0 1 rfl rfl)
theorem dX4_leaps_2_4 : decode cX4_leaps_2 4 = .ok (.ifCond .ne 5, 3) := dk_154 0 5 (dk_at dksX4_leaps_2_0 4 rfl rfl)
theorem dX4_leaps_2_7 : decode cX4_leaps_2 7 = .ok (.iconst (-1), 1) := dk_2 (dk_at dksX4_leaps_2_0 7 rfl rfl)
theorem dX4_leaps_2_8 : decode cX4_leaps_2 8 = .ok (.ireturn, 1) := dk_172 (dk_at dksX4_leaps_2_0 8 rfl rfl)
theorem dX4_leaps_2_9 : decode cX4_leaps_2 9 = .ok (.aload_n 0, 1) := dk_42 (dk_at dksX4_leaps_2_0 9 rfl rfl)
theorem dX4_leaps_2_10 : decode cX4_leaps_2 10 = .ok (.invokevirtual 296, 3) := dk_182 1 40 (dk_at dksX4_leaps_2_0 10 rfl rfl)
theorem dX4_leaps_2_13 : decode cX4_leaps_2 13 = .ok (.aload_n 0, 1) := dk_42 (dk_at dksX4_leaps_2_0 13 rfl rfl)
theorem dX4_leaps_2_14 : decode cX4_leaps_2 14 = .ok (.getfield 244, 3) := dk_180 0 244 (dk_at dksX4_leaps_2_0 14 rfl rfl)
theorem dX4_leaps_2_17 : decode cX4_leaps_2 17 = .ok (.ireturn, 1) := dk_172 (dk_at dksX4_leaps_2_0 17 rfl rfl)
abbrev cX4_beginnings : ByteArray := prog_13_method_85_code
def yX4_beginnings : MethodName := ⟨RX4, "beginnings", "(I)I"⟩
def dkwX4_beginnings_1 : List UInt8 := [163, 0, 12, 42, 180, 0, 58, 27, 46, 167, 0, 4, 2, 172]
abbrev dktX4_beginnings_1 : List UInt8 := dkwX4_beginnings_1 ++ []
def dkwX4_beginnings_0 : List UInt8 := [42, 182, 1, 21, 153, 0, 8, 27, 4, 162, 0, 5, 2, 172, 42, 182, 1, 40, 27, 42, 180, 0, 217]
abbrev dktX4_beginnings_0 : List UInt8 := dkwX4_beginnings_0 ++ dktX4_beginnings_1
theorem dksX4_beginnings_0 : cX4_beginnings.data.toList.drop 0 = dktX4_beginnings_0 := by decide +kernel
theorem dksX4_beginnings_1 : cX4_beginnings.data.toList.drop 23 = dktX4_beginnings_1 := dk_seg dksX4_beginnings_0 23 rfl rfl
theorem dX4_beginnings_0 : decode cX4_beginnings 0 = .ok (.aload_n 0, 1) := dk_42 (dk_at dksX4_beginnings_0 0 rfl rfl)
theorem dX4_beginnings_1 : decode cX4_beginnings 1 = .ok (.invokevirtual 277, 3) := dk_182 1 21 (dk_at dksX4_beginnings_0 1 rfl rfl)
theorem dX4_beginnings_4 : decode cX4_beginnings 4 = .ok (.ifCond .eq 8, 3) := dk_153 0 8 (dk_at dksX4_beginnings_0 4 rfl rfl)
theorem dX4_beginnings_7 : decode cX4_beginnings 7 = .ok (.iload_n 1, 1) := dk_27 (dk_at dksX4_beginnings_0 7 rfl rfl)
theorem dX4_beginnings_8 : decode cX4_beginnings 8 = .ok (.iconst 1, 1) := dk_4 (dk_at dksX4_beginnings_0 8 rfl rfl)
theorem dX4_beginnings_9 : decode cX4_beginnings 9 = .ok (.if_icmp .ge 5, 3) := dk_162 0 5 (dk_at dksX4_beginnings_0 9 rfl rfl)
theorem dX4_beginnings_12 : decode cX4_beginnings 12 = .ok (.iconst (-1), 1) := dk_2 (dk_at dksX4_beginnings_0 12 rfl rfl)
theorem dX4_beginnings_13 : decode cX4_beginnings 13 = .ok (.ireturn, 1) := dk_172 (dk_at dksX4_beginnings_0 13 rfl rfl)
theorem dX4_beginnings_14 : decode cX4_beginnings 14 = .ok (.aload_n 0, 1) := dk_42 (dk_at dksX4_beginnings_0 14 rfl rfl)
theorem dX4_beginnings_15 : decode cX4_beginnings 15 = .ok (.invokevirtual 296, 3) := dk_182 1 40 (dk_at dksX4_beginnings_0 15 rfl rfl)
theorem dX4_beginnings_18 : decode cX4_beginnings 18 = .ok (.iload_n 1, 1) := dk_27 (dk_at dksX4_beginnings_0 18 rfl rfl)
theorem dX4_beginnings_19 : decode cX4_beginnings 19 = .ok (.aload_n 0, 1) := dk_42 (dk_at dksX4_beginnings_0 19 rfl rfl)
theorem dX4_beginnings_20 : decode cX4_beginnings 20 = .ok (.getfield 217, 3) := dk_180 0 217 (dk_at dksX4_beginnings_0 20 rfl rfl)
theorem dX4_beginnings_23 : decode cX4_beginnings 23 = .ok (.if_icmp .gt 12, 3) := dk_163 0 12 (dk_at dksX4_beginnings_1 0 rfl rfl)
theorem dX4_beginnings_26 : decode cX4_beginnings 26 = .ok (.aload_n 0, 1) := dk_42 (dk_at dksX4_beginnings_1 3 rfl rfl)
theorem dX4_beginnings_27 : decode cX4_beginnings 27 = .ok (.getfield 58, 3) := dk_180 0 58 (dk_at dksX4_beginnings_1 4 rfl rfl)
theorem dX4_beginnings_30 : decode cX4_beginnings 30 = .ok (.iload_n 1, 1) := dk_27 (dk_at dksX4_beginnings_1 7 rfl rfl)
theorem dX4_beginnings_31 : decode cX4_beginnings 31 = .ok (.iaload, 1) := dk_46 (dk_at dksX4_beginnings_1 8 rfl rfl)
theorem dX4_beginnings_32 : decode cX4_beginnings 32 = .ok (.goto 4, 3) := dk_167 0 4 (dk_at dksX4_beginnings_1 9 rfl rfl)
theorem dX4_beginnings_35 : decode cX4_beginnings 35 = .ok (.iconst (-1), 1) := dk_2 (dk_at dksX4_beginnings_1 12 rfl rfl)
theorem dX4_beginnings_36 : decode cX4_beginnings 36 = .ok (.ireturn, 1) := dk_172 (dk_at dksX4_beginnings_1 13 rfl rfl)
abbrev cX4_best : ByteArray := prog_13_method_87_code
def yX4_best : MethodName := ⟨RX4, "best", "(I)I"⟩
def dkwX4_best_1 : List UInt8 := [154, 0, 10, 42, 180, 1, 92, 167, 0, 7, 42, 180, 1, 98, 172]
abbrev dktX4_best_1 : List UInt8 := dkwX4_best_1 ++ []
def dkwX4_best_0 : List UInt8 := [42, 182, 1, 21, 153, 0, 12, 27, 3, 4, 184, 0, 104, 154, 0, 5, 2, 172, 42, 182, 1, 101, 27]
abbrev dktX4_best_0 : List UInt8 := dkwX4_best_0 ++ dktX4_best_1
theorem dksX4_best_0 : cX4_best.data.toList.drop 0 = dktX4_best_0 := by decide +kernel
theorem dksX4_best_1 : cX4_best.data.toList.drop 23 = dktX4_best_1 := dk_seg dksX4_best_0 23 rfl rfl
theorem dX4_best_0 : decode cX4_best 0 = .ok (.aload_n 0, 1) := dk_42 (dk_at dksX4_best_0 0 rfl rfl)
theorem dX4_best_1 : decode cX4_best 1 = .ok (.invokevirtual 277, 3) := dk_182 1 21 (dk_at dksX4_best_0 1 rfl rfl)
theorem dX4_best_4 : decode cX4_best 4 = .ok (.ifCond .eq 12, 3) := dk_153 0 12 (dk_at dksX4_best_0 4 rfl rfl)
theorem dX4_best_7 : decode cX4_best 7 = .ok (.iload_n 1, 1) := dk_27 (dk_at dksX4_best_0 7 rfl rfl)
theorem dX4_best_8 : decode cX4_best 8 = .ok (.iconst 0, 1) := dk_3 (dk_at dksX4_best_0 8 rfl rfl)
theorem dX4_best_9 : decode cX4_best 9 = .ok (.iconst 1, 1) := dk_4 (dk_at dksX4_best_0 9 rfl rfl)
theorem dX4_best_10 : decode cX4_best 10 = .ok (.invokestatic 104, 3) := dk_184 0 104 (dk_at dksX4_best_0 10 rfl rfl)
theorem dX4_best_13 : decode cX4_best 13 = .ok (.ifCond .ne 5, 3) := dk_154 0 5 (dk_at dksX4_best_0 13 rfl rfl)
theorem dX4_best_16 : decode cX4_best 16 = .ok (.iconst (-1), 1) := dk_2 (dk_at dksX4_best_0 16 rfl rfl)
theorem dX4_best_17 : decode cX4_best 17 = .ok (.ireturn, 1) := dk_172 (dk_at dksX4_best_0 17 rfl rfl)
theorem dX4_best_18 : decode cX4_best 18 = .ok (.aload_n 0, 1) := dk_42 (dk_at dksX4_best_0 18 rfl rfl)
theorem dX4_best_19 : decode cX4_best 19 = .ok (.invokevirtual 357, 3) := dk_182 1 101 (dk_at dksX4_best_0 19 rfl rfl)
theorem dX4_best_22 : decode cX4_best 22 = .ok (.iload_n 1, 1) := dk_27 (dk_at dksX4_best_0 22 rfl rfl)
theorem dX4_best_23 : decode cX4_best 23 = .ok (.ifCond .ne 10, 3) := dk_154 0 10 (dk_at dksX4_best_1 0 rfl rfl)
theorem dX4_best_26 : decode cX4_best 26 = .ok (.aload_n 0, 1) := dk_42 (dk_at dksX4_best_1 3 rfl rfl)
theorem dX4_best_27 : decode cX4_best 27 = .ok (.getfield 348, 3) := dk_180 1 92 (dk_at dksX4_best_1 4 rfl rfl)
theorem dX4_best_30 : decode cX4_best 30 = .ok (.goto 7, 3) := dk_167 0 7 (dk_at dksX4_best_1 7 rfl rfl)
theorem dX4_best_33 : decode cX4_best 33 = .ok (.aload_n 0, 1) := dk_42 (dk_at dksX4_best_1 10 rfl rfl)
theorem dX4_best_34 : decode cX4_best 34 = .ok (.getfield 354, 3) := dk_180 1 98 (dk_at dksX4_best_1 11 rfl rfl)
theorem dX4_best_37 : decode cX4_best 37 = .ok (.ireturn, 1) := dk_172 (dk_at dksX4_best_1 14 rfl rfl)
abbrev cX4_triesOrders : ByteArray := prog_13_method_86_code
def yX4_triesOrders : MethodName := ⟨RX4, "triesOrders", "()V"⟩
def dkwX4_triesOrders_3 : List UInt8 := [132, 1, 1, 167, 255, 195, 177]
abbrev dktX4_triesOrders_3 : List UInt8 := dkwX4_triesOrders_3 ++ []
def dkwX4_triesOrders_2 : List UInt8 := [42, 180, 0, 244, 181, 1, 98, 42, 42, 180, 1, 95, 42, 180, 0, 244, 184, 0, 239, 181, 1, 95]
abbrev dktX4_triesOrders_2 : List UInt8 := dkwX4_triesOrders_2 ++ dktX4_triesOrders_3
def dkwX4_triesOrders_1 : List UInt8 := [180, 1, 92, 2, 159, 0, 14, 42, 180, 0, 244, 42, 180, 1, 98, 162, 0, 16, 42, 27, 181, 1, 92, 42]
abbrev dktX4_triesOrders_1 : List UInt8 := dkwX4_triesOrders_1 ++ dktX4_triesOrders_2
def dkwX4_triesOrders_0 : List UInt8 := [42, 2, 181, 1, 92, 42, 3, 181, 1, 95, 3, 60, 27, 16, 24, 162, 0, 61, 42, 27, 182, 1, 18, 42]
abbrev dktX4_triesOrders_0 : List UInt8 := dkwX4_triesOrders_0 ++ dktX4_triesOrders_1
theorem dksX4_triesOrders_0 : cX4_triesOrders.data.toList.drop 0 = dktX4_triesOrders_0 := by decide +kernel
theorem dksX4_triesOrders_1 : cX4_triesOrders.data.toList.drop 24 = dktX4_triesOrders_1 := dk_seg dksX4_triesOrders_0 24 rfl rfl
theorem dksX4_triesOrders_2 : cX4_triesOrders.data.toList.drop 48 = dktX4_triesOrders_2 := dk_seg dksX4_triesOrders_1 24 rfl rfl
theorem dksX4_triesOrders_3 : cX4_triesOrders.data.toList.drop 70 = dktX4_triesOrders_3 := dk_seg dksX4_triesOrders_2 22 rfl rfl
theorem dX4_triesOrders_0 : decode cX4_triesOrders 0 = .ok (.aload_n 0, 1) := dk_42 (dk_at dksX4_triesOrders_0 0 rfl rfl)
theorem dX4_triesOrders_1 : decode cX4_triesOrders 1 = .ok (.iconst (-1), 1) := dk_2 (dk_at dksX4_triesOrders_0 1 rfl rfl)
theorem dX4_triesOrders_2 : decode cX4_triesOrders 2 = .ok (.putfield 348, 3) := dk_181 1 92 (dk_at dksX4_triesOrders_0 2 rfl rfl)
theorem dX4_triesOrders_5 : decode cX4_triesOrders 5 = .ok (.aload_n 0, 1) := dk_42 (dk_at dksX4_triesOrders_0 5 rfl rfl)
theorem dX4_triesOrders_6 : decode cX4_triesOrders 6 = .ok (.iconst 0, 1) := dk_3 (dk_at dksX4_triesOrders_0 6 rfl rfl)
theorem dX4_triesOrders_7 : decode cX4_triesOrders 7 = .ok (.putfield 351, 3) := dk_181 1 95 (dk_at dksX4_triesOrders_0 7 rfl rfl)
theorem dX4_triesOrders_10 : decode cX4_triesOrders 10 = .ok (.iconst 0, 1) := dk_3 (dk_at dksX4_triesOrders_0 10 rfl rfl)
theorem dX4_triesOrders_11 : decode cX4_triesOrders 11 = .ok (.istore_n 1, 1) := dk_60 (dk_at dksX4_triesOrders_0 11 rfl rfl)
theorem dX4_triesOrders_12 : decode cX4_triesOrders 12 = .ok (.iload_n 1, 1) := dk_27 (dk_at dksX4_triesOrders_0 12 rfl rfl)
theorem dX4_triesOrders_13 : decode cX4_triesOrders 13 = .ok (.bipush 24, 2) := dk_16 24 (dk_at dksX4_triesOrders_0 13 rfl rfl)
theorem dX4_triesOrders_15 : decode cX4_triesOrders 15 = .ok (.if_icmp .ge 61, 3) := dk_162 0 61 (dk_at dksX4_triesOrders_0 15 rfl rfl)
theorem dX4_triesOrders_18 : decode cX4_triesOrders 18 = .ok (.aload_n 0, 1) := dk_42 (dk_at dksX4_triesOrders_0 18 rfl rfl)
theorem dX4_triesOrders_19 : decode cX4_triesOrders 19 = .ok (.iload_n 1, 1) := dk_27 (dk_at dksX4_triesOrders_0 19 rfl rfl)
theorem dX4_triesOrders_20 : decode cX4_triesOrders 20 = .ok (.invokevirtual 274, 3) := dk_182 1 18 (dk_at dksX4_triesOrders_0 20 rfl rfl)
theorem dX4_triesOrders_23 : decode cX4_triesOrders 23 = .ok (.aload_n 0, 1) := dk_42 (dk_at dksX4_triesOrders_0 23 rfl rfl)
theorem dX4_triesOrders_24 : decode cX4_triesOrders 24 = .ok (.getfield 348, 3) := dk_180 1 92 (dk_at dksX4_triesOrders_1 0 rfl rfl)
theorem dX4_triesOrders_27 : decode cX4_triesOrders 27 = .ok (.iconst (-1), 1) := dk_2 (dk_at dksX4_triesOrders_1 3 rfl rfl)
theorem dX4_triesOrders_28 : decode cX4_triesOrders 28 = .ok (.if_icmp .eq 14, 3) := dk_159 0 14 (dk_at dksX4_triesOrders_1 4 rfl rfl)
theorem dX4_triesOrders_31 : decode cX4_triesOrders 31 = .ok (.aload_n 0, 1) := dk_42 (dk_at dksX4_triesOrders_1 7 rfl rfl)
theorem dX4_triesOrders_32 : decode cX4_triesOrders 32 = .ok (.getfield 244, 3) := dk_180 0 244 (dk_at dksX4_triesOrders_1 8 rfl rfl)
theorem dX4_triesOrders_35 : decode cX4_triesOrders 35 = .ok (.aload_n 0, 1) := dk_42 (dk_at dksX4_triesOrders_1 11 rfl rfl)
theorem dX4_triesOrders_36 : decode cX4_triesOrders 36 = .ok (.getfield 354, 3) := dk_180 1 98 (dk_at dksX4_triesOrders_1 12 rfl rfl)
theorem dX4_triesOrders_39 : decode cX4_triesOrders 39 = .ok (.if_icmp .ge 16, 3) := dk_162 0 16 (dk_at dksX4_triesOrders_1 15 rfl rfl)
theorem dX4_triesOrders_42 : decode cX4_triesOrders 42 = .ok (.aload_n 0, 1) := dk_42 (dk_at dksX4_triesOrders_1 18 rfl rfl)
theorem dX4_triesOrders_43 : decode cX4_triesOrders 43 = .ok (.iload_n 1, 1) := dk_27 (dk_at dksX4_triesOrders_1 19 rfl rfl)
theorem dX4_triesOrders_44 : decode cX4_triesOrders 44 = .ok (.putfield 348, 3) := dk_181 1 92 (dk_at dksX4_triesOrders_1 20 rfl rfl)
theorem dX4_triesOrders_47 : decode cX4_triesOrders 47 = .ok (.aload_n 0, 1) := dk_42 (dk_at dksX4_triesOrders_1 23 rfl rfl)
theorem dX4_triesOrders_48 : decode cX4_triesOrders 48 = .ok (.aload_n 0, 1) := dk_42 (dk_at dksX4_triesOrders_2 0 rfl rfl)
theorem dX4_triesOrders_49 : decode cX4_triesOrders 49 = .ok (.getfield 244, 3) := dk_180 0 244 (dk_at dksX4_triesOrders_2 1 rfl rfl)
theorem dX4_triesOrders_52 : decode cX4_triesOrders 52 = .ok (.putfield 354, 3) := dk_181 1 98 (dk_at dksX4_triesOrders_2 4 rfl rfl)
theorem dX4_triesOrders_55 : decode cX4_triesOrders 55 = .ok (.aload_n 0, 1) := dk_42 (dk_at dksX4_triesOrders_2 7 rfl rfl)
theorem dX4_triesOrders_56 : decode cX4_triesOrders 56 = .ok (.aload_n 0, 1) := dk_42 (dk_at dksX4_triesOrders_2 8 rfl rfl)
theorem dX4_triesOrders_57 : decode cX4_triesOrders 57 = .ok (.getfield 351, 3) := dk_180 1 95 (dk_at dksX4_triesOrders_2 9 rfl rfl)
theorem dX4_triesOrders_60 : decode cX4_triesOrders 60 = .ok (.aload_n 0, 1) := dk_42 (dk_at dksX4_triesOrders_2 12 rfl rfl)
theorem dX4_triesOrders_61 : decode cX4_triesOrders 61 = .ok (.getfield 244, 3) := dk_180 0 244 (dk_at dksX4_triesOrders_2 13 rfl rfl)
theorem dX4_triesOrders_64 : decode cX4_triesOrders 64 = .ok (.invokestatic 239, 3) := dk_184 0 239 (dk_at dksX4_triesOrders_2 16 rfl rfl)
theorem dX4_triesOrders_67 : decode cX4_triesOrders 67 = .ok (.putfield 351, 3) := dk_181 1 95 (dk_at dksX4_triesOrders_2 19 rfl rfl)
theorem dX4_triesOrders_70 : decode cX4_triesOrders 70 = .ok (.iinc 1 1, 3) := dk_132 1 1 (dk_at dksX4_triesOrders_3 0 rfl rfl)
theorem dX4_triesOrders_73 : decode cX4_triesOrders 73 = .ok (.goto (-61), 3) := dk_167 255 195 (dk_at dksX4_triesOrders_3 3 rfl rfl)
theorem dX4_triesOrders_76 : decode cX4_triesOrders 76 = .ok (.return_, 1) := dk_177 (dk_at dksX4_triesOrders_3 6 rfl rfl)
abbrev cX4_plain : ByteArray := prog_13_method_88_code
def yX4_plain : MethodName := ⟨RX4, "plain", "()I"⟩
def dkwX4_plain_2 : List UInt8 := [172]
abbrev dktX4_plain_2 : List UInt8 := dkwX4_plain_2 ++ []
def dkwX4_plain_1 : List UInt8 := [182, 0, 176, 153, 0, 11, 42, 28, 182, 0, 186, 167, 0, 4, 4, 104, 60, 132, 2, 1, 167, 255, 225, 27]
abbrev dktX4_plain_1 : List UInt8 := dkwX4_plain_1 ++ dktX4_plain_2
def dkwX4_plain_0 : List UInt8 := [42, 182, 1, 21, 154, 0, 5, 2, 172, 4, 60, 3, 61, 28, 42, 180, 0, 173, 162, 0, 29, 27, 42, 28]
abbrev dktX4_plain_0 : List UInt8 := dkwX4_plain_0 ++ dktX4_plain_1
theorem dksX4_plain_0 : cX4_plain.data.toList.drop 0 = dktX4_plain_0 := by decide +kernel
theorem dksX4_plain_1 : cX4_plain.data.toList.drop 24 = dktX4_plain_1 := dk_seg dksX4_plain_0 24 rfl rfl
theorem dksX4_plain_2 : cX4_plain.data.toList.drop 48 = dktX4_plain_2 := dk_seg dksX4_plain_1 24 rfl rfl
theorem dX4_plain_0 : decode cX4_plain 0 = .ok (.aload_n 0, 1) := dk_42 (dk_at dksX4_plain_0 0 rfl rfl)
theorem dX4_plain_1 : decode cX4_plain 1 = .ok (.invokevirtual 277, 3) := dk_182 1 21 (dk_at dksX4_plain_0 1 rfl rfl)
theorem dX4_plain_4 : decode cX4_plain 4 = .ok (.ifCond .ne 5, 3) := dk_154 0 5 (dk_at dksX4_plain_0 4 rfl rfl)
theorem dX4_plain_7 : decode cX4_plain 7 = .ok (.iconst (-1), 1) := dk_2 (dk_at dksX4_plain_0 7 rfl rfl)
theorem dX4_plain_8 : decode cX4_plain 8 = .ok (.ireturn, 1) := dk_172 (dk_at dksX4_plain_0 8 rfl rfl)
theorem dX4_plain_9 : decode cX4_plain 9 = .ok (.iconst 1, 1) := dk_4 (dk_at dksX4_plain_0 9 rfl rfl)
theorem dX4_plain_10 : decode cX4_plain 10 = .ok (.istore_n 1, 1) := dk_60 (dk_at dksX4_plain_0 10 rfl rfl)
theorem dX4_plain_11 : decode cX4_plain 11 = .ok (.iconst 0, 1) := dk_3 (dk_at dksX4_plain_0 11 rfl rfl)
theorem dX4_plain_12 : decode cX4_plain 12 = .ok (.istore_n 2, 1) := dk_61 (dk_at dksX4_plain_0 12 rfl rfl)
theorem dX4_plain_13 : decode cX4_plain 13 = .ok (.iload_n 2, 1) := dk_28 (dk_at dksX4_plain_0 13 rfl rfl)
theorem dX4_plain_14 : decode cX4_plain 14 = .ok (.aload_n 0, 1) := dk_42 (dk_at dksX4_plain_0 14 rfl rfl)
theorem dX4_plain_15 : decode cX4_plain 15 = .ok (.getfield 173, 3) := dk_180 0 173 (dk_at dksX4_plain_0 15 rfl rfl)
theorem dX4_plain_18 : decode cX4_plain 18 = .ok (.if_icmp .ge 29, 3) := dk_162 0 29 (dk_at dksX4_plain_0 18 rfl rfl)
theorem dX4_plain_21 : decode cX4_plain 21 = .ok (.iload_n 1, 1) := dk_27 (dk_at dksX4_plain_0 21 rfl rfl)
theorem dX4_plain_22 : decode cX4_plain 22 = .ok (.aload_n 0, 1) := dk_42 (dk_at dksX4_plain_0 22 rfl rfl)
theorem dX4_plain_23 : decode cX4_plain 23 = .ok (.iload_n 2, 1) := dk_28 (dk_at dksX4_plain_0 23 rfl rfl)
theorem dX4_plain_24 : decode cX4_plain 24 = .ok (.invokevirtual 176, 3) := dk_182 0 176 (dk_at dksX4_plain_1 0 rfl rfl)
theorem dX4_plain_27 : decode cX4_plain 27 = .ok (.ifCond .eq 11, 3) := dk_153 0 11 (dk_at dksX4_plain_1 3 rfl rfl)
theorem dX4_plain_30 : decode cX4_plain 30 = .ok (.aload_n 0, 1) := dk_42 (dk_at dksX4_plain_1 6 rfl rfl)
theorem dX4_plain_31 : decode cX4_plain 31 = .ok (.iload_n 2, 1) := dk_28 (dk_at dksX4_plain_1 7 rfl rfl)
theorem dX4_plain_32 : decode cX4_plain 32 = .ok (.invokevirtual 186, 3) := dk_182 0 186 (dk_at dksX4_plain_1 8 rfl rfl)
theorem dX4_plain_35 : decode cX4_plain 35 = .ok (.goto 4, 3) := dk_167 0 4 (dk_at dksX4_plain_1 11 rfl rfl)
theorem dX4_plain_38 : decode cX4_plain 38 = .ok (.iconst 1, 1) := dk_4 (dk_at dksX4_plain_1 14 rfl rfl)
theorem dX4_plain_39 : decode cX4_plain 39 = .ok (.imul, 1) := dk_104 (dk_at dksX4_plain_1 15 rfl rfl)
theorem dX4_plain_40 : decode cX4_plain 40 = .ok (.istore_n 1, 1) := dk_60 (dk_at dksX4_plain_1 16 rfl rfl)
theorem dX4_plain_41 : decode cX4_plain 41 = .ok (.iinc 2 1, 3) := dk_132 2 1 (dk_at dksX4_plain_1 17 rfl rfl)
theorem dX4_plain_44 : decode cX4_plain 44 = .ok (.goto (-31), 3) := dk_167 255 225 (dk_at dksX4_plain_1 20 rfl rfl)
theorem dX4_plain_47 : decode cX4_plain 47 = .ok (.iload_n 1, 1) := dk_27 (dk_at dksX4_plain_1 23 rfl rfl)
theorem dX4_plain_48 : decode cX4_plain 48 = .ok (.ireturn, 1) := dk_172 (dk_at dksX4_plain_2 0 rfl rfl)
abbrev cX4_given : ByteArray := prog_13_method_91_code
def yX4_given : MethodName := ⟨RX4, "given", "(I)I"⟩
def dkwX4_given_0 : List UInt8 := [42, 27, 182, 1, 25, 154, 0, 5, 2, 172, 42, 182, 1, 40, 42, 27, 182, 1, 107, 172]
abbrev dktX4_given_0 : List UInt8 := dkwX4_given_0 ++ []
theorem dksX4_given_0 : cX4_given.data.toList.drop 0 = dktX4_given_0 := by decide +kernel
theorem dX4_given_0 : decode cX4_given 0 = .ok (.aload_n 0, 1) := dk_42 (dk_at dksX4_given_0 0 rfl rfl)
theorem dX4_given_1 : decode cX4_given 1 = .ok (.iload_n 1, 1) := dk_27 (dk_at dksX4_given_0 1 rfl rfl)
theorem dX4_given_2 : decode cX4_given 2 = .ok (.invokevirtual 281, 3) := dk_182 1 25 (dk_at dksX4_given_0 2 rfl rfl)
theorem dX4_given_5 : decode cX4_given 5 = .ok (.ifCond .ne 5, 3) := dk_154 0 5 (dk_at dksX4_given_0 5 rfl rfl)
theorem dX4_given_8 : decode cX4_given 8 = .ok (.iconst (-1), 1) := dk_2 (dk_at dksX4_given_0 8 rfl rfl)
theorem dX4_given_9 : decode cX4_given 9 = .ok (.ireturn, 1) := dk_172 (dk_at dksX4_given_0 9 rfl rfl)
theorem dX4_given_10 : decode cX4_given 10 = .ok (.aload_n 0, 1) := dk_42 (dk_at dksX4_given_0 10 rfl rfl)
theorem dX4_given_11 : decode cX4_given 11 = .ok (.invokevirtual 296, 3) := dk_182 1 40 (dk_at dksX4_given_0 11 rfl rfl)
theorem dX4_given_14 : decode cX4_given 14 = .ok (.aload_n 0, 1) := dk_42 (dk_at dksX4_given_0 14 rfl rfl)
theorem dX4_given_15 : decode cX4_given 15 = .ok (.iload_n 1, 1) := dk_27 (dk_at dksX4_given_0 15 rfl rfl)
theorem dX4_given_16 : decode cX4_given 16 = .ok (.invokevirtual 363, 3) := dk_182 1 107 (dk_at dksX4_given_0 16 rfl rfl)
theorem dX4_given_19 : decode cX4_given 19 = .ok (.ireturn, 1) := dk_172 (dk_at dksX4_given_0 19 rfl rfl)
abbrev cX4_givenBy : ByteArray := prog_13_method_90_code
def yX4_givenBy : MethodName := ⟨RX4, "givenBy", "(I)I"⟩
def dkwX4_givenBy_3 : List UInt8 := [167, 255, 189, 28, 172]
abbrev dktX4_givenBy_3 : List UInt8 := dkwX4_givenBy_3 ++ []
def dkwX4_givenBy_2 : List UInt8 := [182, 1, 104, 153, 0, 9, 4, 29, 120, 167, 0, 4, 3, 128, 61, 132, 4, 1, 167, 255, 215, 132, 3, 1]
abbrev dktX4_givenBy_2 : List UInt8 := dkwX4_givenBy_2 ++ dktX4_givenBy_3
def dkwX4_givenBy_1 : List UInt8 := [21, 4, 42, 180, 0, 247, 162, 0, 38, 28, 29, 184, 0, 131, 154, 0, 30, 28, 42, 21, 4, 27, 29]
abbrev dktX4_givenBy_1 : List UInt8 := dkwX4_givenBy_1 ++ dktX4_givenBy_2
def dkwX4_givenBy_0 : List UInt8 := [3, 61, 3, 62, 29, 42, 27, 182, 0, 186, 162, 0, 64, 42, 27, 182, 0, 176, 153, 0, 56, 3, 54, 4]
abbrev dktX4_givenBy_0 : List UInt8 := dkwX4_givenBy_0 ++ dktX4_givenBy_1
theorem dksX4_givenBy_0 : cX4_givenBy.data.toList.drop 0 = dktX4_givenBy_0 := by decide +kernel
theorem dksX4_givenBy_1 : cX4_givenBy.data.toList.drop 24 = dktX4_givenBy_1 := dk_seg dksX4_givenBy_0 24 rfl rfl
theorem dksX4_givenBy_2 : cX4_givenBy.data.toList.drop 47 = dktX4_givenBy_2 := dk_seg dksX4_givenBy_1 23 rfl rfl
theorem dksX4_givenBy_3 : cX4_givenBy.data.toList.drop 71 = dktX4_givenBy_3 := dk_seg dksX4_givenBy_2 24 rfl rfl
theorem dX4_givenBy_0 : decode cX4_givenBy 0 = .ok (.iconst 0, 1) := dk_3 (dk_at dksX4_givenBy_0 0 rfl rfl)
theorem dX4_givenBy_1 : decode cX4_givenBy 1 = .ok (.istore_n 2, 1) := dk_61 (dk_at dksX4_givenBy_0 1 rfl rfl)
theorem dX4_givenBy_2 : decode cX4_givenBy 2 = .ok (.iconst 0, 1) := dk_3 (dk_at dksX4_givenBy_0 2 rfl rfl)
theorem dX4_givenBy_3 : decode cX4_givenBy 3 = .ok (.istore_n 3, 1) := dk_62 (dk_at dksX4_givenBy_0 3 rfl rfl)
theorem dX4_givenBy_4 : decode cX4_givenBy 4 = .ok (.iload_n 3, 1) := dk_29 (dk_at dksX4_givenBy_0 4 rfl rfl)
theorem dX4_givenBy_5 : decode cX4_givenBy 5 = .ok (.aload_n 0, 1) := dk_42 (dk_at dksX4_givenBy_0 5 rfl rfl)
theorem dX4_givenBy_6 : decode cX4_givenBy 6 = .ok (.iload_n 1, 1) := dk_27 (dk_at dksX4_givenBy_0 6 rfl rfl)
theorem dX4_givenBy_7 : decode cX4_givenBy 7 = .ok (.invokevirtual 186, 3) := dk_182 0 186 (dk_at dksX4_givenBy_0 7 rfl rfl)
theorem dX4_givenBy_10 : decode cX4_givenBy 10 = .ok (.if_icmp .ge 64, 3) := dk_162 0 64 (dk_at dksX4_givenBy_0 10 rfl rfl)
theorem dX4_givenBy_13 : decode cX4_givenBy 13 = .ok (.aload_n 0, 1) := dk_42 (dk_at dksX4_givenBy_0 13 rfl rfl)
theorem dX4_givenBy_14 : decode cX4_givenBy 14 = .ok (.iload_n 1, 1) := dk_27 (dk_at dksX4_givenBy_0 14 rfl rfl)
theorem dX4_givenBy_15 : decode cX4_givenBy 15 = .ok (.invokevirtual 176, 3) := dk_182 0 176 (dk_at dksX4_givenBy_0 15 rfl rfl)
theorem dX4_givenBy_18 : decode cX4_givenBy 18 = .ok (.ifCond .eq 56, 3) := dk_153 0 56 (dk_at dksX4_givenBy_0 18 rfl rfl)
theorem dX4_givenBy_21 : decode cX4_givenBy 21 = .ok (.iconst 0, 1) := dk_3 (dk_at dksX4_givenBy_0 21 rfl rfl)
theorem dX4_givenBy_22 : decode cX4_givenBy 22 = .ok (.istore 4, 2) := dk_54 4 (dk_at dksX4_givenBy_0 22 rfl rfl)
theorem dX4_givenBy_24 : decode cX4_givenBy 24 = .ok (.iload 4, 2) := dk_21 4 (dk_at dksX4_givenBy_1 0 rfl rfl)
theorem dX4_givenBy_26 : decode cX4_givenBy 26 = .ok (.aload_n 0, 1) := dk_42 (dk_at dksX4_givenBy_1 2 rfl rfl)
theorem dX4_givenBy_27 : decode cX4_givenBy 27 = .ok (.getfield 247, 3) := dk_180 0 247 (dk_at dksX4_givenBy_1 3 rfl rfl)
theorem dX4_givenBy_30 : decode cX4_givenBy 30 = .ok (.if_icmp .ge 38, 3) := dk_162 0 38 (dk_at dksX4_givenBy_1 6 rfl rfl)
theorem dX4_givenBy_33 : decode cX4_givenBy 33 = .ok (.iload_n 2, 1) := dk_28 (dk_at dksX4_givenBy_1 9 rfl rfl)
theorem dX4_givenBy_34 : decode cX4_givenBy 34 = .ok (.iload_n 3, 1) := dk_29 (dk_at dksX4_givenBy_1 10 rfl rfl)
theorem dX4_givenBy_35 : decode cX4_givenBy 35 = .ok (.invokestatic 131, 3) := dk_184 0 131 (dk_at dksX4_givenBy_1 11 rfl rfl)
theorem dX4_givenBy_38 : decode cX4_givenBy 38 = .ok (.ifCond .ne 30, 3) := dk_154 0 30 (dk_at dksX4_givenBy_1 14 rfl rfl)
theorem dX4_givenBy_41 : decode cX4_givenBy 41 = .ok (.iload_n 2, 1) := dk_28 (dk_at dksX4_givenBy_1 17 rfl rfl)
theorem dX4_givenBy_42 : decode cX4_givenBy 42 = .ok (.aload_n 0, 1) := dk_42 (dk_at dksX4_givenBy_1 18 rfl rfl)
theorem dX4_givenBy_43 : decode cX4_givenBy 43 = .ok (.iload 4, 2) := dk_21 4 (dk_at dksX4_givenBy_1 19 rfl rfl)
theorem dX4_givenBy_45 : decode cX4_givenBy 45 = .ok (.iload_n 1, 1) := dk_27 (dk_at dksX4_givenBy_1 21 rfl rfl)
theorem dX4_givenBy_46 : decode cX4_givenBy 46 = .ok (.iload_n 3, 1) := dk_29 (dk_at dksX4_givenBy_1 22 rfl rfl)
theorem dX4_givenBy_47 : decode cX4_givenBy 47 = .ok (.invokevirtual 360, 3) := dk_182 1 104 (dk_at dksX4_givenBy_2 0 rfl rfl)
theorem dX4_givenBy_50 : decode cX4_givenBy 50 = .ok (.ifCond .eq 9, 3) := dk_153 0 9 (dk_at dksX4_givenBy_2 3 rfl rfl)
theorem dX4_givenBy_53 : decode cX4_givenBy 53 = .ok (.iconst 1, 1) := dk_4 (dk_at dksX4_givenBy_2 6 rfl rfl)
theorem dX4_givenBy_54 : decode cX4_givenBy 54 = .ok (.iload_n 3, 1) := dk_29 (dk_at dksX4_givenBy_2 7 rfl rfl)
theorem dX4_givenBy_55 : decode cX4_givenBy 55 = .ok (.ishl, 1) := dk_120 (dk_at dksX4_givenBy_2 8 rfl rfl)
theorem dX4_givenBy_56 : decode cX4_givenBy 56 = .ok (.goto 4, 3) := dk_167 0 4 (dk_at dksX4_givenBy_2 9 rfl rfl)
theorem dX4_givenBy_59 : decode cX4_givenBy 59 = .ok (.iconst 0, 1) := dk_3 (dk_at dksX4_givenBy_2 12 rfl rfl)
theorem dX4_givenBy_60 : decode cX4_givenBy 60 = .ok (.ior, 1) := dk_128 (dk_at dksX4_givenBy_2 13 rfl rfl)
theorem dX4_givenBy_61 : decode cX4_givenBy 61 = .ok (.istore_n 2, 1) := dk_61 (dk_at dksX4_givenBy_2 14 rfl rfl)
theorem dX4_givenBy_62 : decode cX4_givenBy 62 = .ok (.iinc 4 1, 3) := dk_132 4 1 (dk_at dksX4_givenBy_2 15 rfl rfl)
theorem dX4_givenBy_65 : decode cX4_givenBy 65 = .ok (.goto (-41), 3) := dk_167 255 215 (dk_at dksX4_givenBy_2 18 rfl rfl)
theorem dX4_givenBy_68 : decode cX4_givenBy 68 = .ok (.iinc 3 1, 3) := dk_132 3 1 (dk_at dksX4_givenBy_2 21 rfl rfl)
theorem dX4_givenBy_71 : decode cX4_givenBy 71 = .ok (.goto (-67), 3) := dk_167 255 189 (dk_at dksX4_givenBy_3 0 rfl rfl)
theorem dX4_givenBy_74 : decode cX4_givenBy 74 = .ok (.iload_n 2, 1) := dk_28 (dk_at dksX4_givenBy_3 3 rfl rfl)
theorem dX4_givenBy_75 : decode cX4_givenBy 75 = .ok (.ireturn, 1) := dk_172 (dk_at dksX4_givenBy_3 4 rfl rfl)
abbrev cX4_isOf : ByteArray := prog_13_method_89_code
def yX4_isOf : MethodName := ⟨RX4, "isOf", "(III)Z"⟩
def dkwX4_isOf_2 : List UInt8 := [21, 5, 96, 46, 160, 0, 7, 4, 167, 0, 4, 3, 54, 4, 132, 5, 1, 167, 255, 198, 21, 4, 172]
abbrev dktX4_isOf_2 : List UInt8 := dkwX4_isOf_2 ++ []
def dkwX4_isOf_1 : List UInt8 := [42, 180, 0, 40, 6, 28, 104, 21, 5, 96, 46, 182, 1, 89, 42, 180, 0, 31, 28, 29, 184, 0, 182]
abbrev dktX4_isOf_1 : List UInt8 := dkwX4_isOf_1 ++ dktX4_isOf_2
def dkwX4_isOf_0 : List UInt8 := [4, 54, 4, 3, 54, 5, 21, 5, 42, 180, 0, 37, 28, 46, 162, 0, 53, 21, 4, 153, 0, 39, 42, 27]
abbrev dktX4_isOf_0 : List UInt8 := dkwX4_isOf_0 ++ dktX4_isOf_1
theorem dksX4_isOf_0 : cX4_isOf.data.toList.drop 0 = dktX4_isOf_0 := by decide +kernel
theorem dksX4_isOf_1 : cX4_isOf.data.toList.drop 24 = dktX4_isOf_1 := dk_seg dksX4_isOf_0 24 rfl rfl
theorem dksX4_isOf_2 : cX4_isOf.data.toList.drop 47 = dktX4_isOf_2 := dk_seg dksX4_isOf_1 23 rfl rfl
theorem dX4_isOf_0 : decode cX4_isOf 0 = .ok (.iconst 1, 1) := dk_4 (dk_at dksX4_isOf_0 0 rfl rfl)
theorem dX4_isOf_1 : decode cX4_isOf 1 = .ok (.istore 4, 2) := dk_54 4 (dk_at dksX4_isOf_0 1 rfl rfl)
theorem dX4_isOf_3 : decode cX4_isOf 3 = .ok (.iconst 0, 1) := dk_3 (dk_at dksX4_isOf_0 3 rfl rfl)
theorem dX4_isOf_4 : decode cX4_isOf 4 = .ok (.istore 5, 2) := dk_54 5 (dk_at dksX4_isOf_0 4 rfl rfl)
theorem dX4_isOf_6 : decode cX4_isOf 6 = .ok (.iload 5, 2) := dk_21 5 (dk_at dksX4_isOf_0 6 rfl rfl)
theorem dX4_isOf_8 : decode cX4_isOf 8 = .ok (.aload_n 0, 1) := dk_42 (dk_at dksX4_isOf_0 8 rfl rfl)
theorem dX4_isOf_9 : decode cX4_isOf 9 = .ok (.getfield 37, 3) := dk_180 0 37 (dk_at dksX4_isOf_0 9 rfl rfl)
theorem dX4_isOf_12 : decode cX4_isOf 12 = .ok (.iload_n 2, 1) := dk_28 (dk_at dksX4_isOf_0 12 rfl rfl)
theorem dX4_isOf_13 : decode cX4_isOf 13 = .ok (.iaload, 1) := dk_46 (dk_at dksX4_isOf_0 13 rfl rfl)
theorem dX4_isOf_14 : decode cX4_isOf 14 = .ok (.if_icmp .ge 53, 3) := dk_162 0 53 (dk_at dksX4_isOf_0 14 rfl rfl)
theorem dX4_isOf_17 : decode cX4_isOf 17 = .ok (.iload 4, 2) := dk_21 4 (dk_at dksX4_isOf_0 17 rfl rfl)
theorem dX4_isOf_19 : decode cX4_isOf 19 = .ok (.ifCond .eq 39, 3) := dk_153 0 39 (dk_at dksX4_isOf_0 19 rfl rfl)
theorem dX4_isOf_22 : decode cX4_isOf 22 = .ok (.aload_n 0, 1) := dk_42 (dk_at dksX4_isOf_0 22 rfl rfl)
theorem dX4_isOf_23 : decode cX4_isOf 23 = .ok (.iload_n 1, 1) := dk_27 (dk_at dksX4_isOf_0 23 rfl rfl)
theorem dX4_isOf_24 : decode cX4_isOf 24 = .ok (.aload_n 0, 1) := dk_42 (dk_at dksX4_isOf_1 0 rfl rfl)
theorem dX4_isOf_25 : decode cX4_isOf 25 = .ok (.getfield 40, 3) := dk_180 0 40 (dk_at dksX4_isOf_1 1 rfl rfl)
theorem dX4_isOf_28 : decode cX4_isOf 28 = .ok (.iconst 3, 1) := dk_6 (dk_at dksX4_isOf_1 4 rfl rfl)
theorem dX4_isOf_29 : decode cX4_isOf 29 = .ok (.iload_n 2, 1) := dk_28 (dk_at dksX4_isOf_1 5 rfl rfl)
theorem dX4_isOf_30 : decode cX4_isOf 30 = .ok (.imul, 1) := dk_104 (dk_at dksX4_isOf_1 6 rfl rfl)
theorem dX4_isOf_31 : decode cX4_isOf 31 = .ok (.iload 5, 2) := dk_21 5 (dk_at dksX4_isOf_1 7 rfl rfl)
theorem dX4_isOf_33 : decode cX4_isOf 33 = .ok (.iadd, 1) := dk_96 (dk_at dksX4_isOf_1 9 rfl rfl)
theorem dX4_isOf_34 : decode cX4_isOf 34 = .ok (.iaload, 1) := dk_46 (dk_at dksX4_isOf_1 10 rfl rfl)
theorem dX4_isOf_35 : decode cX4_isOf 35 = .ok (.invokevirtual 345, 3) := dk_182 1 89 (dk_at dksX4_isOf_1 11 rfl rfl)
theorem dX4_isOf_38 : decode cX4_isOf 38 = .ok (.aload_n 0, 1) := dk_42 (dk_at dksX4_isOf_1 14 rfl rfl)
theorem dX4_isOf_39 : decode cX4_isOf 39 = .ok (.getfield 31, 3) := dk_180 0 31 (dk_at dksX4_isOf_1 15 rfl rfl)
theorem dX4_isOf_42 : decode cX4_isOf 42 = .ok (.iload_n 2, 1) := dk_28 (dk_at dksX4_isOf_1 18 rfl rfl)
theorem dX4_isOf_43 : decode cX4_isOf 43 = .ok (.iload_n 3, 1) := dk_29 (dk_at dksX4_isOf_1 19 rfl rfl)
theorem dX4_isOf_44 : decode cX4_isOf 44 = .ok (.invokestatic 182, 3) := dk_184 0 182 (dk_at dksX4_isOf_1 20 rfl rfl)
theorem dX4_isOf_47 : decode cX4_isOf 47 = .ok (.iload 5, 2) := dk_21 5 (dk_at dksX4_isOf_2 0 rfl rfl)
theorem dX4_isOf_49 : decode cX4_isOf 49 = .ok (.iadd, 1) := dk_96 (dk_at dksX4_isOf_2 2 rfl rfl)
theorem dX4_isOf_50 : decode cX4_isOf 50 = .ok (.iaload, 1) := dk_46 (dk_at dksX4_isOf_2 3 rfl rfl)
theorem dX4_isOf_51 : decode cX4_isOf 51 = .ok (.if_icmp .ne 7, 3) := dk_160 0 7 (dk_at dksX4_isOf_2 4 rfl rfl)
theorem dX4_isOf_54 : decode cX4_isOf 54 = .ok (.iconst 1, 1) := dk_4 (dk_at dksX4_isOf_2 7 rfl rfl)
theorem dX4_isOf_55 : decode cX4_isOf 55 = .ok (.goto 4, 3) := dk_167 0 4 (dk_at dksX4_isOf_2 8 rfl rfl)
theorem dX4_isOf_58 : decode cX4_isOf 58 = .ok (.iconst 0, 1) := dk_3 (dk_at dksX4_isOf_2 11 rfl rfl)
theorem dX4_isOf_59 : decode cX4_isOf 59 = .ok (.istore 4, 2) := dk_54 4 (dk_at dksX4_isOf_2 12 rfl rfl)
theorem dX4_isOf_61 : decode cX4_isOf 61 = .ok (.iinc 5 1, 3) := dk_132 5 1 (dk_at dksX4_isOf_2 14 rfl rfl)
theorem dX4_isOf_64 : decode cX4_isOf 64 = .ok (.goto (-58), 3) := dk_167 255 198 (dk_at dksX4_isOf_2 17 rfl rfl)
theorem dX4_isOf_67 : decode cX4_isOf 67 = .ok (.iload 4, 2) := dk_21 4 (dk_at dksX4_isOf_2 20 rfl rfl)
theorem dX4_isOf_69 : decode cX4_isOf 69 = .ok (.ireturn, 1) := dk_172 (dk_at dksX4_isOf_2 22 rfl rfl)
abbrev cX4_without : ByteArray := prog_13_method_92_code
def yX4_without : MethodName := ⟨RX4, "without", "(I)I"⟩
def dkwX4_without_2 : List UInt8 := [62, 42, 180, 0, 31, 3, 28, 79, 29, 172]
abbrev dktX4_without_2 : List UInt8 := dkwX4_without_2 ++ []
def dkwX4_without_1 : List UInt8 := [180, 0, 31, 3, 46, 61, 42, 180, 0, 31, 3, 92, 46, 4, 27, 120, 2, 130, 126, 79, 42, 182, 1, 43]
abbrev dktX4_without_1 : List UInt8 := dkwX4_without_1 ++ dktX4_without_2
def dkwX4_without_0 : List UInt8 := [42, 27, 182, 1, 25, 153, 0, 15, 42, 180, 0, 31, 3, 46, 4, 27, 120, 160, 0, 5, 2, 172, 42]
abbrev dktX4_without_0 : List UInt8 := dkwX4_without_0 ++ dktX4_without_1
theorem dksX4_without_0 : cX4_without.data.toList.drop 0 = dktX4_without_0 := by decide +kernel
theorem dksX4_without_1 : cX4_without.data.toList.drop 23 = dktX4_without_1 := dk_seg dksX4_without_0 23 rfl rfl
theorem dksX4_without_2 : cX4_without.data.toList.drop 47 = dktX4_without_2 := dk_seg dksX4_without_1 24 rfl rfl
theorem dX4_without_0 : decode cX4_without 0 = .ok (.aload_n 0, 1) := dk_42 (dk_at dksX4_without_0 0 rfl rfl)
theorem dX4_without_1 : decode cX4_without 1 = .ok (.iload_n 1, 1) := dk_27 (dk_at dksX4_without_0 1 rfl rfl)
theorem dX4_without_2 : decode cX4_without 2 = .ok (.invokevirtual 281, 3) := dk_182 1 25 (dk_at dksX4_without_0 2 rfl rfl)
theorem dX4_without_5 : decode cX4_without 5 = .ok (.ifCond .eq 15, 3) := dk_153 0 15 (dk_at dksX4_without_0 5 rfl rfl)
theorem dX4_without_8 : decode cX4_without 8 = .ok (.aload_n 0, 1) := dk_42 (dk_at dksX4_without_0 8 rfl rfl)
theorem dX4_without_9 : decode cX4_without 9 = .ok (.getfield 31, 3) := dk_180 0 31 (dk_at dksX4_without_0 9 rfl rfl)
theorem dX4_without_12 : decode cX4_without 12 = .ok (.iconst 0, 1) := dk_3 (dk_at dksX4_without_0 12 rfl rfl)
theorem dX4_without_13 : decode cX4_without 13 = .ok (.iaload, 1) := dk_46 (dk_at dksX4_without_0 13 rfl rfl)
theorem dX4_without_14 : decode cX4_without 14 = .ok (.iconst 1, 1) := dk_4 (dk_at dksX4_without_0 14 rfl rfl)
theorem dX4_without_15 : decode cX4_without 15 = .ok (.iload_n 1, 1) := dk_27 (dk_at dksX4_without_0 15 rfl rfl)
theorem dX4_without_16 : decode cX4_without 16 = .ok (.ishl, 1) := dk_120 (dk_at dksX4_without_0 16 rfl rfl)
theorem dX4_without_17 : decode cX4_without 17 = .ok (.if_icmp .ne 5, 3) := dk_160 0 5 (dk_at dksX4_without_0 17 rfl rfl)
theorem dX4_without_20 : decode cX4_without 20 = .ok (.iconst (-1), 1) := dk_2 (dk_at dksX4_without_0 20 rfl rfl)
theorem dX4_without_21 : decode cX4_without 21 = .ok (.ireturn, 1) := dk_172 (dk_at dksX4_without_0 21 rfl rfl)
theorem dX4_without_22 : decode cX4_without 22 = .ok (.aload_n 0, 1) := dk_42 (dk_at dksX4_without_0 22 rfl rfl)
theorem dX4_without_23 : decode cX4_without 23 = .ok (.getfield 31, 3) := dk_180 0 31 (dk_at dksX4_without_1 0 rfl rfl)
theorem dX4_without_26 : decode cX4_without 26 = .ok (.iconst 0, 1) := dk_3 (dk_at dksX4_without_1 3 rfl rfl)
theorem dX4_without_27 : decode cX4_without 27 = .ok (.iaload, 1) := dk_46 (dk_at dksX4_without_1 4 rfl rfl)
theorem dX4_without_28 : decode cX4_without 28 = .ok (.istore_n 2, 1) := dk_61 (dk_at dksX4_without_1 5 rfl rfl)
theorem dX4_without_29 : decode cX4_without 29 = .ok (.aload_n 0, 1) := dk_42 (dk_at dksX4_without_1 6 rfl rfl)
theorem dX4_without_30 : decode cX4_without 30 = .ok (.getfield 31, 3) := dk_180 0 31 (dk_at dksX4_without_1 7 rfl rfl)
theorem dX4_without_33 : decode cX4_without 33 = .ok (.iconst 0, 1) := dk_3 (dk_at dksX4_without_1 10 rfl rfl)
theorem dX4_without_34 : decode cX4_without 34 = .ok (.dup2, 1) := dk_92 (dk_at dksX4_without_1 11 rfl rfl)
theorem dX4_without_35 : decode cX4_without 35 = .ok (.iaload, 1) := dk_46 (dk_at dksX4_without_1 12 rfl rfl)
theorem dX4_without_36 : decode cX4_without 36 = .ok (.iconst 1, 1) := dk_4 (dk_at dksX4_without_1 13 rfl rfl)
theorem dX4_without_37 : decode cX4_without 37 = .ok (.iload_n 1, 1) := dk_27 (dk_at dksX4_without_1 14 rfl rfl)
theorem dX4_without_38 : decode cX4_without 38 = .ok (.ishl, 1) := dk_120 (dk_at dksX4_without_1 15 rfl rfl)
theorem dX4_without_39 : decode cX4_without 39 = .ok (.iconst (-1), 1) := dk_2 (dk_at dksX4_without_1 16 rfl rfl)
theorem dX4_without_40 : decode cX4_without 40 = .ok (.ixor, 1) := dk_130 (dk_at dksX4_without_1 17 rfl rfl)
theorem dX4_without_41 : decode cX4_without 41 = .ok (.iand, 1) := dk_126 (dk_at dksX4_without_1 18 rfl rfl)
theorem dX4_without_42 : decode cX4_without 42 = .ok (.iastore, 1) := dk_79 (dk_at dksX4_without_1 19 rfl rfl)
theorem dX4_without_43 : decode cX4_without 43 = .ok (.aload_n 0, 1) := dk_42 (dk_at dksX4_without_1 20 rfl rfl)
theorem dX4_without_44 : decode cX4_without 44 = .ok (.invokevirtual 299, 3) := dk_182 1 43 (dk_at dksX4_without_1 21 rfl rfl)
theorem dX4_without_47 : decode cX4_without 47 = .ok (.istore_n 3, 1) := dk_62 (dk_at dksX4_without_2 0 rfl rfl)
theorem dX4_without_48 : decode cX4_without 48 = .ok (.aload_n 0, 1) := dk_42 (dk_at dksX4_without_2 1 rfl rfl)
theorem dX4_without_49 : decode cX4_without 49 = .ok (.getfield 31, 3) := dk_180 0 31 (dk_at dksX4_without_2 2 rfl rfl)
theorem dX4_without_52 : decode cX4_without 52 = .ok (.iconst 0, 1) := dk_3 (dk_at dksX4_without_2 5 rfl rfl)
theorem dX4_without_53 : decode cX4_without 53 = .ok (.iload_n 2, 1) := dk_28 (dk_at dksX4_without_2 6 rfl rfl)
theorem dX4_without_54 : decode cX4_without 54 = .ok (.iastore, 1) := dk_79 (dk_at dksX4_without_2 7 rfl rfl)
theorem dX4_without_55 : decode cX4_without 55 = .ok (.iload_n 3, 1) := dk_29 (dk_at dksX4_without_2 8 rfl rfl)
theorem dX4_without_56 : decode cX4_without 56 = .ok (.ireturn, 1) := dk_172 (dk_at dksX4_without_2 9 rfl rfl)
abbrev cX4_projected : ByteArray := prog_13_method_94_code
def yX4_projected : MethodName := ⟨RX4, "projected", "(I)I"⟩
def dkwX4_projected_6 : List UInt8 := [96, 61, 42, 180, 0, 77, 21, 4, 4, 84, 132, 3, 1, 167, 255, 161, 28, 172]
abbrev dktX4_projected_6 : List UInt8 := dkwX4_projected_6 ++ []
def dkwX4_projected_5 : List UInt8 := [54, 4, 132, 5, 1, 167, 255, 207, 28, 42, 180, 0, 77, 21, 4, 51, 153, 0, 7, 3, 167, 0, 4, 4]
abbrev dktX4_projected_5 : List UInt8 := dkwX4_projected_5 ++ dktX4_projected_6
def dkwX4_projected_4 : List UInt8 := [180, 0, 71, 16, 100, 21, 5, 104, 42, 29, 21, 5, 182, 1, 89, 96, 46, 96, 167, 0, 5, 21, 4]
abbrev dktX4_projected_4 : List UInt8 := dkwX4_projected_4 ++ dktX4_projected_5
def dkwX4_projected_3 : List UInt8 := [54, 5, 21, 5, 7, 162, 0, 49, 27, 21, 5, 184, 0, 131, 153, 0, 30, 16, 12, 21, 4, 104, 42]
abbrev dktX4_projected_3 : List UInt8 := dkwX4_projected_3 ++ dktX4_projected_4
def dkwX4_projected_2 : List UInt8 := [3, 84, 132, 2, 1, 167, 255, 239, 3, 61, 3, 62, 29, 42, 180, 0, 247, 162, 0, 93, 3, 54, 4, 3]
abbrev dktX4_projected_2 : List UInt8 := dkwX4_projected_2 ++ dktX4_projected_3
def dkwX4_projected_1 : List UInt8 := [126, 153, 0, 5, 2, 172, 42, 182, 1, 110, 3, 61, 28, 17, 81, 0, 162, 0, 16, 42, 180, 0, 77, 28]
abbrev dktX4_projected_1 : List UInt8 := dkwX4_projected_1 ++ dktX4_projected_2
def dkwX4_projected_0 : List UInt8 := [42, 182, 1, 21, 153, 0, 24, 27, 4, 16, 15, 184, 0, 104, 153, 0, 14, 27, 42, 182, 0, 220, 2, 130]
abbrev dktX4_projected_0 : List UInt8 := dkwX4_projected_0 ++ dktX4_projected_1
theorem dksX4_projected_0 : cX4_projected.data.toList.drop 0 = dktX4_projected_0 := by decide +kernel
theorem dksX4_projected_1 : cX4_projected.data.toList.drop 24 = dktX4_projected_1 := dk_seg dksX4_projected_0 24 rfl rfl
theorem dksX4_projected_2 : cX4_projected.data.toList.drop 48 = dktX4_projected_2 := dk_seg dksX4_projected_1 24 rfl rfl
theorem dksX4_projected_3 : cX4_projected.data.toList.drop 72 = dktX4_projected_3 := dk_seg dksX4_projected_2 24 rfl rfl
theorem dksX4_projected_4 : cX4_projected.data.toList.drop 95 = dktX4_projected_4 := dk_seg dksX4_projected_3 23 rfl rfl
theorem dksX4_projected_5 : cX4_projected.data.toList.drop 118 = dktX4_projected_5 := dk_seg dksX4_projected_4 23 rfl rfl
theorem dksX4_projected_6 : cX4_projected.data.toList.drop 142 = dktX4_projected_6 := dk_seg dksX4_projected_5 24 rfl rfl
theorem dX4_projected_0 : decode cX4_projected 0 = .ok (.aload_n 0, 1) := dk_42 (dk_at dksX4_projected_0 0 rfl rfl)
theorem dX4_projected_1 : decode cX4_projected 1 = .ok (.invokevirtual 277, 3) := dk_182 1 21 (dk_at dksX4_projected_0 1 rfl rfl)
theorem dX4_projected_4 : decode cX4_projected 4 = .ok (.ifCond .eq 24, 3) := dk_153 0 24 (dk_at dksX4_projected_0 4 rfl rfl)
theorem dX4_projected_7 : decode cX4_projected 7 = .ok (.iload_n 1, 1) := dk_27 (dk_at dksX4_projected_0 7 rfl rfl)
theorem dX4_projected_8 : decode cX4_projected 8 = .ok (.iconst 1, 1) := dk_4 (dk_at dksX4_projected_0 8 rfl rfl)
theorem dX4_projected_9 : decode cX4_projected 9 = .ok (.bipush 15, 2) := dk_16 15 (dk_at dksX4_projected_0 9 rfl rfl)
theorem dX4_projected_11 : decode cX4_projected 11 = .ok (.invokestatic 104, 3) := dk_184 0 104 (dk_at dksX4_projected_0 11 rfl rfl)
theorem dX4_projected_14 : decode cX4_projected 14 = .ok (.ifCond .eq 14, 3) := dk_153 0 14 (dk_at dksX4_projected_0 14 rfl rfl)
theorem dX4_projected_17 : decode cX4_projected 17 = .ok (.iload_n 1, 1) := dk_27 (dk_at dksX4_projected_0 17 rfl rfl)
theorem dX4_projected_18 : decode cX4_projected 18 = .ok (.aload_n 0, 1) := dk_42 (dk_at dksX4_projected_0 18 rfl rfl)
theorem dX4_projected_19 : decode cX4_projected 19 = .ok (.invokevirtual 220, 3) := dk_182 0 220 (dk_at dksX4_projected_0 19 rfl rfl)
theorem dX4_projected_22 : decode cX4_projected 22 = .ok (.iconst (-1), 1) := dk_2 (dk_at dksX4_projected_0 22 rfl rfl)
theorem dX4_projected_23 : decode cX4_projected 23 = .ok (.ixor, 1) := dk_130 (dk_at dksX4_projected_0 23 rfl rfl)
theorem dX4_projected_24 : decode cX4_projected 24 = .ok (.iand, 1) := dk_126 (dk_at dksX4_projected_1 0 rfl rfl)
theorem dX4_projected_25 : decode cX4_projected 25 = .ok (.ifCond .eq 5, 3) := dk_153 0 5 (dk_at dksX4_projected_1 1 rfl rfl)
theorem dX4_projected_28 : decode cX4_projected 28 = .ok (.iconst (-1), 1) := dk_2 (dk_at dksX4_projected_1 4 rfl rfl)
theorem dX4_projected_29 : decode cX4_projected 29 = .ok (.ireturn, 1) := dk_172 (dk_at dksX4_projected_1 5 rfl rfl)
theorem dX4_projected_30 : decode cX4_projected 30 = .ok (.aload_n 0, 1) := dk_42 (dk_at dksX4_projected_1 6 rfl rfl)
theorem dX4_projected_31 : decode cX4_projected 31 = .ok (.invokevirtual 366, 3) := dk_182 1 110 (dk_at dksX4_projected_1 7 rfl rfl)
theorem dX4_projected_34 : decode cX4_projected 34 = .ok (.iconst 0, 1) := dk_3 (dk_at dksX4_projected_1 10 rfl rfl)
theorem dX4_projected_35 : decode cX4_projected 35 = .ok (.istore_n 2, 1) := dk_61 (dk_at dksX4_projected_1 11 rfl rfl)
theorem dX4_projected_36 : decode cX4_projected 36 = .ok (.iload_n 2, 1) := dk_28 (dk_at dksX4_projected_1 12 rfl rfl)
theorem dX4_projected_37 : decode cX4_projected 37 = .ok (.sipush 20736, 3) := dk_17 81 0 (dk_at dksX4_projected_1 13 rfl rfl)
theorem dX4_projected_40 : decode cX4_projected 40 = .ok (.if_icmp .ge 16, 3) := dk_162 0 16 (dk_at dksX4_projected_1 16 rfl rfl)
theorem dX4_projected_43 : decode cX4_projected 43 = .ok (.aload_n 0, 1) := dk_42 (dk_at dksX4_projected_1 19 rfl rfl)
theorem dX4_projected_44 : decode cX4_projected 44 = .ok (.getfield 77, 3) := dk_180 0 77 (dk_at dksX4_projected_1 20 rfl rfl)
theorem dX4_projected_47 : decode cX4_projected 47 = .ok (.iload_n 2, 1) := dk_28 (dk_at dksX4_projected_1 23 rfl rfl)
theorem dX4_projected_48 : decode cX4_projected 48 = .ok (.iconst 0, 1) := dk_3 (dk_at dksX4_projected_2 0 rfl rfl)
theorem dX4_projected_49 : decode cX4_projected 49 = .ok (.bastore, 1) := dk_84 (dk_at dksX4_projected_2 1 rfl rfl)
theorem dX4_projected_50 : decode cX4_projected 50 = .ok (.iinc 2 1, 3) := dk_132 2 1 (dk_at dksX4_projected_2 2 rfl rfl)
theorem dX4_projected_53 : decode cX4_projected 53 = .ok (.goto (-17), 3) := dk_167 255 239 (dk_at dksX4_projected_2 5 rfl rfl)
theorem dX4_projected_56 : decode cX4_projected 56 = .ok (.iconst 0, 1) := dk_3 (dk_at dksX4_projected_2 8 rfl rfl)
theorem dX4_projected_57 : decode cX4_projected 57 = .ok (.istore_n 2, 1) := dk_61 (dk_at dksX4_projected_2 9 rfl rfl)
theorem dX4_projected_58 : decode cX4_projected 58 = .ok (.iconst 0, 1) := dk_3 (dk_at dksX4_projected_2 10 rfl rfl)
theorem dX4_projected_59 : decode cX4_projected 59 = .ok (.istore_n 3, 1) := dk_62 (dk_at dksX4_projected_2 11 rfl rfl)
theorem dX4_projected_60 : decode cX4_projected 60 = .ok (.iload_n 3, 1) := dk_29 (dk_at dksX4_projected_2 12 rfl rfl)
theorem dX4_projected_61 : decode cX4_projected 61 = .ok (.aload_n 0, 1) := dk_42 (dk_at dksX4_projected_2 13 rfl rfl)
theorem dX4_projected_62 : decode cX4_projected 62 = .ok (.getfield 247, 3) := dk_180 0 247 (dk_at dksX4_projected_2 14 rfl rfl)
theorem dX4_projected_65 : decode cX4_projected 65 = .ok (.if_icmp .ge 93, 3) := dk_162 0 93 (dk_at dksX4_projected_2 17 rfl rfl)
theorem dX4_projected_68 : decode cX4_projected 68 = .ok (.iconst 0, 1) := dk_3 (dk_at dksX4_projected_2 20 rfl rfl)
theorem dX4_projected_69 : decode cX4_projected 69 = .ok (.istore 4, 2) := dk_54 4 (dk_at dksX4_projected_2 21 rfl rfl)
theorem dX4_projected_71 : decode cX4_projected 71 = .ok (.iconst 0, 1) := dk_3 (dk_at dksX4_projected_2 23 rfl rfl)
theorem dX4_projected_72 : decode cX4_projected 72 = .ok (.istore 5, 2) := dk_54 5 (dk_at dksX4_projected_3 0 rfl rfl)
theorem dX4_projected_74 : decode cX4_projected 74 = .ok (.iload 5, 2) := dk_21 5 (dk_at dksX4_projected_3 2 rfl rfl)
theorem dX4_projected_76 : decode cX4_projected 76 = .ok (.iconst 4, 1) := dk_7 (dk_at dksX4_projected_3 4 rfl rfl)
theorem dX4_projected_77 : decode cX4_projected 77 = .ok (.if_icmp .ge 49, 3) := dk_162 0 49 (dk_at dksX4_projected_3 5 rfl rfl)
theorem dX4_projected_80 : decode cX4_projected 80 = .ok (.iload_n 1, 1) := dk_27 (dk_at dksX4_projected_3 8 rfl rfl)
theorem dX4_projected_81 : decode cX4_projected 81 = .ok (.iload 5, 2) := dk_21 5 (dk_at dksX4_projected_3 9 rfl rfl)
theorem dX4_projected_83 : decode cX4_projected 83 = .ok (.invokestatic 131, 3) := dk_184 0 131 (dk_at dksX4_projected_3 11 rfl rfl)
theorem dX4_projected_86 : decode cX4_projected 86 = .ok (.ifCond .eq 30, 3) := dk_153 0 30 (dk_at dksX4_projected_3 14 rfl rfl)
theorem dX4_projected_89 : decode cX4_projected 89 = .ok (.bipush 12, 2) := dk_16 12 (dk_at dksX4_projected_3 17 rfl rfl)
theorem dX4_projected_91 : decode cX4_projected 91 = .ok (.iload 4, 2) := dk_21 4 (dk_at dksX4_projected_3 19 rfl rfl)
theorem dX4_projected_93 : decode cX4_projected 93 = .ok (.imul, 1) := dk_104 (dk_at dksX4_projected_3 21 rfl rfl)
theorem dX4_projected_94 : decode cX4_projected 94 = .ok (.aload_n 0, 1) := dk_42 (dk_at dksX4_projected_3 22 rfl rfl)
theorem dX4_projected_95 : decode cX4_projected 95 = .ok (.getfield 71, 3) := dk_180 0 71 (dk_at dksX4_projected_4 0 rfl rfl)
theorem dX4_projected_98 : decode cX4_projected 98 = .ok (.bipush 100, 2) := dk_16 100 (dk_at dksX4_projected_4 3 rfl rfl)
theorem dX4_projected_100 : decode cX4_projected 100 = .ok (.iload 5, 2) := dk_21 5 (dk_at dksX4_projected_4 5 rfl rfl)
theorem dX4_projected_102 : decode cX4_projected 102 = .ok (.imul, 1) := dk_104 (dk_at dksX4_projected_4 7 rfl rfl)
theorem dX4_projected_103 : decode cX4_projected 103 = .ok (.aload_n 0, 1) := dk_42 (dk_at dksX4_projected_4 8 rfl rfl)
theorem dX4_projected_104 : decode cX4_projected 104 = .ok (.iload_n 3, 1) := dk_29 (dk_at dksX4_projected_4 9 rfl rfl)
theorem dX4_projected_105 : decode cX4_projected 105 = .ok (.iload 5, 2) := dk_21 5 (dk_at dksX4_projected_4 10 rfl rfl)
theorem dX4_projected_107 : decode cX4_projected 107 = .ok (.invokevirtual 345, 3) := dk_182 1 89 (dk_at dksX4_projected_4 12 rfl rfl)
theorem dX4_projected_110 : decode cX4_projected 110 = .ok (.iadd, 1) := dk_96 (dk_at dksX4_projected_4 15 rfl rfl)
theorem dX4_projected_111 : decode cX4_projected 111 = .ok (.iaload, 1) := dk_46 (dk_at dksX4_projected_4 16 rfl rfl)
theorem dX4_projected_112 : decode cX4_projected 112 = .ok (.iadd, 1) := dk_96 (dk_at dksX4_projected_4 17 rfl rfl)
theorem dX4_projected_113 : decode cX4_projected 113 = .ok (.goto 5, 3) := dk_167 0 5 (dk_at dksX4_projected_4 18 rfl rfl)
theorem dX4_projected_116 : decode cX4_projected 116 = .ok (.iload 4, 2) := dk_21 4 (dk_at dksX4_projected_4 21 rfl rfl)
theorem dX4_projected_118 : decode cX4_projected 118 = .ok (.istore 4, 2) := dk_54 4 (dk_at dksX4_projected_5 0 rfl rfl)
theorem dX4_projected_120 : decode cX4_projected 120 = .ok (.iinc 5 1, 3) := dk_132 5 1 (dk_at dksX4_projected_5 2 rfl rfl)
theorem dX4_projected_123 : decode cX4_projected 123 = .ok (.goto (-49), 3) := dk_167 255 207 (dk_at dksX4_projected_5 5 rfl rfl)
theorem dX4_projected_126 : decode cX4_projected 126 = .ok (.iload_n 2, 1) := dk_28 (dk_at dksX4_projected_5 8 rfl rfl)
theorem dX4_projected_127 : decode cX4_projected 127 = .ok (.aload_n 0, 1) := dk_42 (dk_at dksX4_projected_5 9 rfl rfl)
theorem dX4_projected_128 : decode cX4_projected 128 = .ok (.getfield 77, 3) := dk_180 0 77 (dk_at dksX4_projected_5 10 rfl rfl)
theorem dX4_projected_131 : decode cX4_projected 131 = .ok (.iload 4, 2) := dk_21 4 (dk_at dksX4_projected_5 13 rfl rfl)
theorem dX4_projected_133 : decode cX4_projected 133 = .ok (.baload, 1) := dk_51 (dk_at dksX4_projected_5 15 rfl rfl)
theorem dX4_projected_134 : decode cX4_projected 134 = .ok (.ifCond .eq 7, 3) := dk_153 0 7 (dk_at dksX4_projected_5 16 rfl rfl)
theorem dX4_projected_137 : decode cX4_projected 137 = .ok (.iconst 0, 1) := dk_3 (dk_at dksX4_projected_5 19 rfl rfl)
theorem dX4_projected_138 : decode cX4_projected 138 = .ok (.goto 4, 3) := dk_167 0 4 (dk_at dksX4_projected_5 20 rfl rfl)
theorem dX4_projected_141 : decode cX4_projected 141 = .ok (.iconst 1, 1) := dk_4 (dk_at dksX4_projected_5 23 rfl rfl)
theorem dX4_projected_142 : decode cX4_projected 142 = .ok (.iadd, 1) := dk_96 (dk_at dksX4_projected_6 0 rfl rfl)
theorem dX4_projected_143 : decode cX4_projected 143 = .ok (.istore_n 2, 1) := dk_61 (dk_at dksX4_projected_6 1 rfl rfl)
theorem dX4_projected_144 : decode cX4_projected 144 = .ok (.aload_n 0, 1) := dk_42 (dk_at dksX4_projected_6 2 rfl rfl)
theorem dX4_projected_145 : decode cX4_projected 145 = .ok (.getfield 77, 3) := dk_180 0 77 (dk_at dksX4_projected_6 3 rfl rfl)
theorem dX4_projected_148 : decode cX4_projected 148 = .ok (.iload 4, 2) := dk_21 4 (dk_at dksX4_projected_6 6 rfl rfl)
theorem dX4_projected_150 : decode cX4_projected 150 = .ok (.iconst 1, 1) := dk_4 (dk_at dksX4_projected_6 8 rfl rfl)
theorem dX4_projected_151 : decode cX4_projected 151 = .ok (.bastore, 1) := dk_84 (dk_at dksX4_projected_6 9 rfl rfl)
theorem dX4_projected_152 : decode cX4_projected 152 = .ok (.iinc 3 1, 3) := dk_132 3 1 (dk_at dksX4_projected_6 10 rfl rfl)
theorem dX4_projected_155 : decode cX4_projected 155 = .ok (.goto (-95), 3) := dk_167 255 161 (dk_at dksX4_projected_6 13 rfl rfl)
theorem dX4_projected_158 : decode cX4_projected 158 = .ok (.iload_n 2, 1) := dk_28 (dk_at dksX4_projected_6 16 rfl rfl)
theorem dX4_projected_159 : decode cX4_projected 159 = .ok (.ireturn, 1) := dk_172 (dk_at dksX4_projected_6 17 rfl rfl)
abbrev cX4_counts : ByteArray := prog_13_method_93_code
def yX4_counts : MethodName := ⟨RX4, "counts", "()V"⟩
def dkwX4_counts_6 : List UInt8 := [167, 0, 4, 3, 96, 79, 132, 2, 1, 167, 255, 202, 132, 1, 1, 167, 255, 182, 177]
abbrev dktX4_counts_6 : List UInt8 := dkwX4_counts_6 ++ []
def dkwX4_counts_5 : List UInt8 := [42, 180, 0, 74, 27, 92, 46, 42, 180, 0, 68, 16, 100, 27, 104, 28, 96, 46, 158, 0, 7, 4]
abbrev dktX4_counts_5 : List UInt8 := dkwX4_counts_5 ++ dktX4_counts_6
def dkwX4_counts_4 : List UInt8 := [61, 28, 16, 100, 162, 0, 54, 42, 180, 0, 71, 16, 100, 27, 104, 28, 96, 42, 180, 0, 74, 27, 46, 79]
abbrev dktX4_counts_4 : List UInt8 := dkwX4_counts_4 ++ dktX4_counts_5
def dkwX4_counts_3 : List UInt8 := [167, 255, 224, 132, 1, 1, 167, 255, 208, 3, 60, 27, 7, 162, 0, 75, 42, 180, 0, 74, 27, 3, 79, 3]
abbrev dktX4_counts_3 : List UInt8 := dkwX4_counts_3 ++ dktX4_counts_4
def dkwX4_counts_2 : List UInt8 := [16, 100, 28, 104, 3, 42, 27, 28, 182, 1, 89, 184, 0, 239, 96, 92, 46, 4, 96, 79, 132, 2, 1]
abbrev dktX4_counts_2 : List UInt8 := dkwX4_counts_2 ++ dktX4_counts_3
def dkwX4_counts_1 : List UInt8 := [167, 255, 239, 3, 60, 27, 42, 180, 0, 247, 162, 0, 46, 3, 61, 28, 7, 162, 0, 33, 42, 180, 0, 68]
abbrev dktX4_counts_1 : List UInt8 := dkwX4_counts_1 ++ dktX4_counts_2
def dkwX4_counts_0 : List UInt8 := [42, 182, 1, 40, 3, 60, 27, 17, 1, 144, 162, 0, 16, 42, 180, 0, 68, 27, 3, 79, 132, 1, 1]
abbrev dktX4_counts_0 : List UInt8 := dkwX4_counts_0 ++ dktX4_counts_1
theorem dksX4_counts_0 : cX4_counts.data.toList.drop 0 = dktX4_counts_0 := by decide +kernel
theorem dksX4_counts_1 : cX4_counts.data.toList.drop 23 = dktX4_counts_1 := dk_seg dksX4_counts_0 23 rfl rfl
theorem dksX4_counts_2 : cX4_counts.data.toList.drop 47 = dktX4_counts_2 := dk_seg dksX4_counts_1 24 rfl rfl
theorem dksX4_counts_3 : cX4_counts.data.toList.drop 70 = dktX4_counts_3 := dk_seg dksX4_counts_2 23 rfl rfl
theorem dksX4_counts_4 : cX4_counts.data.toList.drop 94 = dktX4_counts_4 := dk_seg dksX4_counts_3 24 rfl rfl
theorem dksX4_counts_5 : cX4_counts.data.toList.drop 118 = dktX4_counts_5 := dk_seg dksX4_counts_4 24 rfl rfl
theorem dksX4_counts_6 : cX4_counts.data.toList.drop 140 = dktX4_counts_6 := dk_seg dksX4_counts_5 22 rfl rfl
theorem dX4_counts_0 : decode cX4_counts 0 = .ok (.aload_n 0, 1) := dk_42 (dk_at dksX4_counts_0 0 rfl rfl)
theorem dX4_counts_1 : decode cX4_counts 1 = .ok (.invokevirtual 296, 3) := dk_182 1 40 (dk_at dksX4_counts_0 1 rfl rfl)
theorem dX4_counts_4 : decode cX4_counts 4 = .ok (.iconst 0, 1) := dk_3 (dk_at dksX4_counts_0 4 rfl rfl)
theorem dX4_counts_5 : decode cX4_counts 5 = .ok (.istore_n 1, 1) := dk_60 (dk_at dksX4_counts_0 5 rfl rfl)
theorem dX4_counts_6 : decode cX4_counts 6 = .ok (.iload_n 1, 1) := dk_27 (dk_at dksX4_counts_0 6 rfl rfl)
theorem dX4_counts_7 : decode cX4_counts 7 = .ok (.sipush 400, 3) := dk_17 1 144 (dk_at dksX4_counts_0 7 rfl rfl)
theorem dX4_counts_10 : decode cX4_counts 10 = .ok (.if_icmp .ge 16, 3) := dk_162 0 16 (dk_at dksX4_counts_0 10 rfl rfl)
theorem dX4_counts_13 : decode cX4_counts 13 = .ok (.aload_n 0, 1) := dk_42 (dk_at dksX4_counts_0 13 rfl rfl)
theorem dX4_counts_14 : decode cX4_counts 14 = .ok (.getfield 68, 3) := dk_180 0 68 (dk_at dksX4_counts_0 14 rfl rfl)
theorem dX4_counts_17 : decode cX4_counts 17 = .ok (.iload_n 1, 1) := dk_27 (dk_at dksX4_counts_0 17 rfl rfl)
theorem dX4_counts_18 : decode cX4_counts 18 = .ok (.iconst 0, 1) := dk_3 (dk_at dksX4_counts_0 18 rfl rfl)
theorem dX4_counts_19 : decode cX4_counts 19 = .ok (.iastore, 1) := dk_79 (dk_at dksX4_counts_0 19 rfl rfl)
theorem dX4_counts_20 : decode cX4_counts 20 = .ok (.iinc 1 1, 3) := dk_132 1 1 (dk_at dksX4_counts_0 20 rfl rfl)
theorem dX4_counts_23 : decode cX4_counts 23 = .ok (.goto (-17), 3) := dk_167 255 239 (dk_at dksX4_counts_1 0 rfl rfl)
theorem dX4_counts_26 : decode cX4_counts 26 = .ok (.iconst 0, 1) := dk_3 (dk_at dksX4_counts_1 3 rfl rfl)
theorem dX4_counts_27 : decode cX4_counts 27 = .ok (.istore_n 1, 1) := dk_60 (dk_at dksX4_counts_1 4 rfl rfl)
theorem dX4_counts_28 : decode cX4_counts 28 = .ok (.iload_n 1, 1) := dk_27 (dk_at dksX4_counts_1 5 rfl rfl)
theorem dX4_counts_29 : decode cX4_counts 29 = .ok (.aload_n 0, 1) := dk_42 (dk_at dksX4_counts_1 6 rfl rfl)
theorem dX4_counts_30 : decode cX4_counts 30 = .ok (.getfield 247, 3) := dk_180 0 247 (dk_at dksX4_counts_1 7 rfl rfl)
theorem dX4_counts_33 : decode cX4_counts 33 = .ok (.if_icmp .ge 46, 3) := dk_162 0 46 (dk_at dksX4_counts_1 10 rfl rfl)
theorem dX4_counts_36 : decode cX4_counts 36 = .ok (.iconst 0, 1) := dk_3 (dk_at dksX4_counts_1 13 rfl rfl)
theorem dX4_counts_37 : decode cX4_counts 37 = .ok (.istore_n 2, 1) := dk_61 (dk_at dksX4_counts_1 14 rfl rfl)
theorem dX4_counts_38 : decode cX4_counts 38 = .ok (.iload_n 2, 1) := dk_28 (dk_at dksX4_counts_1 15 rfl rfl)
theorem dX4_counts_39 : decode cX4_counts 39 = .ok (.iconst 4, 1) := dk_7 (dk_at dksX4_counts_1 16 rfl rfl)
theorem dX4_counts_40 : decode cX4_counts 40 = .ok (.if_icmp .ge 33, 3) := dk_162 0 33 (dk_at dksX4_counts_1 17 rfl rfl)
theorem dX4_counts_43 : decode cX4_counts 43 = .ok (.aload_n 0, 1) := dk_42 (dk_at dksX4_counts_1 20 rfl rfl)
theorem dX4_counts_44 : decode cX4_counts 44 = .ok (.getfield 68, 3) := dk_180 0 68 (dk_at dksX4_counts_1 21 rfl rfl)
theorem dX4_counts_47 : decode cX4_counts 47 = .ok (.bipush 100, 2) := dk_16 100 (dk_at dksX4_counts_2 0 rfl rfl)
theorem dX4_counts_49 : decode cX4_counts 49 = .ok (.iload_n 2, 1) := dk_28 (dk_at dksX4_counts_2 2 rfl rfl)
theorem dX4_counts_50 : decode cX4_counts 50 = .ok (.imul, 1) := dk_104 (dk_at dksX4_counts_2 3 rfl rfl)
theorem dX4_counts_51 : decode cX4_counts 51 = .ok (.iconst 0, 1) := dk_3 (dk_at dksX4_counts_2 4 rfl rfl)
theorem dX4_counts_52 : decode cX4_counts 52 = .ok (.aload_n 0, 1) := dk_42 (dk_at dksX4_counts_2 5 rfl rfl)
theorem dX4_counts_53 : decode cX4_counts 53 = .ok (.iload_n 1, 1) := dk_27 (dk_at dksX4_counts_2 6 rfl rfl)
theorem dX4_counts_54 : decode cX4_counts 54 = .ok (.iload_n 2, 1) := dk_28 (dk_at dksX4_counts_2 7 rfl rfl)
theorem dX4_counts_55 : decode cX4_counts 55 = .ok (.invokevirtual 345, 3) := dk_182 1 89 (dk_at dksX4_counts_2 8 rfl rfl)
theorem dX4_counts_58 : decode cX4_counts 58 = .ok (.invokestatic 239, 3) := dk_184 0 239 (dk_at dksX4_counts_2 11 rfl rfl)
theorem dX4_counts_61 : decode cX4_counts 61 = .ok (.iadd, 1) := dk_96 (dk_at dksX4_counts_2 14 rfl rfl)
theorem dX4_counts_62 : decode cX4_counts 62 = .ok (.dup2, 1) := dk_92 (dk_at dksX4_counts_2 15 rfl rfl)
theorem dX4_counts_63 : decode cX4_counts 63 = .ok (.iaload, 1) := dk_46 (dk_at dksX4_counts_2 16 rfl rfl)
theorem dX4_counts_64 : decode cX4_counts 64 = .ok (.iconst 1, 1) := dk_4 (dk_at dksX4_counts_2 17 rfl rfl)
theorem dX4_counts_65 : decode cX4_counts 65 = .ok (.iadd, 1) := dk_96 (dk_at dksX4_counts_2 18 rfl rfl)
theorem dX4_counts_66 : decode cX4_counts 66 = .ok (.iastore, 1) := dk_79 (dk_at dksX4_counts_2 19 rfl rfl)
theorem dX4_counts_67 : decode cX4_counts 67 = .ok (.iinc 2 1, 3) := dk_132 2 1 (dk_at dksX4_counts_2 20 rfl rfl)
theorem dX4_counts_70 : decode cX4_counts 70 = .ok (.goto (-32), 3) := dk_167 255 224 (dk_at dksX4_counts_3 0 rfl rfl)
theorem dX4_counts_73 : decode cX4_counts 73 = .ok (.iinc 1 1, 3) := dk_132 1 1 (dk_at dksX4_counts_3 3 rfl rfl)
theorem dX4_counts_76 : decode cX4_counts 76 = .ok (.goto (-48), 3) := dk_167 255 208 (dk_at dksX4_counts_3 6 rfl rfl)
theorem dX4_counts_79 : decode cX4_counts 79 = .ok (.iconst 0, 1) := dk_3 (dk_at dksX4_counts_3 9 rfl rfl)
theorem dX4_counts_80 : decode cX4_counts 80 = .ok (.istore_n 1, 1) := dk_60 (dk_at dksX4_counts_3 10 rfl rfl)
theorem dX4_counts_81 : decode cX4_counts 81 = .ok (.iload_n 1, 1) := dk_27 (dk_at dksX4_counts_3 11 rfl rfl)
theorem dX4_counts_82 : decode cX4_counts 82 = .ok (.iconst 4, 1) := dk_7 (dk_at dksX4_counts_3 12 rfl rfl)
theorem dX4_counts_83 : decode cX4_counts 83 = .ok (.if_icmp .ge 75, 3) := dk_162 0 75 (dk_at dksX4_counts_3 13 rfl rfl)
theorem dX4_counts_86 : decode cX4_counts 86 = .ok (.aload_n 0, 1) := dk_42 (dk_at dksX4_counts_3 16 rfl rfl)
theorem dX4_counts_87 : decode cX4_counts 87 = .ok (.getfield 74, 3) := dk_180 0 74 (dk_at dksX4_counts_3 17 rfl rfl)
theorem dX4_counts_90 : decode cX4_counts 90 = .ok (.iload_n 1, 1) := dk_27 (dk_at dksX4_counts_3 20 rfl rfl)
theorem dX4_counts_91 : decode cX4_counts 91 = .ok (.iconst 0, 1) := dk_3 (dk_at dksX4_counts_3 21 rfl rfl)
theorem dX4_counts_92 : decode cX4_counts 92 = .ok (.iastore, 1) := dk_79 (dk_at dksX4_counts_3 22 rfl rfl)
theorem dX4_counts_93 : decode cX4_counts 93 = .ok (.iconst 0, 1) := dk_3 (dk_at dksX4_counts_3 23 rfl rfl)
theorem dX4_counts_94 : decode cX4_counts 94 = .ok (.istore_n 2, 1) := dk_61 (dk_at dksX4_counts_4 0 rfl rfl)
theorem dX4_counts_95 : decode cX4_counts 95 = .ok (.iload_n 2, 1) := dk_28 (dk_at dksX4_counts_4 1 rfl rfl)
theorem dX4_counts_96 : decode cX4_counts 96 = .ok (.bipush 100, 2) := dk_16 100 (dk_at dksX4_counts_4 2 rfl rfl)
theorem dX4_counts_98 : decode cX4_counts 98 = .ok (.if_icmp .ge 54, 3) := dk_162 0 54 (dk_at dksX4_counts_4 4 rfl rfl)
theorem dX4_counts_101 : decode cX4_counts 101 = .ok (.aload_n 0, 1) := dk_42 (dk_at dksX4_counts_4 7 rfl rfl)
theorem dX4_counts_102 : decode cX4_counts 102 = .ok (.getfield 71, 3) := dk_180 0 71 (dk_at dksX4_counts_4 8 rfl rfl)
theorem dX4_counts_105 : decode cX4_counts 105 = .ok (.bipush 100, 2) := dk_16 100 (dk_at dksX4_counts_4 11 rfl rfl)
theorem dX4_counts_107 : decode cX4_counts 107 = .ok (.iload_n 1, 1) := dk_27 (dk_at dksX4_counts_4 13 rfl rfl)
theorem dX4_counts_108 : decode cX4_counts 108 = .ok (.imul, 1) := dk_104 (dk_at dksX4_counts_4 14 rfl rfl)
theorem dX4_counts_109 : decode cX4_counts 109 = .ok (.iload_n 2, 1) := dk_28 (dk_at dksX4_counts_4 15 rfl rfl)
theorem dX4_counts_110 : decode cX4_counts 110 = .ok (.iadd, 1) := dk_96 (dk_at dksX4_counts_4 16 rfl rfl)
theorem dX4_counts_111 : decode cX4_counts 111 = .ok (.aload_n 0, 1) := dk_42 (dk_at dksX4_counts_4 17 rfl rfl)
theorem dX4_counts_112 : decode cX4_counts 112 = .ok (.getfield 74, 3) := dk_180 0 74 (dk_at dksX4_counts_4 18 rfl rfl)
theorem dX4_counts_115 : decode cX4_counts 115 = .ok (.iload_n 1, 1) := dk_27 (dk_at dksX4_counts_4 21 rfl rfl)
theorem dX4_counts_116 : decode cX4_counts 116 = .ok (.iaload, 1) := dk_46 (dk_at dksX4_counts_4 22 rfl rfl)
theorem dX4_counts_117 : decode cX4_counts 117 = .ok (.iastore, 1) := dk_79 (dk_at dksX4_counts_4 23 rfl rfl)
theorem dX4_counts_118 : decode cX4_counts 118 = .ok (.aload_n 0, 1) := dk_42 (dk_at dksX4_counts_5 0 rfl rfl)
theorem dX4_counts_119 : decode cX4_counts 119 = .ok (.getfield 74, 3) := dk_180 0 74 (dk_at dksX4_counts_5 1 rfl rfl)
theorem dX4_counts_122 : decode cX4_counts 122 = .ok (.iload_n 1, 1) := dk_27 (dk_at dksX4_counts_5 4 rfl rfl)
theorem dX4_counts_123 : decode cX4_counts 123 = .ok (.dup2, 1) := dk_92 (dk_at dksX4_counts_5 5 rfl rfl)
theorem dX4_counts_124 : decode cX4_counts 124 = .ok (.iaload, 1) := dk_46 (dk_at dksX4_counts_5 6 rfl rfl)
theorem dX4_counts_125 : decode cX4_counts 125 = .ok (.aload_n 0, 1) := dk_42 (dk_at dksX4_counts_5 7 rfl rfl)
theorem dX4_counts_126 : decode cX4_counts 126 = .ok (.getfield 68, 3) := dk_180 0 68 (dk_at dksX4_counts_5 8 rfl rfl)
theorem dX4_counts_129 : decode cX4_counts 129 = .ok (.bipush 100, 2) := dk_16 100 (dk_at dksX4_counts_5 11 rfl rfl)
theorem dX4_counts_131 : decode cX4_counts 131 = .ok (.iload_n 1, 1) := dk_27 (dk_at dksX4_counts_5 13 rfl rfl)
theorem dX4_counts_132 : decode cX4_counts 132 = .ok (.imul, 1) := dk_104 (dk_at dksX4_counts_5 14 rfl rfl)
theorem dX4_counts_133 : decode cX4_counts 133 = .ok (.iload_n 2, 1) := dk_28 (dk_at dksX4_counts_5 15 rfl rfl)
theorem dX4_counts_134 : decode cX4_counts 134 = .ok (.iadd, 1) := dk_96 (dk_at dksX4_counts_5 16 rfl rfl)
theorem dX4_counts_135 : decode cX4_counts 135 = .ok (.iaload, 1) := dk_46 (dk_at dksX4_counts_5 17 rfl rfl)
theorem dX4_counts_136 : decode cX4_counts 136 = .ok (.ifCond .le 7, 3) := dk_158 0 7 (dk_at dksX4_counts_5 18 rfl rfl)
theorem dX4_counts_139 : decode cX4_counts 139 = .ok (.iconst 1, 1) := dk_4 (dk_at dksX4_counts_5 21 rfl rfl)
theorem dX4_counts_140 : decode cX4_counts 140 = .ok (.goto 4, 3) := dk_167 0 4 (dk_at dksX4_counts_6 0 rfl rfl)
theorem dX4_counts_143 : decode cX4_counts 143 = .ok (.iconst 0, 1) := dk_3 (dk_at dksX4_counts_6 3 rfl rfl)
theorem dX4_counts_144 : decode cX4_counts 144 = .ok (.iadd, 1) := dk_96 (dk_at dksX4_counts_6 4 rfl rfl)
theorem dX4_counts_145 : decode cX4_counts 145 = .ok (.iastore, 1) := dk_79 (dk_at dksX4_counts_6 5 rfl rfl)
theorem dX4_counts_146 : decode cX4_counts 146 = .ok (.iinc 2 1, 3) := dk_132 2 1 (dk_at dksX4_counts_6 6 rfl rfl)
theorem dX4_counts_149 : decode cX4_counts 149 = .ok (.goto (-54), 3) := dk_167 255 202 (dk_at dksX4_counts_6 9 rfl rfl)
theorem dX4_counts_152 : decode cX4_counts 152 = .ok (.iinc 1 1, 3) := dk_132 1 1 (dk_at dksX4_counts_6 12 rfl rfl)
theorem dX4_counts_155 : decode cX4_counts 155 = .ok (.goto (-74), 3) := dk_167 255 182 (dk_at dksX4_counts_6 15 rfl rfl)
theorem dX4_counts_158 : decode cX4_counts 158 = .ok (.return_, 1) := dk_177 (dk_at dksX4_counts_6 18 rfl rfl)
abbrev cX4_times : ByteArray := prog_13_method_95_code
def yX4_times : MethodName := ⟨RX4, "times", "(II)I"⟩
def dkwX4_times_1 : List UInt8 := [42, 180, 0, 68, 16, 100, 27, 104, 28, 96, 46, 167, 0, 4, 3, 172]
abbrev dktX4_times_1 : List UInt8 := dkwX4_times_1 ++ []
def dkwX4_times_0 : List UInt8 := [42, 27, 182, 1, 86, 154, 0, 5, 2, 172, 42, 182, 1, 110, 28, 3, 16, 99, 184, 0, 104, 153, 0, 17]
abbrev dktX4_times_0 : List UInt8 := dkwX4_times_0 ++ dktX4_times_1
theorem dksX4_times_0 : cX4_times.data.toList.drop 0 = dktX4_times_0 := by decide +kernel
theorem dksX4_times_1 : cX4_times.data.toList.drop 24 = dktX4_times_1 := dk_seg dksX4_times_0 24 rfl rfl
theorem dX4_times_0 : decode cX4_times 0 = .ok (.aload_n 0, 1) := dk_42 (dk_at dksX4_times_0 0 rfl rfl)
theorem dX4_times_1 : decode cX4_times 1 = .ok (.iload_n 1, 1) := dk_27 (dk_at dksX4_times_0 1 rfl rfl)
theorem dX4_times_2 : decode cX4_times 2 = .ok (.invokevirtual 342, 3) := dk_182 1 86 (dk_at dksX4_times_0 2 rfl rfl)
theorem dX4_times_5 : decode cX4_times 5 = .ok (.ifCond .ne 5, 3) := dk_154 0 5 (dk_at dksX4_times_0 5 rfl rfl)
theorem dX4_times_8 : decode cX4_times 8 = .ok (.iconst (-1), 1) := dk_2 (dk_at dksX4_times_0 8 rfl rfl)
theorem dX4_times_9 : decode cX4_times 9 = .ok (.ireturn, 1) := dk_172 (dk_at dksX4_times_0 9 rfl rfl)
theorem dX4_times_10 : decode cX4_times 10 = .ok (.aload_n 0, 1) := dk_42 (dk_at dksX4_times_0 10 rfl rfl)
theorem dX4_times_11 : decode cX4_times 11 = .ok (.invokevirtual 366, 3) := dk_182 1 110 (dk_at dksX4_times_0 11 rfl rfl)
theorem dX4_times_14 : decode cX4_times 14 = .ok (.iload_n 2, 1) := dk_28 (dk_at dksX4_times_0 14 rfl rfl)
theorem dX4_times_15 : decode cX4_times 15 = .ok (.iconst 0, 1) := dk_3 (dk_at dksX4_times_0 15 rfl rfl)
theorem dX4_times_16 : decode cX4_times 16 = .ok (.bipush 99, 2) := dk_16 99 (dk_at dksX4_times_0 16 rfl rfl)
theorem dX4_times_18 : decode cX4_times 18 = .ok (.invokestatic 104, 3) := dk_184 0 104 (dk_at dksX4_times_0 18 rfl rfl)
theorem dX4_times_21 : decode cX4_times 21 = .ok (.ifCond .eq 17, 3) := dk_153 0 17 (dk_at dksX4_times_0 21 rfl rfl)
theorem dX4_times_24 : decode cX4_times 24 = .ok (.aload_n 0, 1) := dk_42 (dk_at dksX4_times_1 0 rfl rfl)
theorem dX4_times_25 : decode cX4_times 25 = .ok (.getfield 68, 3) := dk_180 0 68 (dk_at dksX4_times_1 1 rfl rfl)
theorem dX4_times_28 : decode cX4_times 28 = .ok (.bipush 100, 2) := dk_16 100 (dk_at dksX4_times_1 4 rfl rfl)
theorem dX4_times_30 : decode cX4_times 30 = .ok (.iload_n 1, 1) := dk_27 (dk_at dksX4_times_1 6 rfl rfl)
theorem dX4_times_31 : decode cX4_times 31 = .ok (.imul, 1) := dk_104 (dk_at dksX4_times_1 7 rfl rfl)
theorem dX4_times_32 : decode cX4_times 32 = .ok (.iload_n 2, 1) := dk_28 (dk_at dksX4_times_1 8 rfl rfl)
theorem dX4_times_33 : decode cX4_times 33 = .ok (.iadd, 1) := dk_96 (dk_at dksX4_times_1 9 rfl rfl)
theorem dX4_times_34 : decode cX4_times 34 = .ok (.iaload, 1) := dk_46 (dk_at dksX4_times_1 10 rfl rfl)
theorem dX4_times_35 : decode cX4_times 35 = .ok (.goto 4, 3) := dk_167 0 4 (dk_at dksX4_times_1 11 rfl rfl)
theorem dX4_times_38 : decode cX4_times 38 = .ok (.iconst 0, 1) := dk_3 (dk_at dksX4_times_1 14 rfl rfl)
theorem dX4_times_39 : decode cX4_times 39 = .ok (.ireturn, 1) := dk_172 (dk_at dksX4_times_1 15 rfl rfl)
abbrev cX4_distinct : ByteArray := prog_13_method_97_code
def yX4_distinct : MethodName := ⟨RX4, "distinct", "(II)I"⟩
def dkwX4_distinct_1 : List UInt8 := [154, 0, 12, 42, 180, 0, 74, 27, 46, 167, 0, 9, 42, 27, 28, 182, 1, 113, 172]
abbrev dktX4_distinct_1 : List UInt8 := dkwX4_distinct_1 ++ []
def dkwX4_distinct_0 : List UInt8 := [42, 27, 182, 1, 86, 153, 0, 12, 28, 3, 6, 184, 0, 104, 154, 0, 5, 2, 172, 42, 182, 1, 110, 28]
abbrev dktX4_distinct_0 : List UInt8 := dkwX4_distinct_0 ++ dktX4_distinct_1
theorem dksX4_distinct_0 : cX4_distinct.data.toList.drop 0 = dktX4_distinct_0 := by decide +kernel
theorem dksX4_distinct_1 : cX4_distinct.data.toList.drop 24 = dktX4_distinct_1 := dk_seg dksX4_distinct_0 24 rfl rfl
theorem dX4_distinct_0 : decode cX4_distinct 0 = .ok (.aload_n 0, 1) := dk_42 (dk_at dksX4_distinct_0 0 rfl rfl)
theorem dX4_distinct_1 : decode cX4_distinct 1 = .ok (.iload_n 1, 1) := dk_27 (dk_at dksX4_distinct_0 1 rfl rfl)
theorem dX4_distinct_2 : decode cX4_distinct 2 = .ok (.invokevirtual 342, 3) := dk_182 1 86 (dk_at dksX4_distinct_0 2 rfl rfl)
theorem dX4_distinct_5 : decode cX4_distinct 5 = .ok (.ifCond .eq 12, 3) := dk_153 0 12 (dk_at dksX4_distinct_0 5 rfl rfl)
theorem dX4_distinct_8 : decode cX4_distinct 8 = .ok (.iload_n 2, 1) := dk_28 (dk_at dksX4_distinct_0 8 rfl rfl)
theorem dX4_distinct_9 : decode cX4_distinct 9 = .ok (.iconst 0, 1) := dk_3 (dk_at dksX4_distinct_0 9 rfl rfl)
theorem dX4_distinct_10 : decode cX4_distinct 10 = .ok (.iconst 3, 1) := dk_6 (dk_at dksX4_distinct_0 10 rfl rfl)
theorem dX4_distinct_11 : decode cX4_distinct 11 = .ok (.invokestatic 104, 3) := dk_184 0 104 (dk_at dksX4_distinct_0 11 rfl rfl)
theorem dX4_distinct_14 : decode cX4_distinct 14 = .ok (.ifCond .ne 5, 3) := dk_154 0 5 (dk_at dksX4_distinct_0 14 rfl rfl)
theorem dX4_distinct_17 : decode cX4_distinct 17 = .ok (.iconst (-1), 1) := dk_2 (dk_at dksX4_distinct_0 17 rfl rfl)
theorem dX4_distinct_18 : decode cX4_distinct 18 = .ok (.ireturn, 1) := dk_172 (dk_at dksX4_distinct_0 18 rfl rfl)
theorem dX4_distinct_19 : decode cX4_distinct 19 = .ok (.aload_n 0, 1) := dk_42 (dk_at dksX4_distinct_0 19 rfl rfl)
theorem dX4_distinct_20 : decode cX4_distinct 20 = .ok (.invokevirtual 366, 3) := dk_182 1 110 (dk_at dksX4_distinct_0 20 rfl rfl)
theorem dX4_distinct_23 : decode cX4_distinct 23 = .ok (.iload_n 2, 1) := dk_28 (dk_at dksX4_distinct_0 23 rfl rfl)
theorem dX4_distinct_24 : decode cX4_distinct 24 = .ok (.ifCond .ne 12, 3) := dk_154 0 12 (dk_at dksX4_distinct_1 0 rfl rfl)
theorem dX4_distinct_27 : decode cX4_distinct 27 = .ok (.aload_n 0, 1) := dk_42 (dk_at dksX4_distinct_1 3 rfl rfl)
theorem dX4_distinct_28 : decode cX4_distinct 28 = .ok (.getfield 74, 3) := dk_180 0 74 (dk_at dksX4_distinct_1 4 rfl rfl)
theorem dX4_distinct_31 : decode cX4_distinct 31 = .ok (.iload_n 1, 1) := dk_27 (dk_at dksX4_distinct_1 7 rfl rfl)
theorem dX4_distinct_32 : decode cX4_distinct 32 = .ok (.iaload, 1) := dk_46 (dk_at dksX4_distinct_1 8 rfl rfl)
theorem dX4_distinct_33 : decode cX4_distinct 33 = .ok (.goto 9, 3) := dk_167 0 9 (dk_at dksX4_distinct_1 9 rfl rfl)
theorem dX4_distinct_36 : decode cX4_distinct 36 = .ok (.aload_n 0, 1) := dk_42 (dk_at dksX4_distinct_1 12 rfl rfl)
theorem dX4_distinct_37 : decode cX4_distinct 37 = .ok (.iload_n 1, 1) := dk_27 (dk_at dksX4_distinct_1 13 rfl rfl)
theorem dX4_distinct_38 : decode cX4_distinct 38 = .ok (.iload_n 2, 1) := dk_28 (dk_at dksX4_distinct_1 14 rfl rfl)
theorem dX4_distinct_39 : decode cX4_distinct 39 = .ok (.invokevirtual 369, 3) := dk_182 1 113 (dk_at dksX4_distinct_1 15 rfl rfl)
theorem dX4_distinct_42 : decode cX4_distinct 42 = .ok (.ireturn, 1) := dk_172 (dk_at dksX4_distinct_1 18 rfl rfl)
abbrev cX4_extremeOf : ByteArray := prog_13_method_96_code
def yX4_extremeOf : MethodName := ⟨RX4, "extremeOf", "(II)I"⟩
def dkwX4_extremeOf_3 : List UInt8 := [153, 0, 8, 21, 4, 167, 0, 4, 29, 62, 132, 4, 1, 167, 255, 177, 29, 172]
abbrev dktX4_extremeOf_3 : List UInt8 := dkwX4_extremeOf_3 ++ []
def dkwX4_extremeOf_2 : List UInt8 := [42, 180, 0, 68, 16, 100, 27, 104, 29, 96, 46, 164, 0, 7, 4, 167, 0, 4, 3, 54, 6, 21, 6]
abbrev dktX4_extremeOf_2 : List UInt8 := dkwX4_extremeOf_2 ++ dktX4_extremeOf_3
def dkwX4_extremeOf_1 : List UInt8 := [54, 5, 21, 5, 158, 0, 38, 29, 2, 159, 0, 29, 28, 5, 159, 0, 24, 28, 6, 160, 0, 23, 21, 5]
abbrev dktX4_extremeOf_1 : List UInt8 := dkwX4_extremeOf_1 ++ dktX4_extremeOf_2
def dkwX4_extremeOf_0 : List UInt8 := [2, 62, 3, 54, 4, 21, 4, 16, 100, 162, 0, 78, 42, 180, 0, 68, 16, 100, 27, 104, 21, 4, 96, 46]
abbrev dktX4_extremeOf_0 : List UInt8 := dkwX4_extremeOf_0 ++ dktX4_extremeOf_1
theorem dksX4_extremeOf_0 : cX4_extremeOf.data.toList.drop 0 = dktX4_extremeOf_0 := by decide +kernel
theorem dksX4_extremeOf_1 : cX4_extremeOf.data.toList.drop 24 = dktX4_extremeOf_1 := dk_seg dksX4_extremeOf_0 24 rfl rfl
theorem dksX4_extremeOf_2 : cX4_extremeOf.data.toList.drop 48 = dktX4_extremeOf_2 := dk_seg dksX4_extremeOf_1 24 rfl rfl
theorem dksX4_extremeOf_3 : cX4_extremeOf.data.toList.drop 71 = dktX4_extremeOf_3 := dk_seg dksX4_extremeOf_2 23 rfl rfl
theorem dX4_extremeOf_0 : decode cX4_extremeOf 0 = .ok (.iconst (-1), 1) := dk_2 (dk_at dksX4_extremeOf_0 0 rfl rfl)
theorem dX4_extremeOf_1 : decode cX4_extremeOf 1 = .ok (.istore_n 3, 1) := dk_62 (dk_at dksX4_extremeOf_0 1 rfl rfl)
theorem dX4_extremeOf_2 : decode cX4_extremeOf 2 = .ok (.iconst 0, 1) := dk_3 (dk_at dksX4_extremeOf_0 2 rfl rfl)
theorem dX4_extremeOf_3 : decode cX4_extremeOf 3 = .ok (.istore 4, 2) := dk_54 4 (dk_at dksX4_extremeOf_0 3 rfl rfl)
theorem dX4_extremeOf_5 : decode cX4_extremeOf 5 = .ok (.iload 4, 2) := dk_21 4 (dk_at dksX4_extremeOf_0 5 rfl rfl)
theorem dX4_extremeOf_7 : decode cX4_extremeOf 7 = .ok (.bipush 100, 2) := dk_16 100 (dk_at dksX4_extremeOf_0 7 rfl rfl)
theorem dX4_extremeOf_9 : decode cX4_extremeOf 9 = .ok (.if_icmp .ge 78, 3) := dk_162 0 78 (dk_at dksX4_extremeOf_0 9 rfl rfl)
theorem dX4_extremeOf_12 : decode cX4_extremeOf 12 = .ok (.aload_n 0, 1) := dk_42 (dk_at dksX4_extremeOf_0 12 rfl rfl)
theorem dX4_extremeOf_13 : decode cX4_extremeOf 13 = .ok (.getfield 68, 3) := dk_180 0 68 (dk_at dksX4_extremeOf_0 13 rfl rfl)
theorem dX4_extremeOf_16 : decode cX4_extremeOf 16 = .ok (.bipush 100, 2) := dk_16 100 (dk_at dksX4_extremeOf_0 16 rfl rfl)
theorem dX4_extremeOf_18 : decode cX4_extremeOf 18 = .ok (.iload_n 1, 1) := dk_27 (dk_at dksX4_extremeOf_0 18 rfl rfl)
theorem dX4_extremeOf_19 : decode cX4_extremeOf 19 = .ok (.imul, 1) := dk_104 (dk_at dksX4_extremeOf_0 19 rfl rfl)
theorem dX4_extremeOf_20 : decode cX4_extremeOf 20 = .ok (.iload 4, 2) := dk_21 4 (dk_at dksX4_extremeOf_0 20 rfl rfl)
theorem dX4_extremeOf_22 : decode cX4_extremeOf 22 = .ok (.iadd, 1) := dk_96 (dk_at dksX4_extremeOf_0 22 rfl rfl)
theorem dX4_extremeOf_23 : decode cX4_extremeOf 23 = .ok (.iaload, 1) := dk_46 (dk_at dksX4_extremeOf_0 23 rfl rfl)
theorem dX4_extremeOf_24 : decode cX4_extremeOf 24 = .ok (.istore 5, 2) := dk_54 5 (dk_at dksX4_extremeOf_1 0 rfl rfl)
theorem dX4_extremeOf_26 : decode cX4_extremeOf 26 = .ok (.iload 5, 2) := dk_21 5 (dk_at dksX4_extremeOf_1 2 rfl rfl)
theorem dX4_extremeOf_28 : decode cX4_extremeOf 28 = .ok (.ifCond .le 38, 3) := dk_158 0 38 (dk_at dksX4_extremeOf_1 4 rfl rfl)
theorem dX4_extremeOf_31 : decode cX4_extremeOf 31 = .ok (.iload_n 3, 1) := dk_29 (dk_at dksX4_extremeOf_1 7 rfl rfl)
theorem dX4_extremeOf_32 : decode cX4_extremeOf 32 = .ok (.iconst (-1), 1) := dk_2 (dk_at dksX4_extremeOf_1 8 rfl rfl)
theorem dX4_extremeOf_33 : decode cX4_extremeOf 33 = .ok (.if_icmp .eq 29, 3) := dk_159 0 29 (dk_at dksX4_extremeOf_1 9 rfl rfl)
theorem dX4_extremeOf_36 : decode cX4_extremeOf 36 = .ok (.iload_n 2, 1) := dk_28 (dk_at dksX4_extremeOf_1 12 rfl rfl)
theorem dX4_extremeOf_37 : decode cX4_extremeOf 37 = .ok (.iconst 2, 1) := dk_5 (dk_at dksX4_extremeOf_1 13 rfl rfl)
theorem dX4_extremeOf_38 : decode cX4_extremeOf 38 = .ok (.if_icmp .eq 24, 3) := dk_159 0 24 (dk_at dksX4_extremeOf_1 14 rfl rfl)
theorem dX4_extremeOf_41 : decode cX4_extremeOf 41 = .ok (.iload_n 2, 1) := dk_28 (dk_at dksX4_extremeOf_1 17 rfl rfl)
theorem dX4_extremeOf_42 : decode cX4_extremeOf 42 = .ok (.iconst 3, 1) := dk_6 (dk_at dksX4_extremeOf_1 18 rfl rfl)
theorem dX4_extremeOf_43 : decode cX4_extremeOf 43 = .ok (.if_icmp .ne 23, 3) := dk_160 0 23 (dk_at dksX4_extremeOf_1 19 rfl rfl)
theorem dX4_extremeOf_46 : decode cX4_extremeOf 46 = .ok (.iload 5, 2) := dk_21 5 (dk_at dksX4_extremeOf_1 22 rfl rfl)
theorem dX4_extremeOf_48 : decode cX4_extremeOf 48 = .ok (.aload_n 0, 1) := dk_42 (dk_at dksX4_extremeOf_2 0 rfl rfl)
theorem dX4_extremeOf_49 : decode cX4_extremeOf 49 = .ok (.getfield 68, 3) := dk_180 0 68 (dk_at dksX4_extremeOf_2 1 rfl rfl)
theorem dX4_extremeOf_52 : decode cX4_extremeOf 52 = .ok (.bipush 100, 2) := dk_16 100 (dk_at dksX4_extremeOf_2 4 rfl rfl)
theorem dX4_extremeOf_54 : decode cX4_extremeOf 54 = .ok (.iload_n 1, 1) := dk_27 (dk_at dksX4_extremeOf_2 6 rfl rfl)
theorem dX4_extremeOf_55 : decode cX4_extremeOf 55 = .ok (.imul, 1) := dk_104 (dk_at dksX4_extremeOf_2 7 rfl rfl)
theorem dX4_extremeOf_56 : decode cX4_extremeOf 56 = .ok (.iload_n 3, 1) := dk_29 (dk_at dksX4_extremeOf_2 8 rfl rfl)
theorem dX4_extremeOf_57 : decode cX4_extremeOf 57 = .ok (.iadd, 1) := dk_96 (dk_at dksX4_extremeOf_2 9 rfl rfl)
theorem dX4_extremeOf_58 : decode cX4_extremeOf 58 = .ok (.iaload, 1) := dk_46 (dk_at dksX4_extremeOf_2 10 rfl rfl)
theorem dX4_extremeOf_59 : decode cX4_extremeOf 59 = .ok (.if_icmp .le 7, 3) := dk_164 0 7 (dk_at dksX4_extremeOf_2 11 rfl rfl)
theorem dX4_extremeOf_62 : decode cX4_extremeOf 62 = .ok (.iconst 1, 1) := dk_4 (dk_at dksX4_extremeOf_2 14 rfl rfl)
theorem dX4_extremeOf_63 : decode cX4_extremeOf 63 = .ok (.goto 4, 3) := dk_167 0 4 (dk_at dksX4_extremeOf_2 15 rfl rfl)
theorem dX4_extremeOf_66 : decode cX4_extremeOf 66 = .ok (.iconst 0, 1) := dk_3 (dk_at dksX4_extremeOf_2 18 rfl rfl)
theorem dX4_extremeOf_67 : decode cX4_extremeOf 67 = .ok (.istore 6, 2) := dk_54 6 (dk_at dksX4_extremeOf_2 19 rfl rfl)
theorem dX4_extremeOf_69 : decode cX4_extremeOf 69 = .ok (.iload 6, 2) := dk_21 6 (dk_at dksX4_extremeOf_2 21 rfl rfl)
theorem dX4_extremeOf_71 : decode cX4_extremeOf 71 = .ok (.ifCond .eq 8, 3) := dk_153 0 8 (dk_at dksX4_extremeOf_3 0 rfl rfl)
theorem dX4_extremeOf_74 : decode cX4_extremeOf 74 = .ok (.iload 4, 2) := dk_21 4 (dk_at dksX4_extremeOf_3 3 rfl rfl)
theorem dX4_extremeOf_76 : decode cX4_extremeOf 76 = .ok (.goto 4, 3) := dk_167 0 4 (dk_at dksX4_extremeOf_3 5 rfl rfl)
theorem dX4_extremeOf_79 : decode cX4_extremeOf 79 = .ok (.iload_n 3, 1) := dk_29 (dk_at dksX4_extremeOf_3 8 rfl rfl)
theorem dX4_extremeOf_80 : decode cX4_extremeOf 80 = .ok (.istore_n 3, 1) := dk_62 (dk_at dksX4_extremeOf_3 9 rfl rfl)
theorem dX4_extremeOf_81 : decode cX4_extremeOf 81 = .ok (.iinc 4 1, 3) := dk_132 4 1 (dk_at dksX4_extremeOf_3 10 rfl rfl)
theorem dX4_extremeOf_84 : decode cX4_extremeOf 84 = .ok (.goto (-79), 3) := dk_167 255 177 (dk_at dksX4_extremeOf_3 13 rfl rfl)
theorem dX4_extremeOf_87 : decode cX4_extremeOf 87 = .ok (.iload_n 3, 1) := dk_29 (dk_at dksX4_extremeOf_3 16 rfl rfl)
theorem dX4_extremeOf_88 : decode cX4_extremeOf 88 = .ok (.ireturn, 1) := dk_172 (dk_at dksX4_extremeOf_3 17 rfl rfl)
abbrev cX4_tells : ByteArray := prog_13_method_99_code
def yX4_tells : MethodName := ⟨RX4, "tells", "(II)Z"⟩
def dkwX4_tells_1 : List UInt8 := [28, 182, 1, 116, 172]
abbrev dktX4_tells_1 : List UInt8 := dkwX4_tells_1 ++ []
def dkwX4_tells_0 : List UInt8 := [42, 27, 182, 1, 86, 153, 0, 11, 42, 28, 182, 1, 86, 154, 0, 5, 3, 172, 42, 182, 1, 40, 42, 27]
abbrev dktX4_tells_0 : List UInt8 := dkwX4_tells_0 ++ dktX4_tells_1
theorem dksX4_tells_0 : cX4_tells.data.toList.drop 0 = dktX4_tells_0 := by decide +kernel
theorem dksX4_tells_1 : cX4_tells.data.toList.drop 24 = dktX4_tells_1 := dk_seg dksX4_tells_0 24 rfl rfl
theorem dX4_tells_0 : decode cX4_tells 0 = .ok (.aload_n 0, 1) := dk_42 (dk_at dksX4_tells_0 0 rfl rfl)
theorem dX4_tells_1 : decode cX4_tells 1 = .ok (.iload_n 1, 1) := dk_27 (dk_at dksX4_tells_0 1 rfl rfl)
theorem dX4_tells_2 : decode cX4_tells 2 = .ok (.invokevirtual 342, 3) := dk_182 1 86 (dk_at dksX4_tells_0 2 rfl rfl)
theorem dX4_tells_5 : decode cX4_tells 5 = .ok (.ifCond .eq 11, 3) := dk_153 0 11 (dk_at dksX4_tells_0 5 rfl rfl)
theorem dX4_tells_8 : decode cX4_tells 8 = .ok (.aload_n 0, 1) := dk_42 (dk_at dksX4_tells_0 8 rfl rfl)
theorem dX4_tells_9 : decode cX4_tells 9 = .ok (.iload_n 2, 1) := dk_28 (dk_at dksX4_tells_0 9 rfl rfl)
theorem dX4_tells_10 : decode cX4_tells 10 = .ok (.invokevirtual 342, 3) := dk_182 1 86 (dk_at dksX4_tells_0 10 rfl rfl)
theorem dX4_tells_13 : decode cX4_tells 13 = .ok (.ifCond .ne 5, 3) := dk_154 0 5 (dk_at dksX4_tells_0 13 rfl rfl)
theorem dX4_tells_16 : decode cX4_tells 16 = .ok (.iconst 0, 1) := dk_3 (dk_at dksX4_tells_0 16 rfl rfl)
theorem dX4_tells_17 : decode cX4_tells 17 = .ok (.ireturn, 1) := dk_172 (dk_at dksX4_tells_0 17 rfl rfl)
theorem dX4_tells_18 : decode cX4_tells 18 = .ok (.aload_n 0, 1) := dk_42 (dk_at dksX4_tells_0 18 rfl rfl)
theorem dX4_tells_19 : decode cX4_tells 19 = .ok (.invokevirtual 296, 3) := dk_182 1 40 (dk_at dksX4_tells_0 19 rfl rfl)
theorem dX4_tells_22 : decode cX4_tells 22 = .ok (.aload_n 0, 1) := dk_42 (dk_at dksX4_tells_0 22 rfl rfl)
theorem dX4_tells_23 : decode cX4_tells 23 = .ok (.iload_n 1, 1) := dk_27 (dk_at dksX4_tells_0 23 rfl rfl)
theorem dX4_tells_24 : decode cX4_tells 24 = .ok (.iload_n 2, 1) := dk_28 (dk_at dksX4_tells_1 0 rfl rfl)
theorem dX4_tells_25 : decode cX4_tells 25 = .ok (.invokevirtual 372, 3) := dk_182 1 116 (dk_at dksX4_tells_1 1 rfl rfl)
theorem dX4_tells_28 : decode cX4_tells 28 = .ok (.ireturn, 1) := dk_172 (dk_at dksX4_tells_1 4 rfl rfl)
abbrev cX4_isTold : ByteArray := prog_13_method_98_code
def yX4_isTold : MethodName := ⟨RX4, "isTold", "(II)Z"⟩
def dkwX4_isTold_4 : List UInt8 := [182, 1, 89, 79, 132, 4, 1, 167, 255, 183, 29, 172]
abbrev dktX4_isTold_4 : List UInt8 := dkwX4_isTold_4 ++ []
def dkwX4_isTold_3 : List UInt8 := [182, 1, 89, 160, 0, 7, 4, 167, 0, 4, 3, 62, 42, 180, 0, 81, 21, 5, 42, 21, 4, 28]
abbrev dktX4_isTold_3 : List UInt8 := dkwX4_isTold_3 ++ dktX4_isTold_4
def dkwX4_isTold_2 : List UInt8 := [42, 180, 0, 81, 21, 5, 46, 2, 159, 0, 20, 42, 180, 0, 81, 21, 5, 46, 42, 21, 4, 28]
abbrev dktX4_isTold_2 : List UInt8 := dkwX4_isTold_2 ++ dktX4_isTold_3
def dkwX4_isTold_1 : List UInt8 := [54, 4, 21, 4, 42, 180, 0, 247, 162, 0, 70, 42, 21, 4, 27, 182, 1, 89, 54, 5, 29, 153, 0, 35]
abbrev dktX4_isTold_1 : List UInt8 := dkwX4_isTold_1 ++ dktX4_isTold_2
def dkwX4_isTold_0 : List UInt8 := [3, 62, 29, 16, 100, 162, 0, 16, 42, 180, 0, 81, 29, 2, 79, 132, 3, 1, 167, 255, 240, 4, 62, 3]
abbrev dktX4_isTold_0 : List UInt8 := dkwX4_isTold_0 ++ dktX4_isTold_1
theorem dksX4_isTold_0 : cX4_isTold.data.toList.drop 0 = dktX4_isTold_0 := by decide +kernel
theorem dksX4_isTold_1 : cX4_isTold.data.toList.drop 24 = dktX4_isTold_1 := dk_seg dksX4_isTold_0 24 rfl rfl
theorem dksX4_isTold_2 : cX4_isTold.data.toList.drop 48 = dktX4_isTold_2 := dk_seg dksX4_isTold_1 24 rfl rfl
theorem dksX4_isTold_3 : cX4_isTold.data.toList.drop 70 = dktX4_isTold_3 := dk_seg dksX4_isTold_2 22 rfl rfl
theorem dksX4_isTold_4 : cX4_isTold.data.toList.drop 92 = dktX4_isTold_4 := dk_seg dksX4_isTold_3 22 rfl rfl
theorem dX4_isTold_0 : decode cX4_isTold 0 = .ok (.iconst 0, 1) := dk_3 (dk_at dksX4_isTold_0 0 rfl rfl)
theorem dX4_isTold_1 : decode cX4_isTold 1 = .ok (.istore_n 3, 1) := dk_62 (dk_at dksX4_isTold_0 1 rfl rfl)
theorem dX4_isTold_2 : decode cX4_isTold 2 = .ok (.iload_n 3, 1) := dk_29 (dk_at dksX4_isTold_0 2 rfl rfl)
theorem dX4_isTold_3 : decode cX4_isTold 3 = .ok (.bipush 100, 2) := dk_16 100 (dk_at dksX4_isTold_0 3 rfl rfl)
theorem dX4_isTold_5 : decode cX4_isTold 5 = .ok (.if_icmp .ge 16, 3) := dk_162 0 16 (dk_at dksX4_isTold_0 5 rfl rfl)
theorem dX4_isTold_8 : decode cX4_isTold 8 = .ok (.aload_n 0, 1) := dk_42 (dk_at dksX4_isTold_0 8 rfl rfl)
theorem dX4_isTold_9 : decode cX4_isTold 9 = .ok (.getfield 81, 3) := dk_180 0 81 (dk_at dksX4_isTold_0 9 rfl rfl)
theorem dX4_isTold_12 : decode cX4_isTold 12 = .ok (.iload_n 3, 1) := dk_29 (dk_at dksX4_isTold_0 12 rfl rfl)
theorem dX4_isTold_13 : decode cX4_isTold 13 = .ok (.iconst (-1), 1) := dk_2 (dk_at dksX4_isTold_0 13 rfl rfl)
theorem dX4_isTold_14 : decode cX4_isTold 14 = .ok (.iastore, 1) := dk_79 (dk_at dksX4_isTold_0 14 rfl rfl)
theorem dX4_isTold_15 : decode cX4_isTold 15 = .ok (.iinc 3 1, 3) := dk_132 3 1 (dk_at dksX4_isTold_0 15 rfl rfl)
theorem dX4_isTold_18 : decode cX4_isTold 18 = .ok (.goto (-16), 3) := dk_167 255 240 (dk_at dksX4_isTold_0 18 rfl rfl)
theorem dX4_isTold_21 : decode cX4_isTold 21 = .ok (.iconst 1, 1) := dk_4 (dk_at dksX4_isTold_0 21 rfl rfl)
theorem dX4_isTold_22 : decode cX4_isTold 22 = .ok (.istore_n 3, 1) := dk_62 (dk_at dksX4_isTold_0 22 rfl rfl)
theorem dX4_isTold_23 : decode cX4_isTold 23 = .ok (.iconst 0, 1) := dk_3 (dk_at dksX4_isTold_0 23 rfl rfl)
theorem dX4_isTold_24 : decode cX4_isTold 24 = .ok (.istore 4, 2) := dk_54 4 (dk_at dksX4_isTold_1 0 rfl rfl)
theorem dX4_isTold_26 : decode cX4_isTold 26 = .ok (.iload 4, 2) := dk_21 4 (dk_at dksX4_isTold_1 2 rfl rfl)
theorem dX4_isTold_28 : decode cX4_isTold 28 = .ok (.aload_n 0, 1) := dk_42 (dk_at dksX4_isTold_1 4 rfl rfl)
theorem dX4_isTold_29 : decode cX4_isTold 29 = .ok (.getfield 247, 3) := dk_180 0 247 (dk_at dksX4_isTold_1 5 rfl rfl)
theorem dX4_isTold_32 : decode cX4_isTold 32 = .ok (.if_icmp .ge 70, 3) := dk_162 0 70 (dk_at dksX4_isTold_1 8 rfl rfl)
theorem dX4_isTold_35 : decode cX4_isTold 35 = .ok (.aload_n 0, 1) := dk_42 (dk_at dksX4_isTold_1 11 rfl rfl)
theorem dX4_isTold_36 : decode cX4_isTold 36 = .ok (.iload 4, 2) := dk_21 4 (dk_at dksX4_isTold_1 12 rfl rfl)
theorem dX4_isTold_38 : decode cX4_isTold 38 = .ok (.iload_n 1, 1) := dk_27 (dk_at dksX4_isTold_1 14 rfl rfl)
theorem dX4_isTold_39 : decode cX4_isTold 39 = .ok (.invokevirtual 345, 3) := dk_182 1 89 (dk_at dksX4_isTold_1 15 rfl rfl)
theorem dX4_isTold_42 : decode cX4_isTold 42 = .ok (.istore 5, 2) := dk_54 5 (dk_at dksX4_isTold_1 18 rfl rfl)
theorem dX4_isTold_44 : decode cX4_isTold 44 = .ok (.iload_n 3, 1) := dk_29 (dk_at dksX4_isTold_1 20 rfl rfl)
theorem dX4_isTold_45 : decode cX4_isTold 45 = .ok (.ifCond .eq 35, 3) := dk_153 0 35 (dk_at dksX4_isTold_1 21 rfl rfl)
theorem dX4_isTold_48 : decode cX4_isTold 48 = .ok (.aload_n 0, 1) := dk_42 (dk_at dksX4_isTold_2 0 rfl rfl)
theorem dX4_isTold_49 : decode cX4_isTold 49 = .ok (.getfield 81, 3) := dk_180 0 81 (dk_at dksX4_isTold_2 1 rfl rfl)
theorem dX4_isTold_52 : decode cX4_isTold 52 = .ok (.iload 5, 2) := dk_21 5 (dk_at dksX4_isTold_2 4 rfl rfl)
theorem dX4_isTold_54 : decode cX4_isTold 54 = .ok (.iaload, 1) := dk_46 (dk_at dksX4_isTold_2 6 rfl rfl)
theorem dX4_isTold_55 : decode cX4_isTold 55 = .ok (.iconst (-1), 1) := dk_2 (dk_at dksX4_isTold_2 7 rfl rfl)
theorem dX4_isTold_56 : decode cX4_isTold 56 = .ok (.if_icmp .eq 20, 3) := dk_159 0 20 (dk_at dksX4_isTold_2 8 rfl rfl)
theorem dX4_isTold_59 : decode cX4_isTold 59 = .ok (.aload_n 0, 1) := dk_42 (dk_at dksX4_isTold_2 11 rfl rfl)
theorem dX4_isTold_60 : decode cX4_isTold 60 = .ok (.getfield 81, 3) := dk_180 0 81 (dk_at dksX4_isTold_2 12 rfl rfl)
theorem dX4_isTold_63 : decode cX4_isTold 63 = .ok (.iload 5, 2) := dk_21 5 (dk_at dksX4_isTold_2 15 rfl rfl)
theorem dX4_isTold_65 : decode cX4_isTold 65 = .ok (.iaload, 1) := dk_46 (dk_at dksX4_isTold_2 17 rfl rfl)
theorem dX4_isTold_66 : decode cX4_isTold 66 = .ok (.aload_n 0, 1) := dk_42 (dk_at dksX4_isTold_2 18 rfl rfl)
theorem dX4_isTold_67 : decode cX4_isTold 67 = .ok (.iload 4, 2) := dk_21 4 (dk_at dksX4_isTold_2 19 rfl rfl)
theorem dX4_isTold_69 : decode cX4_isTold 69 = .ok (.iload_n 2, 1) := dk_28 (dk_at dksX4_isTold_2 21 rfl rfl)
theorem dX4_isTold_70 : decode cX4_isTold 70 = .ok (.invokevirtual 345, 3) := dk_182 1 89 (dk_at dksX4_isTold_3 0 rfl rfl)
theorem dX4_isTold_73 : decode cX4_isTold 73 = .ok (.if_icmp .ne 7, 3) := dk_160 0 7 (dk_at dksX4_isTold_3 3 rfl rfl)
theorem dX4_isTold_76 : decode cX4_isTold 76 = .ok (.iconst 1, 1) := dk_4 (dk_at dksX4_isTold_3 6 rfl rfl)
theorem dX4_isTold_77 : decode cX4_isTold 77 = .ok (.goto 4, 3) := dk_167 0 4 (dk_at dksX4_isTold_3 7 rfl rfl)
theorem dX4_isTold_80 : decode cX4_isTold 80 = .ok (.iconst 0, 1) := dk_3 (dk_at dksX4_isTold_3 10 rfl rfl)
theorem dX4_isTold_81 : decode cX4_isTold 81 = .ok (.istore_n 3, 1) := dk_62 (dk_at dksX4_isTold_3 11 rfl rfl)
theorem dX4_isTold_82 : decode cX4_isTold 82 = .ok (.aload_n 0, 1) := dk_42 (dk_at dksX4_isTold_3 12 rfl rfl)
theorem dX4_isTold_83 : decode cX4_isTold 83 = .ok (.getfield 81, 3) := dk_180 0 81 (dk_at dksX4_isTold_3 13 rfl rfl)
theorem dX4_isTold_86 : decode cX4_isTold 86 = .ok (.iload 5, 2) := dk_21 5 (dk_at dksX4_isTold_3 16 rfl rfl)
theorem dX4_isTold_88 : decode cX4_isTold 88 = .ok (.aload_n 0, 1) := dk_42 (dk_at dksX4_isTold_3 18 rfl rfl)
theorem dX4_isTold_89 : decode cX4_isTold 89 = .ok (.iload 4, 2) := dk_21 4 (dk_at dksX4_isTold_3 19 rfl rfl)
theorem dX4_isTold_91 : decode cX4_isTold 91 = .ok (.iload_n 2, 1) := dk_28 (dk_at dksX4_isTold_3 21 rfl rfl)
theorem dX4_isTold_92 : decode cX4_isTold 92 = .ok (.invokevirtual 345, 3) := dk_182 1 89 (dk_at dksX4_isTold_4 0 rfl rfl)
theorem dX4_isTold_95 : decode cX4_isTold 95 = .ok (.iastore, 1) := dk_79 (dk_at dksX4_isTold_4 3 rfl rfl)
theorem dX4_isTold_96 : decode cX4_isTold 96 = .ok (.iinc 4 1, 3) := dk_132 4 1 (dk_at dksX4_isTold_4 4 rfl rfl)
theorem dX4_isTold_99 : decode cX4_isTold 99 = .ok (.goto (-73), 3) := dk_167 255 183 (dk_at dksX4_isTold_4 7 rfl rfl)
theorem dX4_isTold_102 : decode cX4_isTold 102 = .ok (.iload_n 3, 1) := dk_29 (dk_at dksX4_isTold_4 10 rfl rfl)
theorem dX4_isTold_103 : decode cX4_isTold 103 = .ok (.ireturn, 1) := dk_172 (dk_at dksX4_isTold_4 11 rfl rfl)
abbrev cX4_behind : ByteArray := prog_13_method_102_code
def yX4_behind : MethodName := ⟨RX4, "behind", "(IIII)I"⟩
def dkwX4_behind_2 : List UInt8 := [132, 5, 1, 167, 255, 232, 2, 172]
abbrev dktX4_behind_2 : List UInt8 := dkwX4_behind_2 ++ []
def dkwX4_behind_1 : List UInt8 := [54, 5, 21, 5, 42, 180, 0, 247, 162, 0, 21, 42, 21, 5, 182, 1, 123, 158, 0, 6, 21, 5, 172]
abbrev dktX4_behind_1 : List UInt8 := dkwX4_behind_1 ++ dktX4_behind_2
def dkwX4_behind_0 : List UInt8 := [42, 182, 1, 21, 154, 0, 5, 2, 172, 42, 27, 28, 29, 21, 4, 182, 1, 119, 42, 182, 1, 40, 3]
abbrev dktX4_behind_0 : List UInt8 := dkwX4_behind_0 ++ dktX4_behind_1
theorem dksX4_behind_0 : cX4_behind.data.toList.drop 0 = dktX4_behind_0 := by decide +kernel
theorem dksX4_behind_1 : cX4_behind.data.toList.drop 23 = dktX4_behind_1 := dk_seg dksX4_behind_0 23 rfl rfl
theorem dksX4_behind_2 : cX4_behind.data.toList.drop 46 = dktX4_behind_2 := dk_seg dksX4_behind_1 23 rfl rfl
theorem dX4_behind_0 : decode cX4_behind 0 = .ok (.aload_n 0, 1) := dk_42 (dk_at dksX4_behind_0 0 rfl rfl)
theorem dX4_behind_1 : decode cX4_behind 1 = .ok (.invokevirtual 277, 3) := dk_182 1 21 (dk_at dksX4_behind_0 1 rfl rfl)
theorem dX4_behind_4 : decode cX4_behind 4 = .ok (.ifCond .ne 5, 3) := dk_154 0 5 (dk_at dksX4_behind_0 4 rfl rfl)
theorem dX4_behind_7 : decode cX4_behind 7 = .ok (.iconst (-1), 1) := dk_2 (dk_at dksX4_behind_0 7 rfl rfl)
theorem dX4_behind_8 : decode cX4_behind 8 = .ok (.ireturn, 1) := dk_172 (dk_at dksX4_behind_0 8 rfl rfl)
theorem dX4_behind_9 : decode cX4_behind 9 = .ok (.aload_n 0, 1) := dk_42 (dk_at dksX4_behind_0 9 rfl rfl)
theorem dX4_behind_10 : decode cX4_behind 10 = .ok (.iload_n 1, 1) := dk_27 (dk_at dksX4_behind_0 10 rfl rfl)
theorem dX4_behind_11 : decode cX4_behind 11 = .ok (.iload_n 2, 1) := dk_28 (dk_at dksX4_behind_0 11 rfl rfl)
theorem dX4_behind_12 : decode cX4_behind 12 = .ok (.iload_n 3, 1) := dk_29 (dk_at dksX4_behind_0 12 rfl rfl)
theorem dX4_behind_13 : decode cX4_behind 13 = .ok (.iload 4, 2) := dk_21 4 (dk_at dksX4_behind_0 13 rfl rfl)
theorem dX4_behind_15 : decode cX4_behind 15 = .ok (.invokevirtual 375, 3) := dk_182 1 119 (dk_at dksX4_behind_0 15 rfl rfl)
theorem dX4_behind_18 : decode cX4_behind 18 = .ok (.aload_n 0, 1) := dk_42 (dk_at dksX4_behind_0 18 rfl rfl)
theorem dX4_behind_19 : decode cX4_behind 19 = .ok (.invokevirtual 296, 3) := dk_182 1 40 (dk_at dksX4_behind_0 19 rfl rfl)
theorem dX4_behind_22 : decode cX4_behind 22 = .ok (.iconst 0, 1) := dk_3 (dk_at dksX4_behind_0 22 rfl rfl)
theorem dX4_behind_23 : decode cX4_behind 23 = .ok (.istore 5, 2) := dk_54 5 (dk_at dksX4_behind_1 0 rfl rfl)
theorem dX4_behind_25 : decode cX4_behind 25 = .ok (.iload 5, 2) := dk_21 5 (dk_at dksX4_behind_1 2 rfl rfl)
theorem dX4_behind_27 : decode cX4_behind 27 = .ok (.aload_n 0, 1) := dk_42 (dk_at dksX4_behind_1 4 rfl rfl)
theorem dX4_behind_28 : decode cX4_behind 28 = .ok (.getfield 247, 3) := dk_180 0 247 (dk_at dksX4_behind_1 5 rfl rfl)
theorem dX4_behind_31 : decode cX4_behind 31 = .ok (.if_icmp .ge 21, 3) := dk_162 0 21 (dk_at dksX4_behind_1 8 rfl rfl)
theorem dX4_behind_34 : decode cX4_behind 34 = .ok (.aload_n 0, 1) := dk_42 (dk_at dksX4_behind_1 11 rfl rfl)
theorem dX4_behind_35 : decode cX4_behind 35 = .ok (.iload 5, 2) := dk_21 5 (dk_at dksX4_behind_1 12 rfl rfl)
theorem dX4_behind_37 : decode cX4_behind 37 = .ok (.invokevirtual 379, 3) := dk_182 1 123 (dk_at dksX4_behind_1 14 rfl rfl)
theorem dX4_behind_40 : decode cX4_behind 40 = .ok (.ifCond .le 6, 3) := dk_158 0 6 (dk_at dksX4_behind_1 17 rfl rfl)
theorem dX4_behind_43 : decode cX4_behind 43 = .ok (.iload 5, 2) := dk_21 5 (dk_at dksX4_behind_1 20 rfl rfl)
theorem dX4_behind_45 : decode cX4_behind 45 = .ok (.ireturn, 1) := dk_172 (dk_at dksX4_behind_1 22 rfl rfl)
theorem dX4_behind_46 : decode cX4_behind 46 = .ok (.iinc 5 1, 3) := dk_132 5 1 (dk_at dksX4_behind_2 0 rfl rfl)
theorem dX4_behind_49 : decode cX4_behind 49 = .ok (.goto (-24), 3) := dk_167 255 232 (dk_at dksX4_behind_2 3 rfl rfl)
theorem dX4_behind_52 : decode cX4_behind 52 = .ok (.iconst (-1), 1) := dk_2 (dk_at dksX4_behind_2 6 rfl rfl)
theorem dX4_behind_53 : decode cX4_behind 53 = .ok (.ireturn, 1) := dk_172 (dk_at dksX4_behind_2 7 rfl rfl)
abbrev cX4_takesFour : ByteArray := prog_13_method_100_code
def yX4_takesFour : MethodName := ⟨RX4, "takesFour", "(IIII)V"⟩
def dkwX4_takesFour_1 : List UInt8 := [180, 0, 84, 6, 21, 4, 79, 177]
abbrev dktX4_takesFour_1 : List UInt8 := dkwX4_takesFour_1 ++ []
def dkwX4_takesFour_0 : List UInt8 := [42, 180, 0, 84, 3, 27, 79, 42, 180, 0, 84, 4, 28, 79, 42, 180, 0, 84, 5, 29, 79, 42]
abbrev dktX4_takesFour_0 : List UInt8 := dkwX4_takesFour_0 ++ dktX4_takesFour_1
theorem dksX4_takesFour_0 : cX4_takesFour.data.toList.drop 0 = dktX4_takesFour_0 := by decide +kernel
theorem dksX4_takesFour_1 : cX4_takesFour.data.toList.drop 22 = dktX4_takesFour_1 := dk_seg dksX4_takesFour_0 22 rfl rfl
theorem dX4_takesFour_0 : decode cX4_takesFour 0 = .ok (.aload_n 0, 1) := dk_42 (dk_at dksX4_takesFour_0 0 rfl rfl)
theorem dX4_takesFour_1 : decode cX4_takesFour 1 = .ok (.getfield 84, 3) := dk_180 0 84 (dk_at dksX4_takesFour_0 1 rfl rfl)
theorem dX4_takesFour_4 : decode cX4_takesFour 4 = .ok (.iconst 0, 1) := dk_3 (dk_at dksX4_takesFour_0 4 rfl rfl)
theorem dX4_takesFour_5 : decode cX4_takesFour 5 = .ok (.iload_n 1, 1) := dk_27 (dk_at dksX4_takesFour_0 5 rfl rfl)
theorem dX4_takesFour_6 : decode cX4_takesFour 6 = .ok (.iastore, 1) := dk_79 (dk_at dksX4_takesFour_0 6 rfl rfl)
theorem dX4_takesFour_7 : decode cX4_takesFour 7 = .ok (.aload_n 0, 1) := dk_42 (dk_at dksX4_takesFour_0 7 rfl rfl)
theorem dX4_takesFour_8 : decode cX4_takesFour 8 = .ok (.getfield 84, 3) := dk_180 0 84 (dk_at dksX4_takesFour_0 8 rfl rfl)
theorem dX4_takesFour_11 : decode cX4_takesFour 11 = .ok (.iconst 1, 1) := dk_4 (dk_at dksX4_takesFour_0 11 rfl rfl)
theorem dX4_takesFour_12 : decode cX4_takesFour 12 = .ok (.iload_n 2, 1) := dk_28 (dk_at dksX4_takesFour_0 12 rfl rfl)
theorem dX4_takesFour_13 : decode cX4_takesFour 13 = .ok (.iastore, 1) := dk_79 (dk_at dksX4_takesFour_0 13 rfl rfl)
theorem dX4_takesFour_14 : decode cX4_takesFour 14 = .ok (.aload_n 0, 1) := dk_42 (dk_at dksX4_takesFour_0 14 rfl rfl)
theorem dX4_takesFour_15 : decode cX4_takesFour 15 = .ok (.getfield 84, 3) := dk_180 0 84 (dk_at dksX4_takesFour_0 15 rfl rfl)
theorem dX4_takesFour_18 : decode cX4_takesFour 18 = .ok (.iconst 2, 1) := dk_5 (dk_at dksX4_takesFour_0 18 rfl rfl)
theorem dX4_takesFour_19 : decode cX4_takesFour 19 = .ok (.iload_n 3, 1) := dk_29 (dk_at dksX4_takesFour_0 19 rfl rfl)
theorem dX4_takesFour_20 : decode cX4_takesFour 20 = .ok (.iastore, 1) := dk_79 (dk_at dksX4_takesFour_0 20 rfl rfl)
theorem dX4_takesFour_21 : decode cX4_takesFour 21 = .ok (.aload_n 0, 1) := dk_42 (dk_at dksX4_takesFour_0 21 rfl rfl)
theorem dX4_takesFour_22 : decode cX4_takesFour 22 = .ok (.getfield 84, 3) := dk_180 0 84 (dk_at dksX4_takesFour_1 0 rfl rfl)
theorem dX4_takesFour_25 : decode cX4_takesFour 25 = .ok (.iconst 3, 1) := dk_6 (dk_at dksX4_takesFour_1 3 rfl rfl)
theorem dX4_takesFour_26 : decode cX4_takesFour 26 = .ok (.iload 4, 2) := dk_21 4 (dk_at dksX4_takesFour_1 4 rfl rfl)
theorem dX4_takesFour_28 : decode cX4_takesFour 28 = .ok (.iastore, 1) := dk_79 (dk_at dksX4_takesFour_1 6 rfl rfl)
theorem dX4_takesFour_29 : decode cX4_takesFour 29 = .ok (.return_, 1) := dk_177 (dk_at dksX4_takesFour_1 7 rfl rfl)
abbrev cX4_comparesFour : ByteArray := prog_13_method_101_code
def yX4_comparesFour : MethodName := ⟨RX4, "comparesFour", "(I)I"⟩
def dkwX4_comparesFour_2 : List UInt8 := [167, 0, 4, 4, 172, 132, 2, 1, 167, 255, 202, 3, 172]
abbrev dktX4_comparesFour_2 : List UInt8 := dkwX4_comparesFour_2 ++ []
def dkwX4_comparesFour_1 : List UInt8 := [180, 0, 84, 29, 46, 159, 0, 24, 42, 27, 29, 182, 1, 89, 42, 180, 0, 84, 29, 46, 162, 0, 7, 2]
abbrev dktX4_comparesFour_1 : List UInt8 := dkwX4_comparesFour_1 ++ dktX4_comparesFour_2
def dkwX4_comparesFour_0 : List UInt8 := [3, 61, 28, 42, 180, 0, 217, 162, 0, 52, 42, 180, 0, 43, 28, 46, 62, 42, 27, 29, 182, 1, 89, 42]
abbrev dktX4_comparesFour_0 : List UInt8 := dkwX4_comparesFour_0 ++ dktX4_comparesFour_1
theorem dksX4_comparesFour_0 : cX4_comparesFour.data.toList.drop 0 = dktX4_comparesFour_0 := by decide +kernel
theorem dksX4_comparesFour_1 : cX4_comparesFour.data.toList.drop 24 = dktX4_comparesFour_1 := dk_seg dksX4_comparesFour_0 24 rfl rfl
theorem dksX4_comparesFour_2 : cX4_comparesFour.data.toList.drop 48 = dktX4_comparesFour_2 := dk_seg dksX4_comparesFour_1 24 rfl rfl
theorem dX4_comparesFour_0 : decode cX4_comparesFour 0 = .ok (.iconst 0, 1) := dk_3 (dk_at dksX4_comparesFour_0 0 rfl rfl)
theorem dX4_comparesFour_1 : decode cX4_comparesFour 1 = .ok (.istore_n 2, 1) := dk_61 (dk_at dksX4_comparesFour_0 1 rfl rfl)
theorem dX4_comparesFour_2 : decode cX4_comparesFour 2 = .ok (.iload_n 2, 1) := dk_28 (dk_at dksX4_comparesFour_0 2 rfl rfl)
theorem dX4_comparesFour_3 : decode cX4_comparesFour 3 = .ok (.aload_n 0, 1) := dk_42 (dk_at dksX4_comparesFour_0 3 rfl rfl)
theorem dX4_comparesFour_4 : decode cX4_comparesFour 4 = .ok (.getfield 217, 3) := dk_180 0 217 (dk_at dksX4_comparesFour_0 4 rfl rfl)
theorem dX4_comparesFour_7 : decode cX4_comparesFour 7 = .ok (.if_icmp .ge 52, 3) := dk_162 0 52 (dk_at dksX4_comparesFour_0 7 rfl rfl)
theorem dX4_comparesFour_10 : decode cX4_comparesFour 10 = .ok (.aload_n 0, 1) := dk_42 (dk_at dksX4_comparesFour_0 10 rfl rfl)
theorem dX4_comparesFour_11 : decode cX4_comparesFour 11 = .ok (.getfield 43, 3) := dk_180 0 43 (dk_at dksX4_comparesFour_0 11 rfl rfl)
theorem dX4_comparesFour_14 : decode cX4_comparesFour 14 = .ok (.iload_n 2, 1) := dk_28 (dk_at dksX4_comparesFour_0 14 rfl rfl)
theorem dX4_comparesFour_15 : decode cX4_comparesFour 15 = .ok (.iaload, 1) := dk_46 (dk_at dksX4_comparesFour_0 15 rfl rfl)
theorem dX4_comparesFour_16 : decode cX4_comparesFour 16 = .ok (.istore_n 3, 1) := dk_62 (dk_at dksX4_comparesFour_0 16 rfl rfl)
theorem dX4_comparesFour_17 : decode cX4_comparesFour 17 = .ok (.aload_n 0, 1) := dk_42 (dk_at dksX4_comparesFour_0 17 rfl rfl)
theorem dX4_comparesFour_18 : decode cX4_comparesFour 18 = .ok (.iload_n 1, 1) := dk_27 (dk_at dksX4_comparesFour_0 18 rfl rfl)
theorem dX4_comparesFour_19 : decode cX4_comparesFour 19 = .ok (.iload_n 3, 1) := dk_29 (dk_at dksX4_comparesFour_0 19 rfl rfl)
theorem dX4_comparesFour_20 : decode cX4_comparesFour 20 = .ok (.invokevirtual 345, 3) := dk_182 1 89 (dk_at dksX4_comparesFour_0 20 rfl rfl)
theorem dX4_comparesFour_23 : decode cX4_comparesFour 23 = .ok (.aload_n 0, 1) := dk_42 (dk_at dksX4_comparesFour_0 23 rfl rfl)
theorem dX4_comparesFour_24 : decode cX4_comparesFour 24 = .ok (.getfield 84, 3) := dk_180 0 84 (dk_at dksX4_comparesFour_1 0 rfl rfl)
theorem dX4_comparesFour_27 : decode cX4_comparesFour 27 = .ok (.iload_n 3, 1) := dk_29 (dk_at dksX4_comparesFour_1 3 rfl rfl)
theorem dX4_comparesFour_28 : decode cX4_comparesFour 28 = .ok (.iaload, 1) := dk_46 (dk_at dksX4_comparesFour_1 4 rfl rfl)
theorem dX4_comparesFour_29 : decode cX4_comparesFour 29 = .ok (.if_icmp .eq 24, 3) := dk_159 0 24 (dk_at dksX4_comparesFour_1 5 rfl rfl)
theorem dX4_comparesFour_32 : decode cX4_comparesFour 32 = .ok (.aload_n 0, 1) := dk_42 (dk_at dksX4_comparesFour_1 8 rfl rfl)
theorem dX4_comparesFour_33 : decode cX4_comparesFour 33 = .ok (.iload_n 1, 1) := dk_27 (dk_at dksX4_comparesFour_1 9 rfl rfl)
theorem dX4_comparesFour_34 : decode cX4_comparesFour 34 = .ok (.iload_n 3, 1) := dk_29 (dk_at dksX4_comparesFour_1 10 rfl rfl)
theorem dX4_comparesFour_35 : decode cX4_comparesFour 35 = .ok (.invokevirtual 345, 3) := dk_182 1 89 (dk_at dksX4_comparesFour_1 11 rfl rfl)
theorem dX4_comparesFour_38 : decode cX4_comparesFour 38 = .ok (.aload_n 0, 1) := dk_42 (dk_at dksX4_comparesFour_1 14 rfl rfl)
theorem dX4_comparesFour_39 : decode cX4_comparesFour 39 = .ok (.getfield 84, 3) := dk_180 0 84 (dk_at dksX4_comparesFour_1 15 rfl rfl)
theorem dX4_comparesFour_42 : decode cX4_comparesFour 42 = .ok (.iload_n 3, 1) := dk_29 (dk_at dksX4_comparesFour_1 18 rfl rfl)
theorem dX4_comparesFour_43 : decode cX4_comparesFour 43 = .ok (.iaload, 1) := dk_46 (dk_at dksX4_comparesFour_1 19 rfl rfl)
theorem dX4_comparesFour_44 : decode cX4_comparesFour 44 = .ok (.if_icmp .ge 7, 3) := dk_162 0 7 (dk_at dksX4_comparesFour_1 20 rfl rfl)
theorem dX4_comparesFour_47 : decode cX4_comparesFour 47 = .ok (.iconst (-1), 1) := dk_2 (dk_at dksX4_comparesFour_1 23 rfl rfl)
theorem dX4_comparesFour_48 : decode cX4_comparesFour 48 = .ok (.goto 4, 3) := dk_167 0 4 (dk_at dksX4_comparesFour_2 0 rfl rfl)
theorem dX4_comparesFour_51 : decode cX4_comparesFour 51 = .ok (.iconst 1, 1) := dk_4 (dk_at dksX4_comparesFour_2 3 rfl rfl)
theorem dX4_comparesFour_52 : decode cX4_comparesFour 52 = .ok (.ireturn, 1) := dk_172 (dk_at dksX4_comparesFour_2 4 rfl rfl)
theorem dX4_comparesFour_53 : decode cX4_comparesFour 53 = .ok (.iinc 2 1, 3) := dk_132 2 1 (dk_at dksX4_comparesFour_2 5 rfl rfl)
theorem dX4_comparesFour_56 : decode cX4_comparesFour 56 = .ok (.goto (-54), 3) := dk_167 255 202 (dk_at dksX4_comparesFour_2 8 rfl rfl)
theorem dX4_comparesFour_59 : decode cX4_comparesFour 59 = .ok (.iconst 0, 1) := dk_3 (dk_at dksX4_comparesFour_2 11 rfl rfl)
theorem dX4_comparesFour_60 : decode cX4_comparesFour 60 = .ok (.ireturn, 1) := dk_172 (dk_at dksX4_comparesFour_2 12 rfl rfl)
abbrev cX4_has_2 : ByteArray := prog_13_method_103_code
def yX4_has_2 : MethodName := ⟨RX4, "has", "(IIII)Z"⟩
def dkwX4_has_2_2 : List UInt8 := [132, 5, 1, 167, 255, 233, 3, 172]
abbrev dktX4_has_2_2 : List UInt8 := dkwX4_has_2_2 ++ []
def dkwX4_has_2_1 : List UInt8 := [54, 5, 21, 5, 42, 180, 0, 247, 162, 0, 20, 42, 21, 5, 182, 1, 123, 154, 0, 5, 4, 172]
abbrev dktX4_has_2_1 : List UInt8 := dkwX4_has_2_1 ++ dktX4_has_2_2
def dkwX4_has_2_0 : List UInt8 := [42, 182, 1, 21, 154, 0, 5, 3, 172, 42, 27, 28, 29, 21, 4, 182, 1, 119, 42, 182, 1, 40, 3]
abbrev dktX4_has_2_0 : List UInt8 := dkwX4_has_2_0 ++ dktX4_has_2_1
theorem dksX4_has_2_0 : cX4_has_2.data.toList.drop 0 = dktX4_has_2_0 := by decide +kernel
theorem dksX4_has_2_1 : cX4_has_2.data.toList.drop 23 = dktX4_has_2_1 := dk_seg dksX4_has_2_0 23 rfl rfl
theorem dksX4_has_2_2 : cX4_has_2.data.toList.drop 45 = dktX4_has_2_2 := dk_seg dksX4_has_2_1 22 rfl rfl
theorem dX4_has_2_0 : decode cX4_has_2 0 = .ok (.aload_n 0, 1) := dk_42 (dk_at dksX4_has_2_0 0 rfl rfl)
theorem dX4_has_2_1 : decode cX4_has_2 1 = .ok (.invokevirtual 277, 3) := dk_182 1 21 (dk_at dksX4_has_2_0 1 rfl rfl)
theorem dX4_has_2_4 : decode cX4_has_2 4 = .ok (.ifCond .ne 5, 3) := dk_154 0 5 (dk_at dksX4_has_2_0 4 rfl rfl)
theorem dX4_has_2_7 : decode cX4_has_2 7 = .ok (.iconst 0, 1) := dk_3 (dk_at dksX4_has_2_0 7 rfl rfl)
theorem dX4_has_2_8 : decode cX4_has_2 8 = .ok (.ireturn, 1) := dk_172 (dk_at dksX4_has_2_0 8 rfl rfl)
theorem dX4_has_2_9 : decode cX4_has_2 9 = .ok (.aload_n 0, 1) := dk_42 (dk_at dksX4_has_2_0 9 rfl rfl)
theorem dX4_has_2_10 : decode cX4_has_2 10 = .ok (.iload_n 1, 1) := dk_27 (dk_at dksX4_has_2_0 10 rfl rfl)
theorem dX4_has_2_11 : decode cX4_has_2 11 = .ok (.iload_n 2, 1) := dk_28 (dk_at dksX4_has_2_0 11 rfl rfl)
theorem dX4_has_2_12 : decode cX4_has_2 12 = .ok (.iload_n 3, 1) := dk_29 (dk_at dksX4_has_2_0 12 rfl rfl)
theorem dX4_has_2_13 : decode cX4_has_2 13 = .ok (.iload 4, 2) := dk_21 4 (dk_at dksX4_has_2_0 13 rfl rfl)
theorem dX4_has_2_15 : decode cX4_has_2 15 = .ok (.invokevirtual 375, 3) := dk_182 1 119 (dk_at dksX4_has_2_0 15 rfl rfl)
theorem dX4_has_2_18 : decode cX4_has_2 18 = .ok (.aload_n 0, 1) := dk_42 (dk_at dksX4_has_2_0 18 rfl rfl)
theorem dX4_has_2_19 : decode cX4_has_2 19 = .ok (.invokevirtual 296, 3) := dk_182 1 40 (dk_at dksX4_has_2_0 19 rfl rfl)
theorem dX4_has_2_22 : decode cX4_has_2 22 = .ok (.iconst 0, 1) := dk_3 (dk_at dksX4_has_2_0 22 rfl rfl)
theorem dX4_has_2_23 : decode cX4_has_2 23 = .ok (.istore 5, 2) := dk_54 5 (dk_at dksX4_has_2_1 0 rfl rfl)
theorem dX4_has_2_25 : decode cX4_has_2 25 = .ok (.iload 5, 2) := dk_21 5 (dk_at dksX4_has_2_1 2 rfl rfl)
theorem dX4_has_2_27 : decode cX4_has_2 27 = .ok (.aload_n 0, 1) := dk_42 (dk_at dksX4_has_2_1 4 rfl rfl)
theorem dX4_has_2_28 : decode cX4_has_2 28 = .ok (.getfield 247, 3) := dk_180 0 247 (dk_at dksX4_has_2_1 5 rfl rfl)
theorem dX4_has_2_31 : decode cX4_has_2 31 = .ok (.if_icmp .ge 20, 3) := dk_162 0 20 (dk_at dksX4_has_2_1 8 rfl rfl)
theorem dX4_has_2_34 : decode cX4_has_2 34 = .ok (.aload_n 0, 1) := dk_42 (dk_at dksX4_has_2_1 11 rfl rfl)
theorem dX4_has_2_35 : decode cX4_has_2 35 = .ok (.iload 5, 2) := dk_21 5 (dk_at dksX4_has_2_1 12 rfl rfl)
theorem dX4_has_2_37 : decode cX4_has_2 37 = .ok (.invokevirtual 379, 3) := dk_182 1 123 (dk_at dksX4_has_2_1 14 rfl rfl)
theorem dX4_has_2_40 : decode cX4_has_2 40 = .ok (.ifCond .ne 5, 3) := dk_154 0 5 (dk_at dksX4_has_2_1 17 rfl rfl)
theorem dX4_has_2_43 : decode cX4_has_2 43 = .ok (.iconst 1, 1) := dk_4 (dk_at dksX4_has_2_1 20 rfl rfl)
theorem dX4_has_2_44 : decode cX4_has_2 44 = .ok (.ireturn, 1) := dk_172 (dk_at dksX4_has_2_1 21 rfl rfl)
theorem dX4_has_2_45 : decode cX4_has_2 45 = .ok (.iinc 5 1, 3) := dk_132 5 1 (dk_at dksX4_has_2_2 0 rfl rfl)
theorem dX4_has_2_48 : decode cX4_has_2 48 = .ok (.goto (-23), 3) := dk_167 255 233 (dk_at dksX4_has_2_2 3 rfl rfl)
theorem dX4_has_2_51 : decode cX4_has_2 51 = .ok (.iconst 0, 1) := dk_3 (dk_at dksX4_has_2_2 6 rfl rfl)
theorem dX4_has_2_52 : decode cX4_has_2 52 = .ok (.ireturn, 1) := dk_172 (dk_at dksX4_has_2_2 7 rfl rfl)
abbrev cX4_mean : ByteArray := prog_13_method_106_code
def yX4_mean : MethodName := ⟨RX4, "mean", "(I)J"⟩
def dkwX4_mean_0 : List UInt8 := [42, 27, 182, 1, 126, 153, 0, 14, 42, 27, 182, 1, 129, 184, 1, 133, 167, 0, 6, 20, 1, 139, 173]
abbrev dktX4_mean_0 : List UInt8 := dkwX4_mean_0 ++ []
theorem dksX4_mean_0 : cX4_mean.data.toList.drop 0 = dktX4_mean_0 := by decide +kernel
theorem dX4_mean_0 : decode cX4_mean 0 = .ok (.aload_n 0, 1) := dk_42 (dk_at dksX4_mean_0 0 rfl rfl)
theorem dX4_mean_1 : decode cX4_mean 1 = .ok (.iload_n 1, 1) := dk_27 (dk_at dksX4_mean_0 1 rfl rfl)
theorem dX4_mean_2 : decode cX4_mean 2 = .ok (.invokevirtual 382, 3) := dk_182 1 126 (dk_at dksX4_mean_0 2 rfl rfl)
theorem dX4_mean_5 : decode cX4_mean 5 = .ok (.ifCond .eq 14, 3) := dk_153 0 14 (dk_at dksX4_mean_0 5 rfl rfl)
theorem dX4_mean_8 : decode cX4_mean 8 = .ok (.aload_n 0, 1) := dk_42 (dk_at dksX4_mean_0 8 rfl rfl)
theorem dX4_mean_9 : decode cX4_mean 9 = .ok (.iload_n 1, 1) := dk_27 (dk_at dksX4_mean_0 9 rfl rfl)
theorem dX4_mean_10 : decode cX4_mean 10 = .ok (.invokevirtual 385, 3) := dk_182 1 129 (dk_at dksX4_mean_0 10 rfl rfl)
theorem dX4_mean_13 : decode cX4_mean 13 = .ok (.invokestatic 389, 3) := dk_184 1 133 (dk_at dksX4_mean_0 13 rfl rfl)
theorem dX4_mean_16 : decode cX4_mean 16 = .ok (.goto 6, 3) := dk_167 0 6 (dk_at dksX4_mean_0 16 rfl rfl)
theorem dX4_mean_19 : decode cX4_mean 19 = .ok (.ldc2_w 395, 3) := dk_20 1 139 (dk_at dksX4_mean_0 19 rfl rfl)
theorem dX4_mean_22 : decode cX4_mean 22 = .ok (.lreturn, 1) := dk_173 (dk_at dksX4_mean_0 22 rfl rfl)
abbrev cX4_hasMean : ByteArray := prog_13_method_104_code
def yX4_hasMean : MethodName := ⟨RX4, "hasMean", "(I)Z"⟩
def dkwX4_hasMean_0 : List UInt8 := [42, 27, 182, 1, 86, 153, 0, 14, 42, 182, 1, 43, 158, 0, 7, 4, 167, 0, 4, 3, 172]
abbrev dktX4_hasMean_0 : List UInt8 := dkwX4_hasMean_0 ++ []
theorem dksX4_hasMean_0 : cX4_hasMean.data.toList.drop 0 = dktX4_hasMean_0 := by decide +kernel
theorem dX4_hasMean_0 : decode cX4_hasMean 0 = .ok (.aload_n 0, 1) := dk_42 (dk_at dksX4_hasMean_0 0 rfl rfl)
theorem dX4_hasMean_1 : decode cX4_hasMean 1 = .ok (.iload_n 1, 1) := dk_27 (dk_at dksX4_hasMean_0 1 rfl rfl)
theorem dX4_hasMean_2 : decode cX4_hasMean 2 = .ok (.invokevirtual 342, 3) := dk_182 1 86 (dk_at dksX4_hasMean_0 2 rfl rfl)
theorem dX4_hasMean_5 : decode cX4_hasMean 5 = .ok (.ifCond .eq 14, 3) := dk_153 0 14 (dk_at dksX4_hasMean_0 5 rfl rfl)
theorem dX4_hasMean_8 : decode cX4_hasMean 8 = .ok (.aload_n 0, 1) := dk_42 (dk_at dksX4_hasMean_0 8 rfl rfl)
theorem dX4_hasMean_9 : decode cX4_hasMean 9 = .ok (.invokevirtual 299, 3) := dk_182 1 43 (dk_at dksX4_hasMean_0 9 rfl rfl)
theorem dX4_hasMean_12 : decode cX4_hasMean 12 = .ok (.ifCond .le 7, 3) := dk_158 0 7 (dk_at dksX4_hasMean_0 12 rfl rfl)
theorem dX4_hasMean_15 : decode cX4_hasMean 15 = .ok (.iconst 1, 1) := dk_4 (dk_at dksX4_hasMean_0 15 rfl rfl)
theorem dX4_hasMean_16 : decode cX4_hasMean 16 = .ok (.goto 4, 3) := dk_167 0 4 (dk_at dksX4_hasMean_0 16 rfl rfl)
theorem dX4_hasMean_19 : decode cX4_hasMean 19 = .ok (.iconst 0, 1) := dk_3 (dk_at dksX4_hasMean_0 19 rfl rfl)
theorem dX4_hasMean_20 : decode cX4_hasMean 20 = .ok (.ireturn, 1) := dk_172 (dk_at dksX4_hasMean_0 20 rfl rfl)
abbrev cX4_meanOf : ByteArray := prog_13_method_105_code
def yX4_meanOf : MethodName := ⟨RX4, "meanOf", "(I)D"⟩
def dkwX4_meanOf_1 : List UInt8 := [65, 132, 4, 1, 167, 255, 233, 32, 138, 42, 180, 0, 247, 135, 111, 175]
abbrev dktX4_meanOf_1 : List UInt8 := dkwX4_meanOf_1 ++ []
def dkwX4_meanOf_0 : List UInt8 := [9, 65, 3, 54, 4, 21, 4, 42, 180, 0, 247, 162, 0, 20, 32, 42, 21, 4, 27, 182, 1, 89, 133, 97]
abbrev dktX4_meanOf_0 : List UInt8 := dkwX4_meanOf_0 ++ dktX4_meanOf_1
theorem dksX4_meanOf_0 : cX4_meanOf.data.toList.drop 0 = dktX4_meanOf_0 := by decide +kernel
theorem dksX4_meanOf_1 : cX4_meanOf.data.toList.drop 24 = dktX4_meanOf_1 := dk_seg dksX4_meanOf_0 24 rfl rfl
theorem dX4_meanOf_0 : decode cX4_meanOf 0 = .ok (.lconst 0, 1) := dk_9 (dk_at dksX4_meanOf_0 0 rfl rfl)
theorem dX4_meanOf_1 : decode cX4_meanOf 1 = .ok (.lstore_n 2, 1) := dk_65 (dk_at dksX4_meanOf_0 1 rfl rfl)
theorem dX4_meanOf_2 : decode cX4_meanOf 2 = .ok (.iconst 0, 1) := dk_3 (dk_at dksX4_meanOf_0 2 rfl rfl)
theorem dX4_meanOf_3 : decode cX4_meanOf 3 = .ok (.istore 4, 2) := dk_54 4 (dk_at dksX4_meanOf_0 3 rfl rfl)
theorem dX4_meanOf_5 : decode cX4_meanOf 5 = .ok (.iload 4, 2) := dk_21 4 (dk_at dksX4_meanOf_0 5 rfl rfl)
theorem dX4_meanOf_7 : decode cX4_meanOf 7 = .ok (.aload_n 0, 1) := dk_42 (dk_at dksX4_meanOf_0 7 rfl rfl)
theorem dX4_meanOf_8 : decode cX4_meanOf 8 = .ok (.getfield 247, 3) := dk_180 0 247 (dk_at dksX4_meanOf_0 8 rfl rfl)
theorem dX4_meanOf_11 : decode cX4_meanOf 11 = .ok (.if_icmp .ge 20, 3) := dk_162 0 20 (dk_at dksX4_meanOf_0 11 rfl rfl)
theorem dX4_meanOf_14 : decode cX4_meanOf 14 = .ok (.lload_n 2, 1) := dk_32 (dk_at dksX4_meanOf_0 14 rfl rfl)
theorem dX4_meanOf_15 : decode cX4_meanOf 15 = .ok (.aload_n 0, 1) := dk_42 (dk_at dksX4_meanOf_0 15 rfl rfl)
theorem dX4_meanOf_16 : decode cX4_meanOf 16 = .ok (.iload 4, 2) := dk_21 4 (dk_at dksX4_meanOf_0 16 rfl rfl)
theorem dX4_meanOf_18 : decode cX4_meanOf 18 = .ok (.iload_n 1, 1) := dk_27 (dk_at dksX4_meanOf_0 18 rfl rfl)
theorem dX4_meanOf_19 : decode cX4_meanOf 19 = .ok (.invokevirtual 345, 3) := dk_182 1 89 (dk_at dksX4_meanOf_0 19 rfl rfl)
theorem dX4_meanOf_22 : decode cX4_meanOf 22 = .ok (.i2l, 1) := dk_133 (dk_at dksX4_meanOf_0 22 rfl rfl)
theorem dX4_meanOf_23 : decode cX4_meanOf 23 = .ok (.ladd, 1) := dk_97 (dk_at dksX4_meanOf_0 23 rfl rfl)
theorem dX4_meanOf_24 : decode cX4_meanOf 24 = .ok (.lstore_n 2, 1) := dk_65 (dk_at dksX4_meanOf_1 0 rfl rfl)
theorem dX4_meanOf_25 : decode cX4_meanOf 25 = .ok (.iinc 4 1, 3) := dk_132 4 1 (dk_at dksX4_meanOf_1 1 rfl rfl)
theorem dX4_meanOf_28 : decode cX4_meanOf 28 = .ok (.goto (-23), 3) := dk_167 255 233 (dk_at dksX4_meanOf_1 4 rfl rfl)
theorem dX4_meanOf_31 : decode cX4_meanOf 31 = .ok (.lload_n 2, 1) := dk_32 (dk_at dksX4_meanOf_1 7 rfl rfl)
theorem dX4_meanOf_32 : decode cX4_meanOf 32 = .ok (.l2d, 1) := dk_138 (dk_at dksX4_meanOf_1 8 rfl rfl)
theorem dX4_meanOf_33 : decode cX4_meanOf 33 = .ok (.aload_n 0, 1) := dk_42 (dk_at dksX4_meanOf_1 9 rfl rfl)
theorem dX4_meanOf_34 : decode cX4_meanOf 34 = .ok (.getfield 247, 3) := dk_180 0 247 (dk_at dksX4_meanOf_1 10 rfl rfl)
theorem dX4_meanOf_37 : decode cX4_meanOf 37 = .ok (.i2d, 1) := dk_135 (dk_at dksX4_meanOf_1 13 rfl rfl)
theorem dX4_meanOf_38 : decode cX4_meanOf 38 = .ok (.ddiv, 1) := dk_111 (dk_at dksX4_meanOf_1 14 rfl rfl)
theorem dX4_meanOf_39 : decode cX4_meanOf 39 = .ok (.dreturn, 1) := dk_175 (dk_at dksX4_meanOf_1 15 rfl rfl)
abbrev cX4_meanAs : ByteArray := prog_13_method_107_code
def yX4_meanAs : MethodName := ⟨RX4, "meanAs", "(II)I"⟩
def dkwX4_meanAs_1 : List UInt8 := [154, 0, 15, 42, 27, 182, 1, 129, 144, 184, 1, 141, 167, 0, 9, 42, 27, 182, 1, 129, 142, 172]
abbrev dktX4_meanAs_1 : List UInt8 := dkwX4_meanAs_1 ++ []
def dkwX4_meanAs_0 : List UInt8 := [28, 3, 4, 184, 0, 104, 153, 0, 11, 42, 27, 182, 1, 126, 154, 0, 7, 19, 1, 82, 172, 28]
abbrev dktX4_meanAs_0 : List UInt8 := dkwX4_meanAs_0 ++ dktX4_meanAs_1
theorem dksX4_meanAs_0 : cX4_meanAs.data.toList.drop 0 = dktX4_meanAs_0 := by decide +kernel
theorem dksX4_meanAs_1 : cX4_meanAs.data.toList.drop 22 = dktX4_meanAs_1 := dk_seg dksX4_meanAs_0 22 rfl rfl
theorem dX4_meanAs_0 : decode cX4_meanAs 0 = .ok (.iload_n 2, 1) := dk_28 (dk_at dksX4_meanAs_0 0 rfl rfl)
theorem dX4_meanAs_1 : decode cX4_meanAs 1 = .ok (.iconst 0, 1) := dk_3 (dk_at dksX4_meanAs_0 1 rfl rfl)
theorem dX4_meanAs_2 : decode cX4_meanAs 2 = .ok (.iconst 1, 1) := dk_4 (dk_at dksX4_meanAs_0 2 rfl rfl)
theorem dX4_meanAs_3 : decode cX4_meanAs 3 = .ok (.invokestatic 104, 3) := dk_184 0 104 (dk_at dksX4_meanAs_0 3 rfl rfl)
theorem dX4_meanAs_6 : decode cX4_meanAs 6 = .ok (.ifCond .eq 11, 3) := dk_153 0 11 (dk_at dksX4_meanAs_0 6 rfl rfl)
theorem dX4_meanAs_9 : decode cX4_meanAs 9 = .ok (.aload_n 0, 1) := dk_42 (dk_at dksX4_meanAs_0 9 rfl rfl)
theorem dX4_meanAs_10 : decode cX4_meanAs 10 = .ok (.iload_n 1, 1) := dk_27 (dk_at dksX4_meanAs_0 10 rfl rfl)
theorem dX4_meanAs_11 : decode cX4_meanAs 11 = .ok (.invokevirtual 382, 3) := dk_182 1 126 (dk_at dksX4_meanAs_0 11 rfl rfl)
theorem dX4_meanAs_14 : decode cX4_meanAs 14 = .ok (.ifCond .ne 7, 3) := dk_154 0 7 (dk_at dksX4_meanAs_0 14 rfl rfl)
theorem dX4_meanAs_17 : decode cX4_meanAs 17 = .ok (.ldc_w 338, 3) := dk_19 1 82 (dk_at dksX4_meanAs_0 17 rfl rfl)
theorem dX4_meanAs_20 : decode cX4_meanAs 20 = .ok (.ireturn, 1) := dk_172 (dk_at dksX4_meanAs_0 20 rfl rfl)
theorem dX4_meanAs_21 : decode cX4_meanAs 21 = .ok (.iload_n 2, 1) := dk_28 (dk_at dksX4_meanAs_0 21 rfl rfl)
theorem dX4_meanAs_22 : decode cX4_meanAs 22 = .ok (.ifCond .ne 15, 3) := dk_154 0 15 (dk_at dksX4_meanAs_1 0 rfl rfl)
theorem dX4_meanAs_25 : decode cX4_meanAs 25 = .ok (.aload_n 0, 1) := dk_42 (dk_at dksX4_meanAs_1 3 rfl rfl)
theorem dX4_meanAs_26 : decode cX4_meanAs 26 = .ok (.iload_n 1, 1) := dk_27 (dk_at dksX4_meanAs_1 4 rfl rfl)
theorem dX4_meanAs_27 : decode cX4_meanAs 27 = .ok (.invokevirtual 385, 3) := dk_182 1 129 (dk_at dksX4_meanAs_1 5 rfl rfl)
theorem dX4_meanAs_30 : decode cX4_meanAs 30 = .ok (.d2f, 1) := dk_144 (dk_at dksX4_meanAs_1 8 rfl rfl)
theorem dX4_meanAs_31 : decode cX4_meanAs 31 = .ok (.invokestatic 397, 3) := dk_184 1 141 (dk_at dksX4_meanAs_1 9 rfl rfl)
theorem dX4_meanAs_34 : decode cX4_meanAs 34 = .ok (.goto 9, 3) := dk_167 0 9 (dk_at dksX4_meanAs_1 12 rfl rfl)
theorem dX4_meanAs_37 : decode cX4_meanAs 37 = .ok (.aload_n 0, 1) := dk_42 (dk_at dksX4_meanAs_1 15 rfl rfl)
theorem dX4_meanAs_38 : decode cX4_meanAs 38 = .ok (.iload_n 1, 1) := dk_27 (dk_at dksX4_meanAs_1 16 rfl rfl)
theorem dX4_meanAs_39 : decode cX4_meanAs 39 = .ok (.invokevirtual 385, 3) := dk_182 1 129 (dk_at dksX4_meanAs_1 17 rfl rfl)
theorem dX4_meanAs_42 : decode cX4_meanAs 42 = .ok (.d2i, 1) := dk_142 (dk_at dksX4_meanAs_1 20 rfl rfl)
theorem dX4_meanAs_43 : decode cX4_meanAs 43 = .ok (.ireturn, 1) := dk_172 (dk_at dksX4_meanAs_1 21 rfl rfl)
abbrev cX4_spread : ByteArray := prog_13_method_108_code
def yX4_spread : MethodName := ⟨RX4, "spread", "(I)J"⟩
def dkwX4_spread_3 : List UInt8 := [24, 4, 42, 180, 0, 247, 135, 111, 184, 1, 133, 173]
abbrev dktX4_spread_3 : List UInt8 := dkwX4_spread_3 ++ []
def dkwX4_spread_2 : List UInt8 := [24, 7, 14, 152, 156, 0, 9, 24, 7, 119, 167, 0, 5, 24, 7, 99, 57, 4, 132, 6, 1, 167, 255, 212]
abbrev dktX4_spread_2 : List UInt8 := dkwX4_spread_2 ++ dktX4_spread_3
def dkwX4_spread_1 : List UInt8 := [21, 6, 42, 180, 0, 247, 162, 0, 41, 42, 21, 6, 27, 182, 1, 89, 135, 40, 103, 57, 7, 24, 4]
abbrev dktX4_spread_1 : List UInt8 := dkwX4_spread_1 ++ dktX4_spread_2
def dkwX4_spread_0 : List UInt8 := [42, 27, 182, 1, 126, 154, 0, 7, 20, 1, 139, 173, 42, 27, 182, 1, 129, 73, 14, 57, 4, 3, 54, 6]
abbrev dktX4_spread_0 : List UInt8 := dkwX4_spread_0 ++ dktX4_spread_1
theorem dksX4_spread_0 : cX4_spread.data.toList.drop 0 = dktX4_spread_0 := by decide +kernel
theorem dksX4_spread_1 : cX4_spread.data.toList.drop 24 = dktX4_spread_1 := dk_seg dksX4_spread_0 24 rfl rfl
theorem dksX4_spread_2 : cX4_spread.data.toList.drop 47 = dktX4_spread_2 := dk_seg dksX4_spread_1 23 rfl rfl
theorem dksX4_spread_3 : cX4_spread.data.toList.drop 71 = dktX4_spread_3 := dk_seg dksX4_spread_2 24 rfl rfl
theorem dX4_spread_0 : decode cX4_spread 0 = .ok (.aload_n 0, 1) := dk_42 (dk_at dksX4_spread_0 0 rfl rfl)
theorem dX4_spread_1 : decode cX4_spread 1 = .ok (.iload_n 1, 1) := dk_27 (dk_at dksX4_spread_0 1 rfl rfl)
theorem dX4_spread_2 : decode cX4_spread 2 = .ok (.invokevirtual 382, 3) := dk_182 1 126 (dk_at dksX4_spread_0 2 rfl rfl)
theorem dX4_spread_5 : decode cX4_spread 5 = .ok (.ifCond .ne 7, 3) := dk_154 0 7 (dk_at dksX4_spread_0 5 rfl rfl)
theorem dX4_spread_8 : decode cX4_spread 8 = .ok (.ldc2_w 395, 3) := dk_20 1 139 (dk_at dksX4_spread_0 8 rfl rfl)
theorem dX4_spread_11 : decode cX4_spread 11 = .ok (.lreturn, 1) := dk_173 (dk_at dksX4_spread_0 11 rfl rfl)
theorem dX4_spread_12 : decode cX4_spread 12 = .ok (.aload_n 0, 1) := dk_42 (dk_at dksX4_spread_0 12 rfl rfl)
theorem dX4_spread_13 : decode cX4_spread 13 = .ok (.iload_n 1, 1) := dk_27 (dk_at dksX4_spread_0 13 rfl rfl)
theorem dX4_spread_14 : decode cX4_spread 14 = .ok (.invokevirtual 385, 3) := dk_182 1 129 (dk_at dksX4_spread_0 14 rfl rfl)
theorem dX4_spread_17 : decode cX4_spread 17 = .ok (.dstore_n 2, 1) := dk_73 (dk_at dksX4_spread_0 17 rfl rfl)
theorem dX4_spread_18 : decode cX4_spread 18 = .ok (.dconst 0, 1) := dk_14 (dk_at dksX4_spread_0 18 rfl rfl)
theorem dX4_spread_19 : decode cX4_spread 19 = .ok (.dstore 4, 2) := dk_57 4 (dk_at dksX4_spread_0 19 rfl rfl)
theorem dX4_spread_21 : decode cX4_spread 21 = .ok (.iconst 0, 1) := dk_3 (dk_at dksX4_spread_0 21 rfl rfl)
theorem dX4_spread_22 : decode cX4_spread 22 = .ok (.istore 6, 2) := dk_54 6 (dk_at dksX4_spread_0 22 rfl rfl)
theorem dX4_spread_24 : decode cX4_spread 24 = .ok (.iload 6, 2) := dk_21 6 (dk_at dksX4_spread_1 0 rfl rfl)
theorem dX4_spread_26 : decode cX4_spread 26 = .ok (.aload_n 0, 1) := dk_42 (dk_at dksX4_spread_1 2 rfl rfl)
theorem dX4_spread_27 : decode cX4_spread 27 = .ok (.getfield 247, 3) := dk_180 0 247 (dk_at dksX4_spread_1 3 rfl rfl)
theorem dX4_spread_30 : decode cX4_spread 30 = .ok (.if_icmp .ge 41, 3) := dk_162 0 41 (dk_at dksX4_spread_1 6 rfl rfl)
theorem dX4_spread_33 : decode cX4_spread 33 = .ok (.aload_n 0, 1) := dk_42 (dk_at dksX4_spread_1 9 rfl rfl)
theorem dX4_spread_34 : decode cX4_spread 34 = .ok (.iload 6, 2) := dk_21 6 (dk_at dksX4_spread_1 10 rfl rfl)
theorem dX4_spread_36 : decode cX4_spread 36 = .ok (.iload_n 1, 1) := dk_27 (dk_at dksX4_spread_1 12 rfl rfl)
theorem dX4_spread_37 : decode cX4_spread 37 = .ok (.invokevirtual 345, 3) := dk_182 1 89 (dk_at dksX4_spread_1 13 rfl rfl)
theorem dX4_spread_40 : decode cX4_spread 40 = .ok (.i2d, 1) := dk_135 (dk_at dksX4_spread_1 16 rfl rfl)
theorem dX4_spread_41 : decode cX4_spread 41 = .ok (.dload_n 2, 1) := dk_40 (dk_at dksX4_spread_1 17 rfl rfl)
theorem dX4_spread_42 : decode cX4_spread 42 = .ok (.dsub, 1) := dk_103 (dk_at dksX4_spread_1 18 rfl rfl)
theorem dX4_spread_43 : decode cX4_spread 43 = .ok (.dstore 7, 2) := dk_57 7 (dk_at dksX4_spread_1 19 rfl rfl)
theorem dX4_spread_45 : decode cX4_spread 45 = .ok (.dload 4, 2) := dk_24 4 (dk_at dksX4_spread_1 21 rfl rfl)
theorem dX4_spread_47 : decode cX4_spread 47 = .ok (.dload 7, 2) := dk_24 7 (dk_at dksX4_spread_2 0 rfl rfl)
theorem dX4_spread_49 : decode cX4_spread 49 = .ok (.dconst 0, 1) := dk_14 (dk_at dksX4_spread_2 2 rfl rfl)
theorem dX4_spread_50 : decode cX4_spread 50 = .ok (.dcmp .g, 1) := dk_152 (dk_at dksX4_spread_2 3 rfl rfl)
theorem dX4_spread_51 : decode cX4_spread 51 = .ok (.ifCond .ge 9, 3) := dk_156 0 9 (dk_at dksX4_spread_2 4 rfl rfl)
theorem dX4_spread_54 : decode cX4_spread 54 = .ok (.dload 7, 2) := dk_24 7 (dk_at dksX4_spread_2 7 rfl rfl)
theorem dX4_spread_56 : decode cX4_spread 56 = .ok (.dneg, 1) := dk_119 (dk_at dksX4_spread_2 9 rfl rfl)
theorem dX4_spread_57 : decode cX4_spread 57 = .ok (.goto 5, 3) := dk_167 0 5 (dk_at dksX4_spread_2 10 rfl rfl)
theorem dX4_spread_60 : decode cX4_spread 60 = .ok (.dload 7, 2) := dk_24 7 (dk_at dksX4_spread_2 13 rfl rfl)
theorem dX4_spread_62 : decode cX4_spread 62 = .ok (.dadd, 1) := dk_99 (dk_at dksX4_spread_2 15 rfl rfl)
theorem dX4_spread_63 : decode cX4_spread 63 = .ok (.dstore 4, 2) := dk_57 4 (dk_at dksX4_spread_2 16 rfl rfl)
theorem dX4_spread_65 : decode cX4_spread 65 = .ok (.iinc 6 1, 3) := dk_132 6 1 (dk_at dksX4_spread_2 18 rfl rfl)
theorem dX4_spread_68 : decode cX4_spread 68 = .ok (.goto (-44), 3) := dk_167 255 212 (dk_at dksX4_spread_2 21 rfl rfl)
theorem dX4_spread_71 : decode cX4_spread 71 = .ok (.dload 4, 2) := dk_24 4 (dk_at dksX4_spread_3 0 rfl rfl)
theorem dX4_spread_73 : decode cX4_spread 73 = .ok (.aload_n 0, 1) := dk_42 (dk_at dksX4_spread_3 2 rfl rfl)
theorem dX4_spread_74 : decode cX4_spread 74 = .ok (.getfield 247, 3) := dk_180 0 247 (dk_at dksX4_spread_3 3 rfl rfl)
theorem dX4_spread_77 : decode cX4_spread 77 = .ok (.i2d, 1) := dk_135 (dk_at dksX4_spread_3 6 rfl rfl)
theorem dX4_spread_78 : decode cX4_spread 78 = .ok (.ddiv, 1) := dk_111 (dk_at dksX4_spread_3 7 rfl rfl)
theorem dX4_spread_79 : decode cX4_spread 79 = .ok (.invokestatic 389, 3) := dk_184 1 133 (dk_at dksX4_spread_3 8 rfl rfl)
theorem dX4_spread_82 : decode cX4_spread 82 = .ok (.lreturn, 1) := dk_173 (dk_at dksX4_spread_3 11 rfl rfl)
abbrev cX4_skew : ByteArray := prog_13_method_109_code
def yX4_skew : MethodName := ⟨RX4, "skew", "(I)I"⟩
def dkwX4_skew_1 : List UInt8 := [42, 27, 6, 182, 1, 113, 96, 46, 61, 28, 134, 42, 180, 0, 247, 134, 110, 184, 1, 141, 172]
abbrev dktX4_skew_1 : List UInt8 := dkwX4_skew_1 ++ []
def dkwX4_skew_0 : List UInt8 := [42, 27, 182, 1, 126, 154, 0, 7, 19, 1, 82, 172, 42, 182, 1, 110, 42, 180, 0, 68, 16, 100, 27, 104]
abbrev dktX4_skew_0 : List UInt8 := dkwX4_skew_0 ++ dktX4_skew_1
theorem dksX4_skew_0 : cX4_skew.data.toList.drop 0 = dktX4_skew_0 := by decide +kernel
theorem dksX4_skew_1 : cX4_skew.data.toList.drop 24 = dktX4_skew_1 := dk_seg dksX4_skew_0 24 rfl rfl
theorem dX4_skew_0 : decode cX4_skew 0 = .ok (.aload_n 0, 1) := dk_42 (dk_at dksX4_skew_0 0 rfl rfl)
theorem dX4_skew_1 : decode cX4_skew 1 = .ok (.iload_n 1, 1) := dk_27 (dk_at dksX4_skew_0 1 rfl rfl)
theorem dX4_skew_2 : decode cX4_skew 2 = .ok (.invokevirtual 382, 3) := dk_182 1 126 (dk_at dksX4_skew_0 2 rfl rfl)
theorem dX4_skew_5 : decode cX4_skew 5 = .ok (.ifCond .ne 7, 3) := dk_154 0 7 (dk_at dksX4_skew_0 5 rfl rfl)
theorem dX4_skew_8 : decode cX4_skew 8 = .ok (.ldc_w 338, 3) := dk_19 1 82 (dk_at dksX4_skew_0 8 rfl rfl)
theorem dX4_skew_11 : decode cX4_skew 11 = .ok (.ireturn, 1) := dk_172 (dk_at dksX4_skew_0 11 rfl rfl)
theorem dX4_skew_12 : decode cX4_skew 12 = .ok (.aload_n 0, 1) := dk_42 (dk_at dksX4_skew_0 12 rfl rfl)
theorem dX4_skew_13 : decode cX4_skew 13 = .ok (.invokevirtual 366, 3) := dk_182 1 110 (dk_at dksX4_skew_0 13 rfl rfl)
theorem dX4_skew_16 : decode cX4_skew 16 = .ok (.aload_n 0, 1) := dk_42 (dk_at dksX4_skew_0 16 rfl rfl)
theorem dX4_skew_17 : decode cX4_skew 17 = .ok (.getfield 68, 3) := dk_180 0 68 (dk_at dksX4_skew_0 17 rfl rfl)
theorem dX4_skew_20 : decode cX4_skew 20 = .ok (.bipush 100, 2) := dk_16 100 (dk_at dksX4_skew_0 20 rfl rfl)
theorem dX4_skew_22 : decode cX4_skew 22 = .ok (.iload_n 1, 1) := dk_27 (dk_at dksX4_skew_0 22 rfl rfl)
theorem dX4_skew_23 : decode cX4_skew 23 = .ok (.imul, 1) := dk_104 (dk_at dksX4_skew_0 23 rfl rfl)
theorem dX4_skew_24 : decode cX4_skew 24 = .ok (.aload_n 0, 1) := dk_42 (dk_at dksX4_skew_1 0 rfl rfl)
theorem dX4_skew_25 : decode cX4_skew 25 = .ok (.iload_n 1, 1) := dk_27 (dk_at dksX4_skew_1 1 rfl rfl)
theorem dX4_skew_26 : decode cX4_skew 26 = .ok (.iconst 3, 1) := dk_6 (dk_at dksX4_skew_1 2 rfl rfl)
theorem dX4_skew_27 : decode cX4_skew 27 = .ok (.invokevirtual 369, 3) := dk_182 1 113 (dk_at dksX4_skew_1 3 rfl rfl)
theorem dX4_skew_30 : decode cX4_skew 30 = .ok (.iadd, 1) := dk_96 (dk_at dksX4_skew_1 6 rfl rfl)
theorem dX4_skew_31 : decode cX4_skew 31 = .ok (.iaload, 1) := dk_46 (dk_at dksX4_skew_1 7 rfl rfl)
theorem dX4_skew_32 : decode cX4_skew 32 = .ok (.istore_n 2, 1) := dk_61 (dk_at dksX4_skew_1 8 rfl rfl)
theorem dX4_skew_33 : decode cX4_skew 33 = .ok (.iload_n 2, 1) := dk_28 (dk_at dksX4_skew_1 9 rfl rfl)
theorem dX4_skew_34 : decode cX4_skew 34 = .ok (.i2f, 1) := dk_134 (dk_at dksX4_skew_1 10 rfl rfl)
theorem dX4_skew_35 : decode cX4_skew 35 = .ok (.aload_n 0, 1) := dk_42 (dk_at dksX4_skew_1 11 rfl rfl)
theorem dX4_skew_36 : decode cX4_skew 36 = .ok (.getfield 247, 3) := dk_180 0 247 (dk_at dksX4_skew_1 12 rfl rfl)
theorem dX4_skew_39 : decode cX4_skew 39 = .ok (.i2f, 1) := dk_134 (dk_at dksX4_skew_1 15 rfl rfl)
theorem dX4_skew_40 : decode cX4_skew 40 = .ok (.fdiv, 1) := dk_110 (dk_at dksX4_skew_1 16 rfl rfl)
theorem dX4_skew_41 : decode cX4_skew 41 = .ok (.invokestatic 397, 3) := dk_184 1 141 (dk_at dksX4_skew_1 17 rfl rfl)
theorem dX4_skew_44 : decode cX4_skew 44 = .ok (.ireturn, 1) := dk_172 (dk_at dksX4_skew_1 20 rfl rfl)
abbrev cX4_would : ByteArray := prog_13_method_112_code
def yX4_would : MethodName := ⟨RX4, "would", "(IIIII)I"⟩
def dkwX4_would_2 : List UInt8 := [21, 5, 154, 0, 10, 42, 180, 0, 247, 167, 0, 7, 42, 180, 0, 244, 172]
abbrev dktX4_would_2 : List UInt8 := dkwX4_would_2 ++ []
def dkwX4_would_1 : List UInt8 := [172, 42, 182, 1, 147, 42, 27, 28, 29, 21, 4, 182, 0, 201, 87, 42, 182, 1, 40, 42, 182, 1, 150]
abbrev dktX4_would_1 : List UInt8 := dkwX4_would_1 ++ dktX4_would_2
def dkwX4_would_0 : List UInt8 := [42, 27, 28, 29, 21, 4, 182, 1, 31, 2, 160, 0, 13, 21, 5, 3, 4, 184, 0, 104, 154, 0, 5, 2]
abbrev dktX4_would_0 : List UInt8 := dkwX4_would_0 ++ dktX4_would_1
theorem dksX4_would_0 : cX4_would.data.toList.drop 0 = dktX4_would_0 := by decide +kernel
theorem dksX4_would_1 : cX4_would.data.toList.drop 24 = dktX4_would_1 := dk_seg dksX4_would_0 24 rfl rfl
theorem dksX4_would_2 : cX4_would.data.toList.drop 47 = dktX4_would_2 := dk_seg dksX4_would_1 23 rfl rfl
theorem dX4_would_0 : decode cX4_would 0 = .ok (.aload_n 0, 1) := dk_42 (dk_at dksX4_would_0 0 rfl rfl)
theorem dX4_would_1 : decode cX4_would 1 = .ok (.iload_n 1, 1) := dk_27 (dk_at dksX4_would_0 1 rfl rfl)
theorem dX4_would_2 : decode cX4_would 2 = .ok (.iload_n 2, 1) := dk_28 (dk_at dksX4_would_0 2 rfl rfl)
theorem dX4_would_3 : decode cX4_would 3 = .ok (.iload_n 3, 1) := dk_29 (dk_at dksX4_would_0 3 rfl rfl)
theorem dX4_would_4 : decode cX4_would 4 = .ok (.iload 4, 2) := dk_21 4 (dk_at dksX4_would_0 4 rfl rfl)
theorem dX4_would_6 : decode cX4_would 6 = .ok (.invokevirtual 287, 3) := dk_182 1 31 (dk_at dksX4_would_0 6 rfl rfl)
theorem dX4_would_9 : decode cX4_would 9 = .ok (.iconst (-1), 1) := dk_2 (dk_at dksX4_would_0 9 rfl rfl)
theorem dX4_would_10 : decode cX4_would 10 = .ok (.if_icmp .ne 13, 3) := dk_160 0 13 (dk_at dksX4_would_0 10 rfl rfl)
theorem dX4_would_13 : decode cX4_would 13 = .ok (.iload 5, 2) := dk_21 5 (dk_at dksX4_would_0 13 rfl rfl)
theorem dX4_would_15 : decode cX4_would 15 = .ok (.iconst 0, 1) := dk_3 (dk_at dksX4_would_0 15 rfl rfl)
theorem dX4_would_16 : decode cX4_would 16 = .ok (.iconst 1, 1) := dk_4 (dk_at dksX4_would_0 16 rfl rfl)
theorem dX4_would_17 : decode cX4_would 17 = .ok (.invokestatic 104, 3) := dk_184 0 104 (dk_at dksX4_would_0 17 rfl rfl)
theorem dX4_would_20 : decode cX4_would 20 = .ok (.ifCond .ne 5, 3) := dk_154 0 5 (dk_at dksX4_would_0 20 rfl rfl)
theorem dX4_would_23 : decode cX4_would 23 = .ok (.iconst (-1), 1) := dk_2 (dk_at dksX4_would_0 23 rfl rfl)
theorem dX4_would_24 : decode cX4_would 24 = .ok (.ireturn, 1) := dk_172 (dk_at dksX4_would_1 0 rfl rfl)
theorem dX4_would_25 : decode cX4_would 25 = .ok (.aload_n 0, 1) := dk_42 (dk_at dksX4_would_1 1 rfl rfl)
theorem dX4_would_26 : decode cX4_would 26 = .ok (.invokevirtual 403, 3) := dk_182 1 147 (dk_at dksX4_would_1 2 rfl rfl)
theorem dX4_would_29 : decode cX4_would 29 = .ok (.aload_n 0, 1) := dk_42 (dk_at dksX4_would_1 5 rfl rfl)
theorem dX4_would_30 : decode cX4_would 30 = .ok (.iload_n 1, 1) := dk_27 (dk_at dksX4_would_1 6 rfl rfl)
theorem dX4_would_31 : decode cX4_would 31 = .ok (.iload_n 2, 1) := dk_28 (dk_at dksX4_would_1 7 rfl rfl)
theorem dX4_would_32 : decode cX4_would 32 = .ok (.iload_n 3, 1) := dk_29 (dk_at dksX4_would_1 8 rfl rfl)
theorem dX4_would_33 : decode cX4_would 33 = .ok (.iload 4, 2) := dk_21 4 (dk_at dksX4_would_1 9 rfl rfl)
theorem dX4_would_35 : decode cX4_would 35 = .ok (.invokevirtual 201, 3) := dk_182 0 201 (dk_at dksX4_would_1 11 rfl rfl)
theorem dX4_would_38 : decode cX4_would 38 = .ok (.pop, 1) := dk_87 (dk_at dksX4_would_1 14 rfl rfl)
theorem dX4_would_39 : decode cX4_would 39 = .ok (.aload_n 0, 1) := dk_42 (dk_at dksX4_would_1 15 rfl rfl)
theorem dX4_would_40 : decode cX4_would 40 = .ok (.invokevirtual 296, 3) := dk_182 1 40 (dk_at dksX4_would_1 16 rfl rfl)
theorem dX4_would_43 : decode cX4_would 43 = .ok (.aload_n 0, 1) := dk_42 (dk_at dksX4_would_1 19 rfl rfl)
theorem dX4_would_44 : decode cX4_would 44 = .ok (.invokevirtual 406, 3) := dk_182 1 150 (dk_at dksX4_would_1 20 rfl rfl)
theorem dX4_would_47 : decode cX4_would 47 = .ok (.iload 5, 2) := dk_21 5 (dk_at dksX4_would_2 0 rfl rfl)
theorem dX4_would_49 : decode cX4_would 49 = .ok (.ifCond .ne 10, 3) := dk_154 0 10 (dk_at dksX4_would_2 2 rfl rfl)
theorem dX4_would_52 : decode cX4_would 52 = .ok (.aload_n 0, 1) := dk_42 (dk_at dksX4_would_2 5 rfl rfl)
theorem dX4_would_53 : decode cX4_would 53 = .ok (.getfield 247, 3) := dk_180 0 247 (dk_at dksX4_would_2 6 rfl rfl)
theorem dX4_would_56 : decode cX4_would 56 = .ok (.goto 7, 3) := dk_167 0 7 (dk_at dksX4_would_2 9 rfl rfl)
theorem dX4_would_59 : decode cX4_would 59 = .ok (.aload_n 0, 1) := dk_42 (dk_at dksX4_would_2 12 rfl rfl)
theorem dX4_would_60 : decode cX4_would 60 = .ok (.getfield 244, 3) := dk_180 0 244 (dk_at dksX4_would_2 13 rfl rfl)
theorem dX4_would_63 : decode cX4_would 63 = .ok (.ireturn, 1) := dk_172 (dk_at dksX4_would_2 16 rfl rfl)
abbrev cX4_putAside : ByteArray := prog_13_method_110_code
def yX4_putAside : MethodName := ⟨RX4, "putAside", "()V"⟩
def dkwX4_putAside_1 : List UInt8 := [167, 255, 234, 177]
abbrev dktX4_putAside_1 : List UInt8 := dkwX4_putAside_1 ++ []
def dkwX4_putAside_0 : List UInt8 := [3, 60, 27, 17, 0, 150, 162, 0, 21, 42, 180, 0, 87, 27, 42, 180, 0, 31, 27, 46, 79, 132, 1, 1]
abbrev dktX4_putAside_0 : List UInt8 := dkwX4_putAside_0 ++ dktX4_putAside_1
theorem dksX4_putAside_0 : cX4_putAside.data.toList.drop 0 = dktX4_putAside_0 := by decide +kernel
theorem dksX4_putAside_1 : cX4_putAside.data.toList.drop 24 = dktX4_putAside_1 := dk_seg dksX4_putAside_0 24 rfl rfl
theorem dX4_putAside_0 : decode cX4_putAside 0 = .ok (.iconst 0, 1) := dk_3 (dk_at dksX4_putAside_0 0 rfl rfl)
theorem dX4_putAside_1 : decode cX4_putAside 1 = .ok (.istore_n 1, 1) := dk_60 (dk_at dksX4_putAside_0 1 rfl rfl)
theorem dX4_putAside_2 : decode cX4_putAside 2 = .ok (.iload_n 1, 1) := dk_27 (dk_at dksX4_putAside_0 2 rfl rfl)
theorem dX4_putAside_3 : decode cX4_putAside 3 = .ok (.sipush 150, 3) := dk_17 0 150 (dk_at dksX4_putAside_0 3 rfl rfl)
theorem dX4_putAside_6 : decode cX4_putAside 6 = .ok (.if_icmp .ge 21, 3) := dk_162 0 21 (dk_at dksX4_putAside_0 6 rfl rfl)
theorem dX4_putAside_9 : decode cX4_putAside 9 = .ok (.aload_n 0, 1) := dk_42 (dk_at dksX4_putAside_0 9 rfl rfl)
theorem dX4_putAside_10 : decode cX4_putAside 10 = .ok (.getfield 87, 3) := dk_180 0 87 (dk_at dksX4_putAside_0 10 rfl rfl)
theorem dX4_putAside_13 : decode cX4_putAside 13 = .ok (.iload_n 1, 1) := dk_27 (dk_at dksX4_putAside_0 13 rfl rfl)
theorem dX4_putAside_14 : decode cX4_putAside 14 = .ok (.aload_n 0, 1) := dk_42 (dk_at dksX4_putAside_0 14 rfl rfl)
theorem dX4_putAside_15 : decode cX4_putAside 15 = .ok (.getfield 31, 3) := dk_180 0 31 (dk_at dksX4_putAside_0 15 rfl rfl)
theorem dX4_putAside_18 : decode cX4_putAside 18 = .ok (.iload_n 1, 1) := dk_27 (dk_at dksX4_putAside_0 18 rfl rfl)
theorem dX4_putAside_19 : decode cX4_putAside 19 = .ok (.iaload, 1) := dk_46 (dk_at dksX4_putAside_0 19 rfl rfl)
theorem dX4_putAside_20 : decode cX4_putAside 20 = .ok (.iastore, 1) := dk_79 (dk_at dksX4_putAside_0 20 rfl rfl)
theorem dX4_putAside_21 : decode cX4_putAside 21 = .ok (.iinc 1 1, 3) := dk_132 1 1 (dk_at dksX4_putAside_0 21 rfl rfl)
theorem dX4_putAside_24 : decode cX4_putAside 24 = .ok (.goto (-22), 3) := dk_167 255 234 (dk_at dksX4_putAside_1 0 rfl rfl)
theorem dX4_putAside_27 : decode cX4_putAside 27 = .ok (.return_, 1) := dk_177 (dk_at dksX4_putAside_1 3 rfl rfl)
abbrev cX4_bringBack : ByteArray := prog_13_method_111_code
def yX4_bringBack : MethodName := ⟨RX4, "bringBack", "()V"⟩
def dkwX4_bringBack_1 : List UInt8 := [167, 255, 234, 177]
abbrev dktX4_bringBack_1 : List UInt8 := dkwX4_bringBack_1 ++ []
def dkwX4_bringBack_0 : List UInt8 := [3, 60, 27, 17, 0, 150, 162, 0, 21, 42, 180, 0, 31, 27, 42, 180, 0, 87, 27, 46, 79, 132, 1, 1]
abbrev dktX4_bringBack_0 : List UInt8 := dkwX4_bringBack_0 ++ dktX4_bringBack_1
theorem dksX4_bringBack_0 : cX4_bringBack.data.toList.drop 0 = dktX4_bringBack_0 := by decide +kernel
theorem dksX4_bringBack_1 : cX4_bringBack.data.toList.drop 24 = dktX4_bringBack_1 := dk_seg dksX4_bringBack_0 24 rfl rfl
theorem dX4_bringBack_0 : decode cX4_bringBack 0 = .ok (.iconst 0, 1) := dk_3 (dk_at dksX4_bringBack_0 0 rfl rfl)
theorem dX4_bringBack_1 : decode cX4_bringBack 1 = .ok (.istore_n 1, 1) := dk_60 (dk_at dksX4_bringBack_0 1 rfl rfl)
theorem dX4_bringBack_2 : decode cX4_bringBack 2 = .ok (.iload_n 1, 1) := dk_27 (dk_at dksX4_bringBack_0 2 rfl rfl)
theorem dX4_bringBack_3 : decode cX4_bringBack 3 = .ok (.sipush 150, 3) := dk_17 0 150 (dk_at dksX4_bringBack_0 3 rfl rfl)
theorem dX4_bringBack_6 : decode cX4_bringBack 6 = .ok (.if_icmp .ge 21, 3) := dk_162 0 21 (dk_at dksX4_bringBack_0 6 rfl rfl)
theorem dX4_bringBack_9 : decode cX4_bringBack 9 = .ok (.aload_n 0, 1) := dk_42 (dk_at dksX4_bringBack_0 9 rfl rfl)
theorem dX4_bringBack_10 : decode cX4_bringBack 10 = .ok (.getfield 31, 3) := dk_180 0 31 (dk_at dksX4_bringBack_0 10 rfl rfl)
theorem dX4_bringBack_13 : decode cX4_bringBack 13 = .ok (.iload_n 1, 1) := dk_27 (dk_at dksX4_bringBack_0 13 rfl rfl)
theorem dX4_bringBack_14 : decode cX4_bringBack 14 = .ok (.aload_n 0, 1) := dk_42 (dk_at dksX4_bringBack_0 14 rfl rfl)
theorem dX4_bringBack_15 : decode cX4_bringBack 15 = .ok (.getfield 87, 3) := dk_180 0 87 (dk_at dksX4_bringBack_0 15 rfl rfl)
theorem dX4_bringBack_18 : decode cX4_bringBack 18 = .ok (.iload_n 1, 1) := dk_27 (dk_at dksX4_bringBack_0 18 rfl rfl)
theorem dX4_bringBack_19 : decode cX4_bringBack 19 = .ok (.iaload, 1) := dk_46 (dk_at dksX4_bringBack_0 19 rfl rfl)
theorem dX4_bringBack_20 : decode cX4_bringBack 20 = .ok (.iastore, 1) := dk_79 (dk_at dksX4_bringBack_0 20 rfl rfl)
theorem dX4_bringBack_21 : decode cX4_bringBack 21 = .ok (.iinc 1 1, 3) := dk_132 1 1 (dk_at dksX4_bringBack_0 21 rfl rfl)
theorem dX4_bringBack_24 : decode cX4_bringBack 24 = .ok (.goto (-22), 3) := dk_167 255 234 (dk_at dksX4_bringBack_1 0 rfl rfl)
theorem dX4_bringBack_27 : decode cX4_bringBack 27 = .ok (.return_, 1) := dk_177 (dk_at dksX4_bringBack_1 3 rfl rfl)
abbrev cX4_step : ByteArray := prog_13_method_114_code
def yX4_step : MethodName := ⟨RX4, "step", "(III)I"⟩
def dkwX4_step_2 : List UInt8 := [167, 0, 6, 19, 1, 82, 172]
abbrev dktX4_step_2 : List UInt8 := dkwX4_step_2 ++ []
def dkwX4_step_1 : List UInt8 := [29, 3, 7, 184, 0, 104, 153, 0, 21, 42, 180, 0, 25, 8, 16, 12, 27, 104, 28, 96, 104, 29, 96, 46]
abbrev dktX4_step_1 : List UInt8 := dkwX4_step_1 ++ dktX4_step_2
def dkwX4_step_0 : List UInt8 := [42, 27, 182, 1, 153, 153, 0, 46, 28, 3, 42, 180, 0, 28, 27, 46, 4, 100, 184, 0, 104, 153, 0, 30]
abbrev dktX4_step_0 : List UInt8 := dkwX4_step_0 ++ dktX4_step_1
theorem dksX4_step_0 : cX4_step.data.toList.drop 0 = dktX4_step_0 := by decide +kernel
theorem dksX4_step_1 : cX4_step.data.toList.drop 24 = dktX4_step_1 := dk_seg dksX4_step_0 24 rfl rfl
theorem dksX4_step_2 : cX4_step.data.toList.drop 48 = dktX4_step_2 := dk_seg dksX4_step_1 24 rfl rfl
theorem dX4_step_0 : decode cX4_step 0 = .ok (.aload_n 0, 1) := dk_42 (dk_at dksX4_step_0 0 rfl rfl)
theorem dX4_step_1 : decode cX4_step 1 = .ok (.iload_n 1, 1) := dk_27 (dk_at dksX4_step_0 1 rfl rfl)
theorem dX4_step_2 : decode cX4_step 2 = .ok (.invokevirtual 409, 3) := dk_182 1 153 (dk_at dksX4_step_0 2 rfl rfl)
theorem dX4_step_5 : decode cX4_step 5 = .ok (.ifCond .eq 46, 3) := dk_153 0 46 (dk_at dksX4_step_0 5 rfl rfl)
theorem dX4_step_8 : decode cX4_step 8 = .ok (.iload_n 2, 1) := dk_28 (dk_at dksX4_step_0 8 rfl rfl)
theorem dX4_step_9 : decode cX4_step 9 = .ok (.iconst 0, 1) := dk_3 (dk_at dksX4_step_0 9 rfl rfl)
theorem dX4_step_10 : decode cX4_step 10 = .ok (.aload_n 0, 1) := dk_42 (dk_at dksX4_step_0 10 rfl rfl)
theorem dX4_step_11 : decode cX4_step 11 = .ok (.getfield 28, 3) := dk_180 0 28 (dk_at dksX4_step_0 11 rfl rfl)
theorem dX4_step_14 : decode cX4_step 14 = .ok (.iload_n 1, 1) := dk_27 (dk_at dksX4_step_0 14 rfl rfl)
theorem dX4_step_15 : decode cX4_step 15 = .ok (.iaload, 1) := dk_46 (dk_at dksX4_step_0 15 rfl rfl)
theorem dX4_step_16 : decode cX4_step 16 = .ok (.iconst 1, 1) := dk_4 (dk_at dksX4_step_0 16 rfl rfl)
theorem dX4_step_17 : decode cX4_step 17 = .ok (.isub, 1) := dk_100 (dk_at dksX4_step_0 17 rfl rfl)
theorem dX4_step_18 : decode cX4_step 18 = .ok (.invokestatic 104, 3) := dk_184 0 104 (dk_at dksX4_step_0 18 rfl rfl)
theorem dX4_step_21 : decode cX4_step 21 = .ok (.ifCond .eq 30, 3) := dk_153 0 30 (dk_at dksX4_step_0 21 rfl rfl)
theorem dX4_step_24 : decode cX4_step 24 = .ok (.iload_n 3, 1) := dk_29 (dk_at dksX4_step_1 0 rfl rfl)
theorem dX4_step_25 : decode cX4_step 25 = .ok (.iconst 0, 1) := dk_3 (dk_at dksX4_step_1 1 rfl rfl)
theorem dX4_step_26 : decode cX4_step 26 = .ok (.iconst 4, 1) := dk_7 (dk_at dksX4_step_1 2 rfl rfl)
theorem dX4_step_27 : decode cX4_step 27 = .ok (.invokestatic 104, 3) := dk_184 0 104 (dk_at dksX4_step_1 3 rfl rfl)
theorem dX4_step_30 : decode cX4_step 30 = .ok (.ifCond .eq 21, 3) := dk_153 0 21 (dk_at dksX4_step_1 6 rfl rfl)
theorem dX4_step_33 : decode cX4_step 33 = .ok (.aload_n 0, 1) := dk_42 (dk_at dksX4_step_1 9 rfl rfl)
theorem dX4_step_34 : decode cX4_step 34 = .ok (.getfield 25, 3) := dk_180 0 25 (dk_at dksX4_step_1 10 rfl rfl)
theorem dX4_step_37 : decode cX4_step 37 = .ok (.iconst 5, 1) := dk_8 (dk_at dksX4_step_1 13 rfl rfl)
theorem dX4_step_38 : decode cX4_step 38 = .ok (.bipush 12, 2) := dk_16 12 (dk_at dksX4_step_1 14 rfl rfl)
theorem dX4_step_40 : decode cX4_step 40 = .ok (.iload_n 1, 1) := dk_27 (dk_at dksX4_step_1 16 rfl rfl)
theorem dX4_step_41 : decode cX4_step 41 = .ok (.imul, 1) := dk_104 (dk_at dksX4_step_1 17 rfl rfl)
theorem dX4_step_42 : decode cX4_step 42 = .ok (.iload_n 2, 1) := dk_28 (dk_at dksX4_step_1 18 rfl rfl)
theorem dX4_step_43 : decode cX4_step 43 = .ok (.iadd, 1) := dk_96 (dk_at dksX4_step_1 19 rfl rfl)
theorem dX4_step_44 : decode cX4_step 44 = .ok (.imul, 1) := dk_104 (dk_at dksX4_step_1 20 rfl rfl)
theorem dX4_step_45 : decode cX4_step 45 = .ok (.iload_n 3, 1) := dk_29 (dk_at dksX4_step_1 21 rfl rfl)
theorem dX4_step_46 : decode cX4_step 46 = .ok (.iadd, 1) := dk_96 (dk_at dksX4_step_1 22 rfl rfl)
theorem dX4_step_47 : decode cX4_step 47 = .ok (.iaload, 1) := dk_46 (dk_at dksX4_step_1 23 rfl rfl)
theorem dX4_step_48 : decode cX4_step 48 = .ok (.goto 6, 3) := dk_167 0 6 (dk_at dksX4_step_2 0 rfl rfl)
theorem dX4_step_51 : decode cX4_step 51 = .ok (.ldc_w 338, 3) := dk_19 1 82 (dk_at dksX4_step_2 3 rfl rfl)
theorem dX4_step_54 : decode cX4_step 54 = .ok (.ireturn, 1) := dk_172 (dk_at dksX4_step_2 6 rfl rfl)
abbrev cX4_isScript : ByteArray := prog_13_method_113_code
def yX4_isScript : MethodName := ⟨RX4, "isScript", "(I)Z"⟩
def dkwX4_isScript_0 : List UInt8 := [27, 3, 42, 180, 0, 214, 4, 100, 184, 0, 104, 172]
abbrev dktX4_isScript_0 : List UInt8 := dkwX4_isScript_0 ++ []
theorem dksX4_isScript_0 : cX4_isScript.data.toList.drop 0 = dktX4_isScript_0 := by decide +kernel
theorem dX4_isScript_0 : decode cX4_isScript 0 = .ok (.iload_n 1, 1) := dk_27 (dk_at dksX4_isScript_0 0 rfl rfl)
theorem dX4_isScript_1 : decode cX4_isScript 1 = .ok (.iconst 0, 1) := dk_3 (dk_at dksX4_isScript_0 1 rfl rfl)
theorem dX4_isScript_2 : decode cX4_isScript 2 = .ok (.aload_n 0, 1) := dk_42 (dk_at dksX4_isScript_0 2 rfl rfl)
theorem dX4_isScript_3 : decode cX4_isScript 3 = .ok (.getfield 214, 3) := dk_180 0 214 (dk_at dksX4_isScript_0 3 rfl rfl)
theorem dX4_isScript_6 : decode cX4_isScript 6 = .ok (.iconst 1, 1) := dk_4 (dk_at dksX4_isScript_0 6 rfl rfl)
theorem dX4_isScript_7 : decode cX4_isScript 7 = .ok (.isub, 1) := dk_100 (dk_at dksX4_isScript_0 7 rfl rfl)
theorem dX4_isScript_8 : decode cX4_isScript 8 = .ok (.invokestatic 104, 3) := dk_184 0 104 (dk_at dksX4_isScript_0 8 rfl rfl)
theorem dX4_isScript_11 : decode cX4_isScript 11 = .ok (.ireturn, 1) := dk_172 (dk_at dksX4_isScript_0 11 rfl rfl)
abbrev cX4_run : ByteArray := prog_13_method_116_code
def yX4_run : MethodName := ⟨RX4, "run", "(II)I"⟩
def dkwX4_run_3 : List UInt8 := [167, 0, 4, 29, 172]
abbrev dktX4_run_3 : List UInt8 := dkwX4_run_3 ++ []
def dkwX4_run_2 : List UInt8 := [182, 1, 150, 28, 4, 160, 0, 8, 21, 4, 167, 0, 18, 29, 42, 180, 0, 28, 27, 46, 160, 0, 7, 2]
abbrev dktX4_run_2 : List UInt8 := dkwX4_run_2 ++ dktX4_run_3
def dkwX4_run_1 : List UInt8 := [19, 1, 82, 172, 42, 182, 1, 147, 42, 27, 3, 182, 1, 156, 62, 42, 182, 1, 43, 54, 4, 42]
abbrev dktX4_run_1 : List UInt8 := dkwX4_run_1 ++ dktX4_run_2
def dkwX4_run_0 : List UInt8 := [42, 27, 182, 1, 153, 153, 0, 19, 42, 182, 1, 21, 153, 0, 12, 28, 3, 4, 184, 0, 104, 154, 0, 7]
abbrev dktX4_run_0 : List UInt8 := dkwX4_run_0 ++ dktX4_run_1
theorem dksX4_run_0 : cX4_run.data.toList.drop 0 = dktX4_run_0 := by decide +kernel
theorem dksX4_run_1 : cX4_run.data.toList.drop 24 = dktX4_run_1 := dk_seg dksX4_run_0 24 rfl rfl
theorem dksX4_run_2 : cX4_run.data.toList.drop 46 = dktX4_run_2 := dk_seg dksX4_run_1 22 rfl rfl
theorem dksX4_run_3 : cX4_run.data.toList.drop 70 = dktX4_run_3 := dk_seg dksX4_run_2 24 rfl rfl
theorem dX4_run_0 : decode cX4_run 0 = .ok (.aload_n 0, 1) := dk_42 (dk_at dksX4_run_0 0 rfl rfl)
theorem dX4_run_1 : decode cX4_run 1 = .ok (.iload_n 1, 1) := dk_27 (dk_at dksX4_run_0 1 rfl rfl)
theorem dX4_run_2 : decode cX4_run 2 = .ok (.invokevirtual 409, 3) := dk_182 1 153 (dk_at dksX4_run_0 2 rfl rfl)
theorem dX4_run_5 : decode cX4_run 5 = .ok (.ifCond .eq 19, 3) := dk_153 0 19 (dk_at dksX4_run_0 5 rfl rfl)
theorem dX4_run_8 : decode cX4_run 8 = .ok (.aload_n 0, 1) := dk_42 (dk_at dksX4_run_0 8 rfl rfl)
theorem dX4_run_9 : decode cX4_run 9 = .ok (.invokevirtual 277, 3) := dk_182 1 21 (dk_at dksX4_run_0 9 rfl rfl)
theorem dX4_run_12 : decode cX4_run 12 = .ok (.ifCond .eq 12, 3) := dk_153 0 12 (dk_at dksX4_run_0 12 rfl rfl)
theorem dX4_run_15 : decode cX4_run 15 = .ok (.iload_n 2, 1) := dk_28 (dk_at dksX4_run_0 15 rfl rfl)
theorem dX4_run_16 : decode cX4_run 16 = .ok (.iconst 0, 1) := dk_3 (dk_at dksX4_run_0 16 rfl rfl)
theorem dX4_run_17 : decode cX4_run 17 = .ok (.iconst 1, 1) := dk_4 (dk_at dksX4_run_0 17 rfl rfl)
theorem dX4_run_18 : decode cX4_run 18 = .ok (.invokestatic 104, 3) := dk_184 0 104 (dk_at dksX4_run_0 18 rfl rfl)
theorem dX4_run_21 : decode cX4_run 21 = .ok (.ifCond .ne 7, 3) := dk_154 0 7 (dk_at dksX4_run_0 21 rfl rfl)
theorem dX4_run_24 : decode cX4_run 24 = .ok (.ldc_w 338, 3) := dk_19 1 82 (dk_at dksX4_run_1 0 rfl rfl)
theorem dX4_run_27 : decode cX4_run 27 = .ok (.ireturn, 1) := dk_172 (dk_at dksX4_run_1 3 rfl rfl)
theorem dX4_run_28 : decode cX4_run 28 = .ok (.aload_n 0, 1) := dk_42 (dk_at dksX4_run_1 4 rfl rfl)
theorem dX4_run_29 : decode cX4_run 29 = .ok (.invokevirtual 403, 3) := dk_182 1 147 (dk_at dksX4_run_1 5 rfl rfl)
theorem dX4_run_32 : decode cX4_run 32 = .ok (.aload_n 0, 1) := dk_42 (dk_at dksX4_run_1 8 rfl rfl)
theorem dX4_run_33 : decode cX4_run 33 = .ok (.iload_n 1, 1) := dk_27 (dk_at dksX4_run_1 9 rfl rfl)
theorem dX4_run_34 : decode cX4_run 34 = .ok (.iconst 0, 1) := dk_3 (dk_at dksX4_run_1 10 rfl rfl)
theorem dX4_run_35 : decode cX4_run 35 = .ok (.invokevirtual 412, 3) := dk_182 1 156 (dk_at dksX4_run_1 11 rfl rfl)
theorem dX4_run_38 : decode cX4_run 38 = .ok (.istore_n 3, 1) := dk_62 (dk_at dksX4_run_1 14 rfl rfl)
theorem dX4_run_39 : decode cX4_run 39 = .ok (.aload_n 0, 1) := dk_42 (dk_at dksX4_run_1 15 rfl rfl)
theorem dX4_run_40 : decode cX4_run 40 = .ok (.invokevirtual 299, 3) := dk_182 1 43 (dk_at dksX4_run_1 16 rfl rfl)
theorem dX4_run_43 : decode cX4_run 43 = .ok (.istore 4, 2) := dk_54 4 (dk_at dksX4_run_1 19 rfl rfl)
theorem dX4_run_45 : decode cX4_run 45 = .ok (.aload_n 0, 1) := dk_42 (dk_at dksX4_run_1 21 rfl rfl)
theorem dX4_run_46 : decode cX4_run 46 = .ok (.invokevirtual 406, 3) := dk_182 1 150 (dk_at dksX4_run_2 0 rfl rfl)
theorem dX4_run_49 : decode cX4_run 49 = .ok (.iload_n 2, 1) := dk_28 (dk_at dksX4_run_2 3 rfl rfl)
theorem dX4_run_50 : decode cX4_run 50 = .ok (.iconst 1, 1) := dk_4 (dk_at dksX4_run_2 4 rfl rfl)
theorem dX4_run_51 : decode cX4_run 51 = .ok (.if_icmp .ne 8, 3) := dk_160 0 8 (dk_at dksX4_run_2 5 rfl rfl)
theorem dX4_run_54 : decode cX4_run 54 = .ok (.iload 4, 2) := dk_21 4 (dk_at dksX4_run_2 8 rfl rfl)
theorem dX4_run_56 : decode cX4_run 56 = .ok (.goto 18, 3) := dk_167 0 18 (dk_at dksX4_run_2 10 rfl rfl)
theorem dX4_run_59 : decode cX4_run 59 = .ok (.iload_n 3, 1) := dk_29 (dk_at dksX4_run_2 13 rfl rfl)
theorem dX4_run_60 : decode cX4_run 60 = .ok (.aload_n 0, 1) := dk_42 (dk_at dksX4_run_2 14 rfl rfl)
theorem dX4_run_61 : decode cX4_run 61 = .ok (.getfield 28, 3) := dk_180 0 28 (dk_at dksX4_run_2 15 rfl rfl)
theorem dX4_run_64 : decode cX4_run 64 = .ok (.iload_n 1, 1) := dk_27 (dk_at dksX4_run_2 18 rfl rfl)
theorem dX4_run_65 : decode cX4_run 65 = .ok (.iaload, 1) := dk_46 (dk_at dksX4_run_2 19 rfl rfl)
theorem dX4_run_66 : decode cX4_run 66 = .ok (.if_icmp .ne 7, 3) := dk_160 0 7 (dk_at dksX4_run_2 20 rfl rfl)
theorem dX4_run_69 : decode cX4_run 69 = .ok (.iconst (-1), 1) := dk_2 (dk_at dksX4_run_2 23 rfl rfl)
theorem dX4_run_70 : decode cX4_run 70 = .ok (.goto 4, 3) := dk_167 0 4 (dk_at dksX4_run_3 0 rfl rfl)
theorem dX4_run_73 : decode cX4_run 73 = .ok (.iload_n 3, 1) := dk_29 (dk_at dksX4_run_3 3 rfl rfl)
theorem dX4_run_74 : decode cX4_run 74 = .ok (.ireturn, 1) := dk_172 (dk_at dksX4_run_3 4 rfl rfl)
abbrev cX4_goSteps : ByteArray := prog_13_method_115_code
def yX4_goSteps : MethodName := ⟨RX4, "goSteps", "(IZ)I"⟩
def dkwX4_goSteps_8 : List UInt8 := [172]
abbrev dktX4_goSteps_8 : List UInt8 := dkwX4_goSteps_8 ++ []
def dkwX4_goSteps_7 : List UInt8 := [180, 0, 25, 21, 4, 7, 96, 46, 182, 1, 49, 87, 132, 3, 1, 167, 255, 77, 42, 180, 0, 28, 27, 46]
abbrev dktX4_goSteps_7 : List UInt8 := dkwX4_goSteps_7 ++ dktX4_goSteps_8
def dkwX4_goSteps_6 : List UInt8 := [21, 4, 4, 96, 46, 42, 180, 0, 25, 21, 4, 5, 96, 46, 42, 180, 0, 25, 21, 4, 6, 96, 46, 42]
abbrev dktX4_goSteps_6 : List UInt8 := dkwX4_goSteps_6 ++ dktX4_goSteps_7
def dkwX4_goSteps_5 : List UInt8 := [21, 4, 7, 96, 46, 182, 1, 58, 87, 167, 0, 51, 42, 42, 180, 0, 25, 21, 4, 46, 42, 180, 0, 25]
abbrev dktX4_goSteps_5 : List UInt8 := dkwX4_goSteps_5 ++ dktX4_goSteps_6
def dkwX4_goSteps_4 : List UInt8 := [96, 46, 42, 180, 0, 25, 21, 4, 5, 96, 46, 42, 180, 0, 25, 21, 4, 6, 96, 46, 42, 180, 0, 25]
abbrev dktX4_goSteps_4 : List UInt8 := dkwX4_goSteps_4 ++ dktX4_goSteps_5
def dkwX4_goSteps_3 : List UInt8 := [159, 0, 5, 29, 172, 28, 153, 0, 54, 42, 42, 180, 0, 25, 21, 4, 46, 42, 180, 0, 25, 21, 4, 4]
abbrev dktX4_goSteps_3 : List UInt8 := dkwX4_goSteps_3 ++ dktX4_goSteps_4
def dkwX4_goSteps_2 : List UInt8 := [42, 180, 0, 25, 21, 4, 6, 96, 46, 42, 180, 0, 25, 21, 4, 7, 96, 46, 182, 1, 55, 2]
abbrev dktX4_goSteps_2 : List UInt8 := dkwX4_goSteps_2 ++ dktX4_goSteps_3
def dkwX4_goSteps_1 : List UInt8 := [180, 0, 25, 21, 4, 46, 42, 180, 0, 25, 21, 4, 4, 96, 46, 42, 180, 0, 25, 21, 4, 5, 96, 46]
abbrev dktX4_goSteps_1 : List UInt8 := dkwX4_goSteps_1 ++ dktX4_goSteps_2
def dkwX4_goSteps_0 : List UInt8 := [3, 62, 29, 42, 180, 0, 28, 27, 46, 162, 0, 175, 8, 16, 12, 27, 104, 29, 96, 104, 54, 4, 42, 42]
abbrev dktX4_goSteps_0 : List UInt8 := dkwX4_goSteps_0 ++ dktX4_goSteps_1
theorem dksX4_goSteps_0 : cX4_goSteps.data.toList.drop 0 = dktX4_goSteps_0 := by decide +kernel
theorem dksX4_goSteps_1 : cX4_goSteps.data.toList.drop 24 = dktX4_goSteps_1 := dk_seg dksX4_goSteps_0 24 rfl rfl
theorem dksX4_goSteps_2 : cX4_goSteps.data.toList.drop 48 = dktX4_goSteps_2 := dk_seg dksX4_goSteps_1 24 rfl rfl
theorem dksX4_goSteps_3 : cX4_goSteps.data.toList.drop 70 = dktX4_goSteps_3 := dk_seg dksX4_goSteps_2 22 rfl rfl
theorem dksX4_goSteps_4 : cX4_goSteps.data.toList.drop 94 = dktX4_goSteps_4 := dk_seg dksX4_goSteps_3 24 rfl rfl
theorem dksX4_goSteps_5 : cX4_goSteps.data.toList.drop 118 = dktX4_goSteps_5 := dk_seg dksX4_goSteps_4 24 rfl rfl
theorem dksX4_goSteps_6 : cX4_goSteps.data.toList.drop 142 = dktX4_goSteps_6 := dk_seg dksX4_goSteps_5 24 rfl rfl
theorem dksX4_goSteps_7 : cX4_goSteps.data.toList.drop 166 = dktX4_goSteps_7 := dk_seg dksX4_goSteps_6 24 rfl rfl
theorem dksX4_goSteps_8 : cX4_goSteps.data.toList.drop 190 = dktX4_goSteps_8 := dk_seg dksX4_goSteps_7 24 rfl rfl
theorem dX4_goSteps_0 : decode cX4_goSteps 0 = .ok (.iconst 0, 1) := dk_3 (dk_at dksX4_goSteps_0 0 rfl rfl)
theorem dX4_goSteps_1 : decode cX4_goSteps 1 = .ok (.istore_n 3, 1) := dk_62 (dk_at dksX4_goSteps_0 1 rfl rfl)
theorem dX4_goSteps_2 : decode cX4_goSteps 2 = .ok (.iload_n 3, 1) := dk_29 (dk_at dksX4_goSteps_0 2 rfl rfl)
theorem dX4_goSteps_3 : decode cX4_goSteps 3 = .ok (.aload_n 0, 1) := dk_42 (dk_at dksX4_goSteps_0 3 rfl rfl)
theorem dX4_goSteps_4 : decode cX4_goSteps 4 = .ok (.getfield 28, 3) := dk_180 0 28 (dk_at dksX4_goSteps_0 4 rfl rfl)
theorem dX4_goSteps_7 : decode cX4_goSteps 7 = .ok (.iload_n 1, 1) := dk_27 (dk_at dksX4_goSteps_0 7 rfl rfl)
theorem dX4_goSteps_8 : decode cX4_goSteps 8 = .ok (.iaload, 1) := dk_46 (dk_at dksX4_goSteps_0 8 rfl rfl)
theorem dX4_goSteps_9 : decode cX4_goSteps 9 = .ok (.if_icmp .ge 175, 3) := dk_162 0 175 (dk_at dksX4_goSteps_0 9 rfl rfl)
theorem dX4_goSteps_12 : decode cX4_goSteps 12 = .ok (.iconst 5, 1) := dk_8 (dk_at dksX4_goSteps_0 12 rfl rfl)
theorem dX4_goSteps_13 : decode cX4_goSteps 13 = .ok (.bipush 12, 2) := dk_16 12 (dk_at dksX4_goSteps_0 13 rfl rfl)
theorem dX4_goSteps_15 : decode cX4_goSteps 15 = .ok (.iload_n 1, 1) := dk_27 (dk_at dksX4_goSteps_0 15 rfl rfl)
theorem dX4_goSteps_16 : decode cX4_goSteps 16 = .ok (.imul, 1) := dk_104 (dk_at dksX4_goSteps_0 16 rfl rfl)
theorem dX4_goSteps_17 : decode cX4_goSteps 17 = .ok (.iload_n 3, 1) := dk_29 (dk_at dksX4_goSteps_0 17 rfl rfl)
theorem dX4_goSteps_18 : decode cX4_goSteps 18 = .ok (.iadd, 1) := dk_96 (dk_at dksX4_goSteps_0 18 rfl rfl)
theorem dX4_goSteps_19 : decode cX4_goSteps 19 = .ok (.imul, 1) := dk_104 (dk_at dksX4_goSteps_0 19 rfl rfl)
theorem dX4_goSteps_20 : decode cX4_goSteps 20 = .ok (.istore 4, 2) := dk_54 4 (dk_at dksX4_goSteps_0 20 rfl rfl)
theorem dX4_goSteps_22 : decode cX4_goSteps 22 = .ok (.aload_n 0, 1) := dk_42 (dk_at dksX4_goSteps_0 22 rfl rfl)
theorem dX4_goSteps_23 : decode cX4_goSteps 23 = .ok (.aload_n 0, 1) := dk_42 (dk_at dksX4_goSteps_0 23 rfl rfl)
theorem dX4_goSteps_24 : decode cX4_goSteps 24 = .ok (.getfield 25, 3) := dk_180 0 25 (dk_at dksX4_goSteps_1 0 rfl rfl)
theorem dX4_goSteps_27 : decode cX4_goSteps 27 = .ok (.iload 4, 2) := dk_21 4 (dk_at dksX4_goSteps_1 3 rfl rfl)
theorem dX4_goSteps_29 : decode cX4_goSteps 29 = .ok (.iaload, 1) := dk_46 (dk_at dksX4_goSteps_1 5 rfl rfl)
theorem dX4_goSteps_30 : decode cX4_goSteps 30 = .ok (.aload_n 0, 1) := dk_42 (dk_at dksX4_goSteps_1 6 rfl rfl)
theorem dX4_goSteps_31 : decode cX4_goSteps 31 = .ok (.getfield 25, 3) := dk_180 0 25 (dk_at dksX4_goSteps_1 7 rfl rfl)
theorem dX4_goSteps_34 : decode cX4_goSteps 34 = .ok (.iload 4, 2) := dk_21 4 (dk_at dksX4_goSteps_1 10 rfl rfl)
theorem dX4_goSteps_36 : decode cX4_goSteps 36 = .ok (.iconst 1, 1) := dk_4 (dk_at dksX4_goSteps_1 12 rfl rfl)
theorem dX4_goSteps_37 : decode cX4_goSteps 37 = .ok (.iadd, 1) := dk_96 (dk_at dksX4_goSteps_1 13 rfl rfl)
theorem dX4_goSteps_38 : decode cX4_goSteps 38 = .ok (.iaload, 1) := dk_46 (dk_at dksX4_goSteps_1 14 rfl rfl)
theorem dX4_goSteps_39 : decode cX4_goSteps 39 = .ok (.aload_n 0, 1) := dk_42 (dk_at dksX4_goSteps_1 15 rfl rfl)
theorem dX4_goSteps_40 : decode cX4_goSteps 40 = .ok (.getfield 25, 3) := dk_180 0 25 (dk_at dksX4_goSteps_1 16 rfl rfl)
theorem dX4_goSteps_43 : decode cX4_goSteps 43 = .ok (.iload 4, 2) := dk_21 4 (dk_at dksX4_goSteps_1 19 rfl rfl)
theorem dX4_goSteps_45 : decode cX4_goSteps 45 = .ok (.iconst 2, 1) := dk_5 (dk_at dksX4_goSteps_1 21 rfl rfl)
theorem dX4_goSteps_46 : decode cX4_goSteps 46 = .ok (.iadd, 1) := dk_96 (dk_at dksX4_goSteps_1 22 rfl rfl)
theorem dX4_goSteps_47 : decode cX4_goSteps 47 = .ok (.iaload, 1) := dk_46 (dk_at dksX4_goSteps_1 23 rfl rfl)
theorem dX4_goSteps_48 : decode cX4_goSteps 48 = .ok (.aload_n 0, 1) := dk_42 (dk_at dksX4_goSteps_2 0 rfl rfl)
theorem dX4_goSteps_49 : decode cX4_goSteps 49 = .ok (.getfield 25, 3) := dk_180 0 25 (dk_at dksX4_goSteps_2 1 rfl rfl)
theorem dX4_goSteps_52 : decode cX4_goSteps 52 = .ok (.iload 4, 2) := dk_21 4 (dk_at dksX4_goSteps_2 4 rfl rfl)
theorem dX4_goSteps_54 : decode cX4_goSteps 54 = .ok (.iconst 3, 1) := dk_6 (dk_at dksX4_goSteps_2 6 rfl rfl)
theorem dX4_goSteps_55 : decode cX4_goSteps 55 = .ok (.iadd, 1) := dk_96 (dk_at dksX4_goSteps_2 7 rfl rfl)
theorem dX4_goSteps_56 : decode cX4_goSteps 56 = .ok (.iaload, 1) := dk_46 (dk_at dksX4_goSteps_2 8 rfl rfl)
theorem dX4_goSteps_57 : decode cX4_goSteps 57 = .ok (.aload_n 0, 1) := dk_42 (dk_at dksX4_goSteps_2 9 rfl rfl)
theorem dX4_goSteps_58 : decode cX4_goSteps 58 = .ok (.getfield 25, 3) := dk_180 0 25 (dk_at dksX4_goSteps_2 10 rfl rfl)
theorem dX4_goSteps_61 : decode cX4_goSteps 61 = .ok (.iload 4, 2) := dk_21 4 (dk_at dksX4_goSteps_2 13 rfl rfl)
theorem dX4_goSteps_63 : decode cX4_goSteps 63 = .ok (.iconst 4, 1) := dk_7 (dk_at dksX4_goSteps_2 15 rfl rfl)
theorem dX4_goSteps_64 : decode cX4_goSteps 64 = .ok (.iadd, 1) := dk_96 (dk_at dksX4_goSteps_2 16 rfl rfl)
theorem dX4_goSteps_65 : decode cX4_goSteps 65 = .ok (.iaload, 1) := dk_46 (dk_at dksX4_goSteps_2 17 rfl rfl)
theorem dX4_goSteps_66 : decode cX4_goSteps 66 = .ok (.invokevirtual 311, 3) := dk_182 1 55 (dk_at dksX4_goSteps_2 18 rfl rfl)
theorem dX4_goSteps_69 : decode cX4_goSteps 69 = .ok (.iconst (-1), 1) := dk_2 (dk_at dksX4_goSteps_2 21 rfl rfl)
theorem dX4_goSteps_70 : decode cX4_goSteps 70 = .ok (.if_icmp .eq 5, 3) := dk_159 0 5 (dk_at dksX4_goSteps_3 0 rfl rfl)
theorem dX4_goSteps_73 : decode cX4_goSteps 73 = .ok (.iload_n 3, 1) := dk_29 (dk_at dksX4_goSteps_3 3 rfl rfl)
theorem dX4_goSteps_74 : decode cX4_goSteps 74 = .ok (.ireturn, 1) := dk_172 (dk_at dksX4_goSteps_3 4 rfl rfl)
theorem dX4_goSteps_75 : decode cX4_goSteps 75 = .ok (.iload_n 2, 1) := dk_28 (dk_at dksX4_goSteps_3 5 rfl rfl)
theorem dX4_goSteps_76 : decode cX4_goSteps 76 = .ok (.ifCond .eq 54, 3) := dk_153 0 54 (dk_at dksX4_goSteps_3 6 rfl rfl)
theorem dX4_goSteps_79 : decode cX4_goSteps 79 = .ok (.aload_n 0, 1) := dk_42 (dk_at dksX4_goSteps_3 9 rfl rfl)
theorem dX4_goSteps_80 : decode cX4_goSteps 80 = .ok (.aload_n 0, 1) := dk_42 (dk_at dksX4_goSteps_3 10 rfl rfl)
theorem dX4_goSteps_81 : decode cX4_goSteps 81 = .ok (.getfield 25, 3) := dk_180 0 25 (dk_at dksX4_goSteps_3 11 rfl rfl)
theorem dX4_goSteps_84 : decode cX4_goSteps 84 = .ok (.iload 4, 2) := dk_21 4 (dk_at dksX4_goSteps_3 14 rfl rfl)
theorem dX4_goSteps_86 : decode cX4_goSteps 86 = .ok (.iaload, 1) := dk_46 (dk_at dksX4_goSteps_3 16 rfl rfl)
theorem dX4_goSteps_87 : decode cX4_goSteps 87 = .ok (.aload_n 0, 1) := dk_42 (dk_at dksX4_goSteps_3 17 rfl rfl)
theorem dX4_goSteps_88 : decode cX4_goSteps 88 = .ok (.getfield 25, 3) := dk_180 0 25 (dk_at dksX4_goSteps_3 18 rfl rfl)
theorem dX4_goSteps_91 : decode cX4_goSteps 91 = .ok (.iload 4, 2) := dk_21 4 (dk_at dksX4_goSteps_3 21 rfl rfl)
theorem dX4_goSteps_93 : decode cX4_goSteps 93 = .ok (.iconst 1, 1) := dk_4 (dk_at dksX4_goSteps_3 23 rfl rfl)
theorem dX4_goSteps_94 : decode cX4_goSteps 94 = .ok (.iadd, 1) := dk_96 (dk_at dksX4_goSteps_4 0 rfl rfl)
theorem dX4_goSteps_95 : decode cX4_goSteps 95 = .ok (.iaload, 1) := dk_46 (dk_at dksX4_goSteps_4 1 rfl rfl)
theorem dX4_goSteps_96 : decode cX4_goSteps 96 = .ok (.aload_n 0, 1) := dk_42 (dk_at dksX4_goSteps_4 2 rfl rfl)
theorem dX4_goSteps_97 : decode cX4_goSteps 97 = .ok (.getfield 25, 3) := dk_180 0 25 (dk_at dksX4_goSteps_4 3 rfl rfl)
theorem dX4_goSteps_100 : decode cX4_goSteps 100 = .ok (.iload 4, 2) := dk_21 4 (dk_at dksX4_goSteps_4 6 rfl rfl)
theorem dX4_goSteps_102 : decode cX4_goSteps 102 = .ok (.iconst 2, 1) := dk_5 (dk_at dksX4_goSteps_4 8 rfl rfl)
theorem dX4_goSteps_103 : decode cX4_goSteps 103 = .ok (.iadd, 1) := dk_96 (dk_at dksX4_goSteps_4 9 rfl rfl)
theorem dX4_goSteps_104 : decode cX4_goSteps 104 = .ok (.iaload, 1) := dk_46 (dk_at dksX4_goSteps_4 10 rfl rfl)
theorem dX4_goSteps_105 : decode cX4_goSteps 105 = .ok (.aload_n 0, 1) := dk_42 (dk_at dksX4_goSteps_4 11 rfl rfl)
theorem dX4_goSteps_106 : decode cX4_goSteps 106 = .ok (.getfield 25, 3) := dk_180 0 25 (dk_at dksX4_goSteps_4 12 rfl rfl)
theorem dX4_goSteps_109 : decode cX4_goSteps 109 = .ok (.iload 4, 2) := dk_21 4 (dk_at dksX4_goSteps_4 15 rfl rfl)
theorem dX4_goSteps_111 : decode cX4_goSteps 111 = .ok (.iconst 3, 1) := dk_6 (dk_at dksX4_goSteps_4 17 rfl rfl)
theorem dX4_goSteps_112 : decode cX4_goSteps 112 = .ok (.iadd, 1) := dk_96 (dk_at dksX4_goSteps_4 18 rfl rfl)
theorem dX4_goSteps_113 : decode cX4_goSteps 113 = .ok (.iaload, 1) := dk_46 (dk_at dksX4_goSteps_4 19 rfl rfl)
theorem dX4_goSteps_114 : decode cX4_goSteps 114 = .ok (.aload_n 0, 1) := dk_42 (dk_at dksX4_goSteps_4 20 rfl rfl)
theorem dX4_goSteps_115 : decode cX4_goSteps 115 = .ok (.getfield 25, 3) := dk_180 0 25 (dk_at dksX4_goSteps_4 21 rfl rfl)
theorem dX4_goSteps_118 : decode cX4_goSteps 118 = .ok (.iload 4, 2) := dk_21 4 (dk_at dksX4_goSteps_5 0 rfl rfl)
theorem dX4_goSteps_120 : decode cX4_goSteps 120 = .ok (.iconst 4, 1) := dk_7 (dk_at dksX4_goSteps_5 2 rfl rfl)
theorem dX4_goSteps_121 : decode cX4_goSteps 121 = .ok (.iadd, 1) := dk_96 (dk_at dksX4_goSteps_5 3 rfl rfl)
theorem dX4_goSteps_122 : decode cX4_goSteps 122 = .ok (.iaload, 1) := dk_46 (dk_at dksX4_goSteps_5 4 rfl rfl)
theorem dX4_goSteps_123 : decode cX4_goSteps 123 = .ok (.invokevirtual 314, 3) := dk_182 1 58 (dk_at dksX4_goSteps_5 5 rfl rfl)
theorem dX4_goSteps_126 : decode cX4_goSteps 126 = .ok (.pop, 1) := dk_87 (dk_at dksX4_goSteps_5 8 rfl rfl)
theorem dX4_goSteps_127 : decode cX4_goSteps 127 = .ok (.goto 51, 3) := dk_167 0 51 (dk_at dksX4_goSteps_5 9 rfl rfl)
theorem dX4_goSteps_130 : decode cX4_goSteps 130 = .ok (.aload_n 0, 1) := dk_42 (dk_at dksX4_goSteps_5 12 rfl rfl)
theorem dX4_goSteps_131 : decode cX4_goSteps 131 = .ok (.aload_n 0, 1) := dk_42 (dk_at dksX4_goSteps_5 13 rfl rfl)
theorem dX4_goSteps_132 : decode cX4_goSteps 132 = .ok (.getfield 25, 3) := dk_180 0 25 (dk_at dksX4_goSteps_5 14 rfl rfl)
theorem dX4_goSteps_135 : decode cX4_goSteps 135 = .ok (.iload 4, 2) := dk_21 4 (dk_at dksX4_goSteps_5 17 rfl rfl)
theorem dX4_goSteps_137 : decode cX4_goSteps 137 = .ok (.iaload, 1) := dk_46 (dk_at dksX4_goSteps_5 19 rfl rfl)
theorem dX4_goSteps_138 : decode cX4_goSteps 138 = .ok (.aload_n 0, 1) := dk_42 (dk_at dksX4_goSteps_5 20 rfl rfl)
theorem dX4_goSteps_139 : decode cX4_goSteps 139 = .ok (.getfield 25, 3) := dk_180 0 25 (dk_at dksX4_goSteps_5 21 rfl rfl)
theorem dX4_goSteps_142 : decode cX4_goSteps 142 = .ok (.iload 4, 2) := dk_21 4 (dk_at dksX4_goSteps_6 0 rfl rfl)
theorem dX4_goSteps_144 : decode cX4_goSteps 144 = .ok (.iconst 1, 1) := dk_4 (dk_at dksX4_goSteps_6 2 rfl rfl)
theorem dX4_goSteps_145 : decode cX4_goSteps 145 = .ok (.iadd, 1) := dk_96 (dk_at dksX4_goSteps_6 3 rfl rfl)
theorem dX4_goSteps_146 : decode cX4_goSteps 146 = .ok (.iaload, 1) := dk_46 (dk_at dksX4_goSteps_6 4 rfl rfl)
theorem dX4_goSteps_147 : decode cX4_goSteps 147 = .ok (.aload_n 0, 1) := dk_42 (dk_at dksX4_goSteps_6 5 rfl rfl)
theorem dX4_goSteps_148 : decode cX4_goSteps 148 = .ok (.getfield 25, 3) := dk_180 0 25 (dk_at dksX4_goSteps_6 6 rfl rfl)
theorem dX4_goSteps_151 : decode cX4_goSteps 151 = .ok (.iload 4, 2) := dk_21 4 (dk_at dksX4_goSteps_6 9 rfl rfl)
theorem dX4_goSteps_153 : decode cX4_goSteps 153 = .ok (.iconst 2, 1) := dk_5 (dk_at dksX4_goSteps_6 11 rfl rfl)
theorem dX4_goSteps_154 : decode cX4_goSteps 154 = .ok (.iadd, 1) := dk_96 (dk_at dksX4_goSteps_6 12 rfl rfl)
theorem dX4_goSteps_155 : decode cX4_goSteps 155 = .ok (.iaload, 1) := dk_46 (dk_at dksX4_goSteps_6 13 rfl rfl)
theorem dX4_goSteps_156 : decode cX4_goSteps 156 = .ok (.aload_n 0, 1) := dk_42 (dk_at dksX4_goSteps_6 14 rfl rfl)
theorem dX4_goSteps_157 : decode cX4_goSteps 157 = .ok (.getfield 25, 3) := dk_180 0 25 (dk_at dksX4_goSteps_6 15 rfl rfl)
theorem dX4_goSteps_160 : decode cX4_goSteps 160 = .ok (.iload 4, 2) := dk_21 4 (dk_at dksX4_goSteps_6 18 rfl rfl)
theorem dX4_goSteps_162 : decode cX4_goSteps 162 = .ok (.iconst 3, 1) := dk_6 (dk_at dksX4_goSteps_6 20 rfl rfl)
theorem dX4_goSteps_163 : decode cX4_goSteps 163 = .ok (.iadd, 1) := dk_96 (dk_at dksX4_goSteps_6 21 rfl rfl)
theorem dX4_goSteps_164 : decode cX4_goSteps 164 = .ok (.iaload, 1) := dk_46 (dk_at dksX4_goSteps_6 22 rfl rfl)
theorem dX4_goSteps_165 : decode cX4_goSteps 165 = .ok (.aload_n 0, 1) := dk_42 (dk_at dksX4_goSteps_6 23 rfl rfl)
theorem dX4_goSteps_166 : decode cX4_goSteps 166 = .ok (.getfield 25, 3) := dk_180 0 25 (dk_at dksX4_goSteps_7 0 rfl rfl)
theorem dX4_goSteps_169 : decode cX4_goSteps 169 = .ok (.iload 4, 2) := dk_21 4 (dk_at dksX4_goSteps_7 3 rfl rfl)
theorem dX4_goSteps_171 : decode cX4_goSteps 171 = .ok (.iconst 4, 1) := dk_7 (dk_at dksX4_goSteps_7 5 rfl rfl)
theorem dX4_goSteps_172 : decode cX4_goSteps 172 = .ok (.iadd, 1) := dk_96 (dk_at dksX4_goSteps_7 6 rfl rfl)
theorem dX4_goSteps_173 : decode cX4_goSteps 173 = .ok (.iaload, 1) := dk_46 (dk_at dksX4_goSteps_7 7 rfl rfl)
theorem dX4_goSteps_174 : decode cX4_goSteps 174 = .ok (.invokevirtual 305, 3) := dk_182 1 49 (dk_at dksX4_goSteps_7 8 rfl rfl)
theorem dX4_goSteps_177 : decode cX4_goSteps 177 = .ok (.pop, 1) := dk_87 (dk_at dksX4_goSteps_7 11 rfl rfl)
theorem dX4_goSteps_178 : decode cX4_goSteps 178 = .ok (.iinc 3 1, 3) := dk_132 3 1 (dk_at dksX4_goSteps_7 12 rfl rfl)
theorem dX4_goSteps_181 : decode cX4_goSteps 181 = .ok (.goto (-179), 3) := dk_167 255 77 (dk_at dksX4_goSteps_7 15 rfl rfl)
theorem dX4_goSteps_184 : decode cX4_goSteps 184 = .ok (.aload_n 0, 1) := dk_42 (dk_at dksX4_goSteps_7 18 rfl rfl)
theorem dX4_goSteps_185 : decode cX4_goSteps 185 = .ok (.getfield 28, 3) := dk_180 0 28 (dk_at dksX4_goSteps_7 19 rfl rfl)
theorem dX4_goSteps_188 : decode cX4_goSteps 188 = .ok (.iload_n 1, 1) := dk_27 (dk_at dksX4_goSteps_7 22 rfl rfl)
theorem dX4_goSteps_189 : decode cX4_goSteps 189 = .ok (.iaload, 1) := dk_46 (dk_at dksX4_goSteps_7 23 rfl rfl)
theorem dX4_goSteps_190 : decode cX4_goSteps 190 = .ok (.ireturn, 1) := dk_172 (dk_at dksX4_goSteps_8 0 rfl rfl)
abbrev cX4_perform : ByteArray := prog_13_method_117_code
def yX4_perform : MethodName := ⟨RX4, "perform", "(I)I"⟩
def dkwX4_perform_1 : List UInt8 := [2, 172]
abbrev dktX4_perform_1 : List UInt8 := dkwX4_perform_1 ++ []
def dkwX4_perform_0 : List UInt8 := [42, 27, 182, 1, 153, 153, 0, 19, 42, 182, 1, 21, 153, 0, 12, 42, 27, 4, 182, 1, 156, 167, 0, 4]
abbrev dktX4_perform_0 : List UInt8 := dkwX4_perform_0 ++ dktX4_perform_1
theorem dksX4_perform_0 : cX4_perform.data.toList.drop 0 = dktX4_perform_0 := by decide +kernel
theorem dksX4_perform_1 : cX4_perform.data.toList.drop 24 = dktX4_perform_1 := dk_seg dksX4_perform_0 24 rfl rfl
theorem dX4_perform_0 : decode cX4_perform 0 = .ok (.aload_n 0, 1) := dk_42 (dk_at dksX4_perform_0 0 rfl rfl)
theorem dX4_perform_1 : decode cX4_perform 1 = .ok (.iload_n 1, 1) := dk_27 (dk_at dksX4_perform_0 1 rfl rfl)
theorem dX4_perform_2 : decode cX4_perform 2 = .ok (.invokevirtual 409, 3) := dk_182 1 153 (dk_at dksX4_perform_0 2 rfl rfl)
theorem dX4_perform_5 : decode cX4_perform 5 = .ok (.ifCond .eq 19, 3) := dk_153 0 19 (dk_at dksX4_perform_0 5 rfl rfl)
theorem dX4_perform_8 : decode cX4_perform 8 = .ok (.aload_n 0, 1) := dk_42 (dk_at dksX4_perform_0 8 rfl rfl)
theorem dX4_perform_9 : decode cX4_perform 9 = .ok (.invokevirtual 277, 3) := dk_182 1 21 (dk_at dksX4_perform_0 9 rfl rfl)
theorem dX4_perform_12 : decode cX4_perform 12 = .ok (.ifCond .eq 12, 3) := dk_153 0 12 (dk_at dksX4_perform_0 12 rfl rfl)
theorem dX4_perform_15 : decode cX4_perform 15 = .ok (.aload_n 0, 1) := dk_42 (dk_at dksX4_perform_0 15 rfl rfl)
theorem dX4_perform_16 : decode cX4_perform 16 = .ok (.iload_n 1, 1) := dk_27 (dk_at dksX4_perform_0 16 rfl rfl)
theorem dX4_perform_17 : decode cX4_perform 17 = .ok (.iconst 1, 1) := dk_4 (dk_at dksX4_perform_0 17 rfl rfl)
theorem dX4_perform_18 : decode cX4_perform 18 = .ok (.invokevirtual 412, 3) := dk_182 1 156 (dk_at dksX4_perform_0 18 rfl rfl)
theorem dX4_perform_21 : decode cX4_perform 21 = .ok (.goto 4, 3) := dk_167 0 4 (dk_at dksX4_perform_0 21 rfl rfl)
theorem dX4_perform_24 : decode cX4_perform 24 = .ok (.iconst (-1), 1) := dk_2 (dk_at dksX4_perform_1 0 rfl rfl)
theorem dX4_perform_25 : decode cX4_perform 25 = .ok (.ireturn, 1) := dk_172 (dk_at dksX4_perform_1 1 rfl rfl)
abbrev cX4_most : ByteArray := prog_13_method_122_code
def yX4_most : MethodName := ⟨RX4, "most", "(I)I"⟩
def dkwX4_most_5 : List UInt8 := [172]
abbrev dktX4_most_5 : List UInt8 := dkwX4_most_5 ++ []
def dkwX4_most_4 : List UInt8 := [172, 42, 182, 1, 173, 172, 42, 3, 182, 1, 18, 42, 180, 0, 244, 172, 42, 182, 1, 101, 42, 180, 1, 95]
abbrev dktX4_most_4 : List UInt8 := dkwX4_most_4 ++ dktX4_most_5
def dkwX4_most_3 : List UInt8 := [42, 182, 1, 163, 172, 42, 27, 5, 160, 0, 7, 4, 167, 0, 4, 3, 182, 1, 166, 172, 42, 182, 1, 170]
abbrev dktX4_most_3 : List UInt8 := dkwX4_most_3 ++ dktX4_most_4
def dkwX4_most_2 : List UInt8 := [170, 0, 0, 0, 0, 78, 0, 0, 0, 0, 0, 0, 0, 5, 0, 0, 0, 38, 0, 0, 0, 43, 0, 0, 0, 43, 0, 0, 0, 58, 0, 0, 0, 63, 0, 0, 0, 68]
abbrev dktX4_most_2 : List UInt8 := dkwX4_most_2 ++ dktX4_most_3
def dkwX4_most_1 : List UInt8 := [182, 1, 40, 27]
abbrev dktX4_most_1 : List UInt8 := dkwX4_most_1 ++ dktX4_most_2
def dkwX4_most_0 : List UInt8 := [42, 182, 1, 21, 153, 0, 13, 27, 3, 16, 6, 184, 0, 104, 154, 0, 7, 19, 1, 82, 172, 42]
abbrev dktX4_most_0 : List UInt8 := dkwX4_most_0 ++ dktX4_most_1
theorem dksX4_most_0 : cX4_most.data.toList.drop 0 = dktX4_most_0 := by decide +kernel
theorem dksX4_most_1 : cX4_most.data.toList.drop 22 = dktX4_most_1 := dk_seg dksX4_most_0 22 rfl rfl
theorem dksX4_most_2 : cX4_most.data.toList.drop 26 = dktX4_most_2 := dk_seg dksX4_most_1 4 rfl rfl
theorem dksX4_most_3 : cX4_most.data.toList.drop 64 = dktX4_most_3 := dk_seg dksX4_most_2 38 rfl rfl
theorem dksX4_most_4 : cX4_most.data.toList.drop 88 = dktX4_most_4 := dk_seg dksX4_most_3 24 rfl rfl
theorem dksX4_most_5 : cX4_most.data.toList.drop 112 = dktX4_most_5 := dk_seg dksX4_most_4 24 rfl rfl
theorem dX4_most_0 : decode cX4_most 0 = .ok (.aload_n 0, 1) := dk_42 (dk_at dksX4_most_0 0 rfl rfl)
theorem dX4_most_1 : decode cX4_most 1 = .ok (.invokevirtual 277, 3) := dk_182 1 21 (dk_at dksX4_most_0 1 rfl rfl)
theorem dX4_most_4 : decode cX4_most 4 = .ok (.ifCond .eq 13, 3) := dk_153 0 13 (dk_at dksX4_most_0 4 rfl rfl)
theorem dX4_most_7 : decode cX4_most 7 = .ok (.iload_n 1, 1) := dk_27 (dk_at dksX4_most_0 7 rfl rfl)
theorem dX4_most_8 : decode cX4_most 8 = .ok (.iconst 0, 1) := dk_3 (dk_at dksX4_most_0 8 rfl rfl)
theorem dX4_most_9 : decode cX4_most 9 = .ok (.bipush 6, 2) := dk_16 6 (dk_at dksX4_most_0 9 rfl rfl)
theorem dX4_most_11 : decode cX4_most 11 = .ok (.invokestatic 104, 3) := dk_184 0 104 (dk_at dksX4_most_0 11 rfl rfl)
theorem dX4_most_14 : decode cX4_most 14 = .ok (.ifCond .ne 7, 3) := dk_154 0 7 (dk_at dksX4_most_0 14 rfl rfl)
theorem dX4_most_17 : decode cX4_most 17 = .ok (.ldc_w 338, 3) := dk_19 1 82 (dk_at dksX4_most_0 17 rfl rfl)
theorem dX4_most_20 : decode cX4_most 20 = .ok (.ireturn, 1) := dk_172 (dk_at dksX4_most_0 20 rfl rfl)
theorem dX4_most_21 : decode cX4_most 21 = .ok (.aload_n 0, 1) := dk_42 (dk_at dksX4_most_0 21 rfl rfl)
theorem dX4_most_22 : decode cX4_most 22 = .ok (.invokevirtual 296, 3) := dk_182 1 40 (dk_at dksX4_most_1 0 rfl rfl)
theorem dX4_most_25 : decode cX4_most 25 = .ok (.iload_n 1, 1) := dk_27 (dk_at dksX4_most_1 3 rfl rfl)
theorem dX4_most_26 : decode cX4_most 26 = .ok (.tableswitch 78 0 5 #[38, 43, 43, 58, 63, 68], 38) := by decide +kernel
theorem dX4_most_64 : decode cX4_most 64 = .ok (.aload_n 0, 1) := dk_42 (dk_at dksX4_most_3 0 rfl rfl)
theorem dX4_most_65 : decode cX4_most 65 = .ok (.invokevirtual 419, 3) := dk_182 1 163 (dk_at dksX4_most_3 1 rfl rfl)
theorem dX4_most_68 : decode cX4_most 68 = .ok (.ireturn, 1) := dk_172 (dk_at dksX4_most_3 4 rfl rfl)
theorem dX4_most_69 : decode cX4_most 69 = .ok (.aload_n 0, 1) := dk_42 (dk_at dksX4_most_3 5 rfl rfl)
theorem dX4_most_70 : decode cX4_most 70 = .ok (.iload_n 1, 1) := dk_27 (dk_at dksX4_most_3 6 rfl rfl)
theorem dX4_most_71 : decode cX4_most 71 = .ok (.iconst 2, 1) := dk_5 (dk_at dksX4_most_3 7 rfl rfl)
theorem dX4_most_72 : decode cX4_most 72 = .ok (.if_icmp .ne 7, 3) := dk_160 0 7 (dk_at dksX4_most_3 8 rfl rfl)
theorem dX4_most_75 : decode cX4_most 75 = .ok (.iconst 1, 1) := dk_4 (dk_at dksX4_most_3 11 rfl rfl)
theorem dX4_most_76 : decode cX4_most 76 = .ok (.goto 4, 3) := dk_167 0 4 (dk_at dksX4_most_3 12 rfl rfl)
theorem dX4_most_79 : decode cX4_most 79 = .ok (.iconst 0, 1) := dk_3 (dk_at dksX4_most_3 15 rfl rfl)
theorem dX4_most_80 : decode cX4_most 80 = .ok (.invokevirtual 422, 3) := dk_182 1 166 (dk_at dksX4_most_3 16 rfl rfl)
theorem dX4_most_83 : decode cX4_most 83 = .ok (.ireturn, 1) := dk_172 (dk_at dksX4_most_3 19 rfl rfl)
theorem dX4_most_84 : decode cX4_most 84 = .ok (.aload_n 0, 1) := dk_42 (dk_at dksX4_most_3 20 rfl rfl)
theorem dX4_most_85 : decode cX4_most 85 = .ok (.invokevirtual 426, 3) := dk_182 1 170 (dk_at dksX4_most_3 21 rfl rfl)
theorem dX4_most_88 : decode cX4_most 88 = .ok (.ireturn, 1) := dk_172 (dk_at dksX4_most_4 0 rfl rfl)
theorem dX4_most_89 : decode cX4_most 89 = .ok (.aload_n 0, 1) := dk_42 (dk_at dksX4_most_4 1 rfl rfl)
theorem dX4_most_90 : decode cX4_most 90 = .ok (.invokevirtual 429, 3) := dk_182 1 173 (dk_at dksX4_most_4 2 rfl rfl)
theorem dX4_most_93 : decode cX4_most 93 = .ok (.ireturn, 1) := dk_172 (dk_at dksX4_most_4 5 rfl rfl)
theorem dX4_most_94 : decode cX4_most 94 = .ok (.aload_n 0, 1) := dk_42 (dk_at dksX4_most_4 6 rfl rfl)
theorem dX4_most_95 : decode cX4_most 95 = .ok (.iconst 0, 1) := dk_3 (dk_at dksX4_most_4 7 rfl rfl)
theorem dX4_most_96 : decode cX4_most 96 = .ok (.invokevirtual 274, 3) := dk_182 1 18 (dk_at dksX4_most_4 8 rfl rfl)
theorem dX4_most_99 : decode cX4_most 99 = .ok (.aload_n 0, 1) := dk_42 (dk_at dksX4_most_4 11 rfl rfl)
theorem dX4_most_100 : decode cX4_most 100 = .ok (.getfield 244, 3) := dk_180 0 244 (dk_at dksX4_most_4 12 rfl rfl)
theorem dX4_most_103 : decode cX4_most 103 = .ok (.ireturn, 1) := dk_172 (dk_at dksX4_most_4 15 rfl rfl)
theorem dX4_most_104 : decode cX4_most 104 = .ok (.aload_n 0, 1) := dk_42 (dk_at dksX4_most_4 16 rfl rfl)
theorem dX4_most_105 : decode cX4_most 105 = .ok (.invokevirtual 357, 3) := dk_182 1 101 (dk_at dksX4_most_4 17 rfl rfl)
theorem dX4_most_108 : decode cX4_most 108 = .ok (.aload_n 0, 1) := dk_42 (dk_at dksX4_most_4 20 rfl rfl)
theorem dX4_most_109 : decode cX4_most 109 = .ok (.getfield 351, 3) := dk_180 1 95 (dk_at dksX4_most_4 21 rfl rfl)
theorem dX4_most_112 : decode cX4_most 112 = .ok (.ireturn, 1) := dk_172 (dk_at dksX4_most_5 0 rfl rfl)
abbrev cX4_sumOfRows : ByteArray := prog_13_method_118_code
def yX4_sumOfRows : MethodName := ⟨RX4, "sumOfRows", "()I"⟩
def dkwX4_sumOfRows_3 : List UInt8 := [27, 172]
abbrev dktX4_sumOfRows_3 : List UInt8 := dkwX4_sumOfRows_3 ++ []
def dkwX4_sumOfRows_2 : List UInt8 := [21, 4, 96, 46, 96, 60, 132, 4, 1, 167, 255, 226, 132, 3, 1, 167, 255, 208, 132, 2, 1, 167, 255, 192]
abbrev dktX4_sumOfRows_2 : List UInt8 := dkwX4_sumOfRows_2 ++ dktX4_sumOfRows_3
def dkwX4_sumOfRows_1 : List UInt8 := [54, 4, 21, 4, 42, 180, 0, 37, 28, 46, 162, 0, 25, 27, 42, 180, 0, 31, 28, 29, 184, 0, 182]
abbrev dktX4_sumOfRows_1 : List UInt8 := dkwX4_sumOfRows_1 ++ dktX4_sumOfRows_2
def dkwX4_sumOfRows_0 : List UInt8 := [3, 60, 3, 61, 28, 42, 180, 0, 173, 162, 0, 62, 3, 62, 29, 42, 28, 182, 0, 186, 162, 0, 45, 3]
abbrev dktX4_sumOfRows_0 : List UInt8 := dkwX4_sumOfRows_0 ++ dktX4_sumOfRows_1
theorem dksX4_sumOfRows_0 : cX4_sumOfRows.data.toList.drop 0 = dktX4_sumOfRows_0 := by decide +kernel
theorem dksX4_sumOfRows_1 : cX4_sumOfRows.data.toList.drop 24 = dktX4_sumOfRows_1 := dk_seg dksX4_sumOfRows_0 24 rfl rfl
theorem dksX4_sumOfRows_2 : cX4_sumOfRows.data.toList.drop 47 = dktX4_sumOfRows_2 := dk_seg dksX4_sumOfRows_1 23 rfl rfl
theorem dksX4_sumOfRows_3 : cX4_sumOfRows.data.toList.drop 71 = dktX4_sumOfRows_3 := dk_seg dksX4_sumOfRows_2 24 rfl rfl
theorem dX4_sumOfRows_0 : decode cX4_sumOfRows 0 = .ok (.iconst 0, 1) := dk_3 (dk_at dksX4_sumOfRows_0 0 rfl rfl)
theorem dX4_sumOfRows_1 : decode cX4_sumOfRows 1 = .ok (.istore_n 1, 1) := dk_60 (dk_at dksX4_sumOfRows_0 1 rfl rfl)
theorem dX4_sumOfRows_2 : decode cX4_sumOfRows 2 = .ok (.iconst 0, 1) := dk_3 (dk_at dksX4_sumOfRows_0 2 rfl rfl)
theorem dX4_sumOfRows_3 : decode cX4_sumOfRows 3 = .ok (.istore_n 2, 1) := dk_61 (dk_at dksX4_sumOfRows_0 3 rfl rfl)
theorem dX4_sumOfRows_4 : decode cX4_sumOfRows 4 = .ok (.iload_n 2, 1) := dk_28 (dk_at dksX4_sumOfRows_0 4 rfl rfl)
theorem dX4_sumOfRows_5 : decode cX4_sumOfRows 5 = .ok (.aload_n 0, 1) := dk_42 (dk_at dksX4_sumOfRows_0 5 rfl rfl)
theorem dX4_sumOfRows_6 : decode cX4_sumOfRows 6 = .ok (.getfield 173, 3) := dk_180 0 173 (dk_at dksX4_sumOfRows_0 6 rfl rfl)
theorem dX4_sumOfRows_9 : decode cX4_sumOfRows 9 = .ok (.if_icmp .ge 62, 3) := dk_162 0 62 (dk_at dksX4_sumOfRows_0 9 rfl rfl)
theorem dX4_sumOfRows_12 : decode cX4_sumOfRows 12 = .ok (.iconst 0, 1) := dk_3 (dk_at dksX4_sumOfRows_0 12 rfl rfl)
theorem dX4_sumOfRows_13 : decode cX4_sumOfRows 13 = .ok (.istore_n 3, 1) := dk_62 (dk_at dksX4_sumOfRows_0 13 rfl rfl)
theorem dX4_sumOfRows_14 : decode cX4_sumOfRows 14 = .ok (.iload_n 3, 1) := dk_29 (dk_at dksX4_sumOfRows_0 14 rfl rfl)
theorem dX4_sumOfRows_15 : decode cX4_sumOfRows 15 = .ok (.aload_n 0, 1) := dk_42 (dk_at dksX4_sumOfRows_0 15 rfl rfl)
theorem dX4_sumOfRows_16 : decode cX4_sumOfRows 16 = .ok (.iload_n 2, 1) := dk_28 (dk_at dksX4_sumOfRows_0 16 rfl rfl)
theorem dX4_sumOfRows_17 : decode cX4_sumOfRows 17 = .ok (.invokevirtual 186, 3) := dk_182 0 186 (dk_at dksX4_sumOfRows_0 17 rfl rfl)
theorem dX4_sumOfRows_20 : decode cX4_sumOfRows 20 = .ok (.if_icmp .ge 45, 3) := dk_162 0 45 (dk_at dksX4_sumOfRows_0 20 rfl rfl)
theorem dX4_sumOfRows_23 : decode cX4_sumOfRows 23 = .ok (.iconst 0, 1) := dk_3 (dk_at dksX4_sumOfRows_0 23 rfl rfl)
theorem dX4_sumOfRows_24 : decode cX4_sumOfRows 24 = .ok (.istore 4, 2) := dk_54 4 (dk_at dksX4_sumOfRows_1 0 rfl rfl)
theorem dX4_sumOfRows_26 : decode cX4_sumOfRows 26 = .ok (.iload 4, 2) := dk_21 4 (dk_at dksX4_sumOfRows_1 2 rfl rfl)
theorem dX4_sumOfRows_28 : decode cX4_sumOfRows 28 = .ok (.aload_n 0, 1) := dk_42 (dk_at dksX4_sumOfRows_1 4 rfl rfl)
theorem dX4_sumOfRows_29 : decode cX4_sumOfRows 29 = .ok (.getfield 37, 3) := dk_180 0 37 (dk_at dksX4_sumOfRows_1 5 rfl rfl)
theorem dX4_sumOfRows_32 : decode cX4_sumOfRows 32 = .ok (.iload_n 2, 1) := dk_28 (dk_at dksX4_sumOfRows_1 8 rfl rfl)
theorem dX4_sumOfRows_33 : decode cX4_sumOfRows 33 = .ok (.iaload, 1) := dk_46 (dk_at dksX4_sumOfRows_1 9 rfl rfl)
theorem dX4_sumOfRows_34 : decode cX4_sumOfRows 34 = .ok (.if_icmp .ge 25, 3) := dk_162 0 25 (dk_at dksX4_sumOfRows_1 10 rfl rfl)
theorem dX4_sumOfRows_37 : decode cX4_sumOfRows 37 = .ok (.iload_n 1, 1) := dk_27 (dk_at dksX4_sumOfRows_1 13 rfl rfl)
theorem dX4_sumOfRows_38 : decode cX4_sumOfRows 38 = .ok (.aload_n 0, 1) := dk_42 (dk_at dksX4_sumOfRows_1 14 rfl rfl)
theorem dX4_sumOfRows_39 : decode cX4_sumOfRows 39 = .ok (.getfield 31, 3) := dk_180 0 31 (dk_at dksX4_sumOfRows_1 15 rfl rfl)
theorem dX4_sumOfRows_42 : decode cX4_sumOfRows 42 = .ok (.iload_n 2, 1) := dk_28 (dk_at dksX4_sumOfRows_1 18 rfl rfl)
theorem dX4_sumOfRows_43 : decode cX4_sumOfRows 43 = .ok (.iload_n 3, 1) := dk_29 (dk_at dksX4_sumOfRows_1 19 rfl rfl)
theorem dX4_sumOfRows_44 : decode cX4_sumOfRows 44 = .ok (.invokestatic 182, 3) := dk_184 0 182 (dk_at dksX4_sumOfRows_1 20 rfl rfl)
theorem dX4_sumOfRows_47 : decode cX4_sumOfRows 47 = .ok (.iload 4, 2) := dk_21 4 (dk_at dksX4_sumOfRows_2 0 rfl rfl)
theorem dX4_sumOfRows_49 : decode cX4_sumOfRows 49 = .ok (.iadd, 1) := dk_96 (dk_at dksX4_sumOfRows_2 2 rfl rfl)
theorem dX4_sumOfRows_50 : decode cX4_sumOfRows 50 = .ok (.iaload, 1) := dk_46 (dk_at dksX4_sumOfRows_2 3 rfl rfl)
theorem dX4_sumOfRows_51 : decode cX4_sumOfRows 51 = .ok (.iadd, 1) := dk_96 (dk_at dksX4_sumOfRows_2 4 rfl rfl)
theorem dX4_sumOfRows_52 : decode cX4_sumOfRows 52 = .ok (.istore_n 1, 1) := dk_60 (dk_at dksX4_sumOfRows_2 5 rfl rfl)
theorem dX4_sumOfRows_53 : decode cX4_sumOfRows 53 = .ok (.iinc 4 1, 3) := dk_132 4 1 (dk_at dksX4_sumOfRows_2 6 rfl rfl)
theorem dX4_sumOfRows_56 : decode cX4_sumOfRows 56 = .ok (.goto (-30), 3) := dk_167 255 226 (dk_at dksX4_sumOfRows_2 9 rfl rfl)
theorem dX4_sumOfRows_59 : decode cX4_sumOfRows 59 = .ok (.iinc 3 1, 3) := dk_132 3 1 (dk_at dksX4_sumOfRows_2 12 rfl rfl)
theorem dX4_sumOfRows_62 : decode cX4_sumOfRows 62 = .ok (.goto (-48), 3) := dk_167 255 208 (dk_at dksX4_sumOfRows_2 15 rfl rfl)
theorem dX4_sumOfRows_65 : decode cX4_sumOfRows 65 = .ok (.iinc 2 1, 3) := dk_132 2 1 (dk_at dksX4_sumOfRows_2 18 rfl rfl)
theorem dX4_sumOfRows_68 : decode cX4_sumOfRows 68 = .ok (.goto (-64), 3) := dk_167 255 192 (dk_at dksX4_sumOfRows_2 21 rfl rfl)
theorem dX4_sumOfRows_71 : decode cX4_sumOfRows 71 = .ok (.iload_n 1, 1) := dk_27 (dk_at dksX4_sumOfRows_3 0 rfl rfl)
theorem dX4_sumOfRows_72 : decode cX4_sumOfRows 72 = .ok (.ireturn, 1) := dk_172 (dk_at dksX4_sumOfRows_3 1 rfl rfl)
abbrev cX4_greatestTable : ByteArray := prog_13_method_119_code
def yX4_greatestTable : MethodName := ⟨RX4, "greatestTable", "(Z)I"⟩
def dkwX4_greatestTable_3 : List UInt8 := [28, 61, 132, 3, 1, 167, 255, 183, 28, 172]
abbrev dktX4_greatestTable_3 : List UInt8 := dkwX4_greatestTable_3 ++ []
def dkwX4_greatestTable_2 : List UInt8 := [42, 28, 182, 0, 186, 164, 0, 7, 4, 167, 0, 4, 3, 54, 4, 21, 4, 153, 0, 7, 29, 167, 0, 4]
abbrev dktX4_greatestTable_2 : List UInt8 := dkwX4_greatestTable_2 ++ dktX4_greatestTable_3
def dkwX4_greatestTable_1 : List UInt8 := [42, 28, 182, 1, 107, 184, 1, 160, 164, 0, 7, 4, 167, 0, 25, 3, 167, 0, 21, 42, 29, 182, 0, 186]
abbrev dktX4_greatestTable_1 : List UInt8 := dkwX4_greatestTable_1 ++ dktX4_greatestTable_2
def dkwX4_greatestTable_0 : List UInt8 := [3, 61, 4, 62, 29, 42, 180, 0, 173, 162, 0, 71, 27, 153, 0, 30, 42, 29, 182, 1, 107, 184, 1, 160]
abbrev dktX4_greatestTable_0 : List UInt8 := dkwX4_greatestTable_0 ++ dktX4_greatestTable_1
theorem dksX4_greatestTable_0 : cX4_greatestTable.data.toList.drop 0 = dktX4_greatestTable_0 := by decide +kernel
theorem dksX4_greatestTable_1 : cX4_greatestTable.data.toList.drop 24 = dktX4_greatestTable_1 := dk_seg dksX4_greatestTable_0 24 rfl rfl
theorem dksX4_greatestTable_2 : cX4_greatestTable.data.toList.drop 48 = dktX4_greatestTable_2 := dk_seg dksX4_greatestTable_1 24 rfl rfl
theorem dksX4_greatestTable_3 : cX4_greatestTable.data.toList.drop 72 = dktX4_greatestTable_3 := dk_seg dksX4_greatestTable_2 24 rfl rfl
theorem dX4_greatestTable_0 : decode cX4_greatestTable 0 = .ok (.iconst 0, 1) := dk_3 (dk_at dksX4_greatestTable_0 0 rfl rfl)
theorem dX4_greatestTable_1 : decode cX4_greatestTable 1 = .ok (.istore_n 2, 1) := dk_61 (dk_at dksX4_greatestTable_0 1 rfl rfl)
theorem dX4_greatestTable_2 : decode cX4_greatestTable 2 = .ok (.iconst 1, 1) := dk_4 (dk_at dksX4_greatestTable_0 2 rfl rfl)
theorem dX4_greatestTable_3 : decode cX4_greatestTable 3 = .ok (.istore_n 3, 1) := dk_62 (dk_at dksX4_greatestTable_0 3 rfl rfl)
theorem dX4_greatestTable_4 : decode cX4_greatestTable 4 = .ok (.iload_n 3, 1) := dk_29 (dk_at dksX4_greatestTable_0 4 rfl rfl)
theorem dX4_greatestTable_5 : decode cX4_greatestTable 5 = .ok (.aload_n 0, 1) := dk_42 (dk_at dksX4_greatestTable_0 5 rfl rfl)
theorem dX4_greatestTable_6 : decode cX4_greatestTable 6 = .ok (.getfield 173, 3) := dk_180 0 173 (dk_at dksX4_greatestTable_0 6 rfl rfl)
theorem dX4_greatestTable_9 : decode cX4_greatestTable 9 = .ok (.if_icmp .ge 71, 3) := dk_162 0 71 (dk_at dksX4_greatestTable_0 9 rfl rfl)
theorem dX4_greatestTable_12 : decode cX4_greatestTable 12 = .ok (.iload_n 1, 1) := dk_27 (dk_at dksX4_greatestTable_0 12 rfl rfl)
theorem dX4_greatestTable_13 : decode cX4_greatestTable 13 = .ok (.ifCond .eq 30, 3) := dk_153 0 30 (dk_at dksX4_greatestTable_0 13 rfl rfl)
theorem dX4_greatestTable_16 : decode cX4_greatestTable 16 = .ok (.aload_n 0, 1) := dk_42 (dk_at dksX4_greatestTable_0 16 rfl rfl)
theorem dX4_greatestTable_17 : decode cX4_greatestTable 17 = .ok (.iload_n 3, 1) := dk_29 (dk_at dksX4_greatestTable_0 17 rfl rfl)
theorem dX4_greatestTable_18 : decode cX4_greatestTable 18 = .ok (.invokevirtual 363, 3) := dk_182 1 107 (dk_at dksX4_greatestTable_0 18 rfl rfl)
theorem dX4_greatestTable_21 : decode cX4_greatestTable 21 = .ok (.invokestatic 416, 3) := dk_184 1 160 (dk_at dksX4_greatestTable_0 21 rfl rfl)
theorem dX4_greatestTable_24 : decode cX4_greatestTable 24 = .ok (.aload_n 0, 1) := dk_42 (dk_at dksX4_greatestTable_1 0 rfl rfl)
theorem dX4_greatestTable_25 : decode cX4_greatestTable 25 = .ok (.iload_n 2, 1) := dk_28 (dk_at dksX4_greatestTable_1 1 rfl rfl)
theorem dX4_greatestTable_26 : decode cX4_greatestTable 26 = .ok (.invokevirtual 363, 3) := dk_182 1 107 (dk_at dksX4_greatestTable_1 2 rfl rfl)
theorem dX4_greatestTable_29 : decode cX4_greatestTable 29 = .ok (.invokestatic 416, 3) := dk_184 1 160 (dk_at dksX4_greatestTable_1 5 rfl rfl)
theorem dX4_greatestTable_32 : decode cX4_greatestTable 32 = .ok (.if_icmp .le 7, 3) := dk_164 0 7 (dk_at dksX4_greatestTable_1 8 rfl rfl)
theorem dX4_greatestTable_35 : decode cX4_greatestTable 35 = .ok (.iconst 1, 1) := dk_4 (dk_at dksX4_greatestTable_1 11 rfl rfl)
theorem dX4_greatestTable_36 : decode cX4_greatestTable 36 = .ok (.goto 25, 3) := dk_167 0 25 (dk_at dksX4_greatestTable_1 12 rfl rfl)
theorem dX4_greatestTable_39 : decode cX4_greatestTable 39 = .ok (.iconst 0, 1) := dk_3 (dk_at dksX4_greatestTable_1 15 rfl rfl)
theorem dX4_greatestTable_40 : decode cX4_greatestTable 40 = .ok (.goto 21, 3) := dk_167 0 21 (dk_at dksX4_greatestTable_1 16 rfl rfl)
theorem dX4_greatestTable_43 : decode cX4_greatestTable 43 = .ok (.aload_n 0, 1) := dk_42 (dk_at dksX4_greatestTable_1 19 rfl rfl)
theorem dX4_greatestTable_44 : decode cX4_greatestTable 44 = .ok (.iload_n 3, 1) := dk_29 (dk_at dksX4_greatestTable_1 20 rfl rfl)
theorem dX4_greatestTable_45 : decode cX4_greatestTable 45 = .ok (.invokevirtual 186, 3) := dk_182 0 186 (dk_at dksX4_greatestTable_1 21 rfl rfl)
theorem dX4_greatestTable_48 : decode cX4_greatestTable 48 = .ok (.aload_n 0, 1) := dk_42 (dk_at dksX4_greatestTable_2 0 rfl rfl)
theorem dX4_greatestTable_49 : decode cX4_greatestTable 49 = .ok (.iload_n 2, 1) := dk_28 (dk_at dksX4_greatestTable_2 1 rfl rfl)
theorem dX4_greatestTable_50 : decode cX4_greatestTable 50 = .ok (.invokevirtual 186, 3) := dk_182 0 186 (dk_at dksX4_greatestTable_2 2 rfl rfl)
theorem dX4_greatestTable_53 : decode cX4_greatestTable 53 = .ok (.if_icmp .le 7, 3) := dk_164 0 7 (dk_at dksX4_greatestTable_2 5 rfl rfl)
theorem dX4_greatestTable_56 : decode cX4_greatestTable 56 = .ok (.iconst 1, 1) := dk_4 (dk_at dksX4_greatestTable_2 8 rfl rfl)
theorem dX4_greatestTable_57 : decode cX4_greatestTable 57 = .ok (.goto 4, 3) := dk_167 0 4 (dk_at dksX4_greatestTable_2 9 rfl rfl)
theorem dX4_greatestTable_60 : decode cX4_greatestTable 60 = .ok (.iconst 0, 1) := dk_3 (dk_at dksX4_greatestTable_2 12 rfl rfl)
theorem dX4_greatestTable_61 : decode cX4_greatestTable 61 = .ok (.istore 4, 2) := dk_54 4 (dk_at dksX4_greatestTable_2 13 rfl rfl)
theorem dX4_greatestTable_63 : decode cX4_greatestTable 63 = .ok (.iload 4, 2) := dk_21 4 (dk_at dksX4_greatestTable_2 15 rfl rfl)
theorem dX4_greatestTable_65 : decode cX4_greatestTable 65 = .ok (.ifCond .eq 7, 3) := dk_153 0 7 (dk_at dksX4_greatestTable_2 17 rfl rfl)
theorem dX4_greatestTable_68 : decode cX4_greatestTable 68 = .ok (.iload_n 3, 1) := dk_29 (dk_at dksX4_greatestTable_2 20 rfl rfl)
theorem dX4_greatestTable_69 : decode cX4_greatestTable 69 = .ok (.goto 4, 3) := dk_167 0 4 (dk_at dksX4_greatestTable_2 21 rfl rfl)
theorem dX4_greatestTable_72 : decode cX4_greatestTable 72 = .ok (.iload_n 2, 1) := dk_28 (dk_at dksX4_greatestTable_3 0 rfl rfl)
theorem dX4_greatestTable_73 : decode cX4_greatestTable 73 = .ok (.istore_n 2, 1) := dk_61 (dk_at dksX4_greatestTable_3 1 rfl rfl)
theorem dX4_greatestTable_74 : decode cX4_greatestTable 74 = .ok (.iinc 3 1, 3) := dk_132 3 1 (dk_at dksX4_greatestTable_3 2 rfl rfl)
theorem dX4_greatestTable_77 : decode cX4_greatestTable 77 = .ok (.goto (-73), 3) := dk_167 255 183 (dk_at dksX4_greatestTable_3 5 rfl rfl)
theorem dX4_greatestTable_80 : decode cX4_greatestTable 80 = .ok (.iload_n 2, 1) := dk_28 (dk_at dksX4_greatestTable_3 8 rfl rfl)
theorem dX4_greatestTable_81 : decode cX4_greatestTable 81 = .ok (.ireturn, 1) := dk_172 (dk_at dksX4_greatestTable_3 9 rfl rfl)
abbrev cX4_bits : ByteArray := prog_13_method_3_code
def yX4_bits : MethodName := ⟨RX4, "bits", "(I)I"⟩
def dkwX4_bits_1 : List UInt8 := [27, 172]
abbrev dktX4_bits_1 : List UInt8 := dkwX4_bits_1 ++ []
def dkwX4_bits_0 : List UInt8 := [3, 60, 3, 61, 28, 16, 12, 162, 0, 17, 27, 26, 28, 122, 4, 126, 96, 60, 132, 2, 1, 167, 255, 239]
abbrev dktX4_bits_0 : List UInt8 := dkwX4_bits_0 ++ dktX4_bits_1
theorem dksX4_bits_0 : cX4_bits.data.toList.drop 0 = dktX4_bits_0 := by decide +kernel
theorem dksX4_bits_1 : cX4_bits.data.toList.drop 24 = dktX4_bits_1 := dk_seg dksX4_bits_0 24 rfl rfl
theorem dX4_bits_0 : decode cX4_bits 0 = .ok (.iconst 0, 1) := dk_3 (dk_at dksX4_bits_0 0 rfl rfl)
theorem dX4_bits_1 : decode cX4_bits 1 = .ok (.istore_n 1, 1) := dk_60 (dk_at dksX4_bits_0 1 rfl rfl)
theorem dX4_bits_2 : decode cX4_bits 2 = .ok (.iconst 0, 1) := dk_3 (dk_at dksX4_bits_0 2 rfl rfl)
theorem dX4_bits_3 : decode cX4_bits 3 = .ok (.istore_n 2, 1) := dk_61 (dk_at dksX4_bits_0 3 rfl rfl)
theorem dX4_bits_4 : decode cX4_bits 4 = .ok (.iload_n 2, 1) := dk_28 (dk_at dksX4_bits_0 4 rfl rfl)
theorem dX4_bits_5 : decode cX4_bits 5 = .ok (.bipush 12, 2) := dk_16 12 (dk_at dksX4_bits_0 5 rfl rfl)
theorem dX4_bits_7 : decode cX4_bits 7 = .ok (.if_icmp .ge 17, 3) := dk_162 0 17 (dk_at dksX4_bits_0 7 rfl rfl)
theorem dX4_bits_10 : decode cX4_bits 10 = .ok (.iload_n 1, 1) := dk_27 (dk_at dksX4_bits_0 10 rfl rfl)
theorem dX4_bits_11 : decode cX4_bits 11 = .ok (.iload_n 0, 1) := dk_26 (dk_at dksX4_bits_0 11 rfl rfl)
theorem dX4_bits_12 : decode cX4_bits 12 = .ok (.iload_n 2, 1) := dk_28 (dk_at dksX4_bits_0 12 rfl rfl)
theorem dX4_bits_13 : decode cX4_bits 13 = .ok (.ishr, 1) := dk_122 (dk_at dksX4_bits_0 13 rfl rfl)
theorem dX4_bits_14 : decode cX4_bits 14 = .ok (.iconst 1, 1) := dk_4 (dk_at dksX4_bits_0 14 rfl rfl)
theorem dX4_bits_15 : decode cX4_bits 15 = .ok (.iand, 1) := dk_126 (dk_at dksX4_bits_0 15 rfl rfl)
theorem dX4_bits_16 : decode cX4_bits 16 = .ok (.iadd, 1) := dk_96 (dk_at dksX4_bits_0 16 rfl rfl)
theorem dX4_bits_17 : decode cX4_bits 17 = .ok (.istore_n 1, 1) := dk_60 (dk_at dksX4_bits_0 17 rfl rfl)
theorem dX4_bits_18 : decode cX4_bits 18 = .ok (.iinc 2 1, 3) := dk_132 2 1 (dk_at dksX4_bits_0 18 rfl rfl)
theorem dX4_bits_21 : decode cX4_bits 21 = .ok (.goto (-17), 3) := dk_167 255 239 (dk_at dksX4_bits_0 21 rfl rfl)
theorem dX4_bits_24 : decode cX4_bits 24 = .ok (.iload_n 1, 1) := dk_27 (dk_at dksX4_bits_1 0 rfl rfl)
theorem dX4_bits_25 : decode cX4_bits 25 = .ok (.ireturn, 1) := dk_172 (dk_at dksX4_bits_1 1 rfl rfl)
abbrev cX4_notGiven : ByteArray := prog_13_method_120_code
def yX4_notGiven : MethodName := ⟨RX4, "notGiven", "()I"⟩
def dkwX4_notGiven_2 : List UInt8 := [27, 172]
abbrev dktX4_notGiven_2 : List UInt8 := dkwX4_notGiven_2 ++ []
def dkwX4_notGiven_1 : List UInt8 := [182, 0, 186, 42, 28, 182, 1, 107, 184, 1, 160, 100, 167, 0, 4, 3, 96, 60, 132, 2, 1, 167, 255, 216]
abbrev dktX4_notGiven_1 : List UInt8 := dkwX4_notGiven_1 ++ dktX4_notGiven_2
def dkwX4_notGiven_0 : List UInt8 := [3, 60, 3, 61, 28, 42, 180, 0, 173, 162, 0, 38, 27, 42, 28, 182, 0, 176, 153, 0, 20, 42, 28]
abbrev dktX4_notGiven_0 : List UInt8 := dkwX4_notGiven_0 ++ dktX4_notGiven_1
theorem dksX4_notGiven_0 : cX4_notGiven.data.toList.drop 0 = dktX4_notGiven_0 := by decide +kernel
theorem dksX4_notGiven_1 : cX4_notGiven.data.toList.drop 23 = dktX4_notGiven_1 := dk_seg dksX4_notGiven_0 23 rfl rfl
theorem dksX4_notGiven_2 : cX4_notGiven.data.toList.drop 47 = dktX4_notGiven_2 := dk_seg dksX4_notGiven_1 24 rfl rfl
theorem dX4_notGiven_0 : decode cX4_notGiven 0 = .ok (.iconst 0, 1) := dk_3 (dk_at dksX4_notGiven_0 0 rfl rfl)
theorem dX4_notGiven_1 : decode cX4_notGiven 1 = .ok (.istore_n 1, 1) := dk_60 (dk_at dksX4_notGiven_0 1 rfl rfl)
theorem dX4_notGiven_2 : decode cX4_notGiven 2 = .ok (.iconst 0, 1) := dk_3 (dk_at dksX4_notGiven_0 2 rfl rfl)
theorem dX4_notGiven_3 : decode cX4_notGiven 3 = .ok (.istore_n 2, 1) := dk_61 (dk_at dksX4_notGiven_0 3 rfl rfl)
theorem dX4_notGiven_4 : decode cX4_notGiven 4 = .ok (.iload_n 2, 1) := dk_28 (dk_at dksX4_notGiven_0 4 rfl rfl)
theorem dX4_notGiven_5 : decode cX4_notGiven 5 = .ok (.aload_n 0, 1) := dk_42 (dk_at dksX4_notGiven_0 5 rfl rfl)
theorem dX4_notGiven_6 : decode cX4_notGiven 6 = .ok (.getfield 173, 3) := dk_180 0 173 (dk_at dksX4_notGiven_0 6 rfl rfl)
theorem dX4_notGiven_9 : decode cX4_notGiven 9 = .ok (.if_icmp .ge 38, 3) := dk_162 0 38 (dk_at dksX4_notGiven_0 9 rfl rfl)
theorem dX4_notGiven_12 : decode cX4_notGiven 12 = .ok (.iload_n 1, 1) := dk_27 (dk_at dksX4_notGiven_0 12 rfl rfl)
theorem dX4_notGiven_13 : decode cX4_notGiven 13 = .ok (.aload_n 0, 1) := dk_42 (dk_at dksX4_notGiven_0 13 rfl rfl)
theorem dX4_notGiven_14 : decode cX4_notGiven 14 = .ok (.iload_n 2, 1) := dk_28 (dk_at dksX4_notGiven_0 14 rfl rfl)
theorem dX4_notGiven_15 : decode cX4_notGiven 15 = .ok (.invokevirtual 176, 3) := dk_182 0 176 (dk_at dksX4_notGiven_0 15 rfl rfl)
theorem dX4_notGiven_18 : decode cX4_notGiven 18 = .ok (.ifCond .eq 20, 3) := dk_153 0 20 (dk_at dksX4_notGiven_0 18 rfl rfl)
theorem dX4_notGiven_21 : decode cX4_notGiven 21 = .ok (.aload_n 0, 1) := dk_42 (dk_at dksX4_notGiven_0 21 rfl rfl)
theorem dX4_notGiven_22 : decode cX4_notGiven 22 = .ok (.iload_n 2, 1) := dk_28 (dk_at dksX4_notGiven_0 22 rfl rfl)
theorem dX4_notGiven_23 : decode cX4_notGiven 23 = .ok (.invokevirtual 186, 3) := dk_182 0 186 (dk_at dksX4_notGiven_1 0 rfl rfl)
theorem dX4_notGiven_26 : decode cX4_notGiven 26 = .ok (.aload_n 0, 1) := dk_42 (dk_at dksX4_notGiven_1 3 rfl rfl)
theorem dX4_notGiven_27 : decode cX4_notGiven 27 = .ok (.iload_n 2, 1) := dk_28 (dk_at dksX4_notGiven_1 4 rfl rfl)
theorem dX4_notGiven_28 : decode cX4_notGiven 28 = .ok (.invokevirtual 363, 3) := dk_182 1 107 (dk_at dksX4_notGiven_1 5 rfl rfl)
theorem dX4_notGiven_31 : decode cX4_notGiven 31 = .ok (.invokestatic 416, 3) := dk_184 1 160 (dk_at dksX4_notGiven_1 8 rfl rfl)
theorem dX4_notGiven_34 : decode cX4_notGiven 34 = .ok (.isub, 1) := dk_100 (dk_at dksX4_notGiven_1 11 rfl rfl)
theorem dX4_notGiven_35 : decode cX4_notGiven 35 = .ok (.goto 4, 3) := dk_167 0 4 (dk_at dksX4_notGiven_1 12 rfl rfl)
theorem dX4_notGiven_38 : decode cX4_notGiven 38 = .ok (.iconst 0, 1) := dk_3 (dk_at dksX4_notGiven_1 15 rfl rfl)
theorem dX4_notGiven_39 : decode cX4_notGiven 39 = .ok (.iadd, 1) := dk_96 (dk_at dksX4_notGiven_1 16 rfl rfl)
theorem dX4_notGiven_40 : decode cX4_notGiven 40 = .ok (.istore_n 1, 1) := dk_60 (dk_at dksX4_notGiven_1 17 rfl rfl)
theorem dX4_notGiven_41 : decode cX4_notGiven 41 = .ok (.iinc 2 1, 3) := dk_132 2 1 (dk_at dksX4_notGiven_1 18 rfl rfl)
theorem dX4_notGiven_44 : decode cX4_notGiven 44 = .ok (.goto (-40), 3) := dk_167 255 216 (dk_at dksX4_notGiven_1 21 rfl rfl)
theorem dX4_notGiven_47 : decode cX4_notGiven 47 = .ok (.iload_n 1, 1) := dk_27 (dk_at dksX4_notGiven_2 0 rfl rfl)
theorem dX4_notGiven_48 : decode cX4_notGiven 48 = .ok (.ireturn, 1) := dk_172 (dk_at dksX4_notGiven_2 1 rfl rfl)
abbrev cX4_couples : ByteArray := prog_13_method_121_code
def yX4_couples : MethodName := ⟨RX4, "couples", "()I"⟩
def dkwX4_couples_2 : List UInt8 := [167, 0, 4, 3, 96, 60, 132, 3, 1, 167, 255, 210, 132, 2, 1, 167, 255, 197, 27, 172]
abbrev dktX4_couples_2 : List UInt8 := dkwX4_couples_2 ++ []
def dkwX4_couples_1 : List UInt8 := [182, 1, 86, 153, 0, 24, 42, 29, 182, 1, 86, 153, 0, 16, 42, 28, 29, 182, 1, 116, 153, 0, 7, 4]
abbrev dktX4_couples_1 : List UInt8 := dkwX4_couples_1 ++ dktX4_couples_2
def dkwX4_couples_0 : List UInt8 := [3, 60, 3, 61, 28, 7, 162, 0, 60, 3, 62, 29, 7, 162, 0, 47, 27, 28, 29, 159, 0, 32, 42, 28]
abbrev dktX4_couples_0 : List UInt8 := dkwX4_couples_0 ++ dktX4_couples_1
theorem dksX4_couples_0 : cX4_couples.data.toList.drop 0 = dktX4_couples_0 := by decide +kernel
theorem dksX4_couples_1 : cX4_couples.data.toList.drop 24 = dktX4_couples_1 := dk_seg dksX4_couples_0 24 rfl rfl
theorem dksX4_couples_2 : cX4_couples.data.toList.drop 48 = dktX4_couples_2 := dk_seg dksX4_couples_1 24 rfl rfl
theorem dX4_couples_0 : decode cX4_couples 0 = .ok (.iconst 0, 1) := dk_3 (dk_at dksX4_couples_0 0 rfl rfl)
theorem dX4_couples_1 : decode cX4_couples 1 = .ok (.istore_n 1, 1) := dk_60 (dk_at dksX4_couples_0 1 rfl rfl)
theorem dX4_couples_2 : decode cX4_couples 2 = .ok (.iconst 0, 1) := dk_3 (dk_at dksX4_couples_0 2 rfl rfl)
theorem dX4_couples_3 : decode cX4_couples 3 = .ok (.istore_n 2, 1) := dk_61 (dk_at dksX4_couples_0 3 rfl rfl)
theorem dX4_couples_4 : decode cX4_couples 4 = .ok (.iload_n 2, 1) := dk_28 (dk_at dksX4_couples_0 4 rfl rfl)
theorem dX4_couples_5 : decode cX4_couples 5 = .ok (.iconst 4, 1) := dk_7 (dk_at dksX4_couples_0 5 rfl rfl)
theorem dX4_couples_6 : decode cX4_couples 6 = .ok (.if_icmp .ge 60, 3) := dk_162 0 60 (dk_at dksX4_couples_0 6 rfl rfl)
theorem dX4_couples_9 : decode cX4_couples 9 = .ok (.iconst 0, 1) := dk_3 (dk_at dksX4_couples_0 9 rfl rfl)
theorem dX4_couples_10 : decode cX4_couples 10 = .ok (.istore_n 3, 1) := dk_62 (dk_at dksX4_couples_0 10 rfl rfl)
theorem dX4_couples_11 : decode cX4_couples 11 = .ok (.iload_n 3, 1) := dk_29 (dk_at dksX4_couples_0 11 rfl rfl)
theorem dX4_couples_12 : decode cX4_couples 12 = .ok (.iconst 4, 1) := dk_7 (dk_at dksX4_couples_0 12 rfl rfl)
theorem dX4_couples_13 : decode cX4_couples 13 = .ok (.if_icmp .ge 47, 3) := dk_162 0 47 (dk_at dksX4_couples_0 13 rfl rfl)
theorem dX4_couples_16 : decode cX4_couples 16 = .ok (.iload_n 1, 1) := dk_27 (dk_at dksX4_couples_0 16 rfl rfl)
theorem dX4_couples_17 : decode cX4_couples 17 = .ok (.iload_n 2, 1) := dk_28 (dk_at dksX4_couples_0 17 rfl rfl)
theorem dX4_couples_18 : decode cX4_couples 18 = .ok (.iload_n 3, 1) := dk_29 (dk_at dksX4_couples_0 18 rfl rfl)
theorem dX4_couples_19 : decode cX4_couples 19 = .ok (.if_icmp .eq 32, 3) := dk_159 0 32 (dk_at dksX4_couples_0 19 rfl rfl)
theorem dX4_couples_22 : decode cX4_couples 22 = .ok (.aload_n 0, 1) := dk_42 (dk_at dksX4_couples_0 22 rfl rfl)
theorem dX4_couples_23 : decode cX4_couples 23 = .ok (.iload_n 2, 1) := dk_28 (dk_at dksX4_couples_0 23 rfl rfl)
theorem dX4_couples_24 : decode cX4_couples 24 = .ok (.invokevirtual 342, 3) := dk_182 1 86 (dk_at dksX4_couples_1 0 rfl rfl)
theorem dX4_couples_27 : decode cX4_couples 27 = .ok (.ifCond .eq 24, 3) := dk_153 0 24 (dk_at dksX4_couples_1 3 rfl rfl)
theorem dX4_couples_30 : decode cX4_couples 30 = .ok (.aload_n 0, 1) := dk_42 (dk_at dksX4_couples_1 6 rfl rfl)
theorem dX4_couples_31 : decode cX4_couples 31 = .ok (.iload_n 3, 1) := dk_29 (dk_at dksX4_couples_1 7 rfl rfl)
theorem dX4_couples_32 : decode cX4_couples 32 = .ok (.invokevirtual 342, 3) := dk_182 1 86 (dk_at dksX4_couples_1 8 rfl rfl)
theorem dX4_couples_35 : decode cX4_couples 35 = .ok (.ifCond .eq 16, 3) := dk_153 0 16 (dk_at dksX4_couples_1 11 rfl rfl)
theorem dX4_couples_38 : decode cX4_couples 38 = .ok (.aload_n 0, 1) := dk_42 (dk_at dksX4_couples_1 14 rfl rfl)
theorem dX4_couples_39 : decode cX4_couples 39 = .ok (.iload_n 2, 1) := dk_28 (dk_at dksX4_couples_1 15 rfl rfl)
theorem dX4_couples_40 : decode cX4_couples 40 = .ok (.iload_n 3, 1) := dk_29 (dk_at dksX4_couples_1 16 rfl rfl)
theorem dX4_couples_41 : decode cX4_couples 41 = .ok (.invokevirtual 372, 3) := dk_182 1 116 (dk_at dksX4_couples_1 17 rfl rfl)
theorem dX4_couples_44 : decode cX4_couples 44 = .ok (.ifCond .eq 7, 3) := dk_153 0 7 (dk_at dksX4_couples_1 20 rfl rfl)
theorem dX4_couples_47 : decode cX4_couples 47 = .ok (.iconst 1, 1) := dk_4 (dk_at dksX4_couples_1 23 rfl rfl)
theorem dX4_couples_48 : decode cX4_couples 48 = .ok (.goto 4, 3) := dk_167 0 4 (dk_at dksX4_couples_2 0 rfl rfl)
theorem dX4_couples_51 : decode cX4_couples 51 = .ok (.iconst 0, 1) := dk_3 (dk_at dksX4_couples_2 3 rfl rfl)
theorem dX4_couples_52 : decode cX4_couples 52 = .ok (.iadd, 1) := dk_96 (dk_at dksX4_couples_2 4 rfl rfl)
theorem dX4_couples_53 : decode cX4_couples 53 = .ok (.istore_n 1, 1) := dk_60 (dk_at dksX4_couples_2 5 rfl rfl)
theorem dX4_couples_54 : decode cX4_couples 54 = .ok (.iinc 3 1, 3) := dk_132 3 1 (dk_at dksX4_couples_2 6 rfl rfl)
theorem dX4_couples_57 : decode cX4_couples 57 = .ok (.goto (-46), 3) := dk_167 255 210 (dk_at dksX4_couples_2 9 rfl rfl)
theorem dX4_couples_60 : decode cX4_couples 60 = .ok (.iinc 2 1, 3) := dk_132 2 1 (dk_at dksX4_couples_2 12 rfl rfl)
theorem dX4_couples_63 : decode cX4_couples 63 = .ok (.goto (-59), 3) := dk_167 255 197 (dk_at dksX4_couples_2 15 rfl rfl)
theorem dX4_couples_66 : decode cX4_couples 66 = .ok (.iload_n 1, 1) := dk_27 (dk_at dksX4_couples_2 18 rfl rfl)
theorem dX4_couples_67 : decode cX4_couples 67 = .ok (.ireturn, 1) := dk_172 (dk_at dksX4_couples_2 19 rfl rfl)
abbrev cX4_image : ByteArray := prog_13_method_123_code
def yX4_image : MethodName := ⟨RX4, "image", "()I"⟩
def dkwX4_image_1 : List UInt8 := [180, 0, 31, 27, 46, 79, 132, 1, 1, 167, 255, 234, 42, 4, 181, 0, 207, 42, 182, 1, 43, 172]
abbrev dktX4_image_1 : List UInt8 := dkwX4_image_1 ++ []
def dkwX4_image_0 : List UInt8 := [42, 182, 1, 21, 154, 0, 5, 2, 172, 3, 60, 27, 17, 1, 75, 162, 0, 21, 42, 180, 0, 90, 27, 42]
abbrev dktX4_image_0 : List UInt8 := dkwX4_image_0 ++ dktX4_image_1
theorem dksX4_image_0 : cX4_image.data.toList.drop 0 = dktX4_image_0 := by decide +kernel
theorem dksX4_image_1 : cX4_image.data.toList.drop 24 = dktX4_image_1 := dk_seg dksX4_image_0 24 rfl rfl
theorem dX4_image_0 : decode cX4_image 0 = .ok (.aload_n 0, 1) := dk_42 (dk_at dksX4_image_0 0 rfl rfl)
theorem dX4_image_1 : decode cX4_image 1 = .ok (.invokevirtual 277, 3) := dk_182 1 21 (dk_at dksX4_image_0 1 rfl rfl)
theorem dX4_image_4 : decode cX4_image 4 = .ok (.ifCond .ne 5, 3) := dk_154 0 5 (dk_at dksX4_image_0 4 rfl rfl)
theorem dX4_image_7 : decode cX4_image 7 = .ok (.iconst (-1), 1) := dk_2 (dk_at dksX4_image_0 7 rfl rfl)
theorem dX4_image_8 : decode cX4_image 8 = .ok (.ireturn, 1) := dk_172 (dk_at dksX4_image_0 8 rfl rfl)
theorem dX4_image_9 : decode cX4_image 9 = .ok (.iconst 0, 1) := dk_3 (dk_at dksX4_image_0 9 rfl rfl)
theorem dX4_image_10 : decode cX4_image 10 = .ok (.istore_n 1, 1) := dk_60 (dk_at dksX4_image_0 10 rfl rfl)
theorem dX4_image_11 : decode cX4_image 11 = .ok (.iload_n 1, 1) := dk_27 (dk_at dksX4_image_0 11 rfl rfl)
theorem dX4_image_12 : decode cX4_image 12 = .ok (.sipush 331, 3) := dk_17 1 75 (dk_at dksX4_image_0 12 rfl rfl)
theorem dX4_image_15 : decode cX4_image 15 = .ok (.if_icmp .ge 21, 3) := dk_162 0 21 (dk_at dksX4_image_0 15 rfl rfl)
theorem dX4_image_18 : decode cX4_image 18 = .ok (.aload_n 0, 1) := dk_42 (dk_at dksX4_image_0 18 rfl rfl)
theorem dX4_image_19 : decode cX4_image 19 = .ok (.getfield 90, 3) := dk_180 0 90 (dk_at dksX4_image_0 19 rfl rfl)
theorem dX4_image_22 : decode cX4_image 22 = .ok (.iload_n 1, 1) := dk_27 (dk_at dksX4_image_0 22 rfl rfl)
theorem dX4_image_23 : decode cX4_image 23 = .ok (.aload_n 0, 1) := dk_42 (dk_at dksX4_image_0 23 rfl rfl)
theorem dX4_image_24 : decode cX4_image 24 = .ok (.getfield 31, 3) := dk_180 0 31 (dk_at dksX4_image_1 0 rfl rfl)
theorem dX4_image_27 : decode cX4_image 27 = .ok (.iload_n 1, 1) := dk_27 (dk_at dksX4_image_1 3 rfl rfl)
theorem dX4_image_28 : decode cX4_image 28 = .ok (.iaload, 1) := dk_46 (dk_at dksX4_image_1 4 rfl rfl)
theorem dX4_image_29 : decode cX4_image 29 = .ok (.iastore, 1) := dk_79 (dk_at dksX4_image_1 5 rfl rfl)
theorem dX4_image_30 : decode cX4_image 30 = .ok (.iinc 1 1, 3) := dk_132 1 1 (dk_at dksX4_image_1 6 rfl rfl)
theorem dX4_image_33 : decode cX4_image 33 = .ok (.goto (-22), 3) := dk_167 255 234 (dk_at dksX4_image_1 9 rfl rfl)
theorem dX4_image_36 : decode cX4_image 36 = .ok (.aload_n 0, 1) := dk_42 (dk_at dksX4_image_1 12 rfl rfl)
theorem dX4_image_37 : decode cX4_image 37 = .ok (.iconst 1, 1) := dk_4 (dk_at dksX4_image_1 13 rfl rfl)
theorem dX4_image_38 : decode cX4_image 38 = .ok (.putfield 207, 3) := dk_181 0 207 (dk_at dksX4_image_1 14 rfl rfl)
theorem dX4_image_41 : decode cX4_image 41 = .ok (.aload_n 0, 1) := dk_42 (dk_at dksX4_image_1 17 rfl rfl)
theorem dX4_image_42 : decode cX4_image 42 = .ok (.invokevirtual 299, 3) := dk_182 1 43 (dk_at dksX4_image_1 18 rfl rfl)
theorem dX4_image_45 : decode cX4_image 45 = .ok (.ireturn, 1) := dk_172 (dk_at dksX4_image_1 21 rfl rfl)
abbrev cX4_back : ByteArray := prog_13_method_124_code
def yX4_back : MethodName := ⟨RX4, "back", "()I"⟩
def dkwX4_back_1 : List UInt8 := [180, 0, 90, 27, 46, 79, 132, 1, 1, 167, 255, 234, 42, 3, 181, 0, 204, 42, 182, 1, 43, 172]
abbrev dktX4_back_1 : List UInt8 := dkwX4_back_1 ++ []
def dkwX4_back_0 : List UInt8 := [42, 180, 0, 207, 154, 0, 5, 2, 172, 3, 60, 27, 17, 1, 75, 162, 0, 21, 42, 180, 0, 31, 27, 42]
abbrev dktX4_back_0 : List UInt8 := dkwX4_back_0 ++ dktX4_back_1
theorem dksX4_back_0 : cX4_back.data.toList.drop 0 = dktX4_back_0 := by decide +kernel
theorem dksX4_back_1 : cX4_back.data.toList.drop 24 = dktX4_back_1 := dk_seg dksX4_back_0 24 rfl rfl
theorem dX4_back_0 : decode cX4_back 0 = .ok (.aload_n 0, 1) := dk_42 (dk_at dksX4_back_0 0 rfl rfl)
theorem dX4_back_1 : decode cX4_back 1 = .ok (.getfield 207, 3) := dk_180 0 207 (dk_at dksX4_back_0 1 rfl rfl)
theorem dX4_back_4 : decode cX4_back 4 = .ok (.ifCond .ne 5, 3) := dk_154 0 5 (dk_at dksX4_back_0 4 rfl rfl)
theorem dX4_back_7 : decode cX4_back 7 = .ok (.iconst (-1), 1) := dk_2 (dk_at dksX4_back_0 7 rfl rfl)
theorem dX4_back_8 : decode cX4_back 8 = .ok (.ireturn, 1) := dk_172 (dk_at dksX4_back_0 8 rfl rfl)
theorem dX4_back_9 : decode cX4_back 9 = .ok (.iconst 0, 1) := dk_3 (dk_at dksX4_back_0 9 rfl rfl)
theorem dX4_back_10 : decode cX4_back 10 = .ok (.istore_n 1, 1) := dk_60 (dk_at dksX4_back_0 10 rfl rfl)
theorem dX4_back_11 : decode cX4_back 11 = .ok (.iload_n 1, 1) := dk_27 (dk_at dksX4_back_0 11 rfl rfl)
theorem dX4_back_12 : decode cX4_back 12 = .ok (.sipush 331, 3) := dk_17 1 75 (dk_at dksX4_back_0 12 rfl rfl)
theorem dX4_back_15 : decode cX4_back 15 = .ok (.if_icmp .ge 21, 3) := dk_162 0 21 (dk_at dksX4_back_0 15 rfl rfl)
theorem dX4_back_18 : decode cX4_back 18 = .ok (.aload_n 0, 1) := dk_42 (dk_at dksX4_back_0 18 rfl rfl)
theorem dX4_back_19 : decode cX4_back 19 = .ok (.getfield 31, 3) := dk_180 0 31 (dk_at dksX4_back_0 19 rfl rfl)
theorem dX4_back_22 : decode cX4_back 22 = .ok (.iload_n 1, 1) := dk_27 (dk_at dksX4_back_0 22 rfl rfl)
theorem dX4_back_23 : decode cX4_back 23 = .ok (.aload_n 0, 1) := dk_42 (dk_at dksX4_back_0 23 rfl rfl)
theorem dX4_back_24 : decode cX4_back 24 = .ok (.getfield 90, 3) := dk_180 0 90 (dk_at dksX4_back_1 0 rfl rfl)
theorem dX4_back_27 : decode cX4_back 27 = .ok (.iload_n 1, 1) := dk_27 (dk_at dksX4_back_1 3 rfl rfl)
theorem dX4_back_28 : decode cX4_back 28 = .ok (.iaload, 1) := dk_46 (dk_at dksX4_back_1 4 rfl rfl)
theorem dX4_back_29 : decode cX4_back 29 = .ok (.iastore, 1) := dk_79 (dk_at dksX4_back_1 5 rfl rfl)
theorem dX4_back_30 : decode cX4_back 30 = .ok (.iinc 1 1, 3) := dk_132 1 1 (dk_at dksX4_back_1 6 rfl rfl)
theorem dX4_back_33 : decode cX4_back 33 = .ok (.goto (-22), 3) := dk_167 255 234 (dk_at dksX4_back_1 9 rfl rfl)
theorem dX4_back_36 : decode cX4_back 36 = .ok (.aload_n 0, 1) := dk_42 (dk_at dksX4_back_1 12 rfl rfl)
theorem dX4_back_37 : decode cX4_back 37 = .ok (.iconst 0, 1) := dk_3 (dk_at dksX4_back_1 13 rfl rfl)
theorem dX4_back_38 : decode cX4_back 38 = .ok (.putfield 204, 3) := dk_181 0 204 (dk_at dksX4_back_1 14 rfl rfl)
theorem dX4_back_41 : decode cX4_back 41 = .ok (.aload_n 0, 1) := dk_42 (dk_at dksX4_back_1 17 rfl rfl)
theorem dX4_back_42 : decode cX4_back 42 = .ok (.invokevirtual 299, 3) := dk_182 1 43 (dk_at dksX4_back_1 18 rfl rfl)
theorem dX4_back_45 : decode cX4_back 45 = .ok (.ireturn, 1) := dk_172 (dk_at dksX4_back_1 21 rfl rfl)
abbrev cX4_count : ByteArray := prog_13_method_125_code
def yX4_count : MethodName := ⟨RX4, "count", "(I)I"⟩
def dkwX4_count_3 : List UInt8 := [42, 180, 0, 204, 172, 19, 1, 82, 172]
abbrev dktX4_count_3 : List UInt8 := dkwX4_count_3 ++ []
def dkwX4_count_2 : List UInt8 := [42, 180, 0, 173, 172, 42, 180, 0, 214, 172, 42, 180, 0, 101, 172, 42, 180, 0, 31, 17, 0, 150, 46, 172]
abbrev dktX4_count_2 : List UInt8 := dkwX4_count_2 ++ dktX4_count_3
def dkwX4_count_1 : List UInt8 := [170, 0, 0, 0, 0, 0, 64, 0, 0, 0, 0, 0, 0, 0, 4, 0, 0, 0, 35, 0, 0, 0, 40, 0, 0, 0, 45, 0, 0, 0, 50, 0, 0, 0, 59]
abbrev dktX4_count_1 : List UInt8 := dkwX4_count_1 ++ dktX4_count_2
def dkwX4_count_0 : List UInt8 := [27]
abbrev dktX4_count_0 : List UInt8 := dkwX4_count_0 ++ dktX4_count_1
theorem dksX4_count_0 : cX4_count.data.toList.drop 0 = dktX4_count_0 := by decide +kernel
theorem dksX4_count_1 : cX4_count.data.toList.drop 1 = dktX4_count_1 := dk_seg dksX4_count_0 1 rfl rfl
theorem dksX4_count_2 : cX4_count.data.toList.drop 36 = dktX4_count_2 := dk_seg dksX4_count_1 35 rfl rfl
theorem dksX4_count_3 : cX4_count.data.toList.drop 60 = dktX4_count_3 := dk_seg dksX4_count_2 24 rfl rfl
theorem dX4_count_0 : decode cX4_count 0 = .ok (.iload_n 1, 1) := dk_27 (dk_at dksX4_count_0 0 rfl rfl)
theorem dX4_count_1 : decode cX4_count 1 = .ok (.tableswitch 64 0 4 #[35, 40, 45, 50, 59], 35) := by decide +kernel
theorem dX4_count_36 : decode cX4_count 36 = .ok (.aload_n 0, 1) := dk_42 (dk_at dksX4_count_2 0 rfl rfl)
theorem dX4_count_37 : decode cX4_count 37 = .ok (.getfield 173, 3) := dk_180 0 173 (dk_at dksX4_count_2 1 rfl rfl)
theorem dX4_count_40 : decode cX4_count 40 = .ok (.ireturn, 1) := dk_172 (dk_at dksX4_count_2 4 rfl rfl)
theorem dX4_count_41 : decode cX4_count 41 = .ok (.aload_n 0, 1) := dk_42 (dk_at dksX4_count_2 5 rfl rfl)
theorem dX4_count_42 : decode cX4_count 42 = .ok (.getfield 214, 3) := dk_180 0 214 (dk_at dksX4_count_2 6 rfl rfl)
theorem dX4_count_45 : decode cX4_count 45 = .ok (.ireturn, 1) := dk_172 (dk_at dksX4_count_2 9 rfl rfl)
theorem dX4_count_46 : decode cX4_count 46 = .ok (.aload_n 0, 1) := dk_42 (dk_at dksX4_count_2 10 rfl rfl)
theorem dX4_count_47 : decode cX4_count 47 = .ok (.getfield 101, 3) := dk_180 0 101 (dk_at dksX4_count_2 11 rfl rfl)
theorem dX4_count_50 : decode cX4_count 50 = .ok (.ireturn, 1) := dk_172 (dk_at dksX4_count_2 14 rfl rfl)
theorem dX4_count_51 : decode cX4_count 51 = .ok (.aload_n 0, 1) := dk_42 (dk_at dksX4_count_2 15 rfl rfl)
theorem dX4_count_52 : decode cX4_count 52 = .ok (.getfield 31, 3) := dk_180 0 31 (dk_at dksX4_count_2 16 rfl rfl)
theorem dX4_count_55 : decode cX4_count 55 = .ok (.sipush 150, 3) := dk_17 0 150 (dk_at dksX4_count_2 19 rfl rfl)
theorem dX4_count_58 : decode cX4_count 58 = .ok (.iaload, 1) := dk_46 (dk_at dksX4_count_2 22 rfl rfl)
theorem dX4_count_59 : decode cX4_count 59 = .ok (.ireturn, 1) := dk_172 (dk_at dksX4_count_2 23 rfl rfl)
theorem dX4_count_60 : decode cX4_count 60 = .ok (.aload_n 0, 1) := dk_42 (dk_at dksX4_count_3 0 rfl rfl)
theorem dX4_count_61 : decode cX4_count 61 = .ok (.getfield 204, 3) := dk_180 0 204 (dk_at dksX4_count_3 1 rfl rfl)
theorem dX4_count_64 : decode cX4_count 64 = .ok (.ireturn, 1) := dk_172 (dk_at dksX4_count_3 4 rfl rfl)
theorem dX4_count_65 : decode cX4_count 65 = .ok (.ldc_w 338, 3) := dk_19 1 82 (dk_at dksX4_count_3 5 rfl rfl)
theorem dX4_count_68 : decode cX4_count 68 = .ok (.ireturn, 1) := dk_172 (dk_at dksX4_count_3 8 rfl rfl)
theorem q125 : (Jvm.Cond.initialized "LeapJoinModel") ∈ lw_all := lw_g (lw_at lw_m1 4 rfl) rfl
theorem q1249 : (Jvm.Cond.instantiable "LeapJoinModel" (43 : Nat)) ∈ lw_all := lw_g (lw_at lw_m5 168 rfl) rfl
theorem q1251 : (Jvm.Cond.instanceMethod ({ cls := "LeapJoinModel", name := "<init>", desc := "()V" } : Jvm.MethodName)) ∈ lw_all := lw_g (lw_at lw_m5 170 rfl) rfl
theorem q1252 : (Jvm.Cond.code ({ cls := "LeapJoinModel", name := "<init>", desc := "()V" } : Jvm.MethodName) prog_13_method_4_code (1 : Nat) (Option.none : Option Jvm.ClassFile.FieldType)) ∈ lw_all := lw_g (lw_at lw_m5 171 rfl) rfl
theorem q1253 : (Jvm.Cond.methodLink "LeapJoinModel" (3 : Nat) ({ cls := "java/lang/Object", name := "<init>", desc := "()V" } : Jvm.MethodName)) ∈ lw_all := lw_g (lw_at lw_m5 172 rfl) rfl
theorem q1254 : (Jvm.Cond.constant "LeapJoinModel" (61 : Nat) (82944 : Int32)) ∈ lw_all := lw_g (lw_at lw_m5 173 rfl) rfl
theorem q1255 : (Jvm.Cond.fieldLink "LeapJoinModel" (93 : Nat) "LeapJoinModel" "thrown" "I") ∈ lw_all := lw_g (lw_at lw_m5 174 rfl) rfl
theorem q1256 : (Jvm.Cond.fieldLink "LeapJoinModel" (9 : Nat) "LeapJoinModel" "tape" "[I") ∈ lw_all := lw_g (lw_at lw_m5 175 rfl) rfl
theorem q1257 : (Jvm.Cond.fieldLink "LeapJoinModel" (101 : Nat) "LeapJoinModel" "taped" "I") ∈ lw_all := lw_g (lw_at lw_m5 176 rfl) rfl
theorem q1258 : (Jvm.Cond.fieldLink "LeapJoinModel" (108 : Nat) "LeapJoinModel" "at" "I") ∈ lw_all := lw_g (lw_at lw_m5 177 rfl) rfl
theorem q1259 : (Jvm.Cond.fieldLink "LeapJoinModel" (115 : Nat) "LeapJoinModel" "wrong" "I") ∈ lw_all := lw_g (lw_at lw_m5 178 rfl) rfl
theorem q1260 : (Jvm.Cond.fieldLink "LeapJoinModel" (13 : Nat) "LeapJoinModel" "readWide" "[I") ∈ lw_all := lw_g (lw_at lw_m5 179 rfl) rfl
theorem q1261 : (Jvm.Cond.fieldLink "LeapJoinModel" (16 : Nat) "LeapJoinModel" "readLetters" "[I") ∈ lw_all := lw_g (lw_at lw_m5 180 rfl) rfl
theorem q1262 : (Jvm.Cond.fieldLink "LeapJoinModel" (19 : Nat) "LeapJoinModel" "readMany" "[I") ∈ lw_all := lw_g (lw_at lw_m5 181 rfl) rfl
theorem q1263 : (Jvm.Cond.fieldLink "LeapJoinModel" (22 : Nat) "LeapJoinModel" "readRows" "[I") ∈ lw_all := lw_g (lw_at lw_m5 182 rfl) rfl
theorem q1264 : (Jvm.Cond.fieldLink "LeapJoinModel" (152 : Nat) "LeapJoinModel" "readTables" "I") ∈ lw_all := lw_g (lw_at lw_m5 183 rfl) rfl
theorem q1265 : (Jvm.Cond.fieldLink "LeapJoinModel" (25 : Nat) "LeapJoinModel" "script" "[I") ∈ lw_all := lw_g (lw_at lw_m5 184 rfl) rfl
theorem q1266 : (Jvm.Cond.fieldLink "LeapJoinModel" (28 : Nat) "LeapJoinModel" "scriptLong" "[I") ∈ lw_all := lw_g (lw_at lw_m5 185 rfl) rfl
theorem q1267 : (Jvm.Cond.fieldLink "LeapJoinModel" (214 : Nat) "LeapJoinModel" "scripts" "I") ∈ lw_all := lw_g (lw_at lw_m5 186 rfl) rfl
theorem q1268 : (Jvm.Cond.fieldLink "LeapJoinModel" (31 : Nat) "LeapJoinModel" "now" "[I") ∈ lw_all := lw_g (lw_at lw_m5 187 rfl) rfl
theorem q1269 : (Jvm.Cond.fieldLink "LeapJoinModel" (34 : Nat) "LeapJoinModel" "refused" "[I") ∈ lw_all := lw_g (lw_at lw_m5 188 rfl) rfl
theorem q1270 : (Jvm.Cond.fieldLink "LeapJoinModel" (37 : Nat) "LeapJoinModel" "wide" "[I") ∈ lw_all := lw_g (lw_at lw_m5 189 rfl) rfl
theorem q1271 : (Jvm.Cond.fieldLink "LeapJoinModel" (40 : Nat) "LeapJoinModel" "letters" "[I") ∈ lw_all := lw_g (lw_at lw_m5 190 rfl) rfl
theorem q1272 : (Jvm.Cond.fieldLink "LeapJoinModel" (173 : Nat) "LeapJoinModel" "tables" "I") ∈ lw_all := lw_g (lw_at lw_m5 191 rfl) rfl
theorem q1273 : (Jvm.Cond.fieldLink "LeapJoinModel" (43 : Nat) "LeapJoinModel" "inOrder" "[I") ∈ lw_all := lw_g (lw_at lw_m5 192 rfl) rfl
theorem q1274 : (Jvm.Cond.fieldLink "LeapJoinModel" (217 : Nat) "LeapJoinModel" "depthMany" "I") ∈ lw_all := lw_g (lw_at lw_m5 193 rfl) rfl
theorem q1275 : (Jvm.Cond.fieldLink "LeapJoinModel" (46 : Nat) "LeapJoinModel" "found" "[I") ∈ lw_all := lw_g (lw_at lw_m5 194 rfl) rfl
theorem q1276 : (Jvm.Cond.fieldLink "LeapJoinModel" (49 : Nat) "LeapJoinModel" "keys" "[I") ∈ lw_all := lw_g (lw_at lw_m5 195 rfl) rfl
theorem q1277 : (Jvm.Cond.fieldLink "LeapJoinModel" (52 : Nat) "LeapJoinModel" "keyMany" "[I") ∈ lw_all := lw_g (lw_at lw_m5 196 rfl) rfl
theorem q1278 : (Jvm.Cond.fieldLink "LeapJoinModel" (55 : Nat) "LeapJoinModel" "stand" "[I") ∈ lw_all := lw_g (lw_at lw_m5 197 rfl) rfl
theorem q1279 : (Jvm.Cond.fieldLink "LeapJoinModel" (58 : Nat) "LeapJoinModel" "begun" "[I") ∈ lw_all := lw_g (lw_at lw_m5 198 rfl) rfl
theorem q1280 : (Jvm.Cond.fieldLink "LeapJoinModel" (62 : Nat) "LeapJoinModel" "joined" "[I") ∈ lw_all := lw_g (lw_at lw_m5 199 rfl) rfl
theorem q1281 : (Jvm.Cond.fieldLink "LeapJoinModel" (247 : Nat) "LeapJoinModel" "joinMany" "I") ∈ lw_all := lw_g (lw_at lw_m5 200 rfl) rfl
theorem q1282 : (Jvm.Cond.fieldLink "LeapJoinModel" (244 : Nat) "LeapJoinModel" "leapMany" "I") ∈ lw_all := lw_g (lw_at lw_m5 201 rfl) rfl
theorem q1283 : (Jvm.Cond.fieldLink "LeapJoinModel" (65 : Nat) "LeapJoinModel" "kept" "[I") ∈ lw_all := lw_g (lw_at lw_m5 202 rfl) rfl
theorem q1284 : (Jvm.Cond.fieldLink "LeapJoinModel" (204 : Nat) "LeapJoinModel" "acts" "I") ∈ lw_all := lw_g (lw_at lw_m5 203 rfl) rfl
theorem q1285 : (Jvm.Cond.fieldLink "LeapJoinModel" (320 : Nat) "LeapJoinModel" "drawn" "J") ∈ lw_all := lw_g (lw_at lw_m5 204 rfl) rfl
theorem q1286 : (Jvm.Cond.fieldLink "LeapJoinModel" (348 : Nat) "LeapJoinModel" "bestOrder" "I") ∈ lw_all := lw_g (lw_at lw_m5 205 rfl) rfl
theorem q1287 : (Jvm.Cond.fieldLink "LeapJoinModel" (354 : Nat) "LeapJoinModel" "fewestLeaps" "I") ∈ lw_all := lw_g (lw_at lw_m5 206 rfl) rfl
theorem q1288 : (Jvm.Cond.fieldLink "LeapJoinModel" (351 : Nat) "LeapJoinModel" "mostLeaps" "I") ∈ lw_all := lw_g (lw_at lw_m5 207 rfl) rfl
theorem q1289 : (Jvm.Cond.fieldLink "LeapJoinModel" (68 : Nat) "LeapJoinModel" "timesOf" "[I") ∈ lw_all := lw_g (lw_at lw_m5 208 rfl) rfl
theorem q1290 : (Jvm.Cond.fieldLink "LeapJoinModel" (71 : Nat) "LeapJoinModel" "rankOf" "[I") ∈ lw_all := lw_g (lw_at lw_m5 209 rfl) rfl
theorem q1291 : (Jvm.Cond.fieldLink "LeapJoinModel" (74 : Nat) "LeapJoinModel" "unlikeOf" "[I") ∈ lw_all := lw_g (lw_at lw_m5 210 rfl) rfl
theorem q1292 : (Jvm.Cond.fieldLink "LeapJoinModel" (77 : Nat) "LeapJoinModel" "isMet" "[Z") ∈ lw_all := lw_g (lw_at lw_m5 211 rfl) rfl
theorem q1293 : (Jvm.Cond.fieldLink "LeapJoinModel" (81 : Nat) "LeapJoinModel" "toldBy" "[I") ∈ lw_all := lw_g (lw_at lw_m5 212 rfl) rfl
theorem q1294 : (Jvm.Cond.fieldLink "LeapJoinModel" (84 : Nat) "LeapJoinModel" "given4" "[I") ∈ lw_all := lw_g (lw_at lw_m5 213 rfl) rfl
theorem q1295 : (Jvm.Cond.fieldLink "LeapJoinModel" (87 : Nat) "LeapJoinModel" "aside" "[I") ∈ lw_all := lw_g (lw_at lw_m5 214 rfl) rfl
theorem q1296 : (Jvm.Cond.fieldLink "LeapJoinModel" (90 : Nat) "LeapJoinModel" "image" "[I") ∈ lw_all := lw_g (lw_at lw_m5 215 rfl) rfl
theorem q1297 : (Jvm.Cond.fieldLink "LeapJoinModel" (207 : Nat) "LeapJoinModel" "hasImage" "Z") ∈ lw_all := lw_g (lw_at lw_m5 216 rfl) rfl
theorem q1298 : (Jvm.Cond.lays "LeapJoinModel" "LeapJoinModel" "thrown" "I") ∈ lw_all := lw_g (lw_at lw_m5 217 rfl) rfl
theorem q1299 : (Jvm.Cond.soleField "LeapJoinModel" "thrown") ∈ lw_all := lw_g (lw_at lw_m5 218 rfl) rfl
theorem q1300 : (Jvm.Cond.laysFinal "LeapJoinModel" "LeapJoinModel" "tape" "[I") ∈ lw_all := lw_g (lw_at lw_m5 219 rfl) rfl
theorem q1301 : (Jvm.Cond.soleField "LeapJoinModel" "tape") ∈ lw_all := lw_g (lw_at lw_m5 220 rfl) rfl
theorem q1302 : (Jvm.Cond.lays "LeapJoinModel" "LeapJoinModel" "taped" "I") ∈ lw_all := lw_g (lw_at lw_m5 221 rfl) rfl
theorem q1303 : (Jvm.Cond.soleField "LeapJoinModel" "taped") ∈ lw_all := lw_g (lw_at lw_m5 222 rfl) rfl
theorem q1304 : (Jvm.Cond.lays "LeapJoinModel" "LeapJoinModel" "at" "I") ∈ lw_all := lw_g (lw_at lw_m5 223 rfl) rfl
theorem q1305 : (Jvm.Cond.soleField "LeapJoinModel" "at") ∈ lw_all := lw_g (lw_at lw_m5 224 rfl) rfl
theorem q1306 : (Jvm.Cond.lays "LeapJoinModel" "LeapJoinModel" "wrong" "I") ∈ lw_all := lw_g (lw_at lw_m5 225 rfl) rfl
theorem q1307 : (Jvm.Cond.soleField "LeapJoinModel" "wrong") ∈ lw_all := lw_g (lw_at lw_m5 226 rfl) rfl
theorem q1308 : (Jvm.Cond.laysFinal "LeapJoinModel" "LeapJoinModel" "readWide" "[I") ∈ lw_all := lw_g (lw_at lw_m5 227 rfl) rfl
theorem q1309 : (Jvm.Cond.soleField "LeapJoinModel" "readWide") ∈ lw_all := lw_g (lw_at lw_m5 228 rfl) rfl
theorem q1310 : (Jvm.Cond.laysFinal "LeapJoinModel" "LeapJoinModel" "readLetters" "[I") ∈ lw_all := lw_g (lw_at lw_m5 229 rfl) rfl
theorem q1311 : (Jvm.Cond.soleField "LeapJoinModel" "readLetters") ∈ lw_all := lw_g (lw_at lw_m5 230 rfl) rfl
theorem q1312 : (Jvm.Cond.laysFinal "LeapJoinModel" "LeapJoinModel" "readMany" "[I") ∈ lw_all := lw_g (lw_at lw_m5 231 rfl) rfl
theorem q1313 : (Jvm.Cond.soleField "LeapJoinModel" "readMany") ∈ lw_all := lw_g (lw_at lw_m5 232 rfl) rfl
theorem q1314 : (Jvm.Cond.laysFinal "LeapJoinModel" "LeapJoinModel" "readRows" "[I") ∈ lw_all := lw_g (lw_at lw_m5 233 rfl) rfl
theorem q1315 : (Jvm.Cond.soleField "LeapJoinModel" "readRows") ∈ lw_all := lw_g (lw_at lw_m5 234 rfl) rfl
theorem q1316 : (Jvm.Cond.lays "LeapJoinModel" "LeapJoinModel" "readTables" "I") ∈ lw_all := lw_g (lw_at lw_m5 235 rfl) rfl
theorem q1317 : (Jvm.Cond.soleField "LeapJoinModel" "readTables") ∈ lw_all := lw_g (lw_at lw_m5 236 rfl) rfl
theorem q1318 : (Jvm.Cond.laysFinal "LeapJoinModel" "LeapJoinModel" "script" "[I") ∈ lw_all := lw_g (lw_at lw_m5 237 rfl) rfl
theorem q1319 : (Jvm.Cond.soleField "LeapJoinModel" "script") ∈ lw_all := lw_g (lw_at lw_m5 238 rfl) rfl
theorem q1320 : (Jvm.Cond.laysFinal "LeapJoinModel" "LeapJoinModel" "scriptLong" "[I") ∈ lw_all := lw_g (lw_at lw_m5 239 rfl) rfl
theorem q1321 : (Jvm.Cond.soleField "LeapJoinModel" "scriptLong") ∈ lw_all := lw_g (lw_at lw_m6 0 rfl) rfl
theorem q1322 : (Jvm.Cond.lays "LeapJoinModel" "LeapJoinModel" "scripts" "I") ∈ lw_all := lw_g (lw_at lw_m6 1 rfl) rfl
theorem q1323 : (Jvm.Cond.soleField "LeapJoinModel" "scripts") ∈ lw_all := lw_g (lw_at lw_m6 2 rfl) rfl
theorem q1324 : (Jvm.Cond.laysFinal "LeapJoinModel" "LeapJoinModel" "now" "[I") ∈ lw_all := lw_g (lw_at lw_m6 3 rfl) rfl
theorem q1325 : (Jvm.Cond.soleField "LeapJoinModel" "now") ∈ lw_all := lw_g (lw_at lw_m6 4 rfl) rfl
theorem q1326 : (Jvm.Cond.laysFinal "LeapJoinModel" "LeapJoinModel" "refused" "[I") ∈ lw_all := lw_g (lw_at lw_m6 5 rfl) rfl
theorem q1327 : (Jvm.Cond.soleField "LeapJoinModel" "refused") ∈ lw_all := lw_g (lw_at lw_m6 6 rfl) rfl
theorem q1328 : (Jvm.Cond.laysFinal "LeapJoinModel" "LeapJoinModel" "wide" "[I") ∈ lw_all := lw_g (lw_at lw_m6 7 rfl) rfl
theorem q1329 : (Jvm.Cond.soleField "LeapJoinModel" "wide") ∈ lw_all := lw_g (lw_at lw_m6 8 rfl) rfl
theorem q1330 : (Jvm.Cond.laysFinal "LeapJoinModel" "LeapJoinModel" "letters" "[I") ∈ lw_all := lw_g (lw_at lw_m6 9 rfl) rfl
theorem q1331 : (Jvm.Cond.soleField "LeapJoinModel" "letters") ∈ lw_all := lw_g (lw_at lw_m6 10 rfl) rfl
theorem q1332 : (Jvm.Cond.lays "LeapJoinModel" "LeapJoinModel" "tables" "I") ∈ lw_all := lw_g (lw_at lw_m6 11 rfl) rfl
theorem q1333 : (Jvm.Cond.soleField "LeapJoinModel" "tables") ∈ lw_all := lw_g (lw_at lw_m6 12 rfl) rfl
theorem q1334 : (Jvm.Cond.laysFinal "LeapJoinModel" "LeapJoinModel" "inOrder" "[I") ∈ lw_all := lw_g (lw_at lw_m6 13 rfl) rfl
theorem q1335 : (Jvm.Cond.soleField "LeapJoinModel" "inOrder") ∈ lw_all := lw_g (lw_at lw_m6 14 rfl) rfl
theorem q1336 : (Jvm.Cond.lays "LeapJoinModel" "LeapJoinModel" "depthMany" "I") ∈ lw_all := lw_g (lw_at lw_m6 15 rfl) rfl
theorem q1337 : (Jvm.Cond.soleField "LeapJoinModel" "depthMany") ∈ lw_all := lw_g (lw_at lw_m6 16 rfl) rfl
theorem q1338 : (Jvm.Cond.laysFinal "LeapJoinModel" "LeapJoinModel" "found" "[I") ∈ lw_all := lw_g (lw_at lw_m6 17 rfl) rfl
theorem q1339 : (Jvm.Cond.soleField "LeapJoinModel" "found") ∈ lw_all := lw_g (lw_at lw_m6 18 rfl) rfl
theorem q1340 : (Jvm.Cond.laysFinal "LeapJoinModel" "LeapJoinModel" "keys" "[I") ∈ lw_all := lw_g (lw_at lw_m6 19 rfl) rfl
theorem q1341 : (Jvm.Cond.soleField "LeapJoinModel" "keys") ∈ lw_all := lw_g (lw_at lw_m6 20 rfl) rfl
theorem q1342 : (Jvm.Cond.laysFinal "LeapJoinModel" "LeapJoinModel" "keyMany" "[I") ∈ lw_all := lw_g (lw_at lw_m6 21 rfl) rfl
theorem q1343 : (Jvm.Cond.soleField "LeapJoinModel" "keyMany") ∈ lw_all := lw_g (lw_at lw_m6 22 rfl) rfl
theorem q1344 : (Jvm.Cond.laysFinal "LeapJoinModel" "LeapJoinModel" "stand" "[I") ∈ lw_all := lw_g (lw_at lw_m6 23 rfl) rfl
theorem q1345 : (Jvm.Cond.soleField "LeapJoinModel" "stand") ∈ lw_all := lw_g (lw_at lw_m6 24 rfl) rfl
theorem q1346 : (Jvm.Cond.laysFinal "LeapJoinModel" "LeapJoinModel" "begun" "[I") ∈ lw_all := lw_g (lw_at lw_m6 25 rfl) rfl
theorem q1347 : (Jvm.Cond.soleField "LeapJoinModel" "begun") ∈ lw_all := lw_g (lw_at lw_m6 26 rfl) rfl
theorem q1348 : (Jvm.Cond.laysFinal "LeapJoinModel" "LeapJoinModel" "joined" "[I") ∈ lw_all := lw_g (lw_at lw_m6 27 rfl) rfl
theorem q1349 : (Jvm.Cond.soleField "LeapJoinModel" "joined") ∈ lw_all := lw_g (lw_at lw_m6 28 rfl) rfl
theorem q1350 : (Jvm.Cond.lays "LeapJoinModel" "LeapJoinModel" "joinMany" "I") ∈ lw_all := lw_g (lw_at lw_m6 29 rfl) rfl
theorem q1351 : (Jvm.Cond.soleField "LeapJoinModel" "joinMany") ∈ lw_all := lw_g (lw_at lw_m6 30 rfl) rfl
theorem q1352 : (Jvm.Cond.lays "LeapJoinModel" "LeapJoinModel" "leapMany" "I") ∈ lw_all := lw_g (lw_at lw_m6 31 rfl) rfl
theorem q1353 : (Jvm.Cond.soleField "LeapJoinModel" "leapMany") ∈ lw_all := lw_g (lw_at lw_m6 32 rfl) rfl
theorem q1354 : (Jvm.Cond.laysFinal "LeapJoinModel" "LeapJoinModel" "kept" "[I") ∈ lw_all := lw_g (lw_at lw_m6 33 rfl) rfl
theorem q1355 : (Jvm.Cond.soleField "LeapJoinModel" "kept") ∈ lw_all := lw_g (lw_at lw_m6 34 rfl) rfl
theorem q1356 : (Jvm.Cond.lays "LeapJoinModel" "LeapJoinModel" "acts" "I") ∈ lw_all := lw_g (lw_at lw_m6 35 rfl) rfl
theorem q1357 : (Jvm.Cond.soleField "LeapJoinModel" "acts") ∈ lw_all := lw_g (lw_at lw_m6 36 rfl) rfl
theorem q1358 : (Jvm.Cond.lays "LeapJoinModel" "LeapJoinModel" "drawn" "J") ∈ lw_all := lw_g (lw_at lw_m6 37 rfl) rfl
theorem q1359 : (Jvm.Cond.soleField "LeapJoinModel" "drawn") ∈ lw_all := lw_g (lw_at lw_m6 38 rfl) rfl
theorem q1360 : (Jvm.Cond.lays "LeapJoinModel" "LeapJoinModel" "bestOrder" "I") ∈ lw_all := lw_g (lw_at lw_m6 39 rfl) rfl
theorem q1361 : (Jvm.Cond.soleField "LeapJoinModel" "bestOrder") ∈ lw_all := lw_g (lw_at lw_m6 40 rfl) rfl
theorem q1362 : (Jvm.Cond.lays "LeapJoinModel" "LeapJoinModel" "fewestLeaps" "I") ∈ lw_all := lw_g (lw_at lw_m6 41 rfl) rfl
theorem q1363 : (Jvm.Cond.soleField "LeapJoinModel" "fewestLeaps") ∈ lw_all := lw_g (lw_at lw_m6 42 rfl) rfl
theorem q1364 : (Jvm.Cond.lays "LeapJoinModel" "LeapJoinModel" "mostLeaps" "I") ∈ lw_all := lw_g (lw_at lw_m6 43 rfl) rfl
theorem q1365 : (Jvm.Cond.soleField "LeapJoinModel" "mostLeaps") ∈ lw_all := lw_g (lw_at lw_m6 44 rfl) rfl
theorem q1366 : (Jvm.Cond.laysFinal "LeapJoinModel" "LeapJoinModel" "timesOf" "[I") ∈ lw_all := lw_g (lw_at lw_m6 45 rfl) rfl
theorem q1367 : (Jvm.Cond.soleField "LeapJoinModel" "timesOf") ∈ lw_all := lw_g (lw_at lw_m6 46 rfl) rfl
theorem q1368 : (Jvm.Cond.laysFinal "LeapJoinModel" "LeapJoinModel" "rankOf" "[I") ∈ lw_all := lw_g (lw_at lw_m6 47 rfl) rfl
theorem q1369 : (Jvm.Cond.soleField "LeapJoinModel" "rankOf") ∈ lw_all := lw_g (lw_at lw_m6 48 rfl) rfl
theorem q1370 : (Jvm.Cond.laysFinal "LeapJoinModel" "LeapJoinModel" "unlikeOf" "[I") ∈ lw_all := lw_g (lw_at lw_m6 49 rfl) rfl
theorem q1371 : (Jvm.Cond.soleField "LeapJoinModel" "unlikeOf") ∈ lw_all := lw_g (lw_at lw_m6 50 rfl) rfl
theorem q1372 : (Jvm.Cond.laysFinal "LeapJoinModel" "LeapJoinModel" "isMet" "[Z") ∈ lw_all := lw_g (lw_at lw_m6 51 rfl) rfl
theorem q1373 : (Jvm.Cond.soleField "LeapJoinModel" "isMet") ∈ lw_all := lw_g (lw_at lw_m6 52 rfl) rfl
theorem q1374 : (Jvm.Cond.laysFinal "LeapJoinModel" "LeapJoinModel" "toldBy" "[I") ∈ lw_all := lw_g (lw_at lw_m6 53 rfl) rfl
theorem q1375 : (Jvm.Cond.soleField "LeapJoinModel" "toldBy") ∈ lw_all := lw_g (lw_at lw_m6 54 rfl) rfl
theorem q1376 : (Jvm.Cond.laysFinal "LeapJoinModel" "LeapJoinModel" "given4" "[I") ∈ lw_all := lw_g (lw_at lw_m6 55 rfl) rfl
theorem q1377 : (Jvm.Cond.soleField "LeapJoinModel" "given4") ∈ lw_all := lw_g (lw_at lw_m6 56 rfl) rfl
theorem q1378 : (Jvm.Cond.laysFinal "LeapJoinModel" "LeapJoinModel" "aside" "[I") ∈ lw_all := lw_g (lw_at lw_m6 57 rfl) rfl
theorem q1379 : (Jvm.Cond.soleField "LeapJoinModel" "aside") ∈ lw_all := lw_g (lw_at lw_m6 58 rfl) rfl
theorem q1380 : (Jvm.Cond.laysFinal "LeapJoinModel" "LeapJoinModel" "image" "[I") ∈ lw_all := lw_g (lw_at lw_m6 59 rfl) rfl
theorem q1381 : (Jvm.Cond.soleField "LeapJoinModel" "image") ∈ lw_all := lw_g (lw_at lw_m6 60 rfl) rfl
theorem q1382 : (Jvm.Cond.lays "LeapJoinModel" "LeapJoinModel" "hasImage" "Z") ∈ lw_all := lw_g (lw_at lw_m6 61 rfl) rfl
theorem q1383 : (Jvm.Cond.soleField "LeapJoinModel" "hasImage") ∈ lw_all := lw_g (lw_at lw_m6 62 rfl) rfl
theorem q1384 : (Jvm.Cond.superclass "LeapJoinModel" "java/lang/Object") ∈ lw_all := lw_g (lw_at lw_m6 63 rfl) rfl
theorem q1387 : (Jvm.Cond.instanceMethod ({ cls := "LeapJoinModel", name := "thrown", desc := "()I" } : Jvm.MethodName)) ∈ lw_all := lw_g (lw_at lw_m6 66 rfl) rfl
theorem q1388 : (Jvm.Cond.selects "LeapJoinModel" ({ cls := "LeapJoinModel", name := "thrown", desc := "()I" } : Jvm.MethodName) ({ cls := "LeapJoinModel", name := "thrown", desc := "()I" } : Jvm.MethodName)) ∈ lw_all := lw_g (lw_at lw_m6 67 rfl) rfl
theorem q1389 : (Jvm.Cond.code ({ cls := "LeapJoinModel", name := "thrown", desc := "()I" } : Jvm.MethodName) prog_13_method_5_code (1 : Nat) (Option.some Jvm.ClassFile.FieldType.int)) ∈ lw_all := lw_g (lw_at lw_m6 68 rfl) rfl
theorem q1391 : (Jvm.Cond.instanceMethod ({ cls := "LeapJoinModel", name := "feed", desc := "(IIIII)I" } : Jvm.MethodName)) ∈ lw_all := lw_g (lw_at lw_m6 70 rfl) rfl
theorem q1392 : (Jvm.Cond.selects "LeapJoinModel" ({ cls := "LeapJoinModel", name := "feed", desc := "(IIIII)I" } : Jvm.MethodName) ({ cls := "LeapJoinModel", name := "feed", desc := "(IIIII)I" } : Jvm.MethodName)) ∈ lw_all := lw_g (lw_at lw_m6 71 rfl) rfl
theorem q1393 : (Jvm.Cond.code ({ cls := "LeapJoinModel", name := "feed", desc := "(IIIII)I" } : Jvm.MethodName) prog_13_method_7_code (9 : Nat) (Option.some Jvm.ClassFile.FieldType.int)) ∈ lw_all := lw_g (lw_at lw_m6 72 rfl) rfl
theorem q1394 : (Jvm.Cond.methodLink "LeapJoinModel" (97 : Nat) ({ cls := "LeapJoinModel", name := "byteOf", desc := "(IIIIII)I" } : Jvm.MethodName)) ∈ lw_all := lw_g (lw_at lw_m6 73 rfl) rfl
theorem q1395 : (Jvm.Cond.static ({ cls := "LeapJoinModel", name := "byteOf", desc := "(IIIIII)I" } : Jvm.MethodName)) ∈ lw_all := lw_g (lw_at lw_m6 74 rfl) rfl
theorem q1396 : (Jvm.Cond.code ({ cls := "LeapJoinModel", name := "byteOf", desc := "(IIIIII)I" } : Jvm.MethodName) prog_13_method_6_code (7 : Nat) (Option.some Jvm.ClassFile.FieldType.int)) ∈ lw_all := lw_g (lw_at lw_m6 75 rfl) rfl
theorem q1398 : (Jvm.Cond.instanceMethod ({ cls := "LeapJoinModel", name := "end", desc := "(I)Z" } : Jvm.MethodName)) ∈ lw_all := lw_g (lw_at lw_m6 77 rfl) rfl
theorem q1399 : (Jvm.Cond.selects "LeapJoinModel" ({ cls := "LeapJoinModel", name := "end", desc := "(I)Z" } : Jvm.MethodName) ({ cls := "LeapJoinModel", name := "end", desc := "(I)Z" } : Jvm.MethodName)) ∈ lw_all := lw_g (lw_at lw_m6 78 rfl) rfl
theorem q1400 : (Jvm.Cond.code ({ cls := "LeapJoinModel", name := "end", desc := "(I)Z" } : Jvm.MethodName) prog_13_method_8_code (2 : Nat) (Option.some Jvm.ClassFile.FieldType.boolean)) ∈ lw_all := lw_g (lw_at lw_m6 79 rfl) rfl
theorem q1401 : (Jvm.Cond.methodLink "LeapJoinModel" (104 : Nat) ({ cls := "LeapJoinModel", name := "in", desc := "(III)Z" } : Jvm.MethodName)) ∈ lw_all := lw_g (lw_at lw_m6 80 rfl) rfl
theorem q1402 : (Jvm.Cond.static ({ cls := "LeapJoinModel", name := "in", desc := "(III)Z" } : Jvm.MethodName)) ∈ lw_all := lw_g (lw_at lw_m6 81 rfl) rfl
theorem q1403 : (Jvm.Cond.code ({ cls := "LeapJoinModel", name := "in", desc := "(III)Z" } : Jvm.MethodName) prog_13_method_1_code (3 : Nat) (Option.some Jvm.ClassFile.FieldType.boolean)) ∈ lw_all := lw_g (lw_at lw_m6 82 rfl) rfl
theorem q1405 : (Jvm.Cond.instanceMethod ({ cls := "LeapJoinModel", name := "fault", desc := "(I)I" } : Jvm.MethodName)) ∈ lw_all := lw_g (lw_at lw_m6 84 rfl) rfl
theorem q1406 : (Jvm.Cond.selects "LeapJoinModel" ({ cls := "LeapJoinModel", name := "fault", desc := "(I)I" } : Jvm.MethodName) ({ cls := "LeapJoinModel", name := "fault", desc := "(I)I" } : Jvm.MethodName)) ∈ lw_all := lw_g (lw_at lw_m6 85 rfl) rfl
theorem q1407 : (Jvm.Cond.code ({ cls := "LeapJoinModel", name := "fault", desc := "(I)I" } : Jvm.MethodName) prog_13_method_25_code (2 : Nat) (Option.some Jvm.ClassFile.FieldType.int)) ∈ lw_all := lw_g (lw_at lw_m6 86 rfl) rfl
theorem q1408 : (Jvm.Cond.methodLink "LeapJoinModel" (167 : Nat) ({ cls := "LeapJoinModel", name := "readAll", desc := "()I" } : Jvm.MethodName)) ∈ lw_all := lw_g (lw_at lw_m6 87 rfl) rfl
theorem q1409 : (Jvm.Cond.privateMethod ({ cls := "LeapJoinModel", name := "readAll", desc := "()I" } : Jvm.MethodName)) ∈ lw_tbl := lw_at lw_m6 88 rfl
theorem q1410 : (Jvm.Cond.instanceMethod ({ cls := "LeapJoinModel", name := "readAll", desc := "()I" } : Jvm.MethodName)) ∈ lw_all := lw_g (lw_at lw_m6 89 rfl) rfl
theorem q1411 : (Jvm.Cond.code ({ cls := "LeapJoinModel", name := "readAll", desc := "()I" } : Jvm.MethodName) prog_13_method_22_code (2 : Nat) (Option.some Jvm.ClassFile.FieldType.int)) ∈ lw_all := lw_g (lw_at lw_m6 90 rfl) rfl
theorem q1412 : (Jvm.Cond.methodLink "LeapJoinModel" (149 : Nat) ({ cls := "LeapJoinModel", name := "begins", desc := "()V" } : Jvm.MethodName)) ∈ lw_all := lw_g (lw_at lw_m6 91 rfl) rfl
theorem q1413 : (Jvm.Cond.privateMethod ({ cls := "LeapJoinModel", name := "begins", desc := "()V" } : Jvm.MethodName)) ∈ lw_tbl := lw_at lw_m6 92 rfl
theorem q1414 : (Jvm.Cond.instanceMethod ({ cls := "LeapJoinModel", name := "begins", desc := "()V" } : Jvm.MethodName)) ∈ lw_all := lw_g (lw_at lw_m6 93 rfl) rfl
theorem q1415 : (Jvm.Cond.code ({ cls := "LeapJoinModel", name := "begins", desc := "()V" } : Jvm.MethodName) prog_13_method_21_code (1 : Nat) (Option.none : Option Jvm.ClassFile.FieldType)) ∈ lw_all := lw_g (lw_at lw_m6 94 rfl) rfl
theorem q1416 : (Jvm.Cond.methodLink "LeapJoinModel" (155 : Nat) ({ cls := "LeapJoinModel", name := "readTable", desc := "(I)V" } : Jvm.MethodName)) ∈ lw_all := lw_g (lw_at lw_m6 95 rfl) rfl
theorem q1417 : (Jvm.Cond.privateMethod ({ cls := "LeapJoinModel", name := "readTable", desc := "(I)V" } : Jvm.MethodName)) ∈ lw_tbl := lw_at lw_m6 96 rfl
theorem q1418 : (Jvm.Cond.instanceMethod ({ cls := "LeapJoinModel", name := "readTable", desc := "(I)V" } : Jvm.MethodName)) ∈ lw_all := lw_g (lw_at lw_m6 97 rfl) rfl
theorem q1419 : (Jvm.Cond.code ({ cls := "LeapJoinModel", name := "readTable", desc := "(I)V" } : Jvm.MethodName) prog_13_method_19_code (3 : Nat) (Option.none : Option Jvm.ClassFile.FieldType)) ∈ lw_all := lw_g (lw_at lw_m6 98 rfl) rfl
theorem q1420 : (Jvm.Cond.methodLink "LeapJoinModel" (143 : Nat) ({ cls := "LeapJoinModel", name := "readHead", desc := "(I)V" } : Jvm.MethodName)) ∈ lw_all := lw_g (lw_at lw_m6 99 rfl) rfl
theorem q1421 : (Jvm.Cond.privateMethod ({ cls := "LeapJoinModel", name := "readHead", desc := "(I)V" } : Jvm.MethodName)) ∈ lw_tbl := lw_at lw_m6 100 rfl
theorem q1422 : (Jvm.Cond.instanceMethod ({ cls := "LeapJoinModel", name := "readHead", desc := "(I)V" } : Jvm.MethodName)) ∈ lw_all := lw_g (lw_at lw_m6 101 rfl) rfl
theorem q1423 : (Jvm.Cond.code ({ cls := "LeapJoinModel", name := "readHead", desc := "(I)V" } : Jvm.MethodName) prog_13_method_17_code (4 : Nat) (Option.none : Option Jvm.ClassFile.FieldType)) ∈ lw_all := lw_g (lw_at lw_m6 102 rfl) rfl
theorem q1424 : (Jvm.Cond.methodLink "LeapJoinModel" (118 : Nat) ({ cls := "LeapJoinModel", name := "ahead", desc := "()I" } : Jvm.MethodName)) ∈ lw_all := lw_g (lw_at lw_m6 103 rfl) rfl
theorem q1425 : (Jvm.Cond.privateMethod ({ cls := "LeapJoinModel", name := "ahead", desc := "()I" } : Jvm.MethodName)) ∈ lw_tbl := lw_at lw_m6 104 rfl
theorem q1426 : (Jvm.Cond.instanceMethod ({ cls := "LeapJoinModel", name := "ahead", desc := "()I" } : Jvm.MethodName)) ∈ lw_all := lw_g (lw_at lw_m6 105 rfl) rfl
theorem q1427 : (Jvm.Cond.code ({ cls := "LeapJoinModel", name := "ahead", desc := "()I" } : Jvm.MethodName) prog_13_method_10_code (1 : Nat) (Option.some Jvm.ClassFile.FieldType.int)) ∈ lw_all := lw_g (lw_at lw_m6 106 rfl) rfl
theorem q1428 : (Jvm.Cond.methodLink "LeapJoinModel" (111 : Nat) ({ cls := "LeapJoinModel", name := "here", desc := "()I" } : Jvm.MethodName)) ∈ lw_all := lw_g (lw_at lw_m6 107 rfl) rfl
theorem q1429 : (Jvm.Cond.privateMethod ({ cls := "LeapJoinModel", name := "here", desc := "()I" } : Jvm.MethodName)) ∈ lw_tbl := lw_at lw_m6 108 rfl
theorem q1430 : (Jvm.Cond.instanceMethod ({ cls := "LeapJoinModel", name := "here", desc := "()I" } : Jvm.MethodName)) ∈ lw_all := lw_g (lw_at lw_m6 109 rfl) rfl
theorem q1431 : (Jvm.Cond.code ({ cls := "LeapJoinModel", name := "here", desc := "()I" } : Jvm.MethodName) prog_13_method_9_code (1 : Nat) (Option.some Jvm.ClassFile.FieldType.int)) ∈ lw_all := lw_g (lw_at lw_m6 110 rfl) rfl
theorem q1432 : (Jvm.Cond.methodLink "LeapJoinModel" (128 : Nat) ({ cls := "LeapJoinModel", name := "isLetter", desc := "(I)Z" } : Jvm.MethodName)) ∈ lw_all := lw_g (lw_at lw_m6 111 rfl) rfl
theorem q1433 : (Jvm.Cond.privateMethod ({ cls := "LeapJoinModel", name := "isLetter", desc := "(I)Z" } : Jvm.MethodName)) ∈ lw_tbl := lw_at lw_m6 112 rfl
theorem q1434 : (Jvm.Cond.instanceMethod ({ cls := "LeapJoinModel", name := "isLetter", desc := "(I)Z" } : Jvm.MethodName)) ∈ lw_all := lw_g (lw_at lw_m6 113 rfl) rfl
theorem q1435 : (Jvm.Cond.code ({ cls := "LeapJoinModel", name := "isLetter", desc := "(I)Z" } : Jvm.MethodName) prog_13_method_16_code (2 : Nat) (Option.some Jvm.ClassFile.FieldType.boolean)) ∈ lw_all := lw_g (lw_at lw_m6 114 rfl) rfl
theorem q1436 : (Jvm.Cond.methodLink "LeapJoinModel" (121 : Nat) ({ cls := "LeapJoinModel", name := "bad", desc := "()V" } : Jvm.MethodName)) ∈ lw_all := lw_g (lw_at lw_m6 115 rfl) rfl
theorem q1437 : (Jvm.Cond.privateMethod ({ cls := "LeapJoinModel", name := "bad", desc := "()V" } : Jvm.MethodName)) ∈ lw_tbl := lw_at lw_m6 116 rfl
theorem q1438 : (Jvm.Cond.instanceMethod ({ cls := "LeapJoinModel", name := "bad", desc := "()V" } : Jvm.MethodName)) ∈ lw_all := lw_g (lw_at lw_m6 117 rfl) rfl
theorem q1439 : (Jvm.Cond.code ({ cls := "LeapJoinModel", name := "bad", desc := "()V" } : Jvm.MethodName) prog_13_method_11_code (1 : Nat) (Option.none : Option Jvm.ClassFile.FieldType)) ∈ lw_all := lw_g (lw_at lw_m6 118 rfl) rfl
theorem q1440 : (Jvm.Cond.methodLink "LeapJoinModel" (131 : Nat) ({ cls := "LeapJoinModel", name := "has", desc := "(II)Z" } : Jvm.MethodName)) ∈ lw_all := lw_g (lw_at lw_m6 119 rfl) rfl
theorem q1441 : (Jvm.Cond.static ({ cls := "LeapJoinModel", name := "has", desc := "(II)Z" } : Jvm.MethodName)) ∈ lw_all := lw_g (lw_at lw_m6 120 rfl) rfl
theorem q1442 : (Jvm.Cond.code ({ cls := "LeapJoinModel", name := "has", desc := "(II)Z" } : Jvm.MethodName) prog_13_method_2_code (2 : Nat) (Option.some Jvm.ClassFile.FieldType.boolean)) ∈ lw_all := lw_g (lw_at lw_m6 121 rfl) rfl
theorem q1443 : (Jvm.Cond.methodLink "LeapJoinModel" (135 : Nat) ({ cls := "LeapJoinModel", name := "must", desc := "(I)V" } : Jvm.MethodName)) ∈ lw_all := lw_g (lw_at lw_m6 122 rfl) rfl
theorem q1444 : (Jvm.Cond.privateMethod ({ cls := "LeapJoinModel", name := "must", desc := "(I)V" } : Jvm.MethodName)) ∈ lw_tbl := lw_at lw_m6 123 rfl
theorem q1445 : (Jvm.Cond.instanceMethod ({ cls := "LeapJoinModel", name := "must", desc := "(I)V" } : Jvm.MethodName)) ∈ lw_all := lw_g (lw_at lw_m6 124 rfl) rfl
theorem q1446 : (Jvm.Cond.code ({ cls := "LeapJoinModel", name := "must", desc := "(I)V" } : Jvm.MethodName) prog_13_method_12_code (2 : Nat) (Option.none : Option Jvm.ClassFile.FieldType)) ∈ lw_all := lw_g (lw_at lw_m6 125 rfl) rfl
theorem q1447 : (Jvm.Cond.methodLink "LeapJoinModel" (124 : Nat) ({ cls := "LeapJoinModel", name := "isDigit", desc := "(I)Z" } : Jvm.MethodName)) ∈ lw_all := lw_g (lw_at lw_m6 126 rfl) rfl
theorem q1448 : (Jvm.Cond.static ({ cls := "LeapJoinModel", name := "isDigit", desc := "(I)Z" } : Jvm.MethodName)) ∈ lw_all := lw_g (lw_at lw_m6 127 rfl) rfl
theorem q1449 : (Jvm.Cond.code ({ cls := "LeapJoinModel", name := "isDigit", desc := "(I)Z" } : Jvm.MethodName) prog_13_method_13_code (1 : Nat) (Option.some Jvm.ClassFile.FieldType.boolean)) ∈ lw_all := lw_g (lw_at lw_m6 128 rfl) rfl
theorem q1450 : (Jvm.Cond.methodLink "LeapJoinModel" (146 : Nat) ({ cls := "LeapJoinModel", name := "readRow", desc := "(I)V" } : Jvm.MethodName)) ∈ lw_all := lw_g (lw_at lw_m6 129 rfl) rfl
theorem q1451 : (Jvm.Cond.privateMethod ({ cls := "LeapJoinModel", name := "readRow", desc := "(I)V" } : Jvm.MethodName)) ∈ lw_tbl := lw_at lw_m6 130 rfl
theorem q1452 : (Jvm.Cond.instanceMethod ({ cls := "LeapJoinModel", name := "readRow", desc := "(I)V" } : Jvm.MethodName)) ∈ lw_all := lw_g (lw_at lw_m6 131 rfl) rfl
theorem q1453 : (Jvm.Cond.code ({ cls := "LeapJoinModel", name := "readRow", desc := "(I)V" } : Jvm.MethodName) prog_13_method_18_code (4 : Nat) (Option.none : Option Jvm.ClassFile.FieldType)) ∈ lw_all := lw_g (lw_at lw_m6 132 rfl) rfl
theorem q1454 : (Jvm.Cond.methodLink "LeapJoinModel" (139 : Nat) ({ cls := "LeapJoinModel", name := "number", desc := "(I)I" } : Jvm.MethodName)) ∈ lw_all := lw_g (lw_at lw_m6 133 rfl) rfl
theorem q1455 : (Jvm.Cond.privateMethod ({ cls := "LeapJoinModel", name := "number", desc := "(I)I" } : Jvm.MethodName)) ∈ lw_tbl := lw_at lw_m6 134 rfl
theorem q1456 : (Jvm.Cond.instanceMethod ({ cls := "LeapJoinModel", name := "number", desc := "(I)I" } : Jvm.MethodName)) ∈ lw_all := lw_g (lw_at lw_m6 135 rfl) rfl
theorem q1457 : (Jvm.Cond.code ({ cls := "LeapJoinModel", name := "number", desc := "(I)I" } : Jvm.MethodName) prog_13_method_14_code (4 : Nat) (Option.some Jvm.ClassFile.FieldType.int)) ∈ lw_all := lw_g (lw_at lw_m6 136 rfl) rfl
theorem q1458 : (Jvm.Cond.methodLink "LeapJoinModel" (158 : Nat) ({ cls := "LeapJoinModel", name := "ends", desc := "()I" } : Jvm.MethodName)) ∈ lw_all := lw_g (lw_at lw_m6 137 rfl) rfl
theorem q1459 : (Jvm.Cond.privateMethod ({ cls := "LeapJoinModel", name := "ends", desc := "()I" } : Jvm.MethodName)) ∈ lw_tbl := lw_at lw_m6 138 rfl
theorem q1460 : (Jvm.Cond.instanceMethod ({ cls := "LeapJoinModel", name := "ends", desc := "()I" } : Jvm.MethodName)) ∈ lw_all := lw_g (lw_at lw_m6 139 rfl) rfl
theorem q1461 : (Jvm.Cond.code ({ cls := "LeapJoinModel", name := "ends", desc := "()I" } : Jvm.MethodName) prog_13_method_20_code (1 : Nat) (Option.some Jvm.ClassFile.FieldType.int)) ∈ lw_all := lw_g (lw_at lw_m6 140 rfl) rfl
theorem q1462 : (Jvm.Cond.methodLink "LeapJoinModel" (170 : Nat) ({ cls := "LeapJoinModel", name := "readScript", desc := "(I)I" } : Jvm.MethodName)) ∈ lw_all := lw_g (lw_at lw_m6 141 rfl) rfl
theorem q1463 : (Jvm.Cond.privateMethod ({ cls := "LeapJoinModel", name := "readScript", desc := "(I)I" } : Jvm.MethodName)) ∈ lw_tbl := lw_at lw_m6 142 rfl
theorem q1464 : (Jvm.Cond.instanceMethod ({ cls := "LeapJoinModel", name := "readScript", desc := "(I)I" } : Jvm.MethodName)) ∈ lw_all := lw_g (lw_at lw_m6 143 rfl) rfl
theorem q1465 : (Jvm.Cond.code ({ cls := "LeapJoinModel", name := "readScript", desc := "(I)I" } : Jvm.MethodName) prog_13_method_24_code (3 : Nat) (Option.some Jvm.ClassFile.FieldType.int)) ∈ lw_all := lw_g (lw_at lw_m6 144 rfl) rfl
theorem q1466 : (Jvm.Cond.methodLink "LeapJoinModel" (164 : Nat) ({ cls := "LeapJoinModel", name := "readStep", desc := "(I)V" } : Jvm.MethodName)) ∈ lw_all := lw_g (lw_at lw_m6 145 rfl) rfl
theorem q1467 : (Jvm.Cond.privateMethod ({ cls := "LeapJoinModel", name := "readStep", desc := "(I)V" } : Jvm.MethodName)) ∈ lw_tbl := lw_at lw_m6 146 rfl
theorem q1468 : (Jvm.Cond.instanceMethod ({ cls := "LeapJoinModel", name := "readStep", desc := "(I)V" } : Jvm.MethodName)) ∈ lw_all := lw_g (lw_at lw_m6 147 rfl) rfl
theorem q1469 : (Jvm.Cond.code ({ cls := "LeapJoinModel", name := "readStep", desc := "(I)V" } : Jvm.MethodName) prog_13_method_23_code (6 : Nat) (Option.none : Option Jvm.ClassFile.FieldType)) ∈ lw_all := lw_g (lw_at lw_m6 148 rfl) rfl
theorem q1470 : (Jvm.Cond.methodLink "LeapJoinModel" (161 : Nat) ({ cls := "LeapJoinModel", name := "digit", desc := "()I" } : Jvm.MethodName)) ∈ lw_all := lw_g (lw_at lw_m6 149 rfl) rfl
theorem q1471 : (Jvm.Cond.privateMethod ({ cls := "LeapJoinModel", name := "digit", desc := "()I" } : Jvm.MethodName)) ∈ lw_tbl := lw_at lw_m6 150 rfl
theorem q1472 : (Jvm.Cond.instanceMethod ({ cls := "LeapJoinModel", name := "digit", desc := "()I" } : Jvm.MethodName)) ∈ lw_all := lw_g (lw_at lw_m6 151 rfl) rfl
theorem q1473 : (Jvm.Cond.code ({ cls := "LeapJoinModel", name := "digit", desc := "()I" } : Jvm.MethodName) prog_13_method_15_code (1 : Nat) (Option.some Jvm.ClassFile.FieldType.int)) ∈ lw_all := lw_g (lw_at lw_m6 152 rfl) rfl
theorem q1475 : (Jvm.Cond.instanceMethod ({ cls := "LeapJoinModel", name := "text", desc := "(I)I" } : Jvm.MethodName)) ∈ lw_all := lw_g (lw_at lw_m6 154 rfl) rfl
theorem q1476 : (Jvm.Cond.selects "LeapJoinModel" ({ cls := "LeapJoinModel", name := "text", desc := "(I)I" } : Jvm.MethodName) ({ cls := "LeapJoinModel", name := "text", desc := "(I)I" } : Jvm.MethodName)) ∈ lw_all := lw_g (lw_at lw_m6 155 rfl) rfl
theorem q1477 : (Jvm.Cond.code ({ cls := "LeapJoinModel", name := "text", desc := "(I)I" } : Jvm.MethodName) prog_13_method_39_code (2 : Nat) (Option.some Jvm.ClassFile.FieldType.int)) ∈ lw_all := lw_g (lw_at lw_m6 156 rfl) rfl
theorem q1478 : (Jvm.Cond.methodLink "LeapJoinModel" (211 : Nat) ({ cls := "LeapJoinModel", name := "takeTables", desc := "()I" } : Jvm.MethodName)) ∈ lw_all := lw_g (lw_at lw_m6 157 rfl) rfl
theorem q1479 : (Jvm.Cond.privateMethod ({ cls := "LeapJoinModel", name := "takeTables", desc := "()I" } : Jvm.MethodName)) ∈ lw_tbl := lw_at lw_m6 158 rfl
theorem q1480 : (Jvm.Cond.instanceMethod ({ cls := "LeapJoinModel", name := "takeTables", desc := "()I" } : Jvm.MethodName)) ∈ lw_all := lw_g (lw_at lw_m6 159 rfl) rfl
theorem q1481 : (Jvm.Cond.code ({ cls := "LeapJoinModel", name := "takeTables", desc := "()I" } : Jvm.MethodName) prog_13_method_38_code (4 : Nat) (Option.some Jvm.ClassFile.FieldType.int)) ∈ lw_all := lw_g (lw_at lw_m6 160 rfl) rfl
theorem q1482 : (Jvm.Cond.methodLink "LeapJoinModel" (197 : Nat) ({ cls := "LeapJoinModel", name := "hasRow", desc := "(IIII)Z" } : Jvm.MethodName)) ∈ lw_all := lw_g (lw_at lw_m6 161 rfl) rfl
theorem q1483 : (Jvm.Cond.privateMethod ({ cls := "LeapJoinModel", name := "hasRow", desc := "(IIII)Z" } : Jvm.MethodName)) ∈ lw_tbl := lw_at lw_m6 162 rfl
theorem q1484 : (Jvm.Cond.instanceMethod ({ cls := "LeapJoinModel", name := "hasRow", desc := "(IIII)Z" } : Jvm.MethodName)) ∈ lw_all := lw_g (lw_at lw_m6 163 rfl) rfl
theorem q1485 : (Jvm.Cond.code ({ cls := "LeapJoinModel", name := "hasRow", desc := "(IIII)Z" } : Jvm.MethodName) prog_13_method_35_code (6 : Nat) (Option.some Jvm.ClassFile.FieldType.boolean)) ∈ lw_all := lw_g (lw_at lw_m6 164 rfl) rfl
theorem q1486 : (Jvm.Cond.methodLink "LeapJoinModel" (193 : Nat) ({ cls := "LeapJoinModel", name := "countLess", desc := "(IIII)I" } : Jvm.MethodName)) ∈ lw_all := lw_g (lw_at lw_m6 165 rfl) rfl
theorem q1487 : (Jvm.Cond.privateMethod ({ cls := "LeapJoinModel", name := "countLess", desc := "(IIII)I" } : Jvm.MethodName)) ∈ lw_tbl := lw_at lw_m6 166 rfl
theorem q1488 : (Jvm.Cond.instanceMethod ({ cls := "LeapJoinModel", name := "countLess", desc := "(IIII)I" } : Jvm.MethodName)) ∈ lw_all := lw_g (lw_at lw_m6 167 rfl) rfl
theorem q1489 : (Jvm.Cond.code ({ cls := "LeapJoinModel", name := "countLess", desc := "(IIII)I" } : Jvm.MethodName) prog_13_method_34_code (6 : Nat) (Option.some Jvm.ClassFile.FieldType.int)) ∈ lw_all := lw_g (lw_at lw_m6 168 rfl) rfl
theorem q1490 : (Jvm.Cond.methodLink "LeapJoinModel" (186 : Nat) ({ cls := "LeapJoinModel", name := "many", desc := "(I)I" } : Jvm.MethodName)) ∈ lw_all := lw_g (lw_at lw_m6 169 rfl) rfl
theorem q1491 : (Jvm.Cond.privateMethod ({ cls := "LeapJoinModel", name := "many", desc := "(I)I" } : Jvm.MethodName)) ∈ lw_tbl := lw_at lw_m6 170 rfl
theorem q1492 : (Jvm.Cond.instanceMethod ({ cls := "LeapJoinModel", name := "many", desc := "(I)I" } : Jvm.MethodName)) ∈ lw_all := lw_g (lw_at lw_m6 171 rfl) rfl
theorem q1493 : (Jvm.Cond.code ({ cls := "LeapJoinModel", name := "many", desc := "(I)I" } : Jvm.MethodName) prog_13_method_30_code (2 : Nat) (Option.some Jvm.ClassFile.FieldType.int)) ∈ lw_all := lw_g (lw_at lw_m6 172 rfl) rfl
theorem q1494 : (Jvm.Cond.methodLink "LeapJoinModel" (189 : Nat) ({ cls := "LeapJoinModel", name := "compares", desc := "(IIIII)I" } : Jvm.MethodName)) ∈ lw_all := lw_g (lw_at lw_m6 173 rfl) rfl
theorem q1495 : (Jvm.Cond.privateMethod ({ cls := "LeapJoinModel", name := "compares", desc := "(IIIII)I" } : Jvm.MethodName)) ∈ lw_tbl := lw_at lw_m6 174 rfl
theorem q1496 : (Jvm.Cond.instanceMethod ({ cls := "LeapJoinModel", name := "compares", desc := "(IIIII)I" } : Jvm.MethodName)) ∈ lw_all := lw_g (lw_at lw_m6 175 rfl) rfl
theorem q1497 : (Jvm.Cond.code ({ cls := "LeapJoinModel", name := "compares", desc := "(IIIII)I" } : Jvm.MethodName) prog_13_method_33_code (7 : Nat) (Option.some Jvm.ClassFile.FieldType.int)) ∈ lw_all := lw_g (lw_at lw_m6 176 rfl) rfl
theorem q1498 : (Jvm.Cond.methodLink "LeapJoinModel" (182 : Nat) ({ cls := "LeapJoinModel", name := "rowAt", desc := "(II)I" } : Jvm.MethodName)) ∈ lw_all := lw_g (lw_at lw_m6 177 rfl) rfl
theorem q1499 : (Jvm.Cond.static ({ cls := "LeapJoinModel", name := "rowAt", desc := "(II)I" } : Jvm.MethodName)) ∈ lw_all := lw_g (lw_at lw_m6 178 rfl) rfl
theorem q1500 : (Jvm.Cond.code ({ cls := "LeapJoinModel", name := "rowAt", desc := "(II)I" } : Jvm.MethodName) prog_13_method_29_code (2 : Nat) (Option.some Jvm.ClassFile.FieldType.int)) ∈ lw_all := lw_g (lw_at lw_m6 179 rfl) rfl
theorem q1501 : (Jvm.Cond.methodLink "LeapJoinModel" (201 : Nat) ({ cls := "LeapJoinModel", name := "putsNow", desc := "(IIII)I" } : Jvm.MethodName)) ∈ lw_all := lw_g (lw_at lw_m6 180 rfl) rfl
theorem q1502 : (Jvm.Cond.privateMethod ({ cls := "LeapJoinModel", name := "putsNow", desc := "(IIII)I" } : Jvm.MethodName)) ∈ lw_tbl := lw_at lw_m6 181 rfl
theorem q1503 : (Jvm.Cond.instanceMethod ({ cls := "LeapJoinModel", name := "putsNow", desc := "(IIII)I" } : Jvm.MethodName)) ∈ lw_all := lw_g (lw_at lw_m6 182 rfl) rfl
theorem q1504 : (Jvm.Cond.code ({ cls := "LeapJoinModel", name := "putsNow", desc := "(IIII)I" } : Jvm.MethodName) prog_13_method_36_code (7 : Nat) (Option.some Jvm.ClassFile.FieldType.int)) ∈ lw_all := lw_g (lw_at lw_m6 183 rfl) rfl
theorem q1506 : (Jvm.Cond.instanceMethod ({ cls := "LeapJoinModel", name := "put", desc := "(IIII)I" } : Jvm.MethodName)) ∈ lw_all := lw_g (lw_at lw_m6 185 rfl) rfl
theorem q1507 : (Jvm.Cond.selects "LeapJoinModel" ({ cls := "LeapJoinModel", name := "put", desc := "(IIII)I" } : Jvm.MethodName) ({ cls := "LeapJoinModel", name := "put", desc := "(IIII)I" } : Jvm.MethodName)) ∈ lw_all := lw_g (lw_at lw_m6 186 rfl) rfl
theorem q1508 : (Jvm.Cond.code ({ cls := "LeapJoinModel", name := "put", desc := "(IIII)I" } : Jvm.MethodName) prog_13_method_67_code (5 : Nat) (Option.some Jvm.ClassFile.FieldType.int)) ∈ lw_all := lw_g (lw_at lw_m6 187 rfl) rfl
theorem q1509 : (Jvm.Cond.methodLink "LeapJoinModel" (317 : Nat) ({ cls := "LeapJoinModel", name := "hand", desc := "(IIIII)I" } : Jvm.MethodName)) ∈ lw_all := lw_g (lw_at lw_m6 188 rfl) rfl
theorem q1510 : (Jvm.Cond.privateMethod ({ cls := "LeapJoinModel", name := "hand", desc := "(IIIII)I" } : Jvm.MethodName)) ∈ lw_tbl := lw_at lw_m6 189 rfl
theorem q1511 : (Jvm.Cond.instanceMethod ({ cls := "LeapJoinModel", name := "hand", desc := "(IIIII)I" } : Jvm.MethodName)) ∈ lw_all := lw_g (lw_at lw_m6 190 rfl) rfl
theorem q1512 : (Jvm.Cond.code ({ cls := "LeapJoinModel", name := "hand", desc := "(IIIII)I" } : Jvm.MethodName) prog_13_method_66_code (7 : Nat) (Option.some Jvm.ClassFile.FieldType.int)) ∈ lw_all := lw_g (lw_at lw_m6 191 rfl) rfl
theorem q1513 : (Jvm.Cond.methodLink "LeapJoinModel" (311 : Nat) ({ cls := "LeapJoinModel", name := "whyNot", desc := "(IIIII)I" } : Jvm.MethodName)) ∈ lw_all := lw_g (lw_at lw_m6 192 rfl) rfl
theorem q1514 : (Jvm.Cond.privateMethod ({ cls := "LeapJoinModel", name := "whyNot", desc := "(IIIII)I" } : Jvm.MethodName)) ∈ lw_tbl := lw_at lw_m6 193 rfl
theorem q1515 : (Jvm.Cond.instanceMethod ({ cls := "LeapJoinModel", name := "whyNot", desc := "(IIIII)I" } : Jvm.MethodName)) ∈ lw_all := lw_g (lw_at lw_m6 194 rfl) rfl
theorem q1516 : (Jvm.Cond.code ({ cls := "LeapJoinModel", name := "whyNot", desc := "(IIIII)I" } : Jvm.MethodName) prog_13_method_60_code (6 : Nat) (Option.some Jvm.ClassFile.FieldType.int)) ∈ lw_all := lw_g (lw_at lw_m6 195 rfl) rfl
theorem q1517 : (Jvm.Cond.methodLink "LeapJoinModel" (287 : Nat) ({ cls := "LeapJoinModel", name := "whyPut", desc := "(IIII)I" } : Jvm.MethodName)) ∈ lw_all := lw_g (lw_at lw_m6 196 rfl) rfl
theorem q1518 : (Jvm.Cond.privateMethod ({ cls := "LeapJoinModel", name := "whyPut", desc := "(IIII)I" } : Jvm.MethodName)) ∈ lw_tbl := lw_at lw_m6 197 rfl
theorem q1519 : (Jvm.Cond.instanceMethod ({ cls := "LeapJoinModel", name := "whyPut", desc := "(IIII)I" } : Jvm.MethodName)) ∈ lw_all := lw_g (lw_at lw_m6 198 rfl) rfl
theorem q1520 : (Jvm.Cond.code ({ cls := "LeapJoinModel", name := "whyPut", desc := "(IIII)I" } : Jvm.MethodName) prog_13_method_58_code (5 : Nat) (Option.some Jvm.ClassFile.FieldType.int)) ∈ lw_all := lw_g (lw_at lw_m6 199 rfl) rfl
theorem q1521 : (Jvm.Cond.methodLink "LeapJoinModel" (281 : Nat) ({ cls := "LeapJoinModel", name := "isTable", desc := "(I)Z" } : Jvm.MethodName)) ∈ lw_all := lw_g (lw_at lw_m6 200 rfl) rfl
theorem q1522 : (Jvm.Cond.privateMethod ({ cls := "LeapJoinModel", name := "isTable", desc := "(I)Z" } : Jvm.MethodName)) ∈ lw_tbl := lw_at lw_m6 201 rfl
theorem q1523 : (Jvm.Cond.instanceMethod ({ cls := "LeapJoinModel", name := "isTable", desc := "(I)Z" } : Jvm.MethodName)) ∈ lw_all := lw_g (lw_at lw_m6 202 rfl) rfl
theorem q1524 : (Jvm.Cond.code ({ cls := "LeapJoinModel", name := "isTable", desc := "(I)Z" } : Jvm.MethodName) prog_13_method_27_code (2 : Nat) (Option.some Jvm.ClassFile.FieldType.boolean)) ∈ lw_all := lw_g (lw_at lw_m6 203 rfl) rfl
theorem q1525 : (Jvm.Cond.methodLink "LeapJoinModel" (284 : Nat) ({ cls := "LeapJoinModel", name := "isRow", desc := "(IIII)Z" } : Jvm.MethodName)) ∈ lw_all := lw_g (lw_at lw_m6 204 rfl) rfl
theorem q1526 : (Jvm.Cond.privateMethod ({ cls := "LeapJoinModel", name := "isRow", desc := "(IIII)Z" } : Jvm.MethodName)) ∈ lw_tbl := lw_at lw_m6 205 rfl
theorem q1527 : (Jvm.Cond.instanceMethod ({ cls := "LeapJoinModel", name := "isRow", desc := "(IIII)Z" } : Jvm.MethodName)) ∈ lw_all := lw_g (lw_at lw_m6 206 rfl) rfl
theorem q1528 : (Jvm.Cond.code ({ cls := "LeapJoinModel", name := "isRow", desc := "(IIII)Z" } : Jvm.MethodName) prog_13_method_57_code (6 : Nat) (Option.some Jvm.ClassFile.FieldType.boolean)) ∈ lw_all := lw_g (lw_at lw_m6 207 rfl) rfl
theorem q1529 : (Jvm.Cond.methodLink "LeapJoinModel" (290 : Nat) ({ cls := "LeapJoinModel", name := "whyTake", desc := "(IIII)I" } : Jvm.MethodName)) ∈ lw_all := lw_g (lw_at lw_m6 208 rfl) rfl
theorem q1530 : (Jvm.Cond.privateMethod ({ cls := "LeapJoinModel", name := "whyTake", desc := "(IIII)I" } : Jvm.MethodName)) ∈ lw_tbl := lw_at lw_m6 209 rfl
theorem q1531 : (Jvm.Cond.instanceMethod ({ cls := "LeapJoinModel", name := "whyTake", desc := "(IIII)I" } : Jvm.MethodName)) ∈ lw_all := lw_g (lw_at lw_m6 210 rfl) rfl
theorem q1532 : (Jvm.Cond.code ({ cls := "LeapJoinModel", name := "whyTake", desc := "(IIII)I" } : Jvm.MethodName) prog_13_method_59_code (5 : Nat) (Option.some Jvm.ClassFile.FieldType.int)) ∈ lw_all := lw_g (lw_at lw_m6 211 rfl) rfl
theorem q1533 : (Jvm.Cond.methodLink "LeapJoinModel" (277 : Nat) ({ cls := "LeapJoinModel", name := "areTables", desc := "()Z" } : Jvm.MethodName)) ∈ lw_all := lw_g (lw_at lw_m6 212 rfl) rfl
theorem q1534 : (Jvm.Cond.privateMethod ({ cls := "LeapJoinModel", name := "areTables", desc := "()Z" } : Jvm.MethodName)) ∈ lw_tbl := lw_at lw_m6 213 rfl
theorem q1535 : (Jvm.Cond.instanceMethod ({ cls := "LeapJoinModel", name := "areTables", desc := "()Z" } : Jvm.MethodName)) ∈ lw_all := lw_g (lw_at lw_m6 214 rfl) rfl
theorem q1536 : (Jvm.Cond.code ({ cls := "LeapJoinModel", name := "areTables", desc := "()Z" } : Jvm.MethodName) prog_13_method_26_code (1 : Nat) (Option.some Jvm.ClassFile.FieldType.boolean)) ∈ lw_all := lw_g (lw_at lw_m6 215 rfl) rfl
theorem q1537 : (Jvm.Cond.methodLink "LeapJoinModel" (314 : Nat) ({ cls := "LeapJoinModel", name := "act", desc := "(IIIII)I" } : Jvm.MethodName)) ∈ lw_all := lw_g (lw_at lw_m6 216 rfl) rfl
theorem q1538 : (Jvm.Cond.privateMethod ({ cls := "LeapJoinModel", name := "act", desc := "(IIIII)I" } : Jvm.MethodName)) ∈ lw_tbl := lw_at lw_m6 217 rfl
theorem q1539 : (Jvm.Cond.instanceMethod ({ cls := "LeapJoinModel", name := "act", desc := "(IIIII)I" } : Jvm.MethodName)) ∈ lw_all := lw_g (lw_at lw_m6 218 rfl) rfl
theorem q1540 : (Jvm.Cond.code ({ cls := "LeapJoinModel", name := "act", desc := "(IIIII)I" } : Jvm.MethodName) prog_13_method_65_code (7 : Nat) (Option.some Jvm.ClassFile.FieldType.int)) ∈ lw_all := lw_g (lw_at lw_m6 219 rfl) rfl
theorem q1541 : (Jvm.Cond.methodLink "LeapJoinModel" (302 : Nat) ({ cls := "LeapJoinModel", name := "keep", desc := "()V" } : Jvm.MethodName)) ∈ lw_all := lw_g (lw_at lw_m6 220 rfl) rfl
theorem q1542 : (Jvm.Cond.privateMethod ({ cls := "LeapJoinModel", name := "keep", desc := "()V" } : Jvm.MethodName)) ∈ lw_tbl := lw_at lw_m6 221 rfl
theorem q1543 : (Jvm.Cond.instanceMethod ({ cls := "LeapJoinModel", name := "keep", desc := "()V" } : Jvm.MethodName)) ∈ lw_all := lw_g (lw_at lw_m6 222 rfl) rfl
theorem q1544 : (Jvm.Cond.code ({ cls := "LeapJoinModel", name := "keep", desc := "()V" } : Jvm.MethodName) prog_13_method_62_code (2 : Nat) (Option.none : Option Jvm.ClassFile.FieldType)) ∈ lw_all := lw_g (lw_at lw_m6 223 rfl) rfl
theorem q1545 : (Jvm.Cond.methodLink "LeapJoinModel" (305 : Nat) ({ cls := "LeapJoinModel", name := "doNow", desc := "(IIIII)I" } : Jvm.MethodName)) ∈ lw_all := lw_g (lw_at lw_m6 224 rfl) rfl
theorem q1546 : (Jvm.Cond.privateMethod ({ cls := "LeapJoinModel", name := "doNow", desc := "(IIIII)I" } : Jvm.MethodName)) ∈ lw_tbl := lw_at lw_m6 225 rfl
theorem q1547 : (Jvm.Cond.instanceMethod ({ cls := "LeapJoinModel", name := "doNow", desc := "(IIIII)I" } : Jvm.MethodName)) ∈ lw_all := lw_g (lw_at lw_m6 226 rfl) rfl
theorem q1548 : (Jvm.Cond.code ({ cls := "LeapJoinModel", name := "doNow", desc := "(IIIII)I" } : Jvm.MethodName) prog_13_method_61_code (7 : Nat) (Option.some Jvm.ClassFile.FieldType.int)) ∈ lw_all := lw_g (lw_at lw_m6 227 rfl) rfl
theorem q1549 : (Jvm.Cond.methodLink "LeapJoinModel" (293 : Nat) ({ cls := "LeapJoinModel", name := "takesNow", desc := "(IIII)I" } : Jvm.MethodName)) ∈ lw_all := lw_g (lw_at lw_m6 228 rfl) rfl
theorem q1550 : (Jvm.Cond.privateMethod ({ cls := "LeapJoinModel", name := "takesNow", desc := "(IIII)I" } : Jvm.MethodName)) ∈ lw_tbl := lw_at lw_m6 229 rfl
theorem q1551 : (Jvm.Cond.instanceMethod ({ cls := "LeapJoinModel", name := "takesNow", desc := "(IIII)I" } : Jvm.MethodName)) ∈ lw_all := lw_g (lw_at lw_m6 230 rfl) rfl
theorem q1552 : (Jvm.Cond.code ({ cls := "LeapJoinModel", name := "takesNow", desc := "(IIII)I" } : Jvm.MethodName) prog_13_method_37_code (7 : Nat) (Option.some Jvm.ClassFile.FieldType.int)) ∈ lw_all := lw_g (lw_at lw_m6 231 rfl) rfl
theorem q1553 : (Jvm.Cond.methodLink "LeapJoinModel" (176 : Nat) ({ cls := "LeapJoinModel", name := "isUsed", desc := "(I)Z" } : Jvm.MethodName)) ∈ lw_all := lw_g (lw_at lw_m6 232 rfl) rfl
theorem q1554 : (Jvm.Cond.privateMethod ({ cls := "LeapJoinModel", name := "isUsed", desc := "(I)Z" } : Jvm.MethodName)) ∈ lw_tbl := lw_at lw_m6 233 rfl
theorem q1555 : (Jvm.Cond.instanceMethod ({ cls := "LeapJoinModel", name := "isUsed", desc := "(I)Z" } : Jvm.MethodName)) ∈ lw_all := lw_g (lw_at lw_m6 234 rfl) rfl
theorem q1556 : (Jvm.Cond.code ({ cls := "LeapJoinModel", name := "isUsed", desc := "(I)Z" } : Jvm.MethodName) prog_13_method_28_code (2 : Nat) (Option.some Jvm.ClassFile.FieldType.boolean)) ∈ lw_all := lw_g (lw_at lw_m6 235 rfl) rfl
theorem q1557 : (Jvm.Cond.methodLink "LeapJoinModel" (308 : Nat) ({ cls := "LeapJoinModel", name := "note", desc := "(II)V" } : Jvm.MethodName)) ∈ lw_all := lw_g (lw_at lw_m6 236 rfl) rfl
theorem q1558 : (Jvm.Cond.privateMethod ({ cls := "LeapJoinModel", name := "note", desc := "(II)V" } : Jvm.MethodName)) ∈ lw_tbl := lw_at lw_m6 237 rfl
theorem q1559 : (Jvm.Cond.instanceMethod ({ cls := "LeapJoinModel", name := "note", desc := "(II)V" } : Jvm.MethodName)) ∈ lw_all := lw_g (lw_at lw_m6 238 rfl) rfl
theorem q1560 : (Jvm.Cond.code ({ cls := "LeapJoinModel", name := "note", desc := "(II)V" } : Jvm.MethodName) prog_13_method_64_code (4 : Nat) (Option.none : Option Jvm.ClassFile.FieldType)) ∈ lw_all := lw_g (lw_at lw_m6 239 rfl) rfl
theorem q1561 : (Jvm.Cond.methodLink "LeapJoinModel" (299 : Nat) ({ cls := "LeapJoinModel", name := "rowsNow", desc := "()I" } : Jvm.MethodName)) ∈ lw_all := lw_g (lw_at lw_m7 0 rfl) rfl
theorem q1562 : (Jvm.Cond.privateMethod ({ cls := "LeapJoinModel", name := "rowsNow", desc := "()I" } : Jvm.MethodName)) ∈ lw_tbl := lw_at lw_m7 1 rfl
theorem q1563 : (Jvm.Cond.instanceMethod ({ cls := "LeapJoinModel", name := "rowsNow", desc := "()I" } : Jvm.MethodName)) ∈ lw_all := lw_g (lw_at lw_m7 2 rfl) rfl
theorem q1564 : (Jvm.Cond.code ({ cls := "LeapJoinModel", name := "rowsNow", desc := "()I" } : Jvm.MethodName) prog_13_method_63_code (1 : Nat) (Option.some Jvm.ClassFile.FieldType.int)) ∈ lw_all := lw_g (lw_at lw_m7 3 rfl) rfl
theorem q1565 : (Jvm.Cond.methodLink "LeapJoinModel" (296 : Nat) ({ cls := "LeapJoinModel", name := "joinsNow", desc := "()V" } : Jvm.MethodName)) ∈ lw_all := lw_g (lw_at lw_m7 4 rfl) rfl
theorem q1566 : (Jvm.Cond.privateMethod ({ cls := "LeapJoinModel", name := "joinsNow", desc := "()V" } : Jvm.MethodName)) ∈ lw_tbl := lw_at lw_m7 5 rfl
theorem q1567 : (Jvm.Cond.instanceMethod ({ cls := "LeapJoinModel", name := "joinsNow", desc := "()V" } : Jvm.MethodName)) ∈ lw_all := lw_g (lw_at lw_m7 6 rfl) rfl
theorem q1568 : (Jvm.Cond.code ({ cls := "LeapJoinModel", name := "joinsNow", desc := "()V" } : Jvm.MethodName) prog_13_method_54_code (1 : Nat) (Option.none : Option Jvm.ClassFile.FieldType)) ∈ lw_all := lw_g (lw_at lw_m7 7 rfl) rfl
theorem q1569 : (Jvm.Cond.methodLink "LeapJoinModel" (274 : Nat) ({ cls := "LeapJoinModel", name := "joins", desc := "(I)V" } : Jvm.MethodName)) ∈ lw_all := lw_g (lw_at lw_m7 8 rfl) rfl
theorem q1570 : (Jvm.Cond.privateMethod ({ cls := "LeapJoinModel", name := "joins", desc := "(I)V" } : Jvm.MethodName)) ∈ lw_tbl := lw_at lw_m7 9 rfl
theorem q1571 : (Jvm.Cond.instanceMethod ({ cls := "LeapJoinModel", name := "joins", desc := "(I)V" } : Jvm.MethodName)) ∈ lw_all := lw_g (lw_at lw_m7 10 rfl) rfl
theorem q1572 : (Jvm.Cond.code ({ cls := "LeapJoinModel", name := "joins", desc := "(I)V" } : Jvm.MethodName) prog_13_method_53_code (3 : Nat) (Option.none : Option Jvm.ClassFile.FieldType)) ∈ lw_all := lw_g (lw_at lw_m7 11 rfl) rfl
theorem q1573 : (Jvm.Cond.methodLink "LeapJoinModel" (271 : Nat) ({ cls := "LeapJoinModel", name := "laysOrder", desc := "(I)V" } : Jvm.MethodName)) ∈ lw_all := lw_g (lw_at lw_m7 12 rfl) rfl
theorem q1574 : (Jvm.Cond.privateMethod ({ cls := "LeapJoinModel", name := "laysOrder", desc := "(I)V" } : Jvm.MethodName)) ∈ lw_tbl := lw_at lw_m7 13 rfl
theorem q1575 : (Jvm.Cond.instanceMethod ({ cls := "LeapJoinModel", name := "laysOrder", desc := "(I)V" } : Jvm.MethodName)) ∈ lw_all := lw_g (lw_at lw_m7 14 rfl) rfl
theorem q1576 : (Jvm.Cond.code ({ cls := "LeapJoinModel", name := "laysOrder", desc := "(I)V" } : Jvm.MethodName) prog_13_method_40_code (8 : Nat) (Option.none : Option Jvm.ClassFile.FieldType)) ∈ lw_all := lw_g (lw_at lw_m7 15 rfl) rfl
theorem q1577 : (Jvm.Cond.methodLink "LeapJoinModel" (220 : Nat) ({ cls := "LeapJoinModel", name := "asked", desc := "()I" } : Jvm.MethodName)) ∈ lw_all := lw_g (lw_at lw_m7 16 rfl) rfl
theorem q1578 : (Jvm.Cond.privateMethod ({ cls := "LeapJoinModel", name := "asked", desc := "()I" } : Jvm.MethodName)) ∈ lw_tbl := lw_at lw_m7 17 rfl
theorem q1579 : (Jvm.Cond.instanceMethod ({ cls := "LeapJoinModel", name := "asked", desc := "()I" } : Jvm.MethodName)) ∈ lw_all := lw_g (lw_at lw_m7 18 rfl) rfl
theorem q1580 : (Jvm.Cond.code ({ cls := "LeapJoinModel", name := "asked", desc := "()I" } : Jvm.MethodName) prog_13_method_32_code (3 : Nat) (Option.some Jvm.ClassFile.FieldType.int)) ∈ lw_all := lw_g (lw_at lw_m7 19 rfl) rfl
theorem q1581 : (Jvm.Cond.methodLink "LeapJoinModel" (179 : Nat) ({ cls := "LeapJoinModel", name := "lettersOf", desc := "(I)I" } : Jvm.MethodName)) ∈ lw_all := lw_g (lw_at lw_m7 20 rfl) rfl
theorem q1582 : (Jvm.Cond.privateMethod ({ cls := "LeapJoinModel", name := "lettersOf", desc := "(I)I" } : Jvm.MethodName)) ∈ lw_tbl := lw_at lw_m7 21 rfl
theorem q1583 : (Jvm.Cond.instanceMethod ({ cls := "LeapJoinModel", name := "lettersOf", desc := "(I)I" } : Jvm.MethodName)) ∈ lw_all := lw_g (lw_at lw_m7 22 rfl) rfl
theorem q1584 : (Jvm.Cond.code ({ cls := "LeapJoinModel", name := "lettersOf", desc := "(I)I" } : Jvm.MethodName) prog_13_method_31_code (4 : Nat) (Option.some Jvm.ClassFile.FieldType.int)) ∈ lw_all := lw_g (lw_at lw_m7 23 rfl) rfl
theorem q1585 : (Jvm.Cond.methodLink "LeapJoinModel" (262 : Nat) ({ cls := "LeapJoinModel", name := "goes", desc := "(I)V" } : Jvm.MethodName)) ∈ lw_all := lw_g (lw_at lw_m7 24 rfl) rfl
theorem q1586 : (Jvm.Cond.privateMethod ({ cls := "LeapJoinModel", name := "goes", desc := "(I)V" } : Jvm.MethodName)) ∈ lw_tbl := lw_at lw_m7 25 rfl
theorem q1587 : (Jvm.Cond.instanceMethod ({ cls := "LeapJoinModel", name := "goes", desc := "(I)V" } : Jvm.MethodName)) ∈ lw_all := lw_g (lw_at lw_m7 26 rfl) rfl
theorem q1588 : (Jvm.Cond.code ({ cls := "LeapJoinModel", name := "goes", desc := "(I)V" } : Jvm.MethodName) prog_13_method_52_code (5 : Nat) (Option.none : Option Jvm.ClassFile.FieldType)) ∈ lw_all := lw_g (lw_at lw_m7 27 rfl) rfl
theorem q1589 : (Jvm.Cond.methodLink "LeapJoinModel" (250 : Nat) ({ cls := "LeapJoinModel", name := "takesRow", desc := "()V" } : Jvm.MethodName)) ∈ lw_all := lw_g (lw_at lw_m7 28 rfl) rfl
theorem q1590 : (Jvm.Cond.privateMethod ({ cls := "LeapJoinModel", name := "takesRow", desc := "()V" } : Jvm.MethodName)) ∈ lw_tbl := lw_at lw_m7 29 rfl
theorem q1591 : (Jvm.Cond.instanceMethod ({ cls := "LeapJoinModel", name := "takesRow", desc := "()V" } : Jvm.MethodName)) ∈ lw_all := lw_g (lw_at lw_m7 30 rfl) rfl
theorem q1592 : (Jvm.Cond.code ({ cls := "LeapJoinModel", name := "takesRow", desc := "()V" } : Jvm.MethodName) prog_13_method_51_code (2 : Nat) (Option.none : Option Jvm.ClassFile.FieldType)) ∈ lw_all := lw_g (lw_at lw_m7 31 rfl) rfl
theorem q1593 : (Jvm.Cond.methodLink "LeapJoinModel" (253 : Nat) ({ cls := "LeapJoinModel", name := "laysKeys", desc := "(I)Z" } : Jvm.MethodName)) ∈ lw_all := lw_g (lw_at lw_m7 32 rfl) rfl
theorem q1594 : (Jvm.Cond.privateMethod ({ cls := "LeapJoinModel", name := "laysKeys", desc := "(I)Z" } : Jvm.MethodName)) ∈ lw_tbl := lw_at lw_m7 33 rfl
theorem q1595 : (Jvm.Cond.instanceMethod ({ cls := "LeapJoinModel", name := "laysKeys", desc := "(I)Z" } : Jvm.MethodName)) ∈ lw_all := lw_g (lw_at lw_m7 34 rfl) rfl
theorem q1596 : (Jvm.Cond.code ({ cls := "LeapJoinModel", name := "laysKeys", desc := "(I)Z" } : Jvm.MethodName) prog_13_method_45_code (7 : Nat) (Option.some Jvm.ClassFile.FieldType.boolean)) ∈ lw_all := lw_g (lw_at lw_m7 35 rfl) rfl
theorem q1597 : (Jvm.Cond.methodLink "LeapJoinModel" (226 : Nat) ({ cls := "LeapJoinModel", name := "isIn", desc := "(II)Z" } : Jvm.MethodName)) ∈ lw_all := lw_g (lw_at lw_m7 36 rfl) rfl
theorem q1598 : (Jvm.Cond.privateMethod ({ cls := "LeapJoinModel", name := "isIn", desc := "(II)Z" } : Jvm.MethodName)) ∈ lw_tbl := lw_at lw_m7 37 rfl
theorem q1599 : (Jvm.Cond.instanceMethod ({ cls := "LeapJoinModel", name := "isIn", desc := "(II)Z" } : Jvm.MethodName)) ∈ lw_all := lw_g (lw_at lw_m7 38 rfl) rfl
theorem q1600 : (Jvm.Cond.code ({ cls := "LeapJoinModel", name := "isIn", desc := "(II)Z" } : Jvm.MethodName) prog_13_method_44_code (3 : Nat) (Option.some Jvm.ClassFile.FieldType.boolean)) ∈ lw_all := lw_g (lw_at lw_m7 39 rfl) rfl
theorem q1601 : (Jvm.Cond.methodLink "LeapJoinModel" (223 : Nat) ({ cls := "LeapJoinModel", name := "columnOf", desc := "(II)I" } : Jvm.MethodName)) ∈ lw_all := lw_g (lw_at lw_m7 40 rfl) rfl
theorem q1602 : (Jvm.Cond.privateMethod ({ cls := "LeapJoinModel", name := "columnOf", desc := "(II)I" } : Jvm.MethodName)) ∈ lw_tbl := lw_at lw_m7 41 rfl
theorem q1603 : (Jvm.Cond.instanceMethod ({ cls := "LeapJoinModel", name := "columnOf", desc := "(II)I" } : Jvm.MethodName)) ∈ lw_all := lw_g (lw_at lw_m7 42 rfl) rfl
theorem q1604 : (Jvm.Cond.code ({ cls := "LeapJoinModel", name := "columnOf", desc := "(II)I" } : Jvm.MethodName) prog_13_method_41_code (4 : Nat) (Option.some Jvm.ClassFile.FieldType.int)) ∈ lw_all := lw_g (lw_at lw_m7 43 rfl) rfl
theorem q1605 : (Jvm.Cond.methodLink "LeapJoinModel" (229 : Nat) ({ cls := "LeapJoinModel", name := "fits", desc := "(III)Z" } : Jvm.MethodName)) ∈ lw_all := lw_g (lw_at lw_m7 44 rfl) rfl
theorem q1606 : (Jvm.Cond.privateMethod ({ cls := "LeapJoinModel", name := "fits", desc := "(III)Z" } : Jvm.MethodName)) ∈ lw_tbl := lw_at lw_m7 45 rfl
theorem q1607 : (Jvm.Cond.instanceMethod ({ cls := "LeapJoinModel", name := "fits", desc := "(III)Z" } : Jvm.MethodName)) ∈ lw_all := lw_g (lw_at lw_m7 46 rfl) rfl
theorem q1608 : (Jvm.Cond.code ({ cls := "LeapJoinModel", name := "fits", desc := "(III)Z" } : Jvm.MethodName) prog_13_method_42_code (7 : Nat) (Option.some Jvm.ClassFile.FieldType.boolean)) ∈ lw_all := lw_g (lw_at lw_m7 47 rfl) rfl
theorem q1609 : (Jvm.Cond.methodLink "LeapJoinModel" (232 : Nat) ({ cls := "LeapJoinModel", name := "takesKey", desc := "(II)V" } : Jvm.MethodName)) ∈ lw_all := lw_g (lw_at lw_m7 48 rfl) rfl
theorem q1610 : (Jvm.Cond.privateMethod ({ cls := "LeapJoinModel", name := "takesKey", desc := "(II)V" } : Jvm.MethodName)) ∈ lw_tbl := lw_at lw_m7 49 rfl
theorem q1611 : (Jvm.Cond.instanceMethod ({ cls := "LeapJoinModel", name := "takesKey", desc := "(II)V" } : Jvm.MethodName)) ∈ lw_all := lw_g (lw_at lw_m7 50 rfl) rfl
theorem q1612 : (Jvm.Cond.code ({ cls := "LeapJoinModel", name := "takesKey", desc := "(II)V" } : Jvm.MethodName) prog_13_method_43_code (6 : Nat) (Option.none : Option Jvm.ClassFile.FieldType)) ∈ lw_all := lw_g (lw_at lw_m7 51 rfl) rfl
theorem q1613 : (Jvm.Cond.methodLink "LeapJoinModel" (256 : Nat) ({ cls := "LeapJoinModel", name := "greatestKey", desc := "(I)I" } : Jvm.MethodName)) ∈ lw_all := lw_g (lw_at lw_m7 52 rfl) rfl
theorem q1614 : (Jvm.Cond.privateMethod ({ cls := "LeapJoinModel", name := "greatestKey", desc := "(I)I" } : Jvm.MethodName)) ∈ lw_tbl := lw_at lw_m7 53 rfl
theorem q1615 : (Jvm.Cond.instanceMethod ({ cls := "LeapJoinModel", name := "greatestKey", desc := "(I)I" } : Jvm.MethodName)) ∈ lw_all := lw_g (lw_at lw_m7 54 rfl) rfl
theorem q1616 : (Jvm.Cond.code ({ cls := "LeapJoinModel", name := "greatestKey", desc := "(I)I" } : Jvm.MethodName) prog_13_method_47_code (4 : Nat) (Option.some Jvm.ClassFile.FieldType.int)) ∈ lw_all := lw_g (lw_at lw_m7 55 rfl) rfl
theorem q1617 : (Jvm.Cond.methodLink "LeapJoinModel" (236 : Nat) ({ cls := "LeapJoinModel", name := "keyAt", desc := "(II)I" } : Jvm.MethodName)) ∈ lw_all := lw_g (lw_at lw_m7 56 rfl) rfl
theorem q1618 : (Jvm.Cond.privateMethod ({ cls := "LeapJoinModel", name := "keyAt", desc := "(II)I" } : Jvm.MethodName)) ∈ lw_tbl := lw_at lw_m7 57 rfl
theorem q1619 : (Jvm.Cond.instanceMethod ({ cls := "LeapJoinModel", name := "keyAt", desc := "(II)I" } : Jvm.MethodName)) ∈ lw_all := lw_g (lw_at lw_m7 58 rfl) rfl
theorem q1620 : (Jvm.Cond.code ({ cls := "LeapJoinModel", name := "keyAt", desc := "(II)I" } : Jvm.MethodName) prog_13_method_46_code (4 : Nat) (Option.some Jvm.ClassFile.FieldType.int)) ∈ lw_all := lw_g (lw_at lw_m7 59 rfl) rfl
theorem q1621 : (Jvm.Cond.methodLink "LeapJoinModel" (239 : Nat) ({ cls := "java/lang/Math", name := "max", desc := "(II)I" } : Jvm.MethodName)) ∈ lw_all := lw_g (lw_at lw_m7 60 rfl) rfl
theorem q1622 : (Jvm.Cond.methodLink "LeapJoinModel" (259 : Nat) ({ cls := "LeapJoinModel", name := "firstBehind", desc := "(II)I" } : Jvm.MethodName)) ∈ lw_all := lw_g (lw_at lw_m7 61 rfl) rfl
theorem q1623 : (Jvm.Cond.privateMethod ({ cls := "LeapJoinModel", name := "firstBehind", desc := "(II)I" } : Jvm.MethodName)) ∈ lw_tbl := lw_at lw_m7 62 rfl
theorem q1624 : (Jvm.Cond.instanceMethod ({ cls := "LeapJoinModel", name := "firstBehind", desc := "(II)I" } : Jvm.MethodName)) ∈ lw_all := lw_g (lw_at lw_m7 63 rfl) rfl
theorem q1625 : (Jvm.Cond.code ({ cls := "LeapJoinModel", name := "firstBehind", desc := "(II)I" } : Jvm.MethodName) prog_13_method_48_code (4 : Nat) (Option.some Jvm.ClassFile.FieldType.int)) ∈ lw_all := lw_g (lw_at lw_m7 64 rfl) rfl
theorem q1626 : (Jvm.Cond.methodLink "LeapJoinModel" (265 : Nat) ({ cls := "LeapJoinModel", name := "firstIn", desc := "(I)I" } : Jvm.MethodName)) ∈ lw_all := lw_g (lw_at lw_m7 65 rfl) rfl
theorem q1627 : (Jvm.Cond.privateMethod ({ cls := "LeapJoinModel", name := "firstIn", desc := "(I)I" } : Jvm.MethodName)) ∈ lw_tbl := lw_at lw_m7 66 rfl
theorem q1628 : (Jvm.Cond.instanceMethod ({ cls := "LeapJoinModel", name := "firstIn", desc := "(I)I" } : Jvm.MethodName)) ∈ lw_all := lw_g (lw_at lw_m7 67 rfl) rfl
theorem q1629 : (Jvm.Cond.code ({ cls := "LeapJoinModel", name := "firstIn", desc := "(I)I" } : Jvm.MethodName) prog_13_method_49_code (3 : Nat) (Option.some Jvm.ClassFile.FieldType.int)) ∈ lw_all := lw_g (lw_at lw_m7 68 rfl) rfl
theorem q1630 : (Jvm.Cond.methodLink "LeapJoinModel" (268 : Nat) ({ cls := "LeapJoinModel", name := "leaps", desc := "(III)Z" } : Jvm.MethodName)) ∈ lw_all := lw_g (lw_at lw_m7 69 rfl) rfl
theorem q1631 : (Jvm.Cond.privateMethod ({ cls := "LeapJoinModel", name := "leaps", desc := "(III)Z" } : Jvm.MethodName)) ∈ lw_tbl := lw_at lw_m7 70 rfl
theorem q1632 : (Jvm.Cond.instanceMethod ({ cls := "LeapJoinModel", name := "leaps", desc := "(III)Z" } : Jvm.MethodName)) ∈ lw_all := lw_g (lw_at lw_m7 71 rfl) rfl
theorem q1633 : (Jvm.Cond.code ({ cls := "LeapJoinModel", name := "leaps", desc := "(III)Z" } : Jvm.MethodName) prog_13_method_50_code (5 : Nat) (Option.some Jvm.ClassFile.FieldType.boolean)) ∈ lw_all := lw_g (lw_at lw_m7 72 rfl) rfl
theorem q1635 : (Jvm.Cond.instanceMethod ({ cls := "LeapJoinModel", name := "take", desc := "(IIII)I" } : Jvm.MethodName)) ∈ lw_all := lw_g (lw_at lw_m7 74 rfl) rfl
theorem q1636 : (Jvm.Cond.selects "LeapJoinModel" ({ cls := "LeapJoinModel", name := "take", desc := "(IIII)I" } : Jvm.MethodName) ({ cls := "LeapJoinModel", name := "take", desc := "(IIII)I" } : Jvm.MethodName)) ∈ lw_all := lw_g (lw_at lw_m7 75 rfl) rfl
theorem q1637 : (Jvm.Cond.code ({ cls := "LeapJoinModel", name := "take", desc := "(IIII)I" } : Jvm.MethodName) prog_13_method_68_code (5 : Nat) (Option.some Jvm.ClassFile.FieldType.int)) ∈ lw_all := lw_g (lw_at lw_m7 76 rfl) rfl
theorem q1639 : (Jvm.Cond.instanceMethod ({ cls := "LeapJoinModel", name := "use", desc := "(I)I" } : Jvm.MethodName)) ∈ lw_all := lw_g (lw_at lw_m7 78 rfl) rfl
theorem q1640 : (Jvm.Cond.selects "LeapJoinModel" ({ cls := "LeapJoinModel", name := "use", desc := "(I)I" } : Jvm.MethodName) ({ cls := "LeapJoinModel", name := "use", desc := "(I)I" } : Jvm.MethodName)) ∈ lw_all := lw_g (lw_at lw_m7 79 rfl) rfl
theorem q1641 : (Jvm.Cond.code ({ cls := "LeapJoinModel", name := "use", desc := "(I)I" } : Jvm.MethodName) prog_13_method_69_code (2 : Nat) (Option.some Jvm.ClassFile.FieldType.int)) ∈ lw_all := lw_g (lw_at lw_m7 80 rfl) rfl
theorem q1643 : (Jvm.Cond.instanceMethod ({ cls := "LeapJoinModel", name := "order", desc := "(I)I" } : Jvm.MethodName)) ∈ lw_all := lw_g (lw_at lw_m7 82 rfl) rfl
theorem q1644 : (Jvm.Cond.selects "LeapJoinModel" ({ cls := "LeapJoinModel", name := "order", desc := "(I)I" } : Jvm.MethodName) ({ cls := "LeapJoinModel", name := "order", desc := "(I)I" } : Jvm.MethodName)) ∈ lw_all := lw_g (lw_at lw_m7 83 rfl) rfl
theorem q1645 : (Jvm.Cond.code ({ cls := "LeapJoinModel", name := "order", desc := "(I)I" } : Jvm.MethodName) prog_13_method_70_code (2 : Nat) (Option.some Jvm.ClassFile.FieldType.int)) ∈ lw_all := lw_g (lw_at lw_m7 84 rfl) rfl
theorem q1647 : (Jvm.Cond.instanceMethod ({ cls := "LeapJoinModel", name := "ways", desc := "(IJ)I" } : Jvm.MethodName)) ∈ lw_all := lw_g (lw_at lw_m7 86 rfl) rfl
theorem q1648 : (Jvm.Cond.selects "LeapJoinModel" ({ cls := "LeapJoinModel", name := "ways", desc := "(IJ)I" } : Jvm.MethodName) ({ cls := "LeapJoinModel", name := "ways", desc := "(IJ)I" } : Jvm.MethodName)) ∈ lw_all := lw_g (lw_at lw_m7 87 rfl) rfl
theorem q1649 : (Jvm.Cond.code ({ cls := "LeapJoinModel", name := "ways", desc := "(IJ)I" } : Jvm.MethodName) prog_13_method_74_code (5 : Nat) (Option.some Jvm.ClassFile.FieldType.int)) ∈ lw_all := lw_g (lw_at lw_m7 88 rfl) rfl
theorem q1650 : (Jvm.Cond.methodLink "LeapJoinModel" (335 : Nat) ({ cls := "LeapJoinModel", name := "drawWay", desc := "()V" } : Jvm.MethodName)) ∈ lw_all := lw_g (lw_at lw_m7 89 rfl) rfl
theorem q1651 : (Jvm.Cond.privateMethod ({ cls := "LeapJoinModel", name := "drawWay", desc := "()V" } : Jvm.MethodName)) ∈ lw_tbl := lw_at lw_m7 90 rfl
theorem q1652 : (Jvm.Cond.instanceMethod ({ cls := "LeapJoinModel", name := "drawWay", desc := "()V" } : Jvm.MethodName)) ∈ lw_all := lw_g (lw_at lw_m7 91 rfl) rfl
theorem q1653 : (Jvm.Cond.code ({ cls := "LeapJoinModel", name := "drawWay", desc := "()V" } : Jvm.MethodName) prog_13_method_73_code (5 : Nat) (Option.none : Option Jvm.ClassFile.FieldType)) ∈ lw_all := lw_g (lw_at lw_m7 92 rfl) rfl
theorem q1654 : (Jvm.Cond.methodLink "LeapJoinModel" (328 : Nat) ({ cls := "LeapJoinModel", name := "draw", desc := "(I)I" } : Jvm.MethodName)) ∈ lw_all := lw_g (lw_at lw_m7 93 rfl) rfl
theorem q1655 : (Jvm.Cond.privateMethod ({ cls := "LeapJoinModel", name := "draw", desc := "(I)I" } : Jvm.MethodName)) ∈ lw_tbl := lw_at lw_m7 94 rfl
theorem q1656 : (Jvm.Cond.instanceMethod ({ cls := "LeapJoinModel", name := "draw", desc := "(I)I" } : Jvm.MethodName)) ∈ lw_all := lw_g (lw_at lw_m7 95 rfl) rfl
theorem q1657 : (Jvm.Cond.code ({ cls := "LeapJoinModel", name := "draw", desc := "(I)I" } : Jvm.MethodName) prog_13_method_71_code (2 : Nat) (Option.some Jvm.ClassFile.FieldType.int)) ∈ lw_all := lw_g (lw_at lw_m7 96 rfl) rfl
theorem q1658 : (Jvm.Cond.constantLong "LeapJoinModel" (324 : Nat) (6364136223846793005 : Int64)) ∈ lw_all := lw_g (lw_at lw_m7 97 rfl) rfl
theorem q1659 : (Jvm.Cond.constantLong "LeapJoinModel" (326 : Nat) (1442695040888963407 : Int64)) ∈ lw_all := lw_g (lw_at lw_m7 98 rfl) rfl
theorem q1660 : (Jvm.Cond.methodLink "LeapJoinModel" (331 : Nat) ({ cls := "LeapJoinModel", name := "tryOne", desc := "(IIIII)V" } : Jvm.MethodName)) ∈ lw_all := lw_g (lw_at lw_m7 99 rfl) rfl
theorem q1661 : (Jvm.Cond.privateMethod ({ cls := "LeapJoinModel", name := "tryOne", desc := "(IIIII)V" } : Jvm.MethodName)) ∈ lw_tbl := lw_at lw_m7 100 rfl
theorem q1662 : (Jvm.Cond.instanceMethod ({ cls := "LeapJoinModel", name := "tryOne", desc := "(IIIII)V" } : Jvm.MethodName)) ∈ lw_all := lw_g (lw_at lw_m7 101 rfl) rfl
theorem q1663 : (Jvm.Cond.code ({ cls := "LeapJoinModel", name := "tryOne", desc := "(IIIII)V" } : Jvm.MethodName) prog_13_method_72_code (6 : Nat) (Option.none : Option Jvm.ClassFile.FieldType)) ∈ lw_all := lw_g (lw_at lw_m7 102 rfl) rfl
theorem q1665 : (Jvm.Cond.instanceMethod ({ cls := "LeapJoinModel", name := "status", desc := "(I)I" } : Jvm.MethodName)) ∈ lw_all := lw_g (lw_at lw_m7 104 rfl) rfl
theorem q1666 : (Jvm.Cond.selects "LeapJoinModel" ({ cls := "LeapJoinModel", name := "status", desc := "(I)I" } : Jvm.MethodName) ({ cls := "LeapJoinModel", name := "status", desc := "(I)I" } : Jvm.MethodName)) ∈ lw_all := lw_g (lw_at lw_m7 105 rfl) rfl
theorem q1667 : (Jvm.Cond.code ({ cls := "LeapJoinModel", name := "status", desc := "(I)I" } : Jvm.MethodName) prog_13_method_75_code (2 : Nat) (Option.some Jvm.ClassFile.FieldType.int)) ∈ lw_all := lw_g (lw_at lw_m7 106 rfl) rfl
theorem q1669 : (Jvm.Cond.instanceMethod ({ cls := "LeapJoinModel", name := "undo", desc := "()I" } : Jvm.MethodName)) ∈ lw_all := lw_g (lw_at lw_m7 108 rfl) rfl
theorem q1670 : (Jvm.Cond.selects "LeapJoinModel" ({ cls := "LeapJoinModel", name := "undo", desc := "()I" } : Jvm.MethodName) ({ cls := "LeapJoinModel", name := "undo", desc := "()I" } : Jvm.MethodName)) ∈ lw_all := lw_g (lw_at lw_m7 109 rfl) rfl
theorem q1671 : (Jvm.Cond.code ({ cls := "LeapJoinModel", name := "undo", desc := "()I" } : Jvm.MethodName) prog_13_method_76_code (2 : Nat) (Option.some Jvm.ClassFile.FieldType.int)) ∈ lw_all := lw_g (lw_at lw_m7 110 rfl) rfl
theorem q1673 : (Jvm.Cond.instanceMethod ({ cls := "LeapJoinModel", name := "log", desc := "(II)I" } : Jvm.MethodName)) ∈ lw_all := lw_g (lw_at lw_m7 112 rfl) rfl
theorem q1674 : (Jvm.Cond.selects "LeapJoinModel" ({ cls := "LeapJoinModel", name := "log", desc := "(II)I" } : Jvm.MethodName) ({ cls := "LeapJoinModel", name := "log", desc := "(II)I" } : Jvm.MethodName)) ∈ lw_all := lw_g (lw_at lw_m7 113 rfl) rfl
theorem q1675 : (Jvm.Cond.code ({ cls := "LeapJoinModel", name := "log", desc := "(II)I" } : Jvm.MethodName) prog_13_method_77_code (3 : Nat) (Option.some Jvm.ClassFile.FieldType.int)) ∈ lw_all := lw_g (lw_at lw_m7 114 rfl) rfl
theorem q1676 : (Jvm.Cond.constant "LeapJoinModel" (338 : Nat) (-1000000 : Int32)) ∈ lw_all := lw_g (lw_at lw_m7 115 rfl) rfl
theorem q1678 : (Jvm.Cond.instanceMethod ({ cls := "LeapJoinModel", name := "rule", desc := "(I)I" } : Jvm.MethodName)) ∈ lw_all := lw_g (lw_at lw_m7 117 rfl) rfl
theorem q1679 : (Jvm.Cond.selects "LeapJoinModel" ({ cls := "LeapJoinModel", name := "rule", desc := "(I)I" } : Jvm.MethodName) ({ cls := "LeapJoinModel", name := "rule", desc := "(I)I" } : Jvm.MethodName)) ∈ lw_all := lw_g (lw_at lw_m7 118 rfl) rfl
theorem q1680 : (Jvm.Cond.code ({ cls := "LeapJoinModel", name := "rule", desc := "(I)I" } : Jvm.MethodName) prog_13_method_79_code (2 : Nat) (Option.some Jvm.ClassFile.FieldType.int)) ∈ lw_all := lw_g (lw_at lw_m7 119 rfl) rfl
theorem q1681 : (Jvm.Cond.methodLink "LeapJoinModel" (339 : Nat) ({ cls := "LeapJoinModel", name := "rowsOfAll", desc := "()I" } : Jvm.MethodName)) ∈ lw_all := lw_g (lw_at lw_m7 120 rfl) rfl
theorem q1682 : (Jvm.Cond.privateMethod ({ cls := "LeapJoinModel", name := "rowsOfAll", desc := "()I" } : Jvm.MethodName)) ∈ lw_tbl := lw_at lw_m7 121 rfl
theorem q1683 : (Jvm.Cond.instanceMethod ({ cls := "LeapJoinModel", name := "rowsOfAll", desc := "()I" } : Jvm.MethodName)) ∈ lw_all := lw_g (lw_at lw_m7 122 rfl) rfl
theorem q1684 : (Jvm.Cond.code ({ cls := "LeapJoinModel", name := "rowsOfAll", desc := "()I" } : Jvm.MethodName) prog_13_method_78_code (3 : Nat) (Option.some Jvm.ClassFile.FieldType.int)) ∈ lw_all := lw_g (lw_at lw_m7 123 rfl) rfl
theorem q1686 : (Jvm.Cond.instanceMethod ({ cls := "LeapJoinModel", name := "table", desc := "(II)I" } : Jvm.MethodName)) ∈ lw_all := lw_g (lw_at lw_m7 125 rfl) rfl
theorem q1687 : (Jvm.Cond.selects "LeapJoinModel" ({ cls := "LeapJoinModel", name := "table", desc := "(II)I" } : Jvm.MethodName) ({ cls := "LeapJoinModel", name := "table", desc := "(II)I" } : Jvm.MethodName)) ∈ lw_all := lw_g (lw_at lw_m7 126 rfl) rfl
theorem q1688 : (Jvm.Cond.code ({ cls := "LeapJoinModel", name := "table", desc := "(II)I" } : Jvm.MethodName) prog_13_method_80_code (3 : Nat) (Option.some Jvm.ClassFile.FieldType.int)) ∈ lw_all := lw_g (lw_at lw_m7 127 rfl) rfl
theorem q1690 : (Jvm.Cond.instanceMethod ({ cls := "LeapJoinModel", name := "cell", desc := "(III)I" } : Jvm.MethodName)) ∈ lw_all := lw_g (lw_at lw_m7 129 rfl) rfl
theorem q1691 : (Jvm.Cond.selects "LeapJoinModel" ({ cls := "LeapJoinModel", name := "cell", desc := "(III)I" } : Jvm.MethodName) ({ cls := "LeapJoinModel", name := "cell", desc := "(III)I" } : Jvm.MethodName)) ∈ lw_all := lw_g (lw_at lw_m7 130 rfl) rfl
theorem q1692 : (Jvm.Cond.code ({ cls := "LeapJoinModel", name := "cell", desc := "(III)I" } : Jvm.MethodName) prog_13_method_81_code (4 : Nat) (Option.some Jvm.ClassFile.FieldType.int)) ∈ lw_all := lw_g (lw_at lw_m7 131 rfl) rfl
theorem q1694 : (Jvm.Cond.instanceMethod ({ cls := "LeapJoinModel", name := "rows", desc := "()I" } : Jvm.MethodName)) ∈ lw_all := lw_g (lw_at lw_m7 133 rfl) rfl
theorem q1695 : (Jvm.Cond.selects "LeapJoinModel" ({ cls := "LeapJoinModel", name := "rows", desc := "()I" } : Jvm.MethodName) ({ cls := "LeapJoinModel", name := "rows", desc := "()I" } : Jvm.MethodName)) ∈ lw_all := lw_g (lw_at lw_m7 134 rfl) rfl
theorem q1696 : (Jvm.Cond.code ({ cls := "LeapJoinModel", name := "rows", desc := "()I" } : Jvm.MethodName) prog_13_method_82_code (1 : Nat) (Option.some Jvm.ClassFile.FieldType.int)) ∈ lw_all := lw_g (lw_at lw_m7 135 rfl) rfl
theorem q1698 : (Jvm.Cond.instanceMethod ({ cls := "LeapJoinModel", name := "row", desc := "(II)I" } : Jvm.MethodName)) ∈ lw_all := lw_g (lw_at lw_m7 137 rfl) rfl
theorem q1699 : (Jvm.Cond.selects "LeapJoinModel" ({ cls := "LeapJoinModel", name := "row", desc := "(II)I" } : Jvm.MethodName) ({ cls := "LeapJoinModel", name := "row", desc := "(II)I" } : Jvm.MethodName)) ∈ lw_all := lw_g (lw_at lw_m7 138 rfl) rfl
theorem q1700 : (Jvm.Cond.code ({ cls := "LeapJoinModel", name := "row", desc := "(II)I" } : Jvm.MethodName) prog_13_method_83_code (3 : Nat) (Option.some Jvm.ClassFile.FieldType.int)) ∈ lw_all := lw_g (lw_at lw_m7 139 rfl) rfl
theorem q1701 : (Jvm.Cond.methodLink "LeapJoinModel" (342 : Nat) ({ cls := "LeapJoinModel", name := "isAsked", desc := "(I)Z" } : Jvm.MethodName)) ∈ lw_all := lw_g (lw_at lw_m7 140 rfl) rfl
theorem q1702 : (Jvm.Cond.privateMethod ({ cls := "LeapJoinModel", name := "isAsked", desc := "(I)Z" } : Jvm.MethodName)) ∈ lw_tbl := lw_at lw_m7 141 rfl
theorem q1703 : (Jvm.Cond.instanceMethod ({ cls := "LeapJoinModel", name := "isAsked", desc := "(I)Z" } : Jvm.MethodName)) ∈ lw_all := lw_g (lw_at lw_m7 142 rfl) rfl
theorem q1704 : (Jvm.Cond.code ({ cls := "LeapJoinModel", name := "isAsked", desc := "(I)Z" } : Jvm.MethodName) prog_13_method_56_code (2 : Nat) (Option.some Jvm.ClassFile.FieldType.boolean)) ∈ lw_all := lw_g (lw_at lw_m7 143 rfl) rfl
theorem q1705 : (Jvm.Cond.methodLink "LeapJoinModel" (345 : Nat) ({ cls := "LeapJoinModel", name := "numberOf", desc := "(II)I" } : Jvm.MethodName)) ∈ lw_all := lw_g (lw_at lw_m7 144 rfl) rfl
theorem q1706 : (Jvm.Cond.privateMethod ({ cls := "LeapJoinModel", name := "numberOf", desc := "(II)I" } : Jvm.MethodName)) ∈ lw_tbl := lw_at lw_m7 145 rfl
theorem q1707 : (Jvm.Cond.instanceMethod ({ cls := "LeapJoinModel", name := "numberOf", desc := "(II)I" } : Jvm.MethodName)) ∈ lw_all := lw_g (lw_at lw_m7 146 rfl) rfl
theorem q1708 : (Jvm.Cond.code ({ cls := "LeapJoinModel", name := "numberOf", desc := "(II)I" } : Jvm.MethodName) prog_13_method_55_code (3 : Nat) (Option.some Jvm.ClassFile.FieldType.int)) ∈ lw_all := lw_g (lw_at lw_m7 147 rfl) rfl
theorem q1710 : (Jvm.Cond.instanceMethod ({ cls := "LeapJoinModel", name := "leaps", desc := "()I" } : Jvm.MethodName)) ∈ lw_all := lw_g (lw_at lw_m7 149 rfl) rfl
theorem q1711 : (Jvm.Cond.selects "LeapJoinModel" ({ cls := "LeapJoinModel", name := "leaps", desc := "()I" } : Jvm.MethodName) ({ cls := "LeapJoinModel", name := "leaps", desc := "()I" } : Jvm.MethodName)) ∈ lw_all := lw_g (lw_at lw_m7 150 rfl) rfl
theorem q1712 : (Jvm.Cond.code ({ cls := "LeapJoinModel", name := "leaps", desc := "()I" } : Jvm.MethodName) prog_13_method_84_code (1 : Nat) (Option.some Jvm.ClassFile.FieldType.int)) ∈ lw_all := lw_g (lw_at lw_m7 151 rfl) rfl
theorem q1714 : (Jvm.Cond.instanceMethod ({ cls := "LeapJoinModel", name := "beginnings", desc := "(I)I" } : Jvm.MethodName)) ∈ lw_all := lw_g (lw_at lw_m7 153 rfl) rfl
theorem q1715 : (Jvm.Cond.selects "LeapJoinModel" ({ cls := "LeapJoinModel", name := "beginnings", desc := "(I)I" } : Jvm.MethodName) ({ cls := "LeapJoinModel", name := "beginnings", desc := "(I)I" } : Jvm.MethodName)) ∈ lw_all := lw_g (lw_at lw_m7 154 rfl) rfl
theorem q1716 : (Jvm.Cond.code ({ cls := "LeapJoinModel", name := "beginnings", desc := "(I)I" } : Jvm.MethodName) prog_13_method_85_code (2 : Nat) (Option.some Jvm.ClassFile.FieldType.int)) ∈ lw_all := lw_g (lw_at lw_m7 155 rfl) rfl
theorem q1718 : (Jvm.Cond.instanceMethod ({ cls := "LeapJoinModel", name := "best", desc := "(I)I" } : Jvm.MethodName)) ∈ lw_all := lw_g (lw_at lw_m7 157 rfl) rfl
theorem q1719 : (Jvm.Cond.selects "LeapJoinModel" ({ cls := "LeapJoinModel", name := "best", desc := "(I)I" } : Jvm.MethodName) ({ cls := "LeapJoinModel", name := "best", desc := "(I)I" } : Jvm.MethodName)) ∈ lw_all := lw_g (lw_at lw_m7 158 rfl) rfl
theorem q1720 : (Jvm.Cond.code ({ cls := "LeapJoinModel", name := "best", desc := "(I)I" } : Jvm.MethodName) prog_13_method_87_code (2 : Nat) (Option.some Jvm.ClassFile.FieldType.int)) ∈ lw_all := lw_g (lw_at lw_m7 159 rfl) rfl
theorem q1721 : (Jvm.Cond.methodLink "LeapJoinModel" (357 : Nat) ({ cls := "LeapJoinModel", name := "triesOrders", desc := "()V" } : Jvm.MethodName)) ∈ lw_all := lw_g (lw_at lw_m7 160 rfl) rfl
theorem q1722 : (Jvm.Cond.privateMethod ({ cls := "LeapJoinModel", name := "triesOrders", desc := "()V" } : Jvm.MethodName)) ∈ lw_tbl := lw_at lw_m7 161 rfl
theorem q1723 : (Jvm.Cond.instanceMethod ({ cls := "LeapJoinModel", name := "triesOrders", desc := "()V" } : Jvm.MethodName)) ∈ lw_all := lw_g (lw_at lw_m7 162 rfl) rfl
theorem q1724 : (Jvm.Cond.code ({ cls := "LeapJoinModel", name := "triesOrders", desc := "()V" } : Jvm.MethodName) prog_13_method_86_code (2 : Nat) (Option.none : Option Jvm.ClassFile.FieldType)) ∈ lw_all := lw_g (lw_at lw_m7 163 rfl) rfl
theorem q1726 : (Jvm.Cond.instanceMethod ({ cls := "LeapJoinModel", name := "plain", desc := "()I" } : Jvm.MethodName)) ∈ lw_all := lw_g (lw_at lw_m7 165 rfl) rfl
theorem q1727 : (Jvm.Cond.selects "LeapJoinModel" ({ cls := "LeapJoinModel", name := "plain", desc := "()I" } : Jvm.MethodName) ({ cls := "LeapJoinModel", name := "plain", desc := "()I" } : Jvm.MethodName)) ∈ lw_all := lw_g (lw_at lw_m7 166 rfl) rfl
theorem q1728 : (Jvm.Cond.code ({ cls := "LeapJoinModel", name := "plain", desc := "()I" } : Jvm.MethodName) prog_13_method_88_code (3 : Nat) (Option.some Jvm.ClassFile.FieldType.int)) ∈ lw_all := lw_g (lw_at lw_m7 167 rfl) rfl
theorem q1730 : (Jvm.Cond.instanceMethod ({ cls := "LeapJoinModel", name := "given", desc := "(I)I" } : Jvm.MethodName)) ∈ lw_all := lw_g (lw_at lw_m7 169 rfl) rfl
theorem q1731 : (Jvm.Cond.selects "LeapJoinModel" ({ cls := "LeapJoinModel", name := "given", desc := "(I)I" } : Jvm.MethodName) ({ cls := "LeapJoinModel", name := "given", desc := "(I)I" } : Jvm.MethodName)) ∈ lw_all := lw_g (lw_at lw_m7 170 rfl) rfl
theorem q1732 : (Jvm.Cond.code ({ cls := "LeapJoinModel", name := "given", desc := "(I)I" } : Jvm.MethodName) prog_13_method_91_code (2 : Nat) (Option.some Jvm.ClassFile.FieldType.int)) ∈ lw_all := lw_g (lw_at lw_m7 171 rfl) rfl
theorem q1733 : (Jvm.Cond.methodLink "LeapJoinModel" (363 : Nat) ({ cls := "LeapJoinModel", name := "givenBy", desc := "(I)I" } : Jvm.MethodName)) ∈ lw_all := lw_g (lw_at lw_m7 172 rfl) rfl
theorem q1734 : (Jvm.Cond.privateMethod ({ cls := "LeapJoinModel", name := "givenBy", desc := "(I)I" } : Jvm.MethodName)) ∈ lw_tbl := lw_at lw_m7 173 rfl
theorem q1735 : (Jvm.Cond.instanceMethod ({ cls := "LeapJoinModel", name := "givenBy", desc := "(I)I" } : Jvm.MethodName)) ∈ lw_all := lw_g (lw_at lw_m7 174 rfl) rfl
theorem q1736 : (Jvm.Cond.code ({ cls := "LeapJoinModel", name := "givenBy", desc := "(I)I" } : Jvm.MethodName) prog_13_method_90_code (5 : Nat) (Option.some Jvm.ClassFile.FieldType.int)) ∈ lw_all := lw_g (lw_at lw_m7 175 rfl) rfl
theorem q1737 : (Jvm.Cond.methodLink "LeapJoinModel" (360 : Nat) ({ cls := "LeapJoinModel", name := "isOf", desc := "(III)Z" } : Jvm.MethodName)) ∈ lw_all := lw_g (lw_at lw_m7 176 rfl) rfl
theorem q1738 : (Jvm.Cond.privateMethod ({ cls := "LeapJoinModel", name := "isOf", desc := "(III)Z" } : Jvm.MethodName)) ∈ lw_tbl := lw_at lw_m7 177 rfl
theorem q1739 : (Jvm.Cond.instanceMethod ({ cls := "LeapJoinModel", name := "isOf", desc := "(III)Z" } : Jvm.MethodName)) ∈ lw_all := lw_g (lw_at lw_m7 178 rfl) rfl
theorem q1740 : (Jvm.Cond.code ({ cls := "LeapJoinModel", name := "isOf", desc := "(III)Z" } : Jvm.MethodName) prog_13_method_89_code (6 : Nat) (Option.some Jvm.ClassFile.FieldType.boolean)) ∈ lw_all := lw_g (lw_at lw_m7 179 rfl) rfl
theorem q1742 : (Jvm.Cond.instanceMethod ({ cls := "LeapJoinModel", name := "without", desc := "(I)I" } : Jvm.MethodName)) ∈ lw_all := lw_g (lw_at lw_m7 181 rfl) rfl
theorem q1743 : (Jvm.Cond.selects "LeapJoinModel" ({ cls := "LeapJoinModel", name := "without", desc := "(I)I" } : Jvm.MethodName) ({ cls := "LeapJoinModel", name := "without", desc := "(I)I" } : Jvm.MethodName)) ∈ lw_all := lw_g (lw_at lw_m7 182 rfl) rfl
theorem q1744 : (Jvm.Cond.code ({ cls := "LeapJoinModel", name := "without", desc := "(I)I" } : Jvm.MethodName) prog_13_method_92_code (4 : Nat) (Option.some Jvm.ClassFile.FieldType.int)) ∈ lw_all := lw_g (lw_at lw_m7 183 rfl) rfl
theorem q1746 : (Jvm.Cond.instanceMethod ({ cls := "LeapJoinModel", name := "projected", desc := "(I)I" } : Jvm.MethodName)) ∈ lw_all := lw_g (lw_at lw_m7 185 rfl) rfl
theorem q1747 : (Jvm.Cond.selects "LeapJoinModel" ({ cls := "LeapJoinModel", name := "projected", desc := "(I)I" } : Jvm.MethodName) ({ cls := "LeapJoinModel", name := "projected", desc := "(I)I" } : Jvm.MethodName)) ∈ lw_all := lw_g (lw_at lw_m7 186 rfl) rfl
theorem q1748 : (Jvm.Cond.code ({ cls := "LeapJoinModel", name := "projected", desc := "(I)I" } : Jvm.MethodName) prog_13_method_94_code (6 : Nat) (Option.some Jvm.ClassFile.FieldType.int)) ∈ lw_all := lw_g (lw_at lw_m7 187 rfl) rfl
theorem q1749 : (Jvm.Cond.methodLink "LeapJoinModel" (366 : Nat) ({ cls := "LeapJoinModel", name := "counts", desc := "()V" } : Jvm.MethodName)) ∈ lw_all := lw_g (lw_at lw_m7 188 rfl) rfl
theorem q1750 : (Jvm.Cond.privateMethod ({ cls := "LeapJoinModel", name := "counts", desc := "()V" } : Jvm.MethodName)) ∈ lw_tbl := lw_at lw_m7 189 rfl
theorem q1751 : (Jvm.Cond.instanceMethod ({ cls := "LeapJoinModel", name := "counts", desc := "()V" } : Jvm.MethodName)) ∈ lw_all := lw_g (lw_at lw_m7 190 rfl) rfl
theorem q1752 : (Jvm.Cond.code ({ cls := "LeapJoinModel", name := "counts", desc := "()V" } : Jvm.MethodName) prog_13_method_93_code (3 : Nat) (Option.none : Option Jvm.ClassFile.FieldType)) ∈ lw_all := lw_g (lw_at lw_m7 191 rfl) rfl
theorem q1754 : (Jvm.Cond.instanceMethod ({ cls := "LeapJoinModel", name := "times", desc := "(II)I" } : Jvm.MethodName)) ∈ lw_all := lw_g (lw_at lw_m7 193 rfl) rfl
theorem q1755 : (Jvm.Cond.selects "LeapJoinModel" ({ cls := "LeapJoinModel", name := "times", desc := "(II)I" } : Jvm.MethodName) ({ cls := "LeapJoinModel", name := "times", desc := "(II)I" } : Jvm.MethodName)) ∈ lw_all := lw_g (lw_at lw_m7 194 rfl) rfl
theorem q1756 : (Jvm.Cond.code ({ cls := "LeapJoinModel", name := "times", desc := "(II)I" } : Jvm.MethodName) prog_13_method_95_code (3 : Nat) (Option.some Jvm.ClassFile.FieldType.int)) ∈ lw_all := lw_g (lw_at lw_m7 195 rfl) rfl
theorem q1758 : (Jvm.Cond.instanceMethod ({ cls := "LeapJoinModel", name := "distinct", desc := "(II)I" } : Jvm.MethodName)) ∈ lw_all := lw_g (lw_at lw_m7 197 rfl) rfl
theorem q1759 : (Jvm.Cond.selects "LeapJoinModel" ({ cls := "LeapJoinModel", name := "distinct", desc := "(II)I" } : Jvm.MethodName) ({ cls := "LeapJoinModel", name := "distinct", desc := "(II)I" } : Jvm.MethodName)) ∈ lw_all := lw_g (lw_at lw_m7 198 rfl) rfl
theorem q1760 : (Jvm.Cond.code ({ cls := "LeapJoinModel", name := "distinct", desc := "(II)I" } : Jvm.MethodName) prog_13_method_97_code (3 : Nat) (Option.some Jvm.ClassFile.FieldType.int)) ∈ lw_all := lw_g (lw_at lw_m7 199 rfl) rfl
theorem q1761 : (Jvm.Cond.methodLink "LeapJoinModel" (369 : Nat) ({ cls := "LeapJoinModel", name := "extremeOf", desc := "(II)I" } : Jvm.MethodName)) ∈ lw_all := lw_g (lw_at lw_m7 200 rfl) rfl
theorem q1762 : (Jvm.Cond.privateMethod ({ cls := "LeapJoinModel", name := "extremeOf", desc := "(II)I" } : Jvm.MethodName)) ∈ lw_tbl := lw_at lw_m7 201 rfl
theorem q1763 : (Jvm.Cond.instanceMethod ({ cls := "LeapJoinModel", name := "extremeOf", desc := "(II)I" } : Jvm.MethodName)) ∈ lw_all := lw_g (lw_at lw_m7 202 rfl) rfl
theorem q1764 : (Jvm.Cond.code ({ cls := "LeapJoinModel", name := "extremeOf", desc := "(II)I" } : Jvm.MethodName) prog_13_method_96_code (7 : Nat) (Option.some Jvm.ClassFile.FieldType.int)) ∈ lw_all := lw_g (lw_at lw_m7 203 rfl) rfl
theorem q1766 : (Jvm.Cond.instanceMethod ({ cls := "LeapJoinModel", name := "tells", desc := "(II)Z" } : Jvm.MethodName)) ∈ lw_all := lw_g (lw_at lw_m7 205 rfl) rfl
theorem q1767 : (Jvm.Cond.selects "LeapJoinModel" ({ cls := "LeapJoinModel", name := "tells", desc := "(II)Z" } : Jvm.MethodName) ({ cls := "LeapJoinModel", name := "tells", desc := "(II)Z" } : Jvm.MethodName)) ∈ lw_all := lw_g (lw_at lw_m7 206 rfl) rfl
theorem q1768 : (Jvm.Cond.code ({ cls := "LeapJoinModel", name := "tells", desc := "(II)Z" } : Jvm.MethodName) prog_13_method_99_code (3 : Nat) (Option.some Jvm.ClassFile.FieldType.boolean)) ∈ lw_all := lw_g (lw_at lw_m7 207 rfl) rfl
theorem q1769 : (Jvm.Cond.methodLink "LeapJoinModel" (372 : Nat) ({ cls := "LeapJoinModel", name := "isTold", desc := "(II)Z" } : Jvm.MethodName)) ∈ lw_all := lw_g (lw_at lw_m7 208 rfl) rfl
theorem q1770 : (Jvm.Cond.privateMethod ({ cls := "LeapJoinModel", name := "isTold", desc := "(II)Z" } : Jvm.MethodName)) ∈ lw_tbl := lw_at lw_m7 209 rfl
theorem q1771 : (Jvm.Cond.instanceMethod ({ cls := "LeapJoinModel", name := "isTold", desc := "(II)Z" } : Jvm.MethodName)) ∈ lw_all := lw_g (lw_at lw_m7 210 rfl) rfl
theorem q1772 : (Jvm.Cond.code ({ cls := "LeapJoinModel", name := "isTold", desc := "(II)Z" } : Jvm.MethodName) prog_13_method_98_code (6 : Nat) (Option.some Jvm.ClassFile.FieldType.boolean)) ∈ lw_all := lw_g (lw_at lw_m7 211 rfl) rfl
theorem q1774 : (Jvm.Cond.instanceMethod ({ cls := "LeapJoinModel", name := "behind", desc := "(IIII)I" } : Jvm.MethodName)) ∈ lw_all := lw_g (lw_at lw_m7 213 rfl) rfl
theorem q1775 : (Jvm.Cond.selects "LeapJoinModel" ({ cls := "LeapJoinModel", name := "behind", desc := "(IIII)I" } : Jvm.MethodName) ({ cls := "LeapJoinModel", name := "behind", desc := "(IIII)I" } : Jvm.MethodName)) ∈ lw_all := lw_g (lw_at lw_m7 214 rfl) rfl
theorem q1776 : (Jvm.Cond.code ({ cls := "LeapJoinModel", name := "behind", desc := "(IIII)I" } : Jvm.MethodName) prog_13_method_102_code (6 : Nat) (Option.some Jvm.ClassFile.FieldType.int)) ∈ lw_all := lw_g (lw_at lw_m7 215 rfl) rfl
theorem q1777 : (Jvm.Cond.methodLink "LeapJoinModel" (375 : Nat) ({ cls := "LeapJoinModel", name := "takesFour", desc := "(IIII)V" } : Jvm.MethodName)) ∈ lw_all := lw_g (lw_at lw_m7 216 rfl) rfl
theorem q1778 : (Jvm.Cond.privateMethod ({ cls := "LeapJoinModel", name := "takesFour", desc := "(IIII)V" } : Jvm.MethodName)) ∈ lw_tbl := lw_at lw_m7 217 rfl
theorem q1779 : (Jvm.Cond.instanceMethod ({ cls := "LeapJoinModel", name := "takesFour", desc := "(IIII)V" } : Jvm.MethodName)) ∈ lw_all := lw_g (lw_at lw_m7 218 rfl) rfl
theorem q1780 : (Jvm.Cond.code ({ cls := "LeapJoinModel", name := "takesFour", desc := "(IIII)V" } : Jvm.MethodName) prog_13_method_100_code (5 : Nat) (Option.none : Option Jvm.ClassFile.FieldType)) ∈ lw_all := lw_g (lw_at lw_m7 219 rfl) rfl
theorem q1781 : (Jvm.Cond.methodLink "LeapJoinModel" (379 : Nat) ({ cls := "LeapJoinModel", name := "comparesFour", desc := "(I)I" } : Jvm.MethodName)) ∈ lw_all := lw_g (lw_at lw_m7 220 rfl) rfl
theorem q1782 : (Jvm.Cond.privateMethod ({ cls := "LeapJoinModel", name := "comparesFour", desc := "(I)I" } : Jvm.MethodName)) ∈ lw_tbl := lw_at lw_m7 221 rfl
theorem q1783 : (Jvm.Cond.instanceMethod ({ cls := "LeapJoinModel", name := "comparesFour", desc := "(I)I" } : Jvm.MethodName)) ∈ lw_all := lw_g (lw_at lw_m7 222 rfl) rfl
theorem q1784 : (Jvm.Cond.code ({ cls := "LeapJoinModel", name := "comparesFour", desc := "(I)I" } : Jvm.MethodName) prog_13_method_101_code (4 : Nat) (Option.some Jvm.ClassFile.FieldType.int)) ∈ lw_all := lw_g (lw_at lw_m7 223 rfl) rfl
theorem q1786 : (Jvm.Cond.instanceMethod ({ cls := "LeapJoinModel", name := "has", desc := "(IIII)Z" } : Jvm.MethodName)) ∈ lw_all := lw_g (lw_at lw_m7 225 rfl) rfl
theorem q1787 : (Jvm.Cond.selects "LeapJoinModel" ({ cls := "LeapJoinModel", name := "has", desc := "(IIII)Z" } : Jvm.MethodName) ({ cls := "LeapJoinModel", name := "has", desc := "(IIII)Z" } : Jvm.MethodName)) ∈ lw_all := lw_g (lw_at lw_m7 226 rfl) rfl
theorem q1788 : (Jvm.Cond.code ({ cls := "LeapJoinModel", name := "has", desc := "(IIII)Z" } : Jvm.MethodName) prog_13_method_103_code (6 : Nat) (Option.some Jvm.ClassFile.FieldType.boolean)) ∈ lw_all := lw_g (lw_at lw_m7 227 rfl) rfl
theorem q1790 : (Jvm.Cond.instanceMethod ({ cls := "LeapJoinModel", name := "mean", desc := "(I)J" } : Jvm.MethodName)) ∈ lw_all := lw_g (lw_at lw_m7 229 rfl) rfl
theorem q1791 : (Jvm.Cond.selects "LeapJoinModel" ({ cls := "LeapJoinModel", name := "mean", desc := "(I)J" } : Jvm.MethodName) ({ cls := "LeapJoinModel", name := "mean", desc := "(I)J" } : Jvm.MethodName)) ∈ lw_all := lw_g (lw_at lw_m7 230 rfl) rfl
theorem q1792 : (Jvm.Cond.code ({ cls := "LeapJoinModel", name := "mean", desc := "(I)J" } : Jvm.MethodName) prog_13_method_106_code (2 : Nat) (Option.some Jvm.ClassFile.FieldType.long)) ∈ lw_all := lw_g (lw_at lw_m7 231 rfl) rfl
theorem q1793 : (Jvm.Cond.methodLink "LeapJoinModel" (382 : Nat) ({ cls := "LeapJoinModel", name := "hasMean", desc := "(I)Z" } : Jvm.MethodName)) ∈ lw_all := lw_g (lw_at lw_m7 232 rfl) rfl
theorem q1794 : (Jvm.Cond.privateMethod ({ cls := "LeapJoinModel", name := "hasMean", desc := "(I)Z" } : Jvm.MethodName)) ∈ lw_tbl := lw_at lw_m7 233 rfl
theorem q1795 : (Jvm.Cond.instanceMethod ({ cls := "LeapJoinModel", name := "hasMean", desc := "(I)Z" } : Jvm.MethodName)) ∈ lw_all := lw_g (lw_at lw_m7 234 rfl) rfl
theorem q1796 : (Jvm.Cond.code ({ cls := "LeapJoinModel", name := "hasMean", desc := "(I)Z" } : Jvm.MethodName) prog_13_method_104_code (2 : Nat) (Option.some Jvm.ClassFile.FieldType.boolean)) ∈ lw_all := lw_g (lw_at lw_m7 235 rfl) rfl
theorem q1797 : (Jvm.Cond.methodLink "LeapJoinModel" (385 : Nat) ({ cls := "LeapJoinModel", name := "meanOf", desc := "(I)D" } : Jvm.MethodName)) ∈ lw_all := lw_g (lw_at lw_m7 236 rfl) rfl
theorem q1798 : (Jvm.Cond.privateMethod ({ cls := "LeapJoinModel", name := "meanOf", desc := "(I)D" } : Jvm.MethodName)) ∈ lw_tbl := lw_at lw_m7 237 rfl
theorem q1799 : (Jvm.Cond.instanceMethod ({ cls := "LeapJoinModel", name := "meanOf", desc := "(I)D" } : Jvm.MethodName)) ∈ lw_all := lw_g (lw_at lw_m7 238 rfl) rfl
theorem q1800 : (Jvm.Cond.code ({ cls := "LeapJoinModel", name := "meanOf", desc := "(I)D" } : Jvm.MethodName) prog_13_method_105_code (5 : Nat) (Option.some Jvm.ClassFile.FieldType.double)) ∈ lw_all := lw_g (lw_at lw_m7 239 rfl) rfl
theorem q1801 : (Jvm.Cond.methodLink "LeapJoinModel" (389 : Nat) ({ cls := "java/lang/Double", name := "doubleToLongBits", desc := "(D)J" } : Jvm.MethodName)) ∈ lw_all := lw_g (lw_at lw_m8 0 rfl) rfl
theorem q1802 : (Jvm.Cond.constantLong "LeapJoinModel" (395 : Nat) (-1000000 : Int64)) ∈ lw_all := lw_g (lw_at lw_m8 1 rfl) rfl
theorem q1804 : (Jvm.Cond.instanceMethod ({ cls := "LeapJoinModel", name := "meanAs", desc := "(II)I" } : Jvm.MethodName)) ∈ lw_all := lw_g (lw_at lw_m8 3 rfl) rfl
theorem q1805 : (Jvm.Cond.selects "LeapJoinModel" ({ cls := "LeapJoinModel", name := "meanAs", desc := "(II)I" } : Jvm.MethodName) ({ cls := "LeapJoinModel", name := "meanAs", desc := "(II)I" } : Jvm.MethodName)) ∈ lw_all := lw_g (lw_at lw_m8 4 rfl) rfl
theorem q1806 : (Jvm.Cond.code ({ cls := "LeapJoinModel", name := "meanAs", desc := "(II)I" } : Jvm.MethodName) prog_13_method_107_code (3 : Nat) (Option.some Jvm.ClassFile.FieldType.int)) ∈ lw_all := lw_g (lw_at lw_m8 5 rfl) rfl
theorem q1807 : (Jvm.Cond.methodLink "LeapJoinModel" (397 : Nat) ({ cls := "java/lang/Float", name := "floatToIntBits", desc := "(F)I" } : Jvm.MethodName)) ∈ lw_all := lw_g (lw_at lw_m8 6 rfl) rfl
theorem q1809 : (Jvm.Cond.instanceMethod ({ cls := "LeapJoinModel", name := "spread", desc := "(I)J" } : Jvm.MethodName)) ∈ lw_all := lw_g (lw_at lw_m8 8 rfl) rfl
theorem q1810 : (Jvm.Cond.selects "LeapJoinModel" ({ cls := "LeapJoinModel", name := "spread", desc := "(I)J" } : Jvm.MethodName) ({ cls := "LeapJoinModel", name := "spread", desc := "(I)J" } : Jvm.MethodName)) ∈ lw_all := lw_g (lw_at lw_m8 9 rfl) rfl
theorem q1811 : (Jvm.Cond.code ({ cls := "LeapJoinModel", name := "spread", desc := "(I)J" } : Jvm.MethodName) prog_13_method_108_code (9 : Nat) (Option.some Jvm.ClassFile.FieldType.long)) ∈ lw_all := lw_g (lw_at lw_m8 10 rfl) rfl
theorem q1813 : (Jvm.Cond.instanceMethod ({ cls := "LeapJoinModel", name := "skew", desc := "(I)I" } : Jvm.MethodName)) ∈ lw_all := lw_g (lw_at lw_m8 12 rfl) rfl
theorem q1814 : (Jvm.Cond.selects "LeapJoinModel" ({ cls := "LeapJoinModel", name := "skew", desc := "(I)I" } : Jvm.MethodName) ({ cls := "LeapJoinModel", name := "skew", desc := "(I)I" } : Jvm.MethodName)) ∈ lw_all := lw_g (lw_at lw_m8 13 rfl) rfl
theorem q1815 : (Jvm.Cond.code ({ cls := "LeapJoinModel", name := "skew", desc := "(I)I" } : Jvm.MethodName) prog_13_method_109_code (3 : Nat) (Option.some Jvm.ClassFile.FieldType.int)) ∈ lw_all := lw_g (lw_at lw_m8 14 rfl) rfl
theorem q1817 : (Jvm.Cond.instanceMethod ({ cls := "LeapJoinModel", name := "would", desc := "(IIIII)I" } : Jvm.MethodName)) ∈ lw_all := lw_g (lw_at lw_m8 16 rfl) rfl
theorem q1818 : (Jvm.Cond.selects "LeapJoinModel" ({ cls := "LeapJoinModel", name := "would", desc := "(IIIII)I" } : Jvm.MethodName) ({ cls := "LeapJoinModel", name := "would", desc := "(IIIII)I" } : Jvm.MethodName)) ∈ lw_all := lw_g (lw_at lw_m8 17 rfl) rfl
theorem q1819 : (Jvm.Cond.code ({ cls := "LeapJoinModel", name := "would", desc := "(IIIII)I" } : Jvm.MethodName) prog_13_method_112_code (6 : Nat) (Option.some Jvm.ClassFile.FieldType.int)) ∈ lw_all := lw_g (lw_at lw_m8 18 rfl) rfl
theorem q1820 : (Jvm.Cond.methodLink "LeapJoinModel" (403 : Nat) ({ cls := "LeapJoinModel", name := "putAside", desc := "()V" } : Jvm.MethodName)) ∈ lw_all := lw_g (lw_at lw_m8 19 rfl) rfl
theorem q1821 : (Jvm.Cond.privateMethod ({ cls := "LeapJoinModel", name := "putAside", desc := "()V" } : Jvm.MethodName)) ∈ lw_tbl := lw_at lw_m8 20 rfl
theorem q1822 : (Jvm.Cond.instanceMethod ({ cls := "LeapJoinModel", name := "putAside", desc := "()V" } : Jvm.MethodName)) ∈ lw_all := lw_g (lw_at lw_m8 21 rfl) rfl
theorem q1823 : (Jvm.Cond.code ({ cls := "LeapJoinModel", name := "putAside", desc := "()V" } : Jvm.MethodName) prog_13_method_110_code (2 : Nat) (Option.none : Option Jvm.ClassFile.FieldType)) ∈ lw_all := lw_g (lw_at lw_m8 22 rfl) rfl
theorem q1824 : (Jvm.Cond.methodLink "LeapJoinModel" (406 : Nat) ({ cls := "LeapJoinModel", name := "bringBack", desc := "()V" } : Jvm.MethodName)) ∈ lw_all := lw_g (lw_at lw_m8 23 rfl) rfl
theorem q1825 : (Jvm.Cond.privateMethod ({ cls := "LeapJoinModel", name := "bringBack", desc := "()V" } : Jvm.MethodName)) ∈ lw_tbl := lw_at lw_m8 24 rfl
theorem q1826 : (Jvm.Cond.instanceMethod ({ cls := "LeapJoinModel", name := "bringBack", desc := "()V" } : Jvm.MethodName)) ∈ lw_all := lw_g (lw_at lw_m8 25 rfl) rfl
theorem q1827 : (Jvm.Cond.code ({ cls := "LeapJoinModel", name := "bringBack", desc := "()V" } : Jvm.MethodName) prog_13_method_111_code (2 : Nat) (Option.none : Option Jvm.ClassFile.FieldType)) ∈ lw_all := lw_g (lw_at lw_m8 26 rfl) rfl
theorem q1829 : (Jvm.Cond.instanceMethod ({ cls := "LeapJoinModel", name := "step", desc := "(III)I" } : Jvm.MethodName)) ∈ lw_all := lw_g (lw_at lw_m8 28 rfl) rfl
theorem q1830 : (Jvm.Cond.selects "LeapJoinModel" ({ cls := "LeapJoinModel", name := "step", desc := "(III)I" } : Jvm.MethodName) ({ cls := "LeapJoinModel", name := "step", desc := "(III)I" } : Jvm.MethodName)) ∈ lw_all := lw_g (lw_at lw_m8 29 rfl) rfl
theorem q1831 : (Jvm.Cond.code ({ cls := "LeapJoinModel", name := "step", desc := "(III)I" } : Jvm.MethodName) prog_13_method_114_code (4 : Nat) (Option.some Jvm.ClassFile.FieldType.int)) ∈ lw_all := lw_g (lw_at lw_m8 30 rfl) rfl
theorem q1832 : (Jvm.Cond.methodLink "LeapJoinModel" (409 : Nat) ({ cls := "LeapJoinModel", name := "isScript", desc := "(I)Z" } : Jvm.MethodName)) ∈ lw_all := lw_g (lw_at lw_m8 31 rfl) rfl
theorem q1833 : (Jvm.Cond.privateMethod ({ cls := "LeapJoinModel", name := "isScript", desc := "(I)Z" } : Jvm.MethodName)) ∈ lw_tbl := lw_at lw_m8 32 rfl
theorem q1834 : (Jvm.Cond.instanceMethod ({ cls := "LeapJoinModel", name := "isScript", desc := "(I)Z" } : Jvm.MethodName)) ∈ lw_all := lw_g (lw_at lw_m8 33 rfl) rfl
theorem q1835 : (Jvm.Cond.code ({ cls := "LeapJoinModel", name := "isScript", desc := "(I)Z" } : Jvm.MethodName) prog_13_method_113_code (2 : Nat) (Option.some Jvm.ClassFile.FieldType.boolean)) ∈ lw_all := lw_g (lw_at lw_m8 34 rfl) rfl
theorem q1837 : (Jvm.Cond.instanceMethod ({ cls := "LeapJoinModel", name := "run", desc := "(II)I" } : Jvm.MethodName)) ∈ lw_all := lw_g (lw_at lw_m8 36 rfl) rfl
theorem q1838 : (Jvm.Cond.selects "LeapJoinModel" ({ cls := "LeapJoinModel", name := "run", desc := "(II)I" } : Jvm.MethodName) ({ cls := "LeapJoinModel", name := "run", desc := "(II)I" } : Jvm.MethodName)) ∈ lw_all := lw_g (lw_at lw_m8 37 rfl) rfl
theorem q1839 : (Jvm.Cond.code ({ cls := "LeapJoinModel", name := "run", desc := "(II)I" } : Jvm.MethodName) prog_13_method_116_code (5 : Nat) (Option.some Jvm.ClassFile.FieldType.int)) ∈ lw_all := lw_g (lw_at lw_m8 38 rfl) rfl
theorem q1840 : (Jvm.Cond.methodLink "LeapJoinModel" (412 : Nat) ({ cls := "LeapJoinModel", name := "goSteps", desc := "(IZ)I" } : Jvm.MethodName)) ∈ lw_all := lw_g (lw_at lw_m8 39 rfl) rfl
theorem q1841 : (Jvm.Cond.privateMethod ({ cls := "LeapJoinModel", name := "goSteps", desc := "(IZ)I" } : Jvm.MethodName)) ∈ lw_tbl := lw_at lw_m8 40 rfl
theorem q1842 : (Jvm.Cond.instanceMethod ({ cls := "LeapJoinModel", name := "goSteps", desc := "(IZ)I" } : Jvm.MethodName)) ∈ lw_all := lw_g (lw_at lw_m8 41 rfl) rfl
theorem q1843 : (Jvm.Cond.code ({ cls := "LeapJoinModel", name := "goSteps", desc := "(IZ)I" } : Jvm.MethodName) prog_13_method_115_code (5 : Nat) (Option.some Jvm.ClassFile.FieldType.int)) ∈ lw_all := lw_g (lw_at lw_m8 42 rfl) rfl
theorem q1845 : (Jvm.Cond.instanceMethod ({ cls := "LeapJoinModel", name := "perform", desc := "(I)I" } : Jvm.MethodName)) ∈ lw_all := lw_g (lw_at lw_m8 44 rfl) rfl
theorem q1846 : (Jvm.Cond.selects "LeapJoinModel" ({ cls := "LeapJoinModel", name := "perform", desc := "(I)I" } : Jvm.MethodName) ({ cls := "LeapJoinModel", name := "perform", desc := "(I)I" } : Jvm.MethodName)) ∈ lw_all := lw_g (lw_at lw_m8 45 rfl) rfl
theorem q1847 : (Jvm.Cond.code ({ cls := "LeapJoinModel", name := "perform", desc := "(I)I" } : Jvm.MethodName) prog_13_method_117_code (2 : Nat) (Option.some Jvm.ClassFile.FieldType.int)) ∈ lw_all := lw_g (lw_at lw_m8 46 rfl) rfl
theorem q1849 : (Jvm.Cond.instanceMethod ({ cls := "LeapJoinModel", name := "most", desc := "(I)I" } : Jvm.MethodName)) ∈ lw_all := lw_g (lw_at lw_m8 48 rfl) rfl
theorem q1850 : (Jvm.Cond.selects "LeapJoinModel" ({ cls := "LeapJoinModel", name := "most", desc := "(I)I" } : Jvm.MethodName) ({ cls := "LeapJoinModel", name := "most", desc := "(I)I" } : Jvm.MethodName)) ∈ lw_all := lw_g (lw_at lw_m8 49 rfl) rfl
theorem q1851 : (Jvm.Cond.code ({ cls := "LeapJoinModel", name := "most", desc := "(I)I" } : Jvm.MethodName) prog_13_method_122_code (2 : Nat) (Option.some Jvm.ClassFile.FieldType.int)) ∈ lw_all := lw_g (lw_at lw_m8 50 rfl) rfl
theorem q1852 : (Jvm.Cond.methodLink "LeapJoinModel" (419 : Nat) ({ cls := "LeapJoinModel", name := "sumOfRows", desc := "()I" } : Jvm.MethodName)) ∈ lw_all := lw_g (lw_at lw_m8 51 rfl) rfl
theorem q1853 : (Jvm.Cond.privateMethod ({ cls := "LeapJoinModel", name := "sumOfRows", desc := "()I" } : Jvm.MethodName)) ∈ lw_tbl := lw_at lw_m8 52 rfl
theorem q1854 : (Jvm.Cond.instanceMethod ({ cls := "LeapJoinModel", name := "sumOfRows", desc := "()I" } : Jvm.MethodName)) ∈ lw_all := lw_g (lw_at lw_m8 53 rfl) rfl
theorem q1855 : (Jvm.Cond.code ({ cls := "LeapJoinModel", name := "sumOfRows", desc := "()I" } : Jvm.MethodName) prog_13_method_118_code (5 : Nat) (Option.some Jvm.ClassFile.FieldType.int)) ∈ lw_all := lw_g (lw_at lw_m8 54 rfl) rfl
theorem q1856 : (Jvm.Cond.methodLink "LeapJoinModel" (422 : Nat) ({ cls := "LeapJoinModel", name := "greatestTable", desc := "(Z)I" } : Jvm.MethodName)) ∈ lw_all := lw_g (lw_at lw_m8 55 rfl) rfl
theorem q1857 : (Jvm.Cond.privateMethod ({ cls := "LeapJoinModel", name := "greatestTable", desc := "(Z)I" } : Jvm.MethodName)) ∈ lw_tbl := lw_at lw_m8 56 rfl
theorem q1858 : (Jvm.Cond.instanceMethod ({ cls := "LeapJoinModel", name := "greatestTable", desc := "(Z)I" } : Jvm.MethodName)) ∈ lw_all := lw_g (lw_at lw_m8 57 rfl) rfl
theorem q1859 : (Jvm.Cond.code ({ cls := "LeapJoinModel", name := "greatestTable", desc := "(Z)I" } : Jvm.MethodName) prog_13_method_119_code (5 : Nat) (Option.some Jvm.ClassFile.FieldType.int)) ∈ lw_all := lw_g (lw_at lw_m8 58 rfl) rfl
theorem q1860 : (Jvm.Cond.methodLink "LeapJoinModel" (416 : Nat) ({ cls := "LeapJoinModel", name := "bits", desc := "(I)I" } : Jvm.MethodName)) ∈ lw_all := lw_g (lw_at lw_m8 59 rfl) rfl
theorem q1861 : (Jvm.Cond.static ({ cls := "LeapJoinModel", name := "bits", desc := "(I)I" } : Jvm.MethodName)) ∈ lw_all := lw_g (lw_at lw_m8 60 rfl) rfl
theorem q1862 : (Jvm.Cond.code ({ cls := "LeapJoinModel", name := "bits", desc := "(I)I" } : Jvm.MethodName) prog_13_method_3_code (3 : Nat) (Option.some Jvm.ClassFile.FieldType.int)) ∈ lw_all := lw_g (lw_at lw_m8 61 rfl) rfl
theorem q1863 : (Jvm.Cond.methodLink "LeapJoinModel" (426 : Nat) ({ cls := "LeapJoinModel", name := "notGiven", desc := "()I" } : Jvm.MethodName)) ∈ lw_all := lw_g (lw_at lw_m8 62 rfl) rfl
theorem q1864 : (Jvm.Cond.privateMethod ({ cls := "LeapJoinModel", name := "notGiven", desc := "()I" } : Jvm.MethodName)) ∈ lw_tbl := lw_at lw_m8 63 rfl
theorem q1865 : (Jvm.Cond.instanceMethod ({ cls := "LeapJoinModel", name := "notGiven", desc := "()I" } : Jvm.MethodName)) ∈ lw_all := lw_g (lw_at lw_m8 64 rfl) rfl
theorem q1866 : (Jvm.Cond.code ({ cls := "LeapJoinModel", name := "notGiven", desc := "()I" } : Jvm.MethodName) prog_13_method_120_code (3 : Nat) (Option.some Jvm.ClassFile.FieldType.int)) ∈ lw_all := lw_g (lw_at lw_m8 65 rfl) rfl
theorem q1867 : (Jvm.Cond.methodLink "LeapJoinModel" (429 : Nat) ({ cls := "LeapJoinModel", name := "couples", desc := "()I" } : Jvm.MethodName)) ∈ lw_all := lw_g (lw_at lw_m8 66 rfl) rfl
theorem q1868 : (Jvm.Cond.privateMethod ({ cls := "LeapJoinModel", name := "couples", desc := "()I" } : Jvm.MethodName)) ∈ lw_tbl := lw_at lw_m8 67 rfl
theorem q1869 : (Jvm.Cond.instanceMethod ({ cls := "LeapJoinModel", name := "couples", desc := "()I" } : Jvm.MethodName)) ∈ lw_all := lw_g (lw_at lw_m8 68 rfl) rfl
theorem q1870 : (Jvm.Cond.code ({ cls := "LeapJoinModel", name := "couples", desc := "()I" } : Jvm.MethodName) prog_13_method_121_code (4 : Nat) (Option.some Jvm.ClassFile.FieldType.int)) ∈ lw_all := lw_g (lw_at lw_m8 69 rfl) rfl
theorem q1872 : (Jvm.Cond.instanceMethod ({ cls := "LeapJoinModel", name := "image", desc := "()I" } : Jvm.MethodName)) ∈ lw_all := lw_g (lw_at lw_m8 71 rfl) rfl
theorem q1873 : (Jvm.Cond.selects "LeapJoinModel" ({ cls := "LeapJoinModel", name := "image", desc := "()I" } : Jvm.MethodName) ({ cls := "LeapJoinModel", name := "image", desc := "()I" } : Jvm.MethodName)) ∈ lw_all := lw_g (lw_at lw_m8 72 rfl) rfl
theorem q1874 : (Jvm.Cond.code ({ cls := "LeapJoinModel", name := "image", desc := "()I" } : Jvm.MethodName) prog_13_method_123_code (2 : Nat) (Option.some Jvm.ClassFile.FieldType.int)) ∈ lw_all := lw_g (lw_at lw_m8 73 rfl) rfl
theorem q1876 : (Jvm.Cond.instanceMethod ({ cls := "LeapJoinModel", name := "back", desc := "()I" } : Jvm.MethodName)) ∈ lw_all := lw_g (lw_at lw_m8 75 rfl) rfl
theorem q1877 : (Jvm.Cond.selects "LeapJoinModel" ({ cls := "LeapJoinModel", name := "back", desc := "()I" } : Jvm.MethodName) ({ cls := "LeapJoinModel", name := "back", desc := "()I" } : Jvm.MethodName)) ∈ lw_all := lw_g (lw_at lw_m8 76 rfl) rfl
theorem q1878 : (Jvm.Cond.code ({ cls := "LeapJoinModel", name := "back", desc := "()I" } : Jvm.MethodName) prog_13_method_124_code (2 : Nat) (Option.some Jvm.ClassFile.FieldType.int)) ∈ lw_all := lw_g (lw_at lw_m8 77 rfl) rfl
theorem q1880 : (Jvm.Cond.instanceMethod ({ cls := "LeapJoinModel", name := "count", desc := "(I)I" } : Jvm.MethodName)) ∈ lw_all := lw_g (lw_at lw_m8 79 rfl) rfl
theorem q1881 : (Jvm.Cond.selects "LeapJoinModel" ({ cls := "LeapJoinModel", name := "count", desc := "(I)I" } : Jvm.MethodName) ({ cls := "LeapJoinModel", name := "count", desc := "(I)I" } : Jvm.MethodName)) ∈ lw_all := lw_g (lw_at lw_m8 80 rfl) rfl
theorem q1882 : (Jvm.Cond.code ({ cls := "LeapJoinModel", name := "count", desc := "(I)I" } : Jvm.MethodName) prog_13_method_125_code (2 : Nat) (Option.some Jvm.ClassFile.FieldType.int)) ∈ lw_all := lw_g (lw_at lw_m8 81 rfl) rfl
theorem q1902 : (Jvm.Cond.castable "LeapJoinModel" "java/lang/Object") ∈ lw_tbl := lw_at lw_m8 101 rfl
theorem in_X4 : ∀ w ∈ wsX40, w ∈ lw_all := lw_in wsX40 [1298, 1300, 1302, 1304, 1306, 1308, 1310, 1312, 1314, 1316, 1318, 1320, 1322, 1324, 1326, 1328, 1330, 1332, 1334, 1336, 1338, 1340, 1342, 1344, 1346, 1348, 1350, 1352, 1354, 1356, 1358, 1360, 1362, 1364, 1366, 1368, 1370, 1372, 1374, 1376, 1378, 1380, 1382] (by decide +kernel) (by decide +kernel)
