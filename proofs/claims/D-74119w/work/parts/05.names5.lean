/-! LeapJoin -/
set_option maxRecDepth 100000
def RX1 : String := "LeapJoin"
def TX1 : u_T := fun k => match k with
  | 0 => ("LeapJoin", "tape", "[B", true)
  | 1 => ("LeapJoin", "length", "I", false)
  | 2 => ("LeapJoin", "scripts", "[LLeapJoin$Script;", true)
  | 3 => ("LeapJoin", "refused", "[I", true)
  | 4 => ("LeapJoin", "tablesRead", "[LLeapJoin$Table;", true)
  | 5 => ("LeapJoin", "scriptMany", "I", false)
  | 6 => ("LeapJoin", "readMany", "I", false)
  | 7 => ("LeapJoin", "many", "I", false)
  | 8 => ("LeapJoin", "scriptRead", "LLeapJoin$Script;", false)
  | 9 => ("LeapJoin", "now", "LLeapJoin$State;", true)
  | 10 => ("LeapJoin", "image", "LLeapJoin$State;", true)
  | 11 => ("LeapJoin", "trial", "LLeapJoin$State;", true)
  | 12 => ("LeapJoin", "before", "LLeapJoin$State;", true)
  | 13 => ("LeapJoin", "join", "LLeapJoin$Join;", true)
  | 14 => ("LeapJoin", "backs", "[LLeapJoin$State;", true)
  | 15 => ("LeapJoin", "undos", "I", false)
  | 16 => ("LeapJoin", "undoAt", "I", false)
  | 17 => ("LeapJoin", "x", "J", false)
  | 18 => ("LeapJoin", "codes", "[I", true)
  | 19 => ("LeapJoin", "image1", "[I", true)
  | 20 => ("LeapJoin", "sought", "[I", true)
  | _ => ("LeapJoin", "hasImage", "Z", false)
def tyX1 : Nat → FieldType := fun k => match k with
  | 0 => .array .byte
  | 1 => .int
  | 2 => .array (.object "LeapJoin$Script")
  | 3 => .array .int
  | 4 => .array (.object "LeapJoin$Table")
  | 5 => .int
  | 6 => .int
  | 7 => .int
  | 8 => .object "LeapJoin$Script"
  | 9 => .object "LeapJoin$State"
  | 10 => .object "LeapJoin$State"
  | 11 => .object "LeapJoin$State"
  | 12 => .object "LeapJoin$State"
  | 13 => .object "LeapJoin$Join"
  | 14 => .array (.object "LeapJoin$State")
  | 15 => .int
  | 16 => .int
  | 17 => .long
  | 18 => .array .int
  | 19 => .array .int
  | 20 => .array .int
  | _ => .boolean
abbrev wsX10 : List Cond := u_ws RX1 TX1 22
set_option maxRecDepth 100000 in
theorem nmX1 : ∀ a, a < 22 → ∀ b, b < 22 → a ≠ b → (TX1 a).2.1 ≠ (TX1 b).2.1 := by decide +kernel
set_option maxRecDepth 100000 in
theorem tyX1_ok : ∀ k, k < 22 → parseFieldDescriptor (TX1 k).2.2.1 = some (tyX1 k) := by decide +kernel
abbrev cX1_feed : ByteArray := prog_1_method_3_code
def yX1_feed : MethodName := ⟨RX1, "feed", "(IIIII)I"⟩
def dkwX1_feed_3 : List UInt8 := [182, 0, 11, 42, 180, 0, 7, 172]
abbrev dktX1_feed_3 : List UInt8 := dkwX1_feed_3 ++ []
def dkwX1_feed_2 : List UInt8 := [182, 0, 11, 42, 28, 182, 0, 11, 42, 29, 182, 0, 11, 42, 21, 4, 182, 0, 11, 42, 21, 5]
abbrev dktX1_feed_2 : List UInt8 := dkwX1_feed_2 ++ dktX1_feed_3
def dkwX1_feed_1 : List UInt8 := [184, 0, 1, 96, 54, 6, 42, 180, 0, 7, 21, 6, 96, 17, 1, 144, 164, 0, 5, 2, 172, 42, 27]
abbrev dktX1_feed_1 : List UInt8 := dkwX1_feed_1 ++ dktX1_feed_2
def dkwX1_feed_0 : List UInt8 := [27, 184, 0, 1, 28, 184, 0, 1, 96, 29, 184, 0, 1, 96, 21, 4, 184, 0, 1, 96, 21, 5]
abbrev dktX1_feed_0 : List UInt8 := dkwX1_feed_0 ++ dktX1_feed_1
theorem dksX1_feed_0 : cX1_feed.data.toList.drop 0 = dktX1_feed_0 := by decide +kernel
theorem dksX1_feed_1 : cX1_feed.data.toList.drop 22 = dktX1_feed_1 := dk_seg dksX1_feed_0 22 rfl rfl
theorem dksX1_feed_2 : cX1_feed.data.toList.drop 45 = dktX1_feed_2 := dk_seg dksX1_feed_1 23 rfl rfl
theorem dksX1_feed_3 : cX1_feed.data.toList.drop 67 = dktX1_feed_3 := dk_seg dksX1_feed_2 22 rfl rfl
theorem dX1_feed_0 : decode cX1_feed 0 = .ok (.iload_n 1, 1) := dk_27 (dk_at dksX1_feed_0 0 rfl rfl)
theorem dX1_feed_1 : decode cX1_feed 1 = .ok (.invokestatic 1, 3) := dk_184 0 1 (dk_at dksX1_feed_0 1 rfl rfl)
theorem dX1_feed_4 : decode cX1_feed 4 = .ok (.iload_n 2, 1) := dk_28 (dk_at dksX1_feed_0 4 rfl rfl)
theorem dX1_feed_5 : decode cX1_feed 5 = .ok (.invokestatic 1, 3) := dk_184 0 1 (dk_at dksX1_feed_0 5 rfl rfl)
theorem dX1_feed_8 : decode cX1_feed 8 = .ok (.iadd, 1) := dk_96 (dk_at dksX1_feed_0 8 rfl rfl)
theorem dX1_feed_9 : decode cX1_feed 9 = .ok (.iload_n 3, 1) := dk_29 (dk_at dksX1_feed_0 9 rfl rfl)
theorem dX1_feed_10 : decode cX1_feed 10 = .ok (.invokestatic 1, 3) := dk_184 0 1 (dk_at dksX1_feed_0 10 rfl rfl)
theorem dX1_feed_13 : decode cX1_feed 13 = .ok (.iadd, 1) := dk_96 (dk_at dksX1_feed_0 13 rfl rfl)
theorem dX1_feed_14 : decode cX1_feed 14 = .ok (.iload 4, 2) := dk_21 4 (dk_at dksX1_feed_0 14 rfl rfl)
theorem dX1_feed_16 : decode cX1_feed 16 = .ok (.invokestatic 1, 3) := dk_184 0 1 (dk_at dksX1_feed_0 16 rfl rfl)
theorem dX1_feed_19 : decode cX1_feed 19 = .ok (.iadd, 1) := dk_96 (dk_at dksX1_feed_0 19 rfl rfl)
theorem dX1_feed_20 : decode cX1_feed 20 = .ok (.iload 5, 2) := dk_21 5 (dk_at dksX1_feed_0 20 rfl rfl)
theorem dX1_feed_22 : decode cX1_feed 22 = .ok (.invokestatic 1, 3) := dk_184 0 1 (dk_at dksX1_feed_1 0 rfl rfl)
theorem dX1_feed_25 : decode cX1_feed 25 = .ok (.iadd, 1) := dk_96 (dk_at dksX1_feed_1 3 rfl rfl)
theorem dX1_feed_26 : decode cX1_feed 26 = .ok (.istore 6, 2) := dk_54 6 (dk_at dksX1_feed_1 4 rfl rfl)
theorem dX1_feed_28 : decode cX1_feed 28 = .ok (.aload_n 0, 1) := dk_42 (dk_at dksX1_feed_1 6 rfl rfl)
theorem dX1_feed_29 : decode cX1_feed 29 = .ok (.getfield 7, 3) := dk_180 0 7 (dk_at dksX1_feed_1 7 rfl rfl)
theorem dX1_feed_32 : decode cX1_feed 32 = .ok (.iload 6, 2) := dk_21 6 (dk_at dksX1_feed_1 10 rfl rfl)
theorem dX1_feed_34 : decode cX1_feed 34 = .ok (.iadd, 1) := dk_96 (dk_at dksX1_feed_1 12 rfl rfl)
theorem dX1_feed_35 : decode cX1_feed 35 = .ok (.sipush 400, 3) := dk_17 1 144 (dk_at dksX1_feed_1 13 rfl rfl)
theorem dX1_feed_38 : decode cX1_feed 38 = .ok (.if_icmp .le 5, 3) := dk_164 0 5 (dk_at dksX1_feed_1 16 rfl rfl)
theorem dX1_feed_41 : decode cX1_feed 41 = .ok (.iconst (-1), 1) := dk_2 (dk_at dksX1_feed_1 19 rfl rfl)
theorem dX1_feed_42 : decode cX1_feed 42 = .ok (.ireturn, 1) := dk_172 (dk_at dksX1_feed_1 20 rfl rfl)
theorem dX1_feed_43 : decode cX1_feed 43 = .ok (.aload_n 0, 1) := dk_42 (dk_at dksX1_feed_1 21 rfl rfl)
theorem dX1_feed_44 : decode cX1_feed 44 = .ok (.iload_n 1, 1) := dk_27 (dk_at dksX1_feed_1 22 rfl rfl)
theorem dX1_feed_45 : decode cX1_feed 45 = .ok (.invokevirtual 11, 3) := dk_182 0 11 (dk_at dksX1_feed_2 0 rfl rfl)
theorem dX1_feed_48 : decode cX1_feed 48 = .ok (.aload_n 0, 1) := dk_42 (dk_at dksX1_feed_2 3 rfl rfl)
theorem dX1_feed_49 : decode cX1_feed 49 = .ok (.iload_n 2, 1) := dk_28 (dk_at dksX1_feed_2 4 rfl rfl)
theorem dX1_feed_50 : decode cX1_feed 50 = .ok (.invokevirtual 11, 3) := dk_182 0 11 (dk_at dksX1_feed_2 5 rfl rfl)
theorem dX1_feed_53 : decode cX1_feed 53 = .ok (.aload_n 0, 1) := dk_42 (dk_at dksX1_feed_2 8 rfl rfl)
theorem dX1_feed_54 : decode cX1_feed 54 = .ok (.iload_n 3, 1) := dk_29 (dk_at dksX1_feed_2 9 rfl rfl)
theorem dX1_feed_55 : decode cX1_feed 55 = .ok (.invokevirtual 11, 3) := dk_182 0 11 (dk_at dksX1_feed_2 10 rfl rfl)
theorem dX1_feed_58 : decode cX1_feed 58 = .ok (.aload_n 0, 1) := dk_42 (dk_at dksX1_feed_2 13 rfl rfl)
theorem dX1_feed_59 : decode cX1_feed 59 = .ok (.iload 4, 2) := dk_21 4 (dk_at dksX1_feed_2 14 rfl rfl)
theorem dX1_feed_61 : decode cX1_feed 61 = .ok (.invokevirtual 11, 3) := dk_182 0 11 (dk_at dksX1_feed_2 16 rfl rfl)
theorem dX1_feed_64 : decode cX1_feed 64 = .ok (.aload_n 0, 1) := dk_42 (dk_at dksX1_feed_2 19 rfl rfl)
theorem dX1_feed_65 : decode cX1_feed 65 = .ok (.iload 5, 2) := dk_21 5 (dk_at dksX1_feed_2 20 rfl rfl)
theorem dX1_feed_67 : decode cX1_feed 67 = .ok (.invokevirtual 11, 3) := dk_182 0 11 (dk_at dksX1_feed_3 0 rfl rfl)
theorem dX1_feed_70 : decode cX1_feed 70 = .ok (.aload_n 0, 1) := dk_42 (dk_at dksX1_feed_3 3 rfl rfl)
theorem dX1_feed_71 : decode cX1_feed 71 = .ok (.getfield 7, 3) := dk_180 0 7 (dk_at dksX1_feed_3 4 rfl rfl)
theorem dX1_feed_74 : decode cX1_feed 74 = .ok (.ireturn, 1) := dk_172 (dk_at dksX1_feed_3 7 rfl rfl)
abbrev cX1_bytes : ByteArray := prog_1_method_4_code
def yX1_bytes : MethodName := ⟨RX1, "bytes", "(I)I"⟩
def dkwX1_bytes_1 : List UInt8 := [3, 96, 60, 132, 2, 248, 167, 255, 231, 27, 172]
abbrev dktX1_bytes_1 : List UInt8 := dkwX1_bytes_1 ++ []
def dkwX1_bytes_0 : List UInt8 := [3, 60, 16, 24, 61, 28, 155, 0, 27, 27, 26, 28, 122, 17, 0, 255, 126, 153, 0, 7, 4, 167, 0, 4]
abbrev dktX1_bytes_0 : List UInt8 := dkwX1_bytes_0 ++ dktX1_bytes_1
theorem dksX1_bytes_0 : cX1_bytes.data.toList.drop 0 = dktX1_bytes_0 := by decide +kernel
theorem dksX1_bytes_1 : cX1_bytes.data.toList.drop 24 = dktX1_bytes_1 := dk_seg dksX1_bytes_0 24 rfl rfl
theorem dX1_bytes_0 : decode cX1_bytes 0 = .ok (.iconst 0, 1) := dk_3 (dk_at dksX1_bytes_0 0 rfl rfl)
theorem dX1_bytes_1 : decode cX1_bytes 1 = .ok (.istore_n 1, 1) := dk_60 (dk_at dksX1_bytes_0 1 rfl rfl)
theorem dX1_bytes_2 : decode cX1_bytes 2 = .ok (.bipush 24, 2) := dk_16 24 (dk_at dksX1_bytes_0 2 rfl rfl)
theorem dX1_bytes_4 : decode cX1_bytes 4 = .ok (.istore_n 2, 1) := dk_61 (dk_at dksX1_bytes_0 4 rfl rfl)
theorem dX1_bytes_5 : decode cX1_bytes 5 = .ok (.iload_n 2, 1) := dk_28 (dk_at dksX1_bytes_0 5 rfl rfl)
theorem dX1_bytes_6 : decode cX1_bytes 6 = .ok (.ifCond .lt 27, 3) := dk_155 0 27 (dk_at dksX1_bytes_0 6 rfl rfl)
theorem dX1_bytes_9 : decode cX1_bytes 9 = .ok (.iload_n 1, 1) := dk_27 (dk_at dksX1_bytes_0 9 rfl rfl)
theorem dX1_bytes_10 : decode cX1_bytes 10 = .ok (.iload_n 0, 1) := dk_26 (dk_at dksX1_bytes_0 10 rfl rfl)
theorem dX1_bytes_11 : decode cX1_bytes 11 = .ok (.iload_n 2, 1) := dk_28 (dk_at dksX1_bytes_0 11 rfl rfl)
theorem dX1_bytes_12 : decode cX1_bytes 12 = .ok (.ishr, 1) := dk_122 (dk_at dksX1_bytes_0 12 rfl rfl)
theorem dX1_bytes_13 : decode cX1_bytes 13 = .ok (.sipush 255, 3) := dk_17 0 255 (dk_at dksX1_bytes_0 13 rfl rfl)
theorem dX1_bytes_16 : decode cX1_bytes 16 = .ok (.iand, 1) := dk_126 (dk_at dksX1_bytes_0 16 rfl rfl)
theorem dX1_bytes_17 : decode cX1_bytes 17 = .ok (.ifCond .eq 7, 3) := dk_153 0 7 (dk_at dksX1_bytes_0 17 rfl rfl)
theorem dX1_bytes_20 : decode cX1_bytes 20 = .ok (.iconst 1, 1) := dk_4 (dk_at dksX1_bytes_0 20 rfl rfl)
theorem dX1_bytes_21 : decode cX1_bytes 21 = .ok (.goto 4, 3) := dk_167 0 4 (dk_at dksX1_bytes_0 21 rfl rfl)
theorem dX1_bytes_24 : decode cX1_bytes 24 = .ok (.iconst 0, 1) := dk_3 (dk_at dksX1_bytes_1 0 rfl rfl)
theorem dX1_bytes_25 : decode cX1_bytes 25 = .ok (.iadd, 1) := dk_96 (dk_at dksX1_bytes_1 1 rfl rfl)
theorem dX1_bytes_26 : decode cX1_bytes 26 = .ok (.istore_n 1, 1) := dk_60 (dk_at dksX1_bytes_1 2 rfl rfl)
theorem dX1_bytes_27 : decode cX1_bytes 27 = .ok (.iinc 2 (-8), 3) := dk_132 2 248 (dk_at dksX1_bytes_1 3 rfl rfl)
theorem dX1_bytes_30 : decode cX1_bytes 30 = .ok (.goto (-25), 3) := dk_167 255 231 (dk_at dksX1_bytes_1 6 rfl rfl)
theorem dX1_bytes_33 : decode cX1_bytes 33 = .ok (.iload_n 1, 1) := dk_27 (dk_at dksX1_bytes_1 9 rfl rfl)
theorem dX1_bytes_34 : decode cX1_bytes 34 = .ok (.ireturn, 1) := dk_172 (dk_at dksX1_bytes_1 10 rfl rfl)
abbrev cX1_bring : ByteArray := prog_1_method_5_code
def yX1_bring : MethodName := ⟨RX1, "bring", "(I)V"⟩
def dkwX1_bring_2 : List UInt8 := [167, 255, 213, 177]
abbrev dktX1_bring_2 : List UInt8 := dkwX1_bring_2 ++ []
def dkwX1_bring_1 : List UInt8 := [42, 180, 0, 7, 27, 28, 122, 145, 84, 42, 89, 180, 0, 7, 4, 96, 181, 0, 7, 132, 2, 248]
abbrev dktX1_bring_1 : List UInt8 := dkwX1_bring_1 ++ dktX1_bring_2
def dkwX1_bring_0 : List UInt8 := [16, 24, 61, 28, 155, 0, 45, 27, 28, 122, 17, 0, 255, 126, 154, 0, 6, 167, 0, 26, 42, 180, 0, 15]
abbrev dktX1_bring_0 : List UInt8 := dkwX1_bring_0 ++ dktX1_bring_1
theorem dksX1_bring_0 : cX1_bring.data.toList.drop 0 = dktX1_bring_0 := by decide +kernel
theorem dksX1_bring_1 : cX1_bring.data.toList.drop 24 = dktX1_bring_1 := dk_seg dksX1_bring_0 24 rfl rfl
theorem dksX1_bring_2 : cX1_bring.data.toList.drop 46 = dktX1_bring_2 := dk_seg dksX1_bring_1 22 rfl rfl
theorem dX1_bring_0 : decode cX1_bring 0 = .ok (.bipush 24, 2) := dk_16 24 (dk_at dksX1_bring_0 0 rfl rfl)
theorem dX1_bring_2 : decode cX1_bring 2 = .ok (.istore_n 2, 1) := dk_61 (dk_at dksX1_bring_0 2 rfl rfl)
theorem dX1_bring_3 : decode cX1_bring 3 = .ok (.iload_n 2, 1) := dk_28 (dk_at dksX1_bring_0 3 rfl rfl)
theorem dX1_bring_4 : decode cX1_bring 4 = .ok (.ifCond .lt 45, 3) := dk_155 0 45 (dk_at dksX1_bring_0 4 rfl rfl)
theorem dX1_bring_7 : decode cX1_bring 7 = .ok (.iload_n 1, 1) := dk_27 (dk_at dksX1_bring_0 7 rfl rfl)
theorem dX1_bring_8 : decode cX1_bring 8 = .ok (.iload_n 2, 1) := dk_28 (dk_at dksX1_bring_0 8 rfl rfl)
theorem dX1_bring_9 : decode cX1_bring 9 = .ok (.ishr, 1) := dk_122 (dk_at dksX1_bring_0 9 rfl rfl)
theorem dX1_bring_10 : decode cX1_bring 10 = .ok (.sipush 255, 3) := dk_17 0 255 (dk_at dksX1_bring_0 10 rfl rfl)
theorem dX1_bring_13 : decode cX1_bring 13 = .ok (.iand, 1) := dk_126 (dk_at dksX1_bring_0 13 rfl rfl)
theorem dX1_bring_14 : decode cX1_bring 14 = .ok (.ifCond .ne 6, 3) := dk_154 0 6 (dk_at dksX1_bring_0 14 rfl rfl)
theorem dX1_bring_17 : decode cX1_bring 17 = .ok (.goto 26, 3) := dk_167 0 26 (dk_at dksX1_bring_0 17 rfl rfl)
theorem dX1_bring_20 : decode cX1_bring 20 = .ok (.aload_n 0, 1) := dk_42 (dk_at dksX1_bring_0 20 rfl rfl)
theorem dX1_bring_21 : decode cX1_bring 21 = .ok (.getfield 15, 3) := dk_180 0 15 (dk_at dksX1_bring_0 21 rfl rfl)
theorem dX1_bring_24 : decode cX1_bring 24 = .ok (.aload_n 0, 1) := dk_42 (dk_at dksX1_bring_1 0 rfl rfl)
theorem dX1_bring_25 : decode cX1_bring 25 = .ok (.getfield 7, 3) := dk_180 0 7 (dk_at dksX1_bring_1 1 rfl rfl)
theorem dX1_bring_28 : decode cX1_bring 28 = .ok (.iload_n 1, 1) := dk_27 (dk_at dksX1_bring_1 4 rfl rfl)
theorem dX1_bring_29 : decode cX1_bring 29 = .ok (.iload_n 2, 1) := dk_28 (dk_at dksX1_bring_1 5 rfl rfl)
theorem dX1_bring_30 : decode cX1_bring 30 = .ok (.ishr, 1) := dk_122 (dk_at dksX1_bring_1 6 rfl rfl)
theorem dX1_bring_31 : decode cX1_bring 31 = .ok (.i2b, 1) := dk_145 (dk_at dksX1_bring_1 7 rfl rfl)
theorem dX1_bring_32 : decode cX1_bring 32 = .ok (.bastore, 1) := dk_84 (dk_at dksX1_bring_1 8 rfl rfl)
theorem dX1_bring_33 : decode cX1_bring 33 = .ok (.aload_n 0, 1) := dk_42 (dk_at dksX1_bring_1 9 rfl rfl)
theorem dX1_bring_34 : decode cX1_bring 34 = .ok (.dup, 1) := dk_89 (dk_at dksX1_bring_1 10 rfl rfl)
theorem dX1_bring_35 : decode cX1_bring 35 = .ok (.getfield 7, 3) := dk_180 0 7 (dk_at dksX1_bring_1 11 rfl rfl)
theorem dX1_bring_38 : decode cX1_bring 38 = .ok (.iconst 1, 1) := dk_4 (dk_at dksX1_bring_1 14 rfl rfl)
theorem dX1_bring_39 : decode cX1_bring 39 = .ok (.iadd, 1) := dk_96 (dk_at dksX1_bring_1 15 rfl rfl)
theorem dX1_bring_40 : decode cX1_bring 40 = .ok (.putfield 7, 3) := dk_181 0 7 (dk_at dksX1_bring_1 16 rfl rfl)
theorem dX1_bring_43 : decode cX1_bring 43 = .ok (.iinc 2 (-8), 3) := dk_132 2 248 (dk_at dksX1_bring_1 19 rfl rfl)
theorem dX1_bring_46 : decode cX1_bring 46 = .ok (.goto (-43), 3) := dk_167 255 213 (dk_at dksX1_bring_2 0 rfl rfl)
theorem dX1_bring_49 : decode cX1_bring 49 = .ok (.return_, 1) := dk_177 (dk_at dksX1_bring_2 3 rfl rfl)
abbrev cX1_end : ByteArray := prog_1_method_6_code
def yX1_end : MethodName := ⟨RX1, "end", "(I)Z"⟩
def dkwX1_end_0 : List UInt8 := [27, 155, 0, 11, 27, 42, 180, 0, 7, 164, 0, 5, 3, 172, 42, 27, 181, 0, 7, 4, 172]
abbrev dktX1_end_0 : List UInt8 := dkwX1_end_0 ++ []
theorem dksX1_end_0 : cX1_end.data.toList.drop 0 = dktX1_end_0 := by decide +kernel
theorem dX1_end_0 : decode cX1_end 0 = .ok (.iload_n 1, 1) := dk_27 (dk_at dksX1_end_0 0 rfl rfl)
theorem dX1_end_1 : decode cX1_end 1 = .ok (.ifCond .lt 11, 3) := dk_155 0 11 (dk_at dksX1_end_0 1 rfl rfl)
theorem dX1_end_4 : decode cX1_end 4 = .ok (.iload_n 1, 1) := dk_27 (dk_at dksX1_end_0 4 rfl rfl)
theorem dX1_end_5 : decode cX1_end 5 = .ok (.aload_n 0, 1) := dk_42 (dk_at dksX1_end_0 5 rfl rfl)
theorem dX1_end_6 : decode cX1_end 6 = .ok (.getfield 7, 3) := dk_180 0 7 (dk_at dksX1_end_0 6 rfl rfl)
theorem dX1_end_9 : decode cX1_end 9 = .ok (.if_icmp .le 5, 3) := dk_164 0 5 (dk_at dksX1_end_0 9 rfl rfl)
theorem dX1_end_12 : decode cX1_end 12 = .ok (.iconst 0, 1) := dk_3 (dk_at dksX1_end_0 12 rfl rfl)
theorem dX1_end_13 : decode cX1_end 13 = .ok (.ireturn, 1) := dk_172 (dk_at dksX1_end_0 13 rfl rfl)
theorem dX1_end_14 : decode cX1_end 14 = .ok (.aload_n 0, 1) := dk_42 (dk_at dksX1_end_0 14 rfl rfl)
theorem dX1_end_15 : decode cX1_end 15 = .ok (.iload_n 1, 1) := dk_27 (dk_at dksX1_end_0 15 rfl rfl)
theorem dX1_end_16 : decode cX1_end 16 = .ok (.putfield 7, 3) := dk_181 0 7 (dk_at dksX1_end_0 16 rfl rfl)
theorem dX1_end_19 : decode cX1_end 19 = .ok (.iconst 1, 1) := dk_4 (dk_at dksX1_end_0 19 rfl rfl)
theorem dX1_end_20 : decode cX1_end 20 = .ok (.ireturn, 1) := dk_172 (dk_at dksX1_end_0 20 rfl rfl)
abbrev cX1_init : ByteArray := prog_1_method_7_code
def yX1_init : MethodName := ⟨RX1, "<init>", "()V"⟩
def dkwX1_init_5 : List UInt8 := [188, 10, 181, 0, 73, 42, 7, 188, 10, 181, 0, 76, 42, 3, 181, 0, 79, 177]
abbrev dktX1_init_5 : List UInt8 := dkwX1_init_5 ++ []
def dkwX1_init_4 : List UInt8 := [181, 0, 62, 42, 16, 40, 189, 0, 41, 181, 0, 66, 42, 17, 81, 0, 188, 10, 181, 0, 70, 42, 16, 100]
abbrev dktX1_init_4 : List UInt8 := dkwX1_init_4 ++ dktX1_init_5
def dkwX1_init_3 : List UInt8 := [181, 0, 53, 42, 187, 0, 41, 89, 42, 183, 0, 43, 181, 0, 56, 42, 187, 0, 59, 89, 42, 183, 0, 61]
abbrev dktX1_init_3 : List UInt8 := dkwX1_init_3 ++ dktX1_init_4
def dkwX1_init_2 : List UInt8 := [181, 0, 46, 42, 187, 0, 41, 89, 42, 183, 0, 43, 181, 0, 50, 42, 187, 0, 41, 89, 42, 183, 0, 43]
abbrev dktX1_init_2 : List UInt8 := dkwX1_init_2 ++ dktX1_init_3
def dkwX1_init_1 : List UInt8 := [188, 10, 181, 0, 31, 42, 7, 189, 0, 35, 181, 0, 37, 42, 187, 0, 41, 89, 42, 183, 0, 43]
abbrev dktX1_init_1 : List UInt8 := dkwX1_init_1 ++ dktX1_init_2
def dkwX1_init_0 : List UInt8 := [42, 183, 0, 19, 42, 17, 1, 144, 188, 8, 181, 0, 15, 42, 7, 189, 0, 25, 181, 0, 27, 42, 7]
abbrev dktX1_init_0 : List UInt8 := dkwX1_init_0 ++ dktX1_init_1
theorem dksX1_init_0 : cX1_init.data.toList.drop 0 = dktX1_init_0 := by decide +kernel
theorem dksX1_init_1 : cX1_init.data.toList.drop 23 = dktX1_init_1 := dk_seg dksX1_init_0 23 rfl rfl
theorem dksX1_init_2 : cX1_init.data.toList.drop 45 = dktX1_init_2 := dk_seg dksX1_init_1 22 rfl rfl
theorem dksX1_init_3 : cX1_init.data.toList.drop 69 = dktX1_init_3 := dk_seg dksX1_init_2 24 rfl rfl
theorem dksX1_init_4 : cX1_init.data.toList.drop 93 = dktX1_init_4 := dk_seg dksX1_init_3 24 rfl rfl
theorem dksX1_init_5 : cX1_init.data.toList.drop 117 = dktX1_init_5 := dk_seg dksX1_init_4 24 rfl rfl
theorem dX1_init_0 : decode cX1_init 0 = .ok (.aload_n 0, 1) := dk_42 (dk_at dksX1_init_0 0 rfl rfl)
theorem dX1_init_1 : decode cX1_init 1 = .ok (.invokespecial 19, 3) := dk_183 0 19 (dk_at dksX1_init_0 1 rfl rfl)
theorem dX1_init_4 : decode cX1_init 4 = .ok (.aload_n 0, 1) := dk_42 (dk_at dksX1_init_0 4 rfl rfl)
theorem dX1_init_5 : decode cX1_init 5 = .ok (.sipush 400, 3) := dk_17 1 144 (dk_at dksX1_init_0 5 rfl rfl)
theorem dX1_init_8 : decode cX1_init 8 = .ok (.newarray .byte, 2) := dk_188_8 (dk_at dksX1_init_0 8 rfl rfl)
theorem dX1_init_10 : decode cX1_init 10 = .ok (.putfield 15, 3) := dk_181 0 15 (dk_at dksX1_init_0 10 rfl rfl)
theorem dX1_init_13 : decode cX1_init 13 = .ok (.aload_n 0, 1) := dk_42 (dk_at dksX1_init_0 13 rfl rfl)
theorem dX1_init_14 : decode cX1_init 14 = .ok (.iconst 4, 1) := dk_7 (dk_at dksX1_init_0 14 rfl rfl)
theorem dX1_init_15 : decode cX1_init 15 = .ok (.anewarray 25, 3) := dk_189 0 25 (dk_at dksX1_init_0 15 rfl rfl)
theorem dX1_init_18 : decode cX1_init 18 = .ok (.putfield 27, 3) := dk_181 0 27 (dk_at dksX1_init_0 18 rfl rfl)
theorem dX1_init_21 : decode cX1_init 21 = .ok (.aload_n 0, 1) := dk_42 (dk_at dksX1_init_0 21 rfl rfl)
theorem dX1_init_22 : decode cX1_init 22 = .ok (.iconst 4, 1) := dk_7 (dk_at dksX1_init_0 22 rfl rfl)
theorem dX1_init_23 : decode cX1_init 23 = .ok (.newarray .int, 2) := dk_188_10 (dk_at dksX1_init_1 0 rfl rfl)
theorem dX1_init_25 : decode cX1_init 25 = .ok (.putfield 31, 3) := dk_181 0 31 (dk_at dksX1_init_1 2 rfl rfl)
theorem dX1_init_28 : decode cX1_init 28 = .ok (.aload_n 0, 1) := dk_42 (dk_at dksX1_init_1 5 rfl rfl)
theorem dX1_init_29 : decode cX1_init 29 = .ok (.iconst 4, 1) := dk_7 (dk_at dksX1_init_1 6 rfl rfl)
theorem dX1_init_30 : decode cX1_init 30 = .ok (.anewarray 35, 3) := dk_189 0 35 (dk_at dksX1_init_1 7 rfl rfl)
theorem dX1_init_33 : decode cX1_init 33 = .ok (.putfield 37, 3) := dk_181 0 37 (dk_at dksX1_init_1 10 rfl rfl)
theorem dX1_init_36 : decode cX1_init 36 = .ok (.aload_n 0, 1) := dk_42 (dk_at dksX1_init_1 13 rfl rfl)
theorem dX1_init_37 : decode cX1_init 37 = .ok (.new 41, 3) := dk_187 0 41 (dk_at dksX1_init_1 14 rfl rfl)
theorem dX1_init_40 : decode cX1_init 40 = .ok (.dup, 1) := dk_89 (dk_at dksX1_init_1 17 rfl rfl)
theorem dX1_init_41 : decode cX1_init 41 = .ok (.aload_n 0, 1) := dk_42 (dk_at dksX1_init_1 18 rfl rfl)
theorem dX1_init_42 : decode cX1_init 42 = .ok (.invokespecial 43, 3) := dk_183 0 43 (dk_at dksX1_init_1 19 rfl rfl)
theorem dX1_init_45 : decode cX1_init 45 = .ok (.putfield 46, 3) := dk_181 0 46 (dk_at dksX1_init_2 0 rfl rfl)
theorem dX1_init_48 : decode cX1_init 48 = .ok (.aload_n 0, 1) := dk_42 (dk_at dksX1_init_2 3 rfl rfl)
theorem dX1_init_49 : decode cX1_init 49 = .ok (.new 41, 3) := dk_187 0 41 (dk_at dksX1_init_2 4 rfl rfl)
theorem dX1_init_52 : decode cX1_init 52 = .ok (.dup, 1) := dk_89 (dk_at dksX1_init_2 7 rfl rfl)
theorem dX1_init_53 : decode cX1_init 53 = .ok (.aload_n 0, 1) := dk_42 (dk_at dksX1_init_2 8 rfl rfl)
theorem dX1_init_54 : decode cX1_init 54 = .ok (.invokespecial 43, 3) := dk_183 0 43 (dk_at dksX1_init_2 9 rfl rfl)
theorem dX1_init_57 : decode cX1_init 57 = .ok (.putfield 50, 3) := dk_181 0 50 (dk_at dksX1_init_2 12 rfl rfl)
theorem dX1_init_60 : decode cX1_init 60 = .ok (.aload_n 0, 1) := dk_42 (dk_at dksX1_init_2 15 rfl rfl)
theorem dX1_init_61 : decode cX1_init 61 = .ok (.new 41, 3) := dk_187 0 41 (dk_at dksX1_init_2 16 rfl rfl)
theorem dX1_init_64 : decode cX1_init 64 = .ok (.dup, 1) := dk_89 (dk_at dksX1_init_2 19 rfl rfl)
theorem dX1_init_65 : decode cX1_init 65 = .ok (.aload_n 0, 1) := dk_42 (dk_at dksX1_init_2 20 rfl rfl)
theorem dX1_init_66 : decode cX1_init 66 = .ok (.invokespecial 43, 3) := dk_183 0 43 (dk_at dksX1_init_2 21 rfl rfl)
theorem dX1_init_69 : decode cX1_init 69 = .ok (.putfield 53, 3) := dk_181 0 53 (dk_at dksX1_init_3 0 rfl rfl)
theorem dX1_init_72 : decode cX1_init 72 = .ok (.aload_n 0, 1) := dk_42 (dk_at dksX1_init_3 3 rfl rfl)
theorem dX1_init_73 : decode cX1_init 73 = .ok (.new 41, 3) := dk_187 0 41 (dk_at dksX1_init_3 4 rfl rfl)
theorem dX1_init_76 : decode cX1_init 76 = .ok (.dup, 1) := dk_89 (dk_at dksX1_init_3 7 rfl rfl)
theorem dX1_init_77 : decode cX1_init 77 = .ok (.aload_n 0, 1) := dk_42 (dk_at dksX1_init_3 8 rfl rfl)
theorem dX1_init_78 : decode cX1_init 78 = .ok (.invokespecial 43, 3) := dk_183 0 43 (dk_at dksX1_init_3 9 rfl rfl)
theorem dX1_init_81 : decode cX1_init 81 = .ok (.putfield 56, 3) := dk_181 0 56 (dk_at dksX1_init_3 12 rfl rfl)
theorem dX1_init_84 : decode cX1_init 84 = .ok (.aload_n 0, 1) := dk_42 (dk_at dksX1_init_3 15 rfl rfl)
theorem dX1_init_85 : decode cX1_init 85 = .ok (.new 59, 3) := dk_187 0 59 (dk_at dksX1_init_3 16 rfl rfl)
theorem dX1_init_88 : decode cX1_init 88 = .ok (.dup, 1) := dk_89 (dk_at dksX1_init_3 19 rfl rfl)
theorem dX1_init_89 : decode cX1_init 89 = .ok (.aload_n 0, 1) := dk_42 (dk_at dksX1_init_3 20 rfl rfl)
theorem dX1_init_90 : decode cX1_init 90 = .ok (.invokespecial 61, 3) := dk_183 0 61 (dk_at dksX1_init_3 21 rfl rfl)
theorem dX1_init_93 : decode cX1_init 93 = .ok (.putfield 62, 3) := dk_181 0 62 (dk_at dksX1_init_4 0 rfl rfl)
theorem dX1_init_96 : decode cX1_init 96 = .ok (.aload_n 0, 1) := dk_42 (dk_at dksX1_init_4 3 rfl rfl)
theorem dX1_init_97 : decode cX1_init 97 = .ok (.bipush 40, 2) := dk_16 40 (dk_at dksX1_init_4 4 rfl rfl)
theorem dX1_init_99 : decode cX1_init 99 = .ok (.anewarray 41, 3) := dk_189 0 41 (dk_at dksX1_init_4 6 rfl rfl)
theorem dX1_init_102 : decode cX1_init 102 = .ok (.putfield 66, 3) := dk_181 0 66 (dk_at dksX1_init_4 9 rfl rfl)
theorem dX1_init_105 : decode cX1_init 105 = .ok (.aload_n 0, 1) := dk_42 (dk_at dksX1_init_4 12 rfl rfl)
theorem dX1_init_106 : decode cX1_init 106 = .ok (.sipush 20736, 3) := dk_17 81 0 (dk_at dksX1_init_4 13 rfl rfl)
theorem dX1_init_109 : decode cX1_init 109 = .ok (.newarray .int, 2) := dk_188_10 (dk_at dksX1_init_4 16 rfl rfl)
theorem dX1_init_111 : decode cX1_init 111 = .ok (.putfield 70, 3) := dk_181 0 70 (dk_at dksX1_init_4 18 rfl rfl)
theorem dX1_init_114 : decode cX1_init 114 = .ok (.aload_n 0, 1) := dk_42 (dk_at dksX1_init_4 21 rfl rfl)
theorem dX1_init_115 : decode cX1_init 115 = .ok (.bipush 100, 2) := dk_16 100 (dk_at dksX1_init_4 22 rfl rfl)
theorem dX1_init_117 : decode cX1_init 117 = .ok (.newarray .int, 2) := dk_188_10 (dk_at dksX1_init_5 0 rfl rfl)
theorem dX1_init_119 : decode cX1_init 119 = .ok (.putfield 73, 3) := dk_181 0 73 (dk_at dksX1_init_5 2 rfl rfl)
theorem dX1_init_122 : decode cX1_init 122 = .ok (.aload_n 0, 1) := dk_42 (dk_at dksX1_init_5 5 rfl rfl)
theorem dX1_init_123 : decode cX1_init 123 = .ok (.iconst 4, 1) := dk_7 (dk_at dksX1_init_5 6 rfl rfl)
theorem dX1_init_124 : decode cX1_init 124 = .ok (.newarray .int, 2) := dk_188_10 (dk_at dksX1_init_5 7 rfl rfl)
theorem dX1_init_126 : decode cX1_init 126 = .ok (.putfield 76, 3) := dk_181 0 76 (dk_at dksX1_init_5 9 rfl rfl)
theorem dX1_init_129 : decode cX1_init 129 = .ok (.aload_n 0, 1) := dk_42 (dk_at dksX1_init_5 12 rfl rfl)
theorem dX1_init_130 : decode cX1_init 130 = .ok (.iconst 0, 1) := dk_3 (dk_at dksX1_init_5 13 rfl rfl)
theorem dX1_init_131 : decode cX1_init 131 = .ok (.putfield 79, 3) := dk_181 0 79 (dk_at dksX1_init_5 14 rfl rfl)
theorem dX1_init_134 : decode cX1_init 134 = .ok (.return_, 1) := dk_177 (dk_at dksX1_init_5 17 rfl rfl)
abbrev cX1_fault : ByteArray := prog_1_method_8_code
def yX1_fault : MethodName := ⟨RX1, "fault", "(I)I"⟩
def dkwX1_fault_2 : List UInt8 := [181, 0, 100, 2, 172, 77, 44, 180, 0, 106, 172]
abbrev dktX1_fault_2 : List UInt8 := dkwX1_fault_2 ++ []
def dkwX1_fault_1 : List UInt8 := [154, 0, 18, 42, 44, 42, 180, 0, 37, 182, 0, 89, 181, 0, 93, 167, 0, 11, 42, 44, 182, 0, 96]
abbrev dktX1_fault_1 : List UInt8 := dkwX1_fault_1 ++ dktX1_fault_2
def dkwX1_fault_0 : List UInt8 := [27, 133, 9, 10, 184, 0, 82, 154, 0, 6, 16, 254, 172, 187, 0, 86, 89, 42, 183, 0, 88, 77, 27]
abbrev dktX1_fault_0 : List UInt8 := dkwX1_fault_0 ++ dktX1_fault_1
theorem dksX1_fault_0 : cX1_fault.data.toList.drop 0 = dktX1_fault_0 := by decide +kernel
theorem dksX1_fault_1 : cX1_fault.data.toList.drop 23 = dktX1_fault_1 := dk_seg dksX1_fault_0 23 rfl rfl
theorem dksX1_fault_2 : cX1_fault.data.toList.drop 46 = dktX1_fault_2 := dk_seg dksX1_fault_1 23 rfl rfl
theorem dX1_fault_0 : decode cX1_fault 0 = .ok (.iload_n 1, 1) := dk_27 (dk_at dksX1_fault_0 0 rfl rfl)
theorem dX1_fault_1 : decode cX1_fault 1 = .ok (.i2l, 1) := dk_133 (dk_at dksX1_fault_0 1 rfl rfl)
theorem dX1_fault_2 : decode cX1_fault 2 = .ok (.lconst 0, 1) := dk_9 (dk_at dksX1_fault_0 2 rfl rfl)
theorem dX1_fault_3 : decode cX1_fault 3 = .ok (.lconst 1, 1) := dk_10 (dk_at dksX1_fault_0 3 rfl rfl)
theorem dX1_fault_4 : decode cX1_fault 4 = .ok (.invokestatic 82, 3) := dk_184 0 82 (dk_at dksX1_fault_0 4 rfl rfl)
theorem dX1_fault_7 : decode cX1_fault 7 = .ok (.ifCond .ne 6, 3) := dk_154 0 6 (dk_at dksX1_fault_0 7 rfl rfl)
theorem dX1_fault_10 : decode cX1_fault 10 = .ok (.bipush (-2), 2) := dk_16 254 (dk_at dksX1_fault_0 10 rfl rfl)
theorem dX1_fault_12 : decode cX1_fault 12 = .ok (.ireturn, 1) := dk_172 (dk_at dksX1_fault_0 12 rfl rfl)
theorem dX1_fault_13 : decode cX1_fault 13 = .ok (.new 86, 3) := dk_187 0 86 (dk_at dksX1_fault_0 13 rfl rfl)
theorem dX1_fault_16 : decode cX1_fault 16 = .ok (.dup, 1) := dk_89 (dk_at dksX1_fault_0 16 rfl rfl)
theorem dX1_fault_17 : decode cX1_fault 17 = .ok (.aload_n 0, 1) := dk_42 (dk_at dksX1_fault_0 17 rfl rfl)
theorem dX1_fault_18 : decode cX1_fault 18 = .ok (.invokespecial 88, 3) := dk_183 0 88 (dk_at dksX1_fault_0 18 rfl rfl)
theorem dX1_fault_21 : decode cX1_fault 21 = .ok (.astore_n 2, 1) := dk_77 (dk_at dksX1_fault_0 21 rfl rfl)
theorem dX1_fault_22 : decode cX1_fault 22 = .ok (.iload_n 1, 1) := dk_27 (dk_at dksX1_fault_0 22 rfl rfl)
theorem dX1_fault_23 : decode cX1_fault 23 = .ok (.ifCond .ne 18, 3) := dk_154 0 18 (dk_at dksX1_fault_1 0 rfl rfl)
theorem dX1_fault_26 : decode cX1_fault 26 = .ok (.aload_n 0, 1) := dk_42 (dk_at dksX1_fault_1 3 rfl rfl)
theorem dX1_fault_27 : decode cX1_fault 27 = .ok (.aload_n 2, 1) := dk_44 (dk_at dksX1_fault_1 4 rfl rfl)
theorem dX1_fault_28 : decode cX1_fault 28 = .ok (.aload_n 0, 1) := dk_42 (dk_at dksX1_fault_1 5 rfl rfl)
theorem dX1_fault_29 : decode cX1_fault 29 = .ok (.getfield 37, 3) := dk_180 0 37 (dk_at dksX1_fault_1 6 rfl rfl)
theorem dX1_fault_32 : decode cX1_fault 32 = .ok (.invokevirtual 89, 3) := dk_182 0 89 (dk_at dksX1_fault_1 9 rfl rfl)
theorem dX1_fault_35 : decode cX1_fault 35 = .ok (.putfield 93, 3) := dk_181 0 93 (dk_at dksX1_fault_1 12 rfl rfl)
theorem dX1_fault_38 : decode cX1_fault 38 = .ok (.goto 11, 3) := dk_167 0 11 (dk_at dksX1_fault_1 15 rfl rfl)
theorem dX1_fault_41 : decode cX1_fault 41 = .ok (.aload_n 0, 1) := dk_42 (dk_at dksX1_fault_1 18 rfl rfl)
theorem dX1_fault_42 : decode cX1_fault 42 = .ok (.aload_n 2, 1) := dk_44 (dk_at dksX1_fault_1 19 rfl rfl)
theorem dX1_fault_43 : decode cX1_fault 43 = .ok (.invokevirtual 96, 3) := dk_182 0 96 (dk_at dksX1_fault_1 20 rfl rfl)
theorem dX1_fault_46 : decode cX1_fault 46 = .ok (.putfield 100, 3) := dk_181 0 100 (dk_at dksX1_fault_2 0 rfl rfl)
theorem dX1_fault_49 : decode cX1_fault 49 = .ok (.iconst (-1), 1) := dk_2 (dk_at dksX1_fault_2 3 rfl rfl)
theorem dX1_fault_50 : decode cX1_fault 50 = .ok (.ireturn, 1) := dk_172 (dk_at dksX1_fault_2 4 rfl rfl)
theorem dX1_fault_51 : decode cX1_fault 51 = .ok (.astore_n 2, 1) := dk_77 (dk_at dksX1_fault_2 5 rfl rfl)
theorem dX1_fault_52 : decode cX1_fault 52 = .ok (.aload_n 2, 1) := dk_44 (dk_at dksX1_fault_2 6 rfl rfl)
theorem dX1_fault_53 : decode cX1_fault 53 = .ok (.getfield 106, 3) := dk_180 0 106 (dk_at dksX1_fault_2 7 rfl rfl)
theorem dX1_fault_56 : decode cX1_fault 56 = .ok (.ireturn, 1) := dk_172 (dk_at dksX1_fault_2 10 rfl rfl)
abbrev cX1_isIn : ByteArray := prog_1_method_1_code
def yX1_isIn : MethodName := ⟨RX1, "isIn", "(JJJ)Z"⟩
def dkwX1_isIn_0 : List UInt8 := [30, 32, 148, 155, 0, 14, 30, 22, 4, 148, 157, 0, 7, 4, 167, 0, 4, 3, 172]
abbrev dktX1_isIn_0 : List UInt8 := dkwX1_isIn_0 ++ []
theorem dksX1_isIn_0 : cX1_isIn.data.toList.drop 0 = dktX1_isIn_0 := by decide +kernel
theorem dX1_isIn_0 : decode cX1_isIn 0 = .ok (.lload_n 0, 1) := dk_30 (dk_at dksX1_isIn_0 0 rfl rfl)
theorem dX1_isIn_1 : decode cX1_isIn 1 = .ok (.lload_n 2, 1) := dk_32 (dk_at dksX1_isIn_0 1 rfl rfl)
theorem dX1_isIn_2 : decode cX1_isIn 2 = .ok (.lcmp, 1) := dk_148 (dk_at dksX1_isIn_0 2 rfl rfl)
theorem dX1_isIn_3 : decode cX1_isIn 3 = .ok (.ifCond .lt 14, 3) := dk_155 0 14 (dk_at dksX1_isIn_0 3 rfl rfl)
theorem dX1_isIn_6 : decode cX1_isIn 6 = .ok (.lload_n 0, 1) := dk_30 (dk_at dksX1_isIn_0 6 rfl rfl)
theorem dX1_isIn_7 : decode cX1_isIn 7 = .ok (.lload 4, 2) := dk_22 4 (dk_at dksX1_isIn_0 7 rfl rfl)
theorem dX1_isIn_9 : decode cX1_isIn 9 = .ok (.lcmp, 1) := dk_148 (dk_at dksX1_isIn_0 9 rfl rfl)
theorem dX1_isIn_10 : decode cX1_isIn 10 = .ok (.ifCond .gt 7, 3) := dk_157 0 7 (dk_at dksX1_isIn_0 10 rfl rfl)
theorem dX1_isIn_13 : decode cX1_isIn 13 = .ok (.iconst 1, 1) := dk_4 (dk_at dksX1_isIn_0 13 rfl rfl)
theorem dX1_isIn_14 : decode cX1_isIn 14 = .ok (.goto 4, 3) := dk_167 0 4 (dk_at dksX1_isIn_0 14 rfl rfl)
theorem dX1_isIn_17 : decode cX1_isIn 17 = .ok (.iconst 0, 1) := dk_3 (dk_at dksX1_isIn_0 17 rfl rfl)
theorem dX1_isIn_18 : decode cX1_isIn 18 = .ok (.ireturn, 1) := dk_172 (dk_at dksX1_isIn_0 18 rfl rfl)
abbrev cX1_has : ByteArray := prog_1_method_2_code
def yX1_has : MethodName := ⟨RX1, "has", "(II)Z"⟩
def dkwX1_has_0 : List UInt8 := [26, 27, 122, 4, 126, 4, 160, 0, 7, 4, 167, 0, 4, 3, 172]
abbrev dktX1_has_0 : List UInt8 := dkwX1_has_0 ++ []
theorem dksX1_has_0 : cX1_has.data.toList.drop 0 = dktX1_has_0 := by decide +kernel
theorem dX1_has_0 : decode cX1_has 0 = .ok (.iload_n 0, 1) := dk_26 (dk_at dksX1_has_0 0 rfl rfl)
theorem dX1_has_1 : decode cX1_has 1 = .ok (.iload_n 1, 1) := dk_27 (dk_at dksX1_has_0 1 rfl rfl)
theorem dX1_has_2 : decode cX1_has 2 = .ok (.ishr, 1) := dk_122 (dk_at dksX1_has_0 2 rfl rfl)
theorem dX1_has_3 : decode cX1_has 3 = .ok (.iconst 1, 1) := dk_4 (dk_at dksX1_has_0 3 rfl rfl)
theorem dX1_has_4 : decode cX1_has 4 = .ok (.iand, 1) := dk_126 (dk_at dksX1_has_0 4 rfl rfl)
theorem dX1_has_5 : decode cX1_has 5 = .ok (.iconst 1, 1) := dk_4 (dk_at dksX1_has_0 5 rfl rfl)
theorem dX1_has_6 : decode cX1_has 6 = .ok (.if_icmp .ne 7, 3) := dk_160 0 7 (dk_at dksX1_has_0 6 rfl rfl)
theorem dX1_has_9 : decode cX1_has 9 = .ok (.iconst 1, 1) := dk_4 (dk_at dksX1_has_0 9 rfl rfl)
theorem dX1_has_10 : decode cX1_has 10 = .ok (.goto 4, 3) := dk_167 0 4 (dk_at dksX1_has_0 10 rfl rfl)
theorem dX1_has_13 : decode cX1_has 13 = .ok (.iconst 0, 1) := dk_3 (dk_at dksX1_has_0 13 rfl rfl)
theorem dX1_has_14 : decode cX1_has 14 = .ok (.ireturn, 1) := dk_172 (dk_at dksX1_has_0 14 rfl rfl)
abbrev cX1_text : ByteArray := prog_1_method_9_code
def yX1_text : MethodName := ⟨RX1, "text", "(I)I"⟩
def dkwX1_text_4 : List UInt8 := [181, 0, 121, 42, 180, 0, 79, 172]
abbrev dktX1_text_4 : List UInt8 := dkwX1_text_4 ++ []
def dkwX1_text_3 : List UInt8 := [100, 172, 42, 42, 180, 0, 93, 181, 0, 79, 42, 180, 0, 46, 182, 0, 115, 42, 3, 181, 0, 118, 42, 3]
abbrev dktX1_text_3 : List UInt8 := dkwX1_text_3 ++ dktX1_text_4
def dkwX1_text_2 : List UInt8 := [42, 180, 0, 109, 42, 180, 0, 100, 83, 42, 89, 180, 0, 109, 4, 96, 181, 0, 109, 42, 180, 0, 109, 4]
abbrev dktX1_text_2 : List UInt8 := dkwX1_text_2 ++ dktX1_text_3
def dkwX1_text_1 : List UInt8 := [27, 182, 0, 112, 2, 159, 0, 5, 2, 172, 42, 3, 181, 0, 7, 27, 4, 160, 0, 33, 42, 180, 0, 27]
abbrev dktX1_text_1 : List UInt8 := dkwX1_text_1 ++ dktX1_text_2
def dkwX1_text_0 : List UInt8 := [27, 133, 9, 10, 184, 0, 82, 153, 0, 25, 27, 4, 160, 0, 11, 42, 180, 0, 109, 7, 159, 0, 12, 42]
abbrev dktX1_text_0 : List UInt8 := dkwX1_text_0 ++ dktX1_text_1
theorem dksX1_text_0 : cX1_text.data.toList.drop 0 = dktX1_text_0 := by decide +kernel
theorem dksX1_text_1 : cX1_text.data.toList.drop 24 = dktX1_text_1 := dk_seg dksX1_text_0 24 rfl rfl
theorem dksX1_text_2 : cX1_text.data.toList.drop 48 = dktX1_text_2 := dk_seg dksX1_text_1 24 rfl rfl
theorem dksX1_text_3 : cX1_text.data.toList.drop 72 = dktX1_text_3 := dk_seg dksX1_text_2 24 rfl rfl
theorem dksX1_text_4 : cX1_text.data.toList.drop 96 = dktX1_text_4 := dk_seg dksX1_text_3 24 rfl rfl
theorem dX1_text_0 : decode cX1_text 0 = .ok (.iload_n 1, 1) := dk_27 (dk_at dksX1_text_0 0 rfl rfl)
theorem dX1_text_1 : decode cX1_text 1 = .ok (.i2l, 1) := dk_133 (dk_at dksX1_text_0 1 rfl rfl)
theorem dX1_text_2 : decode cX1_text 2 = .ok (.lconst 0, 1) := dk_9 (dk_at dksX1_text_0 2 rfl rfl)
theorem dX1_text_3 : decode cX1_text 3 = .ok (.lconst 1, 1) := dk_10 (dk_at dksX1_text_0 3 rfl rfl)
theorem dX1_text_4 : decode cX1_text 4 = .ok (.invokestatic 82, 3) := dk_184 0 82 (dk_at dksX1_text_0 4 rfl rfl)
theorem dX1_text_7 : decode cX1_text 7 = .ok (.ifCond .eq 25, 3) := dk_153 0 25 (dk_at dksX1_text_0 7 rfl rfl)
theorem dX1_text_10 : decode cX1_text 10 = .ok (.iload_n 1, 1) := dk_27 (dk_at dksX1_text_0 10 rfl rfl)
theorem dX1_text_11 : decode cX1_text 11 = .ok (.iconst 1, 1) := dk_4 (dk_at dksX1_text_0 11 rfl rfl)
theorem dX1_text_12 : decode cX1_text 12 = .ok (.if_icmp .ne 11, 3) := dk_160 0 11 (dk_at dksX1_text_0 12 rfl rfl)
theorem dX1_text_15 : decode cX1_text 15 = .ok (.aload_n 0, 1) := dk_42 (dk_at dksX1_text_0 15 rfl rfl)
theorem dX1_text_16 : decode cX1_text 16 = .ok (.getfield 109, 3) := dk_180 0 109 (dk_at dksX1_text_0 16 rfl rfl)
theorem dX1_text_19 : decode cX1_text 19 = .ok (.iconst 4, 1) := dk_7 (dk_at dksX1_text_0 19 rfl rfl)
theorem dX1_text_20 : decode cX1_text 20 = .ok (.if_icmp .eq 12, 3) := dk_159 0 12 (dk_at dksX1_text_0 20 rfl rfl)
theorem dX1_text_23 : decode cX1_text 23 = .ok (.aload_n 0, 1) := dk_42 (dk_at dksX1_text_0 23 rfl rfl)
theorem dX1_text_24 : decode cX1_text 24 = .ok (.iload_n 1, 1) := dk_27 (dk_at dksX1_text_1 0 rfl rfl)
theorem dX1_text_25 : decode cX1_text 25 = .ok (.invokevirtual 112, 3) := dk_182 0 112 (dk_at dksX1_text_1 1 rfl rfl)
theorem dX1_text_28 : decode cX1_text 28 = .ok (.iconst (-1), 1) := dk_2 (dk_at dksX1_text_1 4 rfl rfl)
theorem dX1_text_29 : decode cX1_text 29 = .ok (.if_icmp .eq 5, 3) := dk_159 0 5 (dk_at dksX1_text_1 5 rfl rfl)
theorem dX1_text_32 : decode cX1_text 32 = .ok (.iconst (-1), 1) := dk_2 (dk_at dksX1_text_1 8 rfl rfl)
theorem dX1_text_33 : decode cX1_text 33 = .ok (.ireturn, 1) := dk_172 (dk_at dksX1_text_1 9 rfl rfl)
theorem dX1_text_34 : decode cX1_text 34 = .ok (.aload_n 0, 1) := dk_42 (dk_at dksX1_text_1 10 rfl rfl)
theorem dX1_text_35 : decode cX1_text 35 = .ok (.iconst 0, 1) := dk_3 (dk_at dksX1_text_1 11 rfl rfl)
theorem dX1_text_36 : decode cX1_text 36 = .ok (.putfield 7, 3) := dk_181 0 7 (dk_at dksX1_text_1 12 rfl rfl)
theorem dX1_text_39 : decode cX1_text 39 = .ok (.iload_n 1, 1) := dk_27 (dk_at dksX1_text_1 15 rfl rfl)
theorem dX1_text_40 : decode cX1_text 40 = .ok (.iconst 1, 1) := dk_4 (dk_at dksX1_text_1 16 rfl rfl)
theorem dX1_text_41 : decode cX1_text 41 = .ok (.if_icmp .ne 33, 3) := dk_160 0 33 (dk_at dksX1_text_1 17 rfl rfl)
theorem dX1_text_44 : decode cX1_text 44 = .ok (.aload_n 0, 1) := dk_42 (dk_at dksX1_text_1 20 rfl rfl)
theorem dX1_text_45 : decode cX1_text 45 = .ok (.getfield 27, 3) := dk_180 0 27 (dk_at dksX1_text_1 21 rfl rfl)
theorem dX1_text_48 : decode cX1_text 48 = .ok (.aload_n 0, 1) := dk_42 (dk_at dksX1_text_2 0 rfl rfl)
theorem dX1_text_49 : decode cX1_text 49 = .ok (.getfield 109, 3) := dk_180 0 109 (dk_at dksX1_text_2 1 rfl rfl)
theorem dX1_text_52 : decode cX1_text 52 = .ok (.aload_n 0, 1) := dk_42 (dk_at dksX1_text_2 4 rfl rfl)
theorem dX1_text_53 : decode cX1_text 53 = .ok (.getfield 100, 3) := dk_180 0 100 (dk_at dksX1_text_2 5 rfl rfl)
theorem dX1_text_56 : decode cX1_text 56 = .ok (.aastore, 1) := dk_83 (dk_at dksX1_text_2 8 rfl rfl)
theorem dX1_text_57 : decode cX1_text 57 = .ok (.aload_n 0, 1) := dk_42 (dk_at dksX1_text_2 9 rfl rfl)
theorem dX1_text_58 : decode cX1_text 58 = .ok (.dup, 1) := dk_89 (dk_at dksX1_text_2 10 rfl rfl)
theorem dX1_text_59 : decode cX1_text 59 = .ok (.getfield 109, 3) := dk_180 0 109 (dk_at dksX1_text_2 11 rfl rfl)
theorem dX1_text_62 : decode cX1_text 62 = .ok (.iconst 1, 1) := dk_4 (dk_at dksX1_text_2 14 rfl rfl)
theorem dX1_text_63 : decode cX1_text 63 = .ok (.iadd, 1) := dk_96 (dk_at dksX1_text_2 15 rfl rfl)
theorem dX1_text_64 : decode cX1_text 64 = .ok (.putfield 109, 3) := dk_181 0 109 (dk_at dksX1_text_2 16 rfl rfl)
theorem dX1_text_67 : decode cX1_text 67 = .ok (.aload_n 0, 1) := dk_42 (dk_at dksX1_text_2 19 rfl rfl)
theorem dX1_text_68 : decode cX1_text 68 = .ok (.getfield 109, 3) := dk_180 0 109 (dk_at dksX1_text_2 20 rfl rfl)
theorem dX1_text_71 : decode cX1_text 71 = .ok (.iconst 1, 1) := dk_4 (dk_at dksX1_text_2 23 rfl rfl)
theorem dX1_text_72 : decode cX1_text 72 = .ok (.isub, 1) := dk_100 (dk_at dksX1_text_3 0 rfl rfl)
theorem dX1_text_73 : decode cX1_text 73 = .ok (.ireturn, 1) := dk_172 (dk_at dksX1_text_3 1 rfl rfl)
theorem dX1_text_74 : decode cX1_text 74 = .ok (.aload_n 0, 1) := dk_42 (dk_at dksX1_text_3 2 rfl rfl)
theorem dX1_text_75 : decode cX1_text 75 = .ok (.aload_n 0, 1) := dk_42 (dk_at dksX1_text_3 3 rfl rfl)
theorem dX1_text_76 : decode cX1_text 76 = .ok (.getfield 93, 3) := dk_180 0 93 (dk_at dksX1_text_3 4 rfl rfl)
theorem dX1_text_79 : decode cX1_text 79 = .ok (.putfield 79, 3) := dk_181 0 79 (dk_at dksX1_text_3 7 rfl rfl)
theorem dX1_text_82 : decode cX1_text 82 = .ok (.aload_n 0, 1) := dk_42 (dk_at dksX1_text_3 10 rfl rfl)
theorem dX1_text_83 : decode cX1_text 83 = .ok (.getfield 46, 3) := dk_180 0 46 (dk_at dksX1_text_3 11 rfl rfl)
theorem dX1_text_86 : decode cX1_text 86 = .ok (.invokevirtual 115, 3) := dk_182 0 115 (dk_at dksX1_text_3 14 rfl rfl)
theorem dX1_text_89 : decode cX1_text 89 = .ok (.aload_n 0, 1) := dk_42 (dk_at dksX1_text_3 17 rfl rfl)
theorem dX1_text_90 : decode cX1_text 90 = .ok (.iconst 0, 1) := dk_3 (dk_at dksX1_text_3 18 rfl rfl)
theorem dX1_text_91 : decode cX1_text 91 = .ok (.putfield 118, 3) := dk_181 0 118 (dk_at dksX1_text_3 19 rfl rfl)
theorem dX1_text_94 : decode cX1_text 94 = .ok (.aload_n 0, 1) := dk_42 (dk_at dksX1_text_3 22 rfl rfl)
theorem dX1_text_95 : decode cX1_text 95 = .ok (.iconst 0, 1) := dk_3 (dk_at dksX1_text_3 23 rfl rfl)
theorem dX1_text_96 : decode cX1_text 96 = .ok (.putfield 121, 3) := dk_181 0 121 (dk_at dksX1_text_4 0 rfl rfl)
theorem dX1_text_99 : decode cX1_text 99 = .ok (.aload_n 0, 1) := dk_42 (dk_at dksX1_text_4 3 rfl rfl)
theorem dX1_text_100 : decode cX1_text 100 = .ok (.getfield 79, 3) := dk_180 0 79 (dk_at dksX1_text_4 4 rfl rfl)
theorem dX1_text_103 : decode cX1_text 103 = .ok (.ireturn, 1) := dk_172 (dk_at dksX1_text_4 7 rfl rfl)
abbrev cX1_put : ByteArray := prog_1_method_14_code
def yX1_put : MethodName := ⟨RX1, "put", "(IIII)I"⟩
def dkwX1_put_0 : List UInt8 := [42, 3, 27, 28, 29, 21, 4, 182, 0, 167, 172]
abbrev dktX1_put_0 : List UInt8 := dkwX1_put_0 ++ []
theorem dksX1_put_0 : cX1_put.data.toList.drop 0 = dktX1_put_0 := by decide +kernel
theorem dX1_put_0 : decode cX1_put 0 = .ok (.aload_n 0, 1) := dk_42 (dk_at dksX1_put_0 0 rfl rfl)
theorem dX1_put_1 : decode cX1_put 1 = .ok (.iconst 0, 1) := dk_3 (dk_at dksX1_put_0 1 rfl rfl)
theorem dX1_put_2 : decode cX1_put 2 = .ok (.iload_n 1, 1) := dk_27 (dk_at dksX1_put_0 2 rfl rfl)
theorem dX1_put_3 : decode cX1_put 3 = .ok (.iload_n 2, 1) := dk_28 (dk_at dksX1_put_0 3 rfl rfl)
theorem dX1_put_4 : decode cX1_put 4 = .ok (.iload_n 3, 1) := dk_29 (dk_at dksX1_put_0 4 rfl rfl)
theorem dX1_put_5 : decode cX1_put 5 = .ok (.iload 4, 2) := dk_21 4 (dk_at dksX1_put_0 5 rfl rfl)
theorem dX1_put_7 : decode cX1_put 7 = .ok (.invokevirtual 167, 3) := dk_182 0 167 (dk_at dksX1_put_0 7 rfl rfl)
theorem dX1_put_10 : decode cX1_put 10 = .ok (.ireturn, 1) := dk_172 (dk_at dksX1_put_0 10 rfl rfl)
abbrev cX1_act : ByteArray := prog_1_method_13_code
def yX1_act : MethodName := ⟨RX1, "act", "(IIIII)I"⟩
def dkwX1_act_2 : List UInt8 := [79, 2, 172]
abbrev dktX1_act_2 : List UInt8 := dkwX1_act_2 ++ []
def dkwX1_act_1 : List UInt8 := [21, 6, 2, 160, 0, 11, 42, 180, 0, 46, 180, 0, 164, 172, 42, 180, 0, 31, 21, 6, 92, 46, 4, 96]
abbrev dktX1_act_1 : List UInt8 := dkwX1_act_1 ++ dktX1_act_2
def dkwX1_act_0 : List UInt8 := [42, 180, 0, 79, 154, 0, 7, 3, 167, 0, 14, 42, 27, 28, 29, 21, 4, 21, 5, 182, 0, 161, 54, 6]
abbrev dktX1_act_0 : List UInt8 := dkwX1_act_0 ++ dktX1_act_1
theorem dksX1_act_0 : cX1_act.data.toList.drop 0 = dktX1_act_0 := by decide +kernel
theorem dksX1_act_1 : cX1_act.data.toList.drop 24 = dktX1_act_1 := dk_seg dksX1_act_0 24 rfl rfl
theorem dksX1_act_2 : cX1_act.data.toList.drop 48 = dktX1_act_2 := dk_seg dksX1_act_1 24 rfl rfl
theorem dX1_act_0 : decode cX1_act 0 = .ok (.aload_n 0, 1) := dk_42 (dk_at dksX1_act_0 0 rfl rfl)
theorem dX1_act_1 : decode cX1_act 1 = .ok (.getfield 79, 3) := dk_180 0 79 (dk_at dksX1_act_0 1 rfl rfl)
theorem dX1_act_4 : decode cX1_act 4 = .ok (.ifCond .ne 7, 3) := dk_154 0 7 (dk_at dksX1_act_0 4 rfl rfl)
theorem dX1_act_7 : decode cX1_act 7 = .ok (.iconst 0, 1) := dk_3 (dk_at dksX1_act_0 7 rfl rfl)
theorem dX1_act_8 : decode cX1_act 8 = .ok (.goto 14, 3) := dk_167 0 14 (dk_at dksX1_act_0 8 rfl rfl)
theorem dX1_act_11 : decode cX1_act 11 = .ok (.aload_n 0, 1) := dk_42 (dk_at dksX1_act_0 11 rfl rfl)
theorem dX1_act_12 : decode cX1_act 12 = .ok (.iload_n 1, 1) := dk_27 (dk_at dksX1_act_0 12 rfl rfl)
theorem dX1_act_13 : decode cX1_act 13 = .ok (.iload_n 2, 1) := dk_28 (dk_at dksX1_act_0 13 rfl rfl)
theorem dX1_act_14 : decode cX1_act 14 = .ok (.iload_n 3, 1) := dk_29 (dk_at dksX1_act_0 14 rfl rfl)
theorem dX1_act_15 : decode cX1_act 15 = .ok (.iload 4, 2) := dk_21 4 (dk_at dksX1_act_0 15 rfl rfl)
theorem dX1_act_17 : decode cX1_act 17 = .ok (.iload 5, 2) := dk_21 5 (dk_at dksX1_act_0 17 rfl rfl)
theorem dX1_act_19 : decode cX1_act 19 = .ok (.invokevirtual 161, 3) := dk_182 0 161 (dk_at dksX1_act_0 19 rfl rfl)
theorem dX1_act_22 : decode cX1_act 22 = .ok (.istore 6, 2) := dk_54 6 (dk_at dksX1_act_0 22 rfl rfl)
theorem dX1_act_24 : decode cX1_act 24 = .ok (.iload 6, 2) := dk_21 6 (dk_at dksX1_act_1 0 rfl rfl)
theorem dX1_act_26 : decode cX1_act 26 = .ok (.iconst (-1), 1) := dk_2 (dk_at dksX1_act_1 2 rfl rfl)
theorem dX1_act_27 : decode cX1_act 27 = .ok (.if_icmp .ne 11, 3) := dk_160 0 11 (dk_at dksX1_act_1 3 rfl rfl)
theorem dX1_act_30 : decode cX1_act 30 = .ok (.aload_n 0, 1) := dk_42 (dk_at dksX1_act_1 6 rfl rfl)
theorem dX1_act_31 : decode cX1_act 31 = .ok (.getfield 46, 3) := dk_180 0 46 (dk_at dksX1_act_1 7 rfl rfl)
theorem dX1_act_34 : decode cX1_act 34 = .ok (.getfield 164, 3) := dk_180 0 164 (dk_at dksX1_act_1 10 rfl rfl)
theorem dX1_act_37 : decode cX1_act 37 = .ok (.ireturn, 1) := dk_172 (dk_at dksX1_act_1 13 rfl rfl)
theorem dX1_act_38 : decode cX1_act 38 = .ok (.aload_n 0, 1) := dk_42 (dk_at dksX1_act_1 14 rfl rfl)
theorem dX1_act_39 : decode cX1_act 39 = .ok (.getfield 31, 3) := dk_180 0 31 (dk_at dksX1_act_1 15 rfl rfl)
theorem dX1_act_42 : decode cX1_act 42 = .ok (.iload 6, 2) := dk_21 6 (dk_at dksX1_act_1 18 rfl rfl)
theorem dX1_act_44 : decode cX1_act 44 = .ok (.dup2, 1) := dk_92 (dk_at dksX1_act_1 20 rfl rfl)
theorem dX1_act_45 : decode cX1_act 45 = .ok (.iaload, 1) := dk_46 (dk_at dksX1_act_1 21 rfl rfl)
theorem dX1_act_46 : decode cX1_act 46 = .ok (.iconst 1, 1) := dk_4 (dk_at dksX1_act_1 22 rfl rfl)
theorem dX1_act_47 : decode cX1_act 47 = .ok (.iadd, 1) := dk_96 (dk_at dksX1_act_1 23 rfl rfl)
theorem dX1_act_48 : decode cX1_act 48 = .ok (.iastore, 1) := dk_79 (dk_at dksX1_act_2 0 rfl rfl)
theorem dX1_act_49 : decode cX1_act 49 = .ok (.iconst (-1), 1) := dk_2 (dk_at dksX1_act_2 1 rfl rfl)
theorem dX1_act_50 : decode cX1_act 50 = .ok (.ireturn, 1) := dk_172 (dk_at dksX1_act_2 2 rfl rfl)
abbrev cX1_acts : ByteArray := prog_1_method_12_code
def yX1_acts : MethodName := ⟨RX1, "acts", "(IIIII)I"⟩
def dkwX1_acts_5 : List UInt8 := [42, 182, 0, 153, 180, 0, 156, 182, 0, 157, 2, 172]
abbrev dktX1_acts_5 : List UInt8 := dkwX1_acts_5 ++ []
def dkwX1_acts_4 : List UInt8 := [181, 0, 144, 42, 16, 40, 42, 180, 0, 118, 4, 96, 184, 0, 147, 181, 0, 118, 42, 180, 0, 46, 27, 28]
abbrev dktX1_acts_4 : List UInt8 := dkwX1_acts_4 ++ dktX1_acts_5
def dkwX1_acts_3 : List UInt8 := [42, 180, 0, 144, 50, 42, 180, 0, 56, 182, 0, 136, 42, 42, 180, 0, 144, 4, 96, 16, 40, 112]
abbrev dktX1_acts_3 : List UInt8 := dkwX1_acts_3 ++ dktX1_acts_4
def dkwX1_acts_2 : List UInt8 := [199, 0, 20, 42, 180, 0, 66, 42, 180, 0, 144, 187, 0, 41, 89, 42, 183, 0, 43, 83, 42, 180, 0, 66]
abbrev dktX1_acts_2 : List UInt8 := dkwX1_acts_2 ++ dktX1_acts_3
def dkwX1_acts_1 : List UInt8 := [182, 0, 140, 54, 6, 21, 6, 2, 159, 0, 6, 21, 6, 172, 42, 180, 0, 66, 42, 180, 0, 144, 50]
abbrev dktX1_acts_1 : List UInt8 := dkwX1_acts_1 ++ dktX1_acts_2
def dkwX1_acts_0 : List UInt8 := [42, 180, 0, 56, 42, 180, 0, 46, 182, 0, 136, 42, 180, 0, 46, 27, 28, 29, 21, 4, 21, 5]
abbrev dktX1_acts_0 : List UInt8 := dkwX1_acts_0 ++ dktX1_acts_1
theorem dksX1_acts_0 : cX1_acts.data.toList.drop 0 = dktX1_acts_0 := by decide +kernel
theorem dksX1_acts_1 : cX1_acts.data.toList.drop 22 = dktX1_acts_1 := dk_seg dksX1_acts_0 22 rfl rfl
theorem dksX1_acts_2 : cX1_acts.data.toList.drop 45 = dktX1_acts_2 := dk_seg dksX1_acts_1 23 rfl rfl
theorem dksX1_acts_3 : cX1_acts.data.toList.drop 69 = dktX1_acts_3 := dk_seg dksX1_acts_2 24 rfl rfl
theorem dksX1_acts_4 : cX1_acts.data.toList.drop 91 = dktX1_acts_4 := dk_seg dksX1_acts_3 22 rfl rfl
theorem dksX1_acts_5 : cX1_acts.data.toList.drop 115 = dktX1_acts_5 := dk_seg dksX1_acts_4 24 rfl rfl
theorem dX1_acts_0 : decode cX1_acts 0 = .ok (.aload_n 0, 1) := dk_42 (dk_at dksX1_acts_0 0 rfl rfl)
theorem dX1_acts_1 : decode cX1_acts 1 = .ok (.getfield 56, 3) := dk_180 0 56 (dk_at dksX1_acts_0 1 rfl rfl)
theorem dX1_acts_4 : decode cX1_acts 4 = .ok (.aload_n 0, 1) := dk_42 (dk_at dksX1_acts_0 4 rfl rfl)
theorem dX1_acts_5 : decode cX1_acts 5 = .ok (.getfield 46, 3) := dk_180 0 46 (dk_at dksX1_acts_0 5 rfl rfl)
theorem dX1_acts_8 : decode cX1_acts 8 = .ok (.invokevirtual 136, 3) := dk_182 0 136 (dk_at dksX1_acts_0 8 rfl rfl)
theorem dX1_acts_11 : decode cX1_acts 11 = .ok (.aload_n 0, 1) := dk_42 (dk_at dksX1_acts_0 11 rfl rfl)
theorem dX1_acts_12 : decode cX1_acts 12 = .ok (.getfield 46, 3) := dk_180 0 46 (dk_at dksX1_acts_0 12 rfl rfl)
theorem dX1_acts_15 : decode cX1_acts 15 = .ok (.iload_n 1, 1) := dk_27 (dk_at dksX1_acts_0 15 rfl rfl)
theorem dX1_acts_16 : decode cX1_acts 16 = .ok (.iload_n 2, 1) := dk_28 (dk_at dksX1_acts_0 16 rfl rfl)
theorem dX1_acts_17 : decode cX1_acts 17 = .ok (.iload_n 3, 1) := dk_29 (dk_at dksX1_acts_0 17 rfl rfl)
theorem dX1_acts_18 : decode cX1_acts 18 = .ok (.iload 4, 2) := dk_21 4 (dk_at dksX1_acts_0 18 rfl rfl)
theorem dX1_acts_20 : decode cX1_acts 20 = .ok (.iload 5, 2) := dk_21 5 (dk_at dksX1_acts_0 20 rfl rfl)
theorem dX1_acts_22 : decode cX1_acts 22 = .ok (.invokevirtual 140, 3) := dk_182 0 140 (dk_at dksX1_acts_1 0 rfl rfl)
theorem dX1_acts_25 : decode cX1_acts 25 = .ok (.istore 6, 2) := dk_54 6 (dk_at dksX1_acts_1 3 rfl rfl)
theorem dX1_acts_27 : decode cX1_acts 27 = .ok (.iload 6, 2) := dk_21 6 (dk_at dksX1_acts_1 5 rfl rfl)
theorem dX1_acts_29 : decode cX1_acts 29 = .ok (.iconst (-1), 1) := dk_2 (dk_at dksX1_acts_1 7 rfl rfl)
theorem dX1_acts_30 : decode cX1_acts 30 = .ok (.if_icmp .eq 6, 3) := dk_159 0 6 (dk_at dksX1_acts_1 8 rfl rfl)
theorem dX1_acts_33 : decode cX1_acts 33 = .ok (.iload 6, 2) := dk_21 6 (dk_at dksX1_acts_1 11 rfl rfl)
theorem dX1_acts_35 : decode cX1_acts 35 = .ok (.ireturn, 1) := dk_172 (dk_at dksX1_acts_1 13 rfl rfl)
theorem dX1_acts_36 : decode cX1_acts 36 = .ok (.aload_n 0, 1) := dk_42 (dk_at dksX1_acts_1 14 rfl rfl)
theorem dX1_acts_37 : decode cX1_acts 37 = .ok (.getfield 66, 3) := dk_180 0 66 (dk_at dksX1_acts_1 15 rfl rfl)
theorem dX1_acts_40 : decode cX1_acts 40 = .ok (.aload_n 0, 1) := dk_42 (dk_at dksX1_acts_1 18 rfl rfl)
theorem dX1_acts_41 : decode cX1_acts 41 = .ok (.getfield 144, 3) := dk_180 0 144 (dk_at dksX1_acts_1 19 rfl rfl)
theorem dX1_acts_44 : decode cX1_acts 44 = .ok (.aaload, 1) := dk_50 (dk_at dksX1_acts_1 22 rfl rfl)
theorem dX1_acts_45 : decode cX1_acts 45 = .ok (.ifnonnull 20, 3) := dk_199 0 20 (dk_at dksX1_acts_2 0 rfl rfl)
theorem dX1_acts_48 : decode cX1_acts 48 = .ok (.aload_n 0, 1) := dk_42 (dk_at dksX1_acts_2 3 rfl rfl)
theorem dX1_acts_49 : decode cX1_acts 49 = .ok (.getfield 66, 3) := dk_180 0 66 (dk_at dksX1_acts_2 4 rfl rfl)
theorem dX1_acts_52 : decode cX1_acts 52 = .ok (.aload_n 0, 1) := dk_42 (dk_at dksX1_acts_2 7 rfl rfl)
theorem dX1_acts_53 : decode cX1_acts 53 = .ok (.getfield 144, 3) := dk_180 0 144 (dk_at dksX1_acts_2 8 rfl rfl)
theorem dX1_acts_56 : decode cX1_acts 56 = .ok (.new 41, 3) := dk_187 0 41 (dk_at dksX1_acts_2 11 rfl rfl)
theorem dX1_acts_59 : decode cX1_acts 59 = .ok (.dup, 1) := dk_89 (dk_at dksX1_acts_2 14 rfl rfl)
theorem dX1_acts_60 : decode cX1_acts 60 = .ok (.aload_n 0, 1) := dk_42 (dk_at dksX1_acts_2 15 rfl rfl)
theorem dX1_acts_61 : decode cX1_acts 61 = .ok (.invokespecial 43, 3) := dk_183 0 43 (dk_at dksX1_acts_2 16 rfl rfl)
theorem dX1_acts_64 : decode cX1_acts 64 = .ok (.aastore, 1) := dk_83 (dk_at dksX1_acts_2 19 rfl rfl)
theorem dX1_acts_65 : decode cX1_acts 65 = .ok (.aload_n 0, 1) := dk_42 (dk_at dksX1_acts_2 20 rfl rfl)
theorem dX1_acts_66 : decode cX1_acts 66 = .ok (.getfield 66, 3) := dk_180 0 66 (dk_at dksX1_acts_2 21 rfl rfl)
theorem dX1_acts_69 : decode cX1_acts 69 = .ok (.aload_n 0, 1) := dk_42 (dk_at dksX1_acts_3 0 rfl rfl)
theorem dX1_acts_70 : decode cX1_acts 70 = .ok (.getfield 144, 3) := dk_180 0 144 (dk_at dksX1_acts_3 1 rfl rfl)
theorem dX1_acts_73 : decode cX1_acts 73 = .ok (.aaload, 1) := dk_50 (dk_at dksX1_acts_3 4 rfl rfl)
theorem dX1_acts_74 : decode cX1_acts 74 = .ok (.aload_n 0, 1) := dk_42 (dk_at dksX1_acts_3 5 rfl rfl)
theorem dX1_acts_75 : decode cX1_acts 75 = .ok (.getfield 56, 3) := dk_180 0 56 (dk_at dksX1_acts_3 6 rfl rfl)
theorem dX1_acts_78 : decode cX1_acts 78 = .ok (.invokevirtual 136, 3) := dk_182 0 136 (dk_at dksX1_acts_3 9 rfl rfl)
theorem dX1_acts_81 : decode cX1_acts 81 = .ok (.aload_n 0, 1) := dk_42 (dk_at dksX1_acts_3 12 rfl rfl)
theorem dX1_acts_82 : decode cX1_acts 82 = .ok (.aload_n 0, 1) := dk_42 (dk_at dksX1_acts_3 13 rfl rfl)
theorem dX1_acts_83 : decode cX1_acts 83 = .ok (.getfield 144, 3) := dk_180 0 144 (dk_at dksX1_acts_3 14 rfl rfl)
theorem dX1_acts_86 : decode cX1_acts 86 = .ok (.iconst 1, 1) := dk_4 (dk_at dksX1_acts_3 17 rfl rfl)
theorem dX1_acts_87 : decode cX1_acts 87 = .ok (.iadd, 1) := dk_96 (dk_at dksX1_acts_3 18 rfl rfl)
theorem dX1_acts_88 : decode cX1_acts 88 = .ok (.bipush 40, 2) := dk_16 40 (dk_at dksX1_acts_3 19 rfl rfl)
theorem dX1_acts_90 : decode cX1_acts 90 = .ok (.irem, 1) := dk_112 (dk_at dksX1_acts_3 21 rfl rfl)
theorem dX1_acts_91 : decode cX1_acts 91 = .ok (.putfield 144, 3) := dk_181 0 144 (dk_at dksX1_acts_4 0 rfl rfl)
theorem dX1_acts_94 : decode cX1_acts 94 = .ok (.aload_n 0, 1) := dk_42 (dk_at dksX1_acts_4 3 rfl rfl)
theorem dX1_acts_95 : decode cX1_acts 95 = .ok (.bipush 40, 2) := dk_16 40 (dk_at dksX1_acts_4 4 rfl rfl)
theorem dX1_acts_97 : decode cX1_acts 97 = .ok (.aload_n 0, 1) := dk_42 (dk_at dksX1_acts_4 6 rfl rfl)
theorem dX1_acts_98 : decode cX1_acts 98 = .ok (.getfield 118, 3) := dk_180 0 118 (dk_at dksX1_acts_4 7 rfl rfl)
theorem dX1_acts_101 : decode cX1_acts 101 = .ok (.iconst 1, 1) := dk_4 (dk_at dksX1_acts_4 10 rfl rfl)
theorem dX1_acts_102 : decode cX1_acts 102 = .ok (.iadd, 1) := dk_96 (dk_at dksX1_acts_4 11 rfl rfl)
theorem dX1_acts_103 : decode cX1_acts 103 = .ok (.invokestatic 147, 3) := dk_184 0 147 (dk_at dksX1_acts_4 12 rfl rfl)
theorem dX1_acts_106 : decode cX1_acts 106 = .ok (.putfield 118, 3) := dk_181 0 118 (dk_at dksX1_acts_4 15 rfl rfl)
theorem dX1_acts_109 : decode cX1_acts 109 = .ok (.aload_n 0, 1) := dk_42 (dk_at dksX1_acts_4 18 rfl rfl)
theorem dX1_acts_110 : decode cX1_acts 110 = .ok (.getfield 46, 3) := dk_180 0 46 (dk_at dksX1_acts_4 19 rfl rfl)
theorem dX1_acts_113 : decode cX1_acts 113 = .ok (.iload_n 1, 1) := dk_27 (dk_at dksX1_acts_4 22 rfl rfl)
theorem dX1_acts_114 : decode cX1_acts 114 = .ok (.iload_n 2, 1) := dk_28 (dk_at dksX1_acts_4 23 rfl rfl)
theorem dX1_acts_115 : decode cX1_acts 115 = .ok (.aload_n 0, 1) := dk_42 (dk_at dksX1_acts_5 0 rfl rfl)
theorem dX1_acts_116 : decode cX1_acts 116 = .ok (.invokevirtual 153, 3) := dk_182 0 153 (dk_at dksX1_acts_5 1 rfl rfl)
theorem dX1_acts_119 : decode cX1_acts 119 = .ok (.getfield 156, 3) := dk_180 0 156 (dk_at dksX1_acts_5 4 rfl rfl)
theorem dX1_acts_122 : decode cX1_acts 122 = .ok (.invokevirtual 157, 3) := dk_182 0 157 (dk_at dksX1_acts_5 7 rfl rfl)
theorem dX1_acts_125 : decode cX1_acts 125 = .ok (.iconst (-1), 1) := dk_2 (dk_at dksX1_acts_5 10 rfl rfl)
theorem dX1_acts_126 : decode cX1_acts 126 = .ok (.ireturn, 1) := dk_172 (dk_at dksX1_acts_5 11 rfl rfl)
abbrev cX1_joined : ByteArray := prog_1_method_11_code
def yX1_joined : MethodName := ⟨RX1, "joined", "()LLeapJoin$Join;"⟩
def dkwX1_joined_0 : List UInt8 := [42, 42, 180, 0, 46, 182, 0, 132, 176]
abbrev dktX1_joined_0 : List UInt8 := dkwX1_joined_0 ++ []
theorem dksX1_joined_0 : cX1_joined.data.toList.drop 0 = dktX1_joined_0 := by decide +kernel
theorem dX1_joined_0 : decode cX1_joined 0 = .ok (.aload_n 0, 1) := dk_42 (dk_at dksX1_joined_0 0 rfl rfl)
theorem dX1_joined_1 : decode cX1_joined 1 = .ok (.aload_n 0, 1) := dk_42 (dk_at dksX1_joined_0 1 rfl rfl)
theorem dX1_joined_2 : decode cX1_joined 2 = .ok (.getfield 46, 3) := dk_180 0 46 (dk_at dksX1_joined_0 2 rfl rfl)
theorem dX1_joined_5 : decode cX1_joined 5 = .ok (.invokevirtual 132, 3) := dk_182 0 132 (dk_at dksX1_joined_0 5 rfl rfl)
theorem dX1_joined_8 : decode cX1_joined 8 = .ok (.areturn, 1) := dk_176 (dk_at dksX1_joined_0 8 rfl rfl)
abbrev cX1_joined_2 : ByteArray := prog_1_method_10_code
def yX1_joined_2 : MethodName := ⟨RX1, "joined", "(LLeapJoin$State;)LLeapJoin$Join;"⟩
def dkwX1_joined_2_0 : List UInt8 := [42, 180, 0, 62, 43, 43, 180, 0, 125, 182, 0, 128, 176]
abbrev dktX1_joined_2_0 : List UInt8 := dkwX1_joined_2_0 ++ []
theorem dksX1_joined_2_0 : cX1_joined_2.data.toList.drop 0 = dktX1_joined_2_0 := by decide +kernel
theorem dX1_joined_2_0 : decode cX1_joined_2 0 = .ok (.aload_n 0, 1) := dk_42 (dk_at dksX1_joined_2_0 0 rfl rfl)
theorem dX1_joined_2_1 : decode cX1_joined_2 1 = .ok (.getfield 62, 3) := dk_180 0 62 (dk_at dksX1_joined_2_0 1 rfl rfl)
theorem dX1_joined_2_4 : decode cX1_joined_2 4 = .ok (.aload_n 1, 1) := dk_43 (dk_at dksX1_joined_2_0 4 rfl rfl)
theorem dX1_joined_2_5 : decode cX1_joined_2 5 = .ok (.aload_n 1, 1) := dk_43 (dk_at dksX1_joined_2_0 5 rfl rfl)
theorem dX1_joined_2_6 : decode cX1_joined_2 6 = .ok (.getfield 125, 3) := dk_180 0 125 (dk_at dksX1_joined_2_0 6 rfl rfl)
theorem dX1_joined_2_9 : decode cX1_joined_2 9 = .ok (.invokevirtual 128, 3) := dk_182 0 128 (dk_at dksX1_joined_2_0 9 rfl rfl)
theorem dX1_joined_2_12 : decode cX1_joined_2 12 = .ok (.areturn, 1) := dk_176 (dk_at dksX1_joined_2_0 12 rfl rfl)
abbrev cX1_take : ByteArray := prog_1_method_15_code
def yX1_take : MethodName := ⟨RX1, "take", "(IIII)I"⟩
def dkwX1_take_0 : List UInt8 := [42, 4, 27, 28, 29, 21, 4, 182, 0, 167, 172]
abbrev dktX1_take_0 : List UInt8 := dkwX1_take_0 ++ []
theorem dksX1_take_0 : cX1_take.data.toList.drop 0 = dktX1_take_0 := by decide +kernel
theorem dX1_take_0 : decode cX1_take 0 = .ok (.aload_n 0, 1) := dk_42 (dk_at dksX1_take_0 0 rfl rfl)
theorem dX1_take_1 : decode cX1_take 1 = .ok (.iconst 1, 1) := dk_4 (dk_at dksX1_take_0 1 rfl rfl)
theorem dX1_take_2 : decode cX1_take 2 = .ok (.iload_n 1, 1) := dk_27 (dk_at dksX1_take_0 2 rfl rfl)
theorem dX1_take_3 : decode cX1_take 3 = .ok (.iload_n 2, 1) := dk_28 (dk_at dksX1_take_0 3 rfl rfl)
theorem dX1_take_4 : decode cX1_take 4 = .ok (.iload_n 3, 1) := dk_29 (dk_at dksX1_take_0 4 rfl rfl)
theorem dX1_take_5 : decode cX1_take 5 = .ok (.iload 4, 2) := dk_21 4 (dk_at dksX1_take_0 5 rfl rfl)
theorem dX1_take_7 : decode cX1_take 7 = .ok (.invokevirtual 167, 3) := dk_182 0 167 (dk_at dksX1_take_0 7 rfl rfl)
theorem dX1_take_10 : decode cX1_take 10 = .ok (.ireturn, 1) := dk_172 (dk_at dksX1_take_0 10 rfl rfl)
abbrev cX1_use : ByteArray := prog_1_method_16_code
def yX1_use : MethodName := ⟨RX1, "use", "(I)I"⟩
def dkwX1_use_0 : List UInt8 := [42, 5, 27, 3, 3, 3, 182, 0, 167, 172]
abbrev dktX1_use_0 : List UInt8 := dkwX1_use_0 ++ []
theorem dksX1_use_0 : cX1_use.data.toList.drop 0 = dktX1_use_0 := by decide +kernel
theorem dX1_use_0 : decode cX1_use 0 = .ok (.aload_n 0, 1) := dk_42 (dk_at dksX1_use_0 0 rfl rfl)
theorem dX1_use_1 : decode cX1_use 1 = .ok (.iconst 2, 1) := dk_5 (dk_at dksX1_use_0 1 rfl rfl)
theorem dX1_use_2 : decode cX1_use 2 = .ok (.iload_n 1, 1) := dk_27 (dk_at dksX1_use_0 2 rfl rfl)
theorem dX1_use_3 : decode cX1_use 3 = .ok (.iconst 0, 1) := dk_3 (dk_at dksX1_use_0 3 rfl rfl)
theorem dX1_use_4 : decode cX1_use 4 = .ok (.iconst 0, 1) := dk_3 (dk_at dksX1_use_0 4 rfl rfl)
theorem dX1_use_5 : decode cX1_use 5 = .ok (.iconst 0, 1) := dk_3 (dk_at dksX1_use_0 5 rfl rfl)
theorem dX1_use_6 : decode cX1_use 6 = .ok (.invokevirtual 167, 3) := dk_182 0 167 (dk_at dksX1_use_0 6 rfl rfl)
theorem dX1_use_9 : decode cX1_use 9 = .ok (.ireturn, 1) := dk_172 (dk_at dksX1_use_0 9 rfl rfl)
abbrev cX1_order : ByteArray := prog_1_method_17_code
def yX1_order : MethodName := ⟨RX1, "order", "(I)I"⟩
def dkwX1_order_0 : List UInt8 := [42, 6, 27, 3, 3, 3, 182, 0, 167, 172]
abbrev dktX1_order_0 : List UInt8 := dkwX1_order_0 ++ []
theorem dksX1_order_0 : cX1_order.data.toList.drop 0 = dktX1_order_0 := by decide +kernel
theorem dX1_order_0 : decode cX1_order 0 = .ok (.aload_n 0, 1) := dk_42 (dk_at dksX1_order_0 0 rfl rfl)
theorem dX1_order_1 : decode cX1_order 1 = .ok (.iconst 3, 1) := dk_6 (dk_at dksX1_order_0 1 rfl rfl)
theorem dX1_order_2 : decode cX1_order 2 = .ok (.iload_n 1, 1) := dk_27 (dk_at dksX1_order_0 2 rfl rfl)
theorem dX1_order_3 : decode cX1_order 3 = .ok (.iconst 0, 1) := dk_3 (dk_at dksX1_order_0 3 rfl rfl)
theorem dX1_order_4 : decode cX1_order 4 = .ok (.iconst 0, 1) := dk_3 (dk_at dksX1_order_0 4 rfl rfl)
theorem dX1_order_5 : decode cX1_order 5 = .ok (.iconst 0, 1) := dk_3 (dk_at dksX1_order_0 5 rfl rfl)
theorem dX1_order_6 : decode cX1_order 6 = .ok (.invokevirtual 167, 3) := dk_182 0 167 (dk_at dksX1_order_0 6 rfl rfl)
theorem dX1_order_9 : decode cX1_order 9 = .ok (.ireturn, 1) := dk_172 (dk_at dksX1_order_0 9 rfl rfl)
abbrev cX1_status : ByteArray := prog_1_method_18_code
def yX1_status : MethodName := ⟨RX1, "status", "(I)I"⟩
def dkwX1_status_0 : List UInt8 := [27, 133, 9, 20, 0, 170, 184, 0, 82, 153, 0, 12, 42, 180, 0, 31, 27, 46, 167, 0, 4, 2, 172]
abbrev dktX1_status_0 : List UInt8 := dkwX1_status_0 ++ []
theorem dksX1_status_0 : cX1_status.data.toList.drop 0 = dktX1_status_0 := by decide +kernel
theorem dX1_status_0 : decode cX1_status 0 = .ok (.iload_n 1, 1) := dk_27 (dk_at dksX1_status_0 0 rfl rfl)
theorem dX1_status_1 : decode cX1_status 1 = .ok (.i2l, 1) := dk_133 (dk_at dksX1_status_0 1 rfl rfl)
theorem dX1_status_2 : decode cX1_status 2 = .ok (.lconst 0, 1) := dk_9 (dk_at dksX1_status_0 2 rfl rfl)
theorem dX1_status_3 : decode cX1_status 3 = .ok (.ldc2_w 170, 3) := dk_20 0 170 (dk_at dksX1_status_0 3 rfl rfl)
theorem dX1_status_6 : decode cX1_status 6 = .ok (.invokestatic 82, 3) := dk_184 0 82 (dk_at dksX1_status_0 6 rfl rfl)
theorem dX1_status_9 : decode cX1_status 9 = .ok (.ifCond .eq 12, 3) := dk_153 0 12 (dk_at dksX1_status_0 9 rfl rfl)
theorem dX1_status_12 : decode cX1_status 12 = .ok (.aload_n 0, 1) := dk_42 (dk_at dksX1_status_0 12 rfl rfl)
theorem dX1_status_13 : decode cX1_status 13 = .ok (.getfield 31, 3) := dk_180 0 31 (dk_at dksX1_status_0 13 rfl rfl)
theorem dX1_status_16 : decode cX1_status 16 = .ok (.iload_n 1, 1) := dk_27 (dk_at dksX1_status_0 16 rfl rfl)
theorem dX1_status_17 : decode cX1_status 17 = .ok (.iaload, 1) := dk_46 (dk_at dksX1_status_0 17 rfl rfl)
theorem dX1_status_18 : decode cX1_status 18 = .ok (.goto 4, 3) := dk_167 0 4 (dk_at dksX1_status_0 18 rfl rfl)
theorem dX1_status_21 : decode cX1_status 21 = .ok (.iconst (-1), 1) := dk_2 (dk_at dksX1_status_0 21 rfl rfl)
theorem dX1_status_22 : decode cX1_status 22 = .ok (.ireturn, 1) := dk_172 (dk_at dksX1_status_0 22 rfl rfl)
abbrev cX1_undo : ByteArray := prog_1_method_19_code
def yX1_undo : MethodName := ⟨RX1, "undo", "()I"⟩
def dkwX1_undo_2 : List UInt8 := [182, 0, 136, 42, 180, 0, 118, 172]
abbrev dktX1_undo_2 : List UInt8 := dkwX1_undo_2 ++ []
def dkwX1_undo_1 : List UInt8 := [16, 40, 96, 4, 100, 16, 40, 112, 181, 0, 144, 42, 180, 0, 46, 42, 180, 0, 66, 42, 180, 0, 144, 50]
abbrev dktX1_undo_1 : List UInt8 := dkwX1_undo_1 ++ dktX1_undo_2
def dkwX1_undo_0 : List UInt8 := [42, 180, 0, 118, 154, 0, 5, 2, 172, 42, 89, 180, 0, 118, 4, 100, 181, 0, 118, 42, 42, 180, 0, 144]
abbrev dktX1_undo_0 : List UInt8 := dkwX1_undo_0 ++ dktX1_undo_1
theorem dksX1_undo_0 : cX1_undo.data.toList.drop 0 = dktX1_undo_0 := by decide +kernel
theorem dksX1_undo_1 : cX1_undo.data.toList.drop 24 = dktX1_undo_1 := dk_seg dksX1_undo_0 24 rfl rfl
theorem dksX1_undo_2 : cX1_undo.data.toList.drop 48 = dktX1_undo_2 := dk_seg dksX1_undo_1 24 rfl rfl
theorem dX1_undo_0 : decode cX1_undo 0 = .ok (.aload_n 0, 1) := dk_42 (dk_at dksX1_undo_0 0 rfl rfl)
theorem dX1_undo_1 : decode cX1_undo 1 = .ok (.getfield 118, 3) := dk_180 0 118 (dk_at dksX1_undo_0 1 rfl rfl)
theorem dX1_undo_4 : decode cX1_undo 4 = .ok (.ifCond .ne 5, 3) := dk_154 0 5 (dk_at dksX1_undo_0 4 rfl rfl)
theorem dX1_undo_7 : decode cX1_undo 7 = .ok (.iconst (-1), 1) := dk_2 (dk_at dksX1_undo_0 7 rfl rfl)
theorem dX1_undo_8 : decode cX1_undo 8 = .ok (.ireturn, 1) := dk_172 (dk_at dksX1_undo_0 8 rfl rfl)
theorem dX1_undo_9 : decode cX1_undo 9 = .ok (.aload_n 0, 1) := dk_42 (dk_at dksX1_undo_0 9 rfl rfl)
theorem dX1_undo_10 : decode cX1_undo 10 = .ok (.dup, 1) := dk_89 (dk_at dksX1_undo_0 10 rfl rfl)
theorem dX1_undo_11 : decode cX1_undo 11 = .ok (.getfield 118, 3) := dk_180 0 118 (dk_at dksX1_undo_0 11 rfl rfl)
theorem dX1_undo_14 : decode cX1_undo 14 = .ok (.iconst 1, 1) := dk_4 (dk_at dksX1_undo_0 14 rfl rfl)
theorem dX1_undo_15 : decode cX1_undo 15 = .ok (.isub, 1) := dk_100 (dk_at dksX1_undo_0 15 rfl rfl)
theorem dX1_undo_16 : decode cX1_undo 16 = .ok (.putfield 118, 3) := dk_181 0 118 (dk_at dksX1_undo_0 16 rfl rfl)
theorem dX1_undo_19 : decode cX1_undo 19 = .ok (.aload_n 0, 1) := dk_42 (dk_at dksX1_undo_0 19 rfl rfl)
theorem dX1_undo_20 : decode cX1_undo 20 = .ok (.aload_n 0, 1) := dk_42 (dk_at dksX1_undo_0 20 rfl rfl)
theorem dX1_undo_21 : decode cX1_undo 21 = .ok (.getfield 144, 3) := dk_180 0 144 (dk_at dksX1_undo_0 21 rfl rfl)
theorem dX1_undo_24 : decode cX1_undo 24 = .ok (.bipush 40, 2) := dk_16 40 (dk_at dksX1_undo_1 0 rfl rfl)
theorem dX1_undo_26 : decode cX1_undo 26 = .ok (.iadd, 1) := dk_96 (dk_at dksX1_undo_1 2 rfl rfl)
theorem dX1_undo_27 : decode cX1_undo 27 = .ok (.iconst 1, 1) := dk_4 (dk_at dksX1_undo_1 3 rfl rfl)
theorem dX1_undo_28 : decode cX1_undo 28 = .ok (.isub, 1) := dk_100 (dk_at dksX1_undo_1 4 rfl rfl)
theorem dX1_undo_29 : decode cX1_undo 29 = .ok (.bipush 40, 2) := dk_16 40 (dk_at dksX1_undo_1 5 rfl rfl)
theorem dX1_undo_31 : decode cX1_undo 31 = .ok (.irem, 1) := dk_112 (dk_at dksX1_undo_1 7 rfl rfl)
theorem dX1_undo_32 : decode cX1_undo 32 = .ok (.putfield 144, 3) := dk_181 0 144 (dk_at dksX1_undo_1 8 rfl rfl)
theorem dX1_undo_35 : decode cX1_undo 35 = .ok (.aload_n 0, 1) := dk_42 (dk_at dksX1_undo_1 11 rfl rfl)
theorem dX1_undo_36 : decode cX1_undo 36 = .ok (.getfield 46, 3) := dk_180 0 46 (dk_at dksX1_undo_1 12 rfl rfl)
theorem dX1_undo_39 : decode cX1_undo 39 = .ok (.aload_n 0, 1) := dk_42 (dk_at dksX1_undo_1 15 rfl rfl)
theorem dX1_undo_40 : decode cX1_undo 40 = .ok (.getfield 66, 3) := dk_180 0 66 (dk_at dksX1_undo_1 16 rfl rfl)
theorem dX1_undo_43 : decode cX1_undo 43 = .ok (.aload_n 0, 1) := dk_42 (dk_at dksX1_undo_1 19 rfl rfl)
theorem dX1_undo_44 : decode cX1_undo 44 = .ok (.getfield 144, 3) := dk_180 0 144 (dk_at dksX1_undo_1 20 rfl rfl)
theorem dX1_undo_47 : decode cX1_undo 47 = .ok (.aaload, 1) := dk_50 (dk_at dksX1_undo_1 23 rfl rfl)
theorem dX1_undo_48 : decode cX1_undo 48 = .ok (.invokevirtual 136, 3) := dk_182 0 136 (dk_at dksX1_undo_2 0 rfl rfl)
theorem dX1_undo_51 : decode cX1_undo 51 = .ok (.aload_n 0, 1) := dk_42 (dk_at dksX1_undo_2 3 rfl rfl)
theorem dX1_undo_52 : decode cX1_undo 52 = .ok (.getfield 118, 3) := dk_180 0 118 (dk_at dksX1_undo_2 4 rfl rfl)
theorem dX1_undo_55 : decode cX1_undo 55 = .ok (.ireturn, 1) := dk_172 (dk_at dksX1_undo_2 7 rfl rfl)
abbrev cX1_log : ByteArray := prog_1_method_20_code
def yX1_log : MethodName := ⟨RX1, "log", "(II)I"⟩
def dkwX1_log_2 : List UInt8 := [180, 0, 178, 6, 42, 180, 0, 46, 180, 0, 172, 4, 100, 27, 100, 104, 28, 96, 46, 172]
abbrev dktX1_log_2 : List UInt8 := dkwX1_log_2 ++ []
def dkwX1_log_1 : List UInt8 := [153, 0, 15, 28, 133, 9, 20, 0, 175, 184, 0, 82, 154, 0, 6, 18, 177, 172, 42, 180, 0, 46]
abbrev dktX1_log_1 : List UInt8 := dkwX1_log_1 ++ dktX1_log_2
def dkwX1_log_0 : List UInt8 := [42, 180, 0, 79, 153, 0, 34, 27, 133, 9, 42, 180, 0, 46, 180, 0, 172, 4, 100, 133, 184, 0, 82]
abbrev dktX1_log_0 : List UInt8 := dkwX1_log_0 ++ dktX1_log_1
theorem dksX1_log_0 : cX1_log.data.toList.drop 0 = dktX1_log_0 := by decide +kernel
theorem dksX1_log_1 : cX1_log.data.toList.drop 23 = dktX1_log_1 := dk_seg dksX1_log_0 23 rfl rfl
theorem dksX1_log_2 : cX1_log.data.toList.drop 45 = dktX1_log_2 := dk_seg dksX1_log_1 22 rfl rfl
theorem dX1_log_0 : decode cX1_log 0 = .ok (.aload_n 0, 1) := dk_42 (dk_at dksX1_log_0 0 rfl rfl)
theorem dX1_log_1 : decode cX1_log 1 = .ok (.getfield 79, 3) := dk_180 0 79 (dk_at dksX1_log_0 1 rfl rfl)
theorem dX1_log_4 : decode cX1_log 4 = .ok (.ifCond .eq 34, 3) := dk_153 0 34 (dk_at dksX1_log_0 4 rfl rfl)
theorem dX1_log_7 : decode cX1_log 7 = .ok (.iload_n 1, 1) := dk_27 (dk_at dksX1_log_0 7 rfl rfl)
theorem dX1_log_8 : decode cX1_log 8 = .ok (.i2l, 1) := dk_133 (dk_at dksX1_log_0 8 rfl rfl)
theorem dX1_log_9 : decode cX1_log 9 = .ok (.lconst 0, 1) := dk_9 (dk_at dksX1_log_0 9 rfl rfl)
theorem dX1_log_10 : decode cX1_log 10 = .ok (.aload_n 0, 1) := dk_42 (dk_at dksX1_log_0 10 rfl rfl)
theorem dX1_log_11 : decode cX1_log 11 = .ok (.getfield 46, 3) := dk_180 0 46 (dk_at dksX1_log_0 11 rfl rfl)
theorem dX1_log_14 : decode cX1_log 14 = .ok (.getfield 172, 3) := dk_180 0 172 (dk_at dksX1_log_0 14 rfl rfl)
theorem dX1_log_17 : decode cX1_log 17 = .ok (.iconst 1, 1) := dk_4 (dk_at dksX1_log_0 17 rfl rfl)
theorem dX1_log_18 : decode cX1_log 18 = .ok (.isub, 1) := dk_100 (dk_at dksX1_log_0 18 rfl rfl)
theorem dX1_log_19 : decode cX1_log 19 = .ok (.i2l, 1) := dk_133 (dk_at dksX1_log_0 19 rfl rfl)
theorem dX1_log_20 : decode cX1_log 20 = .ok (.invokestatic 82, 3) := dk_184 0 82 (dk_at dksX1_log_0 20 rfl rfl)
theorem dX1_log_23 : decode cX1_log 23 = .ok (.ifCond .eq 15, 3) := dk_153 0 15 (dk_at dksX1_log_1 0 rfl rfl)
theorem dX1_log_26 : decode cX1_log 26 = .ok (.iload_n 2, 1) := dk_28 (dk_at dksX1_log_1 3 rfl rfl)
theorem dX1_log_27 : decode cX1_log 27 = .ok (.i2l, 1) := dk_133 (dk_at dksX1_log_1 4 rfl rfl)
theorem dX1_log_28 : decode cX1_log 28 = .ok (.lconst 0, 1) := dk_9 (dk_at dksX1_log_1 5 rfl rfl)
theorem dX1_log_29 : decode cX1_log 29 = .ok (.ldc2_w 175, 3) := dk_20 0 175 (dk_at dksX1_log_1 6 rfl rfl)
theorem dX1_log_32 : decode cX1_log 32 = .ok (.invokestatic 82, 3) := dk_184 0 82 (dk_at dksX1_log_1 9 rfl rfl)
theorem dX1_log_35 : decode cX1_log 35 = .ok (.ifCond .ne 6, 3) := dk_154 0 6 (dk_at dksX1_log_1 12 rfl rfl)
theorem dX1_log_38 : decode cX1_log 38 = .ok (.ldc 177, 2) := dk_18 177 (dk_at dksX1_log_1 15 rfl rfl)
theorem dX1_log_40 : decode cX1_log 40 = .ok (.ireturn, 1) := dk_172 (dk_at dksX1_log_1 17 rfl rfl)
theorem dX1_log_41 : decode cX1_log 41 = .ok (.aload_n 0, 1) := dk_42 (dk_at dksX1_log_1 18 rfl rfl)
theorem dX1_log_42 : decode cX1_log 42 = .ok (.getfield 46, 3) := dk_180 0 46 (dk_at dksX1_log_1 19 rfl rfl)
theorem dX1_log_45 : decode cX1_log 45 = .ok (.getfield 178, 3) := dk_180 0 178 (dk_at dksX1_log_2 0 rfl rfl)
theorem dX1_log_48 : decode cX1_log 48 = .ok (.iconst 3, 1) := dk_6 (dk_at dksX1_log_2 3 rfl rfl)
theorem dX1_log_49 : decode cX1_log 49 = .ok (.aload_n 0, 1) := dk_42 (dk_at dksX1_log_2 4 rfl rfl)
theorem dX1_log_50 : decode cX1_log 50 = .ok (.getfield 46, 3) := dk_180 0 46 (dk_at dksX1_log_2 5 rfl rfl)
theorem dX1_log_53 : decode cX1_log 53 = .ok (.getfield 172, 3) := dk_180 0 172 (dk_at dksX1_log_2 8 rfl rfl)
theorem dX1_log_56 : decode cX1_log 56 = .ok (.iconst 1, 1) := dk_4 (dk_at dksX1_log_2 11 rfl rfl)
theorem dX1_log_57 : decode cX1_log 57 = .ok (.isub, 1) := dk_100 (dk_at dksX1_log_2 12 rfl rfl)
theorem dX1_log_58 : decode cX1_log 58 = .ok (.iload_n 1, 1) := dk_27 (dk_at dksX1_log_2 13 rfl rfl)
theorem dX1_log_59 : decode cX1_log 59 = .ok (.isub, 1) := dk_100 (dk_at dksX1_log_2 14 rfl rfl)
theorem dX1_log_60 : decode cX1_log 60 = .ok (.imul, 1) := dk_104 (dk_at dksX1_log_2 15 rfl rfl)
theorem dX1_log_61 : decode cX1_log 61 = .ok (.iload_n 2, 1) := dk_28 (dk_at dksX1_log_2 16 rfl rfl)
theorem dX1_log_62 : decode cX1_log 62 = .ok (.iadd, 1) := dk_96 (dk_at dksX1_log_2 17 rfl rfl)
theorem dX1_log_63 : decode cX1_log 63 = .ok (.iaload, 1) := dk_46 (dk_at dksX1_log_2 18 rfl rfl)
theorem dX1_log_64 : decode cX1_log 64 = .ok (.ireturn, 1) := dk_172 (dk_at dksX1_log_2 19 rfl rfl)
abbrev cX1_ways : ByteArray := prog_1_method_23_code
def yX1_ways : MethodName := ⟨RX1, "ways", "(IJ)I"⟩
def dkwX1_ways_2 : List UInt8 := [42, 182, 0, 153, 180, 0, 156, 172]
abbrev dktX1_ways_2 : List UInt8 := dkwX1_ways_2 ++ []
def dkwX1_ways_1 : List UInt8 := [181, 0, 180, 3, 54, 4, 21, 4, 27, 162, 0, 15, 42, 182, 0, 207, 54, 5, 132, 4, 1, 167, 255, 241]
abbrev dktX1_ways_1 : List UInt8 := dkwX1_ways_1 ++ dktX1_ways_2
def dkwX1_ways_0 : List UInt8 := [42, 180, 0, 79, 153, 0, 15, 27, 133, 10, 20, 0, 205, 184, 0, 82, 154, 0, 5, 2, 172, 42, 32]
abbrev dktX1_ways_0 : List UInt8 := dkwX1_ways_0 ++ dktX1_ways_1
theorem dksX1_ways_0 : cX1_ways.data.toList.drop 0 = dktX1_ways_0 := by decide +kernel
theorem dksX1_ways_1 : cX1_ways.data.toList.drop 23 = dktX1_ways_1 := dk_seg dksX1_ways_0 23 rfl rfl
theorem dksX1_ways_2 : cX1_ways.data.toList.drop 47 = dktX1_ways_2 := dk_seg dksX1_ways_1 24 rfl rfl
theorem dX1_ways_0 : decode cX1_ways 0 = .ok (.aload_n 0, 1) := dk_42 (dk_at dksX1_ways_0 0 rfl rfl)
theorem dX1_ways_1 : decode cX1_ways 1 = .ok (.getfield 79, 3) := dk_180 0 79 (dk_at dksX1_ways_0 1 rfl rfl)
theorem dX1_ways_4 : decode cX1_ways 4 = .ok (.ifCond .eq 15, 3) := dk_153 0 15 (dk_at dksX1_ways_0 4 rfl rfl)
theorem dX1_ways_7 : decode cX1_ways 7 = .ok (.iload_n 1, 1) := dk_27 (dk_at dksX1_ways_0 7 rfl rfl)
theorem dX1_ways_8 : decode cX1_ways 8 = .ok (.i2l, 1) := dk_133 (dk_at dksX1_ways_0 8 rfl rfl)
theorem dX1_ways_9 : decode cX1_ways 9 = .ok (.lconst 1, 1) := dk_10 (dk_at dksX1_ways_0 9 rfl rfl)
theorem dX1_ways_10 : decode cX1_ways 10 = .ok (.ldc2_w 205, 3) := dk_20 0 205 (dk_at dksX1_ways_0 10 rfl rfl)
theorem dX1_ways_13 : decode cX1_ways 13 = .ok (.invokestatic 82, 3) := dk_184 0 82 (dk_at dksX1_ways_0 13 rfl rfl)
theorem dX1_ways_16 : decode cX1_ways 16 = .ok (.ifCond .ne 5, 3) := dk_154 0 5 (dk_at dksX1_ways_0 16 rfl rfl)
theorem dX1_ways_19 : decode cX1_ways 19 = .ok (.iconst (-1), 1) := dk_2 (dk_at dksX1_ways_0 19 rfl rfl)
theorem dX1_ways_20 : decode cX1_ways 20 = .ok (.ireturn, 1) := dk_172 (dk_at dksX1_ways_0 20 rfl rfl)
theorem dX1_ways_21 : decode cX1_ways 21 = .ok (.aload_n 0, 1) := dk_42 (dk_at dksX1_ways_0 21 rfl rfl)
theorem dX1_ways_22 : decode cX1_ways 22 = .ok (.lload_n 2, 1) := dk_32 (dk_at dksX1_ways_0 22 rfl rfl)
theorem dX1_ways_23 : decode cX1_ways 23 = .ok (.putfield 180, 3) := dk_181 0 180 (dk_at dksX1_ways_1 0 rfl rfl)
theorem dX1_ways_26 : decode cX1_ways 26 = .ok (.iconst 0, 1) := dk_3 (dk_at dksX1_ways_1 3 rfl rfl)
theorem dX1_ways_27 : decode cX1_ways 27 = .ok (.istore 4, 2) := dk_54 4 (dk_at dksX1_ways_1 4 rfl rfl)
theorem dX1_ways_29 : decode cX1_ways 29 = .ok (.iload 4, 2) := dk_21 4 (dk_at dksX1_ways_1 6 rfl rfl)
theorem dX1_ways_31 : decode cX1_ways 31 = .ok (.iload_n 1, 1) := dk_27 (dk_at dksX1_ways_1 8 rfl rfl)
theorem dX1_ways_32 : decode cX1_ways 32 = .ok (.if_icmp .ge 15, 3) := dk_162 0 15 (dk_at dksX1_ways_1 9 rfl rfl)
theorem dX1_ways_35 : decode cX1_ways 35 = .ok (.aload_n 0, 1) := dk_42 (dk_at dksX1_ways_1 12 rfl rfl)
theorem dX1_ways_36 : decode cX1_ways 36 = .ok (.invokevirtual 207, 3) := dk_182 0 207 (dk_at dksX1_ways_1 13 rfl rfl)
theorem dX1_ways_39 : decode cX1_ways 39 = .ok (.istore 5, 2) := dk_54 5 (dk_at dksX1_ways_1 16 rfl rfl)
theorem dX1_ways_41 : decode cX1_ways 41 = .ok (.iinc 4 1, 3) := dk_132 4 1 (dk_at dksX1_ways_1 18 rfl rfl)
theorem dX1_ways_44 : decode cX1_ways 44 = .ok (.goto (-15), 3) := dk_167 255 241 (dk_at dksX1_ways_1 21 rfl rfl)
theorem dX1_ways_47 : decode cX1_ways 47 = .ok (.aload_n 0, 1) := dk_42 (dk_at dksX1_ways_2 0 rfl rfl)
theorem dX1_ways_48 : decode cX1_ways 48 = .ok (.invokevirtual 153, 3) := dk_182 0 153 (dk_at dksX1_ways_2 1 rfl rfl)
theorem dX1_ways_51 : decode cX1_ways 51 = .ok (.getfield 156, 3) := dk_180 0 156 (dk_at dksX1_ways_2 4 rfl rfl)
theorem dX1_ways_54 : decode cX1_ways 54 = .ok (.ireturn, 1) := dk_172 (dk_at dksX1_ways_2 7 rfl rfl)
abbrev cX1_happens : ByteArray := prog_1_method_22_code
def yX1_happens : MethodName := ⟨RX1, "happens", "()I"⟩
def dkwX1_happens_8 : List UInt8 := [45, 180, 0, 202, 190, 5, 164, 0, 12, 42, 16, 6, 182, 0, 188, 167, 0, 4, 2, 182, 0, 161, 172]
abbrev dktX1_happens_8 : List UInt8 := dkwX1_happens_8 ++ []
def dkwX1_happens_7 : List UInt8 := [190, 4, 164, 0, 12, 42, 16, 6, 182, 0, 188, 167, 0, 4, 2, 54, 5, 42, 3, 28, 21, 4, 21, 5]
abbrev dktX1_happens_7 : List UInt8 := dkwX1_happens_7 ++ dktX1_happens_8
def dkwX1_happens_6 : List UInt8 := [167, 0, 4, 2, 182, 0, 161, 167, 0, 4, 5, 172, 42, 16, 6, 182, 0, 188, 54, 4, 45, 180, 0, 202]
abbrev dktX1_happens_6 : List UInt8 := dkwX1_happens_6 ++ dktX1_happens_7
def dkwX1_happens_5 : List UInt8 := [167, 0, 4, 2, 45, 180, 0, 202, 190, 5, 164, 0, 17, 45, 180, 0, 194, 21, 4, 50, 5, 182, 0, 198]
abbrev dktX1_happens_5 : List UInt8 := dkwX1_happens_5 ++ dktX1_happens_6
def dkwX1_happens_4 : List UInt8 := [3, 182, 0, 198, 45, 180, 0, 202, 190, 4, 164, 0, 17, 45, 180, 0, 194, 21, 4, 50, 4, 182, 0, 198]
abbrev dktX1_happens_4 : List UInt8 := dkwX1_happens_4 ++ dktX1_happens_5
def dkwX1_happens_3 : List UInt8 := [182, 0, 188, 54, 4, 21, 4, 45, 180, 0, 193, 162, 0, 71, 42, 4, 28, 45, 180, 0, 194, 21, 4, 50]
abbrev dktX1_happens_3 : List UInt8 := dkwX1_happens_3 ++ dktX1_happens_4
def dkwX1_happens_2 : List UInt8 := [3, 182, 0, 161, 172, 42, 180, 0, 46, 180, 0, 191, 28, 50, 78, 27, 7, 161, 0, 90, 42, 16, 12]
abbrev dktX1_happens_2 : List UInt8 := dkwX1_happens_2 ++ dktX1_happens_3
def dkwX1_happens_1 : List UInt8 := [182, 0, 161, 172, 42, 42, 180, 0, 79, 182, 0, 188, 61, 27, 16, 6, 160, 0, 13, 42, 5, 28, 3, 3]
abbrev dktX1_happens_1 : List UInt8 := dkwX1_happens_1 ++ dktX1_happens_2
def dkwX1_happens_0 : List UInt8 := [42, 16, 8, 182, 0, 188, 60, 27, 16, 7, 160, 0, 18, 42, 6, 42, 16, 24, 182, 0, 188, 3, 3, 3]
abbrev dktX1_happens_0 : List UInt8 := dkwX1_happens_0 ++ dktX1_happens_1
theorem dksX1_happens_0 : cX1_happens.data.toList.drop 0 = dktX1_happens_0 := by decide +kernel
theorem dksX1_happens_1 : cX1_happens.data.toList.drop 24 = dktX1_happens_1 := dk_seg dksX1_happens_0 24 rfl rfl
theorem dksX1_happens_2 : cX1_happens.data.toList.drop 48 = dktX1_happens_2 := dk_seg dksX1_happens_1 24 rfl rfl
theorem dksX1_happens_3 : cX1_happens.data.toList.drop 71 = dktX1_happens_3 := dk_seg dksX1_happens_2 23 rfl rfl
theorem dksX1_happens_4 : cX1_happens.data.toList.drop 95 = dktX1_happens_4 := dk_seg dksX1_happens_3 24 rfl rfl
theorem dksX1_happens_5 : cX1_happens.data.toList.drop 119 = dktX1_happens_5 := dk_seg dksX1_happens_4 24 rfl rfl
theorem dksX1_happens_6 : cX1_happens.data.toList.drop 143 = dktX1_happens_6 := dk_seg dksX1_happens_5 24 rfl rfl
theorem dksX1_happens_7 : cX1_happens.data.toList.drop 167 = dktX1_happens_7 := dk_seg dksX1_happens_6 24 rfl rfl
theorem dksX1_happens_8 : cX1_happens.data.toList.drop 191 = dktX1_happens_8 := dk_seg dksX1_happens_7 24 rfl rfl
theorem dX1_happens_0 : decode cX1_happens 0 = .ok (.aload_n 0, 1) := dk_42 (dk_at dksX1_happens_0 0 rfl rfl)
theorem dX1_happens_1 : decode cX1_happens 1 = .ok (.bipush 8, 2) := dk_16 8 (dk_at dksX1_happens_0 1 rfl rfl)
theorem dX1_happens_3 : decode cX1_happens 3 = .ok (.invokevirtual 188, 3) := dk_182 0 188 (dk_at dksX1_happens_0 3 rfl rfl)
theorem dX1_happens_6 : decode cX1_happens 6 = .ok (.istore_n 1, 1) := dk_60 (dk_at dksX1_happens_0 6 rfl rfl)
theorem dX1_happens_7 : decode cX1_happens 7 = .ok (.iload_n 1, 1) := dk_27 (dk_at dksX1_happens_0 7 rfl rfl)
theorem dX1_happens_8 : decode cX1_happens 8 = .ok (.bipush 7, 2) := dk_16 7 (dk_at dksX1_happens_0 8 rfl rfl)
theorem dX1_happens_10 : decode cX1_happens 10 = .ok (.if_icmp .ne 18, 3) := dk_160 0 18 (dk_at dksX1_happens_0 10 rfl rfl)
theorem dX1_happens_13 : decode cX1_happens 13 = .ok (.aload_n 0, 1) := dk_42 (dk_at dksX1_happens_0 13 rfl rfl)
theorem dX1_happens_14 : decode cX1_happens 14 = .ok (.iconst 3, 1) := dk_6 (dk_at dksX1_happens_0 14 rfl rfl)
theorem dX1_happens_15 : decode cX1_happens 15 = .ok (.aload_n 0, 1) := dk_42 (dk_at dksX1_happens_0 15 rfl rfl)
theorem dX1_happens_16 : decode cX1_happens 16 = .ok (.bipush 24, 2) := dk_16 24 (dk_at dksX1_happens_0 16 rfl rfl)
theorem dX1_happens_18 : decode cX1_happens 18 = .ok (.invokevirtual 188, 3) := dk_182 0 188 (dk_at dksX1_happens_0 18 rfl rfl)
theorem dX1_happens_21 : decode cX1_happens 21 = .ok (.iconst 0, 1) := dk_3 (dk_at dksX1_happens_0 21 rfl rfl)
theorem dX1_happens_22 : decode cX1_happens 22 = .ok (.iconst 0, 1) := dk_3 (dk_at dksX1_happens_0 22 rfl rfl)
theorem dX1_happens_23 : decode cX1_happens 23 = .ok (.iconst 0, 1) := dk_3 (dk_at dksX1_happens_0 23 rfl rfl)
theorem dX1_happens_24 : decode cX1_happens 24 = .ok (.invokevirtual 161, 3) := dk_182 0 161 (dk_at dksX1_happens_1 0 rfl rfl)
theorem dX1_happens_27 : decode cX1_happens 27 = .ok (.ireturn, 1) := dk_172 (dk_at dksX1_happens_1 3 rfl rfl)
theorem dX1_happens_28 : decode cX1_happens 28 = .ok (.aload_n 0, 1) := dk_42 (dk_at dksX1_happens_1 4 rfl rfl)
theorem dX1_happens_29 : decode cX1_happens 29 = .ok (.aload_n 0, 1) := dk_42 (dk_at dksX1_happens_1 5 rfl rfl)
theorem dX1_happens_30 : decode cX1_happens 30 = .ok (.getfield 79, 3) := dk_180 0 79 (dk_at dksX1_happens_1 6 rfl rfl)
theorem dX1_happens_33 : decode cX1_happens 33 = .ok (.invokevirtual 188, 3) := dk_182 0 188 (dk_at dksX1_happens_1 9 rfl rfl)
theorem dX1_happens_36 : decode cX1_happens 36 = .ok (.istore_n 2, 1) := dk_61 (dk_at dksX1_happens_1 12 rfl rfl)
theorem dX1_happens_37 : decode cX1_happens 37 = .ok (.iload_n 1, 1) := dk_27 (dk_at dksX1_happens_1 13 rfl rfl)
theorem dX1_happens_38 : decode cX1_happens 38 = .ok (.bipush 6, 2) := dk_16 6 (dk_at dksX1_happens_1 14 rfl rfl)
theorem dX1_happens_40 : decode cX1_happens 40 = .ok (.if_icmp .ne 13, 3) := dk_160 0 13 (dk_at dksX1_happens_1 16 rfl rfl)
theorem dX1_happens_43 : decode cX1_happens 43 = .ok (.aload_n 0, 1) := dk_42 (dk_at dksX1_happens_1 19 rfl rfl)
theorem dX1_happens_44 : decode cX1_happens 44 = .ok (.iconst 2, 1) := dk_5 (dk_at dksX1_happens_1 20 rfl rfl)
theorem dX1_happens_45 : decode cX1_happens 45 = .ok (.iload_n 2, 1) := dk_28 (dk_at dksX1_happens_1 21 rfl rfl)
theorem dX1_happens_46 : decode cX1_happens 46 = .ok (.iconst 0, 1) := dk_3 (dk_at dksX1_happens_1 22 rfl rfl)
theorem dX1_happens_47 : decode cX1_happens 47 = .ok (.iconst 0, 1) := dk_3 (dk_at dksX1_happens_1 23 rfl rfl)
theorem dX1_happens_48 : decode cX1_happens 48 = .ok (.iconst 0, 1) := dk_3 (dk_at dksX1_happens_2 0 rfl rfl)
theorem dX1_happens_49 : decode cX1_happens 49 = .ok (.invokevirtual 161, 3) := dk_182 0 161 (dk_at dksX1_happens_2 1 rfl rfl)
theorem dX1_happens_52 : decode cX1_happens 52 = .ok (.ireturn, 1) := dk_172 (dk_at dksX1_happens_2 4 rfl rfl)
theorem dX1_happens_53 : decode cX1_happens 53 = .ok (.aload_n 0, 1) := dk_42 (dk_at dksX1_happens_2 5 rfl rfl)
theorem dX1_happens_54 : decode cX1_happens 54 = .ok (.getfield 46, 3) := dk_180 0 46 (dk_at dksX1_happens_2 6 rfl rfl)
theorem dX1_happens_57 : decode cX1_happens 57 = .ok (.getfield 191, 3) := dk_180 0 191 (dk_at dksX1_happens_2 9 rfl rfl)
theorem dX1_happens_60 : decode cX1_happens 60 = .ok (.iload_n 2, 1) := dk_28 (dk_at dksX1_happens_2 12 rfl rfl)
theorem dX1_happens_61 : decode cX1_happens 61 = .ok (.aaload, 1) := dk_50 (dk_at dksX1_happens_2 13 rfl rfl)
theorem dX1_happens_62 : decode cX1_happens 62 = .ok (.astore_n 3, 1) := dk_78 (dk_at dksX1_happens_2 14 rfl rfl)
theorem dX1_happens_63 : decode cX1_happens 63 = .ok (.iload_n 1, 1) := dk_27 (dk_at dksX1_happens_2 15 rfl rfl)
theorem dX1_happens_64 : decode cX1_happens 64 = .ok (.iconst 4, 1) := dk_7 (dk_at dksX1_happens_2 16 rfl rfl)
theorem dX1_happens_65 : decode cX1_happens 65 = .ok (.if_icmp .lt 90, 3) := dk_161 0 90 (dk_at dksX1_happens_2 17 rfl rfl)
theorem dX1_happens_68 : decode cX1_happens 68 = .ok (.aload_n 0, 1) := dk_42 (dk_at dksX1_happens_2 20 rfl rfl)
theorem dX1_happens_69 : decode cX1_happens 69 = .ok (.bipush 12, 2) := dk_16 12 (dk_at dksX1_happens_2 21 rfl rfl)
theorem dX1_happens_71 : decode cX1_happens 71 = .ok (.invokevirtual 188, 3) := dk_182 0 188 (dk_at dksX1_happens_3 0 rfl rfl)
theorem dX1_happens_74 : decode cX1_happens 74 = .ok (.istore 4, 2) := dk_54 4 (dk_at dksX1_happens_3 3 rfl rfl)
theorem dX1_happens_76 : decode cX1_happens 76 = .ok (.iload 4, 2) := dk_21 4 (dk_at dksX1_happens_3 5 rfl rfl)
theorem dX1_happens_78 : decode cX1_happens 78 = .ok (.aload_n 3, 1) := dk_45 (dk_at dksX1_happens_3 7 rfl rfl)
theorem dX1_happens_79 : decode cX1_happens 79 = .ok (.getfield 193, 3) := dk_180 0 193 (dk_at dksX1_happens_3 8 rfl rfl)
theorem dX1_happens_82 : decode cX1_happens 82 = .ok (.if_icmp .ge 71, 3) := dk_162 0 71 (dk_at dksX1_happens_3 11 rfl rfl)
theorem dX1_happens_85 : decode cX1_happens 85 = .ok (.aload_n 0, 1) := dk_42 (dk_at dksX1_happens_3 14 rfl rfl)
theorem dX1_happens_86 : decode cX1_happens 86 = .ok (.iconst 1, 1) := dk_4 (dk_at dksX1_happens_3 15 rfl rfl)
theorem dX1_happens_87 : decode cX1_happens 87 = .ok (.iload_n 2, 1) := dk_28 (dk_at dksX1_happens_3 16 rfl rfl)
theorem dX1_happens_88 : decode cX1_happens 88 = .ok (.aload_n 3, 1) := dk_45 (dk_at dksX1_happens_3 17 rfl rfl)
theorem dX1_happens_89 : decode cX1_happens 89 = .ok (.getfield 194, 3) := dk_180 0 194 (dk_at dksX1_happens_3 18 rfl rfl)
theorem dX1_happens_92 : decode cX1_happens 92 = .ok (.iload 4, 2) := dk_21 4 (dk_at dksX1_happens_3 21 rfl rfl)
theorem dX1_happens_94 : decode cX1_happens 94 = .ok (.aaload, 1) := dk_50 (dk_at dksX1_happens_3 23 rfl rfl)
theorem dX1_happens_95 : decode cX1_happens 95 = .ok (.iconst 0, 1) := dk_3 (dk_at dksX1_happens_4 0 rfl rfl)
theorem dX1_happens_96 : decode cX1_happens 96 = .ok (.invokevirtual 198, 3) := dk_182 0 198 (dk_at dksX1_happens_4 1 rfl rfl)
theorem dX1_happens_99 : decode cX1_happens 99 = .ok (.aload_n 3, 1) := dk_45 (dk_at dksX1_happens_4 4 rfl rfl)
theorem dX1_happens_100 : decode cX1_happens 100 = .ok (.getfield 202, 3) := dk_180 0 202 (dk_at dksX1_happens_4 5 rfl rfl)
theorem dX1_happens_103 : decode cX1_happens 103 = .ok (.arraylength, 1) := dk_190 (dk_at dksX1_happens_4 8 rfl rfl)
theorem dX1_happens_104 : decode cX1_happens 104 = .ok (.iconst 1, 1) := dk_4 (dk_at dksX1_happens_4 9 rfl rfl)
theorem dX1_happens_105 : decode cX1_happens 105 = .ok (.if_icmp .le 17, 3) := dk_164 0 17 (dk_at dksX1_happens_4 10 rfl rfl)
theorem dX1_happens_108 : decode cX1_happens 108 = .ok (.aload_n 3, 1) := dk_45 (dk_at dksX1_happens_4 13 rfl rfl)
theorem dX1_happens_109 : decode cX1_happens 109 = .ok (.getfield 194, 3) := dk_180 0 194 (dk_at dksX1_happens_4 14 rfl rfl)
theorem dX1_happens_112 : decode cX1_happens 112 = .ok (.iload 4, 2) := dk_21 4 (dk_at dksX1_happens_4 17 rfl rfl)
theorem dX1_happens_114 : decode cX1_happens 114 = .ok (.aaload, 1) := dk_50 (dk_at dksX1_happens_4 19 rfl rfl)
theorem dX1_happens_115 : decode cX1_happens 115 = .ok (.iconst 1, 1) := dk_4 (dk_at dksX1_happens_4 20 rfl rfl)
theorem dX1_happens_116 : decode cX1_happens 116 = .ok (.invokevirtual 198, 3) := dk_182 0 198 (dk_at dksX1_happens_4 21 rfl rfl)
theorem dX1_happens_119 : decode cX1_happens 119 = .ok (.goto 4, 3) := dk_167 0 4 (dk_at dksX1_happens_5 0 rfl rfl)
theorem dX1_happens_122 : decode cX1_happens 122 = .ok (.iconst (-1), 1) := dk_2 (dk_at dksX1_happens_5 3 rfl rfl)
theorem dX1_happens_123 : decode cX1_happens 123 = .ok (.aload_n 3, 1) := dk_45 (dk_at dksX1_happens_5 4 rfl rfl)
theorem dX1_happens_124 : decode cX1_happens 124 = .ok (.getfield 202, 3) := dk_180 0 202 (dk_at dksX1_happens_5 5 rfl rfl)
theorem dX1_happens_127 : decode cX1_happens 127 = .ok (.arraylength, 1) := dk_190 (dk_at dksX1_happens_5 8 rfl rfl)
theorem dX1_happens_128 : decode cX1_happens 128 = .ok (.iconst 2, 1) := dk_5 (dk_at dksX1_happens_5 9 rfl rfl)
theorem dX1_happens_129 : decode cX1_happens 129 = .ok (.if_icmp .le 17, 3) := dk_164 0 17 (dk_at dksX1_happens_5 10 rfl rfl)
theorem dX1_happens_132 : decode cX1_happens 132 = .ok (.aload_n 3, 1) := dk_45 (dk_at dksX1_happens_5 13 rfl rfl)
theorem dX1_happens_133 : decode cX1_happens 133 = .ok (.getfield 194, 3) := dk_180 0 194 (dk_at dksX1_happens_5 14 rfl rfl)
theorem dX1_happens_136 : decode cX1_happens 136 = .ok (.iload 4, 2) := dk_21 4 (dk_at dksX1_happens_5 17 rfl rfl)
theorem dX1_happens_138 : decode cX1_happens 138 = .ok (.aaload, 1) := dk_50 (dk_at dksX1_happens_5 19 rfl rfl)
theorem dX1_happens_139 : decode cX1_happens 139 = .ok (.iconst 2, 1) := dk_5 (dk_at dksX1_happens_5 20 rfl rfl)
theorem dX1_happens_140 : decode cX1_happens 140 = .ok (.invokevirtual 198, 3) := dk_182 0 198 (dk_at dksX1_happens_5 21 rfl rfl)
theorem dX1_happens_143 : decode cX1_happens 143 = .ok (.goto 4, 3) := dk_167 0 4 (dk_at dksX1_happens_6 0 rfl rfl)
theorem dX1_happens_146 : decode cX1_happens 146 = .ok (.iconst (-1), 1) := dk_2 (dk_at dksX1_happens_6 3 rfl rfl)
theorem dX1_happens_147 : decode cX1_happens 147 = .ok (.invokevirtual 161, 3) := dk_182 0 161 (dk_at dksX1_happens_6 4 rfl rfl)
theorem dX1_happens_150 : decode cX1_happens 150 = .ok (.goto 4, 3) := dk_167 0 4 (dk_at dksX1_happens_6 7 rfl rfl)
theorem dX1_happens_153 : decode cX1_happens 153 = .ok (.iconst 2, 1) := dk_5 (dk_at dksX1_happens_6 10 rfl rfl)
theorem dX1_happens_154 : decode cX1_happens 154 = .ok (.ireturn, 1) := dk_172 (dk_at dksX1_happens_6 11 rfl rfl)
theorem dX1_happens_155 : decode cX1_happens 155 = .ok (.aload_n 0, 1) := dk_42 (dk_at dksX1_happens_6 12 rfl rfl)
theorem dX1_happens_156 : decode cX1_happens 156 = .ok (.bipush 6, 2) := dk_16 6 (dk_at dksX1_happens_6 13 rfl rfl)
theorem dX1_happens_158 : decode cX1_happens 158 = .ok (.invokevirtual 188, 3) := dk_182 0 188 (dk_at dksX1_happens_6 15 rfl rfl)
theorem dX1_happens_161 : decode cX1_happens 161 = .ok (.istore 4, 2) := dk_54 4 (dk_at dksX1_happens_6 18 rfl rfl)
theorem dX1_happens_163 : decode cX1_happens 163 = .ok (.aload_n 3, 1) := dk_45 (dk_at dksX1_happens_6 20 rfl rfl)
theorem dX1_happens_164 : decode cX1_happens 164 = .ok (.getfield 202, 3) := dk_180 0 202 (dk_at dksX1_happens_6 21 rfl rfl)
theorem dX1_happens_167 : decode cX1_happens 167 = .ok (.arraylength, 1) := dk_190 (dk_at dksX1_happens_7 0 rfl rfl)
theorem dX1_happens_168 : decode cX1_happens 168 = .ok (.iconst 1, 1) := dk_4 (dk_at dksX1_happens_7 1 rfl rfl)
theorem dX1_happens_169 : decode cX1_happens 169 = .ok (.if_icmp .le 12, 3) := dk_164 0 12 (dk_at dksX1_happens_7 2 rfl rfl)
theorem dX1_happens_172 : decode cX1_happens 172 = .ok (.aload_n 0, 1) := dk_42 (dk_at dksX1_happens_7 5 rfl rfl)
theorem dX1_happens_173 : decode cX1_happens 173 = .ok (.bipush 6, 2) := dk_16 6 (dk_at dksX1_happens_7 6 rfl rfl)
theorem dX1_happens_175 : decode cX1_happens 175 = .ok (.invokevirtual 188, 3) := dk_182 0 188 (dk_at dksX1_happens_7 8 rfl rfl)
theorem dX1_happens_178 : decode cX1_happens 178 = .ok (.goto 4, 3) := dk_167 0 4 (dk_at dksX1_happens_7 11 rfl rfl)
theorem dX1_happens_181 : decode cX1_happens 181 = .ok (.iconst (-1), 1) := dk_2 (dk_at dksX1_happens_7 14 rfl rfl)
theorem dX1_happens_182 : decode cX1_happens 182 = .ok (.istore 5, 2) := dk_54 5 (dk_at dksX1_happens_7 15 rfl rfl)
theorem dX1_happens_184 : decode cX1_happens 184 = .ok (.aload_n 0, 1) := dk_42 (dk_at dksX1_happens_7 17 rfl rfl)
theorem dX1_happens_185 : decode cX1_happens 185 = .ok (.iconst 0, 1) := dk_3 (dk_at dksX1_happens_7 18 rfl rfl)
theorem dX1_happens_186 : decode cX1_happens 186 = .ok (.iload_n 2, 1) := dk_28 (dk_at dksX1_happens_7 19 rfl rfl)
theorem dX1_happens_187 : decode cX1_happens 187 = .ok (.iload 4, 2) := dk_21 4 (dk_at dksX1_happens_7 20 rfl rfl)
theorem dX1_happens_189 : decode cX1_happens 189 = .ok (.iload 5, 2) := dk_21 5 (dk_at dksX1_happens_7 22 rfl rfl)
theorem dX1_happens_191 : decode cX1_happens 191 = .ok (.aload_n 3, 1) := dk_45 (dk_at dksX1_happens_8 0 rfl rfl)
theorem dX1_happens_192 : decode cX1_happens 192 = .ok (.getfield 202, 3) := dk_180 0 202 (dk_at dksX1_happens_8 1 rfl rfl)
theorem dX1_happens_195 : decode cX1_happens 195 = .ok (.arraylength, 1) := dk_190 (dk_at dksX1_happens_8 4 rfl rfl)
theorem dX1_happens_196 : decode cX1_happens 196 = .ok (.iconst 2, 1) := dk_5 (dk_at dksX1_happens_8 5 rfl rfl)
theorem dX1_happens_197 : decode cX1_happens 197 = .ok (.if_icmp .le 12, 3) := dk_164 0 12 (dk_at dksX1_happens_8 6 rfl rfl)
theorem dX1_happens_200 : decode cX1_happens 200 = .ok (.aload_n 0, 1) := dk_42 (dk_at dksX1_happens_8 9 rfl rfl)
theorem dX1_happens_201 : decode cX1_happens 201 = .ok (.bipush 6, 2) := dk_16 6 (dk_at dksX1_happens_8 10 rfl rfl)
theorem dX1_happens_203 : decode cX1_happens 203 = .ok (.invokevirtual 188, 3) := dk_182 0 188 (dk_at dksX1_happens_8 12 rfl rfl)
theorem dX1_happens_206 : decode cX1_happens 206 = .ok (.goto 4, 3) := dk_167 0 4 (dk_at dksX1_happens_8 15 rfl rfl)
theorem dX1_happens_209 : decode cX1_happens 209 = .ok (.iconst (-1), 1) := dk_2 (dk_at dksX1_happens_8 18 rfl rfl)
theorem dX1_happens_210 : decode cX1_happens 210 = .ok (.invokevirtual 161, 3) := dk_182 0 161 (dk_at dksX1_happens_8 19 rfl rfl)
theorem dX1_happens_213 : decode cX1_happens 213 = .ok (.ireturn, 1) := dk_172 (dk_at dksX1_happens_8 22 rfl rfl)
abbrev cX1_draw : ByteArray := prog_1_method_21_code
def yX1_draw : MethodName := ⟨RX1, "draw", "(I)I"⟩
def dkwX1_draw_1 : List UInt8 := [133, 113, 136, 172]
abbrev dktX1_draw_1 : List UInt8 := dkwX1_draw_1 ++ []
def dkwX1_draw_0 : List UInt8 := [42, 42, 180, 0, 180, 20, 0, 184, 105, 20, 0, 186, 97, 181, 0, 180, 42, 180, 0, 180, 16, 33, 125, 27]
abbrev dktX1_draw_0 : List UInt8 := dkwX1_draw_0 ++ dktX1_draw_1
theorem dksX1_draw_0 : cX1_draw.data.toList.drop 0 = dktX1_draw_0 := by decide +kernel
theorem dksX1_draw_1 : cX1_draw.data.toList.drop 24 = dktX1_draw_1 := dk_seg dksX1_draw_0 24 rfl rfl
theorem dX1_draw_0 : decode cX1_draw 0 = .ok (.aload_n 0, 1) := dk_42 (dk_at dksX1_draw_0 0 rfl rfl)
theorem dX1_draw_1 : decode cX1_draw 1 = .ok (.aload_n 0, 1) := dk_42 (dk_at dksX1_draw_0 1 rfl rfl)
theorem dX1_draw_2 : decode cX1_draw 2 = .ok (.getfield 180, 3) := dk_180 0 180 (dk_at dksX1_draw_0 2 rfl rfl)
theorem dX1_draw_5 : decode cX1_draw 5 = .ok (.ldc2_w 184, 3) := dk_20 0 184 (dk_at dksX1_draw_0 5 rfl rfl)
theorem dX1_draw_8 : decode cX1_draw 8 = .ok (.lmul, 1) := dk_105 (dk_at dksX1_draw_0 8 rfl rfl)
theorem dX1_draw_9 : decode cX1_draw 9 = .ok (.ldc2_w 186, 3) := dk_20 0 186 (dk_at dksX1_draw_0 9 rfl rfl)
theorem dX1_draw_12 : decode cX1_draw 12 = .ok (.ladd, 1) := dk_97 (dk_at dksX1_draw_0 12 rfl rfl)
theorem dX1_draw_13 : decode cX1_draw 13 = .ok (.putfield 180, 3) := dk_181 0 180 (dk_at dksX1_draw_0 13 rfl rfl)
theorem dX1_draw_16 : decode cX1_draw 16 = .ok (.aload_n 0, 1) := dk_42 (dk_at dksX1_draw_0 16 rfl rfl)
theorem dX1_draw_17 : decode cX1_draw 17 = .ok (.getfield 180, 3) := dk_180 0 180 (dk_at dksX1_draw_0 17 rfl rfl)
theorem dX1_draw_20 : decode cX1_draw 20 = .ok (.bipush 33, 2) := dk_16 33 (dk_at dksX1_draw_0 20 rfl rfl)
theorem dX1_draw_22 : decode cX1_draw 22 = .ok (.lushr, 1) := dk_125 (dk_at dksX1_draw_0 22 rfl rfl)
theorem dX1_draw_23 : decode cX1_draw 23 = .ok (.iload_n 1, 1) := dk_27 (dk_at dksX1_draw_0 23 rfl rfl)
theorem dX1_draw_24 : decode cX1_draw 24 = .ok (.i2l, 1) := dk_133 (dk_at dksX1_draw_1 0 rfl rfl)
theorem dX1_draw_25 : decode cX1_draw 25 = .ok (.lrem, 1) := dk_113 (dk_at dksX1_draw_1 1 rfl rfl)
theorem dX1_draw_26 : decode cX1_draw 26 = .ok (.l2i, 1) := dk_136 (dk_at dksX1_draw_1 2 rfl rfl)
theorem dX1_draw_27 : decode cX1_draw 27 = .ok (.ireturn, 1) := dk_172 (dk_at dksX1_draw_1 3 rfl rfl)
abbrev cX1_rule : ByteArray := prog_1_method_25_code
def yX1_rule : MethodName := ⟨RX1, "rule", "(I)I"⟩
def dkwX1_rule_3 : List UInt8 := [180, 0, 46, 182, 0, 218, 172, 42, 180, 0, 46, 182, 0, 221, 172, 2, 172]
abbrev dktX1_rule_3 : List UInt8 := dkwX1_rule_3 ++ []
def dkwX1_rule_2 : List UInt8 := [42, 180, 0, 79, 172, 42, 180, 0, 46, 180, 0, 215, 172, 42, 180, 0, 46, 180, 0, 125, 172, 42]
abbrev dktX1_rule_2 : List UInt8 := dkwX1_rule_2 ++ dktX1_rule_3
def dkwX1_rule_1 : List UInt8 := [170, 0, 0, 0, 0, 71, 0, 0, 0, 0, 0, 0, 0, 4, 0, 0, 0, 34, 0, 0, 0, 39, 0, 0, 0, 47, 0, 0, 0, 55, 0, 0, 0, 63]
abbrev dktX1_rule_1 : List UInt8 := dkwX1_rule_1 ++ dktX1_rule_2
def dkwX1_rule_0 : List UInt8 := [42, 180, 0, 79, 154, 0, 5, 2, 172, 27]
abbrev dktX1_rule_0 : List UInt8 := dkwX1_rule_0 ++ dktX1_rule_1
theorem dksX1_rule_0 : cX1_rule.data.toList.drop 0 = dktX1_rule_0 := by decide +kernel
theorem dksX1_rule_1 : cX1_rule.data.toList.drop 10 = dktX1_rule_1 := dk_seg dksX1_rule_0 10 rfl rfl
theorem dksX1_rule_2 : cX1_rule.data.toList.drop 44 = dktX1_rule_2 := dk_seg dksX1_rule_1 34 rfl rfl
theorem dksX1_rule_3 : cX1_rule.data.toList.drop 66 = dktX1_rule_3 := dk_seg dksX1_rule_2 22 rfl rfl
theorem dX1_rule_0 : decode cX1_rule 0 = .ok (.aload_n 0, 1) := dk_42 (dk_at dksX1_rule_0 0 rfl rfl)
theorem dX1_rule_1 : decode cX1_rule 1 = .ok (.getfield 79, 3) := dk_180 0 79 (dk_at dksX1_rule_0 1 rfl rfl)
theorem dX1_rule_4 : decode cX1_rule 4 = .ok (.ifCond .ne 5, 3) := dk_154 0 5 (dk_at dksX1_rule_0 4 rfl rfl)
theorem dX1_rule_7 : decode cX1_rule 7 = .ok (.iconst (-1), 1) := dk_2 (dk_at dksX1_rule_0 7 rfl rfl)
theorem dX1_rule_8 : decode cX1_rule 8 = .ok (.ireturn, 1) := dk_172 (dk_at dksX1_rule_0 8 rfl rfl)
theorem dX1_rule_9 : decode cX1_rule 9 = .ok (.iload_n 1, 1) := dk_27 (dk_at dksX1_rule_0 9 rfl rfl)
theorem dX1_rule_10 : decode cX1_rule 10 = .ok (.tableswitch 71 0 4 #[34, 39, 47, 55, 63], 34) := by decide +kernel
theorem dX1_rule_44 : decode cX1_rule 44 = .ok (.aload_n 0, 1) := dk_42 (dk_at dksX1_rule_2 0 rfl rfl)
theorem dX1_rule_45 : decode cX1_rule 45 = .ok (.getfield 79, 3) := dk_180 0 79 (dk_at dksX1_rule_2 1 rfl rfl)
theorem dX1_rule_48 : decode cX1_rule 48 = .ok (.ireturn, 1) := dk_172 (dk_at dksX1_rule_2 4 rfl rfl)
theorem dX1_rule_49 : decode cX1_rule 49 = .ok (.aload_n 0, 1) := dk_42 (dk_at dksX1_rule_2 5 rfl rfl)
theorem dX1_rule_50 : decode cX1_rule 50 = .ok (.getfield 46, 3) := dk_180 0 46 (dk_at dksX1_rule_2 6 rfl rfl)
theorem dX1_rule_53 : decode cX1_rule 53 = .ok (.getfield 215, 3) := dk_180 0 215 (dk_at dksX1_rule_2 9 rfl rfl)
theorem dX1_rule_56 : decode cX1_rule 56 = .ok (.ireturn, 1) := dk_172 (dk_at dksX1_rule_2 12 rfl rfl)
theorem dX1_rule_57 : decode cX1_rule 57 = .ok (.aload_n 0, 1) := dk_42 (dk_at dksX1_rule_2 13 rfl rfl)
theorem dX1_rule_58 : decode cX1_rule 58 = .ok (.getfield 46, 3) := dk_180 0 46 (dk_at dksX1_rule_2 14 rfl rfl)
theorem dX1_rule_61 : decode cX1_rule 61 = .ok (.getfield 125, 3) := dk_180 0 125 (dk_at dksX1_rule_2 17 rfl rfl)
theorem dX1_rule_64 : decode cX1_rule 64 = .ok (.ireturn, 1) := dk_172 (dk_at dksX1_rule_2 20 rfl rfl)
theorem dX1_rule_65 : decode cX1_rule 65 = .ok (.aload_n 0, 1) := dk_42 (dk_at dksX1_rule_2 21 rfl rfl)
theorem dX1_rule_66 : decode cX1_rule 66 = .ok (.getfield 46, 3) := dk_180 0 46 (dk_at dksX1_rule_3 0 rfl rfl)
theorem dX1_rule_69 : decode cX1_rule 69 = .ok (.invokevirtual 218, 3) := dk_182 0 218 (dk_at dksX1_rule_3 3 rfl rfl)
theorem dX1_rule_72 : decode cX1_rule 72 = .ok (.ireturn, 1) := dk_172 (dk_at dksX1_rule_3 6 rfl rfl)
theorem dX1_rule_73 : decode cX1_rule 73 = .ok (.aload_n 0, 1) := dk_42 (dk_at dksX1_rule_3 7 rfl rfl)
theorem dX1_rule_74 : decode cX1_rule 74 = .ok (.getfield 46, 3) := dk_180 0 46 (dk_at dksX1_rule_3 8 rfl rfl)
theorem dX1_rule_77 : decode cX1_rule 77 = .ok (.invokevirtual 221, 3) := dk_182 0 221 (dk_at dksX1_rule_3 11 rfl rfl)
theorem dX1_rule_80 : decode cX1_rule 80 = .ok (.ireturn, 1) := dk_172 (dk_at dksX1_rule_3 14 rfl rfl)
theorem dX1_rule_81 : decode cX1_rule 81 = .ok (.iconst (-1), 1) := dk_2 (dk_at dksX1_rule_3 15 rfl rfl)
theorem dX1_rule_82 : decode cX1_rule 82 = .ok (.ireturn, 1) := dk_172 (dk_at dksX1_rule_3 16 rfl rfl)
abbrev cX1_cell : ByteArray := prog_1_method_27_code
def yX1_cell : MethodName := ⟨RX1, "cell", "(III)I"⟩
def dkwX1_cell_3 : List UInt8 := [50, 29, 182, 0, 198, 172]
abbrev dktX1_cell_3 : List UInt8 := dkwX1_cell_3 ++ []
def dkwX1_cell_2 : List UInt8 := [4, 100, 133, 184, 0, 82, 154, 0, 5, 2, 172, 42, 180, 0, 46, 180, 0, 191, 27, 50, 180, 0, 194, 28]
abbrev dktX1_cell_2 : List UInt8 := dkwX1_cell_2 ++ dktX1_cell_3
def dkwX1_cell_1 : List UInt8 := [100, 133, 184, 0, 82, 153, 0, 28, 29, 133, 9, 42, 180, 0, 46, 180, 0, 191, 27, 50, 180, 0, 202, 190]
abbrev dktX1_cell_1 : List UInt8 := dkwX1_cell_1 ++ dktX1_cell_2
def dkwX1_cell_0 : List UInt8 := [42, 27, 182, 0, 223, 153, 0, 52, 28, 133, 9, 42, 180, 0, 46, 180, 0, 191, 27, 50, 180, 0, 193, 4]
abbrev dktX1_cell_0 : List UInt8 := dkwX1_cell_0 ++ dktX1_cell_1
theorem dksX1_cell_0 : cX1_cell.data.toList.drop 0 = dktX1_cell_0 := by decide +kernel
theorem dksX1_cell_1 : cX1_cell.data.toList.drop 24 = dktX1_cell_1 := dk_seg dksX1_cell_0 24 rfl rfl
theorem dksX1_cell_2 : cX1_cell.data.toList.drop 48 = dktX1_cell_2 := dk_seg dksX1_cell_1 24 rfl rfl
theorem dksX1_cell_3 : cX1_cell.data.toList.drop 72 = dktX1_cell_3 := dk_seg dksX1_cell_2 24 rfl rfl
theorem dX1_cell_0 : decode cX1_cell 0 = .ok (.aload_n 0, 1) := dk_42 (dk_at dksX1_cell_0 0 rfl rfl)
theorem dX1_cell_1 : decode cX1_cell 1 = .ok (.iload_n 1, 1) := dk_27 (dk_at dksX1_cell_0 1 rfl rfl)
theorem dX1_cell_2 : decode cX1_cell 2 = .ok (.invokevirtual 223, 3) := dk_182 0 223 (dk_at dksX1_cell_0 2 rfl rfl)
theorem dX1_cell_5 : decode cX1_cell 5 = .ok (.ifCond .eq 52, 3) := dk_153 0 52 (dk_at dksX1_cell_0 5 rfl rfl)
theorem dX1_cell_8 : decode cX1_cell 8 = .ok (.iload_n 2, 1) := dk_28 (dk_at dksX1_cell_0 8 rfl rfl)
theorem dX1_cell_9 : decode cX1_cell 9 = .ok (.i2l, 1) := dk_133 (dk_at dksX1_cell_0 9 rfl rfl)
theorem dX1_cell_10 : decode cX1_cell 10 = .ok (.lconst 0, 1) := dk_9 (dk_at dksX1_cell_0 10 rfl rfl)
theorem dX1_cell_11 : decode cX1_cell 11 = .ok (.aload_n 0, 1) := dk_42 (dk_at dksX1_cell_0 11 rfl rfl)
theorem dX1_cell_12 : decode cX1_cell 12 = .ok (.getfield 46, 3) := dk_180 0 46 (dk_at dksX1_cell_0 12 rfl rfl)
theorem dX1_cell_15 : decode cX1_cell 15 = .ok (.getfield 191, 3) := dk_180 0 191 (dk_at dksX1_cell_0 15 rfl rfl)
theorem dX1_cell_18 : decode cX1_cell 18 = .ok (.iload_n 1, 1) := dk_27 (dk_at dksX1_cell_0 18 rfl rfl)
theorem dX1_cell_19 : decode cX1_cell 19 = .ok (.aaload, 1) := dk_50 (dk_at dksX1_cell_0 19 rfl rfl)
theorem dX1_cell_20 : decode cX1_cell 20 = .ok (.getfield 193, 3) := dk_180 0 193 (dk_at dksX1_cell_0 20 rfl rfl)
theorem dX1_cell_23 : decode cX1_cell 23 = .ok (.iconst 1, 1) := dk_4 (dk_at dksX1_cell_0 23 rfl rfl)
theorem dX1_cell_24 : decode cX1_cell 24 = .ok (.isub, 1) := dk_100 (dk_at dksX1_cell_1 0 rfl rfl)
theorem dX1_cell_25 : decode cX1_cell 25 = .ok (.i2l, 1) := dk_133 (dk_at dksX1_cell_1 1 rfl rfl)
theorem dX1_cell_26 : decode cX1_cell 26 = .ok (.invokestatic 82, 3) := dk_184 0 82 (dk_at dksX1_cell_1 2 rfl rfl)
theorem dX1_cell_29 : decode cX1_cell 29 = .ok (.ifCond .eq 28, 3) := dk_153 0 28 (dk_at dksX1_cell_1 5 rfl rfl)
theorem dX1_cell_32 : decode cX1_cell 32 = .ok (.iload_n 3, 1) := dk_29 (dk_at dksX1_cell_1 8 rfl rfl)
theorem dX1_cell_33 : decode cX1_cell 33 = .ok (.i2l, 1) := dk_133 (dk_at dksX1_cell_1 9 rfl rfl)
theorem dX1_cell_34 : decode cX1_cell 34 = .ok (.lconst 0, 1) := dk_9 (dk_at dksX1_cell_1 10 rfl rfl)
theorem dX1_cell_35 : decode cX1_cell 35 = .ok (.aload_n 0, 1) := dk_42 (dk_at dksX1_cell_1 11 rfl rfl)
theorem dX1_cell_36 : decode cX1_cell 36 = .ok (.getfield 46, 3) := dk_180 0 46 (dk_at dksX1_cell_1 12 rfl rfl)
theorem dX1_cell_39 : decode cX1_cell 39 = .ok (.getfield 191, 3) := dk_180 0 191 (dk_at dksX1_cell_1 15 rfl rfl)
theorem dX1_cell_42 : decode cX1_cell 42 = .ok (.iload_n 1, 1) := dk_27 (dk_at dksX1_cell_1 18 rfl rfl)
theorem dX1_cell_43 : decode cX1_cell 43 = .ok (.aaload, 1) := dk_50 (dk_at dksX1_cell_1 19 rfl rfl)
theorem dX1_cell_44 : decode cX1_cell 44 = .ok (.getfield 202, 3) := dk_180 0 202 (dk_at dksX1_cell_1 20 rfl rfl)
theorem dX1_cell_47 : decode cX1_cell 47 = .ok (.arraylength, 1) := dk_190 (dk_at dksX1_cell_1 23 rfl rfl)
theorem dX1_cell_48 : decode cX1_cell 48 = .ok (.iconst 1, 1) := dk_4 (dk_at dksX1_cell_2 0 rfl rfl)
theorem dX1_cell_49 : decode cX1_cell 49 = .ok (.isub, 1) := dk_100 (dk_at dksX1_cell_2 1 rfl rfl)
theorem dX1_cell_50 : decode cX1_cell 50 = .ok (.i2l, 1) := dk_133 (dk_at dksX1_cell_2 2 rfl rfl)
theorem dX1_cell_51 : decode cX1_cell 51 = .ok (.invokestatic 82, 3) := dk_184 0 82 (dk_at dksX1_cell_2 3 rfl rfl)
theorem dX1_cell_54 : decode cX1_cell 54 = .ok (.ifCond .ne 5, 3) := dk_154 0 5 (dk_at dksX1_cell_2 6 rfl rfl)
theorem dX1_cell_57 : decode cX1_cell 57 = .ok (.iconst (-1), 1) := dk_2 (dk_at dksX1_cell_2 9 rfl rfl)
theorem dX1_cell_58 : decode cX1_cell 58 = .ok (.ireturn, 1) := dk_172 (dk_at dksX1_cell_2 10 rfl rfl)
theorem dX1_cell_59 : decode cX1_cell 59 = .ok (.aload_n 0, 1) := dk_42 (dk_at dksX1_cell_2 11 rfl rfl)
theorem dX1_cell_60 : decode cX1_cell 60 = .ok (.getfield 46, 3) := dk_180 0 46 (dk_at dksX1_cell_2 12 rfl rfl)
theorem dX1_cell_63 : decode cX1_cell 63 = .ok (.getfield 191, 3) := dk_180 0 191 (dk_at dksX1_cell_2 15 rfl rfl)
theorem dX1_cell_66 : decode cX1_cell 66 = .ok (.iload_n 1, 1) := dk_27 (dk_at dksX1_cell_2 18 rfl rfl)
theorem dX1_cell_67 : decode cX1_cell 67 = .ok (.aaload, 1) := dk_50 (dk_at dksX1_cell_2 19 rfl rfl)
theorem dX1_cell_68 : decode cX1_cell 68 = .ok (.getfield 194, 3) := dk_180 0 194 (dk_at dksX1_cell_2 20 rfl rfl)
theorem dX1_cell_71 : decode cX1_cell 71 = .ok (.iload_n 2, 1) := dk_28 (dk_at dksX1_cell_2 23 rfl rfl)
theorem dX1_cell_72 : decode cX1_cell 72 = .ok (.aaload, 1) := dk_50 (dk_at dksX1_cell_3 0 rfl rfl)
theorem dX1_cell_73 : decode cX1_cell 73 = .ok (.iload_n 3, 1) := dk_29 (dk_at dksX1_cell_3 1 rfl rfl)
theorem dX1_cell_74 : decode cX1_cell 74 = .ok (.invokevirtual 198, 3) := dk_182 0 198 (dk_at dksX1_cell_3 2 rfl rfl)
theorem dX1_cell_77 : decode cX1_cell 77 = .ok (.ireturn, 1) := dk_172 (dk_at dksX1_cell_3 5 rfl rfl)
abbrev cX1_isTable : ByteArray := prog_1_method_24_code
def yX1_isTable : MethodName := ⟨RX1, "isTable", "(I)Z"⟩
def dkwX1_isTable_0 : List UInt8 := [42, 180, 0, 79, 158, 0, 18, 42, 180, 0, 46, 27, 182, 0, 211, 153, 0, 7, 4, 167, 0, 4, 3, 172]
abbrev dktX1_isTable_0 : List UInt8 := dkwX1_isTable_0 ++ []
theorem dksX1_isTable_0 : cX1_isTable.data.toList.drop 0 = dktX1_isTable_0 := by decide +kernel
theorem dX1_isTable_0 : decode cX1_isTable 0 = .ok (.aload_n 0, 1) := dk_42 (dk_at dksX1_isTable_0 0 rfl rfl)
theorem dX1_isTable_1 : decode cX1_isTable 1 = .ok (.getfield 79, 3) := dk_180 0 79 (dk_at dksX1_isTable_0 1 rfl rfl)
theorem dX1_isTable_4 : decode cX1_isTable 4 = .ok (.ifCond .le 18, 3) := dk_158 0 18 (dk_at dksX1_isTable_0 4 rfl rfl)
theorem dX1_isTable_7 : decode cX1_isTable 7 = .ok (.aload_n 0, 1) := dk_42 (dk_at dksX1_isTable_0 7 rfl rfl)
theorem dX1_isTable_8 : decode cX1_isTable 8 = .ok (.getfield 46, 3) := dk_180 0 46 (dk_at dksX1_isTable_0 8 rfl rfl)
theorem dX1_isTable_11 : decode cX1_isTable 11 = .ok (.iload_n 1, 1) := dk_27 (dk_at dksX1_isTable_0 11 rfl rfl)
theorem dX1_isTable_12 : decode cX1_isTable 12 = .ok (.invokevirtual 211, 3) := dk_182 0 211 (dk_at dksX1_isTable_0 12 rfl rfl)
theorem dX1_isTable_15 : decode cX1_isTable 15 = .ok (.ifCond .eq 7, 3) := dk_153 0 7 (dk_at dksX1_isTable_0 15 rfl rfl)
theorem dX1_isTable_18 : decode cX1_isTable 18 = .ok (.iconst 1, 1) := dk_4 (dk_at dksX1_isTable_0 18 rfl rfl)
theorem dX1_isTable_19 : decode cX1_isTable 19 = .ok (.goto 4, 3) := dk_167 0 4 (dk_at dksX1_isTable_0 19 rfl rfl)
theorem dX1_isTable_22 : decode cX1_isTable 22 = .ok (.iconst 0, 1) := dk_3 (dk_at dksX1_isTable_0 22 rfl rfl)
theorem dX1_isTable_23 : decode cX1_isTable 23 = .ok (.ireturn, 1) := dk_172 (dk_at dksX1_isTable_0 23 rfl rfl)
abbrev cX1_rows : ByteArray := prog_1_method_28_code
def yX1_rows : MethodName := ⟨RX1, "rows", "()I"⟩
def dkwX1_rows_0 : List UInt8 := [42, 180, 0, 79, 154, 0, 7, 2, 167, 0, 10, 42, 182, 0, 153, 180, 0, 156, 172]
abbrev dktX1_rows_0 : List UInt8 := dkwX1_rows_0 ++ []
theorem dksX1_rows_0 : cX1_rows.data.toList.drop 0 = dktX1_rows_0 := by decide +kernel
theorem dX1_rows_0 : decode cX1_rows 0 = .ok (.aload_n 0, 1) := dk_42 (dk_at dksX1_rows_0 0 rfl rfl)
theorem dX1_rows_1 : decode cX1_rows 1 = .ok (.getfield 79, 3) := dk_180 0 79 (dk_at dksX1_rows_0 1 rfl rfl)
theorem dX1_rows_4 : decode cX1_rows 4 = .ok (.ifCond .ne 7, 3) := dk_154 0 7 (dk_at dksX1_rows_0 4 rfl rfl)
theorem dX1_rows_7 : decode cX1_rows 7 = .ok (.iconst (-1), 1) := dk_2 (dk_at dksX1_rows_0 7 rfl rfl)
theorem dX1_rows_8 : decode cX1_rows 8 = .ok (.goto 10, 3) := dk_167 0 10 (dk_at dksX1_rows_0 8 rfl rfl)
theorem dX1_rows_11 : decode cX1_rows 11 = .ok (.aload_n 0, 1) := dk_42 (dk_at dksX1_rows_0 11 rfl rfl)
theorem dX1_rows_12 : decode cX1_rows 12 = .ok (.invokevirtual 153, 3) := dk_182 0 153 (dk_at dksX1_rows_0 12 rfl rfl)
theorem dX1_rows_15 : decode cX1_rows 15 = .ok (.getfield 156, 3) := dk_180 0 156 (dk_at dksX1_rows_0 15 rfl rfl)
theorem dX1_rows_18 : decode cX1_rows 18 = .ok (.ireturn, 1) := dk_172 (dk_at dksX1_rows_0 18 rfl rfl)
abbrev cX1_row : ByteArray := prog_1_method_30_code
def yX1_row : MethodName := ⟨RX1, "row", "(II)I"⟩
def dkwX1_row_1 : List UInt8 := [153, 0, 15, 42, 180, 0, 62, 27, 28, 182, 0, 237, 167, 0, 4, 2, 172]
abbrev dktX1_row_1 : List UInt8 := dkwX1_row_1 ++ []
def dkwX1_row_0 : List UInt8 := [42, 28, 182, 0, 234, 153, 0, 34, 27, 133, 9, 42, 182, 0, 153, 180, 0, 156, 4, 100, 133, 184, 0, 82]
abbrev dktX1_row_0 : List UInt8 := dkwX1_row_0 ++ dktX1_row_1
theorem dksX1_row_0 : cX1_row.data.toList.drop 0 = dktX1_row_0 := by decide +kernel
theorem dksX1_row_1 : cX1_row.data.toList.drop 24 = dktX1_row_1 := dk_seg dksX1_row_0 24 rfl rfl
theorem dX1_row_0 : decode cX1_row 0 = .ok (.aload_n 0, 1) := dk_42 (dk_at dksX1_row_0 0 rfl rfl)
theorem dX1_row_1 : decode cX1_row 1 = .ok (.iload_n 2, 1) := dk_28 (dk_at dksX1_row_0 1 rfl rfl)
theorem dX1_row_2 : decode cX1_row 2 = .ok (.invokevirtual 234, 3) := dk_182 0 234 (dk_at dksX1_row_0 2 rfl rfl)
theorem dX1_row_5 : decode cX1_row 5 = .ok (.ifCond .eq 34, 3) := dk_153 0 34 (dk_at dksX1_row_0 5 rfl rfl)
theorem dX1_row_8 : decode cX1_row 8 = .ok (.iload_n 1, 1) := dk_27 (dk_at dksX1_row_0 8 rfl rfl)
theorem dX1_row_9 : decode cX1_row 9 = .ok (.i2l, 1) := dk_133 (dk_at dksX1_row_0 9 rfl rfl)
theorem dX1_row_10 : decode cX1_row 10 = .ok (.lconst 0, 1) := dk_9 (dk_at dksX1_row_0 10 rfl rfl)
theorem dX1_row_11 : decode cX1_row 11 = .ok (.aload_n 0, 1) := dk_42 (dk_at dksX1_row_0 11 rfl rfl)
theorem dX1_row_12 : decode cX1_row 12 = .ok (.invokevirtual 153, 3) := dk_182 0 153 (dk_at dksX1_row_0 12 rfl rfl)
theorem dX1_row_15 : decode cX1_row 15 = .ok (.getfield 156, 3) := dk_180 0 156 (dk_at dksX1_row_0 15 rfl rfl)
theorem dX1_row_18 : decode cX1_row 18 = .ok (.iconst 1, 1) := dk_4 (dk_at dksX1_row_0 18 rfl rfl)
theorem dX1_row_19 : decode cX1_row 19 = .ok (.isub, 1) := dk_100 (dk_at dksX1_row_0 19 rfl rfl)
theorem dX1_row_20 : decode cX1_row 20 = .ok (.i2l, 1) := dk_133 (dk_at dksX1_row_0 20 rfl rfl)
theorem dX1_row_21 : decode cX1_row 21 = .ok (.invokestatic 82, 3) := dk_184 0 82 (dk_at dksX1_row_0 21 rfl rfl)
theorem dX1_row_24 : decode cX1_row 24 = .ok (.ifCond .eq 15, 3) := dk_153 0 15 (dk_at dksX1_row_1 0 rfl rfl)
theorem dX1_row_27 : decode cX1_row 27 = .ok (.aload_n 0, 1) := dk_42 (dk_at dksX1_row_1 3 rfl rfl)
theorem dX1_row_28 : decode cX1_row 28 = .ok (.getfield 62, 3) := dk_180 0 62 (dk_at dksX1_row_1 4 rfl rfl)
theorem dX1_row_31 : decode cX1_row 31 = .ok (.iload_n 1, 1) := dk_27 (dk_at dksX1_row_1 7 rfl rfl)
theorem dX1_row_32 : decode cX1_row 32 = .ok (.iload_n 2, 1) := dk_28 (dk_at dksX1_row_1 8 rfl rfl)
theorem dX1_row_33 : decode cX1_row 33 = .ok (.invokevirtual 237, 3) := dk_182 0 237 (dk_at dksX1_row_1 9 rfl rfl)
theorem dX1_row_36 : decode cX1_row 36 = .ok (.goto 4, 3) := dk_167 0 4 (dk_at dksX1_row_1 12 rfl rfl)
theorem dX1_row_39 : decode cX1_row 39 = .ok (.iconst (-1), 1) := dk_2 (dk_at dksX1_row_1 15 rfl rfl)
theorem dX1_row_40 : decode cX1_row 40 = .ok (.ireturn, 1) := dk_172 (dk_at dksX1_row_1 16 rfl rfl)
abbrev cX1_isAsked : ByteArray := prog_1_method_29_code
def yX1_isAsked : MethodName := ⟨RX1, "isAsked", "(I)Z"⟩
def dkwX1_isAsked_1 : List UInt8 := [182, 0, 218, 27, 184, 0, 230, 153, 0, 7, 4, 167, 0, 4, 3, 172]
abbrev dktX1_isAsked_1 : List UInt8 := dkwX1_isAsked_1 ++ []
def dkwX1_isAsked_0 : List UInt8 := [42, 180, 0, 79, 158, 0, 33, 27, 133, 9, 20, 0, 170, 184, 0, 82, 153, 0, 21, 42, 180, 0, 46]
abbrev dktX1_isAsked_0 : List UInt8 := dkwX1_isAsked_0 ++ dktX1_isAsked_1
theorem dksX1_isAsked_0 : cX1_isAsked.data.toList.drop 0 = dktX1_isAsked_0 := by decide +kernel
theorem dksX1_isAsked_1 : cX1_isAsked.data.toList.drop 23 = dktX1_isAsked_1 := dk_seg dksX1_isAsked_0 23 rfl rfl
theorem dX1_isAsked_0 : decode cX1_isAsked 0 = .ok (.aload_n 0, 1) := dk_42 (dk_at dksX1_isAsked_0 0 rfl rfl)
theorem dX1_isAsked_1 : decode cX1_isAsked 1 = .ok (.getfield 79, 3) := dk_180 0 79 (dk_at dksX1_isAsked_0 1 rfl rfl)
theorem dX1_isAsked_4 : decode cX1_isAsked 4 = .ok (.ifCond .le 33, 3) := dk_158 0 33 (dk_at dksX1_isAsked_0 4 rfl rfl)
theorem dX1_isAsked_7 : decode cX1_isAsked 7 = .ok (.iload_n 1, 1) := dk_27 (dk_at dksX1_isAsked_0 7 rfl rfl)
theorem dX1_isAsked_8 : decode cX1_isAsked 8 = .ok (.i2l, 1) := dk_133 (dk_at dksX1_isAsked_0 8 rfl rfl)
theorem dX1_isAsked_9 : decode cX1_isAsked 9 = .ok (.lconst 0, 1) := dk_9 (dk_at dksX1_isAsked_0 9 rfl rfl)
theorem dX1_isAsked_10 : decode cX1_isAsked 10 = .ok (.ldc2_w 170, 3) := dk_20 0 170 (dk_at dksX1_isAsked_0 10 rfl rfl)
theorem dX1_isAsked_13 : decode cX1_isAsked 13 = .ok (.invokestatic 82, 3) := dk_184 0 82 (dk_at dksX1_isAsked_0 13 rfl rfl)
theorem dX1_isAsked_16 : decode cX1_isAsked 16 = .ok (.ifCond .eq 21, 3) := dk_153 0 21 (dk_at dksX1_isAsked_0 16 rfl rfl)
theorem dX1_isAsked_19 : decode cX1_isAsked 19 = .ok (.aload_n 0, 1) := dk_42 (dk_at dksX1_isAsked_0 19 rfl rfl)
theorem dX1_isAsked_20 : decode cX1_isAsked 20 = .ok (.getfield 46, 3) := dk_180 0 46 (dk_at dksX1_isAsked_0 20 rfl rfl)
theorem dX1_isAsked_23 : decode cX1_isAsked 23 = .ok (.invokevirtual 218, 3) := dk_182 0 218 (dk_at dksX1_isAsked_1 0 rfl rfl)
theorem dX1_isAsked_26 : decode cX1_isAsked 26 = .ok (.iload_n 1, 1) := dk_27 (dk_at dksX1_isAsked_1 3 rfl rfl)
theorem dX1_isAsked_27 : decode cX1_isAsked 27 = .ok (.invokestatic 230, 3) := dk_184 0 230 (dk_at dksX1_isAsked_1 4 rfl rfl)
theorem dX1_isAsked_30 : decode cX1_isAsked 30 = .ok (.ifCond .eq 7, 3) := dk_153 0 7 (dk_at dksX1_isAsked_1 7 rfl rfl)
theorem dX1_isAsked_33 : decode cX1_isAsked 33 = .ok (.iconst 1, 1) := dk_4 (dk_at dksX1_isAsked_1 10 rfl rfl)
theorem dX1_isAsked_34 : decode cX1_isAsked 34 = .ok (.goto 4, 3) := dk_167 0 4 (dk_at dksX1_isAsked_1 11 rfl rfl)
theorem dX1_isAsked_37 : decode cX1_isAsked 37 = .ok (.iconst 0, 1) := dk_3 (dk_at dksX1_isAsked_1 14 rfl rfl)
theorem dX1_isAsked_38 : decode cX1_isAsked 38 = .ok (.ireturn, 1) := dk_172 (dk_at dksX1_isAsked_1 15 rfl rfl)
abbrev cX1_leaps : ByteArray := prog_1_method_31_code
def yX1_leaps : MethodName := ⟨RX1, "leaps", "()I"⟩
def dkwX1_leaps_0 : List UInt8 := [42, 180, 0, 79, 154, 0, 7, 2, 167, 0, 10, 42, 182, 0, 153, 180, 0, 239, 172]
abbrev dktX1_leaps_0 : List UInt8 := dkwX1_leaps_0 ++ []
theorem dksX1_leaps_0 : cX1_leaps.data.toList.drop 0 = dktX1_leaps_0 := by decide +kernel
theorem dX1_leaps_0 : decode cX1_leaps 0 = .ok (.aload_n 0, 1) := dk_42 (dk_at dksX1_leaps_0 0 rfl rfl)
theorem dX1_leaps_1 : decode cX1_leaps 1 = .ok (.getfield 79, 3) := dk_180 0 79 (dk_at dksX1_leaps_0 1 rfl rfl)
theorem dX1_leaps_4 : decode cX1_leaps 4 = .ok (.ifCond .ne 7, 3) := dk_154 0 7 (dk_at dksX1_leaps_0 4 rfl rfl)
theorem dX1_leaps_7 : decode cX1_leaps 7 = .ok (.iconst (-1), 1) := dk_2 (dk_at dksX1_leaps_0 7 rfl rfl)
theorem dX1_leaps_8 : decode cX1_leaps 8 = .ok (.goto 10, 3) := dk_167 0 10 (dk_at dksX1_leaps_0 8 rfl rfl)
theorem dX1_leaps_11 : decode cX1_leaps 11 = .ok (.aload_n 0, 1) := dk_42 (dk_at dksX1_leaps_0 11 rfl rfl)
theorem dX1_leaps_12 : decode cX1_leaps 12 = .ok (.invokevirtual 153, 3) := dk_182 0 153 (dk_at dksX1_leaps_0 12 rfl rfl)
theorem dX1_leaps_15 : decode cX1_leaps 15 = .ok (.getfield 239, 3) := dk_180 0 239 (dk_at dksX1_leaps_0 15 rfl rfl)
theorem dX1_leaps_18 : decode cX1_leaps 18 = .ok (.ireturn, 1) := dk_172 (dk_at dksX1_leaps_0 18 rfl rfl)
abbrev cX1_beginnings : ByteArray := prog_1_method_32_code
def yX1_beginnings : MethodName := ⟨RX1, "beginnings", "(I)I"⟩
def dkwX1_beginnings_1 : List UInt8 := [42, 180, 0, 62, 180, 0, 245, 27, 46, 167, 0, 4, 2, 172]
abbrev dktX1_beginnings_1 : List UInt8 := dkwX1_beginnings_1 ++ []
def dkwX1_beginnings_0 : List UInt8 := [42, 180, 0, 79, 158, 0, 32, 27, 133, 10, 42, 182, 0, 153, 180, 0, 242, 133, 184, 0, 82, 153, 0, 15]
abbrev dktX1_beginnings_0 : List UInt8 := dkwX1_beginnings_0 ++ dktX1_beginnings_1
theorem dksX1_beginnings_0 : cX1_beginnings.data.toList.drop 0 = dktX1_beginnings_0 := by decide +kernel
theorem dksX1_beginnings_1 : cX1_beginnings.data.toList.drop 24 = dktX1_beginnings_1 := dk_seg dksX1_beginnings_0 24 rfl rfl
theorem dX1_beginnings_0 : decode cX1_beginnings 0 = .ok (.aload_n 0, 1) := dk_42 (dk_at dksX1_beginnings_0 0 rfl rfl)
theorem dX1_beginnings_1 : decode cX1_beginnings 1 = .ok (.getfield 79, 3) := dk_180 0 79 (dk_at dksX1_beginnings_0 1 rfl rfl)
theorem dX1_beginnings_4 : decode cX1_beginnings 4 = .ok (.ifCond .le 32, 3) := dk_158 0 32 (dk_at dksX1_beginnings_0 4 rfl rfl)
theorem dX1_beginnings_7 : decode cX1_beginnings 7 = .ok (.iload_n 1, 1) := dk_27 (dk_at dksX1_beginnings_0 7 rfl rfl)
theorem dX1_beginnings_8 : decode cX1_beginnings 8 = .ok (.i2l, 1) := dk_133 (dk_at dksX1_beginnings_0 8 rfl rfl)
theorem dX1_beginnings_9 : decode cX1_beginnings 9 = .ok (.lconst 1, 1) := dk_10 (dk_at dksX1_beginnings_0 9 rfl rfl)
theorem dX1_beginnings_10 : decode cX1_beginnings 10 = .ok (.aload_n 0, 1) := dk_42 (dk_at dksX1_beginnings_0 10 rfl rfl)
theorem dX1_beginnings_11 : decode cX1_beginnings 11 = .ok (.invokevirtual 153, 3) := dk_182 0 153 (dk_at dksX1_beginnings_0 11 rfl rfl)
theorem dX1_beginnings_14 : decode cX1_beginnings 14 = .ok (.getfield 242, 3) := dk_180 0 242 (dk_at dksX1_beginnings_0 14 rfl rfl)
theorem dX1_beginnings_17 : decode cX1_beginnings 17 = .ok (.i2l, 1) := dk_133 (dk_at dksX1_beginnings_0 17 rfl rfl)
theorem dX1_beginnings_18 : decode cX1_beginnings 18 = .ok (.invokestatic 82, 3) := dk_184 0 82 (dk_at dksX1_beginnings_0 18 rfl rfl)
theorem dX1_beginnings_21 : decode cX1_beginnings 21 = .ok (.ifCond .eq 15, 3) := dk_153 0 15 (dk_at dksX1_beginnings_0 21 rfl rfl)
theorem dX1_beginnings_24 : decode cX1_beginnings 24 = .ok (.aload_n 0, 1) := dk_42 (dk_at dksX1_beginnings_1 0 rfl rfl)
theorem dX1_beginnings_25 : decode cX1_beginnings 25 = .ok (.getfield 62, 3) := dk_180 0 62 (dk_at dksX1_beginnings_1 1 rfl rfl)
theorem dX1_beginnings_28 : decode cX1_beginnings 28 = .ok (.getfield 245, 3) := dk_180 0 245 (dk_at dksX1_beginnings_1 4 rfl rfl)
theorem dX1_beginnings_31 : decode cX1_beginnings 31 = .ok (.iload_n 1, 1) := dk_27 (dk_at dksX1_beginnings_1 7 rfl rfl)
theorem dX1_beginnings_32 : decode cX1_beginnings 32 = .ok (.iaload, 1) := dk_46 (dk_at dksX1_beginnings_1 8 rfl rfl)
theorem dX1_beginnings_33 : decode cX1_beginnings 33 = .ok (.goto 4, 3) := dk_167 0 4 (dk_at dksX1_beginnings_1 9 rfl rfl)
theorem dX1_beginnings_36 : decode cX1_beginnings 36 = .ok (.iconst (-1), 1) := dk_2 (dk_at dksX1_beginnings_1 12 rfl rfl)
theorem dX1_beginnings_37 : decode cX1_beginnings 37 = .ok (.ireturn, 1) := dk_172 (dk_at dksX1_beginnings_1 13 rfl rfl)
abbrev cX1_best : ByteArray := prog_1_method_33_code
def yX1_best : MethodName := ⟨RX1, "best", "(I)I"⟩
def dkwX1_best_4 : List UInt8 := [167, 0, 4, 29, 172]
abbrev dktX1_best_4 : List UInt8 := dkwX1_best_4 ++ []
def dkwX1_best_3 : List UInt8 := [161, 0, 6, 167, 0, 9, 21, 4, 61, 21, 5, 62, 132, 4, 1, 167, 255, 213, 27, 154, 0, 7, 28]
abbrev dktX1_best_3 : List UInt8 := dkwX1_best_3 ++ dktX1_best_4
def dkwX1_best_2 : List UInt8 := [162, 0, 42, 42, 180, 0, 62, 42, 180, 0, 46, 21, 4, 182, 0, 128, 180, 0, 239, 54, 5, 21, 5, 29]
abbrev dktX1_best_2 : List UInt8 := dkwX1_best_2 ++ dktX1_best_3
def dkwX1_best_1 : List UInt8 := [180, 0, 62, 42, 180, 0, 46, 3, 182, 0, 128, 180, 0, 239, 62, 4, 54, 4, 21, 4, 16, 24]
abbrev dktX1_best_1 : List UInt8 := dkwX1_best_1 ++ dktX1_best_2
def dkwX1_best_0 : List UInt8 := [42, 180, 0, 79, 153, 0, 13, 27, 133, 9, 10, 184, 0, 82, 154, 0, 5, 2, 172, 3, 61, 42]
abbrev dktX1_best_0 : List UInt8 := dkwX1_best_0 ++ dktX1_best_1
theorem dksX1_best_0 : cX1_best.data.toList.drop 0 = dktX1_best_0 := by decide +kernel
theorem dksX1_best_1 : cX1_best.data.toList.drop 22 = dktX1_best_1 := dk_seg dksX1_best_0 22 rfl rfl
theorem dksX1_best_2 : cX1_best.data.toList.drop 44 = dktX1_best_2 := dk_seg dksX1_best_1 22 rfl rfl
theorem dksX1_best_3 : cX1_best.data.toList.drop 68 = dktX1_best_3 := dk_seg dksX1_best_2 24 rfl rfl
theorem dksX1_best_4 : cX1_best.data.toList.drop 91 = dktX1_best_4 := dk_seg dksX1_best_3 23 rfl rfl
theorem dX1_best_0 : decode cX1_best 0 = .ok (.aload_n 0, 1) := dk_42 (dk_at dksX1_best_0 0 rfl rfl)
theorem dX1_best_1 : decode cX1_best 1 = .ok (.getfield 79, 3) := dk_180 0 79 (dk_at dksX1_best_0 1 rfl rfl)
theorem dX1_best_4 : decode cX1_best 4 = .ok (.ifCond .eq 13, 3) := dk_153 0 13 (dk_at dksX1_best_0 4 rfl rfl)
theorem dX1_best_7 : decode cX1_best 7 = .ok (.iload_n 1, 1) := dk_27 (dk_at dksX1_best_0 7 rfl rfl)
theorem dX1_best_8 : decode cX1_best 8 = .ok (.i2l, 1) := dk_133 (dk_at dksX1_best_0 8 rfl rfl)
theorem dX1_best_9 : decode cX1_best 9 = .ok (.lconst 0, 1) := dk_9 (dk_at dksX1_best_0 9 rfl rfl)
theorem dX1_best_10 : decode cX1_best 10 = .ok (.lconst 1, 1) := dk_10 (dk_at dksX1_best_0 10 rfl rfl)
theorem dX1_best_11 : decode cX1_best 11 = .ok (.invokestatic 82, 3) := dk_184 0 82 (dk_at dksX1_best_0 11 rfl rfl)
theorem dX1_best_14 : decode cX1_best 14 = .ok (.ifCond .ne 5, 3) := dk_154 0 5 (dk_at dksX1_best_0 14 rfl rfl)
theorem dX1_best_17 : decode cX1_best 17 = .ok (.iconst (-1), 1) := dk_2 (dk_at dksX1_best_0 17 rfl rfl)
theorem dX1_best_18 : decode cX1_best 18 = .ok (.ireturn, 1) := dk_172 (dk_at dksX1_best_0 18 rfl rfl)
theorem dX1_best_19 : decode cX1_best 19 = .ok (.iconst 0, 1) := dk_3 (dk_at dksX1_best_0 19 rfl rfl)
theorem dX1_best_20 : decode cX1_best 20 = .ok (.istore_n 2, 1) := dk_61 (dk_at dksX1_best_0 20 rfl rfl)
theorem dX1_best_21 : decode cX1_best 21 = .ok (.aload_n 0, 1) := dk_42 (dk_at dksX1_best_0 21 rfl rfl)
theorem dX1_best_22 : decode cX1_best 22 = .ok (.getfield 62, 3) := dk_180 0 62 (dk_at dksX1_best_1 0 rfl rfl)
theorem dX1_best_25 : decode cX1_best 25 = .ok (.aload_n 0, 1) := dk_42 (dk_at dksX1_best_1 3 rfl rfl)
theorem dX1_best_26 : decode cX1_best 26 = .ok (.getfield 46, 3) := dk_180 0 46 (dk_at dksX1_best_1 4 rfl rfl)
theorem dX1_best_29 : decode cX1_best 29 = .ok (.iconst 0, 1) := dk_3 (dk_at dksX1_best_1 7 rfl rfl)
theorem dX1_best_30 : decode cX1_best 30 = .ok (.invokevirtual 128, 3) := dk_182 0 128 (dk_at dksX1_best_1 8 rfl rfl)
theorem dX1_best_33 : decode cX1_best 33 = .ok (.getfield 239, 3) := dk_180 0 239 (dk_at dksX1_best_1 11 rfl rfl)
theorem dX1_best_36 : decode cX1_best 36 = .ok (.istore_n 3, 1) := dk_62 (dk_at dksX1_best_1 14 rfl rfl)
theorem dX1_best_37 : decode cX1_best 37 = .ok (.iconst 1, 1) := dk_4 (dk_at dksX1_best_1 15 rfl rfl)
theorem dX1_best_38 : decode cX1_best 38 = .ok (.istore 4, 2) := dk_54 4 (dk_at dksX1_best_1 16 rfl rfl)
theorem dX1_best_40 : decode cX1_best 40 = .ok (.iload 4, 2) := dk_21 4 (dk_at dksX1_best_1 18 rfl rfl)
theorem dX1_best_42 : decode cX1_best 42 = .ok (.bipush 24, 2) := dk_16 24 (dk_at dksX1_best_1 20 rfl rfl)
theorem dX1_best_44 : decode cX1_best 44 = .ok (.if_icmp .ge 42, 3) := dk_162 0 42 (dk_at dksX1_best_2 0 rfl rfl)
theorem dX1_best_47 : decode cX1_best 47 = .ok (.aload_n 0, 1) := dk_42 (dk_at dksX1_best_2 3 rfl rfl)
theorem dX1_best_48 : decode cX1_best 48 = .ok (.getfield 62, 3) := dk_180 0 62 (dk_at dksX1_best_2 4 rfl rfl)
theorem dX1_best_51 : decode cX1_best 51 = .ok (.aload_n 0, 1) := dk_42 (dk_at dksX1_best_2 7 rfl rfl)
theorem dX1_best_52 : decode cX1_best 52 = .ok (.getfield 46, 3) := dk_180 0 46 (dk_at dksX1_best_2 8 rfl rfl)
theorem dX1_best_55 : decode cX1_best 55 = .ok (.iload 4, 2) := dk_21 4 (dk_at dksX1_best_2 11 rfl rfl)
theorem dX1_best_57 : decode cX1_best 57 = .ok (.invokevirtual 128, 3) := dk_182 0 128 (dk_at dksX1_best_2 13 rfl rfl)
theorem dX1_best_60 : decode cX1_best 60 = .ok (.getfield 239, 3) := dk_180 0 239 (dk_at dksX1_best_2 16 rfl rfl)
theorem dX1_best_63 : decode cX1_best 63 = .ok (.istore 5, 2) := dk_54 5 (dk_at dksX1_best_2 19 rfl rfl)
theorem dX1_best_65 : decode cX1_best 65 = .ok (.iload 5, 2) := dk_21 5 (dk_at dksX1_best_2 21 rfl rfl)
theorem dX1_best_67 : decode cX1_best 67 = .ok (.iload_n 3, 1) := dk_29 (dk_at dksX1_best_2 23 rfl rfl)
theorem dX1_best_68 : decode cX1_best 68 = .ok (.if_icmp .lt 6, 3) := dk_161 0 6 (dk_at dksX1_best_3 0 rfl rfl)
theorem dX1_best_71 : decode cX1_best 71 = .ok (.goto 9, 3) := dk_167 0 9 (dk_at dksX1_best_3 3 rfl rfl)
theorem dX1_best_74 : decode cX1_best 74 = .ok (.iload 4, 2) := dk_21 4 (dk_at dksX1_best_3 6 rfl rfl)
theorem dX1_best_76 : decode cX1_best 76 = .ok (.istore_n 2, 1) := dk_61 (dk_at dksX1_best_3 8 rfl rfl)
theorem dX1_best_77 : decode cX1_best 77 = .ok (.iload 5, 2) := dk_21 5 (dk_at dksX1_best_3 9 rfl rfl)
theorem dX1_best_79 : decode cX1_best 79 = .ok (.istore_n 3, 1) := dk_62 (dk_at dksX1_best_3 11 rfl rfl)
theorem dX1_best_80 : decode cX1_best 80 = .ok (.iinc 4 1, 3) := dk_132 4 1 (dk_at dksX1_best_3 12 rfl rfl)
theorem dX1_best_83 : decode cX1_best 83 = .ok (.goto (-43), 3) := dk_167 255 213 (dk_at dksX1_best_3 15 rfl rfl)
theorem dX1_best_86 : decode cX1_best 86 = .ok (.iload_n 1, 1) := dk_27 (dk_at dksX1_best_3 18 rfl rfl)
theorem dX1_best_87 : decode cX1_best 87 = .ok (.ifCond .ne 7, 3) := dk_154 0 7 (dk_at dksX1_best_3 19 rfl rfl)
theorem dX1_best_90 : decode cX1_best 90 = .ok (.iload_n 2, 1) := dk_28 (dk_at dksX1_best_3 22 rfl rfl)
theorem dX1_best_91 : decode cX1_best 91 = .ok (.goto 4, 3) := dk_167 0 4 (dk_at dksX1_best_4 0 rfl rfl)
theorem dX1_best_94 : decode cX1_best 94 = .ok (.iload_n 3, 1) := dk_29 (dk_at dksX1_best_4 3 rfl rfl)
theorem dX1_best_95 : decode cX1_best 95 = .ok (.ireturn, 1) := dk_172 (dk_at dksX1_best_4 4 rfl rfl)
abbrev cX1_plain : ByteArray := prog_1_method_34_code
def yX1_plain : MethodName := ⟨RX1, "plain", "()I"⟩
def dkwX1_plain_2 : List UInt8 := [180, 0, 193, 167, 0, 4, 4, 104, 60, 132, 2, 1, 167, 255, 212, 27, 172]
abbrev dktX1_plain_2 : List UInt8 := dkwX1_plain_2 ++ []
def dkwX1_plain_1 : List UInt8 := [180, 0, 46, 180, 0, 215, 28, 184, 0, 230, 153, 0, 18, 42, 180, 0, 46, 180, 0, 191, 28, 50]
abbrev dktX1_plain_1 : List UInt8 := dkwX1_plain_1 ++ dktX1_plain_2
def dkwX1_plain_0 : List UInt8 := [42, 180, 0, 79, 154, 0, 5, 2, 172, 4, 60, 3, 61, 28, 42, 180, 0, 79, 162, 0, 42, 27, 42]
abbrev dktX1_plain_0 : List UInt8 := dkwX1_plain_0 ++ dktX1_plain_1
theorem dksX1_plain_0 : cX1_plain.data.toList.drop 0 = dktX1_plain_0 := by decide +kernel
theorem dksX1_plain_1 : cX1_plain.data.toList.drop 23 = dktX1_plain_1 := dk_seg dksX1_plain_0 23 rfl rfl
theorem dksX1_plain_2 : cX1_plain.data.toList.drop 45 = dktX1_plain_2 := dk_seg dksX1_plain_1 22 rfl rfl
theorem dX1_plain_0 : decode cX1_plain 0 = .ok (.aload_n 0, 1) := dk_42 (dk_at dksX1_plain_0 0 rfl rfl)
theorem dX1_plain_1 : decode cX1_plain 1 = .ok (.getfield 79, 3) := dk_180 0 79 (dk_at dksX1_plain_0 1 rfl rfl)
theorem dX1_plain_4 : decode cX1_plain 4 = .ok (.ifCond .ne 5, 3) := dk_154 0 5 (dk_at dksX1_plain_0 4 rfl rfl)
theorem dX1_plain_7 : decode cX1_plain 7 = .ok (.iconst (-1), 1) := dk_2 (dk_at dksX1_plain_0 7 rfl rfl)
theorem dX1_plain_8 : decode cX1_plain 8 = .ok (.ireturn, 1) := dk_172 (dk_at dksX1_plain_0 8 rfl rfl)
theorem dX1_plain_9 : decode cX1_plain 9 = .ok (.iconst 1, 1) := dk_4 (dk_at dksX1_plain_0 9 rfl rfl)
theorem dX1_plain_10 : decode cX1_plain 10 = .ok (.istore_n 1, 1) := dk_60 (dk_at dksX1_plain_0 10 rfl rfl)
theorem dX1_plain_11 : decode cX1_plain 11 = .ok (.iconst 0, 1) := dk_3 (dk_at dksX1_plain_0 11 rfl rfl)
theorem dX1_plain_12 : decode cX1_plain 12 = .ok (.istore_n 2, 1) := dk_61 (dk_at dksX1_plain_0 12 rfl rfl)
theorem dX1_plain_13 : decode cX1_plain 13 = .ok (.iload_n 2, 1) := dk_28 (dk_at dksX1_plain_0 13 rfl rfl)
theorem dX1_plain_14 : decode cX1_plain 14 = .ok (.aload_n 0, 1) := dk_42 (dk_at dksX1_plain_0 14 rfl rfl)
theorem dX1_plain_15 : decode cX1_plain 15 = .ok (.getfield 79, 3) := dk_180 0 79 (dk_at dksX1_plain_0 15 rfl rfl)
theorem dX1_plain_18 : decode cX1_plain 18 = .ok (.if_icmp .ge 42, 3) := dk_162 0 42 (dk_at dksX1_plain_0 18 rfl rfl)
theorem dX1_plain_21 : decode cX1_plain 21 = .ok (.iload_n 1, 1) := dk_27 (dk_at dksX1_plain_0 21 rfl rfl)
theorem dX1_plain_22 : decode cX1_plain 22 = .ok (.aload_n 0, 1) := dk_42 (dk_at dksX1_plain_0 22 rfl rfl)
theorem dX1_plain_23 : decode cX1_plain 23 = .ok (.getfield 46, 3) := dk_180 0 46 (dk_at dksX1_plain_1 0 rfl rfl)
theorem dX1_plain_26 : decode cX1_plain 26 = .ok (.getfield 215, 3) := dk_180 0 215 (dk_at dksX1_plain_1 3 rfl rfl)
theorem dX1_plain_29 : decode cX1_plain 29 = .ok (.iload_n 2, 1) := dk_28 (dk_at dksX1_plain_1 6 rfl rfl)
theorem dX1_plain_30 : decode cX1_plain 30 = .ok (.invokestatic 230, 3) := dk_184 0 230 (dk_at dksX1_plain_1 7 rfl rfl)
theorem dX1_plain_33 : decode cX1_plain 33 = .ok (.ifCond .eq 18, 3) := dk_153 0 18 (dk_at dksX1_plain_1 10 rfl rfl)
theorem dX1_plain_36 : decode cX1_plain 36 = .ok (.aload_n 0, 1) := dk_42 (dk_at dksX1_plain_1 13 rfl rfl)
theorem dX1_plain_37 : decode cX1_plain 37 = .ok (.getfield 46, 3) := dk_180 0 46 (dk_at dksX1_plain_1 14 rfl rfl)
theorem dX1_plain_40 : decode cX1_plain 40 = .ok (.getfield 191, 3) := dk_180 0 191 (dk_at dksX1_plain_1 17 rfl rfl)
theorem dX1_plain_43 : decode cX1_plain 43 = .ok (.iload_n 2, 1) := dk_28 (dk_at dksX1_plain_1 20 rfl rfl)
theorem dX1_plain_44 : decode cX1_plain 44 = .ok (.aaload, 1) := dk_50 (dk_at dksX1_plain_1 21 rfl rfl)
theorem dX1_plain_45 : decode cX1_plain 45 = .ok (.getfield 193, 3) := dk_180 0 193 (dk_at dksX1_plain_2 0 rfl rfl)
theorem dX1_plain_48 : decode cX1_plain 48 = .ok (.goto 4, 3) := dk_167 0 4 (dk_at dksX1_plain_2 3 rfl rfl)
theorem dX1_plain_51 : decode cX1_plain 51 = .ok (.iconst 1, 1) := dk_4 (dk_at dksX1_plain_2 6 rfl rfl)
theorem dX1_plain_52 : decode cX1_plain 52 = .ok (.imul, 1) := dk_104 (dk_at dksX1_plain_2 7 rfl rfl)
theorem dX1_plain_53 : decode cX1_plain 53 = .ok (.istore_n 1, 1) := dk_60 (dk_at dksX1_plain_2 8 rfl rfl)
theorem dX1_plain_54 : decode cX1_plain 54 = .ok (.iinc 2 1, 3) := dk_132 2 1 (dk_at dksX1_plain_2 9 rfl rfl)
theorem dX1_plain_57 : decode cX1_plain 57 = .ok (.goto (-44), 3) := dk_167 255 212 (dk_at dksX1_plain_2 12 rfl rfl)
theorem dX1_plain_60 : decode cX1_plain 60 = .ok (.iload_n 1, 1) := dk_27 (dk_at dksX1_plain_2 15 rfl rfl)
theorem dX1_plain_61 : decode cX1_plain 61 = .ok (.ireturn, 1) := dk_172 (dk_at dksX1_plain_2 16 rfl rfl)
abbrev cX1_given : ByteArray := prog_1_method_36_code
def yX1_given : MethodName := ⟨RX1, "given", "(I)I"⟩
def dkwX1_given_0 : List UInt8 := [42, 27, 182, 0, 223, 153, 0, 11, 42, 27, 182, 0, 252, 167, 0, 4, 2, 172]
abbrev dktX1_given_0 : List UInt8 := dkwX1_given_0 ++ []
theorem dksX1_given_0 : cX1_given.data.toList.drop 0 = dktX1_given_0 := by decide +kernel
theorem dX1_given_0 : decode cX1_given 0 = .ok (.aload_n 0, 1) := dk_42 (dk_at dksX1_given_0 0 rfl rfl)
theorem dX1_given_1 : decode cX1_given 1 = .ok (.iload_n 1, 1) := dk_27 (dk_at dksX1_given_0 1 rfl rfl)
theorem dX1_given_2 : decode cX1_given 2 = .ok (.invokevirtual 223, 3) := dk_182 0 223 (dk_at dksX1_given_0 2 rfl rfl)
theorem dX1_given_5 : decode cX1_given 5 = .ok (.ifCond .eq 11, 3) := dk_153 0 11 (dk_at dksX1_given_0 5 rfl rfl)
theorem dX1_given_8 : decode cX1_given 8 = .ok (.aload_n 0, 1) := dk_42 (dk_at dksX1_given_0 8 rfl rfl)
theorem dX1_given_9 : decode cX1_given 9 = .ok (.iload_n 1, 1) := dk_27 (dk_at dksX1_given_0 9 rfl rfl)
theorem dX1_given_10 : decode cX1_given 10 = .ok (.invokevirtual 252, 3) := dk_182 0 252 (dk_at dksX1_given_0 10 rfl rfl)
theorem dX1_given_13 : decode cX1_given 13 = .ok (.goto 4, 3) := dk_167 0 4 (dk_at dksX1_given_0 13 rfl rfl)
theorem dX1_given_16 : decode cX1_given 16 = .ok (.iconst (-1), 1) := dk_2 (dk_at dksX1_given_0 16 rfl rfl)
theorem dX1_given_17 : decode cX1_given 17 = .ok (.ireturn, 1) := dk_172 (dk_at dksX1_given_0 17 rfl rfl)
abbrev cX1_givenOf : ByteArray := prog_1_method_35_code
def yX1_givenOf : MethodName := ⟨RX1, "givenOf", "(I)I"⟩
def dkwX1_givenOf_1 : List UInt8 := [180, 0, 191, 27, 50, 182, 0, 248, 167, 0, 4, 3, 172]
abbrev dktX1_givenOf_1 : List UInt8 := dkwX1_givenOf_1 ++ []
def dkwX1_givenOf_0 : List UInt8 := [42, 180, 0, 46, 180, 0, 215, 27, 184, 0, 230, 153, 0, 22, 42, 182, 0, 153, 42, 180, 0, 46]
abbrev dktX1_givenOf_0 : List UInt8 := dkwX1_givenOf_0 ++ dktX1_givenOf_1
theorem dksX1_givenOf_0 : cX1_givenOf.data.toList.drop 0 = dktX1_givenOf_0 := by decide +kernel
theorem dksX1_givenOf_1 : cX1_givenOf.data.toList.drop 22 = dktX1_givenOf_1 := dk_seg dksX1_givenOf_0 22 rfl rfl
theorem dX1_givenOf_0 : decode cX1_givenOf 0 = .ok (.aload_n 0, 1) := dk_42 (dk_at dksX1_givenOf_0 0 rfl rfl)
theorem dX1_givenOf_1 : decode cX1_givenOf 1 = .ok (.getfield 46, 3) := dk_180 0 46 (dk_at dksX1_givenOf_0 1 rfl rfl)
theorem dX1_givenOf_4 : decode cX1_givenOf 4 = .ok (.getfield 215, 3) := dk_180 0 215 (dk_at dksX1_givenOf_0 4 rfl rfl)
theorem dX1_givenOf_7 : decode cX1_givenOf 7 = .ok (.iload_n 1, 1) := dk_27 (dk_at dksX1_givenOf_0 7 rfl rfl)
theorem dX1_givenOf_8 : decode cX1_givenOf 8 = .ok (.invokestatic 230, 3) := dk_184 0 230 (dk_at dksX1_givenOf_0 8 rfl rfl)
theorem dX1_givenOf_11 : decode cX1_givenOf 11 = .ok (.ifCond .eq 22, 3) := dk_153 0 22 (dk_at dksX1_givenOf_0 11 rfl rfl)
theorem dX1_givenOf_14 : decode cX1_givenOf 14 = .ok (.aload_n 0, 1) := dk_42 (dk_at dksX1_givenOf_0 14 rfl rfl)
theorem dX1_givenOf_15 : decode cX1_givenOf 15 = .ok (.invokevirtual 153, 3) := dk_182 0 153 (dk_at dksX1_givenOf_0 15 rfl rfl)
theorem dX1_givenOf_18 : decode cX1_givenOf 18 = .ok (.aload_n 0, 1) := dk_42 (dk_at dksX1_givenOf_0 18 rfl rfl)
theorem dX1_givenOf_19 : decode cX1_givenOf 19 = .ok (.getfield 46, 3) := dk_180 0 46 (dk_at dksX1_givenOf_0 19 rfl rfl)
theorem dX1_givenOf_22 : decode cX1_givenOf 22 = .ok (.getfield 191, 3) := dk_180 0 191 (dk_at dksX1_givenOf_1 0 rfl rfl)
theorem dX1_givenOf_25 : decode cX1_givenOf 25 = .ok (.iload_n 1, 1) := dk_27 (dk_at dksX1_givenOf_1 3 rfl rfl)
theorem dX1_givenOf_26 : decode cX1_givenOf 26 = .ok (.aaload, 1) := dk_50 (dk_at dksX1_givenOf_1 4 rfl rfl)
theorem dX1_givenOf_27 : decode cX1_givenOf 27 = .ok (.invokevirtual 248, 3) := dk_182 0 248 (dk_at dksX1_givenOf_1 5 rfl rfl)
theorem dX1_givenOf_30 : decode cX1_givenOf 30 = .ok (.goto 4, 3) := dk_167 0 4 (dk_at dksX1_givenOf_1 8 rfl rfl)
theorem dX1_givenOf_33 : decode cX1_givenOf 33 = .ok (.iconst 0, 1) := dk_3 (dk_at dksX1_givenOf_1 11 rfl rfl)
theorem dX1_givenOf_34 : decode cX1_givenOf 34 = .ok (.ireturn, 1) := dk_172 (dk_at dksX1_givenOf_1 12 rfl rfl)
abbrev cX1_without : ByteArray := prog_1_method_37_code
def yX1_without : MethodName := ⟨RX1, "without", "(I)I"⟩
def dkwX1_without_2 : List UInt8 := [181, 0, 215, 42, 42, 180, 0, 53, 182, 0, 132, 180, 0, 156, 172]
abbrev dktX1_without_2 : List UInt8 := dkwX1_without_2 ++ []
def dkwX1_without_1 : List UInt8 := [180, 0, 53, 42, 180, 0, 46, 182, 0, 255, 42, 180, 0, 53, 89, 180, 0, 215, 4, 27, 120, 2, 130, 126]
abbrev dktX1_without_1 : List UInt8 := dkwX1_without_1 ++ dktX1_without_2
def dkwX1_without_0 : List UInt8 := [42, 27, 182, 0, 223, 153, 0, 16, 42, 180, 0, 46, 180, 0, 215, 4, 27, 120, 160, 0, 5, 2, 172, 42]
abbrev dktX1_without_0 : List UInt8 := dkwX1_without_0 ++ dktX1_without_1
theorem dksX1_without_0 : cX1_without.data.toList.drop 0 = dktX1_without_0 := by decide +kernel
theorem dksX1_without_1 : cX1_without.data.toList.drop 24 = dktX1_without_1 := dk_seg dksX1_without_0 24 rfl rfl
theorem dksX1_without_2 : cX1_without.data.toList.drop 48 = dktX1_without_2 := dk_seg dksX1_without_1 24 rfl rfl
theorem dX1_without_0 : decode cX1_without 0 = .ok (.aload_n 0, 1) := dk_42 (dk_at dksX1_without_0 0 rfl rfl)
theorem dX1_without_1 : decode cX1_without 1 = .ok (.iload_n 1, 1) := dk_27 (dk_at dksX1_without_0 1 rfl rfl)
theorem dX1_without_2 : decode cX1_without 2 = .ok (.invokevirtual 223, 3) := dk_182 0 223 (dk_at dksX1_without_0 2 rfl rfl)
theorem dX1_without_5 : decode cX1_without 5 = .ok (.ifCond .eq 16, 3) := dk_153 0 16 (dk_at dksX1_without_0 5 rfl rfl)
theorem dX1_without_8 : decode cX1_without 8 = .ok (.aload_n 0, 1) := dk_42 (dk_at dksX1_without_0 8 rfl rfl)
theorem dX1_without_9 : decode cX1_without 9 = .ok (.getfield 46, 3) := dk_180 0 46 (dk_at dksX1_without_0 9 rfl rfl)
theorem dX1_without_12 : decode cX1_without 12 = .ok (.getfield 215, 3) := dk_180 0 215 (dk_at dksX1_without_0 12 rfl rfl)
theorem dX1_without_15 : decode cX1_without 15 = .ok (.iconst 1, 1) := dk_4 (dk_at dksX1_without_0 15 rfl rfl)
theorem dX1_without_16 : decode cX1_without 16 = .ok (.iload_n 1, 1) := dk_27 (dk_at dksX1_without_0 16 rfl rfl)
theorem dX1_without_17 : decode cX1_without 17 = .ok (.ishl, 1) := dk_120 (dk_at dksX1_without_0 17 rfl rfl)
theorem dX1_without_18 : decode cX1_without 18 = .ok (.if_icmp .ne 5, 3) := dk_160 0 5 (dk_at dksX1_without_0 18 rfl rfl)
theorem dX1_without_21 : decode cX1_without 21 = .ok (.iconst (-1), 1) := dk_2 (dk_at dksX1_without_0 21 rfl rfl)
theorem dX1_without_22 : decode cX1_without 22 = .ok (.ireturn, 1) := dk_172 (dk_at dksX1_without_0 22 rfl rfl)
theorem dX1_without_23 : decode cX1_without 23 = .ok (.aload_n 0, 1) := dk_42 (dk_at dksX1_without_0 23 rfl rfl)
theorem dX1_without_24 : decode cX1_without 24 = .ok (.getfield 53, 3) := dk_180 0 53 (dk_at dksX1_without_1 0 rfl rfl)
theorem dX1_without_27 : decode cX1_without 27 = .ok (.aload_n 0, 1) := dk_42 (dk_at dksX1_without_1 3 rfl rfl)
theorem dX1_without_28 : decode cX1_without 28 = .ok (.getfield 46, 3) := dk_180 0 46 (dk_at dksX1_without_1 4 rfl rfl)
theorem dX1_without_31 : decode cX1_without 31 = .ok (.invokevirtual 255, 3) := dk_182 0 255 (dk_at dksX1_without_1 7 rfl rfl)
theorem dX1_without_34 : decode cX1_without 34 = .ok (.aload_n 0, 1) := dk_42 (dk_at dksX1_without_1 10 rfl rfl)
theorem dX1_without_35 : decode cX1_without 35 = .ok (.getfield 53, 3) := dk_180 0 53 (dk_at dksX1_without_1 11 rfl rfl)
theorem dX1_without_38 : decode cX1_without 38 = .ok (.dup, 1) := dk_89 (dk_at dksX1_without_1 14 rfl rfl)
theorem dX1_without_39 : decode cX1_without 39 = .ok (.getfield 215, 3) := dk_180 0 215 (dk_at dksX1_without_1 15 rfl rfl)
theorem dX1_without_42 : decode cX1_without 42 = .ok (.iconst 1, 1) := dk_4 (dk_at dksX1_without_1 18 rfl rfl)
theorem dX1_without_43 : decode cX1_without 43 = .ok (.iload_n 1, 1) := dk_27 (dk_at dksX1_without_1 19 rfl rfl)
theorem dX1_without_44 : decode cX1_without 44 = .ok (.ishl, 1) := dk_120 (dk_at dksX1_without_1 20 rfl rfl)
theorem dX1_without_45 : decode cX1_without 45 = .ok (.iconst (-1), 1) := dk_2 (dk_at dksX1_without_1 21 rfl rfl)
theorem dX1_without_46 : decode cX1_without 46 = .ok (.ixor, 1) := dk_130 (dk_at dksX1_without_1 22 rfl rfl)
theorem dX1_without_47 : decode cX1_without 47 = .ok (.iand, 1) := dk_126 (dk_at dksX1_without_1 23 rfl rfl)
theorem dX1_without_48 : decode cX1_without 48 = .ok (.putfield 215, 3) := dk_181 0 215 (dk_at dksX1_without_2 0 rfl rfl)
theorem dX1_without_51 : decode cX1_without 51 = .ok (.aload_n 0, 1) := dk_42 (dk_at dksX1_without_2 3 rfl rfl)
theorem dX1_without_52 : decode cX1_without 52 = .ok (.aload_n 0, 1) := dk_42 (dk_at dksX1_without_2 4 rfl rfl)
theorem dX1_without_53 : decode cX1_without 53 = .ok (.getfield 53, 3) := dk_180 0 53 (dk_at dksX1_without_2 5 rfl rfl)
theorem dX1_without_56 : decode cX1_without 56 = .ok (.invokevirtual 132, 3) := dk_182 0 132 (dk_at dksX1_without_2 8 rfl rfl)
theorem dX1_without_59 : decode cX1_without 59 = .ok (.getfield 156, 3) := dk_180 0 156 (dk_at dksX1_without_2 11 rfl rfl)
theorem dX1_without_62 : decode cX1_without 62 = .ok (.ireturn, 1) := dk_172 (dk_at dksX1_without_2 14 rfl rfl)
abbrev cX1_projected : ByteArray := prog_1_method_39_code
def yX1_projected : MethodName := ⟨RX1, "projected", "(I)I"⟩
def dkwX1_projected_5 : List UInt8 := [167, 255, 182, 42, 44, 180, 0, 156, 182, 1, 4, 172]
abbrev dktX1_projected_5 : List UInt8 := dkwX1_projected_5 ++ []
def dkwX1_projected_4 : List UInt8 := [182, 0, 237, 96, 167, 0, 9, 42, 180, 0, 70, 29, 46, 79, 132, 4, 1, 167, 255, 206, 132, 3, 1]
abbrev dktX1_projected_4 : List UInt8 := dkwX1_projected_4 ++ dktX1_projected_5
def dkwX1_projected_3 : List UInt8 := [27, 21, 4, 184, 0, 230, 153, 0, 23, 16, 100, 42, 180, 0, 70, 29, 46, 104, 44, 29, 21, 4]
abbrev dktX1_projected_3 : List UInt8 := dkwX1_projected_3 ++ dktX1_projected_4
def dkwX1_projected_2 : List UInt8 := [162, 0, 72, 42, 180, 0, 70, 29, 3, 79, 3, 54, 4, 21, 4, 7, 162, 0, 50, 42, 180, 0, 70, 29]
abbrev dktX1_projected_2 : List UInt8 := dkwX1_projected_2 ++ dktX1_projected_3
def dkwX1_projected_1 : List UInt8 := [182, 0, 218, 2, 130, 126, 153, 0, 5, 2, 172, 42, 182, 0, 153, 77, 3, 62, 29, 44, 180, 0, 156]
abbrev dktX1_projected_1 : List UInt8 := dkwX1_projected_1 ++ dktX1_projected_2
def dkwX1_projected_0 : List UInt8 := [42, 180, 0, 79, 153, 0, 29, 27, 133, 10, 20, 1, 2, 184, 0, 82, 153, 0, 17, 27, 42, 180, 0, 46]
abbrev dktX1_projected_0 : List UInt8 := dkwX1_projected_0 ++ dktX1_projected_1
theorem dksX1_projected_0 : cX1_projected.data.toList.drop 0 = dktX1_projected_0 := by decide +kernel
theorem dksX1_projected_1 : cX1_projected.data.toList.drop 24 = dktX1_projected_1 := dk_seg dksX1_projected_0 24 rfl rfl
theorem dksX1_projected_2 : cX1_projected.data.toList.drop 47 = dktX1_projected_2 := dk_seg dksX1_projected_1 23 rfl rfl
theorem dksX1_projected_3 : cX1_projected.data.toList.drop 71 = dktX1_projected_3 := dk_seg dksX1_projected_2 24 rfl rfl
theorem dksX1_projected_4 : cX1_projected.data.toList.drop 93 = dktX1_projected_4 := dk_seg dksX1_projected_3 22 rfl rfl
theorem dksX1_projected_5 : cX1_projected.data.toList.drop 116 = dktX1_projected_5 := dk_seg dksX1_projected_4 23 rfl rfl
theorem dX1_projected_0 : decode cX1_projected 0 = .ok (.aload_n 0, 1) := dk_42 (dk_at dksX1_projected_0 0 rfl rfl)
theorem dX1_projected_1 : decode cX1_projected 1 = .ok (.getfield 79, 3) := dk_180 0 79 (dk_at dksX1_projected_0 1 rfl rfl)
theorem dX1_projected_4 : decode cX1_projected 4 = .ok (.ifCond .eq 29, 3) := dk_153 0 29 (dk_at dksX1_projected_0 4 rfl rfl)
theorem dX1_projected_7 : decode cX1_projected 7 = .ok (.iload_n 1, 1) := dk_27 (dk_at dksX1_projected_0 7 rfl rfl)
theorem dX1_projected_8 : decode cX1_projected 8 = .ok (.i2l, 1) := dk_133 (dk_at dksX1_projected_0 8 rfl rfl)
theorem dX1_projected_9 : decode cX1_projected 9 = .ok (.lconst 1, 1) := dk_10 (dk_at dksX1_projected_0 9 rfl rfl)
theorem dX1_projected_10 : decode cX1_projected 10 = .ok (.ldc2_w 258, 3) := dk_20 1 2 (dk_at dksX1_projected_0 10 rfl rfl)
theorem dX1_projected_13 : decode cX1_projected 13 = .ok (.invokestatic 82, 3) := dk_184 0 82 (dk_at dksX1_projected_0 13 rfl rfl)
theorem dX1_projected_16 : decode cX1_projected 16 = .ok (.ifCond .eq 17, 3) := dk_153 0 17 (dk_at dksX1_projected_0 16 rfl rfl)
theorem dX1_projected_19 : decode cX1_projected 19 = .ok (.iload_n 1, 1) := dk_27 (dk_at dksX1_projected_0 19 rfl rfl)
theorem dX1_projected_20 : decode cX1_projected 20 = .ok (.aload_n 0, 1) := dk_42 (dk_at dksX1_projected_0 20 rfl rfl)
theorem dX1_projected_21 : decode cX1_projected 21 = .ok (.getfield 46, 3) := dk_180 0 46 (dk_at dksX1_projected_0 21 rfl rfl)
theorem dX1_projected_24 : decode cX1_projected 24 = .ok (.invokevirtual 218, 3) := dk_182 0 218 (dk_at dksX1_projected_1 0 rfl rfl)
theorem dX1_projected_27 : decode cX1_projected 27 = .ok (.iconst (-1), 1) := dk_2 (dk_at dksX1_projected_1 3 rfl rfl)
theorem dX1_projected_28 : decode cX1_projected 28 = .ok (.ixor, 1) := dk_130 (dk_at dksX1_projected_1 4 rfl rfl)
theorem dX1_projected_29 : decode cX1_projected 29 = .ok (.iand, 1) := dk_126 (dk_at dksX1_projected_1 5 rfl rfl)
theorem dX1_projected_30 : decode cX1_projected 30 = .ok (.ifCond .eq 5, 3) := dk_153 0 5 (dk_at dksX1_projected_1 6 rfl rfl)
theorem dX1_projected_33 : decode cX1_projected 33 = .ok (.iconst (-1), 1) := dk_2 (dk_at dksX1_projected_1 9 rfl rfl)
theorem dX1_projected_34 : decode cX1_projected 34 = .ok (.ireturn, 1) := dk_172 (dk_at dksX1_projected_1 10 rfl rfl)
theorem dX1_projected_35 : decode cX1_projected 35 = .ok (.aload_n 0, 1) := dk_42 (dk_at dksX1_projected_1 11 rfl rfl)
theorem dX1_projected_36 : decode cX1_projected 36 = .ok (.invokevirtual 153, 3) := dk_182 0 153 (dk_at dksX1_projected_1 12 rfl rfl)
theorem dX1_projected_39 : decode cX1_projected 39 = .ok (.astore_n 2, 1) := dk_77 (dk_at dksX1_projected_1 15 rfl rfl)
theorem dX1_projected_40 : decode cX1_projected 40 = .ok (.iconst 0, 1) := dk_3 (dk_at dksX1_projected_1 16 rfl rfl)
theorem dX1_projected_41 : decode cX1_projected 41 = .ok (.istore_n 3, 1) := dk_62 (dk_at dksX1_projected_1 17 rfl rfl)
theorem dX1_projected_42 : decode cX1_projected 42 = .ok (.iload_n 3, 1) := dk_29 (dk_at dksX1_projected_1 18 rfl rfl)
theorem dX1_projected_43 : decode cX1_projected 43 = .ok (.aload_n 2, 1) := dk_44 (dk_at dksX1_projected_1 19 rfl rfl)
theorem dX1_projected_44 : decode cX1_projected 44 = .ok (.getfield 156, 3) := dk_180 0 156 (dk_at dksX1_projected_1 20 rfl rfl)
theorem dX1_projected_47 : decode cX1_projected 47 = .ok (.if_icmp .ge 72, 3) := dk_162 0 72 (dk_at dksX1_projected_2 0 rfl rfl)
theorem dX1_projected_50 : decode cX1_projected 50 = .ok (.aload_n 0, 1) := dk_42 (dk_at dksX1_projected_2 3 rfl rfl)
theorem dX1_projected_51 : decode cX1_projected 51 = .ok (.getfield 70, 3) := dk_180 0 70 (dk_at dksX1_projected_2 4 rfl rfl)
theorem dX1_projected_54 : decode cX1_projected 54 = .ok (.iload_n 3, 1) := dk_29 (dk_at dksX1_projected_2 7 rfl rfl)
theorem dX1_projected_55 : decode cX1_projected 55 = .ok (.iconst 0, 1) := dk_3 (dk_at dksX1_projected_2 8 rfl rfl)
theorem dX1_projected_56 : decode cX1_projected 56 = .ok (.iastore, 1) := dk_79 (dk_at dksX1_projected_2 9 rfl rfl)
theorem dX1_projected_57 : decode cX1_projected 57 = .ok (.iconst 0, 1) := dk_3 (dk_at dksX1_projected_2 10 rfl rfl)
theorem dX1_projected_58 : decode cX1_projected 58 = .ok (.istore 4, 2) := dk_54 4 (dk_at dksX1_projected_2 11 rfl rfl)
theorem dX1_projected_60 : decode cX1_projected 60 = .ok (.iload 4, 2) := dk_21 4 (dk_at dksX1_projected_2 13 rfl rfl)
theorem dX1_projected_62 : decode cX1_projected 62 = .ok (.iconst 4, 1) := dk_7 (dk_at dksX1_projected_2 15 rfl rfl)
theorem dX1_projected_63 : decode cX1_projected 63 = .ok (.if_icmp .ge 50, 3) := dk_162 0 50 (dk_at dksX1_projected_2 16 rfl rfl)
theorem dX1_projected_66 : decode cX1_projected 66 = .ok (.aload_n 0, 1) := dk_42 (dk_at dksX1_projected_2 19 rfl rfl)
theorem dX1_projected_67 : decode cX1_projected 67 = .ok (.getfield 70, 3) := dk_180 0 70 (dk_at dksX1_projected_2 20 rfl rfl)
theorem dX1_projected_70 : decode cX1_projected 70 = .ok (.iload_n 3, 1) := dk_29 (dk_at dksX1_projected_2 23 rfl rfl)
theorem dX1_projected_71 : decode cX1_projected 71 = .ok (.iload_n 1, 1) := dk_27 (dk_at dksX1_projected_3 0 rfl rfl)
theorem dX1_projected_72 : decode cX1_projected 72 = .ok (.iload 4, 2) := dk_21 4 (dk_at dksX1_projected_3 1 rfl rfl)
theorem dX1_projected_74 : decode cX1_projected 74 = .ok (.invokestatic 230, 3) := dk_184 0 230 (dk_at dksX1_projected_3 3 rfl rfl)
theorem dX1_projected_77 : decode cX1_projected 77 = .ok (.ifCond .eq 23, 3) := dk_153 0 23 (dk_at dksX1_projected_3 6 rfl rfl)
theorem dX1_projected_80 : decode cX1_projected 80 = .ok (.bipush 100, 2) := dk_16 100 (dk_at dksX1_projected_3 9 rfl rfl)
theorem dX1_projected_82 : decode cX1_projected 82 = .ok (.aload_n 0, 1) := dk_42 (dk_at dksX1_projected_3 11 rfl rfl)
theorem dX1_projected_83 : decode cX1_projected 83 = .ok (.getfield 70, 3) := dk_180 0 70 (dk_at dksX1_projected_3 12 rfl rfl)
theorem dX1_projected_86 : decode cX1_projected 86 = .ok (.iload_n 3, 1) := dk_29 (dk_at dksX1_projected_3 15 rfl rfl)
theorem dX1_projected_87 : decode cX1_projected 87 = .ok (.iaload, 1) := dk_46 (dk_at dksX1_projected_3 16 rfl rfl)
theorem dX1_projected_88 : decode cX1_projected 88 = .ok (.imul, 1) := dk_104 (dk_at dksX1_projected_3 17 rfl rfl)
theorem dX1_projected_89 : decode cX1_projected 89 = .ok (.aload_n 2, 1) := dk_44 (dk_at dksX1_projected_3 18 rfl rfl)
theorem dX1_projected_90 : decode cX1_projected 90 = .ok (.iload_n 3, 1) := dk_29 (dk_at dksX1_projected_3 19 rfl rfl)
theorem dX1_projected_91 : decode cX1_projected 91 = .ok (.iload 4, 2) := dk_21 4 (dk_at dksX1_projected_3 20 rfl rfl)
theorem dX1_projected_93 : decode cX1_projected 93 = .ok (.invokevirtual 237, 3) := dk_182 0 237 (dk_at dksX1_projected_4 0 rfl rfl)
theorem dX1_projected_96 : decode cX1_projected 96 = .ok (.iadd, 1) := dk_96 (dk_at dksX1_projected_4 3 rfl rfl)
theorem dX1_projected_97 : decode cX1_projected 97 = .ok (.goto 9, 3) := dk_167 0 9 (dk_at dksX1_projected_4 4 rfl rfl)
theorem dX1_projected_100 : decode cX1_projected 100 = .ok (.aload_n 0, 1) := dk_42 (dk_at dksX1_projected_4 7 rfl rfl)
theorem dX1_projected_101 : decode cX1_projected 101 = .ok (.getfield 70, 3) := dk_180 0 70 (dk_at dksX1_projected_4 8 rfl rfl)
theorem dX1_projected_104 : decode cX1_projected 104 = .ok (.iload_n 3, 1) := dk_29 (dk_at dksX1_projected_4 11 rfl rfl)
theorem dX1_projected_105 : decode cX1_projected 105 = .ok (.iaload, 1) := dk_46 (dk_at dksX1_projected_4 12 rfl rfl)
theorem dX1_projected_106 : decode cX1_projected 106 = .ok (.iastore, 1) := dk_79 (dk_at dksX1_projected_4 13 rfl rfl)
theorem dX1_projected_107 : decode cX1_projected 107 = .ok (.iinc 4 1, 3) := dk_132 4 1 (dk_at dksX1_projected_4 14 rfl rfl)
theorem dX1_projected_110 : decode cX1_projected 110 = .ok (.goto (-50), 3) := dk_167 255 206 (dk_at dksX1_projected_4 17 rfl rfl)
theorem dX1_projected_113 : decode cX1_projected 113 = .ok (.iinc 3 1, 3) := dk_132 3 1 (dk_at dksX1_projected_4 20 rfl rfl)
theorem dX1_projected_116 : decode cX1_projected 116 = .ok (.goto (-74), 3) := dk_167 255 182 (dk_at dksX1_projected_5 0 rfl rfl)
theorem dX1_projected_119 : decode cX1_projected 119 = .ok (.aload_n 0, 1) := dk_42 (dk_at dksX1_projected_5 3 rfl rfl)
theorem dX1_projected_120 : decode cX1_projected 120 = .ok (.aload_n 2, 1) := dk_44 (dk_at dksX1_projected_5 4 rfl rfl)
theorem dX1_projected_121 : decode cX1_projected 121 = .ok (.getfield 156, 3) := dk_180 0 156 (dk_at dksX1_projected_5 5 rfl rfl)
theorem dX1_projected_124 : decode cX1_projected 124 = .ok (.invokevirtual 260, 3) := dk_182 1 4 (dk_at dksX1_projected_5 8 rfl rfl)
theorem dX1_projected_127 : decode cX1_projected 127 = .ok (.ireturn, 1) := dk_172 (dk_at dksX1_projected_5 11 rfl rfl)
abbrev cX1_unlike : ByteArray := prog_1_method_38_code
def yX1_unlike : MethodName := ⟨RX1, "unlike", "(I)I"⟩
def dkwX1_unlike_5 : List UInt8 := [100, 46, 159, 0, 7, 4, 167, 0, 4, 3, 96, 61, 132, 3, 1, 167, 255, 219, 28, 172]
abbrev dktX1_unlike_5 : List UInt8 := dkwX1_unlike_5 ++ []
def dkwX1_unlike_4 : List UInt8 := [3, 62, 29, 27, 162, 0, 38, 28, 29, 153, 0, 20, 42, 180, 0, 70, 29, 46, 42, 180, 0, 70, 29, 4]
abbrev dktX1_unlike_4 : List UInt8 := dkwX1_unlike_4 ++ dktX1_unlike_5
def dkwX1_unlike_3 : List UInt8 := [42, 180, 0, 70, 21, 5, 21, 4, 79, 132, 3, 1, 167, 255, 183, 28, 5, 108, 61, 167, 255, 170, 3, 61]
abbrev dktX1_unlike_3 : List UInt8 := dkwX1_unlike_3 ++ dktX1_unlike_4
def dkwX1_unlike_2 : List UInt8 := [180, 0, 70, 21, 5, 42, 180, 0, 70, 21, 5, 28, 100, 46, 79, 21, 5, 28, 100, 54, 5, 167, 255, 214]
abbrev dktX1_unlike_2 : List UInt8 := dkwX1_unlike_2 ++ dktX1_unlike_3
def dkwX1_unlike_1 : List UInt8 := [54, 5, 21, 5, 28, 161, 0, 42, 42, 180, 0, 70, 21, 5, 28, 100, 46, 21, 4, 164, 0, 28, 42]
abbrev dktX1_unlike_1 : List UInt8 := dkwX1_unlike_1 ++ dktX1_unlike_2
def dkwX1_unlike_0 : List UInt8 := [27, 5, 108, 61, 28, 158, 0, 88, 28, 62, 29, 27, 162, 0, 74, 42, 180, 0, 70, 29, 46, 54, 4, 29]
abbrev dktX1_unlike_0 : List UInt8 := dkwX1_unlike_0 ++ dktX1_unlike_1
theorem dksX1_unlike_0 : cX1_unlike.data.toList.drop 0 = dktX1_unlike_0 := by decide +kernel
theorem dksX1_unlike_1 : cX1_unlike.data.toList.drop 24 = dktX1_unlike_1 := dk_seg dksX1_unlike_0 24 rfl rfl
theorem dksX1_unlike_2 : cX1_unlike.data.toList.drop 47 = dktX1_unlike_2 := dk_seg dksX1_unlike_1 23 rfl rfl
theorem dksX1_unlike_3 : cX1_unlike.data.toList.drop 71 = dktX1_unlike_3 := dk_seg dksX1_unlike_2 24 rfl rfl
theorem dksX1_unlike_4 : cX1_unlike.data.toList.drop 95 = dktX1_unlike_4 := dk_seg dksX1_unlike_3 24 rfl rfl
theorem dksX1_unlike_5 : cX1_unlike.data.toList.drop 119 = dktX1_unlike_5 := dk_seg dksX1_unlike_4 24 rfl rfl
theorem dX1_unlike_0 : decode cX1_unlike 0 = .ok (.iload_n 1, 1) := dk_27 (dk_at dksX1_unlike_0 0 rfl rfl)
theorem dX1_unlike_1 : decode cX1_unlike 1 = .ok (.iconst 2, 1) := dk_5 (dk_at dksX1_unlike_0 1 rfl rfl)
theorem dX1_unlike_2 : decode cX1_unlike 2 = .ok (.idiv, 1) := dk_108 (dk_at dksX1_unlike_0 2 rfl rfl)
theorem dX1_unlike_3 : decode cX1_unlike 3 = .ok (.istore_n 2, 1) := dk_61 (dk_at dksX1_unlike_0 3 rfl rfl)
theorem dX1_unlike_4 : decode cX1_unlike 4 = .ok (.iload_n 2, 1) := dk_28 (dk_at dksX1_unlike_0 4 rfl rfl)
theorem dX1_unlike_5 : decode cX1_unlike 5 = .ok (.ifCond .le 88, 3) := dk_158 0 88 (dk_at dksX1_unlike_0 5 rfl rfl)
theorem dX1_unlike_8 : decode cX1_unlike 8 = .ok (.iload_n 2, 1) := dk_28 (dk_at dksX1_unlike_0 8 rfl rfl)
theorem dX1_unlike_9 : decode cX1_unlike 9 = .ok (.istore_n 3, 1) := dk_62 (dk_at dksX1_unlike_0 9 rfl rfl)
theorem dX1_unlike_10 : decode cX1_unlike 10 = .ok (.iload_n 3, 1) := dk_29 (dk_at dksX1_unlike_0 10 rfl rfl)
theorem dX1_unlike_11 : decode cX1_unlike 11 = .ok (.iload_n 1, 1) := dk_27 (dk_at dksX1_unlike_0 11 rfl rfl)
theorem dX1_unlike_12 : decode cX1_unlike 12 = .ok (.if_icmp .ge 74, 3) := dk_162 0 74 (dk_at dksX1_unlike_0 12 rfl rfl)
theorem dX1_unlike_15 : decode cX1_unlike 15 = .ok (.aload_n 0, 1) := dk_42 (dk_at dksX1_unlike_0 15 rfl rfl)
theorem dX1_unlike_16 : decode cX1_unlike 16 = .ok (.getfield 70, 3) := dk_180 0 70 (dk_at dksX1_unlike_0 16 rfl rfl)
theorem dX1_unlike_19 : decode cX1_unlike 19 = .ok (.iload_n 3, 1) := dk_29 (dk_at dksX1_unlike_0 19 rfl rfl)
theorem dX1_unlike_20 : decode cX1_unlike 20 = .ok (.iaload, 1) := dk_46 (dk_at dksX1_unlike_0 20 rfl rfl)
theorem dX1_unlike_21 : decode cX1_unlike 21 = .ok (.istore 4, 2) := dk_54 4 (dk_at dksX1_unlike_0 21 rfl rfl)
theorem dX1_unlike_23 : decode cX1_unlike 23 = .ok (.iload_n 3, 1) := dk_29 (dk_at dksX1_unlike_0 23 rfl rfl)
theorem dX1_unlike_24 : decode cX1_unlike 24 = .ok (.istore 5, 2) := dk_54 5 (dk_at dksX1_unlike_1 0 rfl rfl)
theorem dX1_unlike_26 : decode cX1_unlike 26 = .ok (.iload 5, 2) := dk_21 5 (dk_at dksX1_unlike_1 2 rfl rfl)
theorem dX1_unlike_28 : decode cX1_unlike 28 = .ok (.iload_n 2, 1) := dk_28 (dk_at dksX1_unlike_1 4 rfl rfl)
theorem dX1_unlike_29 : decode cX1_unlike 29 = .ok (.if_icmp .lt 42, 3) := dk_161 0 42 (dk_at dksX1_unlike_1 5 rfl rfl)
theorem dX1_unlike_32 : decode cX1_unlike 32 = .ok (.aload_n 0, 1) := dk_42 (dk_at dksX1_unlike_1 8 rfl rfl)
theorem dX1_unlike_33 : decode cX1_unlike 33 = .ok (.getfield 70, 3) := dk_180 0 70 (dk_at dksX1_unlike_1 9 rfl rfl)
theorem dX1_unlike_36 : decode cX1_unlike 36 = .ok (.iload 5, 2) := dk_21 5 (dk_at dksX1_unlike_1 12 rfl rfl)
theorem dX1_unlike_38 : decode cX1_unlike 38 = .ok (.iload_n 2, 1) := dk_28 (dk_at dksX1_unlike_1 14 rfl rfl)
theorem dX1_unlike_39 : decode cX1_unlike 39 = .ok (.isub, 1) := dk_100 (dk_at dksX1_unlike_1 15 rfl rfl)
theorem dX1_unlike_40 : decode cX1_unlike 40 = .ok (.iaload, 1) := dk_46 (dk_at dksX1_unlike_1 16 rfl rfl)
theorem dX1_unlike_41 : decode cX1_unlike 41 = .ok (.iload 4, 2) := dk_21 4 (dk_at dksX1_unlike_1 17 rfl rfl)
theorem dX1_unlike_43 : decode cX1_unlike 43 = .ok (.if_icmp .le 28, 3) := dk_164 0 28 (dk_at dksX1_unlike_1 19 rfl rfl)
theorem dX1_unlike_46 : decode cX1_unlike 46 = .ok (.aload_n 0, 1) := dk_42 (dk_at dksX1_unlike_1 22 rfl rfl)
theorem dX1_unlike_47 : decode cX1_unlike 47 = .ok (.getfield 70, 3) := dk_180 0 70 (dk_at dksX1_unlike_2 0 rfl rfl)
theorem dX1_unlike_50 : decode cX1_unlike 50 = .ok (.iload 5, 2) := dk_21 5 (dk_at dksX1_unlike_2 3 rfl rfl)
theorem dX1_unlike_52 : decode cX1_unlike 52 = .ok (.aload_n 0, 1) := dk_42 (dk_at dksX1_unlike_2 5 rfl rfl)
theorem dX1_unlike_53 : decode cX1_unlike 53 = .ok (.getfield 70, 3) := dk_180 0 70 (dk_at dksX1_unlike_2 6 rfl rfl)
theorem dX1_unlike_56 : decode cX1_unlike 56 = .ok (.iload 5, 2) := dk_21 5 (dk_at dksX1_unlike_2 9 rfl rfl)
theorem dX1_unlike_58 : decode cX1_unlike 58 = .ok (.iload_n 2, 1) := dk_28 (dk_at dksX1_unlike_2 11 rfl rfl)
theorem dX1_unlike_59 : decode cX1_unlike 59 = .ok (.isub, 1) := dk_100 (dk_at dksX1_unlike_2 12 rfl rfl)
theorem dX1_unlike_60 : decode cX1_unlike 60 = .ok (.iaload, 1) := dk_46 (dk_at dksX1_unlike_2 13 rfl rfl)
theorem dX1_unlike_61 : decode cX1_unlike 61 = .ok (.iastore, 1) := dk_79 (dk_at dksX1_unlike_2 14 rfl rfl)
theorem dX1_unlike_62 : decode cX1_unlike 62 = .ok (.iload 5, 2) := dk_21 5 (dk_at dksX1_unlike_2 15 rfl rfl)
theorem dX1_unlike_64 : decode cX1_unlike 64 = .ok (.iload_n 2, 1) := dk_28 (dk_at dksX1_unlike_2 17 rfl rfl)
theorem dX1_unlike_65 : decode cX1_unlike 65 = .ok (.isub, 1) := dk_100 (dk_at dksX1_unlike_2 18 rfl rfl)
theorem dX1_unlike_66 : decode cX1_unlike 66 = .ok (.istore 5, 2) := dk_54 5 (dk_at dksX1_unlike_2 19 rfl rfl)
theorem dX1_unlike_68 : decode cX1_unlike 68 = .ok (.goto (-42), 3) := dk_167 255 214 (dk_at dksX1_unlike_2 21 rfl rfl)
theorem dX1_unlike_71 : decode cX1_unlike 71 = .ok (.aload_n 0, 1) := dk_42 (dk_at dksX1_unlike_3 0 rfl rfl)
theorem dX1_unlike_72 : decode cX1_unlike 72 = .ok (.getfield 70, 3) := dk_180 0 70 (dk_at dksX1_unlike_3 1 rfl rfl)
theorem dX1_unlike_75 : decode cX1_unlike 75 = .ok (.iload 5, 2) := dk_21 5 (dk_at dksX1_unlike_3 4 rfl rfl)
theorem dX1_unlike_77 : decode cX1_unlike 77 = .ok (.iload 4, 2) := dk_21 4 (dk_at dksX1_unlike_3 6 rfl rfl)
theorem dX1_unlike_79 : decode cX1_unlike 79 = .ok (.iastore, 1) := dk_79 (dk_at dksX1_unlike_3 8 rfl rfl)
theorem dX1_unlike_80 : decode cX1_unlike 80 = .ok (.iinc 3 1, 3) := dk_132 3 1 (dk_at dksX1_unlike_3 9 rfl rfl)
theorem dX1_unlike_83 : decode cX1_unlike 83 = .ok (.goto (-73), 3) := dk_167 255 183 (dk_at dksX1_unlike_3 12 rfl rfl)
theorem dX1_unlike_86 : decode cX1_unlike 86 = .ok (.iload_n 2, 1) := dk_28 (dk_at dksX1_unlike_3 15 rfl rfl)
theorem dX1_unlike_87 : decode cX1_unlike 87 = .ok (.iconst 2, 1) := dk_5 (dk_at dksX1_unlike_3 16 rfl rfl)
theorem dX1_unlike_88 : decode cX1_unlike 88 = .ok (.idiv, 1) := dk_108 (dk_at dksX1_unlike_3 17 rfl rfl)
theorem dX1_unlike_89 : decode cX1_unlike 89 = .ok (.istore_n 2, 1) := dk_61 (dk_at dksX1_unlike_3 18 rfl rfl)
theorem dX1_unlike_90 : decode cX1_unlike 90 = .ok (.goto (-86), 3) := dk_167 255 170 (dk_at dksX1_unlike_3 19 rfl rfl)
theorem dX1_unlike_93 : decode cX1_unlike 93 = .ok (.iconst 0, 1) := dk_3 (dk_at dksX1_unlike_3 22 rfl rfl)
theorem dX1_unlike_94 : decode cX1_unlike 94 = .ok (.istore_n 2, 1) := dk_61 (dk_at dksX1_unlike_3 23 rfl rfl)
theorem dX1_unlike_95 : decode cX1_unlike 95 = .ok (.iconst 0, 1) := dk_3 (dk_at dksX1_unlike_4 0 rfl rfl)
theorem dX1_unlike_96 : decode cX1_unlike 96 = .ok (.istore_n 3, 1) := dk_62 (dk_at dksX1_unlike_4 1 rfl rfl)
theorem dX1_unlike_97 : decode cX1_unlike 97 = .ok (.iload_n 3, 1) := dk_29 (dk_at dksX1_unlike_4 2 rfl rfl)
theorem dX1_unlike_98 : decode cX1_unlike 98 = .ok (.iload_n 1, 1) := dk_27 (dk_at dksX1_unlike_4 3 rfl rfl)
theorem dX1_unlike_99 : decode cX1_unlike 99 = .ok (.if_icmp .ge 38, 3) := dk_162 0 38 (dk_at dksX1_unlike_4 4 rfl rfl)
theorem dX1_unlike_102 : decode cX1_unlike 102 = .ok (.iload_n 2, 1) := dk_28 (dk_at dksX1_unlike_4 7 rfl rfl)
theorem dX1_unlike_103 : decode cX1_unlike 103 = .ok (.iload_n 3, 1) := dk_29 (dk_at dksX1_unlike_4 8 rfl rfl)
theorem dX1_unlike_104 : decode cX1_unlike 104 = .ok (.ifCond .eq 20, 3) := dk_153 0 20 (dk_at dksX1_unlike_4 9 rfl rfl)
theorem dX1_unlike_107 : decode cX1_unlike 107 = .ok (.aload_n 0, 1) := dk_42 (dk_at dksX1_unlike_4 12 rfl rfl)
theorem dX1_unlike_108 : decode cX1_unlike 108 = .ok (.getfield 70, 3) := dk_180 0 70 (dk_at dksX1_unlike_4 13 rfl rfl)
theorem dX1_unlike_111 : decode cX1_unlike 111 = .ok (.iload_n 3, 1) := dk_29 (dk_at dksX1_unlike_4 16 rfl rfl)
theorem dX1_unlike_112 : decode cX1_unlike 112 = .ok (.iaload, 1) := dk_46 (dk_at dksX1_unlike_4 17 rfl rfl)
theorem dX1_unlike_113 : decode cX1_unlike 113 = .ok (.aload_n 0, 1) := dk_42 (dk_at dksX1_unlike_4 18 rfl rfl)
theorem dX1_unlike_114 : decode cX1_unlike 114 = .ok (.getfield 70, 3) := dk_180 0 70 (dk_at dksX1_unlike_4 19 rfl rfl)
theorem dX1_unlike_117 : decode cX1_unlike 117 = .ok (.iload_n 3, 1) := dk_29 (dk_at dksX1_unlike_4 22 rfl rfl)
theorem dX1_unlike_118 : decode cX1_unlike 118 = .ok (.iconst 1, 1) := dk_4 (dk_at dksX1_unlike_4 23 rfl rfl)
theorem dX1_unlike_119 : decode cX1_unlike 119 = .ok (.isub, 1) := dk_100 (dk_at dksX1_unlike_5 0 rfl rfl)
theorem dX1_unlike_120 : decode cX1_unlike 120 = .ok (.iaload, 1) := dk_46 (dk_at dksX1_unlike_5 1 rfl rfl)
theorem dX1_unlike_121 : decode cX1_unlike 121 = .ok (.if_icmp .eq 7, 3) := dk_159 0 7 (dk_at dksX1_unlike_5 2 rfl rfl)
theorem dX1_unlike_124 : decode cX1_unlike 124 = .ok (.iconst 1, 1) := dk_4 (dk_at dksX1_unlike_5 5 rfl rfl)
theorem dX1_unlike_125 : decode cX1_unlike 125 = .ok (.goto 4, 3) := dk_167 0 4 (dk_at dksX1_unlike_5 6 rfl rfl)
theorem dX1_unlike_128 : decode cX1_unlike 128 = .ok (.iconst 0, 1) := dk_3 (dk_at dksX1_unlike_5 9 rfl rfl)
theorem dX1_unlike_129 : decode cX1_unlike 129 = .ok (.iadd, 1) := dk_96 (dk_at dksX1_unlike_5 10 rfl rfl)
theorem dX1_unlike_130 : decode cX1_unlike 130 = .ok (.istore_n 2, 1) := dk_61 (dk_at dksX1_unlike_5 11 rfl rfl)
theorem dX1_unlike_131 : decode cX1_unlike 131 = .ok (.iinc 3 1, 3) := dk_132 3 1 (dk_at dksX1_unlike_5 12 rfl rfl)
theorem dX1_unlike_134 : decode cX1_unlike 134 = .ok (.goto (-37), 3) := dk_167 255 219 (dk_at dksX1_unlike_5 15 rfl rfl)
theorem dX1_unlike_137 : decode cX1_unlike 137 = .ok (.iload_n 2, 1) := dk_28 (dk_at dksX1_unlike_5 18 rfl rfl)
theorem dX1_unlike_138 : decode cX1_unlike 138 = .ok (.ireturn, 1) := dk_172 (dk_at dksX1_unlike_5 19 rfl rfl)
abbrev cX1_times : ByteArray := prog_1_method_40_code
def yX1_times : MethodName := ⟨RX1, "times", "(II)I"⟩
def dkwX1_times_1 : List UInt8 := [182, 0, 153, 27, 182, 1, 9, 28, 46, 167, 0, 4, 3, 172]
abbrev dktX1_times_1 : List UInt8 := dkwX1_times_1 ++ []
def dkwX1_times_0 : List UInt8 := [42, 27, 182, 0, 234, 154, 0, 5, 2, 172, 28, 133, 9, 20, 1, 7, 184, 0, 82, 153, 0, 16, 42]
abbrev dktX1_times_0 : List UInt8 := dkwX1_times_0 ++ dktX1_times_1
theorem dksX1_times_0 : cX1_times.data.toList.drop 0 = dktX1_times_0 := by decide +kernel
theorem dksX1_times_1 : cX1_times.data.toList.drop 23 = dktX1_times_1 := dk_seg dksX1_times_0 23 rfl rfl
theorem dX1_times_0 : decode cX1_times 0 = .ok (.aload_n 0, 1) := dk_42 (dk_at dksX1_times_0 0 rfl rfl)
theorem dX1_times_1 : decode cX1_times 1 = .ok (.iload_n 1, 1) := dk_27 (dk_at dksX1_times_0 1 rfl rfl)
theorem dX1_times_2 : decode cX1_times 2 = .ok (.invokevirtual 234, 3) := dk_182 0 234 (dk_at dksX1_times_0 2 rfl rfl)
theorem dX1_times_5 : decode cX1_times 5 = .ok (.ifCond .ne 5, 3) := dk_154 0 5 (dk_at dksX1_times_0 5 rfl rfl)
theorem dX1_times_8 : decode cX1_times 8 = .ok (.iconst (-1), 1) := dk_2 (dk_at dksX1_times_0 8 rfl rfl)
theorem dX1_times_9 : decode cX1_times 9 = .ok (.ireturn, 1) := dk_172 (dk_at dksX1_times_0 9 rfl rfl)
theorem dX1_times_10 : decode cX1_times 10 = .ok (.iload_n 2, 1) := dk_28 (dk_at dksX1_times_0 10 rfl rfl)
theorem dX1_times_11 : decode cX1_times 11 = .ok (.i2l, 1) := dk_133 (dk_at dksX1_times_0 11 rfl rfl)
theorem dX1_times_12 : decode cX1_times 12 = .ok (.lconst 0, 1) := dk_9 (dk_at dksX1_times_0 12 rfl rfl)
theorem dX1_times_13 : decode cX1_times 13 = .ok (.ldc2_w 263, 3) := dk_20 1 7 (dk_at dksX1_times_0 13 rfl rfl)
theorem dX1_times_16 : decode cX1_times 16 = .ok (.invokestatic 82, 3) := dk_184 0 82 (dk_at dksX1_times_0 16 rfl rfl)
theorem dX1_times_19 : decode cX1_times 19 = .ok (.ifCond .eq 16, 3) := dk_153 0 16 (dk_at dksX1_times_0 19 rfl rfl)
theorem dX1_times_22 : decode cX1_times 22 = .ok (.aload_n 0, 1) := dk_42 (dk_at dksX1_times_0 22 rfl rfl)
theorem dX1_times_23 : decode cX1_times 23 = .ok (.invokevirtual 153, 3) := dk_182 0 153 (dk_at dksX1_times_1 0 rfl rfl)
theorem dX1_times_26 : decode cX1_times 26 = .ok (.iload_n 1, 1) := dk_27 (dk_at dksX1_times_1 3 rfl rfl)
theorem dX1_times_27 : decode cX1_times 27 = .ok (.invokevirtual 265, 3) := dk_182 1 9 (dk_at dksX1_times_1 4 rfl rfl)
theorem dX1_times_30 : decode cX1_times 30 = .ok (.iload_n 2, 1) := dk_28 (dk_at dksX1_times_1 7 rfl rfl)
theorem dX1_times_31 : decode cX1_times 31 = .ok (.iaload, 1) := dk_46 (dk_at dksX1_times_1 8 rfl rfl)
theorem dX1_times_32 : decode cX1_times 32 = .ok (.goto 4, 3) := dk_167 0 4 (dk_at dksX1_times_1 9 rfl rfl)
theorem dX1_times_35 : decode cX1_times 35 = .ok (.iconst 0, 1) := dk_3 (dk_at dksX1_times_1 12 rfl rfl)
theorem dX1_times_36 : decode cX1_times 36 = .ok (.ireturn, 1) := dk_172 (dk_at dksX1_times_1 13 rfl rfl)
abbrev cX1_distinct : ByteArray := prog_1_method_42_code
def yX1_distinct : MethodName := ⟨RX1, "distinct", "(II)I"⟩
def dkwX1_distinct_2 : List UInt8 := [28, 184, 1, 13, 172]
abbrev dktX1_distinct_2 : List UInt8 := dkwX1_distinct_2 ++ []
def dkwX1_distinct_1 : List UInt8 := [182, 0, 153, 78, 45, 180, 0, 156, 154, 0, 11, 28, 158, 0, 7, 2, 167, 0, 12, 45, 27, 182, 1, 9]
abbrev dktX1_distinct_1 : List UInt8 := dkwX1_distinct_1 ++ dktX1_distinct_2
def dkwX1_distinct_0 : List UInt8 := [42, 27, 182, 0, 234, 153, 0, 15, 28, 133, 9, 20, 0, 170, 184, 0, 82, 154, 0, 5, 2, 172, 42]
abbrev dktX1_distinct_0 : List UInt8 := dkwX1_distinct_0 ++ dktX1_distinct_1
theorem dksX1_distinct_0 : cX1_distinct.data.toList.drop 0 = dktX1_distinct_0 := by decide +kernel
theorem dksX1_distinct_1 : cX1_distinct.data.toList.drop 23 = dktX1_distinct_1 := dk_seg dksX1_distinct_0 23 rfl rfl
theorem dksX1_distinct_2 : cX1_distinct.data.toList.drop 47 = dktX1_distinct_2 := dk_seg dksX1_distinct_1 24 rfl rfl
theorem dX1_distinct_0 : decode cX1_distinct 0 = .ok (.aload_n 0, 1) := dk_42 (dk_at dksX1_distinct_0 0 rfl rfl)
theorem dX1_distinct_1 : decode cX1_distinct 1 = .ok (.iload_n 1, 1) := dk_27 (dk_at dksX1_distinct_0 1 rfl rfl)
theorem dX1_distinct_2 : decode cX1_distinct 2 = .ok (.invokevirtual 234, 3) := dk_182 0 234 (dk_at dksX1_distinct_0 2 rfl rfl)
theorem dX1_distinct_5 : decode cX1_distinct 5 = .ok (.ifCond .eq 15, 3) := dk_153 0 15 (dk_at dksX1_distinct_0 5 rfl rfl)
theorem dX1_distinct_8 : decode cX1_distinct 8 = .ok (.iload_n 2, 1) := dk_28 (dk_at dksX1_distinct_0 8 rfl rfl)
theorem dX1_distinct_9 : decode cX1_distinct 9 = .ok (.i2l, 1) := dk_133 (dk_at dksX1_distinct_0 9 rfl rfl)
theorem dX1_distinct_10 : decode cX1_distinct 10 = .ok (.lconst 0, 1) := dk_9 (dk_at dksX1_distinct_0 10 rfl rfl)
theorem dX1_distinct_11 : decode cX1_distinct 11 = .ok (.ldc2_w 170, 3) := dk_20 0 170 (dk_at dksX1_distinct_0 11 rfl rfl)
theorem dX1_distinct_14 : decode cX1_distinct 14 = .ok (.invokestatic 82, 3) := dk_184 0 82 (dk_at dksX1_distinct_0 14 rfl rfl)
theorem dX1_distinct_17 : decode cX1_distinct 17 = .ok (.ifCond .ne 5, 3) := dk_154 0 5 (dk_at dksX1_distinct_0 17 rfl rfl)
theorem dX1_distinct_20 : decode cX1_distinct 20 = .ok (.iconst (-1), 1) := dk_2 (dk_at dksX1_distinct_0 20 rfl rfl)
theorem dX1_distinct_21 : decode cX1_distinct 21 = .ok (.ireturn, 1) := dk_172 (dk_at dksX1_distinct_0 21 rfl rfl)
theorem dX1_distinct_22 : decode cX1_distinct 22 = .ok (.aload_n 0, 1) := dk_42 (dk_at dksX1_distinct_0 22 rfl rfl)
theorem dX1_distinct_23 : decode cX1_distinct 23 = .ok (.invokevirtual 153, 3) := dk_182 0 153 (dk_at dksX1_distinct_1 0 rfl rfl)
theorem dX1_distinct_26 : decode cX1_distinct 26 = .ok (.astore_n 3, 1) := dk_78 (dk_at dksX1_distinct_1 3 rfl rfl)
theorem dX1_distinct_27 : decode cX1_distinct 27 = .ok (.aload_n 3, 1) := dk_45 (dk_at dksX1_distinct_1 4 rfl rfl)
theorem dX1_distinct_28 : decode cX1_distinct 28 = .ok (.getfield 156, 3) := dk_180 0 156 (dk_at dksX1_distinct_1 5 rfl rfl)
theorem dX1_distinct_31 : decode cX1_distinct 31 = .ok (.ifCond .ne 11, 3) := dk_154 0 11 (dk_at dksX1_distinct_1 8 rfl rfl)
theorem dX1_distinct_34 : decode cX1_distinct 34 = .ok (.iload_n 2, 1) := dk_28 (dk_at dksX1_distinct_1 11 rfl rfl)
theorem dX1_distinct_35 : decode cX1_distinct 35 = .ok (.ifCond .le 7, 3) := dk_158 0 7 (dk_at dksX1_distinct_1 12 rfl rfl)
theorem dX1_distinct_38 : decode cX1_distinct 38 = .ok (.iconst (-1), 1) := dk_2 (dk_at dksX1_distinct_1 15 rfl rfl)
theorem dX1_distinct_39 : decode cX1_distinct 39 = .ok (.goto 12, 3) := dk_167 0 12 (dk_at dksX1_distinct_1 16 rfl rfl)
theorem dX1_distinct_42 : decode cX1_distinct 42 = .ok (.aload_n 3, 1) := dk_45 (dk_at dksX1_distinct_1 19 rfl rfl)
theorem dX1_distinct_43 : decode cX1_distinct 43 = .ok (.iload_n 1, 1) := dk_27 (dk_at dksX1_distinct_1 20 rfl rfl)
theorem dX1_distinct_44 : decode cX1_distinct 44 = .ok (.invokevirtual 265, 3) := dk_182 1 9 (dk_at dksX1_distinct_1 21 rfl rfl)
theorem dX1_distinct_47 : decode cX1_distinct 47 = .ok (.iload_n 2, 1) := dk_28 (dk_at dksX1_distinct_2 0 rfl rfl)
theorem dX1_distinct_48 : decode cX1_distinct 48 = .ok (.invokestatic 269, 3) := dk_184 1 13 (dk_at dksX1_distinct_2 1 rfl rfl)
theorem dX1_distinct_51 : decode cX1_distinct 51 = .ok (.ireturn, 1) := dk_172 (dk_at dksX1_distinct_2 4 rfl rfl)
abbrev cX1_ofCounts : ByteArray := prog_1_method_41_code
def yX1_ofCounts : MethodName := ⟨RX1, "ofCounts", "([II)I"⟩
def dkwX1_ofCounts_4 : List UInt8 := [160, 0, 8, 21, 4, 167, 0, 5, 21, 5, 172]
abbrev dktX1_ofCounts_4 : List UInt8 := dkwX1_ofCounts_4 ++ []
def dkwX1_ofCounts_3 : List UInt8 := [167, 255, 197, 27, 154, 0, 7, 28, 167, 0, 24, 27, 4, 160, 0, 7, 29, 167, 0, 15, 27, 5]
abbrev dktX1_ofCounts_3 : List UInt8 := dkwX1_ofCounts_3 ++ dktX1_ofCounts_4
def dkwX1_ofCounts_2 : List UInt8 := [62, 42, 21, 6, 46, 42, 21, 5, 46, 164, 0, 8, 21, 6, 167, 0, 5, 21, 5, 54, 5, 132, 6, 1]
abbrev dktX1_ofCounts_2 : List UInt8 := dkwX1_ofCounts_2 ++ dktX1_ofCounts_3
def dkwX1_ofCounts_1 : List UInt8 := [154, 0, 6, 167, 0, 42, 132, 2, 1, 21, 6, 54, 4, 29, 2, 160, 0, 8, 21, 6, 167, 0, 4, 29]
abbrev dktX1_ofCounts_1 : List UInt8 := dkwX1_ofCounts_1 ++ dktX1_ofCounts_2
def dkwX1_ofCounts_0 : List UInt8 := [3, 61, 2, 62, 2, 54, 4, 3, 54, 5, 3, 54, 6, 21, 6, 16, 100, 162, 0, 58, 42, 21, 6, 46]
abbrev dktX1_ofCounts_0 : List UInt8 := dkwX1_ofCounts_0 ++ dktX1_ofCounts_1
theorem dksX1_ofCounts_0 : cX1_ofCounts.data.toList.drop 0 = dktX1_ofCounts_0 := by decide +kernel
theorem dksX1_ofCounts_1 : cX1_ofCounts.data.toList.drop 24 = dktX1_ofCounts_1 := dk_seg dksX1_ofCounts_0 24 rfl rfl
theorem dksX1_ofCounts_2 : cX1_ofCounts.data.toList.drop 48 = dktX1_ofCounts_2 := dk_seg dksX1_ofCounts_1 24 rfl rfl
theorem dksX1_ofCounts_3 : cX1_ofCounts.data.toList.drop 72 = dktX1_ofCounts_3 := dk_seg dksX1_ofCounts_2 24 rfl rfl
theorem dksX1_ofCounts_4 : cX1_ofCounts.data.toList.drop 94 = dktX1_ofCounts_4 := dk_seg dksX1_ofCounts_3 22 rfl rfl
theorem dX1_ofCounts_0 : decode cX1_ofCounts 0 = .ok (.iconst 0, 1) := dk_3 (dk_at dksX1_ofCounts_0 0 rfl rfl)
theorem dX1_ofCounts_1 : decode cX1_ofCounts 1 = .ok (.istore_n 2, 1) := dk_61 (dk_at dksX1_ofCounts_0 1 rfl rfl)
theorem dX1_ofCounts_2 : decode cX1_ofCounts 2 = .ok (.iconst (-1), 1) := dk_2 (dk_at dksX1_ofCounts_0 2 rfl rfl)
theorem dX1_ofCounts_3 : decode cX1_ofCounts 3 = .ok (.istore_n 3, 1) := dk_62 (dk_at dksX1_ofCounts_0 3 rfl rfl)
theorem dX1_ofCounts_4 : decode cX1_ofCounts 4 = .ok (.iconst (-1), 1) := dk_2 (dk_at dksX1_ofCounts_0 4 rfl rfl)
theorem dX1_ofCounts_5 : decode cX1_ofCounts 5 = .ok (.istore 4, 2) := dk_54 4 (dk_at dksX1_ofCounts_0 5 rfl rfl)
theorem dX1_ofCounts_7 : decode cX1_ofCounts 7 = .ok (.iconst 0, 1) := dk_3 (dk_at dksX1_ofCounts_0 7 rfl rfl)
theorem dX1_ofCounts_8 : decode cX1_ofCounts 8 = .ok (.istore 5, 2) := dk_54 5 (dk_at dksX1_ofCounts_0 8 rfl rfl)
theorem dX1_ofCounts_10 : decode cX1_ofCounts 10 = .ok (.iconst 0, 1) := dk_3 (dk_at dksX1_ofCounts_0 10 rfl rfl)
theorem dX1_ofCounts_11 : decode cX1_ofCounts 11 = .ok (.istore 6, 2) := dk_54 6 (dk_at dksX1_ofCounts_0 11 rfl rfl)
theorem dX1_ofCounts_13 : decode cX1_ofCounts 13 = .ok (.iload 6, 2) := dk_21 6 (dk_at dksX1_ofCounts_0 13 rfl rfl)
theorem dX1_ofCounts_15 : decode cX1_ofCounts 15 = .ok (.bipush 100, 2) := dk_16 100 (dk_at dksX1_ofCounts_0 15 rfl rfl)
theorem dX1_ofCounts_17 : decode cX1_ofCounts 17 = .ok (.if_icmp .ge 58, 3) := dk_162 0 58 (dk_at dksX1_ofCounts_0 17 rfl rfl)
theorem dX1_ofCounts_20 : decode cX1_ofCounts 20 = .ok (.aload_n 0, 1) := dk_42 (dk_at dksX1_ofCounts_0 20 rfl rfl)
theorem dX1_ofCounts_21 : decode cX1_ofCounts 21 = .ok (.iload 6, 2) := dk_21 6 (dk_at dksX1_ofCounts_0 21 rfl rfl)
theorem dX1_ofCounts_23 : decode cX1_ofCounts 23 = .ok (.iaload, 1) := dk_46 (dk_at dksX1_ofCounts_0 23 rfl rfl)
theorem dX1_ofCounts_24 : decode cX1_ofCounts 24 = .ok (.ifCond .ne 6, 3) := dk_154 0 6 (dk_at dksX1_ofCounts_1 0 rfl rfl)
theorem dX1_ofCounts_27 : decode cX1_ofCounts 27 = .ok (.goto 42, 3) := dk_167 0 42 (dk_at dksX1_ofCounts_1 3 rfl rfl)
theorem dX1_ofCounts_30 : decode cX1_ofCounts 30 = .ok (.iinc 2 1, 3) := dk_132 2 1 (dk_at dksX1_ofCounts_1 6 rfl rfl)
theorem dX1_ofCounts_33 : decode cX1_ofCounts 33 = .ok (.iload 6, 2) := dk_21 6 (dk_at dksX1_ofCounts_1 9 rfl rfl)
theorem dX1_ofCounts_35 : decode cX1_ofCounts 35 = .ok (.istore 4, 2) := dk_54 4 (dk_at dksX1_ofCounts_1 11 rfl rfl)
theorem dX1_ofCounts_37 : decode cX1_ofCounts 37 = .ok (.iload_n 3, 1) := dk_29 (dk_at dksX1_ofCounts_1 13 rfl rfl)
theorem dX1_ofCounts_38 : decode cX1_ofCounts 38 = .ok (.iconst (-1), 1) := dk_2 (dk_at dksX1_ofCounts_1 14 rfl rfl)
theorem dX1_ofCounts_39 : decode cX1_ofCounts 39 = .ok (.if_icmp .ne 8, 3) := dk_160 0 8 (dk_at dksX1_ofCounts_1 15 rfl rfl)
theorem dX1_ofCounts_42 : decode cX1_ofCounts 42 = .ok (.iload 6, 2) := dk_21 6 (dk_at dksX1_ofCounts_1 18 rfl rfl)
theorem dX1_ofCounts_44 : decode cX1_ofCounts 44 = .ok (.goto 4, 3) := dk_167 0 4 (dk_at dksX1_ofCounts_1 20 rfl rfl)
theorem dX1_ofCounts_47 : decode cX1_ofCounts 47 = .ok (.iload_n 3, 1) := dk_29 (dk_at dksX1_ofCounts_1 23 rfl rfl)
theorem dX1_ofCounts_48 : decode cX1_ofCounts 48 = .ok (.istore_n 3, 1) := dk_62 (dk_at dksX1_ofCounts_2 0 rfl rfl)
theorem dX1_ofCounts_49 : decode cX1_ofCounts 49 = .ok (.aload_n 0, 1) := dk_42 (dk_at dksX1_ofCounts_2 1 rfl rfl)
theorem dX1_ofCounts_50 : decode cX1_ofCounts 50 = .ok (.iload 6, 2) := dk_21 6 (dk_at dksX1_ofCounts_2 2 rfl rfl)
theorem dX1_ofCounts_52 : decode cX1_ofCounts 52 = .ok (.iaload, 1) := dk_46 (dk_at dksX1_ofCounts_2 4 rfl rfl)
theorem dX1_ofCounts_53 : decode cX1_ofCounts 53 = .ok (.aload_n 0, 1) := dk_42 (dk_at dksX1_ofCounts_2 5 rfl rfl)
theorem dX1_ofCounts_54 : decode cX1_ofCounts 54 = .ok (.iload 5, 2) := dk_21 5 (dk_at dksX1_ofCounts_2 6 rfl rfl)
theorem dX1_ofCounts_56 : decode cX1_ofCounts 56 = .ok (.iaload, 1) := dk_46 (dk_at dksX1_ofCounts_2 8 rfl rfl)
theorem dX1_ofCounts_57 : decode cX1_ofCounts 57 = .ok (.if_icmp .le 8, 3) := dk_164 0 8 (dk_at dksX1_ofCounts_2 9 rfl rfl)
theorem dX1_ofCounts_60 : decode cX1_ofCounts 60 = .ok (.iload 6, 2) := dk_21 6 (dk_at dksX1_ofCounts_2 12 rfl rfl)
theorem dX1_ofCounts_62 : decode cX1_ofCounts 62 = .ok (.goto 5, 3) := dk_167 0 5 (dk_at dksX1_ofCounts_2 14 rfl rfl)
theorem dX1_ofCounts_65 : decode cX1_ofCounts 65 = .ok (.iload 5, 2) := dk_21 5 (dk_at dksX1_ofCounts_2 17 rfl rfl)
theorem dX1_ofCounts_67 : decode cX1_ofCounts 67 = .ok (.istore 5, 2) := dk_54 5 (dk_at dksX1_ofCounts_2 19 rfl rfl)
theorem dX1_ofCounts_69 : decode cX1_ofCounts 69 = .ok (.iinc 6 1, 3) := dk_132 6 1 (dk_at dksX1_ofCounts_2 21 rfl rfl)
theorem dX1_ofCounts_72 : decode cX1_ofCounts 72 = .ok (.goto (-59), 3) := dk_167 255 197 (dk_at dksX1_ofCounts_3 0 rfl rfl)
theorem dX1_ofCounts_75 : decode cX1_ofCounts 75 = .ok (.iload_n 1, 1) := dk_27 (dk_at dksX1_ofCounts_3 3 rfl rfl)
theorem dX1_ofCounts_76 : decode cX1_ofCounts 76 = .ok (.ifCond .ne 7, 3) := dk_154 0 7 (dk_at dksX1_ofCounts_3 4 rfl rfl)
theorem dX1_ofCounts_79 : decode cX1_ofCounts 79 = .ok (.iload_n 2, 1) := dk_28 (dk_at dksX1_ofCounts_3 7 rfl rfl)
theorem dX1_ofCounts_80 : decode cX1_ofCounts 80 = .ok (.goto 24, 3) := dk_167 0 24 (dk_at dksX1_ofCounts_3 8 rfl rfl)
theorem dX1_ofCounts_83 : decode cX1_ofCounts 83 = .ok (.iload_n 1, 1) := dk_27 (dk_at dksX1_ofCounts_3 11 rfl rfl)
theorem dX1_ofCounts_84 : decode cX1_ofCounts 84 = .ok (.iconst 1, 1) := dk_4 (dk_at dksX1_ofCounts_3 12 rfl rfl)
theorem dX1_ofCounts_85 : decode cX1_ofCounts 85 = .ok (.if_icmp .ne 7, 3) := dk_160 0 7 (dk_at dksX1_ofCounts_3 13 rfl rfl)
theorem dX1_ofCounts_88 : decode cX1_ofCounts 88 = .ok (.iload_n 3, 1) := dk_29 (dk_at dksX1_ofCounts_3 16 rfl rfl)
theorem dX1_ofCounts_89 : decode cX1_ofCounts 89 = .ok (.goto 15, 3) := dk_167 0 15 (dk_at dksX1_ofCounts_3 17 rfl rfl)
theorem dX1_ofCounts_92 : decode cX1_ofCounts 92 = .ok (.iload_n 1, 1) := dk_27 (dk_at dksX1_ofCounts_3 20 rfl rfl)
theorem dX1_ofCounts_93 : decode cX1_ofCounts 93 = .ok (.iconst 2, 1) := dk_5 (dk_at dksX1_ofCounts_3 21 rfl rfl)
theorem dX1_ofCounts_94 : decode cX1_ofCounts 94 = .ok (.if_icmp .ne 8, 3) := dk_160 0 8 (dk_at dksX1_ofCounts_4 0 rfl rfl)
theorem dX1_ofCounts_97 : decode cX1_ofCounts 97 = .ok (.iload 4, 2) := dk_21 4 (dk_at dksX1_ofCounts_4 3 rfl rfl)
theorem dX1_ofCounts_99 : decode cX1_ofCounts 99 = .ok (.goto 5, 3) := dk_167 0 5 (dk_at dksX1_ofCounts_4 5 rfl rfl)
theorem dX1_ofCounts_102 : decode cX1_ofCounts 102 = .ok (.iload 5, 2) := dk_21 5 (dk_at dksX1_ofCounts_4 8 rfl rfl)
theorem dX1_ofCounts_104 : decode cX1_ofCounts 104 = .ok (.ireturn, 1) := dk_172 (dk_at dksX1_ofCounts_4 10 rfl rfl)
abbrev cX1_tells : ByteArray := prog_1_method_44_code
def yX1_tells : MethodName := ⟨RX1, "tells", "(II)Z"⟩
def dkwX1_tells_1 : List UInt8 := [182, 1, 17, 153, 0, 7, 4, 167, 0, 4, 3, 172]
abbrev dktX1_tells_1 : List UInt8 := dkwX1_tells_1 ++ []
def dkwX1_tells_0 : List UInt8 := [42, 27, 182, 0, 234, 153, 0, 28, 42, 28, 182, 0, 234, 153, 0, 20, 42, 42, 182, 0, 153, 27, 28]
abbrev dktX1_tells_0 : List UInt8 := dkwX1_tells_0 ++ dktX1_tells_1
theorem dksX1_tells_0 : cX1_tells.data.toList.drop 0 = dktX1_tells_0 := by decide +kernel
theorem dksX1_tells_1 : cX1_tells.data.toList.drop 23 = dktX1_tells_1 := dk_seg dksX1_tells_0 23 rfl rfl
theorem dX1_tells_0 : decode cX1_tells 0 = .ok (.aload_n 0, 1) := dk_42 (dk_at dksX1_tells_0 0 rfl rfl)
theorem dX1_tells_1 : decode cX1_tells 1 = .ok (.iload_n 1, 1) := dk_27 (dk_at dksX1_tells_0 1 rfl rfl)
theorem dX1_tells_2 : decode cX1_tells 2 = .ok (.invokevirtual 234, 3) := dk_182 0 234 (dk_at dksX1_tells_0 2 rfl rfl)
theorem dX1_tells_5 : decode cX1_tells 5 = .ok (.ifCond .eq 28, 3) := dk_153 0 28 (dk_at dksX1_tells_0 5 rfl rfl)
theorem dX1_tells_8 : decode cX1_tells 8 = .ok (.aload_n 0, 1) := dk_42 (dk_at dksX1_tells_0 8 rfl rfl)
theorem dX1_tells_9 : decode cX1_tells 9 = .ok (.iload_n 2, 1) := dk_28 (dk_at dksX1_tells_0 9 rfl rfl)
theorem dX1_tells_10 : decode cX1_tells 10 = .ok (.invokevirtual 234, 3) := dk_182 0 234 (dk_at dksX1_tells_0 10 rfl rfl)
theorem dX1_tells_13 : decode cX1_tells 13 = .ok (.ifCond .eq 20, 3) := dk_153 0 20 (dk_at dksX1_tells_0 13 rfl rfl)
theorem dX1_tells_16 : decode cX1_tells 16 = .ok (.aload_n 0, 1) := dk_42 (dk_at dksX1_tells_0 16 rfl rfl)
theorem dX1_tells_17 : decode cX1_tells 17 = .ok (.aload_n 0, 1) := dk_42 (dk_at dksX1_tells_0 17 rfl rfl)
theorem dX1_tells_18 : decode cX1_tells 18 = .ok (.invokevirtual 153, 3) := dk_182 0 153 (dk_at dksX1_tells_0 18 rfl rfl)
theorem dX1_tells_21 : decode cX1_tells 21 = .ok (.iload_n 1, 1) := dk_27 (dk_at dksX1_tells_0 21 rfl rfl)
theorem dX1_tells_22 : decode cX1_tells 22 = .ok (.iload_n 2, 1) := dk_28 (dk_at dksX1_tells_0 22 rfl rfl)
theorem dX1_tells_23 : decode cX1_tells 23 = .ok (.invokevirtual 273, 3) := dk_182 1 17 (dk_at dksX1_tells_1 0 rfl rfl)
theorem dX1_tells_26 : decode cX1_tells 26 = .ok (.ifCond .eq 7, 3) := dk_153 0 7 (dk_at dksX1_tells_1 3 rfl rfl)
theorem dX1_tells_29 : decode cX1_tells 29 = .ok (.iconst 1, 1) := dk_4 (dk_at dksX1_tells_1 6 rfl rfl)
theorem dX1_tells_30 : decode cX1_tells 30 = .ok (.goto 4, 3) := dk_167 0 4 (dk_at dksX1_tells_1 7 rfl rfl)
theorem dX1_tells_33 : decode cX1_tells 33 = .ok (.iconst 0, 1) := dk_3 (dk_at dksX1_tells_1 10 rfl rfl)
theorem dX1_tells_34 : decode cX1_tells 34 = .ok (.ireturn, 1) := dk_172 (dk_at dksX1_tells_1 11 rfl rfl)
abbrev cX1_isTold : ByteArray := prog_1_method_43_code
def yX1_isTold : MethodName := ⟨RX1, "isTold", "(LLeapJoin$Join;II)Z"⟩
def dkwX1_isTold_4 : List UInt8 := [167, 255, 191, 4, 172]
abbrev dktX1_isTold_4 : List UInt8 := dkwX1_isTold_4 ++ []
def dkwX1_isTold_3 : List UInt8 := [159, 0, 5, 3, 172, 42, 180, 0, 73, 21, 5, 43, 21, 4, 29, 182, 0, 237, 79, 132, 4, 1]
abbrev dktX1_isTold_3 : List UInt8 := dkwX1_isTold_3 ++ dktX1_isTold_4
def dkwX1_isTold_2 : List UInt8 := [180, 0, 73, 21, 5, 46, 2, 159, 0, 22, 42, 180, 0, 73, 21, 5, 46, 43, 21, 4, 29, 182, 0, 237]
abbrev dktX1_isTold_2 : List UInt8 := dkwX1_isTold_2 ++ dktX1_isTold_3
def dkwX1_isTold_1 : List UInt8 := [3, 54, 4, 21, 4, 43, 180, 0, 156, 162, 0, 62, 43, 21, 4, 28, 182, 0, 237, 54, 5, 42]
abbrev dktX1_isTold_1 : List UInt8 := dkwX1_isTold_1 ++ dktX1_isTold_2
def dkwX1_isTold_0 : List UInt8 := [3, 54, 4, 21, 4, 16, 100, 162, 0, 17, 42, 180, 0, 73, 21, 4, 2, 79, 132, 4, 1, 167, 255, 238]
abbrev dktX1_isTold_0 : List UInt8 := dkwX1_isTold_0 ++ dktX1_isTold_1
theorem dksX1_isTold_0 : cX1_isTold.data.toList.drop 0 = dktX1_isTold_0 := by decide +kernel
theorem dksX1_isTold_1 : cX1_isTold.data.toList.drop 24 = dktX1_isTold_1 := dk_seg dksX1_isTold_0 24 rfl rfl
theorem dksX1_isTold_2 : cX1_isTold.data.toList.drop 46 = dktX1_isTold_2 := dk_seg dksX1_isTold_1 22 rfl rfl
theorem dksX1_isTold_3 : cX1_isTold.data.toList.drop 70 = dktX1_isTold_3 := dk_seg dksX1_isTold_2 24 rfl rfl
theorem dksX1_isTold_4 : cX1_isTold.data.toList.drop 92 = dktX1_isTold_4 := dk_seg dksX1_isTold_3 22 rfl rfl
theorem dX1_isTold_0 : decode cX1_isTold 0 = .ok (.iconst 0, 1) := dk_3 (dk_at dksX1_isTold_0 0 rfl rfl)
theorem dX1_isTold_1 : decode cX1_isTold 1 = .ok (.istore 4, 2) := dk_54 4 (dk_at dksX1_isTold_0 1 rfl rfl)
theorem dX1_isTold_3 : decode cX1_isTold 3 = .ok (.iload 4, 2) := dk_21 4 (dk_at dksX1_isTold_0 3 rfl rfl)
theorem dX1_isTold_5 : decode cX1_isTold 5 = .ok (.bipush 100, 2) := dk_16 100 (dk_at dksX1_isTold_0 5 rfl rfl)
theorem dX1_isTold_7 : decode cX1_isTold 7 = .ok (.if_icmp .ge 17, 3) := dk_162 0 17 (dk_at dksX1_isTold_0 7 rfl rfl)
theorem dX1_isTold_10 : decode cX1_isTold 10 = .ok (.aload_n 0, 1) := dk_42 (dk_at dksX1_isTold_0 10 rfl rfl)
theorem dX1_isTold_11 : decode cX1_isTold 11 = .ok (.getfield 73, 3) := dk_180 0 73 (dk_at dksX1_isTold_0 11 rfl rfl)
theorem dX1_isTold_14 : decode cX1_isTold 14 = .ok (.iload 4, 2) := dk_21 4 (dk_at dksX1_isTold_0 14 rfl rfl)
theorem dX1_isTold_16 : decode cX1_isTold 16 = .ok (.iconst (-1), 1) := dk_2 (dk_at dksX1_isTold_0 16 rfl rfl)
theorem dX1_isTold_17 : decode cX1_isTold 17 = .ok (.iastore, 1) := dk_79 (dk_at dksX1_isTold_0 17 rfl rfl)
theorem dX1_isTold_18 : decode cX1_isTold 18 = .ok (.iinc 4 1, 3) := dk_132 4 1 (dk_at dksX1_isTold_0 18 rfl rfl)
theorem dX1_isTold_21 : decode cX1_isTold 21 = .ok (.goto (-18), 3) := dk_167 255 238 (dk_at dksX1_isTold_0 21 rfl rfl)
theorem dX1_isTold_24 : decode cX1_isTold 24 = .ok (.iconst 0, 1) := dk_3 (dk_at dksX1_isTold_1 0 rfl rfl)
theorem dX1_isTold_25 : decode cX1_isTold 25 = .ok (.istore 4, 2) := dk_54 4 (dk_at dksX1_isTold_1 1 rfl rfl)
theorem dX1_isTold_27 : decode cX1_isTold 27 = .ok (.iload 4, 2) := dk_21 4 (dk_at dksX1_isTold_1 3 rfl rfl)
theorem dX1_isTold_29 : decode cX1_isTold 29 = .ok (.aload_n 1, 1) := dk_43 (dk_at dksX1_isTold_1 5 rfl rfl)
theorem dX1_isTold_30 : decode cX1_isTold 30 = .ok (.getfield 156, 3) := dk_180 0 156 (dk_at dksX1_isTold_1 6 rfl rfl)
theorem dX1_isTold_33 : decode cX1_isTold 33 = .ok (.if_icmp .ge 62, 3) := dk_162 0 62 (dk_at dksX1_isTold_1 9 rfl rfl)
theorem dX1_isTold_36 : decode cX1_isTold 36 = .ok (.aload_n 1, 1) := dk_43 (dk_at dksX1_isTold_1 12 rfl rfl)
theorem dX1_isTold_37 : decode cX1_isTold 37 = .ok (.iload 4, 2) := dk_21 4 (dk_at dksX1_isTold_1 13 rfl rfl)
theorem dX1_isTold_39 : decode cX1_isTold 39 = .ok (.iload_n 2, 1) := dk_28 (dk_at dksX1_isTold_1 15 rfl rfl)
theorem dX1_isTold_40 : decode cX1_isTold 40 = .ok (.invokevirtual 237, 3) := dk_182 0 237 (dk_at dksX1_isTold_1 16 rfl rfl)
theorem dX1_isTold_43 : decode cX1_isTold 43 = .ok (.istore 5, 2) := dk_54 5 (dk_at dksX1_isTold_1 19 rfl rfl)
theorem dX1_isTold_45 : decode cX1_isTold 45 = .ok (.aload_n 0, 1) := dk_42 (dk_at dksX1_isTold_1 21 rfl rfl)
theorem dX1_isTold_46 : decode cX1_isTold 46 = .ok (.getfield 73, 3) := dk_180 0 73 (dk_at dksX1_isTold_2 0 rfl rfl)
theorem dX1_isTold_49 : decode cX1_isTold 49 = .ok (.iload 5, 2) := dk_21 5 (dk_at dksX1_isTold_2 3 rfl rfl)
theorem dX1_isTold_51 : decode cX1_isTold 51 = .ok (.iaload, 1) := dk_46 (dk_at dksX1_isTold_2 5 rfl rfl)
theorem dX1_isTold_52 : decode cX1_isTold 52 = .ok (.iconst (-1), 1) := dk_2 (dk_at dksX1_isTold_2 6 rfl rfl)
theorem dX1_isTold_53 : decode cX1_isTold 53 = .ok (.if_icmp .eq 22, 3) := dk_159 0 22 (dk_at dksX1_isTold_2 7 rfl rfl)
theorem dX1_isTold_56 : decode cX1_isTold 56 = .ok (.aload_n 0, 1) := dk_42 (dk_at dksX1_isTold_2 10 rfl rfl)
theorem dX1_isTold_57 : decode cX1_isTold 57 = .ok (.getfield 73, 3) := dk_180 0 73 (dk_at dksX1_isTold_2 11 rfl rfl)
theorem dX1_isTold_60 : decode cX1_isTold 60 = .ok (.iload 5, 2) := dk_21 5 (dk_at dksX1_isTold_2 14 rfl rfl)
theorem dX1_isTold_62 : decode cX1_isTold 62 = .ok (.iaload, 1) := dk_46 (dk_at dksX1_isTold_2 16 rfl rfl)
theorem dX1_isTold_63 : decode cX1_isTold 63 = .ok (.aload_n 1, 1) := dk_43 (dk_at dksX1_isTold_2 17 rfl rfl)
theorem dX1_isTold_64 : decode cX1_isTold 64 = .ok (.iload 4, 2) := dk_21 4 (dk_at dksX1_isTold_2 18 rfl rfl)
theorem dX1_isTold_66 : decode cX1_isTold 66 = .ok (.iload_n 3, 1) := dk_29 (dk_at dksX1_isTold_2 20 rfl rfl)
theorem dX1_isTold_67 : decode cX1_isTold 67 = .ok (.invokevirtual 237, 3) := dk_182 0 237 (dk_at dksX1_isTold_2 21 rfl rfl)
theorem dX1_isTold_70 : decode cX1_isTold 70 = .ok (.if_icmp .eq 5, 3) := dk_159 0 5 (dk_at dksX1_isTold_3 0 rfl rfl)
theorem dX1_isTold_73 : decode cX1_isTold 73 = .ok (.iconst 0, 1) := dk_3 (dk_at dksX1_isTold_3 3 rfl rfl)
theorem dX1_isTold_74 : decode cX1_isTold 74 = .ok (.ireturn, 1) := dk_172 (dk_at dksX1_isTold_3 4 rfl rfl)
theorem dX1_isTold_75 : decode cX1_isTold 75 = .ok (.aload_n 0, 1) := dk_42 (dk_at dksX1_isTold_3 5 rfl rfl)
theorem dX1_isTold_76 : decode cX1_isTold 76 = .ok (.getfield 73, 3) := dk_180 0 73 (dk_at dksX1_isTold_3 6 rfl rfl)
theorem dX1_isTold_79 : decode cX1_isTold 79 = .ok (.iload 5, 2) := dk_21 5 (dk_at dksX1_isTold_3 9 rfl rfl)
theorem dX1_isTold_81 : decode cX1_isTold 81 = .ok (.aload_n 1, 1) := dk_43 (dk_at dksX1_isTold_3 11 rfl rfl)
theorem dX1_isTold_82 : decode cX1_isTold 82 = .ok (.iload 4, 2) := dk_21 4 (dk_at dksX1_isTold_3 12 rfl rfl)
theorem dX1_isTold_84 : decode cX1_isTold 84 = .ok (.iload_n 3, 1) := dk_29 (dk_at dksX1_isTold_3 14 rfl rfl)
theorem dX1_isTold_85 : decode cX1_isTold 85 = .ok (.invokevirtual 237, 3) := dk_182 0 237 (dk_at dksX1_isTold_3 15 rfl rfl)
theorem dX1_isTold_88 : decode cX1_isTold 88 = .ok (.iastore, 1) := dk_79 (dk_at dksX1_isTold_3 18 rfl rfl)
theorem dX1_isTold_89 : decode cX1_isTold 89 = .ok (.iinc 4 1, 3) := dk_132 4 1 (dk_at dksX1_isTold_3 19 rfl rfl)
theorem dX1_isTold_92 : decode cX1_isTold 92 = .ok (.goto (-65), 3) := dk_167 255 191 (dk_at dksX1_isTold_4 0 rfl rfl)
theorem dX1_isTold_95 : decode cX1_isTold 95 = .ok (.iconst 1, 1) := dk_4 (dk_at dksX1_isTold_4 3 rfl rfl)
theorem dX1_isTold_96 : decode cX1_isTold 96 = .ok (.ireturn, 1) := dk_172 (dk_at dksX1_isTold_4 4 rfl rfl)
abbrev cX1_behind : ByteArray := prog_1_method_46_code
def yX1_behind : MethodName := ⟨RX1, "behind", "(IIII)I"⟩
def dkwX1_behind_0 : List UInt8 := [42, 180, 0, 79, 154, 0, 7, 2, 167, 0, 13, 42, 27, 28, 29, 21, 4, 3, 182, 1, 25, 172]
abbrev dktX1_behind_0 : List UInt8 := dkwX1_behind_0 ++ []
theorem dksX1_behind_0 : cX1_behind.data.toList.drop 0 = dktX1_behind_0 := by decide +kernel
theorem dX1_behind_0 : decode cX1_behind 0 = .ok (.aload_n 0, 1) := dk_42 (dk_at dksX1_behind_0 0 rfl rfl)
theorem dX1_behind_1 : decode cX1_behind 1 = .ok (.getfield 79, 3) := dk_180 0 79 (dk_at dksX1_behind_0 1 rfl rfl)
theorem dX1_behind_4 : decode cX1_behind 4 = .ok (.ifCond .ne 7, 3) := dk_154 0 7 (dk_at dksX1_behind_0 4 rfl rfl)
theorem dX1_behind_7 : decode cX1_behind 7 = .ok (.iconst (-1), 1) := dk_2 (dk_at dksX1_behind_0 7 rfl rfl)
theorem dX1_behind_8 : decode cX1_behind 8 = .ok (.goto 13, 3) := dk_167 0 13 (dk_at dksX1_behind_0 8 rfl rfl)
theorem dX1_behind_11 : decode cX1_behind 11 = .ok (.aload_n 0, 1) := dk_42 (dk_at dksX1_behind_0 11 rfl rfl)
theorem dX1_behind_12 : decode cX1_behind 12 = .ok (.iload_n 1, 1) := dk_27 (dk_at dksX1_behind_0 12 rfl rfl)
theorem dX1_behind_13 : decode cX1_behind 13 = .ok (.iload_n 2, 1) := dk_28 (dk_at dksX1_behind_0 13 rfl rfl)
theorem dX1_behind_14 : decode cX1_behind 14 = .ok (.iload_n 3, 1) := dk_29 (dk_at dksX1_behind_0 14 rfl rfl)
theorem dX1_behind_15 : decode cX1_behind 15 = .ok (.iload 4, 2) := dk_21 4 (dk_at dksX1_behind_0 15 rfl rfl)
theorem dX1_behind_17 : decode cX1_behind 17 = .ok (.iconst 0, 1) := dk_3 (dk_at dksX1_behind_0 17 rfl rfl)
theorem dX1_behind_18 : decode cX1_behind 18 = .ok (.invokevirtual 281, 3) := dk_182 1 25 (dk_at dksX1_behind_0 18 rfl rfl)
theorem dX1_behind_21 : decode cX1_behind 21 = .ok (.ireturn, 1) := dk_172 (dk_at dksX1_behind_0 21 rfl rfl)
abbrev cX1_from : ByteArray := prog_1_method_45_code
def yX1_from : MethodName := ⟨RX1, "from", "(IIIIZ)I"⟩
def dkwX1_from_3 : List UInt8 := [154, 0, 11, 21, 5, 153, 0, 6, 21, 7, 172, 132, 7, 1, 167, 255, 212, 2, 172]
abbrev dktX1_from_3 : List UInt8 := dkwX1_from_3 ++ []
def dkwX1_from_2 : List UInt8 := [162, 0, 40, 25, 6, 21, 7, 42, 180, 0, 76, 182, 1, 21, 54, 8, 21, 8, 157, 0, 13, 21, 8]
abbrev dktX1_from_2 : List UInt8 := dkwX1_from_2 ++ dktX1_from_3
def dkwX1_from_1 : List UInt8 := [180, 0, 76, 6, 21, 4, 79, 42, 182, 0, 153, 58, 6, 3, 54, 7, 21, 7, 25, 6, 180, 0, 156]
abbrev dktX1_from_1 : List UInt8 := dkwX1_from_1 ++ dktX1_from_2
def dkwX1_from_0 : List UInt8 := [42, 180, 0, 76, 3, 27, 79, 42, 180, 0, 76, 4, 28, 79, 42, 180, 0, 76, 5, 29, 79, 42]
abbrev dktX1_from_0 : List UInt8 := dkwX1_from_0 ++ dktX1_from_1
theorem dksX1_from_0 : cX1_from.data.toList.drop 0 = dktX1_from_0 := by decide +kernel
theorem dksX1_from_1 : cX1_from.data.toList.drop 22 = dktX1_from_1 := dk_seg dksX1_from_0 22 rfl rfl
theorem dksX1_from_2 : cX1_from.data.toList.drop 45 = dktX1_from_2 := dk_seg dksX1_from_1 23 rfl rfl
theorem dksX1_from_3 : cX1_from.data.toList.drop 68 = dktX1_from_3 := dk_seg dksX1_from_2 23 rfl rfl
theorem dX1_from_0 : decode cX1_from 0 = .ok (.aload_n 0, 1) := dk_42 (dk_at dksX1_from_0 0 rfl rfl)
theorem dX1_from_1 : decode cX1_from 1 = .ok (.getfield 76, 3) := dk_180 0 76 (dk_at dksX1_from_0 1 rfl rfl)
theorem dX1_from_4 : decode cX1_from 4 = .ok (.iconst 0, 1) := dk_3 (dk_at dksX1_from_0 4 rfl rfl)
theorem dX1_from_5 : decode cX1_from 5 = .ok (.iload_n 1, 1) := dk_27 (dk_at dksX1_from_0 5 rfl rfl)
theorem dX1_from_6 : decode cX1_from 6 = .ok (.iastore, 1) := dk_79 (dk_at dksX1_from_0 6 rfl rfl)
theorem dX1_from_7 : decode cX1_from 7 = .ok (.aload_n 0, 1) := dk_42 (dk_at dksX1_from_0 7 rfl rfl)
theorem dX1_from_8 : decode cX1_from 8 = .ok (.getfield 76, 3) := dk_180 0 76 (dk_at dksX1_from_0 8 rfl rfl)
theorem dX1_from_11 : decode cX1_from 11 = .ok (.iconst 1, 1) := dk_4 (dk_at dksX1_from_0 11 rfl rfl)
theorem dX1_from_12 : decode cX1_from 12 = .ok (.iload_n 2, 1) := dk_28 (dk_at dksX1_from_0 12 rfl rfl)
theorem dX1_from_13 : decode cX1_from 13 = .ok (.iastore, 1) := dk_79 (dk_at dksX1_from_0 13 rfl rfl)
theorem dX1_from_14 : decode cX1_from 14 = .ok (.aload_n 0, 1) := dk_42 (dk_at dksX1_from_0 14 rfl rfl)
theorem dX1_from_15 : decode cX1_from 15 = .ok (.getfield 76, 3) := dk_180 0 76 (dk_at dksX1_from_0 15 rfl rfl)
theorem dX1_from_18 : decode cX1_from 18 = .ok (.iconst 2, 1) := dk_5 (dk_at dksX1_from_0 18 rfl rfl)
theorem dX1_from_19 : decode cX1_from 19 = .ok (.iload_n 3, 1) := dk_29 (dk_at dksX1_from_0 19 rfl rfl)
theorem dX1_from_20 : decode cX1_from 20 = .ok (.iastore, 1) := dk_79 (dk_at dksX1_from_0 20 rfl rfl)
theorem dX1_from_21 : decode cX1_from 21 = .ok (.aload_n 0, 1) := dk_42 (dk_at dksX1_from_0 21 rfl rfl)
theorem dX1_from_22 : decode cX1_from 22 = .ok (.getfield 76, 3) := dk_180 0 76 (dk_at dksX1_from_1 0 rfl rfl)
theorem dX1_from_25 : decode cX1_from 25 = .ok (.iconst 3, 1) := dk_6 (dk_at dksX1_from_1 3 rfl rfl)
theorem dX1_from_26 : decode cX1_from 26 = .ok (.iload 4, 2) := dk_21 4 (dk_at dksX1_from_1 4 rfl rfl)
theorem dX1_from_28 : decode cX1_from 28 = .ok (.iastore, 1) := dk_79 (dk_at dksX1_from_1 6 rfl rfl)
theorem dX1_from_29 : decode cX1_from 29 = .ok (.aload_n 0, 1) := dk_42 (dk_at dksX1_from_1 7 rfl rfl)
theorem dX1_from_30 : decode cX1_from 30 = .ok (.invokevirtual 153, 3) := dk_182 0 153 (dk_at dksX1_from_1 8 rfl rfl)
theorem dX1_from_33 : decode cX1_from 33 = .ok (.astore 6, 2) := dk_58 6 (dk_at dksX1_from_1 11 rfl rfl)
theorem dX1_from_35 : decode cX1_from 35 = .ok (.iconst 0, 1) := dk_3 (dk_at dksX1_from_1 13 rfl rfl)
theorem dX1_from_36 : decode cX1_from 36 = .ok (.istore 7, 2) := dk_54 7 (dk_at dksX1_from_1 14 rfl rfl)
theorem dX1_from_38 : decode cX1_from 38 = .ok (.iload 7, 2) := dk_21 7 (dk_at dksX1_from_1 16 rfl rfl)
theorem dX1_from_40 : decode cX1_from 40 = .ok (.aload 6, 2) := dk_25 6 (dk_at dksX1_from_1 18 rfl rfl)
theorem dX1_from_42 : decode cX1_from 42 = .ok (.getfield 156, 3) := dk_180 0 156 (dk_at dksX1_from_1 20 rfl rfl)
theorem dX1_from_45 : decode cX1_from 45 = .ok (.if_icmp .ge 40, 3) := dk_162 0 40 (dk_at dksX1_from_2 0 rfl rfl)
theorem dX1_from_48 : decode cX1_from 48 = .ok (.aload 6, 2) := dk_25 6 (dk_at dksX1_from_2 3 rfl rfl)
theorem dX1_from_50 : decode cX1_from 50 = .ok (.iload 7, 2) := dk_21 7 (dk_at dksX1_from_2 5 rfl rfl)
theorem dX1_from_52 : decode cX1_from 52 = .ok (.aload_n 0, 1) := dk_42 (dk_at dksX1_from_2 7 rfl rfl)
theorem dX1_from_53 : decode cX1_from 53 = .ok (.getfield 76, 3) := dk_180 0 76 (dk_at dksX1_from_2 8 rfl rfl)
theorem dX1_from_56 : decode cX1_from 56 = .ok (.invokevirtual 277, 3) := dk_182 1 21 (dk_at dksX1_from_2 11 rfl rfl)
theorem dX1_from_59 : decode cX1_from 59 = .ok (.istore 8, 2) := dk_54 8 (dk_at dksX1_from_2 14 rfl rfl)
theorem dX1_from_61 : decode cX1_from 61 = .ok (.iload 8, 2) := dk_21 8 (dk_at dksX1_from_2 16 rfl rfl)
theorem dX1_from_63 : decode cX1_from 63 = .ok (.ifCond .gt 13, 3) := dk_157 0 13 (dk_at dksX1_from_2 18 rfl rfl)
theorem dX1_from_66 : decode cX1_from 66 = .ok (.iload 8, 2) := dk_21 8 (dk_at dksX1_from_2 21 rfl rfl)
theorem dX1_from_68 : decode cX1_from 68 = .ok (.ifCond .ne 11, 3) := dk_154 0 11 (dk_at dksX1_from_3 0 rfl rfl)
theorem dX1_from_71 : decode cX1_from 71 = .ok (.iload 5, 2) := dk_21 5 (dk_at dksX1_from_3 3 rfl rfl)
theorem dX1_from_73 : decode cX1_from 73 = .ok (.ifCond .eq 6, 3) := dk_153 0 6 (dk_at dksX1_from_3 5 rfl rfl)
theorem dX1_from_76 : decode cX1_from 76 = .ok (.iload 7, 2) := dk_21 7 (dk_at dksX1_from_3 8 rfl rfl)
theorem dX1_from_78 : decode cX1_from 78 = .ok (.ireturn, 1) := dk_172 (dk_at dksX1_from_3 10 rfl rfl)
theorem dX1_from_79 : decode cX1_from 79 = .ok (.iinc 7 1, 3) := dk_132 7 1 (dk_at dksX1_from_3 11 rfl rfl)
theorem dX1_from_82 : decode cX1_from 82 = .ok (.goto (-44), 3) := dk_167 255 212 (dk_at dksX1_from_3 14 rfl rfl)
theorem dX1_from_85 : decode cX1_from 85 = .ok (.iconst (-1), 1) := dk_2 (dk_at dksX1_from_3 17 rfl rfl)
theorem dX1_from_86 : decode cX1_from 86 = .ok (.ireturn, 1) := dk_172 (dk_at dksX1_from_3 18 rfl rfl)
abbrev cX1_has_2 : ByteArray := prog_1_method_47_code
def yX1_has_2 : MethodName := ⟨RX1, "has", "(IIII)Z"⟩
def dkwX1_has_2_2 : List UInt8 := [172]
abbrev dktX1_has_2_2 : List UInt8 := dkwX1_has_2_2 ++ []
def dkwX1_has_2_1 : List UInt8 := [159, 0, 23, 42, 180, 0, 62, 21, 5, 42, 180, 0, 76, 182, 1, 21, 154, 0, 7, 4, 167, 0, 4, 3]
abbrev dktX1_has_2_1 : List UInt8 := dkwX1_has_2_1 ++ dktX1_has_2_2
def dkwX1_has_2_0 : List UInt8 := [42, 180, 0, 79, 154, 0, 5, 3, 172, 42, 27, 28, 29, 21, 4, 4, 182, 1, 25, 54, 5, 21, 5, 2]
abbrev dktX1_has_2_0 : List UInt8 := dkwX1_has_2_0 ++ dktX1_has_2_1
theorem dksX1_has_2_0 : cX1_has_2.data.toList.drop 0 = dktX1_has_2_0 := by decide +kernel
theorem dksX1_has_2_1 : cX1_has_2.data.toList.drop 24 = dktX1_has_2_1 := dk_seg dksX1_has_2_0 24 rfl rfl
theorem dksX1_has_2_2 : cX1_has_2.data.toList.drop 48 = dktX1_has_2_2 := dk_seg dksX1_has_2_1 24 rfl rfl
theorem dX1_has_2_0 : decode cX1_has_2 0 = .ok (.aload_n 0, 1) := dk_42 (dk_at dksX1_has_2_0 0 rfl rfl)
theorem dX1_has_2_1 : decode cX1_has_2 1 = .ok (.getfield 79, 3) := dk_180 0 79 (dk_at dksX1_has_2_0 1 rfl rfl)
theorem dX1_has_2_4 : decode cX1_has_2 4 = .ok (.ifCond .ne 5, 3) := dk_154 0 5 (dk_at dksX1_has_2_0 4 rfl rfl)
theorem dX1_has_2_7 : decode cX1_has_2 7 = .ok (.iconst 0, 1) := dk_3 (dk_at dksX1_has_2_0 7 rfl rfl)
theorem dX1_has_2_8 : decode cX1_has_2 8 = .ok (.ireturn, 1) := dk_172 (dk_at dksX1_has_2_0 8 rfl rfl)
theorem dX1_has_2_9 : decode cX1_has_2 9 = .ok (.aload_n 0, 1) := dk_42 (dk_at dksX1_has_2_0 9 rfl rfl)
theorem dX1_has_2_10 : decode cX1_has_2 10 = .ok (.iload_n 1, 1) := dk_27 (dk_at dksX1_has_2_0 10 rfl rfl)
theorem dX1_has_2_11 : decode cX1_has_2 11 = .ok (.iload_n 2, 1) := dk_28 (dk_at dksX1_has_2_0 11 rfl rfl)
theorem dX1_has_2_12 : decode cX1_has_2 12 = .ok (.iload_n 3, 1) := dk_29 (dk_at dksX1_has_2_0 12 rfl rfl)
theorem dX1_has_2_13 : decode cX1_has_2 13 = .ok (.iload 4, 2) := dk_21 4 (dk_at dksX1_has_2_0 13 rfl rfl)
theorem dX1_has_2_15 : decode cX1_has_2 15 = .ok (.iconst 1, 1) := dk_4 (dk_at dksX1_has_2_0 15 rfl rfl)
theorem dX1_has_2_16 : decode cX1_has_2 16 = .ok (.invokevirtual 281, 3) := dk_182 1 25 (dk_at dksX1_has_2_0 16 rfl rfl)
theorem dX1_has_2_19 : decode cX1_has_2 19 = .ok (.istore 5, 2) := dk_54 5 (dk_at dksX1_has_2_0 19 rfl rfl)
theorem dX1_has_2_21 : decode cX1_has_2 21 = .ok (.iload 5, 2) := dk_21 5 (dk_at dksX1_has_2_0 21 rfl rfl)
theorem dX1_has_2_23 : decode cX1_has_2 23 = .ok (.iconst (-1), 1) := dk_2 (dk_at dksX1_has_2_0 23 rfl rfl)
theorem dX1_has_2_24 : decode cX1_has_2 24 = .ok (.if_icmp .eq 23, 3) := dk_159 0 23 (dk_at dksX1_has_2_1 0 rfl rfl)
theorem dX1_has_2_27 : decode cX1_has_2 27 = .ok (.aload_n 0, 1) := dk_42 (dk_at dksX1_has_2_1 3 rfl rfl)
theorem dX1_has_2_28 : decode cX1_has_2 28 = .ok (.getfield 62, 3) := dk_180 0 62 (dk_at dksX1_has_2_1 4 rfl rfl)
theorem dX1_has_2_31 : decode cX1_has_2 31 = .ok (.iload 5, 2) := dk_21 5 (dk_at dksX1_has_2_1 7 rfl rfl)
theorem dX1_has_2_33 : decode cX1_has_2 33 = .ok (.aload_n 0, 1) := dk_42 (dk_at dksX1_has_2_1 9 rfl rfl)
theorem dX1_has_2_34 : decode cX1_has_2 34 = .ok (.getfield 76, 3) := dk_180 0 76 (dk_at dksX1_has_2_1 10 rfl rfl)
theorem dX1_has_2_37 : decode cX1_has_2 37 = .ok (.invokevirtual 277, 3) := dk_182 1 21 (dk_at dksX1_has_2_1 13 rfl rfl)
theorem dX1_has_2_40 : decode cX1_has_2 40 = .ok (.ifCond .ne 7, 3) := dk_154 0 7 (dk_at dksX1_has_2_1 16 rfl rfl)
theorem dX1_has_2_43 : decode cX1_has_2 43 = .ok (.iconst 1, 1) := dk_4 (dk_at dksX1_has_2_1 19 rfl rfl)
theorem dX1_has_2_44 : decode cX1_has_2 44 = .ok (.goto 4, 3) := dk_167 0 4 (dk_at dksX1_has_2_1 20 rfl rfl)
theorem dX1_has_2_47 : decode cX1_has_2 47 = .ok (.iconst 0, 1) := dk_3 (dk_at dksX1_has_2_1 23 rfl rfl)
theorem dX1_has_2_48 : decode cX1_has_2 48 = .ok (.ireturn, 1) := dk_172 (dk_at dksX1_has_2_2 0 rfl rfl)
abbrev cX1_mean : ByteArray := prog_1_method_49_code
def yX1_mean : MethodName := ⟨RX1, "mean", "(I)J"⟩
def dkwX1_mean_1 : List UInt8 := [20, 1, 42, 173]
abbrev dktX1_mean_1 : List UInt8 := dkwX1_mean_1 ++ []
def dkwX1_mean_0 : List UInt8 := [42, 27, 182, 1, 29, 153, 0, 17, 42, 180, 0, 62, 27, 182, 1, 32, 184, 1, 36, 167, 0, 6]
abbrev dktX1_mean_0 : List UInt8 := dkwX1_mean_0 ++ dktX1_mean_1
theorem dksX1_mean_0 : cX1_mean.data.toList.drop 0 = dktX1_mean_0 := by decide +kernel
theorem dksX1_mean_1 : cX1_mean.data.toList.drop 22 = dktX1_mean_1 := dk_seg dksX1_mean_0 22 rfl rfl
theorem dX1_mean_0 : decode cX1_mean 0 = .ok (.aload_n 0, 1) := dk_42 (dk_at dksX1_mean_0 0 rfl rfl)
theorem dX1_mean_1 : decode cX1_mean 1 = .ok (.iload_n 1, 1) := dk_27 (dk_at dksX1_mean_0 1 rfl rfl)
theorem dX1_mean_2 : decode cX1_mean 2 = .ok (.invokevirtual 285, 3) := dk_182 1 29 (dk_at dksX1_mean_0 2 rfl rfl)
theorem dX1_mean_5 : decode cX1_mean 5 = .ok (.ifCond .eq 17, 3) := dk_153 0 17 (dk_at dksX1_mean_0 5 rfl rfl)
theorem dX1_mean_8 : decode cX1_mean 8 = .ok (.aload_n 0, 1) := dk_42 (dk_at dksX1_mean_0 8 rfl rfl)
theorem dX1_mean_9 : decode cX1_mean 9 = .ok (.getfield 62, 3) := dk_180 0 62 (dk_at dksX1_mean_0 9 rfl rfl)
theorem dX1_mean_12 : decode cX1_mean 12 = .ok (.iload_n 1, 1) := dk_27 (dk_at dksX1_mean_0 12 rfl rfl)
theorem dX1_mean_13 : decode cX1_mean 13 = .ok (.invokevirtual 288, 3) := dk_182 1 32 (dk_at dksX1_mean_0 13 rfl rfl)
theorem dX1_mean_16 : decode cX1_mean 16 = .ok (.invokestatic 292, 3) := dk_184 1 36 (dk_at dksX1_mean_0 16 rfl rfl)
theorem dX1_mean_19 : decode cX1_mean 19 = .ok (.goto 6, 3) := dk_167 0 6 (dk_at dksX1_mean_0 19 rfl rfl)
theorem dX1_mean_22 : decode cX1_mean 22 = .ok (.ldc2_w 298, 3) := dk_20 1 42 (dk_at dksX1_mean_1 0 rfl rfl)
theorem dX1_mean_25 : decode cX1_mean 25 = .ok (.lreturn, 1) := dk_173 (dk_at dksX1_mean_1 3 rfl rfl)
abbrev cX1_hasMean : ByteArray := prog_1_method_48_code
def yX1_hasMean : MethodName := ⟨RX1, "hasMean", "(I)Z"⟩
def dkwX1_hasMean_0 : List UInt8 := [42, 27, 182, 0, 234, 153, 0, 17, 42, 182, 0, 153, 180, 0, 156, 158, 0, 7, 4, 167, 0, 4, 3, 172]
abbrev dktX1_hasMean_0 : List UInt8 := dkwX1_hasMean_0 ++ []
theorem dksX1_hasMean_0 : cX1_hasMean.data.toList.drop 0 = dktX1_hasMean_0 := by decide +kernel
theorem dX1_hasMean_0 : decode cX1_hasMean 0 = .ok (.aload_n 0, 1) := dk_42 (dk_at dksX1_hasMean_0 0 rfl rfl)
theorem dX1_hasMean_1 : decode cX1_hasMean 1 = .ok (.iload_n 1, 1) := dk_27 (dk_at dksX1_hasMean_0 1 rfl rfl)
theorem dX1_hasMean_2 : decode cX1_hasMean 2 = .ok (.invokevirtual 234, 3) := dk_182 0 234 (dk_at dksX1_hasMean_0 2 rfl rfl)
theorem dX1_hasMean_5 : decode cX1_hasMean 5 = .ok (.ifCond .eq 17, 3) := dk_153 0 17 (dk_at dksX1_hasMean_0 5 rfl rfl)
theorem dX1_hasMean_8 : decode cX1_hasMean 8 = .ok (.aload_n 0, 1) := dk_42 (dk_at dksX1_hasMean_0 8 rfl rfl)
theorem dX1_hasMean_9 : decode cX1_hasMean 9 = .ok (.invokevirtual 153, 3) := dk_182 0 153 (dk_at dksX1_hasMean_0 9 rfl rfl)
theorem dX1_hasMean_12 : decode cX1_hasMean 12 = .ok (.getfield 156, 3) := dk_180 0 156 (dk_at dksX1_hasMean_0 12 rfl rfl)
theorem dX1_hasMean_15 : decode cX1_hasMean 15 = .ok (.ifCond .le 7, 3) := dk_158 0 7 (dk_at dksX1_hasMean_0 15 rfl rfl)
theorem dX1_hasMean_18 : decode cX1_hasMean 18 = .ok (.iconst 1, 1) := dk_4 (dk_at dksX1_hasMean_0 18 rfl rfl)
theorem dX1_hasMean_19 : decode cX1_hasMean 19 = .ok (.goto 4, 3) := dk_167 0 4 (dk_at dksX1_hasMean_0 19 rfl rfl)
theorem dX1_hasMean_22 : decode cX1_hasMean 22 = .ok (.iconst 0, 1) := dk_3 (dk_at dksX1_hasMean_0 22 rfl rfl)
theorem dX1_hasMean_23 : decode cX1_hasMean 23 = .ok (.ireturn, 1) := dk_172 (dk_at dksX1_hasMean_0 23 rfl rfl)
abbrev cX1_meanAs : ByteArray := prog_1_method_50_code
def yX1_meanAs : MethodName := ⟨RX1, "meanAs", "(II)I"⟩
def dkwX1_meanAs_1 : List UInt8 := [180, 0, 62, 27, 182, 1, 32, 74, 28, 154, 0, 11, 41, 144, 184, 1, 44, 167, 0, 5, 41, 142, 172]
abbrev dktX1_meanAs_1 : List UInt8 := dkwX1_meanAs_1 ++ []
def dkwX1_meanAs_0 : List UInt8 := [28, 133, 9, 10, 184, 0, 82, 153, 0, 11, 42, 27, 182, 1, 29, 154, 0, 6, 18, 177, 172, 42]
abbrev dktX1_meanAs_0 : List UInt8 := dkwX1_meanAs_0 ++ dktX1_meanAs_1
theorem dksX1_meanAs_0 : cX1_meanAs.data.toList.drop 0 = dktX1_meanAs_0 := by decide +kernel
theorem dksX1_meanAs_1 : cX1_meanAs.data.toList.drop 22 = dktX1_meanAs_1 := dk_seg dksX1_meanAs_0 22 rfl rfl
theorem dX1_meanAs_0 : decode cX1_meanAs 0 = .ok (.iload_n 2, 1) := dk_28 (dk_at dksX1_meanAs_0 0 rfl rfl)
theorem dX1_meanAs_1 : decode cX1_meanAs 1 = .ok (.i2l, 1) := dk_133 (dk_at dksX1_meanAs_0 1 rfl rfl)
theorem dX1_meanAs_2 : decode cX1_meanAs 2 = .ok (.lconst 0, 1) := dk_9 (dk_at dksX1_meanAs_0 2 rfl rfl)
theorem dX1_meanAs_3 : decode cX1_meanAs 3 = .ok (.lconst 1, 1) := dk_10 (dk_at dksX1_meanAs_0 3 rfl rfl)
theorem dX1_meanAs_4 : decode cX1_meanAs 4 = .ok (.invokestatic 82, 3) := dk_184 0 82 (dk_at dksX1_meanAs_0 4 rfl rfl)
theorem dX1_meanAs_7 : decode cX1_meanAs 7 = .ok (.ifCond .eq 11, 3) := dk_153 0 11 (dk_at dksX1_meanAs_0 7 rfl rfl)
theorem dX1_meanAs_10 : decode cX1_meanAs 10 = .ok (.aload_n 0, 1) := dk_42 (dk_at dksX1_meanAs_0 10 rfl rfl)
theorem dX1_meanAs_11 : decode cX1_meanAs 11 = .ok (.iload_n 1, 1) := dk_27 (dk_at dksX1_meanAs_0 11 rfl rfl)
theorem dX1_meanAs_12 : decode cX1_meanAs 12 = .ok (.invokevirtual 285, 3) := dk_182 1 29 (dk_at dksX1_meanAs_0 12 rfl rfl)
theorem dX1_meanAs_15 : decode cX1_meanAs 15 = .ok (.ifCond .ne 6, 3) := dk_154 0 6 (dk_at dksX1_meanAs_0 15 rfl rfl)
theorem dX1_meanAs_18 : decode cX1_meanAs 18 = .ok (.ldc 177, 2) := dk_18 177 (dk_at dksX1_meanAs_0 18 rfl rfl)
theorem dX1_meanAs_20 : decode cX1_meanAs 20 = .ok (.ireturn, 1) := dk_172 (dk_at dksX1_meanAs_0 20 rfl rfl)
theorem dX1_meanAs_21 : decode cX1_meanAs 21 = .ok (.aload_n 0, 1) := dk_42 (dk_at dksX1_meanAs_0 21 rfl rfl)
theorem dX1_meanAs_22 : decode cX1_meanAs 22 = .ok (.getfield 62, 3) := dk_180 0 62 (dk_at dksX1_meanAs_1 0 rfl rfl)
theorem dX1_meanAs_25 : decode cX1_meanAs 25 = .ok (.iload_n 1, 1) := dk_27 (dk_at dksX1_meanAs_1 3 rfl rfl)
theorem dX1_meanAs_26 : decode cX1_meanAs 26 = .ok (.invokevirtual 288, 3) := dk_182 1 32 (dk_at dksX1_meanAs_1 4 rfl rfl)
theorem dX1_meanAs_29 : decode cX1_meanAs 29 = .ok (.dstore_n 3, 1) := dk_74 (dk_at dksX1_meanAs_1 7 rfl rfl)
theorem dX1_meanAs_30 : decode cX1_meanAs 30 = .ok (.iload_n 2, 1) := dk_28 (dk_at dksX1_meanAs_1 8 rfl rfl)
theorem dX1_meanAs_31 : decode cX1_meanAs 31 = .ok (.ifCond .ne 11, 3) := dk_154 0 11 (dk_at dksX1_meanAs_1 9 rfl rfl)
theorem dX1_meanAs_34 : decode cX1_meanAs 34 = .ok (.dload_n 3, 1) := dk_41 (dk_at dksX1_meanAs_1 12 rfl rfl)
theorem dX1_meanAs_35 : decode cX1_meanAs 35 = .ok (.d2f, 1) := dk_144 (dk_at dksX1_meanAs_1 13 rfl rfl)
theorem dX1_meanAs_36 : decode cX1_meanAs 36 = .ok (.invokestatic 300, 3) := dk_184 1 44 (dk_at dksX1_meanAs_1 14 rfl rfl)
theorem dX1_meanAs_39 : decode cX1_meanAs 39 = .ok (.goto 5, 3) := dk_167 0 5 (dk_at dksX1_meanAs_1 17 rfl rfl)
theorem dX1_meanAs_42 : decode cX1_meanAs 42 = .ok (.dload_n 3, 1) := dk_41 (dk_at dksX1_meanAs_1 20 rfl rfl)
theorem dX1_meanAs_43 : decode cX1_meanAs 43 = .ok (.d2i, 1) := dk_142 (dk_at dksX1_meanAs_1 21 rfl rfl)
theorem dX1_meanAs_44 : decode cX1_meanAs 44 = .ok (.ireturn, 1) := dk_172 (dk_at dksX1_meanAs_1 22 rfl rfl)
abbrev cX1_spread : ByteArray := prog_1_method_51_code
def yX1_spread : MethodName := ⟨RX1, "spread", "(I)J"⟩
def dkwX1_spread_3 : List UInt8 := [180, 0, 156, 135, 111, 184, 1, 36, 173]
abbrev dktX1_spread_3 : List UInt8 := dkwX1_spread_3 ++ []
def dkwX1_spread_2 : List UInt8 := [182, 0, 237, 135, 40, 103, 184, 1, 50, 99, 57, 4, 132, 6, 1, 167, 255, 220, 24, 4, 42, 180, 0, 62]
abbrev dktX1_spread_2 : List UInt8 := dkwX1_spread_2 ++ dktX1_spread_3
def dkwX1_spread_1 : List UInt8 := [3, 54, 6, 21, 6, 42, 180, 0, 62, 180, 0, 156, 162, 0, 30, 24, 4, 42, 180, 0, 62, 21, 6, 27]
abbrev dktX1_spread_1 : List UInt8 := dkwX1_spread_1 ++ dktX1_spread_2
def dkwX1_spread_0 : List UInt8 := [42, 27, 182, 1, 29, 154, 0, 7, 20, 1, 42, 173, 42, 180, 0, 62, 27, 182, 1, 32, 73, 14, 57, 4]
abbrev dktX1_spread_0 : List UInt8 := dkwX1_spread_0 ++ dktX1_spread_1
theorem dksX1_spread_0 : cX1_spread.data.toList.drop 0 = dktX1_spread_0 := by decide +kernel
theorem dksX1_spread_1 : cX1_spread.data.toList.drop 24 = dktX1_spread_1 := dk_seg dksX1_spread_0 24 rfl rfl
theorem dksX1_spread_2 : cX1_spread.data.toList.drop 48 = dktX1_spread_2 := dk_seg dksX1_spread_1 24 rfl rfl
theorem dksX1_spread_3 : cX1_spread.data.toList.drop 72 = dktX1_spread_3 := dk_seg dksX1_spread_2 24 rfl rfl
theorem dX1_spread_0 : decode cX1_spread 0 = .ok (.aload_n 0, 1) := dk_42 (dk_at dksX1_spread_0 0 rfl rfl)
theorem dX1_spread_1 : decode cX1_spread 1 = .ok (.iload_n 1, 1) := dk_27 (dk_at dksX1_spread_0 1 rfl rfl)
theorem dX1_spread_2 : decode cX1_spread 2 = .ok (.invokevirtual 285, 3) := dk_182 1 29 (dk_at dksX1_spread_0 2 rfl rfl)
theorem dX1_spread_5 : decode cX1_spread 5 = .ok (.ifCond .ne 7, 3) := dk_154 0 7 (dk_at dksX1_spread_0 5 rfl rfl)
theorem dX1_spread_8 : decode cX1_spread 8 = .ok (.ldc2_w 298, 3) := dk_20 1 42 (dk_at dksX1_spread_0 8 rfl rfl)
theorem dX1_spread_11 : decode cX1_spread 11 = .ok (.lreturn, 1) := dk_173 (dk_at dksX1_spread_0 11 rfl rfl)
theorem dX1_spread_12 : decode cX1_spread 12 = .ok (.aload_n 0, 1) := dk_42 (dk_at dksX1_spread_0 12 rfl rfl)
theorem dX1_spread_13 : decode cX1_spread 13 = .ok (.getfield 62, 3) := dk_180 0 62 (dk_at dksX1_spread_0 13 rfl rfl)
theorem dX1_spread_16 : decode cX1_spread 16 = .ok (.iload_n 1, 1) := dk_27 (dk_at dksX1_spread_0 16 rfl rfl)
theorem dX1_spread_17 : decode cX1_spread 17 = .ok (.invokevirtual 288, 3) := dk_182 1 32 (dk_at dksX1_spread_0 17 rfl rfl)
theorem dX1_spread_20 : decode cX1_spread 20 = .ok (.dstore_n 2, 1) := dk_73 (dk_at dksX1_spread_0 20 rfl rfl)
theorem dX1_spread_21 : decode cX1_spread 21 = .ok (.dconst 0, 1) := dk_14 (dk_at dksX1_spread_0 21 rfl rfl)
theorem dX1_spread_22 : decode cX1_spread 22 = .ok (.dstore 4, 2) := dk_57 4 (dk_at dksX1_spread_0 22 rfl rfl)
theorem dX1_spread_24 : decode cX1_spread 24 = .ok (.iconst 0, 1) := dk_3 (dk_at dksX1_spread_1 0 rfl rfl)
theorem dX1_spread_25 : decode cX1_spread 25 = .ok (.istore 6, 2) := dk_54 6 (dk_at dksX1_spread_1 1 rfl rfl)
theorem dX1_spread_27 : decode cX1_spread 27 = .ok (.iload 6, 2) := dk_21 6 (dk_at dksX1_spread_1 3 rfl rfl)
theorem dX1_spread_29 : decode cX1_spread 29 = .ok (.aload_n 0, 1) := dk_42 (dk_at dksX1_spread_1 5 rfl rfl)
theorem dX1_spread_30 : decode cX1_spread 30 = .ok (.getfield 62, 3) := dk_180 0 62 (dk_at dksX1_spread_1 6 rfl rfl)
theorem dX1_spread_33 : decode cX1_spread 33 = .ok (.getfield 156, 3) := dk_180 0 156 (dk_at dksX1_spread_1 9 rfl rfl)
theorem dX1_spread_36 : decode cX1_spread 36 = .ok (.if_icmp .ge 30, 3) := dk_162 0 30 (dk_at dksX1_spread_1 12 rfl rfl)
theorem dX1_spread_39 : decode cX1_spread 39 = .ok (.dload 4, 2) := dk_24 4 (dk_at dksX1_spread_1 15 rfl rfl)
theorem dX1_spread_41 : decode cX1_spread 41 = .ok (.aload_n 0, 1) := dk_42 (dk_at dksX1_spread_1 17 rfl rfl)
theorem dX1_spread_42 : decode cX1_spread 42 = .ok (.getfield 62, 3) := dk_180 0 62 (dk_at dksX1_spread_1 18 rfl rfl)
theorem dX1_spread_45 : decode cX1_spread 45 = .ok (.iload 6, 2) := dk_21 6 (dk_at dksX1_spread_1 21 rfl rfl)
theorem dX1_spread_47 : decode cX1_spread 47 = .ok (.iload_n 1, 1) := dk_27 (dk_at dksX1_spread_1 23 rfl rfl)
theorem dX1_spread_48 : decode cX1_spread 48 = .ok (.invokevirtual 237, 3) := dk_182 0 237 (dk_at dksX1_spread_2 0 rfl rfl)
theorem dX1_spread_51 : decode cX1_spread 51 = .ok (.i2d, 1) := dk_135 (dk_at dksX1_spread_2 3 rfl rfl)
theorem dX1_spread_52 : decode cX1_spread 52 = .ok (.dload_n 2, 1) := dk_40 (dk_at dksX1_spread_2 4 rfl rfl)
theorem dX1_spread_53 : decode cX1_spread 53 = .ok (.dsub, 1) := dk_103 (dk_at dksX1_spread_2 5 rfl rfl)
theorem dX1_spread_54 : decode cX1_spread 54 = .ok (.invokestatic 306, 3) := dk_184 1 50 (dk_at dksX1_spread_2 6 rfl rfl)
theorem dX1_spread_57 : decode cX1_spread 57 = .ok (.dadd, 1) := dk_99 (dk_at dksX1_spread_2 9 rfl rfl)
theorem dX1_spread_58 : decode cX1_spread 58 = .ok (.dstore 4, 2) := dk_57 4 (dk_at dksX1_spread_2 10 rfl rfl)
theorem dX1_spread_60 : decode cX1_spread 60 = .ok (.iinc 6 1, 3) := dk_132 6 1 (dk_at dksX1_spread_2 12 rfl rfl)
theorem dX1_spread_63 : decode cX1_spread 63 = .ok (.goto (-36), 3) := dk_167 255 220 (dk_at dksX1_spread_2 15 rfl rfl)
theorem dX1_spread_66 : decode cX1_spread 66 = .ok (.dload 4, 2) := dk_24 4 (dk_at dksX1_spread_2 18 rfl rfl)
theorem dX1_spread_68 : decode cX1_spread 68 = .ok (.aload_n 0, 1) := dk_42 (dk_at dksX1_spread_2 20 rfl rfl)
theorem dX1_spread_69 : decode cX1_spread 69 = .ok (.getfield 62, 3) := dk_180 0 62 (dk_at dksX1_spread_2 21 rfl rfl)
theorem dX1_spread_72 : decode cX1_spread 72 = .ok (.getfield 156, 3) := dk_180 0 156 (dk_at dksX1_spread_3 0 rfl rfl)
theorem dX1_spread_75 : decode cX1_spread 75 = .ok (.i2d, 1) := dk_135 (dk_at dksX1_spread_3 3 rfl rfl)
theorem dX1_spread_76 : decode cX1_spread 76 = .ok (.ddiv, 1) := dk_111 (dk_at dksX1_spread_3 4 rfl rfl)
theorem dX1_spread_77 : decode cX1_spread 77 = .ok (.invokestatic 292, 3) := dk_184 1 36 (dk_at dksX1_spread_3 5 rfl rfl)
theorem dX1_spread_80 : decode cX1_spread 80 = .ok (.lreturn, 1) := dk_173 (dk_at dksX1_spread_3 8 rfl rfl)
abbrev cX1_skew : ByteArray := prog_1_method_52_code
def yX1_skew : MethodName := ⟨RX1, "skew", "(I)I"⟩
def dkwX1_skew_2 : List UInt8 := [184, 1, 44, 172]
abbrev dktX1_skew_2 : List UInt8 := dkwX1_skew_2 ++ []
def dkwX1_skew_1 : List UInt8 := [192, 1, 55, 77, 44, 44, 6, 184, 1, 13, 46, 134, 70, 37, 42, 180, 0, 62, 180, 0, 156, 134, 110]
abbrev dktX1_skew_1 : List UInt8 := dkwX1_skew_1 ++ dktX1_skew_2
def dkwX1_skew_0 : List UInt8 := [42, 27, 182, 1, 29, 154, 0, 6, 18, 177, 172, 42, 180, 0, 62, 27, 182, 1, 9, 182, 1, 54]
abbrev dktX1_skew_0 : List UInt8 := dkwX1_skew_0 ++ dktX1_skew_1
theorem dksX1_skew_0 : cX1_skew.data.toList.drop 0 = dktX1_skew_0 := by decide +kernel
theorem dksX1_skew_1 : cX1_skew.data.toList.drop 22 = dktX1_skew_1 := dk_seg dksX1_skew_0 22 rfl rfl
theorem dksX1_skew_2 : cX1_skew.data.toList.drop 45 = dktX1_skew_2 := dk_seg dksX1_skew_1 23 rfl rfl
theorem dX1_skew_0 : decode cX1_skew 0 = .ok (.aload_n 0, 1) := dk_42 (dk_at dksX1_skew_0 0 rfl rfl)
theorem dX1_skew_1 : decode cX1_skew 1 = .ok (.iload_n 1, 1) := dk_27 (dk_at dksX1_skew_0 1 rfl rfl)
theorem dX1_skew_2 : decode cX1_skew 2 = .ok (.invokevirtual 285, 3) := dk_182 1 29 (dk_at dksX1_skew_0 2 rfl rfl)
theorem dX1_skew_5 : decode cX1_skew 5 = .ok (.ifCond .ne 6, 3) := dk_154 0 6 (dk_at dksX1_skew_0 5 rfl rfl)
theorem dX1_skew_8 : decode cX1_skew 8 = .ok (.ldc 177, 2) := dk_18 177 (dk_at dksX1_skew_0 8 rfl rfl)
theorem dX1_skew_10 : decode cX1_skew 10 = .ok (.ireturn, 1) := dk_172 (dk_at dksX1_skew_0 10 rfl rfl)
theorem dX1_skew_11 : decode cX1_skew 11 = .ok (.aload_n 0, 1) := dk_42 (dk_at dksX1_skew_0 11 rfl rfl)
theorem dX1_skew_12 : decode cX1_skew 12 = .ok (.getfield 62, 3) := dk_180 0 62 (dk_at dksX1_skew_0 12 rfl rfl)
theorem dX1_skew_15 : decode cX1_skew 15 = .ok (.iload_n 1, 1) := dk_27 (dk_at dksX1_skew_0 15 rfl rfl)
theorem dX1_skew_16 : decode cX1_skew 16 = .ok (.invokevirtual 265, 3) := dk_182 1 9 (dk_at dksX1_skew_0 16 rfl rfl)
theorem dX1_skew_19 : decode cX1_skew 19 = .ok (.invokevirtual 310, 3) := dk_182 1 54 (dk_at dksX1_skew_0 19 rfl rfl)
theorem dX1_skew_22 : decode cX1_skew 22 = .ok (.checkcast 311, 3) := dk_192 1 55 (dk_at dksX1_skew_1 0 rfl rfl)
theorem dX1_skew_25 : decode cX1_skew 25 = .ok (.astore_n 2, 1) := dk_77 (dk_at dksX1_skew_1 3 rfl rfl)
theorem dX1_skew_26 : decode cX1_skew 26 = .ok (.aload_n 2, 1) := dk_44 (dk_at dksX1_skew_1 4 rfl rfl)
theorem dX1_skew_27 : decode cX1_skew 27 = .ok (.aload_n 2, 1) := dk_44 (dk_at dksX1_skew_1 5 rfl rfl)
theorem dX1_skew_28 : decode cX1_skew 28 = .ok (.iconst 3, 1) := dk_6 (dk_at dksX1_skew_1 6 rfl rfl)
theorem dX1_skew_29 : decode cX1_skew 29 = .ok (.invokestatic 269, 3) := dk_184 1 13 (dk_at dksX1_skew_1 7 rfl rfl)
theorem dX1_skew_32 : decode cX1_skew 32 = .ok (.iaload, 1) := dk_46 (dk_at dksX1_skew_1 10 rfl rfl)
theorem dX1_skew_33 : decode cX1_skew 33 = .ok (.i2f, 1) := dk_134 (dk_at dksX1_skew_1 11 rfl rfl)
theorem dX1_skew_34 : decode cX1_skew 34 = .ok (.fstore_n 3, 1) := dk_70 (dk_at dksX1_skew_1 12 rfl rfl)
theorem dX1_skew_35 : decode cX1_skew 35 = .ok (.fload_n 3, 1) := dk_37 (dk_at dksX1_skew_1 13 rfl rfl)
theorem dX1_skew_36 : decode cX1_skew 36 = .ok (.aload_n 0, 1) := dk_42 (dk_at dksX1_skew_1 14 rfl rfl)
theorem dX1_skew_37 : decode cX1_skew 37 = .ok (.getfield 62, 3) := dk_180 0 62 (dk_at dksX1_skew_1 15 rfl rfl)
theorem dX1_skew_40 : decode cX1_skew 40 = .ok (.getfield 156, 3) := dk_180 0 156 (dk_at dksX1_skew_1 18 rfl rfl)
theorem dX1_skew_43 : decode cX1_skew 43 = .ok (.i2f, 1) := dk_134 (dk_at dksX1_skew_1 21 rfl rfl)
theorem dX1_skew_44 : decode cX1_skew 44 = .ok (.fdiv, 1) := dk_110 (dk_at dksX1_skew_1 22 rfl rfl)
theorem dX1_skew_45 : decode cX1_skew 45 = .ok (.invokestatic 300, 3) := dk_184 1 44 (dk_at dksX1_skew_2 0 rfl rfl)
theorem dX1_skew_48 : decode cX1_skew 48 = .ok (.ireturn, 1) := dk_172 (dk_at dksX1_skew_2 3 rfl rfl)
abbrev cX1_would : ByteArray := prog_1_method_53_code
def yX1_would : MethodName := ⟨RX1, "would", "(IIIII)I"⟩
def dkwX1_would_3 : List UInt8 := [167, 0, 8, 25, 6, 180, 0, 239, 172]
abbrev dktX1_would_3 : List UInt8 := dkwX1_would_3 ++ []
def dkwX1_would_2 : List UInt8 := [2, 172, 42, 42, 180, 0, 53, 182, 0, 132, 58, 6, 21, 5, 154, 0, 11, 25, 6, 180, 0, 156]
abbrev dktX1_would_2 : List UInt8 := dkwX1_would_2 ++ dktX1_would_3
def dkwX1_would_1 : List UInt8 := [42, 180, 0, 46, 182, 0, 255, 42, 180, 0, 53, 3, 27, 28, 29, 21, 4, 182, 0, 140, 2, 159, 0, 5]
abbrev dktX1_would_1 : List UInt8 := dkwX1_would_1 ++ dktX1_would_2
def dkwX1_would_0 : List UInt8 := [42, 180, 0, 79, 153, 0, 14, 21, 5, 133, 9, 10, 184, 0, 82, 154, 0, 5, 2, 172, 42, 180, 0, 53]
abbrev dktX1_would_0 : List UInt8 := dkwX1_would_0 ++ dktX1_would_1
theorem dksX1_would_0 : cX1_would.data.toList.drop 0 = dktX1_would_0 := by decide +kernel
theorem dksX1_would_1 : cX1_would.data.toList.drop 24 = dktX1_would_1 := dk_seg dksX1_would_0 24 rfl rfl
theorem dksX1_would_2 : cX1_would.data.toList.drop 48 = dktX1_would_2 := dk_seg dksX1_would_1 24 rfl rfl
theorem dksX1_would_3 : cX1_would.data.toList.drop 70 = dktX1_would_3 := dk_seg dksX1_would_2 22 rfl rfl
theorem dX1_would_0 : decode cX1_would 0 = .ok (.aload_n 0, 1) := dk_42 (dk_at dksX1_would_0 0 rfl rfl)
theorem dX1_would_1 : decode cX1_would 1 = .ok (.getfield 79, 3) := dk_180 0 79 (dk_at dksX1_would_0 1 rfl rfl)
theorem dX1_would_4 : decode cX1_would 4 = .ok (.ifCond .eq 14, 3) := dk_153 0 14 (dk_at dksX1_would_0 4 rfl rfl)
theorem dX1_would_7 : decode cX1_would 7 = .ok (.iload 5, 2) := dk_21 5 (dk_at dksX1_would_0 7 rfl rfl)
theorem dX1_would_9 : decode cX1_would 9 = .ok (.i2l, 1) := dk_133 (dk_at dksX1_would_0 9 rfl rfl)
theorem dX1_would_10 : decode cX1_would 10 = .ok (.lconst 0, 1) := dk_9 (dk_at dksX1_would_0 10 rfl rfl)
theorem dX1_would_11 : decode cX1_would 11 = .ok (.lconst 1, 1) := dk_10 (dk_at dksX1_would_0 11 rfl rfl)
theorem dX1_would_12 : decode cX1_would 12 = .ok (.invokestatic 82, 3) := dk_184 0 82 (dk_at dksX1_would_0 12 rfl rfl)
theorem dX1_would_15 : decode cX1_would 15 = .ok (.ifCond .ne 5, 3) := dk_154 0 5 (dk_at dksX1_would_0 15 rfl rfl)
theorem dX1_would_18 : decode cX1_would 18 = .ok (.iconst (-1), 1) := dk_2 (dk_at dksX1_would_0 18 rfl rfl)
theorem dX1_would_19 : decode cX1_would 19 = .ok (.ireturn, 1) := dk_172 (dk_at dksX1_would_0 19 rfl rfl)
theorem dX1_would_20 : decode cX1_would 20 = .ok (.aload_n 0, 1) := dk_42 (dk_at dksX1_would_0 20 rfl rfl)
theorem dX1_would_21 : decode cX1_would 21 = .ok (.getfield 53, 3) := dk_180 0 53 (dk_at dksX1_would_0 21 rfl rfl)
theorem dX1_would_24 : decode cX1_would 24 = .ok (.aload_n 0, 1) := dk_42 (dk_at dksX1_would_1 0 rfl rfl)
theorem dX1_would_25 : decode cX1_would 25 = .ok (.getfield 46, 3) := dk_180 0 46 (dk_at dksX1_would_1 1 rfl rfl)
theorem dX1_would_28 : decode cX1_would 28 = .ok (.invokevirtual 255, 3) := dk_182 0 255 (dk_at dksX1_would_1 4 rfl rfl)
theorem dX1_would_31 : decode cX1_would 31 = .ok (.aload_n 0, 1) := dk_42 (dk_at dksX1_would_1 7 rfl rfl)
theorem dX1_would_32 : decode cX1_would 32 = .ok (.getfield 53, 3) := dk_180 0 53 (dk_at dksX1_would_1 8 rfl rfl)
theorem dX1_would_35 : decode cX1_would 35 = .ok (.iconst 0, 1) := dk_3 (dk_at dksX1_would_1 11 rfl rfl)
theorem dX1_would_36 : decode cX1_would 36 = .ok (.iload_n 1, 1) := dk_27 (dk_at dksX1_would_1 12 rfl rfl)
theorem dX1_would_37 : decode cX1_would 37 = .ok (.iload_n 2, 1) := dk_28 (dk_at dksX1_would_1 13 rfl rfl)
theorem dX1_would_38 : decode cX1_would 38 = .ok (.iload_n 3, 1) := dk_29 (dk_at dksX1_would_1 14 rfl rfl)
theorem dX1_would_39 : decode cX1_would 39 = .ok (.iload 4, 2) := dk_21 4 (dk_at dksX1_would_1 15 rfl rfl)
theorem dX1_would_41 : decode cX1_would 41 = .ok (.invokevirtual 140, 3) := dk_182 0 140 (dk_at dksX1_would_1 17 rfl rfl)
theorem dX1_would_44 : decode cX1_would 44 = .ok (.iconst (-1), 1) := dk_2 (dk_at dksX1_would_1 20 rfl rfl)
theorem dX1_would_45 : decode cX1_would 45 = .ok (.if_icmp .eq 5, 3) := dk_159 0 5 (dk_at dksX1_would_1 21 rfl rfl)
theorem dX1_would_48 : decode cX1_would 48 = .ok (.iconst (-1), 1) := dk_2 (dk_at dksX1_would_2 0 rfl rfl)
theorem dX1_would_49 : decode cX1_would 49 = .ok (.ireturn, 1) := dk_172 (dk_at dksX1_would_2 1 rfl rfl)
theorem dX1_would_50 : decode cX1_would 50 = .ok (.aload_n 0, 1) := dk_42 (dk_at dksX1_would_2 2 rfl rfl)
theorem dX1_would_51 : decode cX1_would 51 = .ok (.aload_n 0, 1) := dk_42 (dk_at dksX1_would_2 3 rfl rfl)
theorem dX1_would_52 : decode cX1_would 52 = .ok (.getfield 53, 3) := dk_180 0 53 (dk_at dksX1_would_2 4 rfl rfl)
theorem dX1_would_55 : decode cX1_would 55 = .ok (.invokevirtual 132, 3) := dk_182 0 132 (dk_at dksX1_would_2 7 rfl rfl)
theorem dX1_would_58 : decode cX1_would 58 = .ok (.astore 6, 2) := dk_58 6 (dk_at dksX1_would_2 10 rfl rfl)
theorem dX1_would_60 : decode cX1_would 60 = .ok (.iload 5, 2) := dk_21 5 (dk_at dksX1_would_2 12 rfl rfl)
theorem dX1_would_62 : decode cX1_would 62 = .ok (.ifCond .ne 11, 3) := dk_154 0 11 (dk_at dksX1_would_2 14 rfl rfl)
theorem dX1_would_65 : decode cX1_would 65 = .ok (.aload 6, 2) := dk_25 6 (dk_at dksX1_would_2 17 rfl rfl)
theorem dX1_would_67 : decode cX1_would 67 = .ok (.getfield 156, 3) := dk_180 0 156 (dk_at dksX1_would_2 19 rfl rfl)
theorem dX1_would_70 : decode cX1_would 70 = .ok (.goto 8, 3) := dk_167 0 8 (dk_at dksX1_would_3 0 rfl rfl)
theorem dX1_would_73 : decode cX1_would 73 = .ok (.aload 6, 2) := dk_25 6 (dk_at dksX1_would_3 3 rfl rfl)
theorem dX1_would_75 : decode cX1_would 75 = .ok (.getfield 239, 3) := dk_180 0 239 (dk_at dksX1_would_3 5 rfl rfl)
theorem dX1_would_78 : decode cX1_would 78 = .ok (.ireturn, 1) := dk_172 (dk_at dksX1_would_3 8 rfl rfl)
abbrev cX1_step : ByteArray := prog_1_method_55_code
def yX1_step : MethodName := ⟨RX1, "step", "(III)I"⟩
def dkwX1_step_3 : List UInt8 := [29, 4, 100, 182, 1, 68, 172]
abbrev dktX1_step_3 : List UInt8 := dkwX1_step_3 ++ []
def dkwX1_step_2 : List UInt8 := [154, 0, 17, 42, 180, 0, 27, 27, 50, 180, 1, 65, 28, 46, 167, 0, 16, 42, 180, 0, 27, 27, 50, 28]
abbrev dktX1_step_2 : List UInt8 := dkwX1_step_2 ++ dktX1_step_3
def dkwX1_step_1 : List UInt8 := [184, 0, 82, 153, 0, 15, 29, 133, 9, 20, 1, 63, 184, 0, 82, 154, 0, 6, 18, 177, 172, 29]
abbrev dktX1_step_1 : List UInt8 := dkwX1_step_1 ++ dktX1_step_2
def dkwX1_step_0 : List UInt8 := [42, 27, 182, 1, 59, 153, 0, 36, 28, 133, 9, 42, 180, 0, 27, 27, 50, 180, 1, 62, 4, 100, 133]
abbrev dktX1_step_0 : List UInt8 := dkwX1_step_0 ++ dktX1_step_1
theorem dksX1_step_0 : cX1_step.data.toList.drop 0 = dktX1_step_0 := by decide +kernel
theorem dksX1_step_1 : cX1_step.data.toList.drop 23 = dktX1_step_1 := dk_seg dksX1_step_0 23 rfl rfl
theorem dksX1_step_2 : cX1_step.data.toList.drop 45 = dktX1_step_2 := dk_seg dksX1_step_1 22 rfl rfl
theorem dksX1_step_3 : cX1_step.data.toList.drop 69 = dktX1_step_3 := dk_seg dksX1_step_2 24 rfl rfl
theorem dX1_step_0 : decode cX1_step 0 = .ok (.aload_n 0, 1) := dk_42 (dk_at dksX1_step_0 0 rfl rfl)
theorem dX1_step_1 : decode cX1_step 1 = .ok (.iload_n 1, 1) := dk_27 (dk_at dksX1_step_0 1 rfl rfl)
theorem dX1_step_2 : decode cX1_step 2 = .ok (.invokevirtual 315, 3) := dk_182 1 59 (dk_at dksX1_step_0 2 rfl rfl)
theorem dX1_step_5 : decode cX1_step 5 = .ok (.ifCond .eq 36, 3) := dk_153 0 36 (dk_at dksX1_step_0 5 rfl rfl)
theorem dX1_step_8 : decode cX1_step 8 = .ok (.iload_n 2, 1) := dk_28 (dk_at dksX1_step_0 8 rfl rfl)
theorem dX1_step_9 : decode cX1_step 9 = .ok (.i2l, 1) := dk_133 (dk_at dksX1_step_0 9 rfl rfl)
theorem dX1_step_10 : decode cX1_step 10 = .ok (.lconst 0, 1) := dk_9 (dk_at dksX1_step_0 10 rfl rfl)
theorem dX1_step_11 : decode cX1_step 11 = .ok (.aload_n 0, 1) := dk_42 (dk_at dksX1_step_0 11 rfl rfl)
theorem dX1_step_12 : decode cX1_step 12 = .ok (.getfield 27, 3) := dk_180 0 27 (dk_at dksX1_step_0 12 rfl rfl)
theorem dX1_step_15 : decode cX1_step 15 = .ok (.iload_n 1, 1) := dk_27 (dk_at dksX1_step_0 15 rfl rfl)
theorem dX1_step_16 : decode cX1_step 16 = .ok (.aaload, 1) := dk_50 (dk_at dksX1_step_0 16 rfl rfl)
theorem dX1_step_17 : decode cX1_step 17 = .ok (.getfield 318, 3) := dk_180 1 62 (dk_at dksX1_step_0 17 rfl rfl)
theorem dX1_step_20 : decode cX1_step 20 = .ok (.iconst 1, 1) := dk_4 (dk_at dksX1_step_0 20 rfl rfl)
theorem dX1_step_21 : decode cX1_step 21 = .ok (.isub, 1) := dk_100 (dk_at dksX1_step_0 21 rfl rfl)
theorem dX1_step_22 : decode cX1_step 22 = .ok (.i2l, 1) := dk_133 (dk_at dksX1_step_0 22 rfl rfl)
theorem dX1_step_23 : decode cX1_step 23 = .ok (.invokestatic 82, 3) := dk_184 0 82 (dk_at dksX1_step_1 0 rfl rfl)
theorem dX1_step_26 : decode cX1_step 26 = .ok (.ifCond .eq 15, 3) := dk_153 0 15 (dk_at dksX1_step_1 3 rfl rfl)
theorem dX1_step_29 : decode cX1_step 29 = .ok (.iload_n 3, 1) := dk_29 (dk_at dksX1_step_1 6 rfl rfl)
theorem dX1_step_30 : decode cX1_step 30 = .ok (.i2l, 1) := dk_133 (dk_at dksX1_step_1 7 rfl rfl)
theorem dX1_step_31 : decode cX1_step 31 = .ok (.lconst 0, 1) := dk_9 (dk_at dksX1_step_1 8 rfl rfl)
theorem dX1_step_32 : decode cX1_step 32 = .ok (.ldc2_w 319, 3) := dk_20 1 63 (dk_at dksX1_step_1 9 rfl rfl)
theorem dX1_step_35 : decode cX1_step 35 = .ok (.invokestatic 82, 3) := dk_184 0 82 (dk_at dksX1_step_1 12 rfl rfl)
theorem dX1_step_38 : decode cX1_step 38 = .ok (.ifCond .ne 6, 3) := dk_154 0 6 (dk_at dksX1_step_1 15 rfl rfl)
theorem dX1_step_41 : decode cX1_step 41 = .ok (.ldc 177, 2) := dk_18 177 (dk_at dksX1_step_1 18 rfl rfl)
theorem dX1_step_43 : decode cX1_step 43 = .ok (.ireturn, 1) := dk_172 (dk_at dksX1_step_1 20 rfl rfl)
theorem dX1_step_44 : decode cX1_step 44 = .ok (.iload_n 3, 1) := dk_29 (dk_at dksX1_step_1 21 rfl rfl)
theorem dX1_step_45 : decode cX1_step 45 = .ok (.ifCond .ne 17, 3) := dk_154 0 17 (dk_at dksX1_step_2 0 rfl rfl)
theorem dX1_step_48 : decode cX1_step 48 = .ok (.aload_n 0, 1) := dk_42 (dk_at dksX1_step_2 3 rfl rfl)
theorem dX1_step_49 : decode cX1_step 49 = .ok (.getfield 27, 3) := dk_180 0 27 (dk_at dksX1_step_2 4 rfl rfl)
theorem dX1_step_52 : decode cX1_step 52 = .ok (.iload_n 1, 1) := dk_27 (dk_at dksX1_step_2 7 rfl rfl)
theorem dX1_step_53 : decode cX1_step 53 = .ok (.aaload, 1) := dk_50 (dk_at dksX1_step_2 8 rfl rfl)
theorem dX1_step_54 : decode cX1_step 54 = .ok (.getfield 321, 3) := dk_180 1 65 (dk_at dksX1_step_2 9 rfl rfl)
theorem dX1_step_57 : decode cX1_step 57 = .ok (.iload_n 2, 1) := dk_28 (dk_at dksX1_step_2 12 rfl rfl)
theorem dX1_step_58 : decode cX1_step 58 = .ok (.iaload, 1) := dk_46 (dk_at dksX1_step_2 13 rfl rfl)
theorem dX1_step_59 : decode cX1_step 59 = .ok (.goto 16, 3) := dk_167 0 16 (dk_at dksX1_step_2 14 rfl rfl)
theorem dX1_step_62 : decode cX1_step 62 = .ok (.aload_n 0, 1) := dk_42 (dk_at dksX1_step_2 17 rfl rfl)
theorem dX1_step_63 : decode cX1_step 63 = .ok (.getfield 27, 3) := dk_180 0 27 (dk_at dksX1_step_2 18 rfl rfl)
theorem dX1_step_66 : decode cX1_step 66 = .ok (.iload_n 1, 1) := dk_27 (dk_at dksX1_step_2 21 rfl rfl)
theorem dX1_step_67 : decode cX1_step 67 = .ok (.aaload, 1) := dk_50 (dk_at dksX1_step_2 22 rfl rfl)
theorem dX1_step_68 : decode cX1_step 68 = .ok (.iload_n 2, 1) := dk_28 (dk_at dksX1_step_2 23 rfl rfl)
theorem dX1_step_69 : decode cX1_step 69 = .ok (.iload_n 3, 1) := dk_29 (dk_at dksX1_step_3 0 rfl rfl)
theorem dX1_step_70 : decode cX1_step 70 = .ok (.iconst 1, 1) := dk_4 (dk_at dksX1_step_3 1 rfl rfl)
theorem dX1_step_71 : decode cX1_step 71 = .ok (.isub, 1) := dk_100 (dk_at dksX1_step_3 2 rfl rfl)
theorem dX1_step_72 : decode cX1_step 72 = .ok (.invokevirtual 324, 3) := dk_182 1 68 (dk_at dksX1_step_3 3 rfl rfl)
theorem dX1_step_75 : decode cX1_step 75 = .ok (.ireturn, 1) := dk_172 (dk_at dksX1_step_3 6 rfl rfl)
abbrev cX1_isScript : ByteArray := prog_1_method_54_code
def yX1_isScript : MethodName := ⟨RX1, "isScript", "(I)Z"⟩
def dkwX1_isScript_0 : List UInt8 := [27, 133, 9, 42, 180, 0, 109, 4, 100, 133, 184, 0, 82, 172]
abbrev dktX1_isScript_0 : List UInt8 := dkwX1_isScript_0 ++ []
theorem dksX1_isScript_0 : cX1_isScript.data.toList.drop 0 = dktX1_isScript_0 := by decide +kernel
theorem dX1_isScript_0 : decode cX1_isScript 0 = .ok (.iload_n 1, 1) := dk_27 (dk_at dksX1_isScript_0 0 rfl rfl)
theorem dX1_isScript_1 : decode cX1_isScript 1 = .ok (.i2l, 1) := dk_133 (dk_at dksX1_isScript_0 1 rfl rfl)
theorem dX1_isScript_2 : decode cX1_isScript 2 = .ok (.lconst 0, 1) := dk_9 (dk_at dksX1_isScript_0 2 rfl rfl)
theorem dX1_isScript_3 : decode cX1_isScript 3 = .ok (.aload_n 0, 1) := dk_42 (dk_at dksX1_isScript_0 3 rfl rfl)
theorem dX1_isScript_4 : decode cX1_isScript 4 = .ok (.getfield 109, 3) := dk_180 0 109 (dk_at dksX1_isScript_0 4 rfl rfl)
theorem dX1_isScript_7 : decode cX1_isScript 7 = .ok (.iconst 1, 1) := dk_4 (dk_at dksX1_isScript_0 7 rfl rfl)
theorem dX1_isScript_8 : decode cX1_isScript 8 = .ok (.isub, 1) := dk_100 (dk_at dksX1_isScript_0 8 rfl rfl)
theorem dX1_isScript_9 : decode cX1_isScript 9 = .ok (.i2l, 1) := dk_133 (dk_at dksX1_isScript_0 9 rfl rfl)
theorem dX1_isScript_10 : decode cX1_isScript 10 = .ok (.invokestatic 82, 3) := dk_184 0 82 (dk_at dksX1_isScript_0 10 rfl rfl)
theorem dX1_isScript_13 : decode cX1_isScript 13 = .ok (.ireturn, 1) := dk_172 (dk_at dksX1_isScript_0 13 rfl rfl)
abbrev cX1_run : ByteArray := prog_1_method_56_code
def yX1_run : MethodName := ⟨RX1, "run", "(II)I"⟩
def dkwX1_run_6 : List UInt8 := [167, 0, 5, 21, 4, 172]
abbrev dktX1_run_6 : List UInt8 := dkwX1_run_6 ++ []
def dkwX1_run_5 : List UInt8 := [180, 0, 53, 182, 0, 132, 180, 0, 156, 167, 0, 18, 21, 4, 45, 180, 1, 62, 160, 0, 7, 2]
abbrev dktX1_run_5 : List UInt8 := dkwX1_run_5 ++ dktX1_run_6
def dkwX1_run_4 : List UInt8 := [182, 1, 68, 182, 0, 140, 2, 160, 0, 9, 132, 4, 1, 167, 255, 198, 28, 4, 160, 0, 17, 42, 42]
abbrev dktX1_run_4 : List UInt8 := dkwX1_run_4 ++ dktX1_run_5
def dkwX1_run_3 : List UInt8 := [21, 4, 3, 182, 1, 68, 45, 21, 4, 4, 182, 1, 68, 45, 21, 4, 5, 182, 1, 68, 45, 21, 4, 6]
abbrev dktX1_run_3 : List UInt8 := dkwX1_run_3 ++ dktX1_run_4
def dkwX1_run_2 : List UInt8 := [3, 54, 4, 21, 4, 45, 180, 1, 62, 162, 0, 55, 42, 180, 0, 53, 45, 180, 1, 65, 21, 4, 46, 45]
abbrev dktX1_run_2 : List UInt8 := dkwX1_run_2 ++ dktX1_run_3
def dkwX1_run_1 : List UInt8 := [154, 0, 6, 18, 177, 172, 42, 180, 0, 27, 27, 50, 78, 42, 180, 0, 53, 42, 180, 0, 46, 182, 0, 255]
abbrev dktX1_run_1 : List UInt8 := dkwX1_run_1 ++ dktX1_run_2
def dkwX1_run_0 : List UInt8 := [42, 27, 182, 1, 59, 153, 0, 20, 42, 180, 0, 79, 153, 0, 13, 28, 133, 9, 10, 184, 0, 82]
abbrev dktX1_run_0 : List UInt8 := dkwX1_run_0 ++ dktX1_run_1
theorem dksX1_run_0 : cX1_run.data.toList.drop 0 = dktX1_run_0 := by decide +kernel
theorem dksX1_run_1 : cX1_run.data.toList.drop 22 = dktX1_run_1 := dk_seg dksX1_run_0 22 rfl rfl
theorem dksX1_run_2 : cX1_run.data.toList.drop 46 = dktX1_run_2 := dk_seg dksX1_run_1 24 rfl rfl
theorem dksX1_run_3 : cX1_run.data.toList.drop 70 = dktX1_run_3 := dk_seg dksX1_run_2 24 rfl rfl
theorem dksX1_run_4 : cX1_run.data.toList.drop 94 = dktX1_run_4 := dk_seg dksX1_run_3 24 rfl rfl
theorem dksX1_run_5 : cX1_run.data.toList.drop 117 = dktX1_run_5 := dk_seg dksX1_run_4 23 rfl rfl
theorem dksX1_run_6 : cX1_run.data.toList.drop 139 = dktX1_run_6 := dk_seg dksX1_run_5 22 rfl rfl
theorem dX1_run_0 : decode cX1_run 0 = .ok (.aload_n 0, 1) := dk_42 (dk_at dksX1_run_0 0 rfl rfl)
theorem dX1_run_1 : decode cX1_run 1 = .ok (.iload_n 1, 1) := dk_27 (dk_at dksX1_run_0 1 rfl rfl)
theorem dX1_run_2 : decode cX1_run 2 = .ok (.invokevirtual 315, 3) := dk_182 1 59 (dk_at dksX1_run_0 2 rfl rfl)
theorem dX1_run_5 : decode cX1_run 5 = .ok (.ifCond .eq 20, 3) := dk_153 0 20 (dk_at dksX1_run_0 5 rfl rfl)
theorem dX1_run_8 : decode cX1_run 8 = .ok (.aload_n 0, 1) := dk_42 (dk_at dksX1_run_0 8 rfl rfl)
theorem dX1_run_9 : decode cX1_run 9 = .ok (.getfield 79, 3) := dk_180 0 79 (dk_at dksX1_run_0 9 rfl rfl)
theorem dX1_run_12 : decode cX1_run 12 = .ok (.ifCond .eq 13, 3) := dk_153 0 13 (dk_at dksX1_run_0 12 rfl rfl)
theorem dX1_run_15 : decode cX1_run 15 = .ok (.iload_n 2, 1) := dk_28 (dk_at dksX1_run_0 15 rfl rfl)
theorem dX1_run_16 : decode cX1_run 16 = .ok (.i2l, 1) := dk_133 (dk_at dksX1_run_0 16 rfl rfl)
theorem dX1_run_17 : decode cX1_run 17 = .ok (.lconst 0, 1) := dk_9 (dk_at dksX1_run_0 17 rfl rfl)
theorem dX1_run_18 : decode cX1_run 18 = .ok (.lconst 1, 1) := dk_10 (dk_at dksX1_run_0 18 rfl rfl)
theorem dX1_run_19 : decode cX1_run 19 = .ok (.invokestatic 82, 3) := dk_184 0 82 (dk_at dksX1_run_0 19 rfl rfl)
theorem dX1_run_22 : decode cX1_run 22 = .ok (.ifCond .ne 6, 3) := dk_154 0 6 (dk_at dksX1_run_1 0 rfl rfl)
theorem dX1_run_25 : decode cX1_run 25 = .ok (.ldc 177, 2) := dk_18 177 (dk_at dksX1_run_1 3 rfl rfl)
theorem dX1_run_27 : decode cX1_run 27 = .ok (.ireturn, 1) := dk_172 (dk_at dksX1_run_1 5 rfl rfl)
theorem dX1_run_28 : decode cX1_run 28 = .ok (.aload_n 0, 1) := dk_42 (dk_at dksX1_run_1 6 rfl rfl)
theorem dX1_run_29 : decode cX1_run 29 = .ok (.getfield 27, 3) := dk_180 0 27 (dk_at dksX1_run_1 7 rfl rfl)
theorem dX1_run_32 : decode cX1_run 32 = .ok (.iload_n 1, 1) := dk_27 (dk_at dksX1_run_1 10 rfl rfl)
theorem dX1_run_33 : decode cX1_run 33 = .ok (.aaload, 1) := dk_50 (dk_at dksX1_run_1 11 rfl rfl)
theorem dX1_run_34 : decode cX1_run 34 = .ok (.astore_n 3, 1) := dk_78 (dk_at dksX1_run_1 12 rfl rfl)
theorem dX1_run_35 : decode cX1_run 35 = .ok (.aload_n 0, 1) := dk_42 (dk_at dksX1_run_1 13 rfl rfl)
theorem dX1_run_36 : decode cX1_run 36 = .ok (.getfield 53, 3) := dk_180 0 53 (dk_at dksX1_run_1 14 rfl rfl)
theorem dX1_run_39 : decode cX1_run 39 = .ok (.aload_n 0, 1) := dk_42 (dk_at dksX1_run_1 17 rfl rfl)
theorem dX1_run_40 : decode cX1_run 40 = .ok (.getfield 46, 3) := dk_180 0 46 (dk_at dksX1_run_1 18 rfl rfl)
theorem dX1_run_43 : decode cX1_run 43 = .ok (.invokevirtual 255, 3) := dk_182 0 255 (dk_at dksX1_run_1 21 rfl rfl)
theorem dX1_run_46 : decode cX1_run 46 = .ok (.iconst 0, 1) := dk_3 (dk_at dksX1_run_2 0 rfl rfl)
theorem dX1_run_47 : decode cX1_run 47 = .ok (.istore 4, 2) := dk_54 4 (dk_at dksX1_run_2 1 rfl rfl)
theorem dX1_run_49 : decode cX1_run 49 = .ok (.iload 4, 2) := dk_21 4 (dk_at dksX1_run_2 3 rfl rfl)
theorem dX1_run_51 : decode cX1_run 51 = .ok (.aload_n 3, 1) := dk_45 (dk_at dksX1_run_2 5 rfl rfl)
theorem dX1_run_52 : decode cX1_run 52 = .ok (.getfield 318, 3) := dk_180 1 62 (dk_at dksX1_run_2 6 rfl rfl)
theorem dX1_run_55 : decode cX1_run 55 = .ok (.if_icmp .ge 55, 3) := dk_162 0 55 (dk_at dksX1_run_2 9 rfl rfl)
theorem dX1_run_58 : decode cX1_run 58 = .ok (.aload_n 0, 1) := dk_42 (dk_at dksX1_run_2 12 rfl rfl)
theorem dX1_run_59 : decode cX1_run 59 = .ok (.getfield 53, 3) := dk_180 0 53 (dk_at dksX1_run_2 13 rfl rfl)
theorem dX1_run_62 : decode cX1_run 62 = .ok (.aload_n 3, 1) := dk_45 (dk_at dksX1_run_2 16 rfl rfl)
theorem dX1_run_63 : decode cX1_run 63 = .ok (.getfield 321, 3) := dk_180 1 65 (dk_at dksX1_run_2 17 rfl rfl)
theorem dX1_run_66 : decode cX1_run 66 = .ok (.iload 4, 2) := dk_21 4 (dk_at dksX1_run_2 20 rfl rfl)
theorem dX1_run_68 : decode cX1_run 68 = .ok (.iaload, 1) := dk_46 (dk_at dksX1_run_2 22 rfl rfl)
theorem dX1_run_69 : decode cX1_run 69 = .ok (.aload_n 3, 1) := dk_45 (dk_at dksX1_run_2 23 rfl rfl)
theorem dX1_run_70 : decode cX1_run 70 = .ok (.iload 4, 2) := dk_21 4 (dk_at dksX1_run_3 0 rfl rfl)
theorem dX1_run_72 : decode cX1_run 72 = .ok (.iconst 0, 1) := dk_3 (dk_at dksX1_run_3 2 rfl rfl)
theorem dX1_run_73 : decode cX1_run 73 = .ok (.invokevirtual 324, 3) := dk_182 1 68 (dk_at dksX1_run_3 3 rfl rfl)
theorem dX1_run_76 : decode cX1_run 76 = .ok (.aload_n 3, 1) := dk_45 (dk_at dksX1_run_3 6 rfl rfl)
theorem dX1_run_77 : decode cX1_run 77 = .ok (.iload 4, 2) := dk_21 4 (dk_at dksX1_run_3 7 rfl rfl)
theorem dX1_run_79 : decode cX1_run 79 = .ok (.iconst 1, 1) := dk_4 (dk_at dksX1_run_3 9 rfl rfl)
theorem dX1_run_80 : decode cX1_run 80 = .ok (.invokevirtual 324, 3) := dk_182 1 68 (dk_at dksX1_run_3 10 rfl rfl)
theorem dX1_run_83 : decode cX1_run 83 = .ok (.aload_n 3, 1) := dk_45 (dk_at dksX1_run_3 13 rfl rfl)
theorem dX1_run_84 : decode cX1_run 84 = .ok (.iload 4, 2) := dk_21 4 (dk_at dksX1_run_3 14 rfl rfl)
theorem dX1_run_86 : decode cX1_run 86 = .ok (.iconst 2, 1) := dk_5 (dk_at dksX1_run_3 16 rfl rfl)
theorem dX1_run_87 : decode cX1_run 87 = .ok (.invokevirtual 324, 3) := dk_182 1 68 (dk_at dksX1_run_3 17 rfl rfl)
theorem dX1_run_90 : decode cX1_run 90 = .ok (.aload_n 3, 1) := dk_45 (dk_at dksX1_run_3 20 rfl rfl)
theorem dX1_run_91 : decode cX1_run 91 = .ok (.iload 4, 2) := dk_21 4 (dk_at dksX1_run_3 21 rfl rfl)
theorem dX1_run_93 : decode cX1_run 93 = .ok (.iconst 3, 1) := dk_6 (dk_at dksX1_run_3 23 rfl rfl)
theorem dX1_run_94 : decode cX1_run 94 = .ok (.invokevirtual 324, 3) := dk_182 1 68 (dk_at dksX1_run_4 0 rfl rfl)
theorem dX1_run_97 : decode cX1_run 97 = .ok (.invokevirtual 140, 3) := dk_182 0 140 (dk_at dksX1_run_4 3 rfl rfl)
theorem dX1_run_100 : decode cX1_run 100 = .ok (.iconst (-1), 1) := dk_2 (dk_at dksX1_run_4 6 rfl rfl)
theorem dX1_run_101 : decode cX1_run 101 = .ok (.if_icmp .ne 9, 3) := dk_160 0 9 (dk_at dksX1_run_4 7 rfl rfl)
theorem dX1_run_104 : decode cX1_run 104 = .ok (.iinc 4 1, 3) := dk_132 4 1 (dk_at dksX1_run_4 10 rfl rfl)
theorem dX1_run_107 : decode cX1_run 107 = .ok (.goto (-58), 3) := dk_167 255 198 (dk_at dksX1_run_4 13 rfl rfl)
theorem dX1_run_110 : decode cX1_run 110 = .ok (.iload_n 2, 1) := dk_28 (dk_at dksX1_run_4 16 rfl rfl)
theorem dX1_run_111 : decode cX1_run 111 = .ok (.iconst 1, 1) := dk_4 (dk_at dksX1_run_4 17 rfl rfl)
theorem dX1_run_112 : decode cX1_run 112 = .ok (.if_icmp .ne 17, 3) := dk_160 0 17 (dk_at dksX1_run_4 18 rfl rfl)
theorem dX1_run_115 : decode cX1_run 115 = .ok (.aload_n 0, 1) := dk_42 (dk_at dksX1_run_4 21 rfl rfl)
theorem dX1_run_116 : decode cX1_run 116 = .ok (.aload_n 0, 1) := dk_42 (dk_at dksX1_run_4 22 rfl rfl)
theorem dX1_run_117 : decode cX1_run 117 = .ok (.getfield 53, 3) := dk_180 0 53 (dk_at dksX1_run_5 0 rfl rfl)
theorem dX1_run_120 : decode cX1_run 120 = .ok (.invokevirtual 132, 3) := dk_182 0 132 (dk_at dksX1_run_5 3 rfl rfl)
theorem dX1_run_123 : decode cX1_run 123 = .ok (.getfield 156, 3) := dk_180 0 156 (dk_at dksX1_run_5 6 rfl rfl)
theorem dX1_run_126 : decode cX1_run 126 = .ok (.goto 18, 3) := dk_167 0 18 (dk_at dksX1_run_5 9 rfl rfl)
theorem dX1_run_129 : decode cX1_run 129 = .ok (.iload 4, 2) := dk_21 4 (dk_at dksX1_run_5 12 rfl rfl)
theorem dX1_run_131 : decode cX1_run 131 = .ok (.aload_n 3, 1) := dk_45 (dk_at dksX1_run_5 14 rfl rfl)
theorem dX1_run_132 : decode cX1_run 132 = .ok (.getfield 318, 3) := dk_180 1 62 (dk_at dksX1_run_5 15 rfl rfl)
theorem dX1_run_135 : decode cX1_run 135 = .ok (.if_icmp .ne 7, 3) := dk_160 0 7 (dk_at dksX1_run_5 18 rfl rfl)
theorem dX1_run_138 : decode cX1_run 138 = .ok (.iconst (-1), 1) := dk_2 (dk_at dksX1_run_5 21 rfl rfl)
theorem dX1_run_139 : decode cX1_run 139 = .ok (.goto 5, 3) := dk_167 0 5 (dk_at dksX1_run_6 0 rfl rfl)
theorem dX1_run_142 : decode cX1_run 142 = .ok (.iload 4, 2) := dk_21 4 (dk_at dksX1_run_6 3 rfl rfl)
theorem dX1_run_144 : decode cX1_run 144 = .ok (.ireturn, 1) := dk_172 (dk_at dksX1_run_6 5 rfl rfl)
abbrev cX1_perform : ByteArray := prog_1_method_57_code
def yX1_perform : MethodName := ⟨RX1, "perform", "(I)I"⟩
def dkwX1_perform_3 : List UInt8 := [132, 3, 1, 167, 255, 207, 29, 172]
abbrev dktX1_perform_3 : List UInt8 := dkwX1_perform_3 ++ []
def dkwX1_perform_2 : List UInt8 := [29, 4, 182, 1, 68, 44, 29, 5, 182, 1, 68, 44, 29, 6, 182, 1, 68, 182, 0, 161, 2, 160, 0, 9]
abbrev dktX1_perform_2 : List UInt8 := dkwX1_perform_2 ++ dktX1_perform_3
def dkwX1_perform_1 : List UInt8 := [3, 62, 29, 44, 180, 1, 62, 162, 0, 47, 42, 44, 180, 1, 65, 29, 46, 44, 29, 3, 182, 1, 68, 44]
abbrev dktX1_perform_1 : List UInt8 := dkwX1_perform_1 ++ dktX1_perform_2
def dkwX1_perform_0 : List UInt8 := [42, 27, 182, 1, 59, 153, 0, 10, 42, 180, 0, 79, 154, 0, 5, 2, 172, 42, 180, 0, 27, 27, 50, 77]
abbrev dktX1_perform_0 : List UInt8 := dkwX1_perform_0 ++ dktX1_perform_1
theorem dksX1_perform_0 : cX1_perform.data.toList.drop 0 = dktX1_perform_0 := by decide +kernel
theorem dksX1_perform_1 : cX1_perform.data.toList.drop 24 = dktX1_perform_1 := dk_seg dksX1_perform_0 24 rfl rfl
theorem dksX1_perform_2 : cX1_perform.data.toList.drop 48 = dktX1_perform_2 := dk_seg dksX1_perform_1 24 rfl rfl
theorem dksX1_perform_3 : cX1_perform.data.toList.drop 72 = dktX1_perform_3 := dk_seg dksX1_perform_2 24 rfl rfl
theorem dX1_perform_0 : decode cX1_perform 0 = .ok (.aload_n 0, 1) := dk_42 (dk_at dksX1_perform_0 0 rfl rfl)
theorem dX1_perform_1 : decode cX1_perform 1 = .ok (.iload_n 1, 1) := dk_27 (dk_at dksX1_perform_0 1 rfl rfl)
theorem dX1_perform_2 : decode cX1_perform 2 = .ok (.invokevirtual 315, 3) := dk_182 1 59 (dk_at dksX1_perform_0 2 rfl rfl)
theorem dX1_perform_5 : decode cX1_perform 5 = .ok (.ifCond .eq 10, 3) := dk_153 0 10 (dk_at dksX1_perform_0 5 rfl rfl)
theorem dX1_perform_8 : decode cX1_perform 8 = .ok (.aload_n 0, 1) := dk_42 (dk_at dksX1_perform_0 8 rfl rfl)
theorem dX1_perform_9 : decode cX1_perform 9 = .ok (.getfield 79, 3) := dk_180 0 79 (dk_at dksX1_perform_0 9 rfl rfl)
theorem dX1_perform_12 : decode cX1_perform 12 = .ok (.ifCond .ne 5, 3) := dk_154 0 5 (dk_at dksX1_perform_0 12 rfl rfl)
theorem dX1_perform_15 : decode cX1_perform 15 = .ok (.iconst (-1), 1) := dk_2 (dk_at dksX1_perform_0 15 rfl rfl)
theorem dX1_perform_16 : decode cX1_perform 16 = .ok (.ireturn, 1) := dk_172 (dk_at dksX1_perform_0 16 rfl rfl)
theorem dX1_perform_17 : decode cX1_perform 17 = .ok (.aload_n 0, 1) := dk_42 (dk_at dksX1_perform_0 17 rfl rfl)
theorem dX1_perform_18 : decode cX1_perform 18 = .ok (.getfield 27, 3) := dk_180 0 27 (dk_at dksX1_perform_0 18 rfl rfl)
theorem dX1_perform_21 : decode cX1_perform 21 = .ok (.iload_n 1, 1) := dk_27 (dk_at dksX1_perform_0 21 rfl rfl)
theorem dX1_perform_22 : decode cX1_perform 22 = .ok (.aaload, 1) := dk_50 (dk_at dksX1_perform_0 22 rfl rfl)
theorem dX1_perform_23 : decode cX1_perform 23 = .ok (.astore_n 2, 1) := dk_77 (dk_at dksX1_perform_0 23 rfl rfl)
theorem dX1_perform_24 : decode cX1_perform 24 = .ok (.iconst 0, 1) := dk_3 (dk_at dksX1_perform_1 0 rfl rfl)
theorem dX1_perform_25 : decode cX1_perform 25 = .ok (.istore_n 3, 1) := dk_62 (dk_at dksX1_perform_1 1 rfl rfl)
theorem dX1_perform_26 : decode cX1_perform 26 = .ok (.iload_n 3, 1) := dk_29 (dk_at dksX1_perform_1 2 rfl rfl)
theorem dX1_perform_27 : decode cX1_perform 27 = .ok (.aload_n 2, 1) := dk_44 (dk_at dksX1_perform_1 3 rfl rfl)
theorem dX1_perform_28 : decode cX1_perform 28 = .ok (.getfield 318, 3) := dk_180 1 62 (dk_at dksX1_perform_1 4 rfl rfl)
theorem dX1_perform_31 : decode cX1_perform 31 = .ok (.if_icmp .ge 47, 3) := dk_162 0 47 (dk_at dksX1_perform_1 7 rfl rfl)
theorem dX1_perform_34 : decode cX1_perform 34 = .ok (.aload_n 0, 1) := dk_42 (dk_at dksX1_perform_1 10 rfl rfl)
theorem dX1_perform_35 : decode cX1_perform 35 = .ok (.aload_n 2, 1) := dk_44 (dk_at dksX1_perform_1 11 rfl rfl)
theorem dX1_perform_36 : decode cX1_perform 36 = .ok (.getfield 321, 3) := dk_180 1 65 (dk_at dksX1_perform_1 12 rfl rfl)
theorem dX1_perform_39 : decode cX1_perform 39 = .ok (.iload_n 3, 1) := dk_29 (dk_at dksX1_perform_1 15 rfl rfl)
theorem dX1_perform_40 : decode cX1_perform 40 = .ok (.iaload, 1) := dk_46 (dk_at dksX1_perform_1 16 rfl rfl)
theorem dX1_perform_41 : decode cX1_perform 41 = .ok (.aload_n 2, 1) := dk_44 (dk_at dksX1_perform_1 17 rfl rfl)
theorem dX1_perform_42 : decode cX1_perform 42 = .ok (.iload_n 3, 1) := dk_29 (dk_at dksX1_perform_1 18 rfl rfl)
theorem dX1_perform_43 : decode cX1_perform 43 = .ok (.iconst 0, 1) := dk_3 (dk_at dksX1_perform_1 19 rfl rfl)
theorem dX1_perform_44 : decode cX1_perform 44 = .ok (.invokevirtual 324, 3) := dk_182 1 68 (dk_at dksX1_perform_1 20 rfl rfl)
theorem dX1_perform_47 : decode cX1_perform 47 = .ok (.aload_n 2, 1) := dk_44 (dk_at dksX1_perform_1 23 rfl rfl)
theorem dX1_perform_48 : decode cX1_perform 48 = .ok (.iload_n 3, 1) := dk_29 (dk_at dksX1_perform_2 0 rfl rfl)
theorem dX1_perform_49 : decode cX1_perform 49 = .ok (.iconst 1, 1) := dk_4 (dk_at dksX1_perform_2 1 rfl rfl)
theorem dX1_perform_50 : decode cX1_perform 50 = .ok (.invokevirtual 324, 3) := dk_182 1 68 (dk_at dksX1_perform_2 2 rfl rfl)
theorem dX1_perform_53 : decode cX1_perform 53 = .ok (.aload_n 2, 1) := dk_44 (dk_at dksX1_perform_2 5 rfl rfl)
theorem dX1_perform_54 : decode cX1_perform 54 = .ok (.iload_n 3, 1) := dk_29 (dk_at dksX1_perform_2 6 rfl rfl)
theorem dX1_perform_55 : decode cX1_perform 55 = .ok (.iconst 2, 1) := dk_5 (dk_at dksX1_perform_2 7 rfl rfl)
theorem dX1_perform_56 : decode cX1_perform 56 = .ok (.invokevirtual 324, 3) := dk_182 1 68 (dk_at dksX1_perform_2 8 rfl rfl)
theorem dX1_perform_59 : decode cX1_perform 59 = .ok (.aload_n 2, 1) := dk_44 (dk_at dksX1_perform_2 11 rfl rfl)
theorem dX1_perform_60 : decode cX1_perform 60 = .ok (.iload_n 3, 1) := dk_29 (dk_at dksX1_perform_2 12 rfl rfl)
theorem dX1_perform_61 : decode cX1_perform 61 = .ok (.iconst 3, 1) := dk_6 (dk_at dksX1_perform_2 13 rfl rfl)
theorem dX1_perform_62 : decode cX1_perform 62 = .ok (.invokevirtual 324, 3) := dk_182 1 68 (dk_at dksX1_perform_2 14 rfl rfl)
theorem dX1_perform_65 : decode cX1_perform 65 = .ok (.invokevirtual 161, 3) := dk_182 0 161 (dk_at dksX1_perform_2 17 rfl rfl)
theorem dX1_perform_68 : decode cX1_perform 68 = .ok (.iconst (-1), 1) := dk_2 (dk_at dksX1_perform_2 20 rfl rfl)
theorem dX1_perform_69 : decode cX1_perform 69 = .ok (.if_icmp .ne 9, 3) := dk_160 0 9 (dk_at dksX1_perform_2 21 rfl rfl)
theorem dX1_perform_72 : decode cX1_perform 72 = .ok (.iinc 3 1, 3) := dk_132 3 1 (dk_at dksX1_perform_3 0 rfl rfl)
theorem dX1_perform_75 : decode cX1_perform 75 = .ok (.goto (-49), 3) := dk_167 255 207 (dk_at dksX1_perform_3 3 rfl rfl)
theorem dX1_perform_78 : decode cX1_perform 78 = .ok (.iload_n 3, 1) := dk_29 (dk_at dksX1_perform_3 6 rfl rfl)
theorem dX1_perform_79 : decode cX1_perform 79 = .ok (.ireturn, 1) := dk_172 (dk_at dksX1_perform_3 7 rfl rfl)
abbrev cX1_most : ByteArray := prog_1_method_63_code
def yX1_most : MethodName := ⟨RX1, "most", "(I)I"⟩
def dkwX1_most_4 : List UInt8 := [182, 1, 95, 172, 18, 177, 172]
abbrev dktX1_most_4 : List UInt8 := dkwX1_most_4 ++ []
def dkwX1_most_3 : List UInt8 := [172, 42, 182, 1, 92, 172, 42, 180, 0, 62, 42, 180, 0, 46, 3, 182, 0, 128, 180, 0, 239, 172, 42]
abbrev dktX1_most_3 : List UInt8 := dkwX1_most_3 ++ dktX1_most_4
def dkwX1_most_2 : List UInt8 := [42, 182, 1, 82, 172, 42, 27, 5, 160, 0, 7, 4, 167, 0, 4, 3, 182, 1, 85, 172, 42, 182, 1, 89]
abbrev dktX1_most_2 : List UInt8 := dkwX1_most_2 ++ dktX1_most_3
def dkwX1_most_1 : List UInt8 := [170, 0, 0, 0, 92, 0, 0, 0, 0, 0, 0, 0, 6, 0, 0, 0, 41, 0, 0, 0, 46, 0, 0, 0, 46, 0, 0, 0, 61, 0, 0, 0, 66, 0, 0, 0, 71, 0, 0, 0, 87]
abbrev dktX1_most_1 : List UInt8 := dkwX1_most_1 ++ dktX1_most_2
def dkwX1_most_0 : List UInt8 := [42, 180, 0, 79, 154, 0, 6, 18, 177, 172, 27]
abbrev dktX1_most_0 : List UInt8 := dkwX1_most_0 ++ dktX1_most_1
theorem dksX1_most_0 : cX1_most.data.toList.drop 0 = dktX1_most_0 := by decide +kernel
theorem dksX1_most_1 : cX1_most.data.toList.drop 11 = dktX1_most_1 := dk_seg dksX1_most_0 11 rfl rfl
theorem dksX1_most_2 : cX1_most.data.toList.drop 52 = dktX1_most_2 := dk_seg dksX1_most_1 41 rfl rfl
theorem dksX1_most_3 : cX1_most.data.toList.drop 76 = dktX1_most_3 := dk_seg dksX1_most_2 24 rfl rfl
theorem dksX1_most_4 : cX1_most.data.toList.drop 99 = dktX1_most_4 := dk_seg dksX1_most_3 23 rfl rfl
theorem dX1_most_0 : decode cX1_most 0 = .ok (.aload_n 0, 1) := dk_42 (dk_at dksX1_most_0 0 rfl rfl)
theorem dX1_most_1 : decode cX1_most 1 = .ok (.getfield 79, 3) := dk_180 0 79 (dk_at dksX1_most_0 1 rfl rfl)
theorem dX1_most_4 : decode cX1_most 4 = .ok (.ifCond .ne 6, 3) := dk_154 0 6 (dk_at dksX1_most_0 4 rfl rfl)
theorem dX1_most_7 : decode cX1_most 7 = .ok (.ldc 177, 2) := dk_18 177 (dk_at dksX1_most_0 7 rfl rfl)
theorem dX1_most_9 : decode cX1_most 9 = .ok (.ireturn, 1) := dk_172 (dk_at dksX1_most_0 9 rfl rfl)
theorem dX1_most_10 : decode cX1_most 10 = .ok (.iload_n 1, 1) := dk_27 (dk_at dksX1_most_0 10 rfl rfl)
theorem dX1_most_11 : decode cX1_most 11 = .ok (.tableswitch 92 0 6 #[41, 46, 46, 61, 66, 71, 87], 41) := by decide +kernel
theorem dX1_most_52 : decode cX1_most 52 = .ok (.aload_n 0, 1) := dk_42 (dk_at dksX1_most_2 0 rfl rfl)
theorem dX1_most_53 : decode cX1_most 53 = .ok (.invokevirtual 338, 3) := dk_182 1 82 (dk_at dksX1_most_2 1 rfl rfl)
theorem dX1_most_56 : decode cX1_most 56 = .ok (.ireturn, 1) := dk_172 (dk_at dksX1_most_2 4 rfl rfl)
theorem dX1_most_57 : decode cX1_most 57 = .ok (.aload_n 0, 1) := dk_42 (dk_at dksX1_most_2 5 rfl rfl)
theorem dX1_most_58 : decode cX1_most 58 = .ok (.iload_n 1, 1) := dk_27 (dk_at dksX1_most_2 6 rfl rfl)
theorem dX1_most_59 : decode cX1_most 59 = .ok (.iconst 2, 1) := dk_5 (dk_at dksX1_most_2 7 rfl rfl)
theorem dX1_most_60 : decode cX1_most 60 = .ok (.if_icmp .ne 7, 3) := dk_160 0 7 (dk_at dksX1_most_2 8 rfl rfl)
theorem dX1_most_63 : decode cX1_most 63 = .ok (.iconst 1, 1) := dk_4 (dk_at dksX1_most_2 11 rfl rfl)
theorem dX1_most_64 : decode cX1_most 64 = .ok (.goto 4, 3) := dk_167 0 4 (dk_at dksX1_most_2 12 rfl rfl)
theorem dX1_most_67 : decode cX1_most 67 = .ok (.iconst 0, 1) := dk_3 (dk_at dksX1_most_2 15 rfl rfl)
theorem dX1_most_68 : decode cX1_most 68 = .ok (.invokevirtual 341, 3) := dk_182 1 85 (dk_at dksX1_most_2 16 rfl rfl)
theorem dX1_most_71 : decode cX1_most 71 = .ok (.ireturn, 1) := dk_172 (dk_at dksX1_most_2 19 rfl rfl)
theorem dX1_most_72 : decode cX1_most 72 = .ok (.aload_n 0, 1) := dk_42 (dk_at dksX1_most_2 20 rfl rfl)
theorem dX1_most_73 : decode cX1_most 73 = .ok (.invokevirtual 345, 3) := dk_182 1 89 (dk_at dksX1_most_2 21 rfl rfl)
theorem dX1_most_76 : decode cX1_most 76 = .ok (.ireturn, 1) := dk_172 (dk_at dksX1_most_3 0 rfl rfl)
theorem dX1_most_77 : decode cX1_most 77 = .ok (.aload_n 0, 1) := dk_42 (dk_at dksX1_most_3 1 rfl rfl)
theorem dX1_most_78 : decode cX1_most 78 = .ok (.invokevirtual 348, 3) := dk_182 1 92 (dk_at dksX1_most_3 2 rfl rfl)
theorem dX1_most_81 : decode cX1_most 81 = .ok (.ireturn, 1) := dk_172 (dk_at dksX1_most_3 5 rfl rfl)
theorem dX1_most_82 : decode cX1_most 82 = .ok (.aload_n 0, 1) := dk_42 (dk_at dksX1_most_3 6 rfl rfl)
theorem dX1_most_83 : decode cX1_most 83 = .ok (.getfield 62, 3) := dk_180 0 62 (dk_at dksX1_most_3 7 rfl rfl)
theorem dX1_most_86 : decode cX1_most 86 = .ok (.aload_n 0, 1) := dk_42 (dk_at dksX1_most_3 10 rfl rfl)
theorem dX1_most_87 : decode cX1_most 87 = .ok (.getfield 46, 3) := dk_180 0 46 (dk_at dksX1_most_3 11 rfl rfl)
theorem dX1_most_90 : decode cX1_most 90 = .ok (.iconst 0, 1) := dk_3 (dk_at dksX1_most_3 14 rfl rfl)
theorem dX1_most_91 : decode cX1_most 91 = .ok (.invokevirtual 128, 3) := dk_182 0 128 (dk_at dksX1_most_3 15 rfl rfl)
theorem dX1_most_94 : decode cX1_most 94 = .ok (.getfield 239, 3) := dk_180 0 239 (dk_at dksX1_most_3 18 rfl rfl)
theorem dX1_most_97 : decode cX1_most 97 = .ok (.ireturn, 1) := dk_172 (dk_at dksX1_most_3 21 rfl rfl)
theorem dX1_most_98 : decode cX1_most 98 = .ok (.aload_n 0, 1) := dk_42 (dk_at dksX1_most_3 22 rfl rfl)
theorem dX1_most_99 : decode cX1_most 99 = .ok (.invokevirtual 351, 3) := dk_182 1 95 (dk_at dksX1_most_4 0 rfl rfl)
theorem dX1_most_102 : decode cX1_most 102 = .ok (.ireturn, 1) := dk_172 (dk_at dksX1_most_4 3 rfl rfl)
theorem dX1_most_103 : decode cX1_most 103 = .ok (.ldc 177, 2) := dk_18 177 (dk_at dksX1_most_4 4 rfl rfl)
theorem dX1_most_105 : decode cX1_most 105 = .ok (.ireturn, 1) := dk_172 (dk_at dksX1_most_4 6 rfl rfl)
abbrev cX1_sums : ByteArray := prog_1_method_58_code
def yX1_sums : MethodName := ⟨RX1, "sums", "()I"⟩
def dkwX1_sums_3 : List UInt8 := [60, 132, 4, 1, 167, 255, 213, 132, 3, 1, 167, 255, 188, 132, 2, 1, 167, 255, 172, 27, 172]
abbrev dktX1_sums_3 : List UInt8 := dkwX1_sums_3 ++ []
def dkwX1_sums_2 : List UInt8 := [162, 0, 31, 27, 42, 180, 0, 46, 180, 0, 191, 28, 50, 180, 0, 194, 29, 50, 21, 4, 182, 0, 198, 96]
abbrev dktX1_sums_2 : List UInt8 := dkwX1_sums_2 ++ dktX1_sums_3
def dkwX1_sums_1 : List UInt8 := [180, 0, 193, 162, 0, 58, 3, 54, 4, 21, 4, 42, 180, 0, 46, 180, 0, 191, 28, 50, 180, 0, 202, 190]
abbrev dktX1_sums_1 : List UInt8 := dkwX1_sums_1 ++ dktX1_sums_2
def dkwX1_sums_0 : List UInt8 := [3, 60, 3, 61, 28, 42, 180, 0, 79, 162, 0, 82, 3, 62, 29, 42, 180, 0, 46, 180, 0, 191, 28, 50]
abbrev dktX1_sums_0 : List UInt8 := dkwX1_sums_0 ++ dktX1_sums_1
theorem dksX1_sums_0 : cX1_sums.data.toList.drop 0 = dktX1_sums_0 := by decide +kernel
theorem dksX1_sums_1 : cX1_sums.data.toList.drop 24 = dktX1_sums_1 := dk_seg dksX1_sums_0 24 rfl rfl
theorem dksX1_sums_2 : cX1_sums.data.toList.drop 48 = dktX1_sums_2 := dk_seg dksX1_sums_1 24 rfl rfl
theorem dksX1_sums_3 : cX1_sums.data.toList.drop 72 = dktX1_sums_3 := dk_seg dksX1_sums_2 24 rfl rfl
theorem dX1_sums_0 : decode cX1_sums 0 = .ok (.iconst 0, 1) := dk_3 (dk_at dksX1_sums_0 0 rfl rfl)
theorem dX1_sums_1 : decode cX1_sums 1 = .ok (.istore_n 1, 1) := dk_60 (dk_at dksX1_sums_0 1 rfl rfl)
theorem dX1_sums_2 : decode cX1_sums 2 = .ok (.iconst 0, 1) := dk_3 (dk_at dksX1_sums_0 2 rfl rfl)
theorem dX1_sums_3 : decode cX1_sums 3 = .ok (.istore_n 2, 1) := dk_61 (dk_at dksX1_sums_0 3 rfl rfl)
theorem dX1_sums_4 : decode cX1_sums 4 = .ok (.iload_n 2, 1) := dk_28 (dk_at dksX1_sums_0 4 rfl rfl)
theorem dX1_sums_5 : decode cX1_sums 5 = .ok (.aload_n 0, 1) := dk_42 (dk_at dksX1_sums_0 5 rfl rfl)
theorem dX1_sums_6 : decode cX1_sums 6 = .ok (.getfield 79, 3) := dk_180 0 79 (dk_at dksX1_sums_0 6 rfl rfl)
theorem dX1_sums_9 : decode cX1_sums 9 = .ok (.if_icmp .ge 82, 3) := dk_162 0 82 (dk_at dksX1_sums_0 9 rfl rfl)
theorem dX1_sums_12 : decode cX1_sums 12 = .ok (.iconst 0, 1) := dk_3 (dk_at dksX1_sums_0 12 rfl rfl)
theorem dX1_sums_13 : decode cX1_sums 13 = .ok (.istore_n 3, 1) := dk_62 (dk_at dksX1_sums_0 13 rfl rfl)
theorem dX1_sums_14 : decode cX1_sums 14 = .ok (.iload_n 3, 1) := dk_29 (dk_at dksX1_sums_0 14 rfl rfl)
theorem dX1_sums_15 : decode cX1_sums 15 = .ok (.aload_n 0, 1) := dk_42 (dk_at dksX1_sums_0 15 rfl rfl)
theorem dX1_sums_16 : decode cX1_sums 16 = .ok (.getfield 46, 3) := dk_180 0 46 (dk_at dksX1_sums_0 16 rfl rfl)
theorem dX1_sums_19 : decode cX1_sums 19 = .ok (.getfield 191, 3) := dk_180 0 191 (dk_at dksX1_sums_0 19 rfl rfl)
theorem dX1_sums_22 : decode cX1_sums 22 = .ok (.iload_n 2, 1) := dk_28 (dk_at dksX1_sums_0 22 rfl rfl)
theorem dX1_sums_23 : decode cX1_sums 23 = .ok (.aaload, 1) := dk_50 (dk_at dksX1_sums_0 23 rfl rfl)
theorem dX1_sums_24 : decode cX1_sums 24 = .ok (.getfield 193, 3) := dk_180 0 193 (dk_at dksX1_sums_1 0 rfl rfl)
theorem dX1_sums_27 : decode cX1_sums 27 = .ok (.if_icmp .ge 58, 3) := dk_162 0 58 (dk_at dksX1_sums_1 3 rfl rfl)
theorem dX1_sums_30 : decode cX1_sums 30 = .ok (.iconst 0, 1) := dk_3 (dk_at dksX1_sums_1 6 rfl rfl)
theorem dX1_sums_31 : decode cX1_sums 31 = .ok (.istore 4, 2) := dk_54 4 (dk_at dksX1_sums_1 7 rfl rfl)
theorem dX1_sums_33 : decode cX1_sums 33 = .ok (.iload 4, 2) := dk_21 4 (dk_at dksX1_sums_1 9 rfl rfl)
theorem dX1_sums_35 : decode cX1_sums 35 = .ok (.aload_n 0, 1) := dk_42 (dk_at dksX1_sums_1 11 rfl rfl)
theorem dX1_sums_36 : decode cX1_sums 36 = .ok (.getfield 46, 3) := dk_180 0 46 (dk_at dksX1_sums_1 12 rfl rfl)
theorem dX1_sums_39 : decode cX1_sums 39 = .ok (.getfield 191, 3) := dk_180 0 191 (dk_at dksX1_sums_1 15 rfl rfl)
theorem dX1_sums_42 : decode cX1_sums 42 = .ok (.iload_n 2, 1) := dk_28 (dk_at dksX1_sums_1 18 rfl rfl)
theorem dX1_sums_43 : decode cX1_sums 43 = .ok (.aaload, 1) := dk_50 (dk_at dksX1_sums_1 19 rfl rfl)
theorem dX1_sums_44 : decode cX1_sums 44 = .ok (.getfield 202, 3) := dk_180 0 202 (dk_at dksX1_sums_1 20 rfl rfl)
theorem dX1_sums_47 : decode cX1_sums 47 = .ok (.arraylength, 1) := dk_190 (dk_at dksX1_sums_1 23 rfl rfl)
theorem dX1_sums_48 : decode cX1_sums 48 = .ok (.if_icmp .ge 31, 3) := dk_162 0 31 (dk_at dksX1_sums_2 0 rfl rfl)
theorem dX1_sums_51 : decode cX1_sums 51 = .ok (.iload_n 1, 1) := dk_27 (dk_at dksX1_sums_2 3 rfl rfl)
theorem dX1_sums_52 : decode cX1_sums 52 = .ok (.aload_n 0, 1) := dk_42 (dk_at dksX1_sums_2 4 rfl rfl)
theorem dX1_sums_53 : decode cX1_sums 53 = .ok (.getfield 46, 3) := dk_180 0 46 (dk_at dksX1_sums_2 5 rfl rfl)
theorem dX1_sums_56 : decode cX1_sums 56 = .ok (.getfield 191, 3) := dk_180 0 191 (dk_at dksX1_sums_2 8 rfl rfl)
theorem dX1_sums_59 : decode cX1_sums 59 = .ok (.iload_n 2, 1) := dk_28 (dk_at dksX1_sums_2 11 rfl rfl)
theorem dX1_sums_60 : decode cX1_sums 60 = .ok (.aaload, 1) := dk_50 (dk_at dksX1_sums_2 12 rfl rfl)
theorem dX1_sums_61 : decode cX1_sums 61 = .ok (.getfield 194, 3) := dk_180 0 194 (dk_at dksX1_sums_2 13 rfl rfl)
theorem dX1_sums_64 : decode cX1_sums 64 = .ok (.iload_n 3, 1) := dk_29 (dk_at dksX1_sums_2 16 rfl rfl)
theorem dX1_sums_65 : decode cX1_sums 65 = .ok (.aaload, 1) := dk_50 (dk_at dksX1_sums_2 17 rfl rfl)
theorem dX1_sums_66 : decode cX1_sums 66 = .ok (.iload 4, 2) := dk_21 4 (dk_at dksX1_sums_2 18 rfl rfl)
theorem dX1_sums_68 : decode cX1_sums 68 = .ok (.invokevirtual 198, 3) := dk_182 0 198 (dk_at dksX1_sums_2 20 rfl rfl)
theorem dX1_sums_71 : decode cX1_sums 71 = .ok (.iadd, 1) := dk_96 (dk_at dksX1_sums_2 23 rfl rfl)
theorem dX1_sums_72 : decode cX1_sums 72 = .ok (.istore_n 1, 1) := dk_60 (dk_at dksX1_sums_3 0 rfl rfl)
theorem dX1_sums_73 : decode cX1_sums 73 = .ok (.iinc 4 1, 3) := dk_132 4 1 (dk_at dksX1_sums_3 1 rfl rfl)
theorem dX1_sums_76 : decode cX1_sums 76 = .ok (.goto (-43), 3) := dk_167 255 213 (dk_at dksX1_sums_3 4 rfl rfl)
theorem dX1_sums_79 : decode cX1_sums 79 = .ok (.iinc 3 1, 3) := dk_132 3 1 (dk_at dksX1_sums_3 7 rfl rfl)
theorem dX1_sums_82 : decode cX1_sums 82 = .ok (.goto (-68), 3) := dk_167 255 188 (dk_at dksX1_sums_3 10 rfl rfl)
theorem dX1_sums_85 : decode cX1_sums 85 = .ok (.iinc 2 1, 3) := dk_132 2 1 (dk_at dksX1_sums_3 13 rfl rfl)
theorem dX1_sums_88 : decode cX1_sums 88 = .ok (.goto (-84), 3) := dk_167 255 172 (dk_at dksX1_sums_3 16 rfl rfl)
theorem dX1_sums_91 : decode cX1_sums 91 = .ok (.iload_n 1, 1) := dk_27 (dk_at dksX1_sums_3 19 rfl rfl)
theorem dX1_sums_92 : decode cX1_sums 92 = .ok (.ireturn, 1) := dk_172 (dk_at dksX1_sums_3 20 rfl rfl)
abbrev cX1_greatestTable : ByteArray := prog_1_method_59_code
def yX1_greatestTable : MethodName := ⟨RX1, "greatestTable", "(Z)I"⟩
def dkwX1_greatestTable_3 : List UInt8 := [132, 3, 1, 167, 255, 187, 28, 172]
abbrev dktX1_greatestTable_3 : List UInt8 := dkwX1_greatestTable_3 ++ []
def dkwX1_greatestTable_2 : List UInt8 := [42, 180, 0, 46, 180, 0, 191, 28, 50, 180, 0, 193, 100, 54, 4, 21, 4, 158, 0, 5, 29, 61]
abbrev dktX1_greatestTable_2 : List UInt8 := dkwX1_greatestTable_2 ++ dktX1_greatestTable_3
def dkwX1_greatestTable_1 : List UInt8 := [42, 28, 182, 0, 252, 184, 1, 71, 100, 167, 0, 28, 42, 180, 0, 46, 180, 0, 191, 29, 50, 180, 0, 193]
abbrev dktX1_greatestTable_1 : List UInt8 := dkwX1_greatestTable_1 ++ dktX1_greatestTable_2
def dkwX1_greatestTable_0 : List UInt8 := [3, 61, 4, 62, 29, 42, 180, 0, 79, 162, 0, 67, 27, 153, 0, 23, 42, 29, 182, 0, 252, 184, 1, 71]
abbrev dktX1_greatestTable_0 : List UInt8 := dkwX1_greatestTable_0 ++ dktX1_greatestTable_1
theorem dksX1_greatestTable_0 : cX1_greatestTable.data.toList.drop 0 = dktX1_greatestTable_0 := by decide +kernel
theorem dksX1_greatestTable_1 : cX1_greatestTable.data.toList.drop 24 = dktX1_greatestTable_1 := dk_seg dksX1_greatestTable_0 24 rfl rfl
theorem dksX1_greatestTable_2 : cX1_greatestTable.data.toList.drop 48 = dktX1_greatestTable_2 := dk_seg dksX1_greatestTable_1 24 rfl rfl
theorem dksX1_greatestTable_3 : cX1_greatestTable.data.toList.drop 70 = dktX1_greatestTable_3 := dk_seg dksX1_greatestTable_2 22 rfl rfl
theorem dX1_greatestTable_0 : decode cX1_greatestTable 0 = .ok (.iconst 0, 1) := dk_3 (dk_at dksX1_greatestTable_0 0 rfl rfl)
theorem dX1_greatestTable_1 : decode cX1_greatestTable 1 = .ok (.istore_n 2, 1) := dk_61 (dk_at dksX1_greatestTable_0 1 rfl rfl)
theorem dX1_greatestTable_2 : decode cX1_greatestTable 2 = .ok (.iconst 1, 1) := dk_4 (dk_at dksX1_greatestTable_0 2 rfl rfl)
theorem dX1_greatestTable_3 : decode cX1_greatestTable 3 = .ok (.istore_n 3, 1) := dk_62 (dk_at dksX1_greatestTable_0 3 rfl rfl)
theorem dX1_greatestTable_4 : decode cX1_greatestTable 4 = .ok (.iload_n 3, 1) := dk_29 (dk_at dksX1_greatestTable_0 4 rfl rfl)
theorem dX1_greatestTable_5 : decode cX1_greatestTable 5 = .ok (.aload_n 0, 1) := dk_42 (dk_at dksX1_greatestTable_0 5 rfl rfl)
theorem dX1_greatestTable_6 : decode cX1_greatestTable 6 = .ok (.getfield 79, 3) := dk_180 0 79 (dk_at dksX1_greatestTable_0 6 rfl rfl)
theorem dX1_greatestTable_9 : decode cX1_greatestTable 9 = .ok (.if_icmp .ge 67, 3) := dk_162 0 67 (dk_at dksX1_greatestTable_0 9 rfl rfl)
theorem dX1_greatestTable_12 : decode cX1_greatestTable 12 = .ok (.iload_n 1, 1) := dk_27 (dk_at dksX1_greatestTable_0 12 rfl rfl)
theorem dX1_greatestTable_13 : decode cX1_greatestTable 13 = .ok (.ifCond .eq 23, 3) := dk_153 0 23 (dk_at dksX1_greatestTable_0 13 rfl rfl)
theorem dX1_greatestTable_16 : decode cX1_greatestTable 16 = .ok (.aload_n 0, 1) := dk_42 (dk_at dksX1_greatestTable_0 16 rfl rfl)
theorem dX1_greatestTable_17 : decode cX1_greatestTable 17 = .ok (.iload_n 3, 1) := dk_29 (dk_at dksX1_greatestTable_0 17 rfl rfl)
theorem dX1_greatestTable_18 : decode cX1_greatestTable 18 = .ok (.invokevirtual 252, 3) := dk_182 0 252 (dk_at dksX1_greatestTable_0 18 rfl rfl)
theorem dX1_greatestTable_21 : decode cX1_greatestTable 21 = .ok (.invokestatic 327, 3) := dk_184 1 71 (dk_at dksX1_greatestTable_0 21 rfl rfl)
theorem dX1_greatestTable_24 : decode cX1_greatestTable 24 = .ok (.aload_n 0, 1) := dk_42 (dk_at dksX1_greatestTable_1 0 rfl rfl)
theorem dX1_greatestTable_25 : decode cX1_greatestTable 25 = .ok (.iload_n 2, 1) := dk_28 (dk_at dksX1_greatestTable_1 1 rfl rfl)
theorem dX1_greatestTable_26 : decode cX1_greatestTable 26 = .ok (.invokevirtual 252, 3) := dk_182 0 252 (dk_at dksX1_greatestTable_1 2 rfl rfl)
theorem dX1_greatestTable_29 : decode cX1_greatestTable 29 = .ok (.invokestatic 327, 3) := dk_184 1 71 (dk_at dksX1_greatestTable_1 5 rfl rfl)
theorem dX1_greatestTable_32 : decode cX1_greatestTable 32 = .ok (.isub, 1) := dk_100 (dk_at dksX1_greatestTable_1 8 rfl rfl)
theorem dX1_greatestTable_33 : decode cX1_greatestTable 33 = .ok (.goto 28, 3) := dk_167 0 28 (dk_at dksX1_greatestTable_1 9 rfl rfl)
theorem dX1_greatestTable_36 : decode cX1_greatestTable 36 = .ok (.aload_n 0, 1) := dk_42 (dk_at dksX1_greatestTable_1 12 rfl rfl)
theorem dX1_greatestTable_37 : decode cX1_greatestTable 37 = .ok (.getfield 46, 3) := dk_180 0 46 (dk_at dksX1_greatestTable_1 13 rfl rfl)
theorem dX1_greatestTable_40 : decode cX1_greatestTable 40 = .ok (.getfield 191, 3) := dk_180 0 191 (dk_at dksX1_greatestTable_1 16 rfl rfl)
theorem dX1_greatestTable_43 : decode cX1_greatestTable 43 = .ok (.iload_n 3, 1) := dk_29 (dk_at dksX1_greatestTable_1 19 rfl rfl)
theorem dX1_greatestTable_44 : decode cX1_greatestTable 44 = .ok (.aaload, 1) := dk_50 (dk_at dksX1_greatestTable_1 20 rfl rfl)
theorem dX1_greatestTable_45 : decode cX1_greatestTable 45 = .ok (.getfield 193, 3) := dk_180 0 193 (dk_at dksX1_greatestTable_1 21 rfl rfl)
theorem dX1_greatestTable_48 : decode cX1_greatestTable 48 = .ok (.aload_n 0, 1) := dk_42 (dk_at dksX1_greatestTable_2 0 rfl rfl)
theorem dX1_greatestTable_49 : decode cX1_greatestTable 49 = .ok (.getfield 46, 3) := dk_180 0 46 (dk_at dksX1_greatestTable_2 1 rfl rfl)
theorem dX1_greatestTable_52 : decode cX1_greatestTable 52 = .ok (.getfield 191, 3) := dk_180 0 191 (dk_at dksX1_greatestTable_2 4 rfl rfl)
theorem dX1_greatestTable_55 : decode cX1_greatestTable 55 = .ok (.iload_n 2, 1) := dk_28 (dk_at dksX1_greatestTable_2 7 rfl rfl)
theorem dX1_greatestTable_56 : decode cX1_greatestTable 56 = .ok (.aaload, 1) := dk_50 (dk_at dksX1_greatestTable_2 8 rfl rfl)
theorem dX1_greatestTable_57 : decode cX1_greatestTable 57 = .ok (.getfield 193, 3) := dk_180 0 193 (dk_at dksX1_greatestTable_2 9 rfl rfl)
theorem dX1_greatestTable_60 : decode cX1_greatestTable 60 = .ok (.isub, 1) := dk_100 (dk_at dksX1_greatestTable_2 12 rfl rfl)
theorem dX1_greatestTable_61 : decode cX1_greatestTable 61 = .ok (.istore 4, 2) := dk_54 4 (dk_at dksX1_greatestTable_2 13 rfl rfl)
theorem dX1_greatestTable_63 : decode cX1_greatestTable 63 = .ok (.iload 4, 2) := dk_21 4 (dk_at dksX1_greatestTable_2 15 rfl rfl)
theorem dX1_greatestTable_65 : decode cX1_greatestTable 65 = .ok (.ifCond .le 5, 3) := dk_158 0 5 (dk_at dksX1_greatestTable_2 17 rfl rfl)
theorem dX1_greatestTable_68 : decode cX1_greatestTable 68 = .ok (.iload_n 3, 1) := dk_29 (dk_at dksX1_greatestTable_2 20 rfl rfl)
theorem dX1_greatestTable_69 : decode cX1_greatestTable 69 = .ok (.istore_n 2, 1) := dk_61 (dk_at dksX1_greatestTable_2 21 rfl rfl)
theorem dX1_greatestTable_70 : decode cX1_greatestTable 70 = .ok (.iinc 3 1, 3) := dk_132 3 1 (dk_at dksX1_greatestTable_3 0 rfl rfl)
theorem dX1_greatestTable_73 : decode cX1_greatestTable 73 = .ok (.goto (-69), 3) := dk_167 255 187 (dk_at dksX1_greatestTable_3 3 rfl rfl)
theorem dX1_greatestTable_76 : decode cX1_greatestTable 76 = .ok (.iload_n 2, 1) := dk_28 (dk_at dksX1_greatestTable_3 6 rfl rfl)
theorem dX1_greatestTable_77 : decode cX1_greatestTable 77 = .ok (.ireturn, 1) := dk_172 (dk_at dksX1_greatestTable_3 7 rfl rfl)
abbrev cX1_dangling : ByteArray := prog_1_method_60_code
def yX1_dangling : MethodName := ⟨RX1, "dangling", "()I"⟩
def dkwX1_dangling_2 : List UInt8 := [167, 0, 4, 3, 96, 60, 132, 2, 1, 167, 255, 203, 27, 172]
abbrev dktX1_dangling_2 : List UInt8 := dkwX1_dangling_2 ++ []
def dkwX1_dangling_1 : List UInt8 := [153, 0, 27, 42, 180, 0, 46, 180, 0, 191, 28, 50, 180, 0, 193, 42, 28, 182, 0, 252, 184, 1, 71, 100]
abbrev dktX1_dangling_1 : List UInt8 := dkwX1_dangling_1 ++ dktX1_dangling_2
def dkwX1_dangling_0 : List UInt8 := [3, 60, 3, 61, 28, 42, 180, 0, 79, 162, 0, 51, 27, 42, 180, 0, 46, 180, 0, 215, 28, 184, 0, 230]
abbrev dktX1_dangling_0 : List UInt8 := dkwX1_dangling_0 ++ dktX1_dangling_1
theorem dksX1_dangling_0 : cX1_dangling.data.toList.drop 0 = dktX1_dangling_0 := by decide +kernel
theorem dksX1_dangling_1 : cX1_dangling.data.toList.drop 24 = dktX1_dangling_1 := dk_seg dksX1_dangling_0 24 rfl rfl
theorem dksX1_dangling_2 : cX1_dangling.data.toList.drop 48 = dktX1_dangling_2 := dk_seg dksX1_dangling_1 24 rfl rfl
theorem dX1_dangling_0 : decode cX1_dangling 0 = .ok (.iconst 0, 1) := dk_3 (dk_at dksX1_dangling_0 0 rfl rfl)
theorem dX1_dangling_1 : decode cX1_dangling 1 = .ok (.istore_n 1, 1) := dk_60 (dk_at dksX1_dangling_0 1 rfl rfl)
theorem dX1_dangling_2 : decode cX1_dangling 2 = .ok (.iconst 0, 1) := dk_3 (dk_at dksX1_dangling_0 2 rfl rfl)
theorem dX1_dangling_3 : decode cX1_dangling 3 = .ok (.istore_n 2, 1) := dk_61 (dk_at dksX1_dangling_0 3 rfl rfl)
theorem dX1_dangling_4 : decode cX1_dangling 4 = .ok (.iload_n 2, 1) := dk_28 (dk_at dksX1_dangling_0 4 rfl rfl)
theorem dX1_dangling_5 : decode cX1_dangling 5 = .ok (.aload_n 0, 1) := dk_42 (dk_at dksX1_dangling_0 5 rfl rfl)
theorem dX1_dangling_6 : decode cX1_dangling 6 = .ok (.getfield 79, 3) := dk_180 0 79 (dk_at dksX1_dangling_0 6 rfl rfl)
theorem dX1_dangling_9 : decode cX1_dangling 9 = .ok (.if_icmp .ge 51, 3) := dk_162 0 51 (dk_at dksX1_dangling_0 9 rfl rfl)
theorem dX1_dangling_12 : decode cX1_dangling 12 = .ok (.iload_n 1, 1) := dk_27 (dk_at dksX1_dangling_0 12 rfl rfl)
theorem dX1_dangling_13 : decode cX1_dangling 13 = .ok (.aload_n 0, 1) := dk_42 (dk_at dksX1_dangling_0 13 rfl rfl)
theorem dX1_dangling_14 : decode cX1_dangling 14 = .ok (.getfield 46, 3) := dk_180 0 46 (dk_at dksX1_dangling_0 14 rfl rfl)
theorem dX1_dangling_17 : decode cX1_dangling 17 = .ok (.getfield 215, 3) := dk_180 0 215 (dk_at dksX1_dangling_0 17 rfl rfl)
theorem dX1_dangling_20 : decode cX1_dangling 20 = .ok (.iload_n 2, 1) := dk_28 (dk_at dksX1_dangling_0 20 rfl rfl)
theorem dX1_dangling_21 : decode cX1_dangling 21 = .ok (.invokestatic 230, 3) := dk_184 0 230 (dk_at dksX1_dangling_0 21 rfl rfl)
theorem dX1_dangling_24 : decode cX1_dangling 24 = .ok (.ifCond .eq 27, 3) := dk_153 0 27 (dk_at dksX1_dangling_1 0 rfl rfl)
theorem dX1_dangling_27 : decode cX1_dangling 27 = .ok (.aload_n 0, 1) := dk_42 (dk_at dksX1_dangling_1 3 rfl rfl)
theorem dX1_dangling_28 : decode cX1_dangling 28 = .ok (.getfield 46, 3) := dk_180 0 46 (dk_at dksX1_dangling_1 4 rfl rfl)
theorem dX1_dangling_31 : decode cX1_dangling 31 = .ok (.getfield 191, 3) := dk_180 0 191 (dk_at dksX1_dangling_1 7 rfl rfl)
theorem dX1_dangling_34 : decode cX1_dangling 34 = .ok (.iload_n 2, 1) := dk_28 (dk_at dksX1_dangling_1 10 rfl rfl)
theorem dX1_dangling_35 : decode cX1_dangling 35 = .ok (.aaload, 1) := dk_50 (dk_at dksX1_dangling_1 11 rfl rfl)
theorem dX1_dangling_36 : decode cX1_dangling 36 = .ok (.getfield 193, 3) := dk_180 0 193 (dk_at dksX1_dangling_1 12 rfl rfl)
theorem dX1_dangling_39 : decode cX1_dangling 39 = .ok (.aload_n 0, 1) := dk_42 (dk_at dksX1_dangling_1 15 rfl rfl)
theorem dX1_dangling_40 : decode cX1_dangling 40 = .ok (.iload_n 2, 1) := dk_28 (dk_at dksX1_dangling_1 16 rfl rfl)
theorem dX1_dangling_41 : decode cX1_dangling 41 = .ok (.invokevirtual 252, 3) := dk_182 0 252 (dk_at dksX1_dangling_1 17 rfl rfl)
theorem dX1_dangling_44 : decode cX1_dangling 44 = .ok (.invokestatic 327, 3) := dk_184 1 71 (dk_at dksX1_dangling_1 20 rfl rfl)
theorem dX1_dangling_47 : decode cX1_dangling 47 = .ok (.isub, 1) := dk_100 (dk_at dksX1_dangling_1 23 rfl rfl)
theorem dX1_dangling_48 : decode cX1_dangling 48 = .ok (.goto 4, 3) := dk_167 0 4 (dk_at dksX1_dangling_2 0 rfl rfl)
theorem dX1_dangling_51 : decode cX1_dangling 51 = .ok (.iconst 0, 1) := dk_3 (dk_at dksX1_dangling_2 3 rfl rfl)
theorem dX1_dangling_52 : decode cX1_dangling 52 = .ok (.iadd, 1) := dk_96 (dk_at dksX1_dangling_2 4 rfl rfl)
theorem dX1_dangling_53 : decode cX1_dangling 53 = .ok (.istore_n 1, 1) := dk_60 (dk_at dksX1_dangling_2 5 rfl rfl)
theorem dX1_dangling_54 : decode cX1_dangling 54 = .ok (.iinc 2 1, 3) := dk_132 2 1 (dk_at dksX1_dangling_2 6 rfl rfl)
theorem dX1_dangling_57 : decode cX1_dangling 57 = .ok (.goto (-53), 3) := dk_167 255 203 (dk_at dksX1_dangling_2 9 rfl rfl)
theorem dX1_dangling_60 : decode cX1_dangling 60 = .ok (.iload_n 1, 1) := dk_27 (dk_at dksX1_dangling_2 12 rfl rfl)
theorem dX1_dangling_61 : decode cX1_dangling 61 = .ok (.ireturn, 1) := dk_172 (dk_at dksX1_dangling_2 13 rfl rfl)
abbrev cX1_tellings : ByteArray := prog_1_method_61_code
def yX1_tellings : MethodName := ⟨RX1, "tellings", "()I"⟩
def dkwX1_tellings_2 : List UInt8 := [167, 255, 213, 27, 172]
abbrev dktX1_tellings_2 : List UInt8 := dkwX1_tellings_2 ++ []
def dkwX1_tellings_1 : List UInt8 := [29, 182, 1, 76, 153, 0, 7, 4, 167, 0, 4, 3, 96, 60, 132, 3, 1, 167, 255, 226, 132, 2, 1]
abbrev dktX1_tellings_1 : List UInt8 := dkwX1_tellings_1 ++ dktX1_tellings_2
def dkwX1_tellings_0 : List UInt8 := [3, 60, 3, 61, 28, 7, 162, 0, 44, 3, 62, 29, 7, 162, 0, 31, 27, 28, 29, 159, 0, 16, 42, 28]
abbrev dktX1_tellings_0 : List UInt8 := dkwX1_tellings_0 ++ dktX1_tellings_1
theorem dksX1_tellings_0 : cX1_tellings.data.toList.drop 0 = dktX1_tellings_0 := by decide +kernel
theorem dksX1_tellings_1 : cX1_tellings.data.toList.drop 24 = dktX1_tellings_1 := dk_seg dksX1_tellings_0 24 rfl rfl
theorem dksX1_tellings_2 : cX1_tellings.data.toList.drop 47 = dktX1_tellings_2 := dk_seg dksX1_tellings_1 23 rfl rfl
theorem dX1_tellings_0 : decode cX1_tellings 0 = .ok (.iconst 0, 1) := dk_3 (dk_at dksX1_tellings_0 0 rfl rfl)
theorem dX1_tellings_1 : decode cX1_tellings 1 = .ok (.istore_n 1, 1) := dk_60 (dk_at dksX1_tellings_0 1 rfl rfl)
theorem dX1_tellings_2 : decode cX1_tellings 2 = .ok (.iconst 0, 1) := dk_3 (dk_at dksX1_tellings_0 2 rfl rfl)
theorem dX1_tellings_3 : decode cX1_tellings 3 = .ok (.istore_n 2, 1) := dk_61 (dk_at dksX1_tellings_0 3 rfl rfl)
theorem dX1_tellings_4 : decode cX1_tellings 4 = .ok (.iload_n 2, 1) := dk_28 (dk_at dksX1_tellings_0 4 rfl rfl)
theorem dX1_tellings_5 : decode cX1_tellings 5 = .ok (.iconst 4, 1) := dk_7 (dk_at dksX1_tellings_0 5 rfl rfl)
theorem dX1_tellings_6 : decode cX1_tellings 6 = .ok (.if_icmp .ge 44, 3) := dk_162 0 44 (dk_at dksX1_tellings_0 6 rfl rfl)
theorem dX1_tellings_9 : decode cX1_tellings 9 = .ok (.iconst 0, 1) := dk_3 (dk_at dksX1_tellings_0 9 rfl rfl)
theorem dX1_tellings_10 : decode cX1_tellings 10 = .ok (.istore_n 3, 1) := dk_62 (dk_at dksX1_tellings_0 10 rfl rfl)
theorem dX1_tellings_11 : decode cX1_tellings 11 = .ok (.iload_n 3, 1) := dk_29 (dk_at dksX1_tellings_0 11 rfl rfl)
theorem dX1_tellings_12 : decode cX1_tellings 12 = .ok (.iconst 4, 1) := dk_7 (dk_at dksX1_tellings_0 12 rfl rfl)
theorem dX1_tellings_13 : decode cX1_tellings 13 = .ok (.if_icmp .ge 31, 3) := dk_162 0 31 (dk_at dksX1_tellings_0 13 rfl rfl)
theorem dX1_tellings_16 : decode cX1_tellings 16 = .ok (.iload_n 1, 1) := dk_27 (dk_at dksX1_tellings_0 16 rfl rfl)
theorem dX1_tellings_17 : decode cX1_tellings 17 = .ok (.iload_n 2, 1) := dk_28 (dk_at dksX1_tellings_0 17 rfl rfl)
theorem dX1_tellings_18 : decode cX1_tellings 18 = .ok (.iload_n 3, 1) := dk_29 (dk_at dksX1_tellings_0 18 rfl rfl)
theorem dX1_tellings_19 : decode cX1_tellings 19 = .ok (.if_icmp .eq 16, 3) := dk_159 0 16 (dk_at dksX1_tellings_0 19 rfl rfl)
theorem dX1_tellings_22 : decode cX1_tellings 22 = .ok (.aload_n 0, 1) := dk_42 (dk_at dksX1_tellings_0 22 rfl rfl)
theorem dX1_tellings_23 : decode cX1_tellings 23 = .ok (.iload_n 2, 1) := dk_28 (dk_at dksX1_tellings_0 23 rfl rfl)
theorem dX1_tellings_24 : decode cX1_tellings 24 = .ok (.iload_n 3, 1) := dk_29 (dk_at dksX1_tellings_1 0 rfl rfl)
theorem dX1_tellings_25 : decode cX1_tellings 25 = .ok (.invokevirtual 332, 3) := dk_182 1 76 (dk_at dksX1_tellings_1 1 rfl rfl)
theorem dX1_tellings_28 : decode cX1_tellings 28 = .ok (.ifCond .eq 7, 3) := dk_153 0 7 (dk_at dksX1_tellings_1 4 rfl rfl)
theorem dX1_tellings_31 : decode cX1_tellings 31 = .ok (.iconst 1, 1) := dk_4 (dk_at dksX1_tellings_1 7 rfl rfl)
theorem dX1_tellings_32 : decode cX1_tellings 32 = .ok (.goto 4, 3) := dk_167 0 4 (dk_at dksX1_tellings_1 8 rfl rfl)
theorem dX1_tellings_35 : decode cX1_tellings 35 = .ok (.iconst 0, 1) := dk_3 (dk_at dksX1_tellings_1 11 rfl rfl)
theorem dX1_tellings_36 : decode cX1_tellings 36 = .ok (.iadd, 1) := dk_96 (dk_at dksX1_tellings_1 12 rfl rfl)
theorem dX1_tellings_37 : decode cX1_tellings 37 = .ok (.istore_n 1, 1) := dk_60 (dk_at dksX1_tellings_1 13 rfl rfl)
theorem dX1_tellings_38 : decode cX1_tellings 38 = .ok (.iinc 3 1, 3) := dk_132 3 1 (dk_at dksX1_tellings_1 14 rfl rfl)
theorem dX1_tellings_41 : decode cX1_tellings 41 = .ok (.goto (-30), 3) := dk_167 255 226 (dk_at dksX1_tellings_1 17 rfl rfl)
theorem dX1_tellings_44 : decode cX1_tellings 44 = .ok (.iinc 2 1, 3) := dk_132 2 1 (dk_at dksX1_tellings_1 20 rfl rfl)
theorem dX1_tellings_47 : decode cX1_tellings 47 = .ok (.goto (-43), 3) := dk_167 255 213 (dk_at dksX1_tellings_2 0 rfl rfl)
theorem dX1_tellings_50 : decode cX1_tellings 50 = .ok (.iload_n 1, 1) := dk_27 (dk_at dksX1_tellings_2 3 rfl rfl)
theorem dX1_tellings_51 : decode cX1_tellings 51 = .ok (.ireturn, 1) := dk_172 (dk_at dksX1_tellings_2 4 rfl rfl)
abbrev cX1_mostLeaps : ByteArray := prog_1_method_62_code
def yX1_mostLeaps : MethodName := ⟨RX1, "mostLeaps", "()I"⟩
def dkwX1_mostLeaps_1 : List UInt8 := [180, 0, 239, 184, 1, 79, 60, 132, 2, 1, 167, 255, 227, 27, 172]
abbrev dktX1_mostLeaps_1 : List UInt8 := dkwX1_mostLeaps_1 ++ []
def dkwX1_mostLeaps_0 : List UInt8 := [3, 60, 3, 61, 28, 16, 24, 162, 0, 29, 27, 42, 180, 0, 62, 42, 180, 0, 46, 28, 182, 0, 128]
abbrev dktX1_mostLeaps_0 : List UInt8 := dkwX1_mostLeaps_0 ++ dktX1_mostLeaps_1
theorem dksX1_mostLeaps_0 : cX1_mostLeaps.data.toList.drop 0 = dktX1_mostLeaps_0 := by decide +kernel
theorem dksX1_mostLeaps_1 : cX1_mostLeaps.data.toList.drop 23 = dktX1_mostLeaps_1 := dk_seg dksX1_mostLeaps_0 23 rfl rfl
theorem dX1_mostLeaps_0 : decode cX1_mostLeaps 0 = .ok (.iconst 0, 1) := dk_3 (dk_at dksX1_mostLeaps_0 0 rfl rfl)
theorem dX1_mostLeaps_1 : decode cX1_mostLeaps 1 = .ok (.istore_n 1, 1) := dk_60 (dk_at dksX1_mostLeaps_0 1 rfl rfl)
theorem dX1_mostLeaps_2 : decode cX1_mostLeaps 2 = .ok (.iconst 0, 1) := dk_3 (dk_at dksX1_mostLeaps_0 2 rfl rfl)
theorem dX1_mostLeaps_3 : decode cX1_mostLeaps 3 = .ok (.istore_n 2, 1) := dk_61 (dk_at dksX1_mostLeaps_0 3 rfl rfl)
theorem dX1_mostLeaps_4 : decode cX1_mostLeaps 4 = .ok (.iload_n 2, 1) := dk_28 (dk_at dksX1_mostLeaps_0 4 rfl rfl)
theorem dX1_mostLeaps_5 : decode cX1_mostLeaps 5 = .ok (.bipush 24, 2) := dk_16 24 (dk_at dksX1_mostLeaps_0 5 rfl rfl)
theorem dX1_mostLeaps_7 : decode cX1_mostLeaps 7 = .ok (.if_icmp .ge 29, 3) := dk_162 0 29 (dk_at dksX1_mostLeaps_0 7 rfl rfl)
theorem dX1_mostLeaps_10 : decode cX1_mostLeaps 10 = .ok (.iload_n 1, 1) := dk_27 (dk_at dksX1_mostLeaps_0 10 rfl rfl)
theorem dX1_mostLeaps_11 : decode cX1_mostLeaps 11 = .ok (.aload_n 0, 1) := dk_42 (dk_at dksX1_mostLeaps_0 11 rfl rfl)
theorem dX1_mostLeaps_12 : decode cX1_mostLeaps 12 = .ok (.getfield 62, 3) := dk_180 0 62 (dk_at dksX1_mostLeaps_0 12 rfl rfl)
theorem dX1_mostLeaps_15 : decode cX1_mostLeaps 15 = .ok (.aload_n 0, 1) := dk_42 (dk_at dksX1_mostLeaps_0 15 rfl rfl)
theorem dX1_mostLeaps_16 : decode cX1_mostLeaps 16 = .ok (.getfield 46, 3) := dk_180 0 46 (dk_at dksX1_mostLeaps_0 16 rfl rfl)
theorem dX1_mostLeaps_19 : decode cX1_mostLeaps 19 = .ok (.iload_n 2, 1) := dk_28 (dk_at dksX1_mostLeaps_0 19 rfl rfl)
theorem dX1_mostLeaps_20 : decode cX1_mostLeaps 20 = .ok (.invokevirtual 128, 3) := dk_182 0 128 (dk_at dksX1_mostLeaps_0 20 rfl rfl)
theorem dX1_mostLeaps_23 : decode cX1_mostLeaps 23 = .ok (.getfield 239, 3) := dk_180 0 239 (dk_at dksX1_mostLeaps_1 0 rfl rfl)
theorem dX1_mostLeaps_26 : decode cX1_mostLeaps 26 = .ok (.invokestatic 335, 3) := dk_184 1 79 (dk_at dksX1_mostLeaps_1 3 rfl rfl)
theorem dX1_mostLeaps_29 : decode cX1_mostLeaps 29 = .ok (.istore_n 1, 1) := dk_60 (dk_at dksX1_mostLeaps_1 6 rfl rfl)
theorem dX1_mostLeaps_30 : decode cX1_mostLeaps 30 = .ok (.iinc 2 1, 3) := dk_132 2 1 (dk_at dksX1_mostLeaps_1 7 rfl rfl)
theorem dX1_mostLeaps_33 : decode cX1_mostLeaps 33 = .ok (.goto (-29), 3) := dk_167 255 227 (dk_at dksX1_mostLeaps_1 10 rfl rfl)
theorem dX1_mostLeaps_36 : decode cX1_mostLeaps 36 = .ok (.iload_n 1, 1) := dk_27 (dk_at dksX1_mostLeaps_1 13 rfl rfl)
theorem dX1_mostLeaps_37 : decode cX1_mostLeaps 37 = .ok (.ireturn, 1) := dk_172 (dk_at dksX1_mostLeaps_1 14 rfl rfl)
abbrev cX1_image : ByteArray := prog_1_method_64_code
def yX1_image : MethodName := ⟨RX1, "image", "()I"⟩
def dkwX1_image_1 : List UInt8 := [181, 0, 121, 42, 182, 0, 153, 180, 0, 156, 172]
abbrev dktX1_image_1 : List UInt8 := dkwX1_image_1 ++ []
def dkwX1_image_0 : List UInt8 := [42, 180, 0, 79, 154, 0, 5, 2, 172, 42, 180, 0, 50, 42, 180, 0, 46, 182, 0, 136, 42, 4]
abbrev dktX1_image_0 : List UInt8 := dkwX1_image_0 ++ dktX1_image_1
theorem dksX1_image_0 : cX1_image.data.toList.drop 0 = dktX1_image_0 := by decide +kernel
theorem dksX1_image_1 : cX1_image.data.toList.drop 22 = dktX1_image_1 := dk_seg dksX1_image_0 22 rfl rfl
theorem dX1_image_0 : decode cX1_image 0 = .ok (.aload_n 0, 1) := dk_42 (dk_at dksX1_image_0 0 rfl rfl)
theorem dX1_image_1 : decode cX1_image 1 = .ok (.getfield 79, 3) := dk_180 0 79 (dk_at dksX1_image_0 1 rfl rfl)
theorem dX1_image_4 : decode cX1_image 4 = .ok (.ifCond .ne 5, 3) := dk_154 0 5 (dk_at dksX1_image_0 4 rfl rfl)
theorem dX1_image_7 : decode cX1_image 7 = .ok (.iconst (-1), 1) := dk_2 (dk_at dksX1_image_0 7 rfl rfl)
theorem dX1_image_8 : decode cX1_image 8 = .ok (.ireturn, 1) := dk_172 (dk_at dksX1_image_0 8 rfl rfl)
theorem dX1_image_9 : decode cX1_image 9 = .ok (.aload_n 0, 1) := dk_42 (dk_at dksX1_image_0 9 rfl rfl)
theorem dX1_image_10 : decode cX1_image 10 = .ok (.getfield 50, 3) := dk_180 0 50 (dk_at dksX1_image_0 10 rfl rfl)
theorem dX1_image_13 : decode cX1_image 13 = .ok (.aload_n 0, 1) := dk_42 (dk_at dksX1_image_0 13 rfl rfl)
theorem dX1_image_14 : decode cX1_image 14 = .ok (.getfield 46, 3) := dk_180 0 46 (dk_at dksX1_image_0 14 rfl rfl)
theorem dX1_image_17 : decode cX1_image 17 = .ok (.invokevirtual 136, 3) := dk_182 0 136 (dk_at dksX1_image_0 17 rfl rfl)
theorem dX1_image_20 : decode cX1_image 20 = .ok (.aload_n 0, 1) := dk_42 (dk_at dksX1_image_0 20 rfl rfl)
theorem dX1_image_21 : decode cX1_image 21 = .ok (.iconst 1, 1) := dk_4 (dk_at dksX1_image_0 21 rfl rfl)
theorem dX1_image_22 : decode cX1_image 22 = .ok (.putfield 121, 3) := dk_181 0 121 (dk_at dksX1_image_1 0 rfl rfl)
theorem dX1_image_25 : decode cX1_image 25 = .ok (.aload_n 0, 1) := dk_42 (dk_at dksX1_image_1 3 rfl rfl)
theorem dX1_image_26 : decode cX1_image 26 = .ok (.invokevirtual 153, 3) := dk_182 0 153 (dk_at dksX1_image_1 4 rfl rfl)
theorem dX1_image_29 : decode cX1_image 29 = .ok (.getfield 156, 3) := dk_180 0 156 (dk_at dksX1_image_1 7 rfl rfl)
theorem dX1_image_32 : decode cX1_image 32 = .ok (.ireturn, 1) := dk_172 (dk_at dksX1_image_1 10 rfl rfl)
abbrev cX1_back : ByteArray := prog_1_method_65_code
def yX1_back : MethodName := ⟨RX1, "back", "()I"⟩
def dkwX1_back_1 : List UInt8 := [181, 0, 118, 42, 182, 0, 153, 180, 0, 156, 172]
abbrev dktX1_back_1 : List UInt8 := dkwX1_back_1 ++ []
def dkwX1_back_0 : List UInt8 := [42, 180, 0, 121, 154, 0, 5, 2, 172, 42, 180, 0, 46, 42, 180, 0, 50, 182, 0, 136, 42, 3]
abbrev dktX1_back_0 : List UInt8 := dkwX1_back_0 ++ dktX1_back_1
theorem dksX1_back_0 : cX1_back.data.toList.drop 0 = dktX1_back_0 := by decide +kernel
theorem dksX1_back_1 : cX1_back.data.toList.drop 22 = dktX1_back_1 := dk_seg dksX1_back_0 22 rfl rfl
theorem dX1_back_0 : decode cX1_back 0 = .ok (.aload_n 0, 1) := dk_42 (dk_at dksX1_back_0 0 rfl rfl)
theorem dX1_back_1 : decode cX1_back 1 = .ok (.getfield 121, 3) := dk_180 0 121 (dk_at dksX1_back_0 1 rfl rfl)
theorem dX1_back_4 : decode cX1_back 4 = .ok (.ifCond .ne 5, 3) := dk_154 0 5 (dk_at dksX1_back_0 4 rfl rfl)
theorem dX1_back_7 : decode cX1_back 7 = .ok (.iconst (-1), 1) := dk_2 (dk_at dksX1_back_0 7 rfl rfl)
theorem dX1_back_8 : decode cX1_back 8 = .ok (.ireturn, 1) := dk_172 (dk_at dksX1_back_0 8 rfl rfl)
theorem dX1_back_9 : decode cX1_back 9 = .ok (.aload_n 0, 1) := dk_42 (dk_at dksX1_back_0 9 rfl rfl)
theorem dX1_back_10 : decode cX1_back 10 = .ok (.getfield 46, 3) := dk_180 0 46 (dk_at dksX1_back_0 10 rfl rfl)
theorem dX1_back_13 : decode cX1_back 13 = .ok (.aload_n 0, 1) := dk_42 (dk_at dksX1_back_0 13 rfl rfl)
theorem dX1_back_14 : decode cX1_back 14 = .ok (.getfield 50, 3) := dk_180 0 50 (dk_at dksX1_back_0 14 rfl rfl)
theorem dX1_back_17 : decode cX1_back 17 = .ok (.invokevirtual 136, 3) := dk_182 0 136 (dk_at dksX1_back_0 17 rfl rfl)
theorem dX1_back_20 : decode cX1_back 20 = .ok (.aload_n 0, 1) := dk_42 (dk_at dksX1_back_0 20 rfl rfl)
theorem dX1_back_21 : decode cX1_back 21 = .ok (.iconst 0, 1) := dk_3 (dk_at dksX1_back_0 21 rfl rfl)
theorem dX1_back_22 : decode cX1_back 22 = .ok (.putfield 118, 3) := dk_181 0 118 (dk_at dksX1_back_1 0 rfl rfl)
theorem dX1_back_25 : decode cX1_back 25 = .ok (.aload_n 0, 1) := dk_42 (dk_at dksX1_back_1 3 rfl rfl)
theorem dX1_back_26 : decode cX1_back 26 = .ok (.invokevirtual 153, 3) := dk_182 0 153 (dk_at dksX1_back_1 4 rfl rfl)
theorem dX1_back_29 : decode cX1_back 29 = .ok (.getfield 156, 3) := dk_180 0 156 (dk_at dksX1_back_1 7 rfl rfl)
theorem dX1_back_32 : decode cX1_back 32 = .ok (.ireturn, 1) := dk_172 (dk_at dksX1_back_1 10 rfl rfl)
abbrev cX1_count : ByteArray := prog_1_method_66_code
def yX1_count : MethodName := ⟨RX1, "count", "(I)I"⟩
def dkwX1_count_3 : List UInt8 := [167, 0, 10, 42, 180, 0, 46, 180, 0, 172, 172, 42, 180, 0, 118, 172, 18, 177, 172]
abbrev dktX1_count_3 : List UInt8 := dkwX1_count_3 ++ []
def dkwX1_count_2 : List UInt8 := [42, 180, 0, 79, 172, 42, 180, 0, 109, 172, 42, 180, 0, 7, 172, 42, 180, 0, 79, 154, 0, 7, 3]
abbrev dktX1_count_2 : List UInt8 := dkwX1_count_2 ++ dktX1_count_3
def dkwX1_count_1 : List UInt8 := [170, 0, 0, 0, 0, 0, 74, 0, 0, 0, 0, 0, 0, 0, 4, 0, 0, 0, 35, 0, 0, 0, 40, 0, 0, 0, 45, 0, 0, 0, 50, 0, 0, 0, 69]
abbrev dktX1_count_1 : List UInt8 := dkwX1_count_1 ++ dktX1_count_2
def dkwX1_count_0 : List UInt8 := [27]
abbrev dktX1_count_0 : List UInt8 := dkwX1_count_0 ++ dktX1_count_1
theorem dksX1_count_0 : cX1_count.data.toList.drop 0 = dktX1_count_0 := by decide +kernel
theorem dksX1_count_1 : cX1_count.data.toList.drop 1 = dktX1_count_1 := dk_seg dksX1_count_0 1 rfl rfl
theorem dksX1_count_2 : cX1_count.data.toList.drop 36 = dktX1_count_2 := dk_seg dksX1_count_1 35 rfl rfl
theorem dksX1_count_3 : cX1_count.data.toList.drop 59 = dktX1_count_3 := dk_seg dksX1_count_2 23 rfl rfl
theorem dX1_count_0 : decode cX1_count 0 = .ok (.iload_n 1, 1) := dk_27 (dk_at dksX1_count_0 0 rfl rfl)
theorem dX1_count_1 : decode cX1_count 1 = .ok (.tableswitch 74 0 4 #[35, 40, 45, 50, 69], 35) := by decide +kernel
theorem dX1_count_36 : decode cX1_count 36 = .ok (.aload_n 0, 1) := dk_42 (dk_at dksX1_count_2 0 rfl rfl)
theorem dX1_count_37 : decode cX1_count 37 = .ok (.getfield 79, 3) := dk_180 0 79 (dk_at dksX1_count_2 1 rfl rfl)
theorem dX1_count_40 : decode cX1_count 40 = .ok (.ireturn, 1) := dk_172 (dk_at dksX1_count_2 4 rfl rfl)
theorem dX1_count_41 : decode cX1_count 41 = .ok (.aload_n 0, 1) := dk_42 (dk_at dksX1_count_2 5 rfl rfl)
theorem dX1_count_42 : decode cX1_count 42 = .ok (.getfield 109, 3) := dk_180 0 109 (dk_at dksX1_count_2 6 rfl rfl)
theorem dX1_count_45 : decode cX1_count 45 = .ok (.ireturn, 1) := dk_172 (dk_at dksX1_count_2 9 rfl rfl)
theorem dX1_count_46 : decode cX1_count 46 = .ok (.aload_n 0, 1) := dk_42 (dk_at dksX1_count_2 10 rfl rfl)
theorem dX1_count_47 : decode cX1_count 47 = .ok (.getfield 7, 3) := dk_180 0 7 (dk_at dksX1_count_2 11 rfl rfl)
theorem dX1_count_50 : decode cX1_count 50 = .ok (.ireturn, 1) := dk_172 (dk_at dksX1_count_2 14 rfl rfl)
theorem dX1_count_51 : decode cX1_count 51 = .ok (.aload_n 0, 1) := dk_42 (dk_at dksX1_count_2 15 rfl rfl)
theorem dX1_count_52 : decode cX1_count 52 = .ok (.getfield 79, 3) := dk_180 0 79 (dk_at dksX1_count_2 16 rfl rfl)
theorem dX1_count_55 : decode cX1_count 55 = .ok (.ifCond .ne 7, 3) := dk_154 0 7 (dk_at dksX1_count_2 19 rfl rfl)
theorem dX1_count_58 : decode cX1_count 58 = .ok (.iconst 0, 1) := dk_3 (dk_at dksX1_count_2 22 rfl rfl)
theorem dX1_count_59 : decode cX1_count 59 = .ok (.goto 10, 3) := dk_167 0 10 (dk_at dksX1_count_3 0 rfl rfl)
theorem dX1_count_62 : decode cX1_count 62 = .ok (.aload_n 0, 1) := dk_42 (dk_at dksX1_count_3 3 rfl rfl)
theorem dX1_count_63 : decode cX1_count 63 = .ok (.getfield 46, 3) := dk_180 0 46 (dk_at dksX1_count_3 4 rfl rfl)
theorem dX1_count_66 : decode cX1_count 66 = .ok (.getfield 172, 3) := dk_180 0 172 (dk_at dksX1_count_3 7 rfl rfl)
theorem dX1_count_69 : decode cX1_count 69 = .ok (.ireturn, 1) := dk_172 (dk_at dksX1_count_3 10 rfl rfl)
theorem dX1_count_70 : decode cX1_count 70 = .ok (.aload_n 0, 1) := dk_42 (dk_at dksX1_count_3 11 rfl rfl)
theorem dX1_count_71 : decode cX1_count 71 = .ok (.getfield 118, 3) := dk_180 0 118 (dk_at dksX1_count_3 12 rfl rfl)
theorem dX1_count_74 : decode cX1_count 74 = .ok (.ireturn, 1) := dk_172 (dk_at dksX1_count_3 15 rfl rfl)
theorem dX1_count_75 : decode cX1_count 75 = .ok (.ldc 177, 2) := dk_18 177 (dk_at dksX1_count_3 16 rfl rfl)
theorem dX1_count_77 : decode cX1_count 77 = .ok (.ireturn, 1) := dk_172 (dk_at dksX1_count_3 18 rfl rfl)
abbrev cX1_table : ByteArray := prog_1_method_26_code
def yX1_table : MethodName := ⟨RX1, "table", "(II)I"⟩
def dkwX1_table_3 : List UInt8 := [167, 0, 14, 42, 180, 0, 46, 180, 0, 215, 27, 122, 4, 126, 172]
abbrev dktX1_table_3 : List UInt8 := dkwX1_table_3 ++ []
def dkwX1_table_2 : List UInt8 := [167, 0, 38, 28, 4, 160, 0, 10, 45, 182, 0, 227, 167, 0, 26, 28, 5, 160, 0, 10, 45, 180, 0, 193]
abbrev dktX1_table_2 : List UInt8 := dkwX1_table_2 ++ dktX1_table_3
def dkwX1_table_1 : List UInt8 := [183, 0, 226, 191, 42, 180, 0, 46, 180, 0, 191, 27, 50, 78, 28, 154, 0, 11, 45, 180, 0, 202, 190]
abbrev dktX1_table_1 : List UInt8 := dkwX1_table_1 ++ dktX1_table_2
def dkwX1_table_0 : List UInt8 := [42, 27, 182, 0, 223, 153, 0, 15, 28, 133, 9, 20, 0, 170, 184, 0, 82, 154, 0, 11, 187, 0, 224, 89]
abbrev dktX1_table_0 : List UInt8 := dkwX1_table_0 ++ dktX1_table_1
theorem dksX1_table_0 : cX1_table.data.toList.drop 0 = dktX1_table_0 := by decide +kernel
theorem dksX1_table_1 : cX1_table.data.toList.drop 24 = dktX1_table_1 := dk_seg dksX1_table_0 24 rfl rfl
theorem dksX1_table_2 : cX1_table.data.toList.drop 47 = dktX1_table_2 := dk_seg dksX1_table_1 23 rfl rfl
theorem dksX1_table_3 : cX1_table.data.toList.drop 71 = dktX1_table_3 := dk_seg dksX1_table_2 24 rfl rfl
theorem dX1_table_0 : decode cX1_table 0 = .ok (.aload_n 0, 1) := dk_42 (dk_at dksX1_table_0 0 rfl rfl)
theorem dX1_table_1 : decode cX1_table 1 = .ok (.iload_n 1, 1) := dk_27 (dk_at dksX1_table_0 1 rfl rfl)
theorem dX1_table_2 : decode cX1_table 2 = .ok (.invokevirtual 223, 3) := dk_182 0 223 (dk_at dksX1_table_0 2 rfl rfl)
theorem dX1_table_5 : decode cX1_table 5 = .ok (.ifCond .eq 15, 3) := dk_153 0 15 (dk_at dksX1_table_0 5 rfl rfl)
theorem dX1_table_8 : decode cX1_table 8 = .ok (.iload_n 2, 1) := dk_28 (dk_at dksX1_table_0 8 rfl rfl)
theorem dX1_table_9 : decode cX1_table 9 = .ok (.i2l, 1) := dk_133 (dk_at dksX1_table_0 9 rfl rfl)
theorem dX1_table_10 : decode cX1_table 10 = .ok (.lconst 0, 1) := dk_9 (dk_at dksX1_table_0 10 rfl rfl)
theorem dX1_table_11 : decode cX1_table 11 = .ok (.ldc2_w 170, 3) := dk_20 0 170 (dk_at dksX1_table_0 11 rfl rfl)
theorem dX1_table_14 : decode cX1_table 14 = .ok (.invokestatic 82, 3) := dk_184 0 82 (dk_at dksX1_table_0 14 rfl rfl)
theorem dX1_table_17 : decode cX1_table 17 = .ok (.ifCond .ne 11, 3) := dk_154 0 11 (dk_at dksX1_table_0 17 rfl rfl)
theorem dX1_table_20 : decode cX1_table 20 = .ok (.new 224, 3) := dk_187 0 224 (dk_at dksX1_table_0 20 rfl rfl)
theorem dX1_table_23 : decode cX1_table 23 = .ok (.dup, 1) := dk_89 (dk_at dksX1_table_0 23 rfl rfl)
theorem dX1_table_24 : decode cX1_table 24 = .ok (.invokespecial 226, 3) := dk_183 0 226 (dk_at dksX1_table_1 0 rfl rfl)
theorem dX1_table_27 : decode cX1_table 27 = .ok (.athrow, 1) := dk_191 (dk_at dksX1_table_1 3 rfl rfl)
theorem dX1_table_28 : decode cX1_table 28 = .ok (.aload_n 0, 1) := dk_42 (dk_at dksX1_table_1 4 rfl rfl)
theorem dX1_table_29 : decode cX1_table 29 = .ok (.getfield 46, 3) := dk_180 0 46 (dk_at dksX1_table_1 5 rfl rfl)
theorem dX1_table_32 : decode cX1_table 32 = .ok (.getfield 191, 3) := dk_180 0 191 (dk_at dksX1_table_1 8 rfl rfl)
theorem dX1_table_35 : decode cX1_table 35 = .ok (.iload_n 1, 1) := dk_27 (dk_at dksX1_table_1 11 rfl rfl)
theorem dX1_table_36 : decode cX1_table 36 = .ok (.aaload, 1) := dk_50 (dk_at dksX1_table_1 12 rfl rfl)
theorem dX1_table_37 : decode cX1_table 37 = .ok (.astore_n 3, 1) := dk_78 (dk_at dksX1_table_1 13 rfl rfl)
theorem dX1_table_38 : decode cX1_table 38 = .ok (.iload_n 2, 1) := dk_28 (dk_at dksX1_table_1 14 rfl rfl)
theorem dX1_table_39 : decode cX1_table 39 = .ok (.ifCond .ne 11, 3) := dk_154 0 11 (dk_at dksX1_table_1 15 rfl rfl)
theorem dX1_table_42 : decode cX1_table 42 = .ok (.aload_n 3, 1) := dk_45 (dk_at dksX1_table_1 18 rfl rfl)
theorem dX1_table_43 : decode cX1_table 43 = .ok (.getfield 202, 3) := dk_180 0 202 (dk_at dksX1_table_1 19 rfl rfl)
theorem dX1_table_46 : decode cX1_table 46 = .ok (.arraylength, 1) := dk_190 (dk_at dksX1_table_1 22 rfl rfl)
theorem dX1_table_47 : decode cX1_table 47 = .ok (.goto 38, 3) := dk_167 0 38 (dk_at dksX1_table_2 0 rfl rfl)
theorem dX1_table_50 : decode cX1_table 50 = .ok (.iload_n 2, 1) := dk_28 (dk_at dksX1_table_2 3 rfl rfl)
theorem dX1_table_51 : decode cX1_table 51 = .ok (.iconst 1, 1) := dk_4 (dk_at dksX1_table_2 4 rfl rfl)
theorem dX1_table_52 : decode cX1_table 52 = .ok (.if_icmp .ne 10, 3) := dk_160 0 10 (dk_at dksX1_table_2 5 rfl rfl)
theorem dX1_table_55 : decode cX1_table 55 = .ok (.aload_n 3, 1) := dk_45 (dk_at dksX1_table_2 8 rfl rfl)
theorem dX1_table_56 : decode cX1_table 56 = .ok (.invokevirtual 227, 3) := dk_182 0 227 (dk_at dksX1_table_2 9 rfl rfl)
theorem dX1_table_59 : decode cX1_table 59 = .ok (.goto 26, 3) := dk_167 0 26 (dk_at dksX1_table_2 12 rfl rfl)
theorem dX1_table_62 : decode cX1_table 62 = .ok (.iload_n 2, 1) := dk_28 (dk_at dksX1_table_2 15 rfl rfl)
theorem dX1_table_63 : decode cX1_table 63 = .ok (.iconst 2, 1) := dk_5 (dk_at dksX1_table_2 16 rfl rfl)
theorem dX1_table_64 : decode cX1_table 64 = .ok (.if_icmp .ne 10, 3) := dk_160 0 10 (dk_at dksX1_table_2 17 rfl rfl)
theorem dX1_table_67 : decode cX1_table 67 = .ok (.aload_n 3, 1) := dk_45 (dk_at dksX1_table_2 20 rfl rfl)
theorem dX1_table_68 : decode cX1_table 68 = .ok (.getfield 193, 3) := dk_180 0 193 (dk_at dksX1_table_2 21 rfl rfl)
theorem dX1_table_71 : decode cX1_table 71 = .ok (.goto 14, 3) := dk_167 0 14 (dk_at dksX1_table_3 0 rfl rfl)
theorem dX1_table_74 : decode cX1_table 74 = .ok (.aload_n 0, 1) := dk_42 (dk_at dksX1_table_3 3 rfl rfl)
theorem dX1_table_75 : decode cX1_table 75 = .ok (.getfield 46, 3) := dk_180 0 46 (dk_at dksX1_table_3 4 rfl rfl)
theorem dX1_table_78 : decode cX1_table 78 = .ok (.getfield 215, 3) := dk_180 0 215 (dk_at dksX1_table_3 7 rfl rfl)
theorem dX1_table_81 : decode cX1_table 81 = .ok (.iload_n 1, 1) := dk_27 (dk_at dksX1_table_3 10 rfl rfl)
theorem dX1_table_82 : decode cX1_table 82 = .ok (.ishr, 1) := dk_122 (dk_at dksX1_table_3 11 rfl rfl)
theorem dX1_table_83 : decode cX1_table 83 = .ok (.iconst 1, 1) := dk_4 (dk_at dksX1_table_3 12 rfl rfl)
theorem dX1_table_84 : decode cX1_table 84 = .ok (.iand, 1) := dk_126 (dk_at dksX1_table_3 13 rfl rfl)
theorem dX1_table_85 : decode cX1_table 85 = .ok (.ireturn, 1) := dk_172 (dk_at dksX1_table_3 14 rfl rfl)
theorem q122 : (Jvm.Cond.initialized "LeapJoin") ∈ lw_all := lw_g (lw_at lw_m1 1 rfl) rfl
theorem q151 : (Jvm.Cond.instanceMethod ({ cls := "LeapJoin", name := "feed", desc := "(IIIII)I" } : Jvm.MethodName)) ∈ lw_all := lw_g (lw_at lw_m1 30 rfl) rfl
theorem q152 : (Jvm.Cond.selects "LeapJoin" ({ cls := "LeapJoin", name := "feed", desc := "(IIIII)I" } : Jvm.MethodName) ({ cls := "LeapJoin", name := "feed", desc := "(IIIII)I" } : Jvm.MethodName)) ∈ lw_all := lw_g (lw_at lw_m1 31 rfl) rfl
theorem q153 : (Jvm.Cond.code ({ cls := "LeapJoin", name := "feed", desc := "(IIIII)I" } : Jvm.MethodName) prog_1_method_3_code (7 : Nat) (Option.some Jvm.ClassFile.FieldType.int)) ∈ lw_all := lw_g (lw_at lw_m1 32 rfl) rfl
theorem q154 : (Jvm.Cond.methodLink "LeapJoin" (1 : Nat) ({ cls := "LeapJoin", name := "bytes", desc := "(I)I" } : Jvm.MethodName)) ∈ lw_all := lw_g (lw_at lw_m1 33 rfl) rfl
theorem q155 : (Jvm.Cond.static ({ cls := "LeapJoin", name := "bytes", desc := "(I)I" } : Jvm.MethodName)) ∈ lw_all := lw_g (lw_at lw_m1 34 rfl) rfl
theorem q156 : (Jvm.Cond.code ({ cls := "LeapJoin", name := "bytes", desc := "(I)I" } : Jvm.MethodName) prog_1_method_4_code (3 : Nat) (Option.some Jvm.ClassFile.FieldType.int)) ∈ lw_all := lw_g (lw_at lw_m1 35 rfl) rfl
theorem q157 : (Jvm.Cond.methodLink "LeapJoin" (11 : Nat) ({ cls := "LeapJoin", name := "bring", desc := "(I)V" } : Jvm.MethodName)) ∈ lw_all := lw_g (lw_at lw_m1 36 rfl) rfl
theorem q158 : (Jvm.Cond.privateMethod ({ cls := "LeapJoin", name := "bring", desc := "(I)V" } : Jvm.MethodName)) ∈ lw_tbl := lw_at lw_m1 37 rfl
theorem q159 : (Jvm.Cond.instanceMethod ({ cls := "LeapJoin", name := "bring", desc := "(I)V" } : Jvm.MethodName)) ∈ lw_all := lw_g (lw_at lw_m1 38 rfl) rfl
theorem q160 : (Jvm.Cond.instantiable "LeapJoin" (22 : Nat)) ∈ lw_all := lw_g (lw_at lw_m1 39 rfl) rfl
theorem q161 : (Jvm.Cond.code ({ cls := "LeapJoin", name := "bring", desc := "(I)V" } : Jvm.MethodName) prog_1_method_5_code (3 : Nat) (Option.none : Option Jvm.ClassFile.FieldType)) ∈ lw_all := lw_g (lw_at lw_m1 40 rfl) rfl
theorem q163 : (Jvm.Cond.instanceMethod ({ cls := "LeapJoin", name := "end", desc := "(I)Z" } : Jvm.MethodName)) ∈ lw_all := lw_g (lw_at lw_m1 42 rfl) rfl
theorem q164 : (Jvm.Cond.selects "LeapJoin" ({ cls := "LeapJoin", name := "end", desc := "(I)Z" } : Jvm.MethodName) ({ cls := "LeapJoin", name := "end", desc := "(I)Z" } : Jvm.MethodName)) ∈ lw_all := lw_g (lw_at lw_m1 43 rfl) rfl
theorem q165 : (Jvm.Cond.code ({ cls := "LeapJoin", name := "end", desc := "(I)Z" } : Jvm.MethodName) prog_1_method_6_code (2 : Nat) (Option.some Jvm.ClassFile.FieldType.boolean)) ∈ lw_all := lw_g (lw_at lw_m1 44 rfl) rfl
theorem q168 : (Jvm.Cond.instanceMethod ({ cls := "LeapJoin", name := "<init>", desc := "()V" } : Jvm.MethodName)) ∈ lw_all := lw_g (lw_at lw_m1 47 rfl) rfl
theorem q169 : (Jvm.Cond.code ({ cls := "LeapJoin", name := "<init>", desc := "()V" } : Jvm.MethodName) prog_1_method_7_code (1 : Nat) (Option.none : Option Jvm.ClassFile.FieldType)) ∈ lw_all := lw_g (lw_at lw_m1 48 rfl) rfl
theorem q170 : (Jvm.Cond.methodLink "LeapJoin" (19 : Nat) ({ cls := "java/lang/Object", name := "<init>", desc := "()V" } : Jvm.MethodName)) ∈ lw_all := lw_g (lw_at lw_m1 49 rfl) rfl
theorem q173 : (Jvm.Cond.classLink "LeapJoin" (25 : Nat) "LeapJoin$Script") ∈ lw_all := lw_g (lw_at lw_m1 52 rfl) rfl
theorem q175 : (Jvm.Cond.classLink "LeapJoin" (35 : Nat) "LeapJoin$Table") ∈ lw_all := lw_g (lw_at lw_m1 54 rfl) rfl
theorem q177 : (Jvm.Cond.classLink "LeapJoin" (41 : Nat) "LeapJoin$State") ∈ lw_all := lw_g (lw_at lw_m1 56 rfl) rfl
theorem q179 : (Jvm.Cond.methodLinkNest "LeapJoin" (43 : Nat) ({ cls := "LeapJoin$State", name := "<init>", desc := "(LLeapJoin;)V" } : Jvm.MethodName) "LeapJoin") ∈ lw_tbl := lw_at lw_m1 58 rfl
theorem q186 : (Jvm.Cond.fieldLinkNest "LeapJoin" (191 : Nat) "LeapJoin$State" "tables" "[LLeapJoin$Table;" "LeapJoin") ∈ lw_tbl := lw_at lw_m1 65 rfl
theorem q188 : (Jvm.Cond.fieldLinkNest "LeapJoin" (178 : Nat) "LeapJoin$State" "notes" "[I" "LeapJoin") ∈ lw_tbl := lw_at lw_m1 67 rfl
theorem q191 : (Jvm.Cond.fieldLinkNest "LeapJoin" (215 : Nat) "LeapJoin$State" "used" "I" "LeapJoin") ∈ lw_tbl := lw_at lw_m1 70 rfl
theorem q193 : (Jvm.Cond.fieldLinkNest "LeapJoin" (125 : Nat) "LeapJoin$State" "order" "I" "LeapJoin") ∈ lw_tbl := lw_at lw_m1 72 rfl
theorem q195 : (Jvm.Cond.fieldLinkNest "LeapJoin" (172 : Nat) "LeapJoin$State" "noteMany" "I" "LeapJoin") ∈ lw_tbl := lw_at lw_m1 74 rfl
theorem q197 : (Jvm.Cond.fieldLinkNest "LeapJoin" (164 : Nat) "LeapJoin$State" "came" "I" "LeapJoin") ∈ lw_tbl := lw_at lw_m1 76 rfl
theorem q216 : (Jvm.Cond.classLink "LeapJoin" (59 : Nat) "LeapJoin$Join") ∈ lw_all := lw_g (lw_at lw_m1 95 rfl) rfl
theorem q218 : (Jvm.Cond.methodLinkNest "LeapJoin" (61 : Nat) ({ cls := "LeapJoin$Join", name := "<init>", desc := "(LLeapJoin;)V" } : Jvm.MethodName) "LeapJoin") ∈ lw_tbl := lw_at lw_m1 97 rfl
theorem q231 : (Jvm.Cond.fieldLinkNest "LeapJoin" (245 : Nat) "LeapJoin$Join" "begun" "[I" "LeapJoin") ∈ lw_tbl := lw_at lw_m1 110 rfl
theorem q237 : (Jvm.Cond.fieldLinkNest "LeapJoin" (156 : Nat) "LeapJoin$Join" "many" "I" "LeapJoin") ∈ lw_tbl := lw_at lw_m1 116 rfl
theorem q239 : (Jvm.Cond.fieldLinkNest "LeapJoin" (239 : Nat) "LeapJoin$Join" "leaps" "I" "LeapJoin") ∈ lw_tbl := lw_at lw_m1 118 rfl
theorem q241 : (Jvm.Cond.fieldLinkNest "LeapJoin" (242 : Nat) "LeapJoin$Join" "deep" "I" "LeapJoin") ∈ lw_tbl := lw_at lw_m1 120 rfl
theorem q273 : (Jvm.Cond.fieldLink "LeapJoin" (15 : Nat) "LeapJoin" "tape" "[B") ∈ lw_all := lw_g (lw_at lw_m1 152 rfl) rfl
theorem q275 : (Jvm.Cond.fieldLink "LeapJoin" (7 : Nat) "LeapJoin" "length" "I") ∈ lw_all := lw_g (lw_at lw_m1 154 rfl) rfl
theorem q276 : (Jvm.Cond.fieldLink "LeapJoin" (27 : Nat) "LeapJoin" "scripts" "[LLeapJoin$Script;") ∈ lw_all := lw_g (lw_at lw_m1 155 rfl) rfl
theorem q277 : (Jvm.Cond.fieldLink "LeapJoin" (31 : Nat) "LeapJoin" "refused" "[I") ∈ lw_all := lw_g (lw_at lw_m1 156 rfl) rfl
theorem q279 : (Jvm.Cond.fieldLink "LeapJoin" (37 : Nat) "LeapJoin" "tablesRead" "[LLeapJoin$Table;") ∈ lw_all := lw_g (lw_at lw_m1 158 rfl) rfl
theorem q280 : (Jvm.Cond.fieldLink "LeapJoin" (109 : Nat) "LeapJoin" "scriptMany" "I") ∈ lw_all := lw_g (lw_at lw_m1 159 rfl) rfl
theorem q281 : (Jvm.Cond.fieldLink "LeapJoin" (93 : Nat) "LeapJoin" "readMany" "I") ∈ lw_all := lw_g (lw_at lw_m1 160 rfl) rfl
theorem q284 : (Jvm.Cond.fieldLink "LeapJoin" (79 : Nat) "LeapJoin" "many" "I") ∈ lw_all := lw_g (lw_at lw_m1 163 rfl) rfl
theorem q285 : (Jvm.Cond.fieldLink "LeapJoin" (100 : Nat) "LeapJoin" "scriptRead" "LLeapJoin$Script;") ∈ lw_all := lw_g (lw_at lw_m1 164 rfl) rfl
theorem q286 : (Jvm.Cond.fieldLink "LeapJoin" (46 : Nat) "LeapJoin" "now" "LLeapJoin$State;") ∈ lw_all := lw_g (lw_at lw_m1 165 rfl) rfl
theorem q287 : (Jvm.Cond.fieldLink "LeapJoin" (50 : Nat) "LeapJoin" "image" "LLeapJoin$State;") ∈ lw_all := lw_g (lw_at lw_m1 166 rfl) rfl
theorem q288 : (Jvm.Cond.fieldLink "LeapJoin" (53 : Nat) "LeapJoin" "trial" "LLeapJoin$State;") ∈ lw_all := lw_g (lw_at lw_m1 167 rfl) rfl
theorem q289 : (Jvm.Cond.fieldLink "LeapJoin" (56 : Nat) "LeapJoin" "before" "LLeapJoin$State;") ∈ lw_all := lw_g (lw_at lw_m1 168 rfl) rfl
theorem q290 : (Jvm.Cond.fieldLink "LeapJoin" (62 : Nat) "LeapJoin" "join" "LLeapJoin$Join;") ∈ lw_all := lw_g (lw_at lw_m1 169 rfl) rfl
theorem q291 : (Jvm.Cond.fieldLink "LeapJoin" (66 : Nat) "LeapJoin" "backs" "[LLeapJoin$State;") ∈ lw_all := lw_g (lw_at lw_m1 170 rfl) rfl
theorem q292 : (Jvm.Cond.fieldLink "LeapJoin" (118 : Nat) "LeapJoin" "undos" "I") ∈ lw_all := lw_g (lw_at lw_m1 171 rfl) rfl
theorem q293 : (Jvm.Cond.fieldLink "LeapJoin" (144 : Nat) "LeapJoin" "undoAt" "I") ∈ lw_all := lw_g (lw_at lw_m1 172 rfl) rfl
theorem q294 : (Jvm.Cond.fieldLink "LeapJoin" (180 : Nat) "LeapJoin" "x" "J") ∈ lw_all := lw_g (lw_at lw_m1 173 rfl) rfl
theorem q295 : (Jvm.Cond.fieldLink "LeapJoin" (70 : Nat) "LeapJoin" "codes" "[I") ∈ lw_all := lw_g (lw_at lw_m1 174 rfl) rfl
theorem q296 : (Jvm.Cond.fieldLink "LeapJoin" (73 : Nat) "LeapJoin" "image1" "[I") ∈ lw_all := lw_g (lw_at lw_m1 175 rfl) rfl
theorem q297 : (Jvm.Cond.fieldLink "LeapJoin" (76 : Nat) "LeapJoin" "sought" "[I") ∈ lw_all := lw_g (lw_at lw_m1 176 rfl) rfl
theorem q298 : (Jvm.Cond.fieldLink "LeapJoin" (121 : Nat) "LeapJoin" "hasImage" "Z") ∈ lw_all := lw_g (lw_at lw_m1 177 rfl) rfl
theorem q299 : (Jvm.Cond.laysFinal "LeapJoin" "LeapJoin" "tape" "[B") ∈ lw_all := lw_g (lw_at lw_m1 178 rfl) rfl
theorem q300 : (Jvm.Cond.soleField "LeapJoin" "tape") ∈ lw_all := lw_g (lw_at lw_m1 179 rfl) rfl
theorem q301 : (Jvm.Cond.lays "LeapJoin" "LeapJoin" "length" "I") ∈ lw_all := lw_g (lw_at lw_m1 180 rfl) rfl
theorem q302 : (Jvm.Cond.soleField "LeapJoin" "length") ∈ lw_all := lw_g (lw_at lw_m1 181 rfl) rfl
theorem q303 : (Jvm.Cond.laysFinal "LeapJoin" "LeapJoin" "scripts" "[LLeapJoin$Script;") ∈ lw_all := lw_g (lw_at lw_m1 182 rfl) rfl
theorem q304 : (Jvm.Cond.soleField "LeapJoin" "scripts") ∈ lw_all := lw_g (lw_at lw_m1 183 rfl) rfl
theorem q305 : (Jvm.Cond.laysFinal "LeapJoin" "LeapJoin" "refused" "[I") ∈ lw_all := lw_g (lw_at lw_m1 184 rfl) rfl
theorem q306 : (Jvm.Cond.soleField "LeapJoin" "refused") ∈ lw_all := lw_g (lw_at lw_m1 185 rfl) rfl
theorem q307 : (Jvm.Cond.laysFinal "LeapJoin" "LeapJoin" "tablesRead" "[LLeapJoin$Table;") ∈ lw_all := lw_g (lw_at lw_m1 186 rfl) rfl
theorem q308 : (Jvm.Cond.soleField "LeapJoin" "tablesRead") ∈ lw_all := lw_g (lw_at lw_m1 187 rfl) rfl
theorem q309 : (Jvm.Cond.lays "LeapJoin" "LeapJoin" "scriptMany" "I") ∈ lw_all := lw_g (lw_at lw_m1 188 rfl) rfl
theorem q310 : (Jvm.Cond.soleField "LeapJoin" "scriptMany") ∈ lw_all := lw_g (lw_at lw_m1 189 rfl) rfl
theorem q311 : (Jvm.Cond.lays "LeapJoin" "LeapJoin" "readMany" "I") ∈ lw_all := lw_g (lw_at lw_m1 190 rfl) rfl
theorem q312 : (Jvm.Cond.soleField "LeapJoin" "readMany") ∈ lw_all := lw_g (lw_at lw_m1 191 rfl) rfl
theorem q313 : (Jvm.Cond.lays "LeapJoin" "LeapJoin" "many" "I") ∈ lw_all := lw_g (lw_at lw_m1 192 rfl) rfl
theorem q314 : (Jvm.Cond.soleField "LeapJoin" "many") ∈ lw_all := lw_g (lw_at lw_m1 193 rfl) rfl
theorem q315 : (Jvm.Cond.lays "LeapJoin" "LeapJoin" "scriptRead" "LLeapJoin$Script;") ∈ lw_all := lw_g (lw_at lw_m1 194 rfl) rfl
theorem q316 : (Jvm.Cond.soleField "LeapJoin" "scriptRead") ∈ lw_all := lw_g (lw_at lw_m1 195 rfl) rfl
theorem q317 : (Jvm.Cond.laysFinal "LeapJoin" "LeapJoin" "now" "LLeapJoin$State;") ∈ lw_all := lw_g (lw_at lw_m1 196 rfl) rfl
theorem q318 : (Jvm.Cond.soleField "LeapJoin" "now") ∈ lw_all := lw_g (lw_at lw_m1 197 rfl) rfl
theorem q319 : (Jvm.Cond.laysFinal "LeapJoin" "LeapJoin" "image" "LLeapJoin$State;") ∈ lw_all := lw_g (lw_at lw_m1 198 rfl) rfl
theorem q320 : (Jvm.Cond.soleField "LeapJoin" "image") ∈ lw_all := lw_g (lw_at lw_m1 199 rfl) rfl
theorem q321 : (Jvm.Cond.laysFinal "LeapJoin" "LeapJoin" "trial" "LLeapJoin$State;") ∈ lw_all := lw_g (lw_at lw_m1 200 rfl) rfl
theorem q322 : (Jvm.Cond.soleField "LeapJoin" "trial") ∈ lw_all := lw_g (lw_at lw_m1 201 rfl) rfl
theorem q323 : (Jvm.Cond.laysFinal "LeapJoin" "LeapJoin" "before" "LLeapJoin$State;") ∈ lw_all := lw_g (lw_at lw_m1 202 rfl) rfl
theorem q324 : (Jvm.Cond.soleField "LeapJoin" "before") ∈ lw_all := lw_g (lw_at lw_m1 203 rfl) rfl
theorem q325 : (Jvm.Cond.laysFinal "LeapJoin" "LeapJoin" "join" "LLeapJoin$Join;") ∈ lw_all := lw_g (lw_at lw_m1 204 rfl) rfl
theorem q326 : (Jvm.Cond.soleField "LeapJoin" "join") ∈ lw_all := lw_g (lw_at lw_m1 205 rfl) rfl
theorem q327 : (Jvm.Cond.laysFinal "LeapJoin" "LeapJoin" "backs" "[LLeapJoin$State;") ∈ lw_all := lw_g (lw_at lw_m1 206 rfl) rfl
theorem q328 : (Jvm.Cond.soleField "LeapJoin" "backs") ∈ lw_all := lw_g (lw_at lw_m1 207 rfl) rfl
theorem q329 : (Jvm.Cond.lays "LeapJoin" "LeapJoin" "undos" "I") ∈ lw_all := lw_g (lw_at lw_m1 208 rfl) rfl
theorem q330 : (Jvm.Cond.soleField "LeapJoin" "undos") ∈ lw_all := lw_g (lw_at lw_m1 209 rfl) rfl
theorem q331 : (Jvm.Cond.lays "LeapJoin" "LeapJoin" "undoAt" "I") ∈ lw_all := lw_g (lw_at lw_m1 210 rfl) rfl
theorem q332 : (Jvm.Cond.soleField "LeapJoin" "undoAt") ∈ lw_all := lw_g (lw_at lw_m1 211 rfl) rfl
theorem q333 : (Jvm.Cond.lays "LeapJoin" "LeapJoin" "x" "J") ∈ lw_all := lw_g (lw_at lw_m1 212 rfl) rfl
theorem q334 : (Jvm.Cond.soleField "LeapJoin" "x") ∈ lw_all := lw_g (lw_at lw_m1 213 rfl) rfl
theorem q335 : (Jvm.Cond.laysFinal "LeapJoin" "LeapJoin" "codes" "[I") ∈ lw_all := lw_g (lw_at lw_m1 214 rfl) rfl
theorem q336 : (Jvm.Cond.soleField "LeapJoin" "codes") ∈ lw_all := lw_g (lw_at lw_m1 215 rfl) rfl
theorem q337 : (Jvm.Cond.laysFinal "LeapJoin" "LeapJoin" "image1" "[I") ∈ lw_all := lw_g (lw_at lw_m1 216 rfl) rfl
theorem q338 : (Jvm.Cond.soleField "LeapJoin" "image1") ∈ lw_all := lw_g (lw_at lw_m1 217 rfl) rfl
theorem q339 : (Jvm.Cond.laysFinal "LeapJoin" "LeapJoin" "sought" "[I") ∈ lw_all := lw_g (lw_at lw_m1 218 rfl) rfl
theorem q340 : (Jvm.Cond.soleField "LeapJoin" "sought") ∈ lw_all := lw_g (lw_at lw_m1 219 rfl) rfl
theorem q341 : (Jvm.Cond.lays "LeapJoin" "LeapJoin" "hasImage" "Z") ∈ lw_all := lw_g (lw_at lw_m1 220 rfl) rfl
theorem q342 : (Jvm.Cond.soleField "LeapJoin" "hasImage") ∈ lw_all := lw_g (lw_at lw_m1 221 rfl) rfl
theorem q343 : (Jvm.Cond.superclass "LeapJoin" "java/lang/Object") ∈ lw_all := lw_g (lw_at lw_m1 222 rfl) rfl
theorem q345 : (Jvm.Cond.instanceMethod ({ cls := "LeapJoin", name := "fault", desc := "(I)I" } : Jvm.MethodName)) ∈ lw_all := lw_g (lw_at lw_m1 224 rfl) rfl
theorem q346 : (Jvm.Cond.selects "LeapJoin" ({ cls := "LeapJoin", name := "fault", desc := "(I)I" } : Jvm.MethodName) ({ cls := "LeapJoin", name := "fault", desc := "(I)I" } : Jvm.MethodName)) ∈ lw_all := lw_g (lw_at lw_m1 225 rfl) rfl
theorem q347 : (Jvm.Cond.codeWith ({ cls := "LeapJoin", name := "fault", desc := "(I)I" } : Jvm.MethodName) prog_1_method_8_code (3 : Nat) (Option.some Jvm.ClassFile.FieldType.int) [((13 : Nat), (50 : Nat), (51 : Nat), (104 : Nat))]) ∈ lw_all := lw_g (lw_at lw_m1 226 rfl) rfl
theorem q348 : (Jvm.Cond.classLink "LeapJoin" (104 : Nat) "LeapJoin$Wrong") ∈ lw_all := lw_g (lw_at lw_m1 227 rfl) rfl
theorem q349 : (Jvm.Cond.methodLink "LeapJoin" (82 : Nat) ({ cls := "LeapJoin", name := "isIn", desc := "(JJJ)Z" } : Jvm.MethodName)) ∈ lw_all := lw_g (lw_at lw_m1 228 rfl) rfl
theorem q350 : (Jvm.Cond.static ({ cls := "LeapJoin", name := "isIn", desc := "(JJJ)Z" } : Jvm.MethodName)) ∈ lw_all := lw_g (lw_at lw_m1 229 rfl) rfl
theorem q351 : (Jvm.Cond.code ({ cls := "LeapJoin", name := "isIn", desc := "(JJJ)Z" } : Jvm.MethodName) prog_1_method_1_code (6 : Nat) (Option.some Jvm.ClassFile.FieldType.boolean)) ∈ lw_all := lw_g (lw_at lw_m1 230 rfl) rfl
theorem q352 : (Jvm.Cond.classLink "LeapJoin" (86 : Nat) "LeapJoin$Reader") ∈ lw_all := lw_g (lw_at lw_m1 231 rfl) rfl
theorem q354 : (Jvm.Cond.methodLinkNest "LeapJoin" (88 : Nat) ({ cls := "LeapJoin$Reader", name := "<init>", desc := "(LLeapJoin;)V" } : Jvm.MethodName) "LeapJoin") ∈ lw_tbl := lw_at lw_m1 233 rfl
theorem q368 : (Jvm.Cond.methodLink "LeapJoin" (89 : Nat) ({ cls := "LeapJoin$Reader", name := "tables", desc := "([LLeapJoin$Table;)I" } : Jvm.MethodName)) ∈ lw_all := lw_g (lw_at lw_m2 7 rfl) rfl
theorem q387 : (Jvm.Cond.static ({ cls := "LeapJoin", name := "has", desc := "(II)Z" } : Jvm.MethodName)) ∈ lw_all := lw_g (lw_at lw_m2 26 rfl) rfl
theorem q388 : (Jvm.Cond.code ({ cls := "LeapJoin", name := "has", desc := "(II)Z" } : Jvm.MethodName) prog_1_method_2_code (2 : Nat) (Option.some Jvm.ClassFile.FieldType.boolean)) ∈ lw_all := lw_g (lw_at lw_m2 27 rfl) rfl
theorem q442 : (Jvm.Cond.fieldLinkNest "LeapJoin" (106 : Nat) "LeapJoin$Wrong" "at" "I" "LeapJoin") ∈ lw_tbl := lw_at lw_m2 81 rfl
theorem q486 : (Jvm.Cond.fieldLinkNest "LeapJoin" (202 : Nat) "LeapJoin$Table" "letters" "[I" "LeapJoin") ∈ lw_tbl := lw_at lw_m2 125 rfl
theorem q488 : (Jvm.Cond.fieldLinkNest "LeapJoin" (194 : Nat) "LeapJoin$Table" "rows" "[LLeapJoin$Row;" "LeapJoin") ∈ lw_tbl := lw_at lw_m2 127 rfl
theorem q492 : (Jvm.Cond.fieldLinkNest "LeapJoin" (193 : Nat) "LeapJoin$Table" "many" "I" "LeapJoin") ∈ lw_tbl := lw_at lw_m2 131 rfl
theorem q609 : (Jvm.Cond.methodLink "LeapJoin" (96 : Nat) ({ cls := "LeapJoin$Reader", name := "script", desc := "()LLeapJoin$Script;" } : Jvm.MethodName)) ∈ lw_all := lw_g (lw_at lw_m3 8 rfl) rfl
theorem q621 : (Jvm.Cond.fieldLinkNest "LeapJoin" (321 : Nat) "LeapJoin$Script" "what" "[I" "LeapJoin") ∈ lw_tbl := lw_at lw_m3 20 rfl
theorem q625 : (Jvm.Cond.fieldLinkNest "LeapJoin" (318 : Nat) "LeapJoin$Script" "many" "I" "LeapJoin") ∈ lw_tbl := lw_at lw_m3 24 rfl
theorem q729 : (Jvm.Cond.instanceMethod ({ cls := "LeapJoin", name := "text", desc := "(I)I" } : Jvm.MethodName)) ∈ lw_all := lw_g (lw_at lw_m3 128 rfl) rfl
theorem q730 : (Jvm.Cond.selects "LeapJoin" ({ cls := "LeapJoin", name := "text", desc := "(I)I" } : Jvm.MethodName) ({ cls := "LeapJoin", name := "text", desc := "(I)I" } : Jvm.MethodName)) ∈ lw_all := lw_g (lw_at lw_m3 129 rfl) rfl
theorem q731 : (Jvm.Cond.code ({ cls := "LeapJoin", name := "text", desc := "(I)I" } : Jvm.MethodName) prog_1_method_9_code (2 : Nat) (Option.some Jvm.ClassFile.FieldType.int)) ∈ lw_all := lw_g (lw_at lw_m3 130 rfl) rfl
theorem q732 : (Jvm.Cond.methodLink "LeapJoin" (112 : Nat) ({ cls := "LeapJoin", name := "fault", desc := "(I)I" } : Jvm.MethodName)) ∈ lw_all := lw_g (lw_at lw_m3 131 rfl) rfl
theorem q733 : (Jvm.Cond.methodLink "LeapJoin" (115 : Nat) ({ cls := "LeapJoin$State", name := "starts", desc := "()V" } : Jvm.MethodName)) ∈ lw_all := lw_g (lw_at lw_m3 132 rfl) rfl
theorem q738 : (Jvm.Cond.instanceMethod ({ cls := "LeapJoin", name := "put", desc := "(IIII)I" } : Jvm.MethodName)) ∈ lw_all := lw_g (lw_at lw_m3 137 rfl) rfl
theorem q739 : (Jvm.Cond.selects "LeapJoin" ({ cls := "LeapJoin", name := "put", desc := "(IIII)I" } : Jvm.MethodName) ({ cls := "LeapJoin", name := "put", desc := "(IIII)I" } : Jvm.MethodName)) ∈ lw_all := lw_g (lw_at lw_m3 138 rfl) rfl
theorem q740 : (Jvm.Cond.code ({ cls := "LeapJoin", name := "put", desc := "(IIII)I" } : Jvm.MethodName) prog_1_method_14_code (5 : Nat) (Option.some Jvm.ClassFile.FieldType.int)) ∈ lw_all := lw_g (lw_at lw_m3 139 rfl) rfl
theorem q741 : (Jvm.Cond.methodLink "LeapJoin" (167 : Nat) ({ cls := "LeapJoin", name := "act", desc := "(IIIII)I" } : Jvm.MethodName)) ∈ lw_all := lw_g (lw_at lw_m3 140 rfl) rfl
theorem q742 : (Jvm.Cond.privateMethod ({ cls := "LeapJoin", name := "act", desc := "(IIIII)I" } : Jvm.MethodName)) ∈ lw_tbl := lw_at lw_m3 141 rfl
theorem q743 : (Jvm.Cond.instanceMethod ({ cls := "LeapJoin", name := "act", desc := "(IIIII)I" } : Jvm.MethodName)) ∈ lw_all := lw_g (lw_at lw_m3 142 rfl) rfl
theorem q744 : (Jvm.Cond.code ({ cls := "LeapJoin", name := "act", desc := "(IIIII)I" } : Jvm.MethodName) prog_1_method_13_code (7 : Nat) (Option.some Jvm.ClassFile.FieldType.int)) ∈ lw_all := lw_g (lw_at lw_m3 143 rfl) rfl
theorem q745 : (Jvm.Cond.methodLink "LeapJoin" (161 : Nat) ({ cls := "LeapJoin", name := "acts", desc := "(IIIII)I" } : Jvm.MethodName)) ∈ lw_all := lw_g (lw_at lw_m3 144 rfl) rfl
theorem q746 : (Jvm.Cond.privateMethod ({ cls := "LeapJoin", name := "acts", desc := "(IIIII)I" } : Jvm.MethodName)) ∈ lw_tbl := lw_at lw_m3 145 rfl
theorem q747 : (Jvm.Cond.instanceMethod ({ cls := "LeapJoin", name := "acts", desc := "(IIIII)I" } : Jvm.MethodName)) ∈ lw_all := lw_g (lw_at lw_m3 146 rfl) rfl
theorem q748 : (Jvm.Cond.code ({ cls := "LeapJoin", name := "acts", desc := "(IIIII)I" } : Jvm.MethodName) prog_1_method_12_code (7 : Nat) (Option.some Jvm.ClassFile.FieldType.int)) ∈ lw_all := lw_g (lw_at lw_m3 147 rfl) rfl
theorem q749 : (Jvm.Cond.methodLink "LeapJoin" (136 : Nat) ({ cls := "LeapJoin$State", name := "becomes", desc := "(LLeapJoin$State;)V" } : Jvm.MethodName)) ∈ lw_all := lw_g (lw_at lw_m3 148 rfl) rfl
theorem q758 : (Jvm.Cond.methodLink "LeapJoin" (140 : Nat) ({ cls := "LeapJoin$State", name := "deed", desc := "(IIIII)I" } : Jvm.MethodName)) ∈ lw_all := lw_g (lw_at lw_m3 157 rfl) rfl
theorem q837 : (Jvm.Cond.methodLink "LeapJoin" (147 : Nat) ({ cls := "java/lang/Math", name := "min", desc := "(II)I" } : Jvm.MethodName)) ∈ lw_all := lw_g (lw_at lw_m3 236 rfl) rfl
theorem q838 : (Jvm.Cond.methodLink "LeapJoin" (153 : Nat) ({ cls := "LeapJoin", name := "joined", desc := "()LLeapJoin$Join;" } : Jvm.MethodName)) ∈ lw_all := lw_g (lw_at lw_m3 237 rfl) rfl
theorem q839 : (Jvm.Cond.privateMethod ({ cls := "LeapJoin", name := "joined", desc := "()LLeapJoin$Join;" } : Jvm.MethodName)) ∈ lw_tbl := lw_at lw_m3 238 rfl
theorem q840 : (Jvm.Cond.instanceMethod ({ cls := "LeapJoin", name := "joined", desc := "()LLeapJoin$Join;" } : Jvm.MethodName)) ∈ lw_all := lw_g (lw_at lw_m3 239 rfl) rfl
theorem q841 : (Jvm.Cond.code ({ cls := "LeapJoin", name := "joined", desc := "()LLeapJoin$Join;" } : Jvm.MethodName) prog_1_method_11_code (1 : Nat) (Option.some (Jvm.ClassFile.FieldType.object "LeapJoin$Join"))) ∈ lw_all := lw_g (lw_at lw_m4 0 rfl) rfl
theorem q842 : (Jvm.Cond.methodLink "LeapJoin" (132 : Nat) ({ cls := "LeapJoin", name := "joined", desc := "(LLeapJoin$State;)LLeapJoin$Join;" } : Jvm.MethodName)) ∈ lw_all := lw_g (lw_at lw_m4 1 rfl) rfl
theorem q843 : (Jvm.Cond.privateMethod ({ cls := "LeapJoin", name := "joined", desc := "(LLeapJoin$State;)LLeapJoin$Join;" } : Jvm.MethodName)) ∈ lw_tbl := lw_at lw_m4 2 rfl
theorem q844 : (Jvm.Cond.instanceMethod ({ cls := "LeapJoin", name := "joined", desc := "(LLeapJoin$State;)LLeapJoin$Join;" } : Jvm.MethodName)) ∈ lw_all := lw_g (lw_at lw_m4 3 rfl) rfl
theorem q845 : (Jvm.Cond.code ({ cls := "LeapJoin", name := "joined", desc := "(LLeapJoin$State;)LLeapJoin$Join;" } : Jvm.MethodName) prog_1_method_10_code (2 : Nat) (Option.some (Jvm.ClassFile.FieldType.object "LeapJoin$Join"))) ∈ lw_all := lw_g (lw_at lw_m4 4 rfl) rfl
theorem q846 : (Jvm.Cond.methodLink "LeapJoin" (128 : Nat) ({ cls := "LeapJoin$Join", name := "of", desc := "(LLeapJoin$State;I)LLeapJoin$Join;" } : Jvm.MethodName)) ∈ lw_all := lw_g (lw_at lw_m4 5 rfl) rfl
theorem q916 : (Jvm.Cond.methodLink "LeapJoin" (157 : Nat) ({ cls := "LeapJoin$State", name := "notes", desc := "(III)V" } : Jvm.MethodName)) ∈ lw_all := lw_g (lw_at lw_m4 75 rfl) rfl
theorem q921 : (Jvm.Cond.instanceMethod ({ cls := "LeapJoin", name := "take", desc := "(IIII)I" } : Jvm.MethodName)) ∈ lw_all := lw_g (lw_at lw_m4 80 rfl) rfl
theorem q922 : (Jvm.Cond.selects "LeapJoin" ({ cls := "LeapJoin", name := "take", desc := "(IIII)I" } : Jvm.MethodName) ({ cls := "LeapJoin", name := "take", desc := "(IIII)I" } : Jvm.MethodName)) ∈ lw_all := lw_g (lw_at lw_m4 81 rfl) rfl
theorem q923 : (Jvm.Cond.code ({ cls := "LeapJoin", name := "take", desc := "(IIII)I" } : Jvm.MethodName) prog_1_method_15_code (5 : Nat) (Option.some Jvm.ClassFile.FieldType.int)) ∈ lw_all := lw_g (lw_at lw_m4 82 rfl) rfl
theorem q925 : (Jvm.Cond.instanceMethod ({ cls := "LeapJoin", name := "use", desc := "(I)I" } : Jvm.MethodName)) ∈ lw_all := lw_g (lw_at lw_m4 84 rfl) rfl
theorem q926 : (Jvm.Cond.selects "LeapJoin" ({ cls := "LeapJoin", name := "use", desc := "(I)I" } : Jvm.MethodName) ({ cls := "LeapJoin", name := "use", desc := "(I)I" } : Jvm.MethodName)) ∈ lw_all := lw_g (lw_at lw_m4 85 rfl) rfl
theorem q927 : (Jvm.Cond.code ({ cls := "LeapJoin", name := "use", desc := "(I)I" } : Jvm.MethodName) prog_1_method_16_code (2 : Nat) (Option.some Jvm.ClassFile.FieldType.int)) ∈ lw_all := lw_g (lw_at lw_m4 86 rfl) rfl
theorem q929 : (Jvm.Cond.instanceMethod ({ cls := "LeapJoin", name := "order", desc := "(I)I" } : Jvm.MethodName)) ∈ lw_all := lw_g (lw_at lw_m4 88 rfl) rfl
theorem q930 : (Jvm.Cond.selects "LeapJoin" ({ cls := "LeapJoin", name := "order", desc := "(I)I" } : Jvm.MethodName) ({ cls := "LeapJoin", name := "order", desc := "(I)I" } : Jvm.MethodName)) ∈ lw_all := lw_g (lw_at lw_m4 89 rfl) rfl
theorem q931 : (Jvm.Cond.code ({ cls := "LeapJoin", name := "order", desc := "(I)I" } : Jvm.MethodName) prog_1_method_17_code (2 : Nat) (Option.some Jvm.ClassFile.FieldType.int)) ∈ lw_all := lw_g (lw_at lw_m4 90 rfl) rfl
theorem q933 : (Jvm.Cond.instanceMethod ({ cls := "LeapJoin", name := "status", desc := "(I)I" } : Jvm.MethodName)) ∈ lw_all := lw_g (lw_at lw_m4 92 rfl) rfl
theorem q934 : (Jvm.Cond.selects "LeapJoin" ({ cls := "LeapJoin", name := "status", desc := "(I)I" } : Jvm.MethodName) ({ cls := "LeapJoin", name := "status", desc := "(I)I" } : Jvm.MethodName)) ∈ lw_all := lw_g (lw_at lw_m4 93 rfl) rfl
theorem q935 : (Jvm.Cond.code ({ cls := "LeapJoin", name := "status", desc := "(I)I" } : Jvm.MethodName) prog_1_method_18_code (2 : Nat) (Option.some Jvm.ClassFile.FieldType.int)) ∈ lw_all := lw_g (lw_at lw_m4 94 rfl) rfl
theorem q936 : (Jvm.Cond.constantLong "LeapJoin" (170 : Nat) (3 : Int64)) ∈ lw_all := lw_g (lw_at lw_m4 95 rfl) rfl
theorem q938 : (Jvm.Cond.instanceMethod ({ cls := "LeapJoin", name := "undo", desc := "()I" } : Jvm.MethodName)) ∈ lw_all := lw_g (lw_at lw_m4 97 rfl) rfl
theorem q939 : (Jvm.Cond.selects "LeapJoin" ({ cls := "LeapJoin", name := "undo", desc := "()I" } : Jvm.MethodName) ({ cls := "LeapJoin", name := "undo", desc := "()I" } : Jvm.MethodName)) ∈ lw_all := lw_g (lw_at lw_m4 98 rfl) rfl
theorem q940 : (Jvm.Cond.code ({ cls := "LeapJoin", name := "undo", desc := "()I" } : Jvm.MethodName) prog_1_method_19_code (1 : Nat) (Option.some Jvm.ClassFile.FieldType.int)) ∈ lw_all := lw_g (lw_at lw_m4 99 rfl) rfl
theorem q942 : (Jvm.Cond.instanceMethod ({ cls := "LeapJoin", name := "log", desc := "(II)I" } : Jvm.MethodName)) ∈ lw_all := lw_g (lw_at lw_m4 101 rfl) rfl
theorem q943 : (Jvm.Cond.selects "LeapJoin" ({ cls := "LeapJoin", name := "log", desc := "(II)I" } : Jvm.MethodName) ({ cls := "LeapJoin", name := "log", desc := "(II)I" } : Jvm.MethodName)) ∈ lw_all := lw_g (lw_at lw_m4 102 rfl) rfl
theorem q944 : (Jvm.Cond.code ({ cls := "LeapJoin", name := "log", desc := "(II)I" } : Jvm.MethodName) prog_1_method_20_code (3 : Nat) (Option.some Jvm.ClassFile.FieldType.int)) ∈ lw_all := lw_g (lw_at lw_m4 103 rfl) rfl
theorem q945 : (Jvm.Cond.constantLong "LeapJoin" (175 : Nat) (2 : Int64)) ∈ lw_all := lw_g (lw_at lw_m4 104 rfl) rfl
theorem q946 : (Jvm.Cond.constant "LeapJoin" (177 : Nat) (-1000000 : Int32)) ∈ lw_all := lw_g (lw_at lw_m4 105 rfl) rfl
theorem q948 : (Jvm.Cond.instanceMethod ({ cls := "LeapJoin", name := "ways", desc := "(IJ)I" } : Jvm.MethodName)) ∈ lw_all := lw_g (lw_at lw_m4 107 rfl) rfl
theorem q949 : (Jvm.Cond.selects "LeapJoin" ({ cls := "LeapJoin", name := "ways", desc := "(IJ)I" } : Jvm.MethodName) ({ cls := "LeapJoin", name := "ways", desc := "(IJ)I" } : Jvm.MethodName)) ∈ lw_all := lw_g (lw_at lw_m4 108 rfl) rfl
theorem q950 : (Jvm.Cond.code ({ cls := "LeapJoin", name := "ways", desc := "(IJ)I" } : Jvm.MethodName) prog_1_method_23_code (6 : Nat) (Option.some Jvm.ClassFile.FieldType.int)) ∈ lw_all := lw_g (lw_at lw_m4 109 rfl) rfl
theorem q951 : (Jvm.Cond.constantLong "LeapJoin" (205 : Nat) (40 : Int64)) ∈ lw_all := lw_g (lw_at lw_m4 110 rfl) rfl
theorem q952 : (Jvm.Cond.methodLink "LeapJoin" (207 : Nat) ({ cls := "LeapJoin", name := "happens", desc := "()I" } : Jvm.MethodName)) ∈ lw_all := lw_g (lw_at lw_m4 111 rfl) rfl
theorem q953 : (Jvm.Cond.privateMethod ({ cls := "LeapJoin", name := "happens", desc := "()I" } : Jvm.MethodName)) ∈ lw_tbl := lw_at lw_m4 112 rfl
theorem q954 : (Jvm.Cond.instanceMethod ({ cls := "LeapJoin", name := "happens", desc := "()I" } : Jvm.MethodName)) ∈ lw_all := lw_g (lw_at lw_m4 113 rfl) rfl
theorem q955 : (Jvm.Cond.code ({ cls := "LeapJoin", name := "happens", desc := "()I" } : Jvm.MethodName) prog_1_method_22_code (6 : Nat) (Option.some Jvm.ClassFile.FieldType.int)) ∈ lw_all := lw_g (lw_at lw_m4 114 rfl) rfl
theorem q956 : (Jvm.Cond.methodLink "LeapJoin" (188 : Nat) ({ cls := "LeapJoin", name := "draw", desc := "(I)I" } : Jvm.MethodName)) ∈ lw_all := lw_g (lw_at lw_m4 115 rfl) rfl
theorem q957 : (Jvm.Cond.privateMethod ({ cls := "LeapJoin", name := "draw", desc := "(I)I" } : Jvm.MethodName)) ∈ lw_tbl := lw_at lw_m4 116 rfl
theorem q958 : (Jvm.Cond.instanceMethod ({ cls := "LeapJoin", name := "draw", desc := "(I)I" } : Jvm.MethodName)) ∈ lw_all := lw_g (lw_at lw_m4 117 rfl) rfl
theorem q959 : (Jvm.Cond.code ({ cls := "LeapJoin", name := "draw", desc := "(I)I" } : Jvm.MethodName) prog_1_method_21_code (2 : Nat) (Option.some Jvm.ClassFile.FieldType.int)) ∈ lw_all := lw_g (lw_at lw_m4 118 rfl) rfl
theorem q960 : (Jvm.Cond.constantLong "LeapJoin" (184 : Nat) (6364136223846793005 : Int64)) ∈ lw_all := lw_g (lw_at lw_m4 119 rfl) rfl
theorem q961 : (Jvm.Cond.constantLong "LeapJoin" (186 : Nat) (1442695040888963407 : Int64)) ∈ lw_all := lw_g (lw_at lw_m4 120 rfl) rfl
theorem q962 : (Jvm.Cond.methodLink "LeapJoin" (198 : Nat) ({ cls := "LeapJoin$Row", name := "at", desc := "(I)I" } : Jvm.MethodName)) ∈ lw_all := lw_g (lw_at lw_m4 121 rfl) rfl
theorem q964 : (Jvm.Cond.instanceMethod ({ cls := "LeapJoin", name := "rule", desc := "(I)I" } : Jvm.MethodName)) ∈ lw_all := lw_g (lw_at lw_m4 123 rfl) rfl
theorem q965 : (Jvm.Cond.selects "LeapJoin" ({ cls := "LeapJoin", name := "rule", desc := "(I)I" } : Jvm.MethodName) ({ cls := "LeapJoin", name := "rule", desc := "(I)I" } : Jvm.MethodName)) ∈ lw_all := lw_g (lw_at lw_m4 124 rfl) rfl
theorem q966 : (Jvm.Cond.code ({ cls := "LeapJoin", name := "rule", desc := "(I)I" } : Jvm.MethodName) prog_1_method_25_code (2 : Nat) (Option.some Jvm.ClassFile.FieldType.int)) ∈ lw_all := lw_g (lw_at lw_m4 125 rfl) rfl
theorem q967 : (Jvm.Cond.methodLink "LeapJoin" (218 : Nat) ({ cls := "LeapJoin$State", name := "asked", desc := "()I" } : Jvm.MethodName)) ∈ lw_all := lw_g (lw_at lw_m4 126 rfl) rfl
theorem q968 : (Jvm.Cond.methodLink "LeapJoin" (221 : Nat) ({ cls := "LeapJoin$State", name := "rows", desc := "()I" } : Jvm.MethodName)) ∈ lw_all := lw_g (lw_at lw_m4 127 rfl) rfl
theorem q973 : (Jvm.Cond.instanceMethod ({ cls := "LeapJoin", name := "cell", desc := "(III)I" } : Jvm.MethodName)) ∈ lw_all := lw_g (lw_at lw_m4 132 rfl) rfl
theorem q974 : (Jvm.Cond.selects "LeapJoin" ({ cls := "LeapJoin", name := "cell", desc := "(III)I" } : Jvm.MethodName) ({ cls := "LeapJoin", name := "cell", desc := "(III)I" } : Jvm.MethodName)) ∈ lw_all := lw_g (lw_at lw_m4 133 rfl) rfl
theorem q975 : (Jvm.Cond.code ({ cls := "LeapJoin", name := "cell", desc := "(III)I" } : Jvm.MethodName) prog_1_method_27_code (4 : Nat) (Option.some Jvm.ClassFile.FieldType.int)) ∈ lw_all := lw_g (lw_at lw_m4 134 rfl) rfl
theorem q976 : (Jvm.Cond.methodLink "LeapJoin" (223 : Nat) ({ cls := "LeapJoin", name := "isTable", desc := "(I)Z" } : Jvm.MethodName)) ∈ lw_all := lw_g (lw_at lw_m4 135 rfl) rfl
theorem q977 : (Jvm.Cond.privateMethod ({ cls := "LeapJoin", name := "isTable", desc := "(I)Z" } : Jvm.MethodName)) ∈ lw_tbl := lw_at lw_m4 136 rfl
theorem q978 : (Jvm.Cond.instanceMethod ({ cls := "LeapJoin", name := "isTable", desc := "(I)Z" } : Jvm.MethodName)) ∈ lw_all := lw_g (lw_at lw_m4 137 rfl) rfl
theorem q979 : (Jvm.Cond.code ({ cls := "LeapJoin", name := "isTable", desc := "(I)Z" } : Jvm.MethodName) prog_1_method_24_code (2 : Nat) (Option.some Jvm.ClassFile.FieldType.boolean)) ∈ lw_all := lw_g (lw_at lw_m4 138 rfl) rfl
theorem q980 : (Jvm.Cond.methodLink "LeapJoin" (211 : Nat) ({ cls := "LeapJoin$State", name := "isTable", desc := "(I)Z" } : Jvm.MethodName)) ∈ lw_all := lw_g (lw_at lw_m4 139 rfl) rfl
theorem q982 : (Jvm.Cond.instanceMethod ({ cls := "LeapJoin", name := "rows", desc := "()I" } : Jvm.MethodName)) ∈ lw_all := lw_g (lw_at lw_m4 141 rfl) rfl
theorem q983 : (Jvm.Cond.selects "LeapJoin" ({ cls := "LeapJoin", name := "rows", desc := "()I" } : Jvm.MethodName) ({ cls := "LeapJoin", name := "rows", desc := "()I" } : Jvm.MethodName)) ∈ lw_all := lw_g (lw_at lw_m4 142 rfl) rfl
theorem q984 : (Jvm.Cond.code ({ cls := "LeapJoin", name := "rows", desc := "()I" } : Jvm.MethodName) prog_1_method_28_code (1 : Nat) (Option.some Jvm.ClassFile.FieldType.int)) ∈ lw_all := lw_g (lw_at lw_m4 143 rfl) rfl
theorem q986 : (Jvm.Cond.instanceMethod ({ cls := "LeapJoin", name := "row", desc := "(II)I" } : Jvm.MethodName)) ∈ lw_all := lw_g (lw_at lw_m4 145 rfl) rfl
theorem q987 : (Jvm.Cond.selects "LeapJoin" ({ cls := "LeapJoin", name := "row", desc := "(II)I" } : Jvm.MethodName) ({ cls := "LeapJoin", name := "row", desc := "(II)I" } : Jvm.MethodName)) ∈ lw_all := lw_g (lw_at lw_m4 146 rfl) rfl
theorem q988 : (Jvm.Cond.code ({ cls := "LeapJoin", name := "row", desc := "(II)I" } : Jvm.MethodName) prog_1_method_30_code (3 : Nat) (Option.some Jvm.ClassFile.FieldType.int)) ∈ lw_all := lw_g (lw_at lw_m4 147 rfl) rfl
theorem q989 : (Jvm.Cond.methodLink "LeapJoin" (234 : Nat) ({ cls := "LeapJoin", name := "isAsked", desc := "(I)Z" } : Jvm.MethodName)) ∈ lw_all := lw_g (lw_at lw_m4 148 rfl) rfl
theorem q990 : (Jvm.Cond.privateMethod ({ cls := "LeapJoin", name := "isAsked", desc := "(I)Z" } : Jvm.MethodName)) ∈ lw_tbl := lw_at lw_m4 149 rfl
theorem q991 : (Jvm.Cond.instanceMethod ({ cls := "LeapJoin", name := "isAsked", desc := "(I)Z" } : Jvm.MethodName)) ∈ lw_all := lw_g (lw_at lw_m4 150 rfl) rfl
theorem q992 : (Jvm.Cond.code ({ cls := "LeapJoin", name := "isAsked", desc := "(I)Z" } : Jvm.MethodName) prog_1_method_29_code (2 : Nat) (Option.some Jvm.ClassFile.FieldType.boolean)) ∈ lw_all := lw_g (lw_at lw_m4 151 rfl) rfl
theorem q993 : (Jvm.Cond.methodLink "LeapJoin" (230 : Nat) ({ cls := "LeapJoin", name := "has", desc := "(II)Z" } : Jvm.MethodName)) ∈ lw_all := lw_g (lw_at lw_m4 152 rfl) rfl
theorem q994 : (Jvm.Cond.methodLink "LeapJoin" (237 : Nat) ({ cls := "LeapJoin$Join", name := "at", desc := "(II)I" } : Jvm.MethodName)) ∈ lw_all := lw_g (lw_at lw_m4 153 rfl) rfl
theorem q999 : (Jvm.Cond.instanceMethod ({ cls := "LeapJoin", name := "leaps", desc := "()I" } : Jvm.MethodName)) ∈ lw_all := lw_g (lw_at lw_m4 158 rfl) rfl
theorem q1000 : (Jvm.Cond.selects "LeapJoin" ({ cls := "LeapJoin", name := "leaps", desc := "()I" } : Jvm.MethodName) ({ cls := "LeapJoin", name := "leaps", desc := "()I" } : Jvm.MethodName)) ∈ lw_all := lw_g (lw_at lw_m4 159 rfl) rfl
theorem q1001 : (Jvm.Cond.code ({ cls := "LeapJoin", name := "leaps", desc := "()I" } : Jvm.MethodName) prog_1_method_31_code (1 : Nat) (Option.some Jvm.ClassFile.FieldType.int)) ∈ lw_all := lw_g (lw_at lw_m4 160 rfl) rfl
theorem q1003 : (Jvm.Cond.instanceMethod ({ cls := "LeapJoin", name := "beginnings", desc := "(I)I" } : Jvm.MethodName)) ∈ lw_all := lw_g (lw_at lw_m4 162 rfl) rfl
theorem q1004 : (Jvm.Cond.selects "LeapJoin" ({ cls := "LeapJoin", name := "beginnings", desc := "(I)I" } : Jvm.MethodName) ({ cls := "LeapJoin", name := "beginnings", desc := "(I)I" } : Jvm.MethodName)) ∈ lw_all := lw_g (lw_at lw_m4 163 rfl) rfl
theorem q1005 : (Jvm.Cond.code ({ cls := "LeapJoin", name := "beginnings", desc := "(I)I" } : Jvm.MethodName) prog_1_method_32_code (2 : Nat) (Option.some Jvm.ClassFile.FieldType.int)) ∈ lw_all := lw_g (lw_at lw_m4 164 rfl) rfl
theorem q1007 : (Jvm.Cond.instanceMethod ({ cls := "LeapJoin", name := "best", desc := "(I)I" } : Jvm.MethodName)) ∈ lw_all := lw_g (lw_at lw_m4 166 rfl) rfl
theorem q1008 : (Jvm.Cond.selects "LeapJoin" ({ cls := "LeapJoin", name := "best", desc := "(I)I" } : Jvm.MethodName) ({ cls := "LeapJoin", name := "best", desc := "(I)I" } : Jvm.MethodName)) ∈ lw_all := lw_g (lw_at lw_m4 167 rfl) rfl
theorem q1009 : (Jvm.Cond.code ({ cls := "LeapJoin", name := "best", desc := "(I)I" } : Jvm.MethodName) prog_1_method_33_code (6 : Nat) (Option.some Jvm.ClassFile.FieldType.int)) ∈ lw_all := lw_g (lw_at lw_m4 168 rfl) rfl
theorem q1011 : (Jvm.Cond.instanceMethod ({ cls := "LeapJoin", name := "plain", desc := "()I" } : Jvm.MethodName)) ∈ lw_all := lw_g (lw_at lw_m4 170 rfl) rfl
theorem q1012 : (Jvm.Cond.selects "LeapJoin" ({ cls := "LeapJoin", name := "plain", desc := "()I" } : Jvm.MethodName) ({ cls := "LeapJoin", name := "plain", desc := "()I" } : Jvm.MethodName)) ∈ lw_all := lw_g (lw_at lw_m4 171 rfl) rfl
theorem q1013 : (Jvm.Cond.code ({ cls := "LeapJoin", name := "plain", desc := "()I" } : Jvm.MethodName) prog_1_method_34_code (3 : Nat) (Option.some Jvm.ClassFile.FieldType.int)) ∈ lw_all := lw_g (lw_at lw_m4 172 rfl) rfl
theorem q1015 : (Jvm.Cond.instanceMethod ({ cls := "LeapJoin", name := "given", desc := "(I)I" } : Jvm.MethodName)) ∈ lw_all := lw_g (lw_at lw_m4 174 rfl) rfl
theorem q1016 : (Jvm.Cond.selects "LeapJoin" ({ cls := "LeapJoin", name := "given", desc := "(I)I" } : Jvm.MethodName) ({ cls := "LeapJoin", name := "given", desc := "(I)I" } : Jvm.MethodName)) ∈ lw_all := lw_g (lw_at lw_m4 175 rfl) rfl
theorem q1017 : (Jvm.Cond.code ({ cls := "LeapJoin", name := "given", desc := "(I)I" } : Jvm.MethodName) prog_1_method_36_code (2 : Nat) (Option.some Jvm.ClassFile.FieldType.int)) ∈ lw_all := lw_g (lw_at lw_m4 176 rfl) rfl
theorem q1018 : (Jvm.Cond.methodLink "LeapJoin" (252 : Nat) ({ cls := "LeapJoin", name := "givenOf", desc := "(I)I" } : Jvm.MethodName)) ∈ lw_all := lw_g (lw_at lw_m4 177 rfl) rfl
theorem q1019 : (Jvm.Cond.privateMethod ({ cls := "LeapJoin", name := "givenOf", desc := "(I)I" } : Jvm.MethodName)) ∈ lw_tbl := lw_at lw_m4 178 rfl
theorem q1020 : (Jvm.Cond.instanceMethod ({ cls := "LeapJoin", name := "givenOf", desc := "(I)I" } : Jvm.MethodName)) ∈ lw_all := lw_g (lw_at lw_m4 179 rfl) rfl
theorem q1021 : (Jvm.Cond.code ({ cls := "LeapJoin", name := "givenOf", desc := "(I)I" } : Jvm.MethodName) prog_1_method_35_code (2 : Nat) (Option.some Jvm.ClassFile.FieldType.int)) ∈ lw_all := lw_g (lw_at lw_m4 180 rfl) rfl
theorem q1022 : (Jvm.Cond.methodLink "LeapJoin" (248 : Nat) ({ cls := "LeapJoin$Join", name := "given", desc := "(LLeapJoin$Table;)I" } : Jvm.MethodName)) ∈ lw_all := lw_g (lw_at lw_m4 181 rfl) rfl
theorem q1036 : (Jvm.Cond.instanceMethod ({ cls := "LeapJoin", name := "without", desc := "(I)I" } : Jvm.MethodName)) ∈ lw_all := lw_g (lw_at lw_m4 195 rfl) rfl
theorem q1037 : (Jvm.Cond.selects "LeapJoin" ({ cls := "LeapJoin", name := "without", desc := "(I)I" } : Jvm.MethodName) ({ cls := "LeapJoin", name := "without", desc := "(I)I" } : Jvm.MethodName)) ∈ lw_all := lw_g (lw_at lw_m4 196 rfl) rfl
theorem q1038 : (Jvm.Cond.code ({ cls := "LeapJoin", name := "without", desc := "(I)I" } : Jvm.MethodName) prog_1_method_37_code (2 : Nat) (Option.some Jvm.ClassFile.FieldType.int)) ∈ lw_all := lw_g (lw_at lw_m4 197 rfl) rfl
theorem q1039 : (Jvm.Cond.methodLink "LeapJoin" (255 : Nat) ({ cls := "LeapJoin$State", name := "sees", desc := "(LLeapJoin$State;)V" } : Jvm.MethodName)) ∈ lw_all := lw_g (lw_at lw_m4 198 rfl) rfl
theorem q1041 : (Jvm.Cond.instanceMethod ({ cls := "LeapJoin", name := "projected", desc := "(I)I" } : Jvm.MethodName)) ∈ lw_all := lw_g (lw_at lw_m4 200 rfl) rfl
theorem q1042 : (Jvm.Cond.selects "LeapJoin" ({ cls := "LeapJoin", name := "projected", desc := "(I)I" } : Jvm.MethodName) ({ cls := "LeapJoin", name := "projected", desc := "(I)I" } : Jvm.MethodName)) ∈ lw_all := lw_g (lw_at lw_m4 201 rfl) rfl
theorem q1043 : (Jvm.Cond.code ({ cls := "LeapJoin", name := "projected", desc := "(I)I" } : Jvm.MethodName) prog_1_method_39_code (5 : Nat) (Option.some Jvm.ClassFile.FieldType.int)) ∈ lw_all := lw_g (lw_at lw_m4 202 rfl) rfl
theorem q1044 : (Jvm.Cond.constantLong "LeapJoin" (258 : Nat) (15 : Int64)) ∈ lw_all := lw_g (lw_at lw_m4 203 rfl) rfl
theorem q1045 : (Jvm.Cond.methodLink "LeapJoin" (260 : Nat) ({ cls := "LeapJoin", name := "unlike", desc := "(I)I" } : Jvm.MethodName)) ∈ lw_all := lw_g (lw_at lw_m4 204 rfl) rfl
theorem q1046 : (Jvm.Cond.privateMethod ({ cls := "LeapJoin", name := "unlike", desc := "(I)I" } : Jvm.MethodName)) ∈ lw_tbl := lw_at lw_m4 205 rfl
theorem q1047 : (Jvm.Cond.instanceMethod ({ cls := "LeapJoin", name := "unlike", desc := "(I)I" } : Jvm.MethodName)) ∈ lw_all := lw_g (lw_at lw_m4 206 rfl) rfl
theorem q1048 : (Jvm.Cond.code ({ cls := "LeapJoin", name := "unlike", desc := "(I)I" } : Jvm.MethodName) prog_1_method_38_code (6 : Nat) (Option.some Jvm.ClassFile.FieldType.int)) ∈ lw_all := lw_g (lw_at lw_m4 207 rfl) rfl
theorem q1050 : (Jvm.Cond.instanceMethod ({ cls := "LeapJoin", name := "times", desc := "(II)I" } : Jvm.MethodName)) ∈ lw_all := lw_g (lw_at lw_m4 209 rfl) rfl
theorem q1051 : (Jvm.Cond.selects "LeapJoin" ({ cls := "LeapJoin", name := "times", desc := "(II)I" } : Jvm.MethodName) ({ cls := "LeapJoin", name := "times", desc := "(II)I" } : Jvm.MethodName)) ∈ lw_all := lw_g (lw_at lw_m4 210 rfl) rfl
theorem q1052 : (Jvm.Cond.code ({ cls := "LeapJoin", name := "times", desc := "(II)I" } : Jvm.MethodName) prog_1_method_40_code (3 : Nat) (Option.some Jvm.ClassFile.FieldType.int)) ∈ lw_all := lw_g (lw_at lw_m4 211 rfl) rfl
theorem q1053 : (Jvm.Cond.constantLong "LeapJoin" (263 : Nat) (99 : Int64)) ∈ lw_all := lw_g (lw_at lw_m4 212 rfl) rfl
theorem q1054 : (Jvm.Cond.methodLink "LeapJoin" (265 : Nat) ({ cls := "LeapJoin$Join", name := "tallies", desc := "(I)[I" } : Jvm.MethodName)) ∈ lw_all := lw_g (lw_at lw_m4 213 rfl) rfl
theorem q1060 : (Jvm.Cond.instanceMethod ({ cls := "LeapJoin", name := "distinct", desc := "(II)I" } : Jvm.MethodName)) ∈ lw_all := lw_g (lw_at lw_m4 219 rfl) rfl
theorem q1061 : (Jvm.Cond.selects "LeapJoin" ({ cls := "LeapJoin", name := "distinct", desc := "(II)I" } : Jvm.MethodName) ({ cls := "LeapJoin", name := "distinct", desc := "(II)I" } : Jvm.MethodName)) ∈ lw_all := lw_g (lw_at lw_m4 220 rfl) rfl
theorem q1062 : (Jvm.Cond.code ({ cls := "LeapJoin", name := "distinct", desc := "(II)I" } : Jvm.MethodName) prog_1_method_42_code (4 : Nat) (Option.some Jvm.ClassFile.FieldType.int)) ∈ lw_all := lw_g (lw_at lw_m4 221 rfl) rfl
theorem q1063 : (Jvm.Cond.methodLink "LeapJoin" (269 : Nat) ({ cls := "LeapJoin", name := "ofCounts", desc := "([II)I" } : Jvm.MethodName)) ∈ lw_all := lw_g (lw_at lw_m4 222 rfl) rfl
theorem q1064 : (Jvm.Cond.static ({ cls := "LeapJoin", name := "ofCounts", desc := "([II)I" } : Jvm.MethodName)) ∈ lw_all := lw_g (lw_at lw_m4 223 rfl) rfl
theorem q1065 : (Jvm.Cond.code ({ cls := "LeapJoin", name := "ofCounts", desc := "([II)I" } : Jvm.MethodName) prog_1_method_41_code (7 : Nat) (Option.some Jvm.ClassFile.FieldType.int)) ∈ lw_all := lw_g (lw_at lw_m4 224 rfl) rfl
theorem q1067 : (Jvm.Cond.instanceMethod ({ cls := "LeapJoin", name := "tells", desc := "(II)Z" } : Jvm.MethodName)) ∈ lw_all := lw_g (lw_at lw_m4 226 rfl) rfl
theorem q1068 : (Jvm.Cond.selects "LeapJoin" ({ cls := "LeapJoin", name := "tells", desc := "(II)Z" } : Jvm.MethodName) ({ cls := "LeapJoin", name := "tells", desc := "(II)Z" } : Jvm.MethodName)) ∈ lw_all := lw_g (lw_at lw_m4 227 rfl) rfl
theorem q1069 : (Jvm.Cond.code ({ cls := "LeapJoin", name := "tells", desc := "(II)Z" } : Jvm.MethodName) prog_1_method_44_code (3 : Nat) (Option.some Jvm.ClassFile.FieldType.boolean)) ∈ lw_all := lw_g (lw_at lw_m4 228 rfl) rfl
theorem q1070 : (Jvm.Cond.methodLink "LeapJoin" (273 : Nat) ({ cls := "LeapJoin", name := "isTold", desc := "(LLeapJoin$Join;II)Z" } : Jvm.MethodName)) ∈ lw_all := lw_g (lw_at lw_m4 229 rfl) rfl
theorem q1071 : (Jvm.Cond.privateMethod ({ cls := "LeapJoin", name := "isTold", desc := "(LLeapJoin$Join;II)Z" } : Jvm.MethodName)) ∈ lw_tbl := lw_at lw_m4 230 rfl
theorem q1072 : (Jvm.Cond.instanceMethod ({ cls := "LeapJoin", name := "isTold", desc := "(LLeapJoin$Join;II)Z" } : Jvm.MethodName)) ∈ lw_all := lw_g (lw_at lw_m4 231 rfl) rfl
theorem q1073 : (Jvm.Cond.code ({ cls := "LeapJoin", name := "isTold", desc := "(LLeapJoin$Join;II)Z" } : Jvm.MethodName) prog_1_method_43_code (6 : Nat) (Option.some Jvm.ClassFile.FieldType.boolean)) ∈ lw_all := lw_g (lw_at lw_m4 232 rfl) rfl
theorem q1075 : (Jvm.Cond.instanceMethod ({ cls := "LeapJoin", name := "behind", desc := "(IIII)I" } : Jvm.MethodName)) ∈ lw_all := lw_g (lw_at lw_m4 234 rfl) rfl
theorem q1076 : (Jvm.Cond.selects "LeapJoin" ({ cls := "LeapJoin", name := "behind", desc := "(IIII)I" } : Jvm.MethodName) ({ cls := "LeapJoin", name := "behind", desc := "(IIII)I" } : Jvm.MethodName)) ∈ lw_all := lw_g (lw_at lw_m4 235 rfl) rfl
theorem q1077 : (Jvm.Cond.code ({ cls := "LeapJoin", name := "behind", desc := "(IIII)I" } : Jvm.MethodName) prog_1_method_46_code (5 : Nat) (Option.some Jvm.ClassFile.FieldType.int)) ∈ lw_all := lw_g (lw_at lw_m4 236 rfl) rfl
theorem q1078 : (Jvm.Cond.methodLink "LeapJoin" (281 : Nat) ({ cls := "LeapJoin", name := "from", desc := "(IIIIZ)I" } : Jvm.MethodName)) ∈ lw_all := lw_g (lw_at lw_m4 237 rfl) rfl
theorem q1079 : (Jvm.Cond.privateMethod ({ cls := "LeapJoin", name := "from", desc := "(IIIIZ)I" } : Jvm.MethodName)) ∈ lw_tbl := lw_at lw_m4 238 rfl
theorem q1080 : (Jvm.Cond.instanceMethod ({ cls := "LeapJoin", name := "from", desc := "(IIIIZ)I" } : Jvm.MethodName)) ∈ lw_all := lw_g (lw_at lw_m4 239 rfl) rfl
theorem q1081 : (Jvm.Cond.code ({ cls := "LeapJoin", name := "from", desc := "(IIIIZ)I" } : Jvm.MethodName) prog_1_method_45_code (9 : Nat) (Option.some Jvm.ClassFile.FieldType.int)) ∈ lw_all := lw_g (lw_at lw_m5 0 rfl) rfl
theorem q1082 : (Jvm.Cond.methodLink "LeapJoin" (277 : Nat) ({ cls := "LeapJoin$Join", name := "against", desc := "(I[I)I" } : Jvm.MethodName)) ∈ lw_all := lw_g (lw_at lw_m5 1 rfl) rfl
theorem q1087 : (Jvm.Cond.instanceMethod ({ cls := "LeapJoin", name := "has", desc := "(IIII)Z" } : Jvm.MethodName)) ∈ lw_all := lw_g (lw_at lw_m5 6 rfl) rfl
theorem q1088 : (Jvm.Cond.selects "LeapJoin" ({ cls := "LeapJoin", name := "has", desc := "(IIII)Z" } : Jvm.MethodName) ({ cls := "LeapJoin", name := "has", desc := "(IIII)Z" } : Jvm.MethodName)) ∈ lw_all := lw_g (lw_at lw_m5 7 rfl) rfl
theorem q1089 : (Jvm.Cond.code ({ cls := "LeapJoin", name := "has", desc := "(IIII)Z" } : Jvm.MethodName) prog_1_method_47_code (6 : Nat) (Option.some Jvm.ClassFile.FieldType.boolean)) ∈ lw_all := lw_g (lw_at lw_m5 8 rfl) rfl
theorem q1091 : (Jvm.Cond.instanceMethod ({ cls := "LeapJoin", name := "mean", desc := "(I)J" } : Jvm.MethodName)) ∈ lw_all := lw_g (lw_at lw_m5 10 rfl) rfl
theorem q1092 : (Jvm.Cond.selects "LeapJoin" ({ cls := "LeapJoin", name := "mean", desc := "(I)J" } : Jvm.MethodName) ({ cls := "LeapJoin", name := "mean", desc := "(I)J" } : Jvm.MethodName)) ∈ lw_all := lw_g (lw_at lw_m5 11 rfl) rfl
theorem q1093 : (Jvm.Cond.code ({ cls := "LeapJoin", name := "mean", desc := "(I)J" } : Jvm.MethodName) prog_1_method_49_code (2 : Nat) (Option.some Jvm.ClassFile.FieldType.long)) ∈ lw_all := lw_g (lw_at lw_m5 12 rfl) rfl
theorem q1094 : (Jvm.Cond.methodLink "LeapJoin" (285 : Nat) ({ cls := "LeapJoin", name := "hasMean", desc := "(I)Z" } : Jvm.MethodName)) ∈ lw_all := lw_g (lw_at lw_m5 13 rfl) rfl
theorem q1095 : (Jvm.Cond.privateMethod ({ cls := "LeapJoin", name := "hasMean", desc := "(I)Z" } : Jvm.MethodName)) ∈ lw_tbl := lw_at lw_m5 14 rfl
theorem q1096 : (Jvm.Cond.instanceMethod ({ cls := "LeapJoin", name := "hasMean", desc := "(I)Z" } : Jvm.MethodName)) ∈ lw_all := lw_g (lw_at lw_m5 15 rfl) rfl
theorem q1097 : (Jvm.Cond.code ({ cls := "LeapJoin", name := "hasMean", desc := "(I)Z" } : Jvm.MethodName) prog_1_method_48_code (2 : Nat) (Option.some Jvm.ClassFile.FieldType.boolean)) ∈ lw_all := lw_g (lw_at lw_m5 16 rfl) rfl
theorem q1098 : (Jvm.Cond.methodLink "LeapJoin" (288 : Nat) ({ cls := "LeapJoin$Join", name := "mean", desc := "(I)D" } : Jvm.MethodName)) ∈ lw_all := lw_g (lw_at lw_m5 17 rfl) rfl
theorem q1106 : (Jvm.Cond.methodLink "LeapJoin" (292 : Nat) ({ cls := "java/lang/Double", name := "doubleToLongBits", desc := "(D)J" } : Jvm.MethodName)) ∈ lw_all := lw_g (lw_at lw_m5 25 rfl) rfl
theorem q1116 : (Jvm.Cond.constantLong "LeapJoin" (298 : Nat) (-1000000 : Int64)) ∈ lw_all := lw_g (lw_at lw_m5 35 rfl) rfl
theorem q1118 : (Jvm.Cond.instanceMethod ({ cls := "LeapJoin", name := "meanAs", desc := "(II)I" } : Jvm.MethodName)) ∈ lw_all := lw_g (lw_at lw_m5 37 rfl) rfl
theorem q1119 : (Jvm.Cond.selects "LeapJoin" ({ cls := "LeapJoin", name := "meanAs", desc := "(II)I" } : Jvm.MethodName) ({ cls := "LeapJoin", name := "meanAs", desc := "(II)I" } : Jvm.MethodName)) ∈ lw_all := lw_g (lw_at lw_m5 38 rfl) rfl
theorem q1120 : (Jvm.Cond.code ({ cls := "LeapJoin", name := "meanAs", desc := "(II)I" } : Jvm.MethodName) prog_1_method_50_code (5 : Nat) (Option.some Jvm.ClassFile.FieldType.int)) ∈ lw_all := lw_g (lw_at lw_m5 39 rfl) rfl
theorem q1121 : (Jvm.Cond.methodLink "LeapJoin" (300 : Nat) ({ cls := "java/lang/Float", name := "floatToIntBits", desc := "(F)I" } : Jvm.MethodName)) ∈ lw_all := lw_g (lw_at lw_m5 40 rfl) rfl
theorem q1132 : (Jvm.Cond.instanceMethod ({ cls := "LeapJoin", name := "spread", desc := "(I)J" } : Jvm.MethodName)) ∈ lw_all := lw_g (lw_at lw_m5 51 rfl) rfl
theorem q1133 : (Jvm.Cond.selects "LeapJoin" ({ cls := "LeapJoin", name := "spread", desc := "(I)J" } : Jvm.MethodName) ({ cls := "LeapJoin", name := "spread", desc := "(I)J" } : Jvm.MethodName)) ∈ lw_all := lw_g (lw_at lw_m5 52 rfl) rfl
theorem q1134 : (Jvm.Cond.code ({ cls := "LeapJoin", name := "spread", desc := "(I)J" } : Jvm.MethodName) prog_1_method_51_code (7 : Nat) (Option.some Jvm.ClassFile.FieldType.long)) ∈ lw_all := lw_g (lw_at lw_m5 53 rfl) rfl
theorem q1135 : (Jvm.Cond.methodLink "LeapJoin" (306 : Nat) ({ cls := "java/lang/Math", name := "abs", desc := "(D)D" } : Jvm.MethodName)) ∈ lw_all := lw_g (lw_at lw_m5 54 rfl) rfl
theorem q1144 : (Jvm.Cond.instanceMethod ({ cls := "LeapJoin", name := "skew", desc := "(I)I" } : Jvm.MethodName)) ∈ lw_all := lw_g (lw_at lw_m5 63 rfl) rfl
theorem q1145 : (Jvm.Cond.selects "LeapJoin" ({ cls := "LeapJoin", name := "skew", desc := "(I)I" } : Jvm.MethodName) ({ cls := "LeapJoin", name := "skew", desc := "(I)I" } : Jvm.MethodName)) ∈ lw_all := lw_g (lw_at lw_m5 64 rfl) rfl
theorem q1146 : (Jvm.Cond.code ({ cls := "LeapJoin", name := "skew", desc := "(I)I" } : Jvm.MethodName) prog_1_method_52_code (4 : Nat) (Option.some Jvm.ClassFile.FieldType.int)) ∈ lw_all := lw_g (lw_at lw_m5 65 rfl) rfl
theorem q1147 : (Jvm.Cond.methodLink "LeapJoin" (310 : Nat) ({ cls := "[I", name := "clone", desc := "()Ljava/lang/Object;" } : Jvm.MethodName)) ∈ lw_all := lw_g (lw_at lw_m5 66 rfl) rfl
theorem q1148 : (Jvm.Cond.classLink "LeapJoin" (311 : Nat) "[I") ∈ lw_all := lw_g (lw_at lw_m5 67 rfl) rfl
theorem q1150 : (Jvm.Cond.instanceMethod ({ cls := "LeapJoin", name := "would", desc := "(IIIII)I" } : Jvm.MethodName)) ∈ lw_all := lw_g (lw_at lw_m5 69 rfl) rfl
theorem q1151 : (Jvm.Cond.selects "LeapJoin" ({ cls := "LeapJoin", name := "would", desc := "(IIIII)I" } : Jvm.MethodName) ({ cls := "LeapJoin", name := "would", desc := "(IIIII)I" } : Jvm.MethodName)) ∈ lw_all := lw_g (lw_at lw_m5 70 rfl) rfl
theorem q1152 : (Jvm.Cond.code ({ cls := "LeapJoin", name := "would", desc := "(IIIII)I" } : Jvm.MethodName) prog_1_method_53_code (7 : Nat) (Option.some Jvm.ClassFile.FieldType.int)) ∈ lw_all := lw_g (lw_at lw_m5 71 rfl) rfl
theorem q1154 : (Jvm.Cond.instanceMethod ({ cls := "LeapJoin", name := "step", desc := "(III)I" } : Jvm.MethodName)) ∈ lw_all := lw_g (lw_at lw_m5 73 rfl) rfl
theorem q1155 : (Jvm.Cond.selects "LeapJoin" ({ cls := "LeapJoin", name := "step", desc := "(III)I" } : Jvm.MethodName) ({ cls := "LeapJoin", name := "step", desc := "(III)I" } : Jvm.MethodName)) ∈ lw_all := lw_g (lw_at lw_m5 74 rfl) rfl
theorem q1156 : (Jvm.Cond.code ({ cls := "LeapJoin", name := "step", desc := "(III)I" } : Jvm.MethodName) prog_1_method_55_code (4 : Nat) (Option.some Jvm.ClassFile.FieldType.int)) ∈ lw_all := lw_g (lw_at lw_m5 75 rfl) rfl
theorem q1157 : (Jvm.Cond.methodLink "LeapJoin" (315 : Nat) ({ cls := "LeapJoin", name := "isScript", desc := "(I)Z" } : Jvm.MethodName)) ∈ lw_all := lw_g (lw_at lw_m5 76 rfl) rfl
theorem q1158 : (Jvm.Cond.privateMethod ({ cls := "LeapJoin", name := "isScript", desc := "(I)Z" } : Jvm.MethodName)) ∈ lw_tbl := lw_at lw_m5 77 rfl
theorem q1159 : (Jvm.Cond.instanceMethod ({ cls := "LeapJoin", name := "isScript", desc := "(I)Z" } : Jvm.MethodName)) ∈ lw_all := lw_g (lw_at lw_m5 78 rfl) rfl
theorem q1160 : (Jvm.Cond.code ({ cls := "LeapJoin", name := "isScript", desc := "(I)Z" } : Jvm.MethodName) prog_1_method_54_code (2 : Nat) (Option.some Jvm.ClassFile.FieldType.boolean)) ∈ lw_all := lw_g (lw_at lw_m5 79 rfl) rfl
theorem q1161 : (Jvm.Cond.constantLong "LeapJoin" (319 : Nat) (4 : Int64)) ∈ lw_all := lw_g (lw_at lw_m5 80 rfl) rfl
theorem q1162 : (Jvm.Cond.methodLink "LeapJoin" (324 : Nat) ({ cls := "LeapJoin$Script", name := "number", desc := "(II)I" } : Jvm.MethodName)) ∈ lw_all := lw_g (lw_at lw_m5 81 rfl) rfl
theorem q1167 : (Jvm.Cond.instanceMethod ({ cls := "LeapJoin", name := "run", desc := "(II)I" } : Jvm.MethodName)) ∈ lw_all := lw_g (lw_at lw_m5 86 rfl) rfl
theorem q1168 : (Jvm.Cond.selects "LeapJoin" ({ cls := "LeapJoin", name := "run", desc := "(II)I" } : Jvm.MethodName) ({ cls := "LeapJoin", name := "run", desc := "(II)I" } : Jvm.MethodName)) ∈ lw_all := lw_g (lw_at lw_m5 87 rfl) rfl
theorem q1169 : (Jvm.Cond.code ({ cls := "LeapJoin", name := "run", desc := "(II)I" } : Jvm.MethodName) prog_1_method_56_code (5 : Nat) (Option.some Jvm.ClassFile.FieldType.int)) ∈ lw_all := lw_g (lw_at lw_m5 88 rfl) rfl
theorem q1171 : (Jvm.Cond.instanceMethod ({ cls := "LeapJoin", name := "perform", desc := "(I)I" } : Jvm.MethodName)) ∈ lw_all := lw_g (lw_at lw_m5 90 rfl) rfl
theorem q1172 : (Jvm.Cond.selects "LeapJoin" ({ cls := "LeapJoin", name := "perform", desc := "(I)I" } : Jvm.MethodName) ({ cls := "LeapJoin", name := "perform", desc := "(I)I" } : Jvm.MethodName)) ∈ lw_all := lw_g (lw_at lw_m5 91 rfl) rfl
theorem q1173 : (Jvm.Cond.code ({ cls := "LeapJoin", name := "perform", desc := "(I)I" } : Jvm.MethodName) prog_1_method_57_code (4 : Nat) (Option.some Jvm.ClassFile.FieldType.int)) ∈ lw_all := lw_g (lw_at lw_m5 92 rfl) rfl
theorem q1175 : (Jvm.Cond.instanceMethod ({ cls := "LeapJoin", name := "most", desc := "(I)I" } : Jvm.MethodName)) ∈ lw_all := lw_g (lw_at lw_m5 94 rfl) rfl
theorem q1176 : (Jvm.Cond.selects "LeapJoin" ({ cls := "LeapJoin", name := "most", desc := "(I)I" } : Jvm.MethodName) ({ cls := "LeapJoin", name := "most", desc := "(I)I" } : Jvm.MethodName)) ∈ lw_all := lw_g (lw_at lw_m5 95 rfl) rfl
theorem q1177 : (Jvm.Cond.code ({ cls := "LeapJoin", name := "most", desc := "(I)I" } : Jvm.MethodName) prog_1_method_63_code (2 : Nat) (Option.some Jvm.ClassFile.FieldType.int)) ∈ lw_all := lw_g (lw_at lw_m5 96 rfl) rfl
theorem q1178 : (Jvm.Cond.methodLink "LeapJoin" (338 : Nat) ({ cls := "LeapJoin", name := "sums", desc := "()I" } : Jvm.MethodName)) ∈ lw_all := lw_g (lw_at lw_m5 97 rfl) rfl
theorem q1179 : (Jvm.Cond.privateMethod ({ cls := "LeapJoin", name := "sums", desc := "()I" } : Jvm.MethodName)) ∈ lw_tbl := lw_at lw_m5 98 rfl
theorem q1180 : (Jvm.Cond.instanceMethod ({ cls := "LeapJoin", name := "sums", desc := "()I" } : Jvm.MethodName)) ∈ lw_all := lw_g (lw_at lw_m5 99 rfl) rfl
theorem q1181 : (Jvm.Cond.code ({ cls := "LeapJoin", name := "sums", desc := "()I" } : Jvm.MethodName) prog_1_method_58_code (5 : Nat) (Option.some Jvm.ClassFile.FieldType.int)) ∈ lw_all := lw_g (lw_at lw_m5 100 rfl) rfl
theorem q1182 : (Jvm.Cond.methodLink "LeapJoin" (341 : Nat) ({ cls := "LeapJoin", name := "greatestTable", desc := "(Z)I" } : Jvm.MethodName)) ∈ lw_all := lw_g (lw_at lw_m5 101 rfl) rfl
theorem q1183 : (Jvm.Cond.privateMethod ({ cls := "LeapJoin", name := "greatestTable", desc := "(Z)I" } : Jvm.MethodName)) ∈ lw_tbl := lw_at lw_m5 102 rfl
theorem q1184 : (Jvm.Cond.instanceMethod ({ cls := "LeapJoin", name := "greatestTable", desc := "(Z)I" } : Jvm.MethodName)) ∈ lw_all := lw_g (lw_at lw_m5 103 rfl) rfl
theorem q1185 : (Jvm.Cond.code ({ cls := "LeapJoin", name := "greatestTable", desc := "(Z)I" } : Jvm.MethodName) prog_1_method_59_code (5 : Nat) (Option.some Jvm.ClassFile.FieldType.int)) ∈ lw_all := lw_g (lw_at lw_m5 104 rfl) rfl
theorem q1186 : (Jvm.Cond.methodLink "LeapJoin" (327 : Nat) ({ cls := "java/lang/Integer", name := "bitCount", desc := "(I)I" } : Jvm.MethodName)) ∈ lw_all := lw_g (lw_at lw_m5 105 rfl) rfl
theorem q1192 : (Jvm.Cond.methodLink "LeapJoin" (345 : Nat) ({ cls := "LeapJoin", name := "dangling", desc := "()I" } : Jvm.MethodName)) ∈ lw_all := lw_g (lw_at lw_m5 111 rfl) rfl
theorem q1193 : (Jvm.Cond.privateMethod ({ cls := "LeapJoin", name := "dangling", desc := "()I" } : Jvm.MethodName)) ∈ lw_tbl := lw_at lw_m5 112 rfl
theorem q1194 : (Jvm.Cond.instanceMethod ({ cls := "LeapJoin", name := "dangling", desc := "()I" } : Jvm.MethodName)) ∈ lw_all := lw_g (lw_at lw_m5 113 rfl) rfl
theorem q1195 : (Jvm.Cond.code ({ cls := "LeapJoin", name := "dangling", desc := "()I" } : Jvm.MethodName) prog_1_method_60_code (3 : Nat) (Option.some Jvm.ClassFile.FieldType.int)) ∈ lw_all := lw_g (lw_at lw_m5 114 rfl) rfl
theorem q1196 : (Jvm.Cond.methodLink "LeapJoin" (348 : Nat) ({ cls := "LeapJoin", name := "tellings", desc := "()I" } : Jvm.MethodName)) ∈ lw_all := lw_g (lw_at lw_m5 115 rfl) rfl
theorem q1197 : (Jvm.Cond.privateMethod ({ cls := "LeapJoin", name := "tellings", desc := "()I" } : Jvm.MethodName)) ∈ lw_tbl := lw_at lw_m5 116 rfl
theorem q1198 : (Jvm.Cond.instanceMethod ({ cls := "LeapJoin", name := "tellings", desc := "()I" } : Jvm.MethodName)) ∈ lw_all := lw_g (lw_at lw_m5 117 rfl) rfl
theorem q1199 : (Jvm.Cond.code ({ cls := "LeapJoin", name := "tellings", desc := "()I" } : Jvm.MethodName) prog_1_method_61_code (4 : Nat) (Option.some Jvm.ClassFile.FieldType.int)) ∈ lw_all := lw_g (lw_at lw_m5 118 rfl) rfl
theorem q1200 : (Jvm.Cond.methodLink "LeapJoin" (332 : Nat) ({ cls := "LeapJoin", name := "tells", desc := "(II)Z" } : Jvm.MethodName)) ∈ lw_all := lw_g (lw_at lw_m5 119 rfl) rfl
theorem q1201 : (Jvm.Cond.methodLink "LeapJoin" (351 : Nat) ({ cls := "LeapJoin", name := "mostLeaps", desc := "()I" } : Jvm.MethodName)) ∈ lw_all := lw_g (lw_at lw_m5 120 rfl) rfl
theorem q1202 : (Jvm.Cond.privateMethod ({ cls := "LeapJoin", name := "mostLeaps", desc := "()I" } : Jvm.MethodName)) ∈ lw_tbl := lw_at lw_m5 121 rfl
theorem q1203 : (Jvm.Cond.instanceMethod ({ cls := "LeapJoin", name := "mostLeaps", desc := "()I" } : Jvm.MethodName)) ∈ lw_all := lw_g (lw_at lw_m5 122 rfl) rfl
theorem q1204 : (Jvm.Cond.code ({ cls := "LeapJoin", name := "mostLeaps", desc := "()I" } : Jvm.MethodName) prog_1_method_62_code (3 : Nat) (Option.some Jvm.ClassFile.FieldType.int)) ∈ lw_all := lw_g (lw_at lw_m5 123 rfl) rfl
theorem q1205 : (Jvm.Cond.methodLink "LeapJoin" (335 : Nat) ({ cls := "java/lang/Math", name := "max", desc := "(II)I" } : Jvm.MethodName)) ∈ lw_all := lw_g (lw_at lw_m5 124 rfl) rfl
theorem q1207 : (Jvm.Cond.instanceMethod ({ cls := "LeapJoin", name := "image", desc := "()I" } : Jvm.MethodName)) ∈ lw_all := lw_g (lw_at lw_m5 126 rfl) rfl
theorem q1208 : (Jvm.Cond.selects "LeapJoin" ({ cls := "LeapJoin", name := "image", desc := "()I" } : Jvm.MethodName) ({ cls := "LeapJoin", name := "image", desc := "()I" } : Jvm.MethodName)) ∈ lw_all := lw_g (lw_at lw_m5 127 rfl) rfl
theorem q1209 : (Jvm.Cond.code ({ cls := "LeapJoin", name := "image", desc := "()I" } : Jvm.MethodName) prog_1_method_64_code (1 : Nat) (Option.some Jvm.ClassFile.FieldType.int)) ∈ lw_all := lw_g (lw_at lw_m5 128 rfl) rfl
theorem q1211 : (Jvm.Cond.instanceMethod ({ cls := "LeapJoin", name := "back", desc := "()I" } : Jvm.MethodName)) ∈ lw_all := lw_g (lw_at lw_m5 130 rfl) rfl
theorem q1212 : (Jvm.Cond.selects "LeapJoin" ({ cls := "LeapJoin", name := "back", desc := "()I" } : Jvm.MethodName) ({ cls := "LeapJoin", name := "back", desc := "()I" } : Jvm.MethodName)) ∈ lw_all := lw_g (lw_at lw_m5 131 rfl) rfl
theorem q1213 : (Jvm.Cond.code ({ cls := "LeapJoin", name := "back", desc := "()I" } : Jvm.MethodName) prog_1_method_65_code (1 : Nat) (Option.some Jvm.ClassFile.FieldType.int)) ∈ lw_all := lw_g (lw_at lw_m5 132 rfl) rfl
theorem q1215 : (Jvm.Cond.instanceMethod ({ cls := "LeapJoin", name := "count", desc := "(I)I" } : Jvm.MethodName)) ∈ lw_all := lw_g (lw_at lw_m5 134 rfl) rfl
theorem q1216 : (Jvm.Cond.selects "LeapJoin" ({ cls := "LeapJoin", name := "count", desc := "(I)I" } : Jvm.MethodName) ({ cls := "LeapJoin", name := "count", desc := "(I)I" } : Jvm.MethodName)) ∈ lw_all := lw_g (lw_at lw_m5 135 rfl) rfl
theorem q1217 : (Jvm.Cond.code ({ cls := "LeapJoin", name := "count", desc := "(I)I" } : Jvm.MethodName) prog_1_method_66_code (2 : Nat) (Option.some Jvm.ClassFile.FieldType.int)) ∈ lw_all := lw_g (lw_at lw_m5 136 rfl) rfl
theorem q1223 : (Jvm.Cond.instanceMethod ({ cls := "LeapJoin", name := "table", desc := "(II)I" } : Jvm.MethodName)) ∈ lw_all := lw_g (lw_at lw_m5 142 rfl) rfl
theorem q1224 : (Jvm.Cond.selects "LeapJoin" ({ cls := "LeapJoin", name := "table", desc := "(II)I" } : Jvm.MethodName) ({ cls := "LeapJoin", name := "table", desc := "(II)I" } : Jvm.MethodName)) ∈ lw_all := lw_g (lw_at lw_m5 143 rfl) rfl
theorem q1225 : (Jvm.Cond.code ({ cls := "LeapJoin", name := "table", desc := "(II)I" } : Jvm.MethodName) prog_1_method_26_code (4 : Nat) (Option.some Jvm.ClassFile.FieldType.int)) ∈ lw_all := lw_g (lw_at lw_m5 144 rfl) rfl
theorem q1226 : (Jvm.Cond.classLink "LeapJoin" (224 : Nat) "java/util/NoSuchElementException") ∈ lw_all := lw_g (lw_at lw_m5 145 rfl) rfl
theorem q1235 : (Jvm.Cond.methodLink "LeapJoin" (226 : Nat) ({ cls := "java/util/NoSuchElementException", name := "<init>", desc := "()V" } : Jvm.MethodName)) ∈ lw_all := lw_g (lw_at lw_m5 154 rfl) rfl
theorem q1247 : (Jvm.Cond.methodLink "LeapJoin" (227 : Nat) ({ cls := "LeapJoin$Table", name := "set", desc := "()I" } : Jvm.MethodName)) ∈ lw_all := lw_g (lw_at lw_m5 166 rfl) rfl
theorem q1899 : (Jvm.Cond.castable "LeapJoin" "java/lang/Object") ∈ lw_tbl := lw_at lw_m8 98 rfl
theorem in_X1 : ∀ w ∈ wsX10, w ∈ lw_all := lw_in wsX10 [299, 301, 303, 305, 307, 309, 311, 313, 315, 317, 319, 321, 323, 325, 327, 329, 331, 333, 335, 337, 339, 341] (by decide +kernel) (by decide +kernel)
