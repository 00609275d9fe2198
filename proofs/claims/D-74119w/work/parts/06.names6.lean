/-! LeapJoin$State -/
set_option maxRecDepth 100000
def RX2 : String := "LeapJoin$State"
def TX2 : u_T := fun k => match k with
  | 0 => ("LeapJoin$State", "tables", "[LLeapJoin$Table;", true)
  | 1 => ("LeapJoin$State", "notes", "[I", true)
  | 2 => ("LeapJoin$State", "used", "I", false)
  | 3 => ("LeapJoin$State", "order", "I", false)
  | 4 => ("LeapJoin$State", "noteMany", "I", false)
  | 5 => ("LeapJoin$State", "came", "I", false)
  | _ => ("LeapJoin$State", "this$0", "LLeapJoin;", true)
def tyX2 : Nat → FieldType := fun k => match k with
  | 0 => .array (.object "LeapJoin$Table")
  | 1 => .array .int
  | 2 => .int
  | 3 => .int
  | 4 => .int
  | 5 => .int
  | _ => .object "LeapJoin"
abbrev wsX20 : List Cond := u_ws RX2 TX2 7
theorem nmX2 : ∀ a, a < 7 → ∀ b, b < 7 → a ≠ b → (TX2 a).2.1 ≠ (TX2 b).2.1 := by decide +kernel
theorem tyX2_ok : ∀ k, k < 7 → parseFieldDescriptor (TX2 k).2.2.1 = some (tyX2 k) := by decide +kernel
abbrev cX2_init : ByteArray := prog_7_method_1_code
def yX2_init : MethodName := ⟨RX2, "<init>", "(LLeapJoin;)V"⟩
def dkwX2_init_1 : List UInt8 := [181, 0, 21, 177]
abbrev dktX2_init_1 : List UInt8 := dkwX2_init_1 ++ []
def dkwX2_init_0 : List UInt8 := [42, 43, 181, 0, 3, 42, 183, 0, 9, 42, 7, 189, 0, 15, 181, 0, 17, 42, 17, 0, 180, 188, 10]
abbrev dktX2_init_0 : List UInt8 := dkwX2_init_0 ++ dktX2_init_1
theorem dksX2_init_0 : cX2_init.data.toList.drop 0 = dktX2_init_0 := by decide +kernel
theorem dksX2_init_1 : cX2_init.data.toList.drop 23 = dktX2_init_1 := dk_seg dksX2_init_0 23 rfl rfl
theorem dX2_init_0 : decode cX2_init 0 = .ok (.aload_n 0, 1) := dk_42 (dk_at dksX2_init_0 0 rfl rfl)
theorem dX2_init_1 : decode cX2_init 1 = .ok (.aload_n 1, 1) := dk_43 (dk_at dksX2_init_0 1 rfl rfl)
theorem dX2_init_2 : decode cX2_init 2 = .ok (.putfield 3, 3) := dk_181 0 3 (dk_at dksX2_init_0 2 rfl rfl)
theorem dX2_init_5 : decode cX2_init 5 = .ok (.aload_n 0, 1) := dk_42 (dk_at dksX2_init_0 5 rfl rfl)
theorem dX2_init_6 : decode cX2_init 6 = .ok (.invokespecial 9, 3) := dk_183 0 9 (dk_at dksX2_init_0 6 rfl rfl)
theorem dX2_init_9 : decode cX2_init 9 = .ok (.aload_n 0, 1) := dk_42 (dk_at dksX2_init_0 9 rfl rfl)
theorem dX2_init_10 : decode cX2_init 10 = .ok (.iconst 4, 1) := dk_7 (dk_at dksX2_init_0 10 rfl rfl)
theorem dX2_init_11 : decode cX2_init 11 = .ok (.anewarray 15, 3) := dk_189 0 15 (dk_at dksX2_init_0 11 rfl rfl)
theorem dX2_init_14 : decode cX2_init 14 = .ok (.putfield 17, 3) := dk_181 0 17 (dk_at dksX2_init_0 14 rfl rfl)
theorem dX2_init_17 : decode cX2_init 17 = .ok (.aload_n 0, 1) := dk_42 (dk_at dksX2_init_0 17 rfl rfl)
theorem dX2_init_18 : decode cX2_init 18 = .ok (.sipush 180, 3) := dk_17 0 180 (dk_at dksX2_init_0 18 rfl rfl)
theorem dX2_init_21 : decode cX2_init 21 = .ok (.newarray .int, 2) := dk_188_10 (dk_at dksX2_init_0 21 rfl rfl)
theorem dX2_init_23 : decode cX2_init 23 = .ok (.putfield 21, 3) := dk_181 0 21 (dk_at dksX2_init_1 0 rfl rfl)
theorem dX2_init_26 : decode cX2_init 26 = .ok (.return_, 1) := dk_177 (dk_at dksX2_init_1 3 rfl rfl)
abbrev cX2_starts : ByteArray := prog_7_method_2_code
def yX2_starts : MethodName := ⟨RX2, "starts", "()V"⟩
def dkwX2_starts_2 : List UInt8 := [181, 0, 32, 42, 3, 181, 0, 35, 42, 3, 181, 0, 38, 177]
abbrev dktX2_starts_2 : List UInt8 := dkwX2_starts_2 ++ []
def dkwX2_starts_1 : List UInt8 := [180, 0, 29, 27, 50, 83, 132, 1, 1, 167, 255, 227, 42, 4, 42, 180, 0, 3, 180, 0, 25, 120, 4, 100]
abbrev dktX2_starts_1 : List UInt8 := dkwX2_starts_1 ++ dktX2_starts_2
def dkwX2_starts_0 : List UInt8 := [3, 60, 27, 42, 180, 0, 3, 180, 0, 25, 162, 0, 24, 42, 180, 0, 17, 27, 42, 180, 0, 3]
abbrev dktX2_starts_0 : List UInt8 := dkwX2_starts_0 ++ dktX2_starts_1
theorem dksX2_starts_0 : cX2_starts.data.toList.drop 0 = dktX2_starts_0 := by decide +kernel
theorem dksX2_starts_1 : cX2_starts.data.toList.drop 22 = dktX2_starts_1 := dk_seg dksX2_starts_0 22 rfl rfl
theorem dksX2_starts_2 : cX2_starts.data.toList.drop 46 = dktX2_starts_2 := dk_seg dksX2_starts_1 24 rfl rfl
theorem dX2_starts_0 : decode cX2_starts 0 = .ok (.iconst 0, 1) := dk_3 (dk_at dksX2_starts_0 0 rfl rfl)
theorem dX2_starts_1 : decode cX2_starts 1 = .ok (.istore_n 1, 1) := dk_60 (dk_at dksX2_starts_0 1 rfl rfl)
theorem dX2_starts_2 : decode cX2_starts 2 = .ok (.iload_n 1, 1) := dk_27 (dk_at dksX2_starts_0 2 rfl rfl)
theorem dX2_starts_3 : decode cX2_starts 3 = .ok (.aload_n 0, 1) := dk_42 (dk_at dksX2_starts_0 3 rfl rfl)
theorem dX2_starts_4 : decode cX2_starts 4 = .ok (.getfield 3, 3) := dk_180 0 3 (dk_at dksX2_starts_0 4 rfl rfl)
theorem dX2_starts_7 : decode cX2_starts 7 = .ok (.getfield 25, 3) := dk_180 0 25 (dk_at dksX2_starts_0 7 rfl rfl)
theorem dX2_starts_10 : decode cX2_starts 10 = .ok (.if_icmp .ge 24, 3) := dk_162 0 24 (dk_at dksX2_starts_0 10 rfl rfl)
theorem dX2_starts_13 : decode cX2_starts 13 = .ok (.aload_n 0, 1) := dk_42 (dk_at dksX2_starts_0 13 rfl rfl)
theorem dX2_starts_14 : decode cX2_starts 14 = .ok (.getfield 17, 3) := dk_180 0 17 (dk_at dksX2_starts_0 14 rfl rfl)
theorem dX2_starts_17 : decode cX2_starts 17 = .ok (.iload_n 1, 1) := dk_27 (dk_at dksX2_starts_0 17 rfl rfl)
theorem dX2_starts_18 : decode cX2_starts 18 = .ok (.aload_n 0, 1) := dk_42 (dk_at dksX2_starts_0 18 rfl rfl)
theorem dX2_starts_19 : decode cX2_starts 19 = .ok (.getfield 3, 3) := dk_180 0 3 (dk_at dksX2_starts_0 19 rfl rfl)
theorem dX2_starts_22 : decode cX2_starts 22 = .ok (.getfield 29, 3) := dk_180 0 29 (dk_at dksX2_starts_1 0 rfl rfl)
theorem dX2_starts_25 : decode cX2_starts 25 = .ok (.iload_n 1, 1) := dk_27 (dk_at dksX2_starts_1 3 rfl rfl)
theorem dX2_starts_26 : decode cX2_starts 26 = .ok (.aaload, 1) := dk_50 (dk_at dksX2_starts_1 4 rfl rfl)
theorem dX2_starts_27 : decode cX2_starts 27 = .ok (.aastore, 1) := dk_83 (dk_at dksX2_starts_1 5 rfl rfl)
theorem dX2_starts_28 : decode cX2_starts 28 = .ok (.iinc 1 1, 3) := dk_132 1 1 (dk_at dksX2_starts_1 6 rfl rfl)
theorem dX2_starts_31 : decode cX2_starts 31 = .ok (.goto (-29), 3) := dk_167 255 227 (dk_at dksX2_starts_1 9 rfl rfl)
theorem dX2_starts_34 : decode cX2_starts 34 = .ok (.aload_n 0, 1) := dk_42 (dk_at dksX2_starts_1 12 rfl rfl)
theorem dX2_starts_35 : decode cX2_starts 35 = .ok (.iconst 1, 1) := dk_4 (dk_at dksX2_starts_1 13 rfl rfl)
theorem dX2_starts_36 : decode cX2_starts 36 = .ok (.aload_n 0, 1) := dk_42 (dk_at dksX2_starts_1 14 rfl rfl)
theorem dX2_starts_37 : decode cX2_starts 37 = .ok (.getfield 3, 3) := dk_180 0 3 (dk_at dksX2_starts_1 15 rfl rfl)
theorem dX2_starts_40 : decode cX2_starts 40 = .ok (.getfield 25, 3) := dk_180 0 25 (dk_at dksX2_starts_1 18 rfl rfl)
theorem dX2_starts_43 : decode cX2_starts 43 = .ok (.ishl, 1) := dk_120 (dk_at dksX2_starts_1 21 rfl rfl)
theorem dX2_starts_44 : decode cX2_starts 44 = .ok (.iconst 1, 1) := dk_4 (dk_at dksX2_starts_1 22 rfl rfl)
theorem dX2_starts_45 : decode cX2_starts 45 = .ok (.isub, 1) := dk_100 (dk_at dksX2_starts_1 23 rfl rfl)
theorem dX2_starts_46 : decode cX2_starts 46 = .ok (.putfield 32, 3) := dk_181 0 32 (dk_at dksX2_starts_2 0 rfl rfl)
theorem dX2_starts_49 : decode cX2_starts 49 = .ok (.aload_n 0, 1) := dk_42 (dk_at dksX2_starts_2 3 rfl rfl)
theorem dX2_starts_50 : decode cX2_starts 50 = .ok (.iconst 0, 1) := dk_3 (dk_at dksX2_starts_2 4 rfl rfl)
theorem dX2_starts_51 : decode cX2_starts 51 = .ok (.putfield 35, 3) := dk_181 0 35 (dk_at dksX2_starts_2 5 rfl rfl)
theorem dX2_starts_54 : decode cX2_starts 54 = .ok (.aload_n 0, 1) := dk_42 (dk_at dksX2_starts_2 8 rfl rfl)
theorem dX2_starts_55 : decode cX2_starts 55 = .ok (.iconst 0, 1) := dk_3 (dk_at dksX2_starts_2 9 rfl rfl)
theorem dX2_starts_56 : decode cX2_starts 56 = .ok (.putfield 38, 3) := dk_181 0 38 (dk_at dksX2_starts_2 10 rfl rfl)
theorem dX2_starts_59 : decode cX2_starts 59 = .ok (.return_, 1) := dk_177 (dk_at dksX2_starts_2 13 rfl rfl)
abbrev cX2_becomes : ByteArray := prog_7_method_4_code
def yX2_becomes : MethodName := ⟨RX2, "becomes", "(LLeapJoin$State;)V"⟩
def dkwX2_becomes_1 : List UInt8 := [42, 43, 180, 0, 38, 181, 0, 38, 177]
abbrev dktX2_becomes_1 : List UInt8 := dkwX2_becomes_1 ++ []
def dkwX2_becomes_0 : List UInt8 := [42, 43, 182, 0, 47, 43, 180, 0, 21, 3, 42, 180, 0, 21, 3, 6, 43, 180, 0, 38, 104, 184, 0, 41]
abbrev dktX2_becomes_0 : List UInt8 := dkwX2_becomes_0 ++ dktX2_becomes_1
theorem dksX2_becomes_0 : cX2_becomes.data.toList.drop 0 = dktX2_becomes_0 := by decide +kernel
theorem dksX2_becomes_1 : cX2_becomes.data.toList.drop 24 = dktX2_becomes_1 := dk_seg dksX2_becomes_0 24 rfl rfl
theorem dX2_becomes_0 : decode cX2_becomes 0 = .ok (.aload_n 0, 1) := dk_42 (dk_at dksX2_becomes_0 0 rfl rfl)
theorem dX2_becomes_1 : decode cX2_becomes 1 = .ok (.aload_n 1, 1) := dk_43 (dk_at dksX2_becomes_0 1 rfl rfl)
theorem dX2_becomes_2 : decode cX2_becomes 2 = .ok (.invokevirtual 47, 3) := dk_182 0 47 (dk_at dksX2_becomes_0 2 rfl rfl)
theorem dX2_becomes_5 : decode cX2_becomes 5 = .ok (.aload_n 1, 1) := dk_43 (dk_at dksX2_becomes_0 5 rfl rfl)
theorem dX2_becomes_6 : decode cX2_becomes 6 = .ok (.getfield 21, 3) := dk_180 0 21 (dk_at dksX2_becomes_0 6 rfl rfl)
theorem dX2_becomes_9 : decode cX2_becomes 9 = .ok (.iconst 0, 1) := dk_3 (dk_at dksX2_becomes_0 9 rfl rfl)
theorem dX2_becomes_10 : decode cX2_becomes 10 = .ok (.aload_n 0, 1) := dk_42 (dk_at dksX2_becomes_0 10 rfl rfl)
theorem dX2_becomes_11 : decode cX2_becomes 11 = .ok (.getfield 21, 3) := dk_180 0 21 (dk_at dksX2_becomes_0 11 rfl rfl)
theorem dX2_becomes_14 : decode cX2_becomes 14 = .ok (.iconst 0, 1) := dk_3 (dk_at dksX2_becomes_0 14 rfl rfl)
theorem dX2_becomes_15 : decode cX2_becomes 15 = .ok (.iconst 3, 1) := dk_6 (dk_at dksX2_becomes_0 15 rfl rfl)
theorem dX2_becomes_16 : decode cX2_becomes 16 = .ok (.aload_n 1, 1) := dk_43 (dk_at dksX2_becomes_0 16 rfl rfl)
theorem dX2_becomes_17 : decode cX2_becomes 17 = .ok (.getfield 38, 3) := dk_180 0 38 (dk_at dksX2_becomes_0 17 rfl rfl)
theorem dX2_becomes_20 : decode cX2_becomes 20 = .ok (.imul, 1) := dk_104 (dk_at dksX2_becomes_0 20 rfl rfl)
theorem dX2_becomes_21 : decode cX2_becomes 21 = .ok (.invokestatic 41, 3) := dk_184 0 41 (dk_at dksX2_becomes_0 21 rfl rfl)
theorem dX2_becomes_24 : decode cX2_becomes 24 = .ok (.aload_n 0, 1) := dk_42 (dk_at dksX2_becomes_1 0 rfl rfl)
theorem dX2_becomes_25 : decode cX2_becomes 25 = .ok (.aload_n 1, 1) := dk_43 (dk_at dksX2_becomes_1 1 rfl rfl)
theorem dX2_becomes_26 : decode cX2_becomes 26 = .ok (.getfield 38, 3) := dk_180 0 38 (dk_at dksX2_becomes_1 2 rfl rfl)
theorem dX2_becomes_29 : decode cX2_becomes 29 = .ok (.putfield 38, 3) := dk_181 0 38 (dk_at dksX2_becomes_1 5 rfl rfl)
theorem dX2_becomes_32 : decode cX2_becomes 32 = .ok (.return_, 1) := dk_177 (dk_at dksX2_becomes_1 8 rfl rfl)
abbrev cX2_sees : ByteArray := prog_7_method_3_code
def yX2_sees : MethodName := ⟨RX2, "sees", "(LLeapJoin$State;)V"⟩
def dkwX2_sees_1 : List UInt8 := [180, 0, 35, 181, 0, 35, 177]
abbrev dktX2_sees_1 : List UInt8 := dkwX2_sees_1 ++ []
def dkwX2_sees_0 : List UInt8 := [43, 180, 0, 17, 3, 42, 180, 0, 17, 3, 7, 184, 0, 41, 42, 43, 180, 0, 32, 181, 0, 32, 42, 43]
abbrev dktX2_sees_0 : List UInt8 := dkwX2_sees_0 ++ dktX2_sees_1
theorem dksX2_sees_0 : cX2_sees.data.toList.drop 0 = dktX2_sees_0 := by decide +kernel
theorem dksX2_sees_1 : cX2_sees.data.toList.drop 24 = dktX2_sees_1 := dk_seg dksX2_sees_0 24 rfl rfl
theorem dX2_sees_0 : decode cX2_sees 0 = .ok (.aload_n 1, 1) := dk_43 (dk_at dksX2_sees_0 0 rfl rfl)
theorem dX2_sees_1 : decode cX2_sees 1 = .ok (.getfield 17, 3) := dk_180 0 17 (dk_at dksX2_sees_0 1 rfl rfl)
theorem dX2_sees_4 : decode cX2_sees 4 = .ok (.iconst 0, 1) := dk_3 (dk_at dksX2_sees_0 4 rfl rfl)
theorem dX2_sees_5 : decode cX2_sees 5 = .ok (.aload_n 0, 1) := dk_42 (dk_at dksX2_sees_0 5 rfl rfl)
theorem dX2_sees_6 : decode cX2_sees 6 = .ok (.getfield 17, 3) := dk_180 0 17 (dk_at dksX2_sees_0 6 rfl rfl)
theorem dX2_sees_9 : decode cX2_sees 9 = .ok (.iconst 0, 1) := dk_3 (dk_at dksX2_sees_0 9 rfl rfl)
theorem dX2_sees_10 : decode cX2_sees 10 = .ok (.iconst 4, 1) := dk_7 (dk_at dksX2_sees_0 10 rfl rfl)
theorem dX2_sees_11 : decode cX2_sees 11 = .ok (.invokestatic 41, 3) := dk_184 0 41 (dk_at dksX2_sees_0 11 rfl rfl)
theorem dX2_sees_14 : decode cX2_sees 14 = .ok (.aload_n 0, 1) := dk_42 (dk_at dksX2_sees_0 14 rfl rfl)
theorem dX2_sees_15 : decode cX2_sees 15 = .ok (.aload_n 1, 1) := dk_43 (dk_at dksX2_sees_0 15 rfl rfl)
theorem dX2_sees_16 : decode cX2_sees 16 = .ok (.getfield 32, 3) := dk_180 0 32 (dk_at dksX2_sees_0 16 rfl rfl)
theorem dX2_sees_19 : decode cX2_sees 19 = .ok (.putfield 32, 3) := dk_181 0 32 (dk_at dksX2_sees_0 19 rfl rfl)
theorem dX2_sees_22 : decode cX2_sees 22 = .ok (.aload_n 0, 1) := dk_42 (dk_at dksX2_sees_0 22 rfl rfl)
theorem dX2_sees_23 : decode cX2_sees 23 = .ok (.aload_n 1, 1) := dk_43 (dk_at dksX2_sees_0 23 rfl rfl)
theorem dX2_sees_24 : decode cX2_sees 24 = .ok (.getfield 35, 3) := dk_180 0 35 (dk_at dksX2_sees_1 0 rfl rfl)
theorem dX2_sees_27 : decode cX2_sees 27 = .ok (.putfield 35, 3) := dk_181 0 35 (dk_at dksX2_sees_1 3 rfl rfl)
theorem dX2_sees_30 : decode cX2_sees 30 = .ok (.return_, 1) := dk_177 (dk_at dksX2_sees_1 6 rfl rfl)
abbrev cX2_deed : ByteArray := prog_7_method_14_code
def yX2_deed : MethodName := ⟨RX2, "deed", "(IIIII)I"⟩
def dkwX2_deed_3 : List UInt8 := [182, 0, 107, 172, 42, 28, 182, 0, 109, 172, 42, 28, 182, 0, 112, 172]
abbrev dktX2_deed_3 : List UInt8 := dkwX2_deed_3 ++ []
def dkwX2_deed_2 : List UInt8 := [42, 28, 29, 21, 4, 21, 5, 184, 0, 97, 182, 0, 103, 172, 42, 28, 29, 21, 4, 21, 5, 184, 0, 97]
abbrev dktX2_deed_2 : List UInt8 := dkwX2_deed_2 ++ dktX2_deed_3
def dkwX2_deed_1 : List UInt8 := [170, 0, 0, 0, 0, 0, 61, 0, 0, 0, 0, 0, 0, 0, 2, 0, 0, 0, 27, 0, 0, 0, 41, 0, 0, 0, 55]
abbrev dktX2_deed_1 : List UInt8 := dkwX2_deed_1 ++ dktX2_deed_2
def dkwX2_deed_0 : List UInt8 := [27]
abbrev dktX2_deed_0 : List UInt8 := dkwX2_deed_0 ++ dktX2_deed_1
theorem dksX2_deed_0 : cX2_deed.data.toList.drop 0 = dktX2_deed_0 := by decide +kernel
theorem dksX2_deed_1 : cX2_deed.data.toList.drop 1 = dktX2_deed_1 := dk_seg dksX2_deed_0 1 rfl rfl
theorem dksX2_deed_2 : cX2_deed.data.toList.drop 28 = dktX2_deed_2 := dk_seg dksX2_deed_1 27 rfl rfl
theorem dksX2_deed_3 : cX2_deed.data.toList.drop 52 = dktX2_deed_3 := dk_seg dksX2_deed_2 24 rfl rfl
theorem dX2_deed_0 : decode cX2_deed 0 = .ok (.iload_n 1, 1) := dk_27 (dk_at dksX2_deed_0 0 rfl rfl)
theorem dX2_deed_1 : decode cX2_deed 1 = .ok (.tableswitch 61 0 2 #[27, 41, 55], 27) := by decide +kernel
theorem dX2_deed_28 : decode cX2_deed 28 = .ok (.aload_n 0, 1) := dk_42 (dk_at dksX2_deed_2 0 rfl rfl)
theorem dX2_deed_29 : decode cX2_deed 29 = .ok (.iload_n 2, 1) := dk_28 (dk_at dksX2_deed_2 1 rfl rfl)
theorem dX2_deed_30 : decode cX2_deed 30 = .ok (.iload_n 3, 1) := dk_29 (dk_at dksX2_deed_2 2 rfl rfl)
theorem dX2_deed_31 : decode cX2_deed 31 = .ok (.iload 4, 2) := dk_21 4 (dk_at dksX2_deed_2 3 rfl rfl)
theorem dX2_deed_33 : decode cX2_deed 33 = .ok (.iload 5, 2) := dk_21 5 (dk_at dksX2_deed_2 5 rfl rfl)
theorem dX2_deed_35 : decode cX2_deed 35 = .ok (.invokestatic 97, 3) := dk_184 0 97 (dk_at dksX2_deed_2 7 rfl rfl)
theorem dX2_deed_38 : decode cX2_deed 38 = .ok (.invokevirtual 103, 3) := dk_182 0 103 (dk_at dksX2_deed_2 10 rfl rfl)
theorem dX2_deed_41 : decode cX2_deed 41 = .ok (.ireturn, 1) := dk_172 (dk_at dksX2_deed_2 13 rfl rfl)
theorem dX2_deed_42 : decode cX2_deed 42 = .ok (.aload_n 0, 1) := dk_42 (dk_at dksX2_deed_2 14 rfl rfl)
theorem dX2_deed_43 : decode cX2_deed 43 = .ok (.iload_n 2, 1) := dk_28 (dk_at dksX2_deed_2 15 rfl rfl)
theorem dX2_deed_44 : decode cX2_deed 44 = .ok (.iload_n 3, 1) := dk_29 (dk_at dksX2_deed_2 16 rfl rfl)
theorem dX2_deed_45 : decode cX2_deed 45 = .ok (.iload 4, 2) := dk_21 4 (dk_at dksX2_deed_2 17 rfl rfl)
theorem dX2_deed_47 : decode cX2_deed 47 = .ok (.iload 5, 2) := dk_21 5 (dk_at dksX2_deed_2 19 rfl rfl)
theorem dX2_deed_49 : decode cX2_deed 49 = .ok (.invokestatic 97, 3) := dk_184 0 97 (dk_at dksX2_deed_2 21 rfl rfl)
theorem dX2_deed_52 : decode cX2_deed 52 = .ok (.invokevirtual 107, 3) := dk_182 0 107 (dk_at dksX2_deed_3 0 rfl rfl)
theorem dX2_deed_55 : decode cX2_deed 55 = .ok (.ireturn, 1) := dk_172 (dk_at dksX2_deed_3 3 rfl rfl)
theorem dX2_deed_56 : decode cX2_deed 56 = .ok (.aload_n 0, 1) := dk_42 (dk_at dksX2_deed_3 4 rfl rfl)
theorem dX2_deed_57 : decode cX2_deed 57 = .ok (.iload_n 2, 1) := dk_28 (dk_at dksX2_deed_3 5 rfl rfl)
theorem dX2_deed_58 : decode cX2_deed 58 = .ok (.invokevirtual 109, 3) := dk_182 0 109 (dk_at dksX2_deed_3 6 rfl rfl)
theorem dX2_deed_61 : decode cX2_deed 61 = .ok (.ireturn, 1) := dk_172 (dk_at dksX2_deed_3 9 rfl rfl)
theorem dX2_deed_62 : decode cX2_deed 62 = .ok (.aload_n 0, 1) := dk_42 (dk_at dksX2_deed_3 10 rfl rfl)
theorem dX2_deed_63 : decode cX2_deed 63 = .ok (.iload_n 2, 1) := dk_28 (dk_at dksX2_deed_3 11 rfl rfl)
theorem dX2_deed_64 : decode cX2_deed 64 = .ok (.invokevirtual 112, 3) := dk_182 0 112 (dk_at dksX2_deed_3 12 rfl rfl)
theorem dX2_deed_67 : decode cX2_deed 67 = .ok (.ireturn, 1) := dk_172 (dk_at dksX2_deed_3 15 rfl rfl)
abbrev cX2_puts : ByteArray := prog_7_method_10_code
def yX2_puts : MethodName := ⟨RX2, "puts", "(ILLeapJoin$Row;)I"⟩
def dkwX2_puts_4 : List UInt8 := [172]
abbrev dktX2_puts_4 : List UInt8 := dkwX2_puts_4 ++ []
def dkwX2_puts_3 : List UInt8 := [83, 42, 180, 0, 17, 27, 50, 44, 182, 0, 83, 42, 42, 180, 0, 17, 27, 50, 180, 0, 66, 182, 0, 87]
abbrev dktX2_puts_3 : List UInt8 := dkwX2_puts_3 ++ dktX2_puts_4
def dkwX2_puts_2 : List UInt8 := [180, 0, 66, 16, 12, 160, 0, 5, 6, 172, 42, 180, 0, 17, 27, 42, 180, 0, 17, 27, 50, 182, 0, 79]
abbrev dktX2_puts_2 : List UInt8 := dkwX2_puts_2 ++ dktX2_puts_3
def dkwX2_puts_1 : List UInt8 := [172, 42, 180, 0, 17, 27, 50, 44, 182, 0, 75, 2, 159, 0, 5, 5, 172, 42, 180, 0, 17, 27, 50]
abbrev dktX2_puts_1 : List UInt8 := dkwX2_puts_1 ++ dktX2_puts_2
def dkwX2_puts_0 : List UInt8 := [42, 27, 182, 0, 67, 154, 0, 5, 3, 172, 42, 180, 0, 17, 27, 50, 44, 182, 0, 71, 154, 0, 5, 4]
abbrev dktX2_puts_0 : List UInt8 := dkwX2_puts_0 ++ dktX2_puts_1
theorem dksX2_puts_0 : cX2_puts.data.toList.drop 0 = dktX2_puts_0 := by decide +kernel
theorem dksX2_puts_1 : cX2_puts.data.toList.drop 24 = dktX2_puts_1 := dk_seg dksX2_puts_0 24 rfl rfl
theorem dksX2_puts_2 : cX2_puts.data.toList.drop 47 = dktX2_puts_2 := dk_seg dksX2_puts_1 23 rfl rfl
theorem dksX2_puts_3 : cX2_puts.data.toList.drop 71 = dktX2_puts_3 := dk_seg dksX2_puts_2 24 rfl rfl
theorem dksX2_puts_4 : cX2_puts.data.toList.drop 95 = dktX2_puts_4 := dk_seg dksX2_puts_3 24 rfl rfl
theorem dX2_puts_0 : decode cX2_puts 0 = .ok (.aload_n 0, 1) := dk_42 (dk_at dksX2_puts_0 0 rfl rfl)
theorem dX2_puts_1 : decode cX2_puts 1 = .ok (.iload_n 1, 1) := dk_27 (dk_at dksX2_puts_0 1 rfl rfl)
theorem dX2_puts_2 : decode cX2_puts 2 = .ok (.invokevirtual 67, 3) := dk_182 0 67 (dk_at dksX2_puts_0 2 rfl rfl)
theorem dX2_puts_5 : decode cX2_puts 5 = .ok (.ifCond .ne 5, 3) := dk_154 0 5 (dk_at dksX2_puts_0 5 rfl rfl)
theorem dX2_puts_8 : decode cX2_puts 8 = .ok (.iconst 0, 1) := dk_3 (dk_at dksX2_puts_0 8 rfl rfl)
theorem dX2_puts_9 : decode cX2_puts 9 = .ok (.ireturn, 1) := dk_172 (dk_at dksX2_puts_0 9 rfl rfl)
theorem dX2_puts_10 : decode cX2_puts 10 = .ok (.aload_n 0, 1) := dk_42 (dk_at dksX2_puts_0 10 rfl rfl)
theorem dX2_puts_11 : decode cX2_puts 11 = .ok (.getfield 17, 3) := dk_180 0 17 (dk_at dksX2_puts_0 11 rfl rfl)
theorem dX2_puts_14 : decode cX2_puts 14 = .ok (.iload_n 1, 1) := dk_27 (dk_at dksX2_puts_0 14 rfl rfl)
theorem dX2_puts_15 : decode cX2_puts 15 = .ok (.aaload, 1) := dk_50 (dk_at dksX2_puts_0 15 rfl rfl)
theorem dX2_puts_16 : decode cX2_puts 16 = .ok (.aload_n 2, 1) := dk_44 (dk_at dksX2_puts_0 16 rfl rfl)
theorem dX2_puts_17 : decode cX2_puts 17 = .ok (.invokevirtual 71, 3) := dk_182 0 71 (dk_at dksX2_puts_0 17 rfl rfl)
theorem dX2_puts_20 : decode cX2_puts 20 = .ok (.ifCond .ne 5, 3) := dk_154 0 5 (dk_at dksX2_puts_0 20 rfl rfl)
theorem dX2_puts_23 : decode cX2_puts 23 = .ok (.iconst 1, 1) := dk_4 (dk_at dksX2_puts_0 23 rfl rfl)
theorem dX2_puts_24 : decode cX2_puts 24 = .ok (.ireturn, 1) := dk_172 (dk_at dksX2_puts_1 0 rfl rfl)
theorem dX2_puts_25 : decode cX2_puts 25 = .ok (.aload_n 0, 1) := dk_42 (dk_at dksX2_puts_1 1 rfl rfl)
theorem dX2_puts_26 : decode cX2_puts 26 = .ok (.getfield 17, 3) := dk_180 0 17 (dk_at dksX2_puts_1 2 rfl rfl)
theorem dX2_puts_29 : decode cX2_puts 29 = .ok (.iload_n 1, 1) := dk_27 (dk_at dksX2_puts_1 5 rfl rfl)
theorem dX2_puts_30 : decode cX2_puts 30 = .ok (.aaload, 1) := dk_50 (dk_at dksX2_puts_1 6 rfl rfl)
theorem dX2_puts_31 : decode cX2_puts 31 = .ok (.aload_n 2, 1) := dk_44 (dk_at dksX2_puts_1 7 rfl rfl)
theorem dX2_puts_32 : decode cX2_puts 32 = .ok (.invokevirtual 75, 3) := dk_182 0 75 (dk_at dksX2_puts_1 8 rfl rfl)
theorem dX2_puts_35 : decode cX2_puts 35 = .ok (.iconst (-1), 1) := dk_2 (dk_at dksX2_puts_1 11 rfl rfl)
theorem dX2_puts_36 : decode cX2_puts 36 = .ok (.if_icmp .eq 5, 3) := dk_159 0 5 (dk_at dksX2_puts_1 12 rfl rfl)
theorem dX2_puts_39 : decode cX2_puts 39 = .ok (.iconst 2, 1) := dk_5 (dk_at dksX2_puts_1 15 rfl rfl)
theorem dX2_puts_40 : decode cX2_puts 40 = .ok (.ireturn, 1) := dk_172 (dk_at dksX2_puts_1 16 rfl rfl)
theorem dX2_puts_41 : decode cX2_puts 41 = .ok (.aload_n 0, 1) := dk_42 (dk_at dksX2_puts_1 17 rfl rfl)
theorem dX2_puts_42 : decode cX2_puts 42 = .ok (.getfield 17, 3) := dk_180 0 17 (dk_at dksX2_puts_1 18 rfl rfl)
theorem dX2_puts_45 : decode cX2_puts 45 = .ok (.iload_n 1, 1) := dk_27 (dk_at dksX2_puts_1 21 rfl rfl)
theorem dX2_puts_46 : decode cX2_puts 46 = .ok (.aaload, 1) := dk_50 (dk_at dksX2_puts_1 22 rfl rfl)
theorem dX2_puts_47 : decode cX2_puts 47 = .ok (.getfield 66, 3) := dk_180 0 66 (dk_at dksX2_puts_2 0 rfl rfl)
theorem dX2_puts_50 : decode cX2_puts 50 = .ok (.bipush 12, 2) := dk_16 12 (dk_at dksX2_puts_2 3 rfl rfl)
theorem dX2_puts_52 : decode cX2_puts 52 = .ok (.if_icmp .ne 5, 3) := dk_160 0 5 (dk_at dksX2_puts_2 5 rfl rfl)
theorem dX2_puts_55 : decode cX2_puts 55 = .ok (.iconst 3, 1) := dk_6 (dk_at dksX2_puts_2 8 rfl rfl)
theorem dX2_puts_56 : decode cX2_puts 56 = .ok (.ireturn, 1) := dk_172 (dk_at dksX2_puts_2 9 rfl rfl)
theorem dX2_puts_57 : decode cX2_puts 57 = .ok (.aload_n 0, 1) := dk_42 (dk_at dksX2_puts_2 10 rfl rfl)
theorem dX2_puts_58 : decode cX2_puts 58 = .ok (.getfield 17, 3) := dk_180 0 17 (dk_at dksX2_puts_2 11 rfl rfl)
theorem dX2_puts_61 : decode cX2_puts 61 = .ok (.iload_n 1, 1) := dk_27 (dk_at dksX2_puts_2 14 rfl rfl)
theorem dX2_puts_62 : decode cX2_puts 62 = .ok (.aload_n 0, 1) := dk_42 (dk_at dksX2_puts_2 15 rfl rfl)
theorem dX2_puts_63 : decode cX2_puts 63 = .ok (.getfield 17, 3) := dk_180 0 17 (dk_at dksX2_puts_2 16 rfl rfl)
theorem dX2_puts_66 : decode cX2_puts 66 = .ok (.iload_n 1, 1) := dk_27 (dk_at dksX2_puts_2 19 rfl rfl)
theorem dX2_puts_67 : decode cX2_puts 67 = .ok (.aaload, 1) := dk_50 (dk_at dksX2_puts_2 20 rfl rfl)
theorem dX2_puts_68 : decode cX2_puts 68 = .ok (.invokevirtual 79, 3) := dk_182 0 79 (dk_at dksX2_puts_2 21 rfl rfl)
theorem dX2_puts_71 : decode cX2_puts 71 = .ok (.aastore, 1) := dk_83 (dk_at dksX2_puts_3 0 rfl rfl)
theorem dX2_puts_72 : decode cX2_puts 72 = .ok (.aload_n 0, 1) := dk_42 (dk_at dksX2_puts_3 1 rfl rfl)
theorem dX2_puts_73 : decode cX2_puts 73 = .ok (.getfield 17, 3) := dk_180 0 17 (dk_at dksX2_puts_3 2 rfl rfl)
theorem dX2_puts_76 : decode cX2_puts 76 = .ok (.iload_n 1, 1) := dk_27 (dk_at dksX2_puts_3 5 rfl rfl)
theorem dX2_puts_77 : decode cX2_puts 77 = .ok (.aaload, 1) := dk_50 (dk_at dksX2_puts_3 6 rfl rfl)
theorem dX2_puts_78 : decode cX2_puts 78 = .ok (.aload_n 2, 1) := dk_44 (dk_at dksX2_puts_3 7 rfl rfl)
theorem dX2_puts_79 : decode cX2_puts 79 = .ok (.invokevirtual 83, 3) := dk_182 0 83 (dk_at dksX2_puts_3 8 rfl rfl)
theorem dX2_puts_82 : decode cX2_puts 82 = .ok (.aload_n 0, 1) := dk_42 (dk_at dksX2_puts_3 11 rfl rfl)
theorem dX2_puts_83 : decode cX2_puts 83 = .ok (.aload_n 0, 1) := dk_42 (dk_at dksX2_puts_3 12 rfl rfl)
theorem dX2_puts_84 : decode cX2_puts 84 = .ok (.getfield 17, 3) := dk_180 0 17 (dk_at dksX2_puts_3 13 rfl rfl)
theorem dX2_puts_87 : decode cX2_puts 87 = .ok (.iload_n 1, 1) := dk_27 (dk_at dksX2_puts_3 16 rfl rfl)
theorem dX2_puts_88 : decode cX2_puts 88 = .ok (.aaload, 1) := dk_50 (dk_at dksX2_puts_3 17 rfl rfl)
theorem dX2_puts_89 : decode cX2_puts 89 = .ok (.getfield 66, 3) := dk_180 0 66 (dk_at dksX2_puts_3 18 rfl rfl)
theorem dX2_puts_92 : decode cX2_puts 92 = .ok (.invokevirtual 87, 3) := dk_182 0 87 (dk_at dksX2_puts_3 21 rfl rfl)
theorem dX2_puts_95 : decode cX2_puts 95 = .ok (.ireturn, 1) := dk_172 (dk_at dksX2_puts_4 0 rfl rfl)
abbrev cX2_isTable : ByteArray := prog_7_method_7_code
def yX2_isTable : MethodName := ⟨RX2, "isTable", "(I)Z"⟩
def dkwX2_isTable_0 : List UInt8 := [27, 133, 9, 42, 180, 0, 3, 180, 0, 25, 4, 100, 133, 184, 0, 54, 172]
abbrev dktX2_isTable_0 : List UInt8 := dkwX2_isTable_0 ++ []
theorem dksX2_isTable_0 : cX2_isTable.data.toList.drop 0 = dktX2_isTable_0 := by decide +kernel
theorem dX2_isTable_0 : decode cX2_isTable 0 = .ok (.iload_n 1, 1) := dk_27 (dk_at dksX2_isTable_0 0 rfl rfl)
theorem dX2_isTable_1 : decode cX2_isTable 1 = .ok (.i2l, 1) := dk_133 (dk_at dksX2_isTable_0 1 rfl rfl)
theorem dX2_isTable_2 : decode cX2_isTable 2 = .ok (.lconst 0, 1) := dk_9 (dk_at dksX2_isTable_0 2 rfl rfl)
theorem dX2_isTable_3 : decode cX2_isTable 3 = .ok (.aload_n 0, 1) := dk_42 (dk_at dksX2_isTable_0 3 rfl rfl)
theorem dX2_isTable_4 : decode cX2_isTable 4 = .ok (.getfield 3, 3) := dk_180 0 3 (dk_at dksX2_isTable_0 4 rfl rfl)
theorem dX2_isTable_7 : decode cX2_isTable 7 = .ok (.getfield 25, 3) := dk_180 0 25 (dk_at dksX2_isTable_0 7 rfl rfl)
theorem dX2_isTable_10 : decode cX2_isTable 10 = .ok (.iconst 1, 1) := dk_4 (dk_at dksX2_isTable_0 10 rfl rfl)
theorem dX2_isTable_11 : decode cX2_isTable 11 = .ok (.isub, 1) := dk_100 (dk_at dksX2_isTable_0 11 rfl rfl)
theorem dX2_isTable_12 : decode cX2_isTable 12 = .ok (.i2l, 1) := dk_133 (dk_at dksX2_isTable_0 12 rfl rfl)
theorem dX2_isTable_13 : decode cX2_isTable 13 = .ok (.invokestatic 54, 3) := dk_184 0 54 (dk_at dksX2_isTable_0 13 rfl rfl)
theorem dX2_isTable_16 : decode cX2_isTable 16 = .ok (.ireturn, 1) := dk_172 (dk_at dksX2_isTable_0 16 rfl rfl)
abbrev cX2_done : ByteArray := prog_7_method_6_code
def yX2_done : MethodName := ⟨RX2, "done", "(I)I"⟩
def dkwX2_done_0 : List UInt8 := [42, 27, 181, 0, 51, 2, 172]
abbrev dktX2_done_0 : List UInt8 := dkwX2_done_0 ++ []
theorem dksX2_done_0 : cX2_done.data.toList.drop 0 = dktX2_done_0 := by decide +kernel
theorem dX2_done_0 : decode cX2_done 0 = .ok (.aload_n 0, 1) := dk_42 (dk_at dksX2_done_0 0 rfl rfl)
theorem dX2_done_1 : decode cX2_done 1 = .ok (.iload_n 1, 1) := dk_27 (dk_at dksX2_done_0 1 rfl rfl)
theorem dX2_done_2 : decode cX2_done 2 = .ok (.putfield 51, 3) := dk_181 0 51 (dk_at dksX2_done_0 2 rfl rfl)
theorem dX2_done_5 : decode cX2_done 5 = .ok (.iconst (-1), 1) := dk_2 (dk_at dksX2_done_0 5 rfl rfl)
theorem dX2_done_6 : decode cX2_done 6 = .ok (.ireturn, 1) := dk_172 (dk_at dksX2_done_0 6 rfl rfl)
abbrev cX2_takes : ByteArray := prog_7_method_11_code
def yX2_takes : MethodName := ⟨RX2, "takes", "(ILLeapJoin$Row;)I"⟩
def dkwX2_takes_3 : List UInt8 := [180, 0, 17, 27, 50, 180, 0, 66, 182, 0, 87, 172]
abbrev dktX2_takes_3 : List UInt8 := dkwX2_takes_3 ++ []
def dkwX2_takes_2 : List UInt8 := [42, 180, 0, 17, 27, 50, 182, 0, 79, 83, 42, 180, 0, 17, 27, 50, 29, 182, 0, 91, 42, 42]
abbrev dktX2_takes_2 : List UInt8 := dkwX2_takes_2 ++ dktX2_takes_3
def dkwX2_takes_1 : List UInt8 := [172, 42, 180, 0, 17, 27, 50, 44, 182, 0, 75, 62, 29, 2, 160, 0, 5, 5, 172, 42, 180, 0, 17, 27]
abbrev dktX2_takes_1 : List UInt8 := dkwX2_takes_1 ++ dktX2_takes_2
def dkwX2_takes_0 : List UInt8 := [42, 27, 182, 0, 67, 154, 0, 5, 3, 172, 42, 180, 0, 17, 27, 50, 44, 182, 0, 71, 154, 0, 5, 4]
abbrev dktX2_takes_0 : List UInt8 := dkwX2_takes_0 ++ dktX2_takes_1
theorem dksX2_takes_0 : cX2_takes.data.toList.drop 0 = dktX2_takes_0 := by decide +kernel
theorem dksX2_takes_1 : cX2_takes.data.toList.drop 24 = dktX2_takes_1 := dk_seg dksX2_takes_0 24 rfl rfl
theorem dksX2_takes_2 : cX2_takes.data.toList.drop 48 = dktX2_takes_2 := dk_seg dksX2_takes_1 24 rfl rfl
theorem dksX2_takes_3 : cX2_takes.data.toList.drop 70 = dktX2_takes_3 := dk_seg dksX2_takes_2 22 rfl rfl
theorem dX2_takes_0 : decode cX2_takes 0 = .ok (.aload_n 0, 1) := dk_42 (dk_at dksX2_takes_0 0 rfl rfl)
theorem dX2_takes_1 : decode cX2_takes 1 = .ok (.iload_n 1, 1) := dk_27 (dk_at dksX2_takes_0 1 rfl rfl)
theorem dX2_takes_2 : decode cX2_takes 2 = .ok (.invokevirtual 67, 3) := dk_182 0 67 (dk_at dksX2_takes_0 2 rfl rfl)
theorem dX2_takes_5 : decode cX2_takes 5 = .ok (.ifCond .ne 5, 3) := dk_154 0 5 (dk_at dksX2_takes_0 5 rfl rfl)
theorem dX2_takes_8 : decode cX2_takes 8 = .ok (.iconst 0, 1) := dk_3 (dk_at dksX2_takes_0 8 rfl rfl)
theorem dX2_takes_9 : decode cX2_takes 9 = .ok (.ireturn, 1) := dk_172 (dk_at dksX2_takes_0 9 rfl rfl)
theorem dX2_takes_10 : decode cX2_takes 10 = .ok (.aload_n 0, 1) := dk_42 (dk_at dksX2_takes_0 10 rfl rfl)
theorem dX2_takes_11 : decode cX2_takes 11 = .ok (.getfield 17, 3) := dk_180 0 17 (dk_at dksX2_takes_0 11 rfl rfl)
theorem dX2_takes_14 : decode cX2_takes 14 = .ok (.iload_n 1, 1) := dk_27 (dk_at dksX2_takes_0 14 rfl rfl)
theorem dX2_takes_15 : decode cX2_takes 15 = .ok (.aaload, 1) := dk_50 (dk_at dksX2_takes_0 15 rfl rfl)
theorem dX2_takes_16 : decode cX2_takes 16 = .ok (.aload_n 2, 1) := dk_44 (dk_at dksX2_takes_0 16 rfl rfl)
theorem dX2_takes_17 : decode cX2_takes 17 = .ok (.invokevirtual 71, 3) := dk_182 0 71 (dk_at dksX2_takes_0 17 rfl rfl)
theorem dX2_takes_20 : decode cX2_takes 20 = .ok (.ifCond .ne 5, 3) := dk_154 0 5 (dk_at dksX2_takes_0 20 rfl rfl)
theorem dX2_takes_23 : decode cX2_takes 23 = .ok (.iconst 1, 1) := dk_4 (dk_at dksX2_takes_0 23 rfl rfl)
theorem dX2_takes_24 : decode cX2_takes 24 = .ok (.ireturn, 1) := dk_172 (dk_at dksX2_takes_1 0 rfl rfl)
theorem dX2_takes_25 : decode cX2_takes 25 = .ok (.aload_n 0, 1) := dk_42 (dk_at dksX2_takes_1 1 rfl rfl)
theorem dX2_takes_26 : decode cX2_takes 26 = .ok (.getfield 17, 3) := dk_180 0 17 (dk_at dksX2_takes_1 2 rfl rfl)
theorem dX2_takes_29 : decode cX2_takes 29 = .ok (.iload_n 1, 1) := dk_27 (dk_at dksX2_takes_1 5 rfl rfl)
theorem dX2_takes_30 : decode cX2_takes 30 = .ok (.aaload, 1) := dk_50 (dk_at dksX2_takes_1 6 rfl rfl)
theorem dX2_takes_31 : decode cX2_takes 31 = .ok (.aload_n 2, 1) := dk_44 (dk_at dksX2_takes_1 7 rfl rfl)
theorem dX2_takes_32 : decode cX2_takes 32 = .ok (.invokevirtual 75, 3) := dk_182 0 75 (dk_at dksX2_takes_1 8 rfl rfl)
theorem dX2_takes_35 : decode cX2_takes 35 = .ok (.istore_n 3, 1) := dk_62 (dk_at dksX2_takes_1 11 rfl rfl)
theorem dX2_takes_36 : decode cX2_takes 36 = .ok (.iload_n 3, 1) := dk_29 (dk_at dksX2_takes_1 12 rfl rfl)
theorem dX2_takes_37 : decode cX2_takes 37 = .ok (.iconst (-1), 1) := dk_2 (dk_at dksX2_takes_1 13 rfl rfl)
theorem dX2_takes_38 : decode cX2_takes 38 = .ok (.if_icmp .ne 5, 3) := dk_160 0 5 (dk_at dksX2_takes_1 14 rfl rfl)
theorem dX2_takes_41 : decode cX2_takes 41 = .ok (.iconst 2, 1) := dk_5 (dk_at dksX2_takes_1 17 rfl rfl)
theorem dX2_takes_42 : decode cX2_takes 42 = .ok (.ireturn, 1) := dk_172 (dk_at dksX2_takes_1 18 rfl rfl)
theorem dX2_takes_43 : decode cX2_takes 43 = .ok (.aload_n 0, 1) := dk_42 (dk_at dksX2_takes_1 19 rfl rfl)
theorem dX2_takes_44 : decode cX2_takes 44 = .ok (.getfield 17, 3) := dk_180 0 17 (dk_at dksX2_takes_1 20 rfl rfl)
theorem dX2_takes_47 : decode cX2_takes 47 = .ok (.iload_n 1, 1) := dk_27 (dk_at dksX2_takes_1 23 rfl rfl)
theorem dX2_takes_48 : decode cX2_takes 48 = .ok (.aload_n 0, 1) := dk_42 (dk_at dksX2_takes_2 0 rfl rfl)
theorem dX2_takes_49 : decode cX2_takes 49 = .ok (.getfield 17, 3) := dk_180 0 17 (dk_at dksX2_takes_2 1 rfl rfl)
theorem dX2_takes_52 : decode cX2_takes 52 = .ok (.iload_n 1, 1) := dk_27 (dk_at dksX2_takes_2 4 rfl rfl)
theorem dX2_takes_53 : decode cX2_takes 53 = .ok (.aaload, 1) := dk_50 (dk_at dksX2_takes_2 5 rfl rfl)
theorem dX2_takes_54 : decode cX2_takes 54 = .ok (.invokevirtual 79, 3) := dk_182 0 79 (dk_at dksX2_takes_2 6 rfl rfl)
theorem dX2_takes_57 : decode cX2_takes 57 = .ok (.aastore, 1) := dk_83 (dk_at dksX2_takes_2 9 rfl rfl)
theorem dX2_takes_58 : decode cX2_takes 58 = .ok (.aload_n 0, 1) := dk_42 (dk_at dksX2_takes_2 10 rfl rfl)
theorem dX2_takes_59 : decode cX2_takes 59 = .ok (.getfield 17, 3) := dk_180 0 17 (dk_at dksX2_takes_2 11 rfl rfl)
theorem dX2_takes_62 : decode cX2_takes 62 = .ok (.iload_n 1, 1) := dk_27 (dk_at dksX2_takes_2 14 rfl rfl)
theorem dX2_takes_63 : decode cX2_takes 63 = .ok (.aaload, 1) := dk_50 (dk_at dksX2_takes_2 15 rfl rfl)
theorem dX2_takes_64 : decode cX2_takes 64 = .ok (.iload_n 3, 1) := dk_29 (dk_at dksX2_takes_2 16 rfl rfl)
theorem dX2_takes_65 : decode cX2_takes 65 = .ok (.invokevirtual 91, 3) := dk_182 0 91 (dk_at dksX2_takes_2 17 rfl rfl)
theorem dX2_takes_68 : decode cX2_takes 68 = .ok (.aload_n 0, 1) := dk_42 (dk_at dksX2_takes_2 20 rfl rfl)
theorem dX2_takes_69 : decode cX2_takes 69 = .ok (.aload_n 0, 1) := dk_42 (dk_at dksX2_takes_2 21 rfl rfl)
theorem dX2_takes_70 : decode cX2_takes 70 = .ok (.getfield 17, 3) := dk_180 0 17 (dk_at dksX2_takes_3 0 rfl rfl)
theorem dX2_takes_73 : decode cX2_takes 73 = .ok (.iload_n 1, 1) := dk_27 (dk_at dksX2_takes_3 3 rfl rfl)
theorem dX2_takes_74 : decode cX2_takes 74 = .ok (.aaload, 1) := dk_50 (dk_at dksX2_takes_3 4 rfl rfl)
theorem dX2_takes_75 : decode cX2_takes 75 = .ok (.getfield 66, 3) := dk_180 0 66 (dk_at dksX2_takes_3 5 rfl rfl)
theorem dX2_takes_78 : decode cX2_takes 78 = .ok (.invokevirtual 87, 3) := dk_182 0 87 (dk_at dksX2_takes_3 8 rfl rfl)
theorem dX2_takes_81 : decode cX2_takes 81 = .ok (.ireturn, 1) := dk_172 (dk_at dksX2_takes_3 11 rfl rfl)
abbrev cX2_uses : ByteArray := prog_7_method_12_code
def yX2_uses : MethodName := ⟨RX2, "uses", "(I)I"⟩
def dkwX2_uses_1 : List UInt8 := [180, 0, 32, 4, 27, 120, 130, 181, 0, 32, 42, 42, 180, 0, 32, 27, 122, 4, 126, 182, 0, 87, 172]
abbrev dktX2_uses_1 : List UInt8 := dkwX2_uses_1 ++ []
def dkwX2_uses_0 : List UInt8 := [42, 27, 182, 0, 67, 154, 0, 5, 3, 172, 42, 180, 0, 32, 4, 27, 120, 160, 0, 5, 5, 172, 42, 89]
abbrev dktX2_uses_0 : List UInt8 := dkwX2_uses_0 ++ dktX2_uses_1
theorem dksX2_uses_0 : cX2_uses.data.toList.drop 0 = dktX2_uses_0 := by decide +kernel
theorem dksX2_uses_1 : cX2_uses.data.toList.drop 24 = dktX2_uses_1 := dk_seg dksX2_uses_0 24 rfl rfl
theorem dX2_uses_0 : decode cX2_uses 0 = .ok (.aload_n 0, 1) := dk_42 (dk_at dksX2_uses_0 0 rfl rfl)
theorem dX2_uses_1 : decode cX2_uses 1 = .ok (.iload_n 1, 1) := dk_27 (dk_at dksX2_uses_0 1 rfl rfl)
theorem dX2_uses_2 : decode cX2_uses 2 = .ok (.invokevirtual 67, 3) := dk_182 0 67 (dk_at dksX2_uses_0 2 rfl rfl)
theorem dX2_uses_5 : decode cX2_uses 5 = .ok (.ifCond .ne 5, 3) := dk_154 0 5 (dk_at dksX2_uses_0 5 rfl rfl)
theorem dX2_uses_8 : decode cX2_uses 8 = .ok (.iconst 0, 1) := dk_3 (dk_at dksX2_uses_0 8 rfl rfl)
theorem dX2_uses_9 : decode cX2_uses 9 = .ok (.ireturn, 1) := dk_172 (dk_at dksX2_uses_0 9 rfl rfl)
theorem dX2_uses_10 : decode cX2_uses 10 = .ok (.aload_n 0, 1) := dk_42 (dk_at dksX2_uses_0 10 rfl rfl)
theorem dX2_uses_11 : decode cX2_uses 11 = .ok (.getfield 32, 3) := dk_180 0 32 (dk_at dksX2_uses_0 11 rfl rfl)
theorem dX2_uses_14 : decode cX2_uses 14 = .ok (.iconst 1, 1) := dk_4 (dk_at dksX2_uses_0 14 rfl rfl)
theorem dX2_uses_15 : decode cX2_uses 15 = .ok (.iload_n 1, 1) := dk_27 (dk_at dksX2_uses_0 15 rfl rfl)
theorem dX2_uses_16 : decode cX2_uses 16 = .ok (.ishl, 1) := dk_120 (dk_at dksX2_uses_0 16 rfl rfl)
theorem dX2_uses_17 : decode cX2_uses 17 = .ok (.if_icmp .ne 5, 3) := dk_160 0 5 (dk_at dksX2_uses_0 17 rfl rfl)
theorem dX2_uses_20 : decode cX2_uses 20 = .ok (.iconst 2, 1) := dk_5 (dk_at dksX2_uses_0 20 rfl rfl)
theorem dX2_uses_21 : decode cX2_uses 21 = .ok (.ireturn, 1) := dk_172 (dk_at dksX2_uses_0 21 rfl rfl)
theorem dX2_uses_22 : decode cX2_uses 22 = .ok (.aload_n 0, 1) := dk_42 (dk_at dksX2_uses_0 22 rfl rfl)
theorem dX2_uses_23 : decode cX2_uses 23 = .ok (.dup, 1) := dk_89 (dk_at dksX2_uses_0 23 rfl rfl)
theorem dX2_uses_24 : decode cX2_uses 24 = .ok (.getfield 32, 3) := dk_180 0 32 (dk_at dksX2_uses_1 0 rfl rfl)
theorem dX2_uses_27 : decode cX2_uses 27 = .ok (.iconst 1, 1) := dk_4 (dk_at dksX2_uses_1 3 rfl rfl)
theorem dX2_uses_28 : decode cX2_uses 28 = .ok (.iload_n 1, 1) := dk_27 (dk_at dksX2_uses_1 4 rfl rfl)
theorem dX2_uses_29 : decode cX2_uses 29 = .ok (.ishl, 1) := dk_120 (dk_at dksX2_uses_1 5 rfl rfl)
theorem dX2_uses_30 : decode cX2_uses 30 = .ok (.ixor, 1) := dk_130 (dk_at dksX2_uses_1 6 rfl rfl)
theorem dX2_uses_31 : decode cX2_uses 31 = .ok (.putfield 32, 3) := dk_181 0 32 (dk_at dksX2_uses_1 7 rfl rfl)
theorem dX2_uses_34 : decode cX2_uses 34 = .ok (.aload_n 0, 1) := dk_42 (dk_at dksX2_uses_1 10 rfl rfl)
theorem dX2_uses_35 : decode cX2_uses 35 = .ok (.aload_n 0, 1) := dk_42 (dk_at dksX2_uses_1 11 rfl rfl)
theorem dX2_uses_36 : decode cX2_uses 36 = .ok (.getfield 32, 3) := dk_180 0 32 (dk_at dksX2_uses_1 12 rfl rfl)
theorem dX2_uses_39 : decode cX2_uses 39 = .ok (.iload_n 1, 1) := dk_27 (dk_at dksX2_uses_1 15 rfl rfl)
theorem dX2_uses_40 : decode cX2_uses 40 = .ok (.ishr, 1) := dk_122 (dk_at dksX2_uses_1 16 rfl rfl)
theorem dX2_uses_41 : decode cX2_uses 41 = .ok (.iconst 1, 1) := dk_4 (dk_at dksX2_uses_1 17 rfl rfl)
theorem dX2_uses_42 : decode cX2_uses 42 = .ok (.iand, 1) := dk_126 (dk_at dksX2_uses_1 18 rfl rfl)
theorem dX2_uses_43 : decode cX2_uses 43 = .ok (.invokevirtual 87, 3) := dk_182 0 87 (dk_at dksX2_uses_1 19 rfl rfl)
theorem dX2_uses_46 : decode cX2_uses 46 = .ok (.ireturn, 1) := dk_172 (dk_at dksX2_uses_1 22 rfl rfl)
abbrev cX2_orders : ByteArray := prog_7_method_13_code
def yX2_orders : MethodName := ⟨RX2, "orders", "(I)I"⟩
def dkwX2_orders_1 : List UInt8 := [42, 180, 0, 35, 61, 42, 27, 181, 0, 35, 42, 28, 182, 0, 87, 172]
abbrev dktX2_orders_1 : List UInt8 := dkwX2_orders_1 ++ []
def dkwX2_orders_0 : List UInt8 := [27, 133, 9, 20, 0, 95, 184, 0, 54, 154, 0, 5, 4, 172, 27, 42, 180, 0, 35, 160, 0, 5, 5, 172]
abbrev dktX2_orders_0 : List UInt8 := dkwX2_orders_0 ++ dktX2_orders_1
theorem dksX2_orders_0 : cX2_orders.data.toList.drop 0 = dktX2_orders_0 := by decide +kernel
theorem dksX2_orders_1 : cX2_orders.data.toList.drop 24 = dktX2_orders_1 := dk_seg dksX2_orders_0 24 rfl rfl
theorem dX2_orders_0 : decode cX2_orders 0 = .ok (.iload_n 1, 1) := dk_27 (dk_at dksX2_orders_0 0 rfl rfl)
theorem dX2_orders_1 : decode cX2_orders 1 = .ok (.i2l, 1) := dk_133 (dk_at dksX2_orders_0 1 rfl rfl)
theorem dX2_orders_2 : decode cX2_orders 2 = .ok (.lconst 0, 1) := dk_9 (dk_at dksX2_orders_0 2 rfl rfl)
theorem dX2_orders_3 : decode cX2_orders 3 = .ok (.ldc2_w 95, 3) := dk_20 0 95 (dk_at dksX2_orders_0 3 rfl rfl)
theorem dX2_orders_6 : decode cX2_orders 6 = .ok (.invokestatic 54, 3) := dk_184 0 54 (dk_at dksX2_orders_0 6 rfl rfl)
theorem dX2_orders_9 : decode cX2_orders 9 = .ok (.ifCond .ne 5, 3) := dk_154 0 5 (dk_at dksX2_orders_0 9 rfl rfl)
theorem dX2_orders_12 : decode cX2_orders 12 = .ok (.iconst 1, 1) := dk_4 (dk_at dksX2_orders_0 12 rfl rfl)
theorem dX2_orders_13 : decode cX2_orders 13 = .ok (.ireturn, 1) := dk_172 (dk_at dksX2_orders_0 13 rfl rfl)
theorem dX2_orders_14 : decode cX2_orders 14 = .ok (.iload_n 1, 1) := dk_27 (dk_at dksX2_orders_0 14 rfl rfl)
theorem dX2_orders_15 : decode cX2_orders 15 = .ok (.aload_n 0, 1) := dk_42 (dk_at dksX2_orders_0 15 rfl rfl)
theorem dX2_orders_16 : decode cX2_orders 16 = .ok (.getfield 35, 3) := dk_180 0 35 (dk_at dksX2_orders_0 16 rfl rfl)
theorem dX2_orders_19 : decode cX2_orders 19 = .ok (.if_icmp .ne 5, 3) := dk_160 0 5 (dk_at dksX2_orders_0 19 rfl rfl)
theorem dX2_orders_22 : decode cX2_orders 22 = .ok (.iconst 2, 1) := dk_5 (dk_at dksX2_orders_0 22 rfl rfl)
theorem dX2_orders_23 : decode cX2_orders 23 = .ok (.ireturn, 1) := dk_172 (dk_at dksX2_orders_0 23 rfl rfl)
theorem dX2_orders_24 : decode cX2_orders 24 = .ok (.aload_n 0, 1) := dk_42 (dk_at dksX2_orders_1 0 rfl rfl)
theorem dX2_orders_25 : decode cX2_orders 25 = .ok (.getfield 35, 3) := dk_180 0 35 (dk_at dksX2_orders_1 1 rfl rfl)
theorem dX2_orders_28 : decode cX2_orders 28 = .ok (.istore_n 2, 1) := dk_61 (dk_at dksX2_orders_1 4 rfl rfl)
theorem dX2_orders_29 : decode cX2_orders 29 = .ok (.aload_n 0, 1) := dk_42 (dk_at dksX2_orders_1 5 rfl rfl)
theorem dX2_orders_30 : decode cX2_orders 30 = .ok (.iload_n 1, 1) := dk_27 (dk_at dksX2_orders_1 6 rfl rfl)
theorem dX2_orders_31 : decode cX2_orders 31 = .ok (.putfield 35, 3) := dk_181 0 35 (dk_at dksX2_orders_1 7 rfl rfl)
theorem dX2_orders_34 : decode cX2_orders 34 = .ok (.aload_n 0, 1) := dk_42 (dk_at dksX2_orders_1 10 rfl rfl)
theorem dX2_orders_35 : decode cX2_orders 35 = .ok (.iload_n 2, 1) := dk_28 (dk_at dksX2_orders_1 11 rfl rfl)
theorem dX2_orders_36 : decode cX2_orders 36 = .ok (.invokevirtual 87, 3) := dk_182 0 87 (dk_at dksX2_orders_1 12 rfl rfl)
theorem dX2_orders_39 : decode cX2_orders 39 = .ok (.ireturn, 1) := dk_172 (dk_at dksX2_orders_1 15 rfl rfl)
abbrev cX2_asked : ByteArray := prog_7_method_8_code
def yX2_asked : MethodName := ⟨RX2, "asked", "()I"⟩
def dkwX2_asked_2 : List UInt8 := [27, 172]
abbrev dktX2_asked_2 : List UInt8 := dkwX2_asked_2 ++ []
def dkwX2_asked_1 : List UInt8 := [153, 0, 15, 42, 180, 0, 17, 28, 50, 182, 0, 62, 167, 0, 4, 3, 128, 60, 132, 2, 1, 167, 255, 215]
abbrev dktX2_asked_1 : List UInt8 := dkwX2_asked_1 ++ dktX2_asked_2
def dkwX2_asked_0 : List UInt8 := [3, 60, 3, 61, 28, 42, 180, 0, 3, 180, 0, 25, 162, 0, 36, 27, 42, 180, 0, 32, 28, 184, 0, 58]
abbrev dktX2_asked_0 : List UInt8 := dkwX2_asked_0 ++ dktX2_asked_1
theorem dksX2_asked_0 : cX2_asked.data.toList.drop 0 = dktX2_asked_0 := by decide +kernel
theorem dksX2_asked_1 : cX2_asked.data.toList.drop 24 = dktX2_asked_1 := dk_seg dksX2_asked_0 24 rfl rfl
theorem dksX2_asked_2 : cX2_asked.data.toList.drop 48 = dktX2_asked_2 := dk_seg dksX2_asked_1 24 rfl rfl
theorem dX2_asked_0 : decode cX2_asked 0 = .ok (.iconst 0, 1) := dk_3 (dk_at dksX2_asked_0 0 rfl rfl)
theorem dX2_asked_1 : decode cX2_asked 1 = .ok (.istore_n 1, 1) := dk_60 (dk_at dksX2_asked_0 1 rfl rfl)
theorem dX2_asked_2 : decode cX2_asked 2 = .ok (.iconst 0, 1) := dk_3 (dk_at dksX2_asked_0 2 rfl rfl)
theorem dX2_asked_3 : decode cX2_asked 3 = .ok (.istore_n 2, 1) := dk_61 (dk_at dksX2_asked_0 3 rfl rfl)
theorem dX2_asked_4 : decode cX2_asked 4 = .ok (.iload_n 2, 1) := dk_28 (dk_at dksX2_asked_0 4 rfl rfl)
theorem dX2_asked_5 : decode cX2_asked 5 = .ok (.aload_n 0, 1) := dk_42 (dk_at dksX2_asked_0 5 rfl rfl)
theorem dX2_asked_6 : decode cX2_asked 6 = .ok (.getfield 3, 3) := dk_180 0 3 (dk_at dksX2_asked_0 6 rfl rfl)
theorem dX2_asked_9 : decode cX2_asked 9 = .ok (.getfield 25, 3) := dk_180 0 25 (dk_at dksX2_asked_0 9 rfl rfl)
theorem dX2_asked_12 : decode cX2_asked 12 = .ok (.if_icmp .ge 36, 3) := dk_162 0 36 (dk_at dksX2_asked_0 12 rfl rfl)
theorem dX2_asked_15 : decode cX2_asked 15 = .ok (.iload_n 1, 1) := dk_27 (dk_at dksX2_asked_0 15 rfl rfl)
theorem dX2_asked_16 : decode cX2_asked 16 = .ok (.aload_n 0, 1) := dk_42 (dk_at dksX2_asked_0 16 rfl rfl)
theorem dX2_asked_17 : decode cX2_asked 17 = .ok (.getfield 32, 3) := dk_180 0 32 (dk_at dksX2_asked_0 17 rfl rfl)
theorem dX2_asked_20 : decode cX2_asked 20 = .ok (.iload_n 2, 1) := dk_28 (dk_at dksX2_asked_0 20 rfl rfl)
theorem dX2_asked_21 : decode cX2_asked 21 = .ok (.invokestatic 58, 3) := dk_184 0 58 (dk_at dksX2_asked_0 21 rfl rfl)
theorem dX2_asked_24 : decode cX2_asked 24 = .ok (.ifCond .eq 15, 3) := dk_153 0 15 (dk_at dksX2_asked_1 0 rfl rfl)
theorem dX2_asked_27 : decode cX2_asked 27 = .ok (.aload_n 0, 1) := dk_42 (dk_at dksX2_asked_1 3 rfl rfl)
theorem dX2_asked_28 : decode cX2_asked 28 = .ok (.getfield 17, 3) := dk_180 0 17 (dk_at dksX2_asked_1 4 rfl rfl)
theorem dX2_asked_31 : decode cX2_asked 31 = .ok (.iload_n 2, 1) := dk_28 (dk_at dksX2_asked_1 7 rfl rfl)
theorem dX2_asked_32 : decode cX2_asked 32 = .ok (.aaload, 1) := dk_50 (dk_at dksX2_asked_1 8 rfl rfl)
theorem dX2_asked_33 : decode cX2_asked 33 = .ok (.invokevirtual 62, 3) := dk_182 0 62 (dk_at dksX2_asked_1 9 rfl rfl)
theorem dX2_asked_36 : decode cX2_asked 36 = .ok (.goto 4, 3) := dk_167 0 4 (dk_at dksX2_asked_1 12 rfl rfl)
theorem dX2_asked_39 : decode cX2_asked 39 = .ok (.iconst 0, 1) := dk_3 (dk_at dksX2_asked_1 15 rfl rfl)
theorem dX2_asked_40 : decode cX2_asked 40 = .ok (.ior, 1) := dk_128 (dk_at dksX2_asked_1 16 rfl rfl)
theorem dX2_asked_41 : decode cX2_asked 41 = .ok (.istore_n 1, 1) := dk_60 (dk_at dksX2_asked_1 17 rfl rfl)
theorem dX2_asked_42 : decode cX2_asked 42 = .ok (.iinc 2 1, 3) := dk_132 2 1 (dk_at dksX2_asked_1 18 rfl rfl)
theorem dX2_asked_45 : decode cX2_asked 45 = .ok (.goto (-41), 3) := dk_167 255 215 (dk_at dksX2_asked_1 21 rfl rfl)
theorem dX2_asked_48 : decode cX2_asked 48 = .ok (.iload_n 1, 1) := dk_27 (dk_at dksX2_asked_2 0 rfl rfl)
theorem dX2_asked_49 : decode cX2_asked 49 = .ok (.ireturn, 1) := dk_172 (dk_at dksX2_asked_2 1 rfl rfl)
abbrev cX2_notes : ByteArray := prog_7_method_5_code
def yX2_notes : MethodName := ⟨RX2, "notes", "(III)V"⟩
def dkwX2_notes_3 : List UInt8 := [104, 5, 96, 29, 79, 42, 89, 180, 0, 38, 4, 96, 181, 0, 38, 177]
abbrev dktX2_notes_3 : List UInt8 := dkwX2_notes_3 ++ []
def dkwX2_notes_2 : List UInt8 := [79, 42, 180, 0, 21, 6, 42, 180, 0, 38, 104, 4, 96, 28, 79, 42, 180, 0, 21, 6, 42, 180, 0, 38]
abbrev dktX2_notes_2 : List UInt8 := dkwX2_notes_2 ++ dktX2_notes_3
def dkwX2_notes_1 : List UInt8 := [184, 0, 41, 42, 89, 180, 0, 38, 4, 100, 181, 0, 38, 42, 180, 0, 21, 6, 42, 180, 0, 38, 104, 27]
abbrev dktX2_notes_1 : List UInt8 := dkwX2_notes_1 ++ dktX2_notes_2
def dkwX2_notes_0 : List UInt8 := [42, 180, 0, 38, 16, 60, 160, 0, 29, 42, 180, 0, 21, 6, 42, 180, 0, 21, 3, 17, 0, 177]
abbrev dktX2_notes_0 : List UInt8 := dkwX2_notes_0 ++ dktX2_notes_1
theorem dksX2_notes_0 : cX2_notes.data.toList.drop 0 = dktX2_notes_0 := by decide +kernel
theorem dksX2_notes_1 : cX2_notes.data.toList.drop 22 = dktX2_notes_1 := dk_seg dksX2_notes_0 22 rfl rfl
theorem dksX2_notes_2 : cX2_notes.data.toList.drop 46 = dktX2_notes_2 := dk_seg dksX2_notes_1 24 rfl rfl
theorem dksX2_notes_3 : cX2_notes.data.toList.drop 70 = dktX2_notes_3 := dk_seg dksX2_notes_2 24 rfl rfl
theorem dX2_notes_0 : decode cX2_notes 0 = .ok (.aload_n 0, 1) := dk_42 (dk_at dksX2_notes_0 0 rfl rfl)
theorem dX2_notes_1 : decode cX2_notes 1 = .ok (.getfield 38, 3) := dk_180 0 38 (dk_at dksX2_notes_0 1 rfl rfl)
theorem dX2_notes_4 : decode cX2_notes 4 = .ok (.bipush 60, 2) := dk_16 60 (dk_at dksX2_notes_0 4 rfl rfl)
theorem dX2_notes_6 : decode cX2_notes 6 = .ok (.if_icmp .ne 29, 3) := dk_160 0 29 (dk_at dksX2_notes_0 6 rfl rfl)
theorem dX2_notes_9 : decode cX2_notes 9 = .ok (.aload_n 0, 1) := dk_42 (dk_at dksX2_notes_0 9 rfl rfl)
theorem dX2_notes_10 : decode cX2_notes 10 = .ok (.getfield 21, 3) := dk_180 0 21 (dk_at dksX2_notes_0 10 rfl rfl)
theorem dX2_notes_13 : decode cX2_notes 13 = .ok (.iconst 3, 1) := dk_6 (dk_at dksX2_notes_0 13 rfl rfl)
theorem dX2_notes_14 : decode cX2_notes 14 = .ok (.aload_n 0, 1) := dk_42 (dk_at dksX2_notes_0 14 rfl rfl)
theorem dX2_notes_15 : decode cX2_notes 15 = .ok (.getfield 21, 3) := dk_180 0 21 (dk_at dksX2_notes_0 15 rfl rfl)
theorem dX2_notes_18 : decode cX2_notes 18 = .ok (.iconst 0, 1) := dk_3 (dk_at dksX2_notes_0 18 rfl rfl)
theorem dX2_notes_19 : decode cX2_notes 19 = .ok (.sipush 177, 3) := dk_17 0 177 (dk_at dksX2_notes_0 19 rfl rfl)
theorem dX2_notes_22 : decode cX2_notes 22 = .ok (.invokestatic 41, 3) := dk_184 0 41 (dk_at dksX2_notes_1 0 rfl rfl)
theorem dX2_notes_25 : decode cX2_notes 25 = .ok (.aload_n 0, 1) := dk_42 (dk_at dksX2_notes_1 3 rfl rfl)
theorem dX2_notes_26 : decode cX2_notes 26 = .ok (.dup, 1) := dk_89 (dk_at dksX2_notes_1 4 rfl rfl)
theorem dX2_notes_27 : decode cX2_notes 27 = .ok (.getfield 38, 3) := dk_180 0 38 (dk_at dksX2_notes_1 5 rfl rfl)
theorem dX2_notes_30 : decode cX2_notes 30 = .ok (.iconst 1, 1) := dk_4 (dk_at dksX2_notes_1 8 rfl rfl)
theorem dX2_notes_31 : decode cX2_notes 31 = .ok (.isub, 1) := dk_100 (dk_at dksX2_notes_1 9 rfl rfl)
theorem dX2_notes_32 : decode cX2_notes 32 = .ok (.putfield 38, 3) := dk_181 0 38 (dk_at dksX2_notes_1 10 rfl rfl)
theorem dX2_notes_35 : decode cX2_notes 35 = .ok (.aload_n 0, 1) := dk_42 (dk_at dksX2_notes_1 13 rfl rfl)
theorem dX2_notes_36 : decode cX2_notes 36 = .ok (.getfield 21, 3) := dk_180 0 21 (dk_at dksX2_notes_1 14 rfl rfl)
theorem dX2_notes_39 : decode cX2_notes 39 = .ok (.iconst 3, 1) := dk_6 (dk_at dksX2_notes_1 17 rfl rfl)
theorem dX2_notes_40 : decode cX2_notes 40 = .ok (.aload_n 0, 1) := dk_42 (dk_at dksX2_notes_1 18 rfl rfl)
theorem dX2_notes_41 : decode cX2_notes 41 = .ok (.getfield 38, 3) := dk_180 0 38 (dk_at dksX2_notes_1 19 rfl rfl)
theorem dX2_notes_44 : decode cX2_notes 44 = .ok (.imul, 1) := dk_104 (dk_at dksX2_notes_1 22 rfl rfl)
theorem dX2_notes_45 : decode cX2_notes 45 = .ok (.iload_n 1, 1) := dk_27 (dk_at dksX2_notes_1 23 rfl rfl)
theorem dX2_notes_46 : decode cX2_notes 46 = .ok (.iastore, 1) := dk_79 (dk_at dksX2_notes_2 0 rfl rfl)
theorem dX2_notes_47 : decode cX2_notes 47 = .ok (.aload_n 0, 1) := dk_42 (dk_at dksX2_notes_2 1 rfl rfl)
theorem dX2_notes_48 : decode cX2_notes 48 = .ok (.getfield 21, 3) := dk_180 0 21 (dk_at dksX2_notes_2 2 rfl rfl)
theorem dX2_notes_51 : decode cX2_notes 51 = .ok (.iconst 3, 1) := dk_6 (dk_at dksX2_notes_2 5 rfl rfl)
theorem dX2_notes_52 : decode cX2_notes 52 = .ok (.aload_n 0, 1) := dk_42 (dk_at dksX2_notes_2 6 rfl rfl)
theorem dX2_notes_53 : decode cX2_notes 53 = .ok (.getfield 38, 3) := dk_180 0 38 (dk_at dksX2_notes_2 7 rfl rfl)
theorem dX2_notes_56 : decode cX2_notes 56 = .ok (.imul, 1) := dk_104 (dk_at dksX2_notes_2 10 rfl rfl)
theorem dX2_notes_57 : decode cX2_notes 57 = .ok (.iconst 1, 1) := dk_4 (dk_at dksX2_notes_2 11 rfl rfl)
theorem dX2_notes_58 : decode cX2_notes 58 = .ok (.iadd, 1) := dk_96 (dk_at dksX2_notes_2 12 rfl rfl)
theorem dX2_notes_59 : decode cX2_notes 59 = .ok (.iload_n 2, 1) := dk_28 (dk_at dksX2_notes_2 13 rfl rfl)
theorem dX2_notes_60 : decode cX2_notes 60 = .ok (.iastore, 1) := dk_79 (dk_at dksX2_notes_2 14 rfl rfl)
theorem dX2_notes_61 : decode cX2_notes 61 = .ok (.aload_n 0, 1) := dk_42 (dk_at dksX2_notes_2 15 rfl rfl)
theorem dX2_notes_62 : decode cX2_notes 62 = .ok (.getfield 21, 3) := dk_180 0 21 (dk_at dksX2_notes_2 16 rfl rfl)
theorem dX2_notes_65 : decode cX2_notes 65 = .ok (.iconst 3, 1) := dk_6 (dk_at dksX2_notes_2 19 rfl rfl)
theorem dX2_notes_66 : decode cX2_notes 66 = .ok (.aload_n 0, 1) := dk_42 (dk_at dksX2_notes_2 20 rfl rfl)
theorem dX2_notes_67 : decode cX2_notes 67 = .ok (.getfield 38, 3) := dk_180 0 38 (dk_at dksX2_notes_2 21 rfl rfl)
theorem dX2_notes_70 : decode cX2_notes 70 = .ok (.imul, 1) := dk_104 (dk_at dksX2_notes_3 0 rfl rfl)
theorem dX2_notes_71 : decode cX2_notes 71 = .ok (.iconst 2, 1) := dk_5 (dk_at dksX2_notes_3 1 rfl rfl)
theorem dX2_notes_72 : decode cX2_notes 72 = .ok (.iadd, 1) := dk_96 (dk_at dksX2_notes_3 2 rfl rfl)
theorem dX2_notes_73 : decode cX2_notes 73 = .ok (.iload_n 3, 1) := dk_29 (dk_at dksX2_notes_3 3 rfl rfl)
theorem dX2_notes_74 : decode cX2_notes 74 = .ok (.iastore, 1) := dk_79 (dk_at dksX2_notes_3 4 rfl rfl)
theorem dX2_notes_75 : decode cX2_notes 75 = .ok (.aload_n 0, 1) := dk_42 (dk_at dksX2_notes_3 5 rfl rfl)
theorem dX2_notes_76 : decode cX2_notes 76 = .ok (.dup, 1) := dk_89 (dk_at dksX2_notes_3 6 rfl rfl)
theorem dX2_notes_77 : decode cX2_notes 77 = .ok (.getfield 38, 3) := dk_180 0 38 (dk_at dksX2_notes_3 7 rfl rfl)
theorem dX2_notes_80 : decode cX2_notes 80 = .ok (.iconst 1, 1) := dk_4 (dk_at dksX2_notes_3 10 rfl rfl)
theorem dX2_notes_81 : decode cX2_notes 81 = .ok (.iadd, 1) := dk_96 (dk_at dksX2_notes_3 11 rfl rfl)
theorem dX2_notes_82 : decode cX2_notes 82 = .ok (.putfield 38, 3) := dk_181 0 38 (dk_at dksX2_notes_3 12 rfl rfl)
theorem dX2_notes_85 : decode cX2_notes 85 = .ok (.return_, 1) := dk_177 (dk_at dksX2_notes_3 15 rfl rfl)
abbrev cX2_rows : ByteArray := prog_7_method_9_code
def yX2_rows : MethodName := ⟨RX2, "rows", "()I"⟩
def dkwX2_rows_1 : List UInt8 := [180, 0, 66, 96, 60, 132, 2, 1, 167, 255, 230, 27, 172]
abbrev dktX2_rows_1 : List UInt8 := dkwX2_rows_1 ++ []
def dkwX2_rows_0 : List UInt8 := [3, 60, 3, 61, 28, 42, 180, 0, 3, 180, 0, 25, 162, 0, 21, 27, 42, 180, 0, 17, 28, 50]
abbrev dktX2_rows_0 : List UInt8 := dkwX2_rows_0 ++ dktX2_rows_1
theorem dksX2_rows_0 : cX2_rows.data.toList.drop 0 = dktX2_rows_0 := by decide +kernel
theorem dksX2_rows_1 : cX2_rows.data.toList.drop 22 = dktX2_rows_1 := dk_seg dksX2_rows_0 22 rfl rfl
theorem dX2_rows_0 : decode cX2_rows 0 = .ok (.iconst 0, 1) := dk_3 (dk_at dksX2_rows_0 0 rfl rfl)
theorem dX2_rows_1 : decode cX2_rows 1 = .ok (.istore_n 1, 1) := dk_60 (dk_at dksX2_rows_0 1 rfl rfl)
theorem dX2_rows_2 : decode cX2_rows 2 = .ok (.iconst 0, 1) := dk_3 (dk_at dksX2_rows_0 2 rfl rfl)
theorem dX2_rows_3 : decode cX2_rows 3 = .ok (.istore_n 2, 1) := dk_61 (dk_at dksX2_rows_0 3 rfl rfl)
theorem dX2_rows_4 : decode cX2_rows 4 = .ok (.iload_n 2, 1) := dk_28 (dk_at dksX2_rows_0 4 rfl rfl)
theorem dX2_rows_5 : decode cX2_rows 5 = .ok (.aload_n 0, 1) := dk_42 (dk_at dksX2_rows_0 5 rfl rfl)
theorem dX2_rows_6 : decode cX2_rows 6 = .ok (.getfield 3, 3) := dk_180 0 3 (dk_at dksX2_rows_0 6 rfl rfl)
theorem dX2_rows_9 : decode cX2_rows 9 = .ok (.getfield 25, 3) := dk_180 0 25 (dk_at dksX2_rows_0 9 rfl rfl)
theorem dX2_rows_12 : decode cX2_rows 12 = .ok (.if_icmp .ge 21, 3) := dk_162 0 21 (dk_at dksX2_rows_0 12 rfl rfl)
theorem dX2_rows_15 : decode cX2_rows 15 = .ok (.iload_n 1, 1) := dk_27 (dk_at dksX2_rows_0 15 rfl rfl)
theorem dX2_rows_16 : decode cX2_rows 16 = .ok (.aload_n 0, 1) := dk_42 (dk_at dksX2_rows_0 16 rfl rfl)
theorem dX2_rows_17 : decode cX2_rows 17 = .ok (.getfield 17, 3) := dk_180 0 17 (dk_at dksX2_rows_0 17 rfl rfl)
theorem dX2_rows_20 : decode cX2_rows 20 = .ok (.iload_n 2, 1) := dk_28 (dk_at dksX2_rows_0 20 rfl rfl)
theorem dX2_rows_21 : decode cX2_rows 21 = .ok (.aaload, 1) := dk_50 (dk_at dksX2_rows_0 21 rfl rfl)
theorem dX2_rows_22 : decode cX2_rows 22 = .ok (.getfield 66, 3) := dk_180 0 66 (dk_at dksX2_rows_1 0 rfl rfl)
theorem dX2_rows_25 : decode cX2_rows 25 = .ok (.iadd, 1) := dk_96 (dk_at dksX2_rows_1 3 rfl rfl)
theorem dX2_rows_26 : decode cX2_rows 26 = .ok (.istore_n 1, 1) := dk_60 (dk_at dksX2_rows_1 4 rfl rfl)
theorem dX2_rows_27 : decode cX2_rows 27 = .ok (.iinc 2 1, 3) := dk_132 2 1 (dk_at dksX2_rows_1 5 rfl rfl)
theorem dX2_rows_30 : decode cX2_rows 30 = .ok (.goto (-26), 3) := dk_167 255 230 (dk_at dksX2_rows_1 8 rfl rfl)
theorem dX2_rows_33 : decode cX2_rows 33 = .ok (.iload_n 1, 1) := dk_27 (dk_at dksX2_rows_1 11 rfl rfl)
theorem dX2_rows_34 : decode cX2_rows 34 = .ok (.ireturn, 1) := dk_172 (dk_at dksX2_rows_1 12 rfl rfl)
theorem q123 : (Jvm.Cond.initialized "LeapJoin$State") ∈ lw_all := lw_g (lw_at lw_m1 2 rfl) rfl
theorem q178 : (Jvm.Cond.instantiable "LeapJoin$State" (7 : Nat)) ∈ lw_all := lw_g (lw_at lw_m1 57 rfl) rfl
theorem q180 : (Jvm.Cond.instanceMethod ({ cls := "LeapJoin$State", name := "<init>", desc := "(LLeapJoin;)V" } : Jvm.MethodName)) ∈ lw_all := lw_g (lw_at lw_m1 59 rfl) rfl
theorem q181 : (Jvm.Cond.code ({ cls := "LeapJoin$State", name := "<init>", desc := "(LLeapJoin;)V" } : Jvm.MethodName) prog_7_method_1_code (2 : Nat) (Option.none : Option Jvm.ClassFile.FieldType)) ∈ lw_all := lw_g (lw_at lw_m1 60 rfl) rfl
theorem q182 : (Jvm.Cond.methodLink "LeapJoin$State" (9 : Nat) ({ cls := "java/lang/Object", name := "<init>", desc := "()V" } : Jvm.MethodName)) ∈ lw_all := lw_g (lw_at lw_m1 61 rfl) rfl
theorem q183 : (Jvm.Cond.classLink "LeapJoin$State" (15 : Nat) "LeapJoin$Table") ∈ lw_all := lw_g (lw_at lw_m1 62 rfl) rfl
theorem q184 : (Jvm.Cond.fieldLink "LeapJoin$State" (17 : Nat) "LeapJoin$State" "tables" "[LLeapJoin$Table;") ∈ lw_all := lw_g (lw_at lw_m1 63 rfl) rfl
theorem q187 : (Jvm.Cond.fieldLink "LeapJoin$State" (21 : Nat) "LeapJoin$State" "notes" "[I") ∈ lw_all := lw_g (lw_at lw_m1 66 rfl) rfl
theorem q189 : (Jvm.Cond.fieldLink "LeapJoin$State" (32 : Nat) "LeapJoin$State" "used" "I") ∈ lw_all := lw_g (lw_at lw_m1 68 rfl) rfl
theorem q192 : (Jvm.Cond.fieldLink "LeapJoin$State" (35 : Nat) "LeapJoin$State" "order" "I") ∈ lw_all := lw_g (lw_at lw_m1 71 rfl) rfl
theorem q194 : (Jvm.Cond.fieldLink "LeapJoin$State" (38 : Nat) "LeapJoin$State" "noteMany" "I") ∈ lw_all := lw_g (lw_at lw_m1 73 rfl) rfl
theorem q196 : (Jvm.Cond.fieldLink "LeapJoin$State" (51 : Nat) "LeapJoin$State" "came" "I") ∈ lw_all := lw_g (lw_at lw_m1 75 rfl) rfl
theorem q198 : (Jvm.Cond.fieldLink "LeapJoin$State" (3 : Nat) "LeapJoin$State" "this$0" "LLeapJoin;") ∈ lw_all := lw_g (lw_at lw_m1 77 rfl) rfl
theorem q199 : (Jvm.Cond.laysFinal "LeapJoin$State" "LeapJoin$State" "tables" "[LLeapJoin$Table;") ∈ lw_all := lw_g (lw_at lw_m1 78 rfl) rfl
theorem q200 : (Jvm.Cond.soleField "LeapJoin$State" "tables") ∈ lw_all := lw_g (lw_at lw_m1 79 rfl) rfl
theorem q201 : (Jvm.Cond.laysFinal "LeapJoin$State" "LeapJoin$State" "notes" "[I") ∈ lw_all := lw_g (lw_at lw_m1 80 rfl) rfl
theorem q202 : (Jvm.Cond.soleField "LeapJoin$State" "notes") ∈ lw_all := lw_g (lw_at lw_m1 81 rfl) rfl
theorem q203 : (Jvm.Cond.lays "LeapJoin$State" "LeapJoin$State" "used" "I") ∈ lw_all := lw_g (lw_at lw_m1 82 rfl) rfl
theorem q204 : (Jvm.Cond.soleField "LeapJoin$State" "used") ∈ lw_all := lw_g (lw_at lw_m1 83 rfl) rfl
theorem q205 : (Jvm.Cond.lays "LeapJoin$State" "LeapJoin$State" "order" "I") ∈ lw_all := lw_g (lw_at lw_m1 84 rfl) rfl
theorem q206 : (Jvm.Cond.soleField "LeapJoin$State" "order") ∈ lw_all := lw_g (lw_at lw_m1 85 rfl) rfl
theorem q207 : (Jvm.Cond.lays "LeapJoin$State" "LeapJoin$State" "noteMany" "I") ∈ lw_all := lw_g (lw_at lw_m1 86 rfl) rfl
theorem q208 : (Jvm.Cond.soleField "LeapJoin$State" "noteMany") ∈ lw_all := lw_g (lw_at lw_m1 87 rfl) rfl
theorem q209 : (Jvm.Cond.lays "LeapJoin$State" "LeapJoin$State" "came" "I") ∈ lw_all := lw_g (lw_at lw_m1 88 rfl) rfl
theorem q210 : (Jvm.Cond.soleField "LeapJoin$State" "came") ∈ lw_all := lw_g (lw_at lw_m1 89 rfl) rfl
theorem q211 : (Jvm.Cond.laysFinal "LeapJoin$State" "LeapJoin$State" "this$0" "LLeapJoin;") ∈ lw_all := lw_g (lw_at lw_m1 90 rfl) rfl
theorem q212 : (Jvm.Cond.soleField "LeapJoin$State" "this$0") ∈ lw_all := lw_g (lw_at lw_m1 91 rfl) rfl
theorem q213 : (Jvm.Cond.superclass "LeapJoin$State" "java/lang/Object") ∈ lw_all := lw_g (lw_at lw_m1 92 rfl) rfl
theorem q278 : (Jvm.Cond.fieldLinkNest "LeapJoin$State" (29 : Nat) "LeapJoin" "tablesRead" "[LLeapJoin$Table;" "LeapJoin") ∈ lw_tbl := lw_at lw_m1 157 rfl
theorem q282 : (Jvm.Cond.fieldLinkNest "LeapJoin$State" (25 : Nat) "LeapJoin" "many" "I" "LeapJoin") ∈ lw_tbl := lw_at lw_m1 161 rfl
theorem q491 : (Jvm.Cond.fieldLinkNest "LeapJoin$State" (66 : Nat) "LeapJoin$Table" "many" "I" "LeapJoin") ∈ lw_tbl := lw_at lw_m2 130 rfl
theorem q734 : (Jvm.Cond.instanceMethod ({ cls := "LeapJoin$State", name := "starts", desc := "()V" } : Jvm.MethodName)) ∈ lw_all := lw_g (lw_at lw_m3 133 rfl) rfl
theorem q735 : (Jvm.Cond.selects "LeapJoin$State" ({ cls := "LeapJoin$State", name := "starts", desc := "()V" } : Jvm.MethodName) ({ cls := "LeapJoin$State", name := "starts", desc := "()V" } : Jvm.MethodName)) ∈ lw_all := lw_g (lw_at lw_m3 134 rfl) rfl
theorem q736 : (Jvm.Cond.code ({ cls := "LeapJoin$State", name := "starts", desc := "()V" } : Jvm.MethodName) prog_7_method_2_code (2 : Nat) (Option.none : Option Jvm.ClassFile.FieldType)) ∈ lw_all := lw_g (lw_at lw_m3 135 rfl) rfl
theorem q750 : (Jvm.Cond.instanceMethod ({ cls := "LeapJoin$State", name := "becomes", desc := "(LLeapJoin$State;)V" } : Jvm.MethodName)) ∈ lw_all := lw_g (lw_at lw_m3 149 rfl) rfl
theorem q751 : (Jvm.Cond.selects "LeapJoin$State" ({ cls := "LeapJoin$State", name := "becomes", desc := "(LLeapJoin$State;)V" } : Jvm.MethodName) ({ cls := "LeapJoin$State", name := "becomes", desc := "(LLeapJoin$State;)V" } : Jvm.MethodName)) ∈ lw_all := lw_g (lw_at lw_m3 150 rfl) rfl
theorem q752 : (Jvm.Cond.code ({ cls := "LeapJoin$State", name := "becomes", desc := "(LLeapJoin$State;)V" } : Jvm.MethodName) prog_7_method_4_code (2 : Nat) (Option.none : Option Jvm.ClassFile.FieldType)) ∈ lw_all := lw_g (lw_at lw_m3 151 rfl) rfl
theorem q753 : (Jvm.Cond.methodLink "LeapJoin$State" (47 : Nat) ({ cls := "LeapJoin$State", name := "sees", desc := "(LLeapJoin$State;)V" } : Jvm.MethodName)) ∈ lw_all := lw_g (lw_at lw_m3 152 rfl) rfl
theorem q754 : (Jvm.Cond.instanceMethod ({ cls := "LeapJoin$State", name := "sees", desc := "(LLeapJoin$State;)V" } : Jvm.MethodName)) ∈ lw_all := lw_g (lw_at lw_m3 153 rfl) rfl
theorem q755 : (Jvm.Cond.selects "LeapJoin$State" ({ cls := "LeapJoin$State", name := "sees", desc := "(LLeapJoin$State;)V" } : Jvm.MethodName) ({ cls := "LeapJoin$State", name := "sees", desc := "(LLeapJoin$State;)V" } : Jvm.MethodName)) ∈ lw_all := lw_g (lw_at lw_m3 154 rfl) rfl
theorem q756 : (Jvm.Cond.code ({ cls := "LeapJoin$State", name := "sees", desc := "(LLeapJoin$State;)V" } : Jvm.MethodName) prog_7_method_3_code (2 : Nat) (Option.none : Option Jvm.ClassFile.FieldType)) ∈ lw_all := lw_g (lw_at lw_m3 155 rfl) rfl
theorem q757 : (Jvm.Cond.methodLink "LeapJoin$State" (41 : Nat) ({ cls := "java/lang/System", name := "arraycopy", desc := "(Ljava/lang/Object;ILjava/lang/Object;II)V" } : Jvm.MethodName)) ∈ lw_all := lw_g (lw_at lw_m3 156 rfl) rfl
theorem q759 : (Jvm.Cond.instanceMethod ({ cls := "LeapJoin$State", name := "deed", desc := "(IIIII)I" } : Jvm.MethodName)) ∈ lw_all := lw_g (lw_at lw_m3 158 rfl) rfl
theorem q760 : (Jvm.Cond.selects "LeapJoin$State" ({ cls := "LeapJoin$State", name := "deed", desc := "(IIIII)I" } : Jvm.MethodName) ({ cls := "LeapJoin$State", name := "deed", desc := "(IIIII)I" } : Jvm.MethodName)) ∈ lw_all := lw_g (lw_at lw_m3 159 rfl) rfl
theorem q761 : (Jvm.Cond.code ({ cls := "LeapJoin$State", name := "deed", desc := "(IIIII)I" } : Jvm.MethodName) prog_7_method_14_code (6 : Nat) (Option.some Jvm.ClassFile.FieldType.int)) ∈ lw_all := lw_g (lw_at lw_m3 160 rfl) rfl
theorem q762 : (Jvm.Cond.methodLink "LeapJoin$State" (97 : Nat) ({ cls := "LeapJoin$Row", name := "of", desc := "(III)LLeapJoin$Row;" } : Jvm.MethodName)) ∈ lw_all := lw_g (lw_at lw_m3 161 rfl) rfl
theorem q763 : (Jvm.Cond.methodLink "LeapJoin$State" (103 : Nat) ({ cls := "LeapJoin$State", name := "puts", desc := "(ILLeapJoin$Row;)I" } : Jvm.MethodName)) ∈ lw_all := lw_g (lw_at lw_m3 162 rfl) rfl
theorem q764 : (Jvm.Cond.instanceMethod ({ cls := "LeapJoin$State", name := "puts", desc := "(ILLeapJoin$Row;)I" } : Jvm.MethodName)) ∈ lw_all := lw_g (lw_at lw_m3 163 rfl) rfl
theorem q765 : (Jvm.Cond.selects "LeapJoin$State" ({ cls := "LeapJoin$State", name := "puts", desc := "(ILLeapJoin$Row;)I" } : Jvm.MethodName) ({ cls := "LeapJoin$State", name := "puts", desc := "(ILLeapJoin$Row;)I" } : Jvm.MethodName)) ∈ lw_all := lw_g (lw_at lw_m3 164 rfl) rfl
theorem q766 : (Jvm.Cond.code ({ cls := "LeapJoin$State", name := "puts", desc := "(ILLeapJoin$Row;)I" } : Jvm.MethodName) prog_7_method_10_code (3 : Nat) (Option.some Jvm.ClassFile.FieldType.int)) ∈ lw_all := lw_g (lw_at lw_m3 165 rfl) rfl
theorem q767 : (Jvm.Cond.methodLink "LeapJoin$State" (67 : Nat) ({ cls := "LeapJoin$State", name := "isTable", desc := "(I)Z" } : Jvm.MethodName)) ∈ lw_all := lw_g (lw_at lw_m3 166 rfl) rfl
theorem q768 : (Jvm.Cond.instanceMethod ({ cls := "LeapJoin$State", name := "isTable", desc := "(I)Z" } : Jvm.MethodName)) ∈ lw_all := lw_g (lw_at lw_m3 167 rfl) rfl
theorem q769 : (Jvm.Cond.selects "LeapJoin$State" ({ cls := "LeapJoin$State", name := "isTable", desc := "(I)Z" } : Jvm.MethodName) ({ cls := "LeapJoin$State", name := "isTable", desc := "(I)Z" } : Jvm.MethodName)) ∈ lw_all := lw_g (lw_at lw_m3 168 rfl) rfl
theorem q770 : (Jvm.Cond.code ({ cls := "LeapJoin$State", name := "isTable", desc := "(I)Z" } : Jvm.MethodName) prog_7_method_7_code (2 : Nat) (Option.some Jvm.ClassFile.FieldType.boolean)) ∈ lw_all := lw_g (lw_at lw_m3 169 rfl) rfl
theorem q771 : (Jvm.Cond.methodLinkNest "LeapJoin$State" (54 : Nat) ({ cls := "LeapJoin", name := "isIn", desc := "(JJJ)Z" } : Jvm.MethodName) "LeapJoin") ∈ lw_tbl := lw_at lw_m3 170 rfl
theorem q772 : (Jvm.Cond.methodLink "LeapJoin$State" (71 : Nat) ({ cls := "LeapJoin$Table", name := "suits", desc := "(LLeapJoin$Row;)Z" } : Jvm.MethodName)) ∈ lw_all := lw_g (lw_at lw_m3 171 rfl) rfl
theorem q805 : (Jvm.Cond.methodLink "LeapJoin$State" (75 : Nat) ({ cls := "LeapJoin$Table", name := "spotOf", desc := "(LLeapJoin$Row;)I" } : Jvm.MethodName)) ∈ lw_all := lw_g (lw_at lw_m3 204 rfl) rfl
theorem q806 : (Jvm.Cond.methodLink "LeapJoin$State" (79 : Nat) ({ cls := "LeapJoin$Table", name := "copy", desc := "()LLeapJoin$Table;" } : Jvm.MethodName)) ∈ lw_all := lw_g (lw_at lw_m3 205 rfl) rfl
theorem q814 : (Jvm.Cond.methodLink "LeapJoin$State" (83 : Nat) ({ cls := "LeapJoin$Table", name := "takes", desc := "(LLeapJoin$Row;)V" } : Jvm.MethodName)) ∈ lw_all := lw_g (lw_at lw_m3 213 rfl) rfl
theorem q815 : (Jvm.Cond.methodLink "LeapJoin$State" (87 : Nat) ({ cls := "LeapJoin$State", name := "done", desc := "(I)I" } : Jvm.MethodName)) ∈ lw_all := lw_g (lw_at lw_m3 214 rfl) rfl
theorem q816 : (Jvm.Cond.privateMethod ({ cls := "LeapJoin$State", name := "done", desc := "(I)I" } : Jvm.MethodName)) ∈ lw_tbl := lw_at lw_m3 215 rfl
theorem q817 : (Jvm.Cond.instanceMethod ({ cls := "LeapJoin$State", name := "done", desc := "(I)I" } : Jvm.MethodName)) ∈ lw_all := lw_g (lw_at lw_m3 216 rfl) rfl
theorem q818 : (Jvm.Cond.code ({ cls := "LeapJoin$State", name := "done", desc := "(I)I" } : Jvm.MethodName) prog_7_method_6_code (2 : Nat) (Option.some Jvm.ClassFile.FieldType.int)) ∈ lw_all := lw_g (lw_at lw_m3 217 rfl) rfl
theorem q819 : (Jvm.Cond.methodLink "LeapJoin$State" (107 : Nat) ({ cls := "LeapJoin$State", name := "takes", desc := "(ILLeapJoin$Row;)I" } : Jvm.MethodName)) ∈ lw_all := lw_g (lw_at lw_m3 218 rfl) rfl
theorem q820 : (Jvm.Cond.instanceMethod ({ cls := "LeapJoin$State", name := "takes", desc := "(ILLeapJoin$Row;)I" } : Jvm.MethodName)) ∈ lw_all := lw_g (lw_at lw_m3 219 rfl) rfl
theorem q821 : (Jvm.Cond.selects "LeapJoin$State" ({ cls := "LeapJoin$State", name := "takes", desc := "(ILLeapJoin$Row;)I" } : Jvm.MethodName) ({ cls := "LeapJoin$State", name := "takes", desc := "(ILLeapJoin$Row;)I" } : Jvm.MethodName)) ∈ lw_all := lw_g (lw_at lw_m3 220 rfl) rfl
theorem q822 : (Jvm.Cond.code ({ cls := "LeapJoin$State", name := "takes", desc := "(ILLeapJoin$Row;)I" } : Jvm.MethodName) prog_7_method_11_code (4 : Nat) (Option.some Jvm.ClassFile.FieldType.int)) ∈ lw_all := lw_g (lw_at lw_m3 221 rfl) rfl
theorem q823 : (Jvm.Cond.methodLink "LeapJoin$State" (91 : Nat) ({ cls := "LeapJoin$Table", name := "drops", desc := "(I)V" } : Jvm.MethodName)) ∈ lw_all := lw_g (lw_at lw_m3 222 rfl) rfl
theorem q828 : (Jvm.Cond.methodLink "LeapJoin$State" (109 : Nat) ({ cls := "LeapJoin$State", name := "uses", desc := "(I)I" } : Jvm.MethodName)) ∈ lw_all := lw_g (lw_at lw_m3 227 rfl) rfl
theorem q829 : (Jvm.Cond.instanceMethod ({ cls := "LeapJoin$State", name := "uses", desc := "(I)I" } : Jvm.MethodName)) ∈ lw_all := lw_g (lw_at lw_m3 228 rfl) rfl
theorem q830 : (Jvm.Cond.selects "LeapJoin$State" ({ cls := "LeapJoin$State", name := "uses", desc := "(I)I" } : Jvm.MethodName) ({ cls := "LeapJoin$State", name := "uses", desc := "(I)I" } : Jvm.MethodName)) ∈ lw_all := lw_g (lw_at lw_m3 229 rfl) rfl
theorem q831 : (Jvm.Cond.code ({ cls := "LeapJoin$State", name := "uses", desc := "(I)I" } : Jvm.MethodName) prog_7_method_12_code (2 : Nat) (Option.some Jvm.ClassFile.FieldType.int)) ∈ lw_all := lw_g (lw_at lw_m3 230 rfl) rfl
theorem q832 : (Jvm.Cond.methodLink "LeapJoin$State" (112 : Nat) ({ cls := "LeapJoin$State", name := "orders", desc := "(I)I" } : Jvm.MethodName)) ∈ lw_all := lw_g (lw_at lw_m3 231 rfl) rfl
theorem q833 : (Jvm.Cond.instanceMethod ({ cls := "LeapJoin$State", name := "orders", desc := "(I)I" } : Jvm.MethodName)) ∈ lw_all := lw_g (lw_at lw_m3 232 rfl) rfl
theorem q834 : (Jvm.Cond.selects "LeapJoin$State" ({ cls := "LeapJoin$State", name := "orders", desc := "(I)I" } : Jvm.MethodName) ({ cls := "LeapJoin$State", name := "orders", desc := "(I)I" } : Jvm.MethodName)) ∈ lw_all := lw_g (lw_at lw_m3 233 rfl) rfl
theorem q835 : (Jvm.Cond.code ({ cls := "LeapJoin$State", name := "orders", desc := "(I)I" } : Jvm.MethodName) prog_7_method_13_code (3 : Nat) (Option.some Jvm.ClassFile.FieldType.int)) ∈ lw_all := lw_g (lw_at lw_m3 234 rfl) rfl
theorem q836 : (Jvm.Cond.constantLong "LeapJoin$State" (95 : Nat) (23 : Int64)) ∈ lw_all := lw_g (lw_at lw_m3 235 rfl) rfl
theorem q851 : (Jvm.Cond.instanceMethod ({ cls := "LeapJoin$State", name := "asked", desc := "()I" } : Jvm.MethodName)) ∈ lw_all := lw_g (lw_at lw_m4 10 rfl) rfl
theorem q852 : (Jvm.Cond.selects "LeapJoin$State" ({ cls := "LeapJoin$State", name := "asked", desc := "()I" } : Jvm.MethodName) ({ cls := "LeapJoin$State", name := "asked", desc := "()I" } : Jvm.MethodName)) ∈ lw_all := lw_g (lw_at lw_m4 11 rfl) rfl
theorem q853 : (Jvm.Cond.code ({ cls := "LeapJoin$State", name := "asked", desc := "()I" } : Jvm.MethodName) prog_7_method_8_code (3 : Nat) (Option.some Jvm.ClassFile.FieldType.int)) ∈ lw_all := lw_g (lw_at lw_m4 12 rfl) rfl
theorem q854 : (Jvm.Cond.methodLinkNest "LeapJoin$State" (58 : Nat) ({ cls := "LeapJoin", name := "has", desc := "(II)Z" } : Jvm.MethodName) "LeapJoin") ∈ lw_tbl := lw_at lw_m4 13 rfl
theorem q855 : (Jvm.Cond.methodLink "LeapJoin$State" (62 : Nat) ({ cls := "LeapJoin$Table", name := "set", desc := "()I" } : Jvm.MethodName)) ∈ lw_all := lw_g (lw_at lw_m4 14 rfl) rfl
theorem q917 : (Jvm.Cond.instanceMethod ({ cls := "LeapJoin$State", name := "notes", desc := "(III)V" } : Jvm.MethodName)) ∈ lw_all := lw_g (lw_at lw_m4 76 rfl) rfl
theorem q918 : (Jvm.Cond.selects "LeapJoin$State" ({ cls := "LeapJoin$State", name := "notes", desc := "(III)V" } : Jvm.MethodName) ({ cls := "LeapJoin$State", name := "notes", desc := "(III)V" } : Jvm.MethodName)) ∈ lw_all := lw_g (lw_at lw_m4 77 rfl) rfl
theorem q919 : (Jvm.Cond.code ({ cls := "LeapJoin$State", name := "notes", desc := "(III)V" } : Jvm.MethodName) prog_7_method_5_code (4 : Nat) (Option.none : Option Jvm.ClassFile.FieldType)) ∈ lw_all := lw_g (lw_at lw_m4 78 rfl) rfl
theorem q969 : (Jvm.Cond.instanceMethod ({ cls := "LeapJoin$State", name := "rows", desc := "()I" } : Jvm.MethodName)) ∈ lw_all := lw_g (lw_at lw_m4 128 rfl) rfl
theorem q970 : (Jvm.Cond.selects "LeapJoin$State" ({ cls := "LeapJoin$State", name := "rows", desc := "()I" } : Jvm.MethodName) ({ cls := "LeapJoin$State", name := "rows", desc := "()I" } : Jvm.MethodName)) ∈ lw_all := lw_g (lw_at lw_m4 129 rfl) rfl
theorem q971 : (Jvm.Cond.code ({ cls := "LeapJoin$State", name := "rows", desc := "()I" } : Jvm.MethodName) prog_7_method_9_code (3 : Nat) (Option.some Jvm.ClassFile.FieldType.int)) ∈ lw_all := lw_g (lw_at lw_m4 130 rfl) rfl
theorem q1900 : (Jvm.Cond.castable "LeapJoin$State" "java/lang/Object") ∈ lw_tbl := lw_at lw_m8 99 rfl
theorem in_X2 : ∀ w ∈ wsX20, w ∈ lw_all := lw_in wsX20 [199, 201, 203, 205, 207, 209, 211] (by decide +kernel) (by decide +kernel)

/-! LeapJoin$Join -/
set_option maxRecDepth 100000
def RX3 : String := "LeapJoin$Join"
def TX3 : u_T := fun k => match k with
  | 0 => ("LeapJoin$Join", "rows", "[I", true)
  | 1 => ("LeapJoin$Join", "found", "[I", true)
  | 2 => ("LeapJoin$Join", "letters", "[I", true)
  | 3 => ("LeapJoin$Join", "begun", "[I", true)
  | 4 => ("LeapJoin$Join", "keys", "[[[I", true)
  | 5 => ("LeapJoin$Join", "manyOf", "[[I", true)
  | 6 => ("LeapJoin$Join", "at", "[[I", true)
  | 7 => ("LeapJoin$Join", "state", "LLeapJoin$State;", false)
  | 8 => ("LeapJoin$Join", "many", "I", false)
  | 9 => ("LeapJoin$Join", "leaps", "I", false)
  | 10 => ("LeapJoin$Join", "deep", "I", false)
  | 11 => ("LeapJoin$Join", "counts", "[I", true)
  | _ => ("LeapJoin$Join", "this$0", "LLeapJoin;", true)
def tyX3 : Nat → FieldType := fun k => match k with
  | 0 => .array .int
  | 1 => .array .int
  | 2 => .array .int
  | 3 => .array .int
  | 4 => .array (.array (.array .int))
  | 5 => .array (.array .int)
  | 6 => .array (.array .int)
  | 7 => .object "LeapJoin$State"
  | 8 => .int
  | 9 => .int
  | 10 => .int
  | 11 => .array .int
  | _ => .object "LeapJoin"
abbrev wsX30 : List Cond := u_ws RX3 TX3 13
set_option maxRecDepth 100000 in
theorem nmX3 : ∀ a, a < 13 → ∀ b, b < 13 → a ≠ b → (TX3 a).2.1 ≠ (TX3 b).2.1 := by decide +kernel
set_option maxRecDepth 100000 in
theorem tyX3_ok : ∀ k, k < 13 → parseFieldDescriptor (TX3 k).2.2.1 = some (tyX3 k) := by decide +kernel
abbrev cX3_init : ByteArray := prog_2_method_1_code
def yX3_init : MethodName := ⟨RX3, "<init>", "(LLeapJoin;)V"⟩
def dkwX3_init_3 : List UInt8 := [16, 100, 188, 10, 181, 0, 42, 177]
abbrev dktX3_init_3 : List UInt8 := dkwX3_init_3 ++ []
def dkwX3_init_2 : List UInt8 := [181, 0, 31, 42, 7, 7, 197, 0, 34, 2, 181, 0, 36, 42, 7, 7, 197, 0, 34, 2, 181, 0, 39, 42]
abbrev dktX3_init_2 : List UInt8 := dkwX3_init_2 ++ dktX3_init_3
def dkwX3_init_1 : List UInt8 := [42, 7, 188, 10, 181, 0, 23, 42, 8, 188, 10, 181, 0, 26, 42, 7, 7, 16, 12, 197, 0, 29, 3]
abbrev dktX3_init_1 : List UInt8 := dkwX3_init_1 ++ dktX3_init_2
def dkwX3_init_0 : List UInt8 := [42, 43, 181, 0, 3, 42, 183, 0, 9, 42, 18, 15, 188, 10, 181, 0, 16, 42, 7, 188, 10, 181, 0, 20]
abbrev dktX3_init_0 : List UInt8 := dkwX3_init_0 ++ dktX3_init_1
theorem dksX3_init_0 : cX3_init.data.toList.drop 0 = dktX3_init_0 := by decide +kernel
theorem dksX3_init_1 : cX3_init.data.toList.drop 24 = dktX3_init_1 := dk_seg dksX3_init_0 24 rfl rfl
theorem dksX3_init_2 : cX3_init.data.toList.drop 47 = dktX3_init_2 := dk_seg dksX3_init_1 23 rfl rfl
theorem dksX3_init_3 : cX3_init.data.toList.drop 71 = dktX3_init_3 := dk_seg dksX3_init_2 24 rfl rfl
theorem dX3_init_0 : decode cX3_init 0 = .ok (.aload_n 0, 1) := dk_42 (dk_at dksX3_init_0 0 rfl rfl)
theorem dX3_init_1 : decode cX3_init 1 = .ok (.aload_n 1, 1) := dk_43 (dk_at dksX3_init_0 1 rfl rfl)
theorem dX3_init_2 : decode cX3_init 2 = .ok (.putfield 3, 3) := dk_181 0 3 (dk_at dksX3_init_0 2 rfl rfl)
theorem dX3_init_5 : decode cX3_init 5 = .ok (.aload_n 0, 1) := dk_42 (dk_at dksX3_init_0 5 rfl rfl)
theorem dX3_init_6 : decode cX3_init 6 = .ok (.invokespecial 9, 3) := dk_183 0 9 (dk_at dksX3_init_0 6 rfl rfl)
theorem dX3_init_9 : decode cX3_init 9 = .ok (.aload_n 0, 1) := dk_42 (dk_at dksX3_init_0 9 rfl rfl)
theorem dX3_init_10 : decode cX3_init 10 = .ok (.ldc 15, 2) := dk_18 15 (dk_at dksX3_init_0 10 rfl rfl)
theorem dX3_init_12 : decode cX3_init 12 = .ok (.newarray .int, 2) := dk_188_10 (dk_at dksX3_init_0 12 rfl rfl)
theorem dX3_init_14 : decode cX3_init 14 = .ok (.putfield 16, 3) := dk_181 0 16 (dk_at dksX3_init_0 14 rfl rfl)
theorem dX3_init_17 : decode cX3_init 17 = .ok (.aload_n 0, 1) := dk_42 (dk_at dksX3_init_0 17 rfl rfl)
theorem dX3_init_18 : decode cX3_init 18 = .ok (.iconst 4, 1) := dk_7 (dk_at dksX3_init_0 18 rfl rfl)
theorem dX3_init_19 : decode cX3_init 19 = .ok (.newarray .int, 2) := dk_188_10 (dk_at dksX3_init_0 19 rfl rfl)
theorem dX3_init_21 : decode cX3_init 21 = .ok (.putfield 20, 3) := dk_181 0 20 (dk_at dksX3_init_0 21 rfl rfl)
theorem dX3_init_24 : decode cX3_init 24 = .ok (.aload_n 0, 1) := dk_42 (dk_at dksX3_init_1 0 rfl rfl)
theorem dX3_init_25 : decode cX3_init 25 = .ok (.iconst 4, 1) := dk_7 (dk_at dksX3_init_1 1 rfl rfl)
theorem dX3_init_26 : decode cX3_init 26 = .ok (.newarray .int, 2) := dk_188_10 (dk_at dksX3_init_1 2 rfl rfl)
theorem dX3_init_28 : decode cX3_init 28 = .ok (.putfield 23, 3) := dk_181 0 23 (dk_at dksX3_init_1 4 rfl rfl)
theorem dX3_init_31 : decode cX3_init 31 = .ok (.aload_n 0, 1) := dk_42 (dk_at dksX3_init_1 7 rfl rfl)
theorem dX3_init_32 : decode cX3_init 32 = .ok (.iconst 5, 1) := dk_8 (dk_at dksX3_init_1 8 rfl rfl)
theorem dX3_init_33 : decode cX3_init 33 = .ok (.newarray .int, 2) := dk_188_10 (dk_at dksX3_init_1 9 rfl rfl)
theorem dX3_init_35 : decode cX3_init 35 = .ok (.putfield 26, 3) := dk_181 0 26 (dk_at dksX3_init_1 11 rfl rfl)
theorem dX3_init_38 : decode cX3_init 38 = .ok (.aload_n 0, 1) := dk_42 (dk_at dksX3_init_1 14 rfl rfl)
theorem dX3_init_39 : decode cX3_init 39 = .ok (.iconst 4, 1) := dk_7 (dk_at dksX3_init_1 15 rfl rfl)
theorem dX3_init_40 : decode cX3_init 40 = .ok (.iconst 4, 1) := dk_7 (dk_at dksX3_init_1 16 rfl rfl)
theorem dX3_init_41 : decode cX3_init 41 = .ok (.bipush 12, 2) := dk_16 12 (dk_at dksX3_init_1 17 rfl rfl)
theorem dX3_init_43 : decode cX3_init 43 = .ok (.multianewarray 29 3, 4) := by decide +kernel
theorem dX3_init_47 : decode cX3_init 47 = .ok (.putfield 31, 3) := dk_181 0 31 (dk_at dksX3_init_2 0 rfl rfl)
theorem dX3_init_50 : decode cX3_init 50 = .ok (.aload_n 0, 1) := dk_42 (dk_at dksX3_init_2 3 rfl rfl)
theorem dX3_init_51 : decode cX3_init 51 = .ok (.iconst 4, 1) := dk_7 (dk_at dksX3_init_2 4 rfl rfl)
theorem dX3_init_52 : decode cX3_init 52 = .ok (.iconst 4, 1) := dk_7 (dk_at dksX3_init_2 5 rfl rfl)
theorem dX3_init_53 : decode cX3_init 53 = .ok (.multianewarray 34 2, 4) := by decide +kernel
theorem dX3_init_57 : decode cX3_init 57 = .ok (.putfield 36, 3) := dk_181 0 36 (dk_at dksX3_init_2 10 rfl rfl)
theorem dX3_init_60 : decode cX3_init 60 = .ok (.aload_n 0, 1) := dk_42 (dk_at dksX3_init_2 13 rfl rfl)
theorem dX3_init_61 : decode cX3_init 61 = .ok (.iconst 4, 1) := dk_7 (dk_at dksX3_init_2 14 rfl rfl)
theorem dX3_init_62 : decode cX3_init 62 = .ok (.iconst 4, 1) := dk_7 (dk_at dksX3_init_2 15 rfl rfl)
theorem dX3_init_63 : decode cX3_init 63 = .ok (.multianewarray 34 2, 4) := by decide +kernel
theorem dX3_init_67 : decode cX3_init 67 = .ok (.putfield 39, 3) := dk_181 0 39 (dk_at dksX3_init_2 20 rfl rfl)
theorem dX3_init_70 : decode cX3_init 70 = .ok (.aload_n 0, 1) := dk_42 (dk_at dksX3_init_2 23 rfl rfl)
theorem dX3_init_71 : decode cX3_init 71 = .ok (.bipush 100, 2) := dk_16 100 (dk_at dksX3_init_3 0 rfl rfl)
theorem dX3_init_73 : decode cX3_init 73 = .ok (.newarray .int, 2) := dk_188_10 (dk_at dksX3_init_3 2 rfl rfl)
theorem dX3_init_75 : decode cX3_init 75 = .ok (.putfield 42, 3) := dk_181 0 42 (dk_at dksX3_init_3 4 rfl rfl)
theorem dX3_init_78 : decode cX3_init 78 = .ok (.return_, 1) := dk_177 (dk_at dksX3_init_3 7 rfl rfl)
abbrev cX3_of : ByteArray := prog_2_method_2_code
def yX3_of : MethodName := ⟨RX3, "of", "(LLeapJoin$State;I)LLeapJoin$Join;"⟩
def dkwX3_of_6 : List UInt8 := [167, 255, 150, 42, 3, 3, 182, 0, 73, 42, 176]
abbrev dktX3_of_6 : List UInt8 := dkwX3_of_6 ++ []
def dkwX3_of_5 : List UInt8 := [180, 0, 23, 42, 180, 0, 56, 21, 8, 79, 42, 89, 180, 0, 56, 4, 96, 181, 0, 56, 132, 6, 1]
abbrev dktX3_of_5 : List UInt8 := dkwX3_of_5 ++ dktX3_of_6
def dkwX3_of_4 : List UInt8 := [180, 0, 26, 21, 6, 4, 96, 3, 79, 29, 21, 8, 184, 0, 69, 154, 0, 6, 167, 0, 24, 42]
abbrev dktX3_of_4 : List UInt8 := dkwX3_of_4 ++ dktX3_of_5
def dkwX3_of_3 : List UInt8 := [182, 0, 65, 54, 8, 21, 5, 21, 7, 112, 54, 5, 21, 4, 4, 21, 8, 120, 2, 130, 126, 54, 4, 42]
abbrev dktX3_of_3 : List UInt8 := dkwX3_of_3 ++ dktX3_of_4
def dkwX3_of_2 : List UInt8 := [167, 0, 14, 21, 6, 4, 160, 0, 7, 5, 167, 0, 4, 4, 54, 7, 42, 21, 4, 21, 5, 21, 7, 108]
abbrev dktX3_of_2 : List UInt8 := dkwX3_of_2 ++ dktX3_of_3
def dkwX3_of_1 : List UInt8 := [62, 16, 15, 54, 4, 28, 54, 5, 3, 54, 6, 21, 6, 7, 162, 0, 106, 21, 6, 154, 0, 8, 16, 6]
abbrev dktX3_of_1 : List UInt8 := dkwX3_of_1 ++ dktX3_of_2
def dkwX3_of_0 : List UInt8 := [42, 43, 181, 0, 45, 42, 3, 181, 0, 49, 42, 3, 181, 0, 53, 42, 3, 181, 0, 56, 43, 182, 0, 59]
abbrev dktX3_of_0 : List UInt8 := dkwX3_of_0 ++ dktX3_of_1
theorem dksX3_of_0 : cX3_of.data.toList.drop 0 = dktX3_of_0 := by decide +kernel
theorem dksX3_of_1 : cX3_of.data.toList.drop 24 = dktX3_of_1 := dk_seg dksX3_of_0 24 rfl rfl
theorem dksX3_of_2 : cX3_of.data.toList.drop 48 = dktX3_of_2 := dk_seg dksX3_of_1 24 rfl rfl
theorem dksX3_of_3 : cX3_of.data.toList.drop 72 = dktX3_of_3 := dk_seg dksX3_of_2 24 rfl rfl
theorem dksX3_of_4 : cX3_of.data.toList.drop 96 = dktX3_of_4 := dk_seg dksX3_of_3 24 rfl rfl
theorem dksX3_of_5 : cX3_of.data.toList.drop 118 = dktX3_of_5 := dk_seg dksX3_of_4 22 rfl rfl
theorem dksX3_of_6 : cX3_of.data.toList.drop 141 = dktX3_of_6 := dk_seg dksX3_of_5 23 rfl rfl
theorem dX3_of_0 : decode cX3_of 0 = .ok (.aload_n 0, 1) := dk_42 (dk_at dksX3_of_0 0 rfl rfl)
theorem dX3_of_1 : decode cX3_of 1 = .ok (.aload_n 1, 1) := dk_43 (dk_at dksX3_of_0 1 rfl rfl)
theorem dX3_of_2 : decode cX3_of 2 = .ok (.putfield 45, 3) := dk_181 0 45 (dk_at dksX3_of_0 2 rfl rfl)
theorem dX3_of_5 : decode cX3_of 5 = .ok (.aload_n 0, 1) := dk_42 (dk_at dksX3_of_0 5 rfl rfl)
theorem dX3_of_6 : decode cX3_of 6 = .ok (.iconst 0, 1) := dk_3 (dk_at dksX3_of_0 6 rfl rfl)
theorem dX3_of_7 : decode cX3_of 7 = .ok (.putfield 49, 3) := dk_181 0 49 (dk_at dksX3_of_0 7 rfl rfl)
theorem dX3_of_10 : decode cX3_of 10 = .ok (.aload_n 0, 1) := dk_42 (dk_at dksX3_of_0 10 rfl rfl)
theorem dX3_of_11 : decode cX3_of 11 = .ok (.iconst 0, 1) := dk_3 (dk_at dksX3_of_0 11 rfl rfl)
theorem dX3_of_12 : decode cX3_of 12 = .ok (.putfield 53, 3) := dk_181 0 53 (dk_at dksX3_of_0 12 rfl rfl)
theorem dX3_of_15 : decode cX3_of 15 = .ok (.aload_n 0, 1) := dk_42 (dk_at dksX3_of_0 15 rfl rfl)
theorem dX3_of_16 : decode cX3_of 16 = .ok (.iconst 0, 1) := dk_3 (dk_at dksX3_of_0 16 rfl rfl)
theorem dX3_of_17 : decode cX3_of 17 = .ok (.putfield 56, 3) := dk_181 0 56 (dk_at dksX3_of_0 17 rfl rfl)
theorem dX3_of_20 : decode cX3_of 20 = .ok (.aload_n 1, 1) := dk_43 (dk_at dksX3_of_0 20 rfl rfl)
theorem dX3_of_21 : decode cX3_of 21 = .ok (.invokevirtual 59, 3) := dk_182 0 59 (dk_at dksX3_of_0 21 rfl rfl)
theorem dX3_of_24 : decode cX3_of 24 = .ok (.istore_n 3, 1) := dk_62 (dk_at dksX3_of_1 0 rfl rfl)
theorem dX3_of_25 : decode cX3_of 25 = .ok (.bipush 15, 2) := dk_16 15 (dk_at dksX3_of_1 1 rfl rfl)
theorem dX3_of_27 : decode cX3_of 27 = .ok (.istore 4, 2) := dk_54 4 (dk_at dksX3_of_1 3 rfl rfl)
theorem dX3_of_29 : decode cX3_of 29 = .ok (.iload_n 2, 1) := dk_28 (dk_at dksX3_of_1 5 rfl rfl)
theorem dX3_of_30 : decode cX3_of 30 = .ok (.istore 5, 2) := dk_54 5 (dk_at dksX3_of_1 6 rfl rfl)
theorem dX3_of_32 : decode cX3_of 32 = .ok (.iconst 0, 1) := dk_3 (dk_at dksX3_of_1 8 rfl rfl)
theorem dX3_of_33 : decode cX3_of 33 = .ok (.istore 6, 2) := dk_54 6 (dk_at dksX3_of_1 9 rfl rfl)
theorem dX3_of_35 : decode cX3_of 35 = .ok (.iload 6, 2) := dk_21 6 (dk_at dksX3_of_1 11 rfl rfl)
theorem dX3_of_37 : decode cX3_of 37 = .ok (.iconst 4, 1) := dk_7 (dk_at dksX3_of_1 13 rfl rfl)
theorem dX3_of_38 : decode cX3_of 38 = .ok (.if_icmp .ge 106, 3) := dk_162 0 106 (dk_at dksX3_of_1 14 rfl rfl)
theorem dX3_of_41 : decode cX3_of 41 = .ok (.iload 6, 2) := dk_21 6 (dk_at dksX3_of_1 17 rfl rfl)
theorem dX3_of_43 : decode cX3_of 43 = .ok (.ifCond .ne 8, 3) := dk_154 0 8 (dk_at dksX3_of_1 19 rfl rfl)
theorem dX3_of_46 : decode cX3_of 46 = .ok (.bipush 6, 2) := dk_16 6 (dk_at dksX3_of_1 22 rfl rfl)
theorem dX3_of_48 : decode cX3_of 48 = .ok (.goto 14, 3) := dk_167 0 14 (dk_at dksX3_of_2 0 rfl rfl)
theorem dX3_of_51 : decode cX3_of 51 = .ok (.iload 6, 2) := dk_21 6 (dk_at dksX3_of_2 3 rfl rfl)
theorem dX3_of_53 : decode cX3_of 53 = .ok (.iconst 1, 1) := dk_4 (dk_at dksX3_of_2 5 rfl rfl)
theorem dX3_of_54 : decode cX3_of 54 = .ok (.if_icmp .ne 7, 3) := dk_160 0 7 (dk_at dksX3_of_2 6 rfl rfl)
theorem dX3_of_57 : decode cX3_of 57 = .ok (.iconst 2, 1) := dk_5 (dk_at dksX3_of_2 9 rfl rfl)
theorem dX3_of_58 : decode cX3_of 58 = .ok (.goto 4, 3) := dk_167 0 4 (dk_at dksX3_of_2 10 rfl rfl)
theorem dX3_of_61 : decode cX3_of 61 = .ok (.iconst 1, 1) := dk_4 (dk_at dksX3_of_2 13 rfl rfl)
theorem dX3_of_62 : decode cX3_of 62 = .ok (.istore 7, 2) := dk_54 7 (dk_at dksX3_of_2 14 rfl rfl)
theorem dX3_of_64 : decode cX3_of 64 = .ok (.aload_n 0, 1) := dk_42 (dk_at dksX3_of_2 16 rfl rfl)
theorem dX3_of_65 : decode cX3_of 65 = .ok (.iload 4, 2) := dk_21 4 (dk_at dksX3_of_2 17 rfl rfl)
theorem dX3_of_67 : decode cX3_of 67 = .ok (.iload 5, 2) := dk_21 5 (dk_at dksX3_of_2 19 rfl rfl)
theorem dX3_of_69 : decode cX3_of 69 = .ok (.iload 7, 2) := dk_21 7 (dk_at dksX3_of_2 21 rfl rfl)
theorem dX3_of_71 : decode cX3_of 71 = .ok (.idiv, 1) := dk_108 (dk_at dksX3_of_2 23 rfl rfl)
theorem dX3_of_72 : decode cX3_of 72 = .ok (.invokevirtual 65, 3) := dk_182 0 65 (dk_at dksX3_of_3 0 rfl rfl)
theorem dX3_of_75 : decode cX3_of 75 = .ok (.istore 8, 2) := dk_54 8 (dk_at dksX3_of_3 3 rfl rfl)
theorem dX3_of_77 : decode cX3_of 77 = .ok (.iload 5, 2) := dk_21 5 (dk_at dksX3_of_3 5 rfl rfl)
theorem dX3_of_79 : decode cX3_of 79 = .ok (.iload 7, 2) := dk_21 7 (dk_at dksX3_of_3 7 rfl rfl)
theorem dX3_of_81 : decode cX3_of 81 = .ok (.irem, 1) := dk_112 (dk_at dksX3_of_3 9 rfl rfl)
theorem dX3_of_82 : decode cX3_of 82 = .ok (.istore 5, 2) := dk_54 5 (dk_at dksX3_of_3 10 rfl rfl)
theorem dX3_of_84 : decode cX3_of 84 = .ok (.iload 4, 2) := dk_21 4 (dk_at dksX3_of_3 12 rfl rfl)
theorem dX3_of_86 : decode cX3_of 86 = .ok (.iconst 1, 1) := dk_4 (dk_at dksX3_of_3 14 rfl rfl)
theorem dX3_of_87 : decode cX3_of 87 = .ok (.iload 8, 2) := dk_21 8 (dk_at dksX3_of_3 15 rfl rfl)
theorem dX3_of_89 : decode cX3_of 89 = .ok (.ishl, 1) := dk_120 (dk_at dksX3_of_3 17 rfl rfl)
theorem dX3_of_90 : decode cX3_of 90 = .ok (.iconst (-1), 1) := dk_2 (dk_at dksX3_of_3 18 rfl rfl)
theorem dX3_of_91 : decode cX3_of 91 = .ok (.ixor, 1) := dk_130 (dk_at dksX3_of_3 19 rfl rfl)
theorem dX3_of_92 : decode cX3_of 92 = .ok (.iand, 1) := dk_126 (dk_at dksX3_of_3 20 rfl rfl)
theorem dX3_of_93 : decode cX3_of 93 = .ok (.istore 4, 2) := dk_54 4 (dk_at dksX3_of_3 21 rfl rfl)
theorem dX3_of_95 : decode cX3_of 95 = .ok (.aload_n 0, 1) := dk_42 (dk_at dksX3_of_3 23 rfl rfl)
theorem dX3_of_96 : decode cX3_of 96 = .ok (.getfield 26, 3) := dk_180 0 26 (dk_at dksX3_of_4 0 rfl rfl)
theorem dX3_of_99 : decode cX3_of 99 = .ok (.iload 6, 2) := dk_21 6 (dk_at dksX3_of_4 3 rfl rfl)
theorem dX3_of_101 : decode cX3_of 101 = .ok (.iconst 1, 1) := dk_4 (dk_at dksX3_of_4 5 rfl rfl)
theorem dX3_of_102 : decode cX3_of 102 = .ok (.iadd, 1) := dk_96 (dk_at dksX3_of_4 6 rfl rfl)
theorem dX3_of_103 : decode cX3_of 103 = .ok (.iconst 0, 1) := dk_3 (dk_at dksX3_of_4 7 rfl rfl)
theorem dX3_of_104 : decode cX3_of 104 = .ok (.iastore, 1) := dk_79 (dk_at dksX3_of_4 8 rfl rfl)
theorem dX3_of_105 : decode cX3_of 105 = .ok (.iload_n 3, 1) := dk_29 (dk_at dksX3_of_4 9 rfl rfl)
theorem dX3_of_106 : decode cX3_of 106 = .ok (.iload 8, 2) := dk_21 8 (dk_at dksX3_of_4 10 rfl rfl)
theorem dX3_of_108 : decode cX3_of 108 = .ok (.invokestatic 69, 3) := dk_184 0 69 (dk_at dksX3_of_4 12 rfl rfl)
theorem dX3_of_111 : decode cX3_of 111 = .ok (.ifCond .ne 6, 3) := dk_154 0 6 (dk_at dksX3_of_4 15 rfl rfl)
theorem dX3_of_114 : decode cX3_of 114 = .ok (.goto 24, 3) := dk_167 0 24 (dk_at dksX3_of_4 18 rfl rfl)
theorem dX3_of_117 : decode cX3_of 117 = .ok (.aload_n 0, 1) := dk_42 (dk_at dksX3_of_4 21 rfl rfl)
theorem dX3_of_118 : decode cX3_of 118 = .ok (.getfield 23, 3) := dk_180 0 23 (dk_at dksX3_of_5 0 rfl rfl)
theorem dX3_of_121 : decode cX3_of 121 = .ok (.aload_n 0, 1) := dk_42 (dk_at dksX3_of_5 3 rfl rfl)
theorem dX3_of_122 : decode cX3_of 122 = .ok (.getfield 56, 3) := dk_180 0 56 (dk_at dksX3_of_5 4 rfl rfl)
theorem dX3_of_125 : decode cX3_of 125 = .ok (.iload 8, 2) := dk_21 8 (dk_at dksX3_of_5 7 rfl rfl)
theorem dX3_of_127 : decode cX3_of 127 = .ok (.iastore, 1) := dk_79 (dk_at dksX3_of_5 9 rfl rfl)
theorem dX3_of_128 : decode cX3_of 128 = .ok (.aload_n 0, 1) := dk_42 (dk_at dksX3_of_5 10 rfl rfl)
theorem dX3_of_129 : decode cX3_of 129 = .ok (.dup, 1) := dk_89 (dk_at dksX3_of_5 11 rfl rfl)
theorem dX3_of_130 : decode cX3_of 130 = .ok (.getfield 56, 3) := dk_180 0 56 (dk_at dksX3_of_5 12 rfl rfl)
theorem dX3_of_133 : decode cX3_of 133 = .ok (.iconst 1, 1) := dk_4 (dk_at dksX3_of_5 15 rfl rfl)
theorem dX3_of_134 : decode cX3_of 134 = .ok (.iadd, 1) := dk_96 (dk_at dksX3_of_5 16 rfl rfl)
theorem dX3_of_135 : decode cX3_of 135 = .ok (.putfield 56, 3) := dk_181 0 56 (dk_at dksX3_of_5 17 rfl rfl)
theorem dX3_of_138 : decode cX3_of 138 = .ok (.iinc 6 1, 3) := dk_132 6 1 (dk_at dksX3_of_5 20 rfl rfl)
theorem dX3_of_141 : decode cX3_of 141 = .ok (.goto (-106), 3) := dk_167 255 150 (dk_at dksX3_of_6 0 rfl rfl)
theorem dX3_of_144 : decode cX3_of 144 = .ok (.aload_n 0, 1) := dk_42 (dk_at dksX3_of_6 3 rfl rfl)
theorem dX3_of_145 : decode cX3_of 145 = .ok (.iconst 0, 1) := dk_3 (dk_at dksX3_of_6 4 rfl rfl)
theorem dX3_of_146 : decode cX3_of 146 = .ok (.iconst 0, 1) := dk_3 (dk_at dksX3_of_6 5 rfl rfl)
theorem dX3_of_147 : decode cX3_of 147 = .ok (.invokevirtual 73, 3) := dk_182 0 73 (dk_at dksX3_of_6 6 rfl rfl)
theorem dX3_of_150 : decode cX3_of 150 = .ok (.aload_n 0, 1) := dk_42 (dk_at dksX3_of_6 9 rfl rfl)
theorem dX3_of_151 : decode cX3_of 151 = .ok (.areturn, 1) := dk_176 (dk_at dksX3_of_6 10 rfl rfl)
abbrev cX3_nth : ByteArray := prog_2_method_3_code
def yX3_nth : MethodName := ⟨RX3, "nth", "(II)I"⟩
def dkwX3_nth_1 : List UInt8 := [153, 0, 6, 132, 3, 255, 132, 4, 1, 167, 255, 228, 21, 4, 172]
abbrev dktX3_nth_1 : List UInt8 := dkwX3_nth_1 ++ []
def dkwX3_nth_0 : List UInt8 := [28, 62, 3, 54, 4, 27, 21, 4, 184, 0, 69, 153, 0, 7, 29, 158, 0, 21, 27, 21, 4, 184, 0, 69]
abbrev dktX3_nth_0 : List UInt8 := dkwX3_nth_0 ++ dktX3_nth_1
theorem dksX3_nth_0 : cX3_nth.data.toList.drop 0 = dktX3_nth_0 := by decide +kernel
theorem dksX3_nth_1 : cX3_nth.data.toList.drop 24 = dktX3_nth_1 := dk_seg dksX3_nth_0 24 rfl rfl
theorem dX3_nth_0 : decode cX3_nth 0 = .ok (.iload_n 2, 1) := dk_28 (dk_at dksX3_nth_0 0 rfl rfl)
theorem dX3_nth_1 : decode cX3_nth 1 = .ok (.istore_n 3, 1) := dk_62 (dk_at dksX3_nth_0 1 rfl rfl)
theorem dX3_nth_2 : decode cX3_nth 2 = .ok (.iconst 0, 1) := dk_3 (dk_at dksX3_nth_0 2 rfl rfl)
theorem dX3_nth_3 : decode cX3_nth 3 = .ok (.istore 4, 2) := dk_54 4 (dk_at dksX3_nth_0 3 rfl rfl)
theorem dX3_nth_5 : decode cX3_nth 5 = .ok (.iload_n 1, 1) := dk_27 (dk_at dksX3_nth_0 5 rfl rfl)
theorem dX3_nth_6 : decode cX3_nth 6 = .ok (.iload 4, 2) := dk_21 4 (dk_at dksX3_nth_0 6 rfl rfl)
theorem dX3_nth_8 : decode cX3_nth 8 = .ok (.invokestatic 69, 3) := dk_184 0 69 (dk_at dksX3_nth_0 8 rfl rfl)
theorem dX3_nth_11 : decode cX3_nth 11 = .ok (.ifCond .eq 7, 3) := dk_153 0 7 (dk_at dksX3_nth_0 11 rfl rfl)
theorem dX3_nth_14 : decode cX3_nth 14 = .ok (.iload_n 3, 1) := dk_29 (dk_at dksX3_nth_0 14 rfl rfl)
theorem dX3_nth_15 : decode cX3_nth 15 = .ok (.ifCond .le 21, 3) := dk_158 0 21 (dk_at dksX3_nth_0 15 rfl rfl)
theorem dX3_nth_18 : decode cX3_nth 18 = .ok (.iload_n 1, 1) := dk_27 (dk_at dksX3_nth_0 18 rfl rfl)
theorem dX3_nth_19 : decode cX3_nth 19 = .ok (.iload 4, 2) := dk_21 4 (dk_at dksX3_nth_0 19 rfl rfl)
theorem dX3_nth_21 : decode cX3_nth 21 = .ok (.invokestatic 69, 3) := dk_184 0 69 (dk_at dksX3_nth_0 21 rfl rfl)
theorem dX3_nth_24 : decode cX3_nth 24 = .ok (.ifCond .eq 6, 3) := dk_153 0 6 (dk_at dksX3_nth_1 0 rfl rfl)
theorem dX3_nth_27 : decode cX3_nth 27 = .ok (.iinc 3 (-1), 3) := dk_132 3 255 (dk_at dksX3_nth_1 3 rfl rfl)
theorem dX3_nth_30 : decode cX3_nth 30 = .ok (.iinc 4 1, 3) := dk_132 4 1 (dk_at dksX3_nth_1 6 rfl rfl)
theorem dX3_nth_33 : decode cX3_nth 33 = .ok (.goto (-28), 3) := dk_167 255 228 (dk_at dksX3_nth_1 9 rfl rfl)
theorem dX3_nth_36 : decode cX3_nth 36 = .ok (.iload 4, 2) := dk_21 4 (dk_at dksX3_nth_1 12 rfl rfl)
theorem dX3_nth_38 : decode cX3_nth 38 = .ok (.ireturn, 1) := dk_172 (dk_at dksX3_nth_1 14 rfl rfl)
abbrev cX3_finds : ByteArray := prog_2_method_11_code
def yX3_finds : MethodName := ⟨RX3, "finds", "(II)V"⟩
def dkwX3_finds_3 : List UInt8 := [4, 96, 182, 0, 120, 62, 167, 0, 13, 42, 27, 21, 5, 21, 4, 182, 0, 120, 62, 167, 255, 174, 177]
abbrev dktX3_finds_3 : List UInt8 := dkwX3_finds_3 ++ []
def dkwX3_finds_2 : List UInt8 := [42, 27, 28, 4, 42, 180, 0, 23, 27, 46, 120, 128, 182, 0, 114, 42, 27, 42, 27, 182, 0, 117, 21, 4]
abbrev dktX3_finds_2 : List UInt8 := dkwX3_finds_2 ++ dktX3_finds_3
def dkwX3_finds_1 : List UInt8 := [182, 0, 111, 54, 5, 21, 5, 2, 160, 0, 49, 42, 180, 0, 20, 42, 180, 0, 23, 27, 46, 21, 4, 79]
abbrev dktX3_finds_1 : List UInt8 := dkwX3_finds_1 ++ dktX3_finds_2
def dkwX3_finds_0 : List UInt8 := [42, 27, 28, 182, 0, 104, 62, 29, 153, 0, 84, 42, 27, 182, 0, 107, 54, 4, 42, 27, 21, 4]
abbrev dktX3_finds_0 : List UInt8 := dkwX3_finds_0 ++ dktX3_finds_1
theorem dksX3_finds_0 : cX3_finds.data.toList.drop 0 = dktX3_finds_0 := by decide +kernel
theorem dksX3_finds_1 : cX3_finds.data.toList.drop 22 = dktX3_finds_1 := dk_seg dksX3_finds_0 22 rfl rfl
theorem dksX3_finds_2 : cX3_finds.data.toList.drop 46 = dktX3_finds_2 := dk_seg dksX3_finds_1 24 rfl rfl
theorem dksX3_finds_3 : cX3_finds.data.toList.drop 70 = dktX3_finds_3 := dk_seg dksX3_finds_2 24 rfl rfl
theorem dX3_finds_0 : decode cX3_finds 0 = .ok (.aload_n 0, 1) := dk_42 (dk_at dksX3_finds_0 0 rfl rfl)
theorem dX3_finds_1 : decode cX3_finds 1 = .ok (.iload_n 1, 1) := dk_27 (dk_at dksX3_finds_0 1 rfl rfl)
theorem dX3_finds_2 : decode cX3_finds 2 = .ok (.iload_n 2, 1) := dk_28 (dk_at dksX3_finds_0 2 rfl rfl)
theorem dX3_finds_3 : decode cX3_finds 3 = .ok (.invokevirtual 104, 3) := dk_182 0 104 (dk_at dksX3_finds_0 3 rfl rfl)
theorem dX3_finds_6 : decode cX3_finds 6 = .ok (.istore_n 3, 1) := dk_62 (dk_at dksX3_finds_0 6 rfl rfl)
theorem dX3_finds_7 : decode cX3_finds 7 = .ok (.iload_n 3, 1) := dk_29 (dk_at dksX3_finds_0 7 rfl rfl)
theorem dX3_finds_8 : decode cX3_finds 8 = .ok (.ifCond .eq 84, 3) := dk_153 0 84 (dk_at dksX3_finds_0 8 rfl rfl)
theorem dX3_finds_11 : decode cX3_finds 11 = .ok (.aload_n 0, 1) := dk_42 (dk_at dksX3_finds_0 11 rfl rfl)
theorem dX3_finds_12 : decode cX3_finds 12 = .ok (.iload_n 1, 1) := dk_27 (dk_at dksX3_finds_0 12 rfl rfl)
theorem dX3_finds_13 : decode cX3_finds 13 = .ok (.invokevirtual 107, 3) := dk_182 0 107 (dk_at dksX3_finds_0 13 rfl rfl)
theorem dX3_finds_16 : decode cX3_finds 16 = .ok (.istore 4, 2) := dk_54 4 (dk_at dksX3_finds_0 16 rfl rfl)
theorem dX3_finds_18 : decode cX3_finds 18 = .ok (.aload_n 0, 1) := dk_42 (dk_at dksX3_finds_0 18 rfl rfl)
theorem dX3_finds_19 : decode cX3_finds 19 = .ok (.iload_n 1, 1) := dk_27 (dk_at dksX3_finds_0 19 rfl rfl)
theorem dX3_finds_20 : decode cX3_finds 20 = .ok (.iload 4, 2) := dk_21 4 (dk_at dksX3_finds_0 20 rfl rfl)
theorem dX3_finds_22 : decode cX3_finds 22 = .ok (.invokevirtual 111, 3) := dk_182 0 111 (dk_at dksX3_finds_1 0 rfl rfl)
theorem dX3_finds_25 : decode cX3_finds 25 = .ok (.istore 5, 2) := dk_54 5 (dk_at dksX3_finds_1 3 rfl rfl)
theorem dX3_finds_27 : decode cX3_finds 27 = .ok (.iload 5, 2) := dk_21 5 (dk_at dksX3_finds_1 5 rfl rfl)
theorem dX3_finds_29 : decode cX3_finds 29 = .ok (.iconst (-1), 1) := dk_2 (dk_at dksX3_finds_1 7 rfl rfl)
theorem dX3_finds_30 : decode cX3_finds 30 = .ok (.if_icmp .ne 49, 3) := dk_160 0 49 (dk_at dksX3_finds_1 8 rfl rfl)
theorem dX3_finds_33 : decode cX3_finds 33 = .ok (.aload_n 0, 1) := dk_42 (dk_at dksX3_finds_1 11 rfl rfl)
theorem dX3_finds_34 : decode cX3_finds 34 = .ok (.getfield 20, 3) := dk_180 0 20 (dk_at dksX3_finds_1 12 rfl rfl)
theorem dX3_finds_37 : decode cX3_finds 37 = .ok (.aload_n 0, 1) := dk_42 (dk_at dksX3_finds_1 15 rfl rfl)
theorem dX3_finds_38 : decode cX3_finds 38 = .ok (.getfield 23, 3) := dk_180 0 23 (dk_at dksX3_finds_1 16 rfl rfl)
theorem dX3_finds_41 : decode cX3_finds 41 = .ok (.iload_n 1, 1) := dk_27 (dk_at dksX3_finds_1 19 rfl rfl)
theorem dX3_finds_42 : decode cX3_finds 42 = .ok (.iaload, 1) := dk_46 (dk_at dksX3_finds_1 20 rfl rfl)
theorem dX3_finds_43 : decode cX3_finds 43 = .ok (.iload 4, 2) := dk_21 4 (dk_at dksX3_finds_1 21 rfl rfl)
theorem dX3_finds_45 : decode cX3_finds 45 = .ok (.iastore, 1) := dk_79 (dk_at dksX3_finds_1 23 rfl rfl)
theorem dX3_finds_46 : decode cX3_finds 46 = .ok (.aload_n 0, 1) := dk_42 (dk_at dksX3_finds_2 0 rfl rfl)
theorem dX3_finds_47 : decode cX3_finds 47 = .ok (.iload_n 1, 1) := dk_27 (dk_at dksX3_finds_2 1 rfl rfl)
theorem dX3_finds_48 : decode cX3_finds 48 = .ok (.iload_n 2, 1) := dk_28 (dk_at dksX3_finds_2 2 rfl rfl)
theorem dX3_finds_49 : decode cX3_finds 49 = .ok (.iconst 1, 1) := dk_4 (dk_at dksX3_finds_2 3 rfl rfl)
theorem dX3_finds_50 : decode cX3_finds 50 = .ok (.aload_n 0, 1) := dk_42 (dk_at dksX3_finds_2 4 rfl rfl)
theorem dX3_finds_51 : decode cX3_finds 51 = .ok (.getfield 23, 3) := dk_180 0 23 (dk_at dksX3_finds_2 5 rfl rfl)
theorem dX3_finds_54 : decode cX3_finds 54 = .ok (.iload_n 1, 1) := dk_27 (dk_at dksX3_finds_2 8 rfl rfl)
theorem dX3_finds_55 : decode cX3_finds 55 = .ok (.iaload, 1) := dk_46 (dk_at dksX3_finds_2 9 rfl rfl)
theorem dX3_finds_56 : decode cX3_finds 56 = .ok (.ishl, 1) := dk_120 (dk_at dksX3_finds_2 10 rfl rfl)
theorem dX3_finds_57 : decode cX3_finds 57 = .ok (.ior, 1) := dk_128 (dk_at dksX3_finds_2 11 rfl rfl)
theorem dX3_finds_58 : decode cX3_finds 58 = .ok (.invokevirtual 114, 3) := dk_182 0 114 (dk_at dksX3_finds_2 12 rfl rfl)
theorem dX3_finds_61 : decode cX3_finds 61 = .ok (.aload_n 0, 1) := dk_42 (dk_at dksX3_finds_2 15 rfl rfl)
theorem dX3_finds_62 : decode cX3_finds 62 = .ok (.iload_n 1, 1) := dk_27 (dk_at dksX3_finds_2 16 rfl rfl)
theorem dX3_finds_63 : decode cX3_finds 63 = .ok (.aload_n 0, 1) := dk_42 (dk_at dksX3_finds_2 17 rfl rfl)
theorem dX3_finds_64 : decode cX3_finds 64 = .ok (.iload_n 1, 1) := dk_27 (dk_at dksX3_finds_2 18 rfl rfl)
theorem dX3_finds_65 : decode cX3_finds 65 = .ok (.invokevirtual 117, 3) := dk_182 0 117 (dk_at dksX3_finds_2 19 rfl rfl)
theorem dX3_finds_68 : decode cX3_finds 68 = .ok (.iload 4, 2) := dk_21 4 (dk_at dksX3_finds_2 22 rfl rfl)
theorem dX3_finds_70 : decode cX3_finds 70 = .ok (.iconst 1, 1) := dk_4 (dk_at dksX3_finds_3 0 rfl rfl)
theorem dX3_finds_71 : decode cX3_finds 71 = .ok (.iadd, 1) := dk_96 (dk_at dksX3_finds_3 1 rfl rfl)
theorem dX3_finds_72 : decode cX3_finds 72 = .ok (.invokevirtual 120, 3) := dk_182 0 120 (dk_at dksX3_finds_3 2 rfl rfl)
theorem dX3_finds_75 : decode cX3_finds 75 = .ok (.istore_n 3, 1) := dk_62 (dk_at dksX3_finds_3 5 rfl rfl)
theorem dX3_finds_76 : decode cX3_finds 76 = .ok (.goto 13, 3) := dk_167 0 13 (dk_at dksX3_finds_3 6 rfl rfl)
theorem dX3_finds_79 : decode cX3_finds 79 = .ok (.aload_n 0, 1) := dk_42 (dk_at dksX3_finds_3 9 rfl rfl)
theorem dX3_finds_80 : decode cX3_finds 80 = .ok (.iload_n 1, 1) := dk_27 (dk_at dksX3_finds_3 10 rfl rfl)
theorem dX3_finds_81 : decode cX3_finds 81 = .ok (.iload 5, 2) := dk_21 5 (dk_at dksX3_finds_3 11 rfl rfl)
theorem dX3_finds_83 : decode cX3_finds 83 = .ok (.iload 4, 2) := dk_21 4 (dk_at dksX3_finds_3 13 rfl rfl)
theorem dX3_finds_85 : decode cX3_finds 85 = .ok (.invokevirtual 120, 3) := dk_182 0 120 (dk_at dksX3_finds_3 15 rfl rfl)
theorem dX3_finds_88 : decode cX3_finds 88 = .ok (.istore_n 3, 1) := dk_62 (dk_at dksX3_finds_3 18 rfl rfl)
theorem dX3_finds_89 : decode cX3_finds 89 = .ok (.goto (-82), 3) := dk_167 255 174 (dk_at dksX3_finds_3 19 rfl rfl)
theorem dX3_finds_92 : decode cX3_finds 92 = .ok (.return_, 1) := dk_177 (dk_at dksX3_finds_3 22 rfl rfl)
abbrev cX3_stands : ByteArray := prog_2_method_6_code
def yX3_stands : MethodName := ⟨RX3, "stands", "(II)Z"⟩
def dkwX3_stands_4 : List UInt8 := [158, 0, 7, 4, 167, 0, 4, 3, 62, 132, 4, 1, 167, 255, 154, 29, 172]
abbrev dktX3_stands_4 : List UInt8 := dkwX3_stands_4 ++ []
def dkwX3_stands_3 : List UInt8 := [42, 180, 0, 39, 27, 50, 21, 4, 3, 79, 29, 153, 0, 19, 42, 180, 0, 36, 27, 50, 21, 4, 46]
abbrev dktX3_stands_3 : List UInt8 := dkwX3_stands_3 ++ dktX3_stands_4
def dkwX3_stands_2 : List UInt8 := [42, 180, 0, 23, 27, 46, 42, 180, 0, 20, 28, 42, 180, 0, 31, 27, 50, 21, 4, 50, 182, 0, 93, 79]
abbrev dktX3_stands_2 : List UInt8 := dkwX3_stands_2 ++ dktX3_stands_3
def dkwX3_stands_1 : List UInt8 := [154, 0, 6, 167, 0, 77, 42, 180, 0, 36, 27, 50, 21, 4, 42, 180, 0, 45, 180, 0, 80, 21, 4, 50]
abbrev dktX3_stands_1 : List UInt8 := dkwX3_stands_1 ++ dktX3_stands_2
def dkwX3_stands_0 : List UInt8 := [4, 62, 3, 54, 4, 21, 4, 42, 180, 0, 3, 180, 0, 89, 162, 0, 96, 42, 27, 21, 4, 182, 0, 90]
abbrev dktX3_stands_0 : List UInt8 := dkwX3_stands_0 ++ dktX3_stands_1
theorem dksX3_stands_0 : cX3_stands.data.toList.drop 0 = dktX3_stands_0 := by decide +kernel
theorem dksX3_stands_1 : cX3_stands.data.toList.drop 24 = dktX3_stands_1 := dk_seg dksX3_stands_0 24 rfl rfl
theorem dksX3_stands_2 : cX3_stands.data.toList.drop 48 = dktX3_stands_2 := dk_seg dksX3_stands_1 24 rfl rfl
theorem dksX3_stands_3 : cX3_stands.data.toList.drop 72 = dktX3_stands_3 := dk_seg dksX3_stands_2 24 rfl rfl
theorem dksX3_stands_4 : cX3_stands.data.toList.drop 95 = dktX3_stands_4 := dk_seg dksX3_stands_3 23 rfl rfl
theorem dX3_stands_0 : decode cX3_stands 0 = .ok (.iconst 1, 1) := dk_4 (dk_at dksX3_stands_0 0 rfl rfl)
theorem dX3_stands_1 : decode cX3_stands 1 = .ok (.istore_n 3, 1) := dk_62 (dk_at dksX3_stands_0 1 rfl rfl)
theorem dX3_stands_2 : decode cX3_stands 2 = .ok (.iconst 0, 1) := dk_3 (dk_at dksX3_stands_0 2 rfl rfl)
theorem dX3_stands_3 : decode cX3_stands 3 = .ok (.istore 4, 2) := dk_54 4 (dk_at dksX3_stands_0 3 rfl rfl)
theorem dX3_stands_5 : decode cX3_stands 5 = .ok (.iload 4, 2) := dk_21 4 (dk_at dksX3_stands_0 5 rfl rfl)
theorem dX3_stands_7 : decode cX3_stands 7 = .ok (.aload_n 0, 1) := dk_42 (dk_at dksX3_stands_0 7 rfl rfl)
theorem dX3_stands_8 : decode cX3_stands 8 = .ok (.getfield 3, 3) := dk_180 0 3 (dk_at dksX3_stands_0 8 rfl rfl)
theorem dX3_stands_11 : decode cX3_stands 11 = .ok (.getfield 89, 3) := dk_180 0 89 (dk_at dksX3_stands_0 11 rfl rfl)
theorem dX3_stands_14 : decode cX3_stands 14 = .ok (.if_icmp .ge 96, 3) := dk_162 0 96 (dk_at dksX3_stands_0 14 rfl rfl)
theorem dX3_stands_17 : decode cX3_stands 17 = .ok (.aload_n 0, 1) := dk_42 (dk_at dksX3_stands_0 17 rfl rfl)
theorem dX3_stands_18 : decode cX3_stands 18 = .ok (.iload_n 1, 1) := dk_27 (dk_at dksX3_stands_0 18 rfl rfl)
theorem dX3_stands_19 : decode cX3_stands 19 = .ok (.iload 4, 2) := dk_21 4 (dk_at dksX3_stands_0 19 rfl rfl)
theorem dX3_stands_21 : decode cX3_stands 21 = .ok (.invokevirtual 90, 3) := dk_182 0 90 (dk_at dksX3_stands_0 21 rfl rfl)
theorem dX3_stands_24 : decode cX3_stands 24 = .ok (.ifCond .ne 6, 3) := dk_154 0 6 (dk_at dksX3_stands_1 0 rfl rfl)
theorem dX3_stands_27 : decode cX3_stands 27 = .ok (.goto 77, 3) := dk_167 0 77 (dk_at dksX3_stands_1 3 rfl rfl)
theorem dX3_stands_30 : decode cX3_stands 30 = .ok (.aload_n 0, 1) := dk_42 (dk_at dksX3_stands_1 6 rfl rfl)
theorem dX3_stands_31 : decode cX3_stands 31 = .ok (.getfield 36, 3) := dk_180 0 36 (dk_at dksX3_stands_1 7 rfl rfl)
theorem dX3_stands_34 : decode cX3_stands 34 = .ok (.iload_n 1, 1) := dk_27 (dk_at dksX3_stands_1 10 rfl rfl)
theorem dX3_stands_35 : decode cX3_stands 35 = .ok (.aaload, 1) := dk_50 (dk_at dksX3_stands_1 11 rfl rfl)
theorem dX3_stands_36 : decode cX3_stands 36 = .ok (.iload 4, 2) := dk_21 4 (dk_at dksX3_stands_1 12 rfl rfl)
theorem dX3_stands_38 : decode cX3_stands 38 = .ok (.aload_n 0, 1) := dk_42 (dk_at dksX3_stands_1 14 rfl rfl)
theorem dX3_stands_39 : decode cX3_stands 39 = .ok (.getfield 45, 3) := dk_180 0 45 (dk_at dksX3_stands_1 15 rfl rfl)
theorem dX3_stands_42 : decode cX3_stands 42 = .ok (.getfield 80, 3) := dk_180 0 80 (dk_at dksX3_stands_1 18 rfl rfl)
theorem dX3_stands_45 : decode cX3_stands 45 = .ok (.iload 4, 2) := dk_21 4 (dk_at dksX3_stands_1 21 rfl rfl)
theorem dX3_stands_47 : decode cX3_stands 47 = .ok (.aaload, 1) := dk_50 (dk_at dksX3_stands_1 23 rfl rfl)
theorem dX3_stands_48 : decode cX3_stands 48 = .ok (.aload_n 0, 1) := dk_42 (dk_at dksX3_stands_2 0 rfl rfl)
theorem dX3_stands_49 : decode cX3_stands 49 = .ok (.getfield 23, 3) := dk_180 0 23 (dk_at dksX3_stands_2 1 rfl rfl)
theorem dX3_stands_52 : decode cX3_stands 52 = .ok (.iload_n 1, 1) := dk_27 (dk_at dksX3_stands_2 4 rfl rfl)
theorem dX3_stands_53 : decode cX3_stands 53 = .ok (.iaload, 1) := dk_46 (dk_at dksX3_stands_2 5 rfl rfl)
theorem dX3_stands_54 : decode cX3_stands 54 = .ok (.aload_n 0, 1) := dk_42 (dk_at dksX3_stands_2 6 rfl rfl)
theorem dX3_stands_55 : decode cX3_stands 55 = .ok (.getfield 20, 3) := dk_180 0 20 (dk_at dksX3_stands_2 7 rfl rfl)
theorem dX3_stands_58 : decode cX3_stands 58 = .ok (.iload_n 2, 1) := dk_28 (dk_at dksX3_stands_2 10 rfl rfl)
theorem dX3_stands_59 : decode cX3_stands 59 = .ok (.aload_n 0, 1) := dk_42 (dk_at dksX3_stands_2 11 rfl rfl)
theorem dX3_stands_60 : decode cX3_stands 60 = .ok (.getfield 31, 3) := dk_180 0 31 (dk_at dksX3_stands_2 12 rfl rfl)
theorem dX3_stands_63 : decode cX3_stands 63 = .ok (.iload_n 1, 1) := dk_27 (dk_at dksX3_stands_2 15 rfl rfl)
theorem dX3_stands_64 : decode cX3_stands 64 = .ok (.aaload, 1) := dk_50 (dk_at dksX3_stands_2 16 rfl rfl)
theorem dX3_stands_65 : decode cX3_stands 65 = .ok (.iload 4, 2) := dk_21 4 (dk_at dksX3_stands_2 17 rfl rfl)
theorem dX3_stands_67 : decode cX3_stands 67 = .ok (.aaload, 1) := dk_50 (dk_at dksX3_stands_2 19 rfl rfl)
theorem dX3_stands_68 : decode cX3_stands 68 = .ok (.invokevirtual 93, 3) := dk_182 0 93 (dk_at dksX3_stands_2 20 rfl rfl)
theorem dX3_stands_71 : decode cX3_stands 71 = .ok (.iastore, 1) := dk_79 (dk_at dksX3_stands_2 23 rfl rfl)
theorem dX3_stands_72 : decode cX3_stands 72 = .ok (.aload_n 0, 1) := dk_42 (dk_at dksX3_stands_3 0 rfl rfl)
theorem dX3_stands_73 : decode cX3_stands 73 = .ok (.getfield 39, 3) := dk_180 0 39 (dk_at dksX3_stands_3 1 rfl rfl)
theorem dX3_stands_76 : decode cX3_stands 76 = .ok (.iload_n 1, 1) := dk_27 (dk_at dksX3_stands_3 4 rfl rfl)
theorem dX3_stands_77 : decode cX3_stands 77 = .ok (.aaload, 1) := dk_50 (dk_at dksX3_stands_3 5 rfl rfl)
theorem dX3_stands_78 : decode cX3_stands 78 = .ok (.iload 4, 2) := dk_21 4 (dk_at dksX3_stands_3 6 rfl rfl)
theorem dX3_stands_80 : decode cX3_stands 80 = .ok (.iconst 0, 1) := dk_3 (dk_at dksX3_stands_3 8 rfl rfl)
theorem dX3_stands_81 : decode cX3_stands 81 = .ok (.iastore, 1) := dk_79 (dk_at dksX3_stands_3 9 rfl rfl)
theorem dX3_stands_82 : decode cX3_stands 82 = .ok (.iload_n 3, 1) := dk_29 (dk_at dksX3_stands_3 10 rfl rfl)
theorem dX3_stands_83 : decode cX3_stands 83 = .ok (.ifCond .eq 19, 3) := dk_153 0 19 (dk_at dksX3_stands_3 11 rfl rfl)
theorem dX3_stands_86 : decode cX3_stands 86 = .ok (.aload_n 0, 1) := dk_42 (dk_at dksX3_stands_3 14 rfl rfl)
theorem dX3_stands_87 : decode cX3_stands 87 = .ok (.getfield 36, 3) := dk_180 0 36 (dk_at dksX3_stands_3 15 rfl rfl)
theorem dX3_stands_90 : decode cX3_stands 90 = .ok (.iload_n 1, 1) := dk_27 (dk_at dksX3_stands_3 18 rfl rfl)
theorem dX3_stands_91 : decode cX3_stands 91 = .ok (.aaload, 1) := dk_50 (dk_at dksX3_stands_3 19 rfl rfl)
theorem dX3_stands_92 : decode cX3_stands 92 = .ok (.iload 4, 2) := dk_21 4 (dk_at dksX3_stands_3 20 rfl rfl)
theorem dX3_stands_94 : decode cX3_stands 94 = .ok (.iaload, 1) := dk_46 (dk_at dksX3_stands_3 22 rfl rfl)
theorem dX3_stands_95 : decode cX3_stands 95 = .ok (.ifCond .le 7, 3) := dk_158 0 7 (dk_at dksX3_stands_4 0 rfl rfl)
theorem dX3_stands_98 : decode cX3_stands 98 = .ok (.iconst 1, 1) := dk_4 (dk_at dksX3_stands_4 3 rfl rfl)
theorem dX3_stands_99 : decode cX3_stands 99 = .ok (.goto 4, 3) := dk_167 0 4 (dk_at dksX3_stands_4 4 rfl rfl)
theorem dX3_stands_102 : decode cX3_stands 102 = .ok (.iconst 0, 1) := dk_3 (dk_at dksX3_stands_4 7 rfl rfl)
theorem dX3_stands_103 : decode cX3_stands 103 = .ok (.istore_n 3, 1) := dk_62 (dk_at dksX3_stands_4 8 rfl rfl)
theorem dX3_stands_104 : decode cX3_stands 104 = .ok (.iinc 4 1, 3) := dk_132 4 1 (dk_at dksX3_stands_4 9 rfl rfl)
theorem dX3_stands_107 : decode cX3_stands 107 = .ok (.goto (-102), 3) := dk_167 255 154 (dk_at dksX3_stands_4 12 rfl rfl)
theorem dX3_stands_110 : decode cX3_stands 110 = .ok (.iload_n 3, 1) := dk_29 (dk_at dksX3_stands_4 15 rfl rfl)
theorem dX3_stands_111 : decode cX3_stands 111 = .ok (.ireturn, 1) := dk_172 (dk_at dksX3_stands_4 16 rfl rfl)
abbrev cX3_isHere : ByteArray := prog_2_method_4_code
def yX3_isHere : MethodName := ⟨RX3, "isHere", "(II)Z"⟩
def dkwX3_isHere_1 : List UInt8 := [182, 0, 84, 42, 180, 0, 23, 27, 46, 184, 0, 69, 153, 0, 7, 4, 167, 0, 4, 3, 172]
abbrev dktX3_isHere_1 : List UInt8 := dkwX3_isHere_1 ++ []
def dkwX3_isHere_0 : List UInt8 := [42, 180, 0, 45, 180, 0, 77, 28, 184, 0, 69, 153, 0, 31, 42, 180, 0, 45, 180, 0, 80, 28, 50]
abbrev dktX3_isHere_0 : List UInt8 := dkwX3_isHere_0 ++ dktX3_isHere_1
theorem dksX3_isHere_0 : cX3_isHere.data.toList.drop 0 = dktX3_isHere_0 := by decide +kernel
theorem dksX3_isHere_1 : cX3_isHere.data.toList.drop 23 = dktX3_isHere_1 := dk_seg dksX3_isHere_0 23 rfl rfl
theorem dX3_isHere_0 : decode cX3_isHere 0 = .ok (.aload_n 0, 1) := dk_42 (dk_at dksX3_isHere_0 0 rfl rfl)
theorem dX3_isHere_1 : decode cX3_isHere 1 = .ok (.getfield 45, 3) := dk_180 0 45 (dk_at dksX3_isHere_0 1 rfl rfl)
theorem dX3_isHere_4 : decode cX3_isHere 4 = .ok (.getfield 77, 3) := dk_180 0 77 (dk_at dksX3_isHere_0 4 rfl rfl)
theorem dX3_isHere_7 : decode cX3_isHere 7 = .ok (.iload_n 2, 1) := dk_28 (dk_at dksX3_isHere_0 7 rfl rfl)
theorem dX3_isHere_8 : decode cX3_isHere 8 = .ok (.invokestatic 69, 3) := dk_184 0 69 (dk_at dksX3_isHere_0 8 rfl rfl)
theorem dX3_isHere_11 : decode cX3_isHere 11 = .ok (.ifCond .eq 31, 3) := dk_153 0 31 (dk_at dksX3_isHere_0 11 rfl rfl)
theorem dX3_isHere_14 : decode cX3_isHere 14 = .ok (.aload_n 0, 1) := dk_42 (dk_at dksX3_isHere_0 14 rfl rfl)
theorem dX3_isHere_15 : decode cX3_isHere 15 = .ok (.getfield 45, 3) := dk_180 0 45 (dk_at dksX3_isHere_0 15 rfl rfl)
theorem dX3_isHere_18 : decode cX3_isHere 18 = .ok (.getfield 80, 3) := dk_180 0 80 (dk_at dksX3_isHere_0 18 rfl rfl)
theorem dX3_isHere_21 : decode cX3_isHere 21 = .ok (.iload_n 2, 1) := dk_28 (dk_at dksX3_isHere_0 21 rfl rfl)
theorem dX3_isHere_22 : decode cX3_isHere 22 = .ok (.aaload, 1) := dk_50 (dk_at dksX3_isHere_0 22 rfl rfl)
theorem dX3_isHere_23 : decode cX3_isHere 23 = .ok (.invokevirtual 84, 3) := dk_182 0 84 (dk_at dksX3_isHere_1 0 rfl rfl)
theorem dX3_isHere_26 : decode cX3_isHere 26 = .ok (.aload_n 0, 1) := dk_42 (dk_at dksX3_isHere_1 3 rfl rfl)
theorem dX3_isHere_27 : decode cX3_isHere 27 = .ok (.getfield 23, 3) := dk_180 0 23 (dk_at dksX3_isHere_1 4 rfl rfl)
theorem dX3_isHere_30 : decode cX3_isHere 30 = .ok (.iload_n 1, 1) := dk_27 (dk_at dksX3_isHere_1 7 rfl rfl)
theorem dX3_isHere_31 : decode cX3_isHere 31 = .ok (.iaload, 1) := dk_46 (dk_at dksX3_isHere_1 8 rfl rfl)
theorem dX3_isHere_32 : decode cX3_isHere 32 = .ok (.invokestatic 69, 3) := dk_184 0 69 (dk_at dksX3_isHere_1 9 rfl rfl)
theorem dX3_isHere_35 : decode cX3_isHere 35 = .ok (.ifCond .eq 7, 3) := dk_153 0 7 (dk_at dksX3_isHere_1 12 rfl rfl)
theorem dX3_isHere_38 : decode cX3_isHere 38 = .ok (.iconst 1, 1) := dk_4 (dk_at dksX3_isHere_1 15 rfl rfl)
theorem dX3_isHere_39 : decode cX3_isHere 39 = .ok (.goto 4, 3) := dk_167 0 4 (dk_at dksX3_isHere_1 16 rfl rfl)
theorem dX3_isHere_42 : decode cX3_isHere 42 = .ok (.iconst 0, 1) := dk_3 (dk_at dksX3_isHere_1 19 rfl rfl)
theorem dX3_isHere_43 : decode cX3_isHere 43 = .ok (.ireturn, 1) := dk_172 (dk_at dksX3_isHere_1 20 rfl rfl)
abbrev cX3_greatest : ByteArray := prog_2_method_8_code
def yX3_greatest : MethodName := ⟨RX3, "greatest", "(I)I"⟩
def dkwX3_greatest_1 : List UInt8 := [28, 42, 27, 29, 182, 0, 96, 184, 0, 99, 61, 132, 3, 1, 167, 255, 222, 28, 172]
abbrev dktX3_greatest_1 : List UInt8 := dkwX3_greatest_1 ++ []
def dkwX3_greatest_0 : List UInt8 := [2, 61, 3, 62, 29, 42, 180, 0, 3, 180, 0, 89, 162, 0, 29, 42, 27, 29, 182, 0, 90, 153, 0, 14]
abbrev dktX3_greatest_0 : List UInt8 := dkwX3_greatest_0 ++ dktX3_greatest_1
theorem dksX3_greatest_0 : cX3_greatest.data.toList.drop 0 = dktX3_greatest_0 := by decide +kernel
theorem dksX3_greatest_1 : cX3_greatest.data.toList.drop 24 = dktX3_greatest_1 := dk_seg dksX3_greatest_0 24 rfl rfl
theorem dX3_greatest_0 : decode cX3_greatest 0 = .ok (.iconst (-1), 1) := dk_2 (dk_at dksX3_greatest_0 0 rfl rfl)
theorem dX3_greatest_1 : decode cX3_greatest 1 = .ok (.istore_n 2, 1) := dk_61 (dk_at dksX3_greatest_0 1 rfl rfl)
theorem dX3_greatest_2 : decode cX3_greatest 2 = .ok (.iconst 0, 1) := dk_3 (dk_at dksX3_greatest_0 2 rfl rfl)
theorem dX3_greatest_3 : decode cX3_greatest 3 = .ok (.istore_n 3, 1) := dk_62 (dk_at dksX3_greatest_0 3 rfl rfl)
theorem dX3_greatest_4 : decode cX3_greatest 4 = .ok (.iload_n 3, 1) := dk_29 (dk_at dksX3_greatest_0 4 rfl rfl)
theorem dX3_greatest_5 : decode cX3_greatest 5 = .ok (.aload_n 0, 1) := dk_42 (dk_at dksX3_greatest_0 5 rfl rfl)
theorem dX3_greatest_6 : decode cX3_greatest 6 = .ok (.getfield 3, 3) := dk_180 0 3 (dk_at dksX3_greatest_0 6 rfl rfl)
theorem dX3_greatest_9 : decode cX3_greatest 9 = .ok (.getfield 89, 3) := dk_180 0 89 (dk_at dksX3_greatest_0 9 rfl rfl)
theorem dX3_greatest_12 : decode cX3_greatest 12 = .ok (.if_icmp .ge 29, 3) := dk_162 0 29 (dk_at dksX3_greatest_0 12 rfl rfl)
theorem dX3_greatest_15 : decode cX3_greatest 15 = .ok (.aload_n 0, 1) := dk_42 (dk_at dksX3_greatest_0 15 rfl rfl)
theorem dX3_greatest_16 : decode cX3_greatest 16 = .ok (.iload_n 1, 1) := dk_27 (dk_at dksX3_greatest_0 16 rfl rfl)
theorem dX3_greatest_17 : decode cX3_greatest 17 = .ok (.iload_n 3, 1) := dk_29 (dk_at dksX3_greatest_0 17 rfl rfl)
theorem dX3_greatest_18 : decode cX3_greatest 18 = .ok (.invokevirtual 90, 3) := dk_182 0 90 (dk_at dksX3_greatest_0 18 rfl rfl)
theorem dX3_greatest_21 : decode cX3_greatest 21 = .ok (.ifCond .eq 14, 3) := dk_153 0 14 (dk_at dksX3_greatest_0 21 rfl rfl)
theorem dX3_greatest_24 : decode cX3_greatest 24 = .ok (.iload_n 2, 1) := dk_28 (dk_at dksX3_greatest_1 0 rfl rfl)
theorem dX3_greatest_25 : decode cX3_greatest 25 = .ok (.aload_n 0, 1) := dk_42 (dk_at dksX3_greatest_1 1 rfl rfl)
theorem dX3_greatest_26 : decode cX3_greatest 26 = .ok (.iload_n 1, 1) := dk_27 (dk_at dksX3_greatest_1 2 rfl rfl)
theorem dX3_greatest_27 : decode cX3_greatest 27 = .ok (.iload_n 3, 1) := dk_29 (dk_at dksX3_greatest_1 3 rfl rfl)
theorem dX3_greatest_28 : decode cX3_greatest 28 = .ok (.invokevirtual 96, 3) := dk_182 0 96 (dk_at dksX3_greatest_1 4 rfl rfl)
theorem dX3_greatest_31 : decode cX3_greatest 31 = .ok (.invokestatic 99, 3) := dk_184 0 99 (dk_at dksX3_greatest_1 7 rfl rfl)
theorem dX3_greatest_34 : decode cX3_greatest 34 = .ok (.istore_n 2, 1) := dk_61 (dk_at dksX3_greatest_1 10 rfl rfl)
theorem dX3_greatest_35 : decode cX3_greatest 35 = .ok (.iinc 3 1, 3) := dk_132 3 1 (dk_at dksX3_greatest_1 11 rfl rfl)
theorem dX3_greatest_38 : decode cX3_greatest 38 = .ok (.goto (-34), 3) := dk_167 255 222 (dk_at dksX3_greatest_1 14 rfl rfl)
theorem dX3_greatest_41 : decode cX3_greatest 41 = .ok (.iload_n 2, 1) := dk_28 (dk_at dksX3_greatest_1 17 rfl rfl)
theorem dX3_greatest_42 : decode cX3_greatest 42 = .ok (.ireturn, 1) := dk_172 (dk_at dksX3_greatest_1 18 rfl rfl)
abbrev cX3_keyOf : ByteArray := prog_2_method_5_code
def yX3_keyOf : MethodName := ⟨RX3, "keyOf", "(II)I"⟩
def dkwX3_keyOf_0 : List UInt8 := [42, 180, 0, 31, 27, 50, 28, 50, 42, 180, 0, 39, 27, 50, 28, 46, 46, 172]
abbrev dktX3_keyOf_0 : List UInt8 := dkwX3_keyOf_0 ++ []
theorem dksX3_keyOf_0 : cX3_keyOf.data.toList.drop 0 = dktX3_keyOf_0 := by decide +kernel
theorem dX3_keyOf_0 : decode cX3_keyOf 0 = .ok (.aload_n 0, 1) := dk_42 (dk_at dksX3_keyOf_0 0 rfl rfl)
theorem dX3_keyOf_1 : decode cX3_keyOf 1 = .ok (.getfield 31, 3) := dk_180 0 31 (dk_at dksX3_keyOf_0 1 rfl rfl)
theorem dX3_keyOf_4 : decode cX3_keyOf 4 = .ok (.iload_n 1, 1) := dk_27 (dk_at dksX3_keyOf_0 4 rfl rfl)
theorem dX3_keyOf_5 : decode cX3_keyOf 5 = .ok (.aaload, 1) := dk_50 (dk_at dksX3_keyOf_0 5 rfl rfl)
theorem dX3_keyOf_6 : decode cX3_keyOf 6 = .ok (.iload_n 2, 1) := dk_28 (dk_at dksX3_keyOf_0 6 rfl rfl)
theorem dX3_keyOf_7 : decode cX3_keyOf 7 = .ok (.aaload, 1) := dk_50 (dk_at dksX3_keyOf_0 7 rfl rfl)
theorem dX3_keyOf_8 : decode cX3_keyOf 8 = .ok (.aload_n 0, 1) := dk_42 (dk_at dksX3_keyOf_0 8 rfl rfl)
theorem dX3_keyOf_9 : decode cX3_keyOf 9 = .ok (.getfield 39, 3) := dk_180 0 39 (dk_at dksX3_keyOf_0 9 rfl rfl)
theorem dX3_keyOf_12 : decode cX3_keyOf 12 = .ok (.iload_n 1, 1) := dk_27 (dk_at dksX3_keyOf_0 12 rfl rfl)
theorem dX3_keyOf_13 : decode cX3_keyOf 13 = .ok (.aaload, 1) := dk_50 (dk_at dksX3_keyOf_0 13 rfl rfl)
theorem dX3_keyOf_14 : decode cX3_keyOf 14 = .ok (.iload_n 2, 1) := dk_28 (dk_at dksX3_keyOf_0 14 rfl rfl)
theorem dX3_keyOf_15 : decode cX3_keyOf 15 = .ok (.iaload, 1) := dk_46 (dk_at dksX3_keyOf_0 15 rfl rfl)
theorem dX3_keyOf_16 : decode cX3_keyOf 16 = .ok (.iaload, 1) := dk_46 (dk_at dksX3_keyOf_0 16 rfl rfl)
theorem dX3_keyOf_17 : decode cX3_keyOf 17 = .ok (.ireturn, 1) := dk_172 (dk_at dksX3_keyOf_0 17 rfl rfl)
abbrev cX3_lesser : ByteArray := prog_2_method_7_code
def yX3_lesser : MethodName := ⟨RX3, "lesser", "(II)I"⟩
def dkwX3_lesser_1 : List UInt8 := [29, 182, 0, 96, 28, 162, 0, 5, 29, 172, 132, 3, 1, 167, 255, 221, 2, 172]
abbrev dktX3_lesser_1 : List UInt8 := dkwX3_lesser_1 ++ []
def dkwX3_lesser_0 : List UInt8 := [3, 62, 29, 42, 180, 0, 3, 180, 0, 89, 162, 0, 30, 42, 27, 29, 182, 0, 90, 153, 0, 15, 42, 27]
abbrev dktX3_lesser_0 : List UInt8 := dkwX3_lesser_0 ++ dktX3_lesser_1
theorem dksX3_lesser_0 : cX3_lesser.data.toList.drop 0 = dktX3_lesser_0 := by decide +kernel
theorem dksX3_lesser_1 : cX3_lesser.data.toList.drop 24 = dktX3_lesser_1 := dk_seg dksX3_lesser_0 24 rfl rfl
theorem dX3_lesser_0 : decode cX3_lesser 0 = .ok (.iconst 0, 1) := dk_3 (dk_at dksX3_lesser_0 0 rfl rfl)
theorem dX3_lesser_1 : decode cX3_lesser 1 = .ok (.istore_n 3, 1) := dk_62 (dk_at dksX3_lesser_0 1 rfl rfl)
theorem dX3_lesser_2 : decode cX3_lesser 2 = .ok (.iload_n 3, 1) := dk_29 (dk_at dksX3_lesser_0 2 rfl rfl)
theorem dX3_lesser_3 : decode cX3_lesser 3 = .ok (.aload_n 0, 1) := dk_42 (dk_at dksX3_lesser_0 3 rfl rfl)
theorem dX3_lesser_4 : decode cX3_lesser 4 = .ok (.getfield 3, 3) := dk_180 0 3 (dk_at dksX3_lesser_0 4 rfl rfl)
theorem dX3_lesser_7 : decode cX3_lesser 7 = .ok (.getfield 89, 3) := dk_180 0 89 (dk_at dksX3_lesser_0 7 rfl rfl)
theorem dX3_lesser_10 : decode cX3_lesser 10 = .ok (.if_icmp .ge 30, 3) := dk_162 0 30 (dk_at dksX3_lesser_0 10 rfl rfl)
theorem dX3_lesser_13 : decode cX3_lesser 13 = .ok (.aload_n 0, 1) := dk_42 (dk_at dksX3_lesser_0 13 rfl rfl)
theorem dX3_lesser_14 : decode cX3_lesser 14 = .ok (.iload_n 1, 1) := dk_27 (dk_at dksX3_lesser_0 14 rfl rfl)
theorem dX3_lesser_15 : decode cX3_lesser 15 = .ok (.iload_n 3, 1) := dk_29 (dk_at dksX3_lesser_0 15 rfl rfl)
theorem dX3_lesser_16 : decode cX3_lesser 16 = .ok (.invokevirtual 90, 3) := dk_182 0 90 (dk_at dksX3_lesser_0 16 rfl rfl)
theorem dX3_lesser_19 : decode cX3_lesser 19 = .ok (.ifCond .eq 15, 3) := dk_153 0 15 (dk_at dksX3_lesser_0 19 rfl rfl)
theorem dX3_lesser_22 : decode cX3_lesser 22 = .ok (.aload_n 0, 1) := dk_42 (dk_at dksX3_lesser_0 22 rfl rfl)
theorem dX3_lesser_23 : decode cX3_lesser 23 = .ok (.iload_n 1, 1) := dk_27 (dk_at dksX3_lesser_0 23 rfl rfl)
theorem dX3_lesser_24 : decode cX3_lesser 24 = .ok (.iload_n 3, 1) := dk_29 (dk_at dksX3_lesser_1 0 rfl rfl)
theorem dX3_lesser_25 : decode cX3_lesser 25 = .ok (.invokevirtual 96, 3) := dk_182 0 96 (dk_at dksX3_lesser_1 1 rfl rfl)
theorem dX3_lesser_28 : decode cX3_lesser 28 = .ok (.iload_n 2, 1) := dk_28 (dk_at dksX3_lesser_1 4 rfl rfl)
theorem dX3_lesser_29 : decode cX3_lesser 29 = .ok (.if_icmp .ge 5, 3) := dk_162 0 5 (dk_at dksX3_lesser_1 5 rfl rfl)
theorem dX3_lesser_32 : decode cX3_lesser 32 = .ok (.iload_n 3, 1) := dk_29 (dk_at dksX3_lesser_1 8 rfl rfl)
theorem dX3_lesser_33 : decode cX3_lesser 33 = .ok (.ireturn, 1) := dk_172 (dk_at dksX3_lesser_1 9 rfl rfl)
theorem dX3_lesser_34 : decode cX3_lesser 34 = .ok (.iinc 3 1, 3) := dk_132 3 1 (dk_at dksX3_lesser_1 10 rfl rfl)
theorem dX3_lesser_37 : decode cX3_lesser 37 = .ok (.goto (-35), 3) := dk_167 255 221 (dk_at dksX3_lesser_1 13 rfl rfl)
theorem dX3_lesser_40 : decode cX3_lesser 40 = .ok (.iconst (-1), 1) := dk_2 (dk_at dksX3_lesser_1 16 rfl rfl)
theorem dX3_lesser_41 : decode cX3_lesser 41 = .ok (.ireturn, 1) := dk_172 (dk_at dksX3_lesser_1 17 rfl rfl)
abbrev cX3_begins : ByteArray := prog_2_method_12_code
def yX3_begins : MethodName := ⟨RX3, "begins", "(II)V"⟩
def dkwX3_begins_3 : List UInt8 := [167, 255, 217, 42, 89, 180, 0, 49, 4, 96, 181, 0, 49, 177]
abbrev dktX3_begins_3 : List UInt8 := dkwX3_begins_3 ++ []
def dkwX3_begins_2 : List UInt8 := [29, 96, 28, 29, 184, 0, 69, 153, 0, 12, 42, 180, 0, 20, 29, 46, 167, 0, 4, 2, 79, 132, 3, 1]
abbrev dktX3_begins_2 : List UInt8 := dkwX3_begins_2 ++ dktX3_begins_3
def dkwX3_begins_1 : List UInt8 := [4, 96, 28, 182, 0, 73, 177, 3, 62, 29, 7, 162, 0, 40, 42, 180, 0, 16, 7, 42, 180, 0, 49, 104]
abbrev dktX3_begins_1 : List UInt8 := dkwX3_begins_1 ++ dktX3_begins_2
def dkwX3_begins_0 : List UInt8 := [42, 180, 0, 26, 27, 4, 96, 92, 46, 4, 96, 79, 27, 4, 96, 42, 180, 0, 56, 162, 0, 12, 42, 27]
abbrev dktX3_begins_0 : List UInt8 := dkwX3_begins_0 ++ dktX3_begins_1
theorem dksX3_begins_0 : cX3_begins.data.toList.drop 0 = dktX3_begins_0 := by decide +kernel
theorem dksX3_begins_1 : cX3_begins.data.toList.drop 24 = dktX3_begins_1 := dk_seg dksX3_begins_0 24 rfl rfl
theorem dksX3_begins_2 : cX3_begins.data.toList.drop 48 = dktX3_begins_2 := dk_seg dksX3_begins_1 24 rfl rfl
theorem dksX3_begins_3 : cX3_begins.data.toList.drop 72 = dktX3_begins_3 := dk_seg dksX3_begins_2 24 rfl rfl
theorem dX3_begins_0 : decode cX3_begins 0 = .ok (.aload_n 0, 1) := dk_42 (dk_at dksX3_begins_0 0 rfl rfl)
theorem dX3_begins_1 : decode cX3_begins 1 = .ok (.getfield 26, 3) := dk_180 0 26 (dk_at dksX3_begins_0 1 rfl rfl)
theorem dX3_begins_4 : decode cX3_begins 4 = .ok (.iload_n 1, 1) := dk_27 (dk_at dksX3_begins_0 4 rfl rfl)
theorem dX3_begins_5 : decode cX3_begins 5 = .ok (.iconst 1, 1) := dk_4 (dk_at dksX3_begins_0 5 rfl rfl)
theorem dX3_begins_6 : decode cX3_begins 6 = .ok (.iadd, 1) := dk_96 (dk_at dksX3_begins_0 6 rfl rfl)
theorem dX3_begins_7 : decode cX3_begins 7 = .ok (.dup2, 1) := dk_92 (dk_at dksX3_begins_0 7 rfl rfl)
theorem dX3_begins_8 : decode cX3_begins 8 = .ok (.iaload, 1) := dk_46 (dk_at dksX3_begins_0 8 rfl rfl)
theorem dX3_begins_9 : decode cX3_begins 9 = .ok (.iconst 1, 1) := dk_4 (dk_at dksX3_begins_0 9 rfl rfl)
theorem dX3_begins_10 : decode cX3_begins 10 = .ok (.iadd, 1) := dk_96 (dk_at dksX3_begins_0 10 rfl rfl)
theorem dX3_begins_11 : decode cX3_begins 11 = .ok (.iastore, 1) := dk_79 (dk_at dksX3_begins_0 11 rfl rfl)
theorem dX3_begins_12 : decode cX3_begins 12 = .ok (.iload_n 1, 1) := dk_27 (dk_at dksX3_begins_0 12 rfl rfl)
theorem dX3_begins_13 : decode cX3_begins 13 = .ok (.iconst 1, 1) := dk_4 (dk_at dksX3_begins_0 13 rfl rfl)
theorem dX3_begins_14 : decode cX3_begins 14 = .ok (.iadd, 1) := dk_96 (dk_at dksX3_begins_0 14 rfl rfl)
theorem dX3_begins_15 : decode cX3_begins 15 = .ok (.aload_n 0, 1) := dk_42 (dk_at dksX3_begins_0 15 rfl rfl)
theorem dX3_begins_16 : decode cX3_begins 16 = .ok (.getfield 56, 3) := dk_180 0 56 (dk_at dksX3_begins_0 16 rfl rfl)
theorem dX3_begins_19 : decode cX3_begins 19 = .ok (.if_icmp .ge 12, 3) := dk_162 0 12 (dk_at dksX3_begins_0 19 rfl rfl)
theorem dX3_begins_22 : decode cX3_begins 22 = .ok (.aload_n 0, 1) := dk_42 (dk_at dksX3_begins_0 22 rfl rfl)
theorem dX3_begins_23 : decode cX3_begins 23 = .ok (.iload_n 1, 1) := dk_27 (dk_at dksX3_begins_0 23 rfl rfl)
theorem dX3_begins_24 : decode cX3_begins 24 = .ok (.iconst 1, 1) := dk_4 (dk_at dksX3_begins_1 0 rfl rfl)
theorem dX3_begins_25 : decode cX3_begins 25 = .ok (.iadd, 1) := dk_96 (dk_at dksX3_begins_1 1 rfl rfl)
theorem dX3_begins_26 : decode cX3_begins 26 = .ok (.iload_n 2, 1) := dk_28 (dk_at dksX3_begins_1 2 rfl rfl)
theorem dX3_begins_27 : decode cX3_begins 27 = .ok (.invokevirtual 73, 3) := dk_182 0 73 (dk_at dksX3_begins_1 3 rfl rfl)
theorem dX3_begins_30 : decode cX3_begins 30 = .ok (.return_, 1) := dk_177 (dk_at dksX3_begins_1 6 rfl rfl)
theorem dX3_begins_31 : decode cX3_begins 31 = .ok (.iconst 0, 1) := dk_3 (dk_at dksX3_begins_1 7 rfl rfl)
theorem dX3_begins_32 : decode cX3_begins 32 = .ok (.istore_n 3, 1) := dk_62 (dk_at dksX3_begins_1 8 rfl rfl)
theorem dX3_begins_33 : decode cX3_begins 33 = .ok (.iload_n 3, 1) := dk_29 (dk_at dksX3_begins_1 9 rfl rfl)
theorem dX3_begins_34 : decode cX3_begins 34 = .ok (.iconst 4, 1) := dk_7 (dk_at dksX3_begins_1 10 rfl rfl)
theorem dX3_begins_35 : decode cX3_begins 35 = .ok (.if_icmp .ge 40, 3) := dk_162 0 40 (dk_at dksX3_begins_1 11 rfl rfl)
theorem dX3_begins_38 : decode cX3_begins 38 = .ok (.aload_n 0, 1) := dk_42 (dk_at dksX3_begins_1 14 rfl rfl)
theorem dX3_begins_39 : decode cX3_begins 39 = .ok (.getfield 16, 3) := dk_180 0 16 (dk_at dksX3_begins_1 15 rfl rfl)
theorem dX3_begins_42 : decode cX3_begins 42 = .ok (.iconst 4, 1) := dk_7 (dk_at dksX3_begins_1 18 rfl rfl)
theorem dX3_begins_43 : decode cX3_begins 43 = .ok (.aload_n 0, 1) := dk_42 (dk_at dksX3_begins_1 19 rfl rfl)
theorem dX3_begins_44 : decode cX3_begins 44 = .ok (.getfield 49, 3) := dk_180 0 49 (dk_at dksX3_begins_1 20 rfl rfl)
theorem dX3_begins_47 : decode cX3_begins 47 = .ok (.imul, 1) := dk_104 (dk_at dksX3_begins_1 23 rfl rfl)
theorem dX3_begins_48 : decode cX3_begins 48 = .ok (.iload_n 3, 1) := dk_29 (dk_at dksX3_begins_2 0 rfl rfl)
theorem dX3_begins_49 : decode cX3_begins 49 = .ok (.iadd, 1) := dk_96 (dk_at dksX3_begins_2 1 rfl rfl)
theorem dX3_begins_50 : decode cX3_begins 50 = .ok (.iload_n 2, 1) := dk_28 (dk_at dksX3_begins_2 2 rfl rfl)
theorem dX3_begins_51 : decode cX3_begins 51 = .ok (.iload_n 3, 1) := dk_29 (dk_at dksX3_begins_2 3 rfl rfl)
theorem dX3_begins_52 : decode cX3_begins 52 = .ok (.invokestatic 69, 3) := dk_184 0 69 (dk_at dksX3_begins_2 4 rfl rfl)
theorem dX3_begins_55 : decode cX3_begins 55 = .ok (.ifCond .eq 12, 3) := dk_153 0 12 (dk_at dksX3_begins_2 7 rfl rfl)
theorem dX3_begins_58 : decode cX3_begins 58 = .ok (.aload_n 0, 1) := dk_42 (dk_at dksX3_begins_2 10 rfl rfl)
theorem dX3_begins_59 : decode cX3_begins 59 = .ok (.getfield 20, 3) := dk_180 0 20 (dk_at dksX3_begins_2 11 rfl rfl)
theorem dX3_begins_62 : decode cX3_begins 62 = .ok (.iload_n 3, 1) := dk_29 (dk_at dksX3_begins_2 14 rfl rfl)
theorem dX3_begins_63 : decode cX3_begins 63 = .ok (.iaload, 1) := dk_46 (dk_at dksX3_begins_2 15 rfl rfl)
theorem dX3_begins_64 : decode cX3_begins 64 = .ok (.goto 4, 3) := dk_167 0 4 (dk_at dksX3_begins_2 16 rfl rfl)
theorem dX3_begins_67 : decode cX3_begins 67 = .ok (.iconst (-1), 1) := dk_2 (dk_at dksX3_begins_2 19 rfl rfl)
theorem dX3_begins_68 : decode cX3_begins 68 = .ok (.iastore, 1) := dk_79 (dk_at dksX3_begins_2 20 rfl rfl)
theorem dX3_begins_69 : decode cX3_begins 69 = .ok (.iinc 3 1, 3) := dk_132 3 1 (dk_at dksX3_begins_2 21 rfl rfl)
theorem dX3_begins_72 : decode cX3_begins 72 = .ok (.goto (-39), 3) := dk_167 255 217 (dk_at dksX3_begins_3 0 rfl rfl)
theorem dX3_begins_75 : decode cX3_begins 75 = .ok (.aload_n 0, 1) := dk_42 (dk_at dksX3_begins_3 3 rfl rfl)
theorem dX3_begins_76 : decode cX3_begins 76 = .ok (.dup, 1) := dk_89 (dk_at dksX3_begins_3 4 rfl rfl)
theorem dX3_begins_77 : decode cX3_begins 77 = .ok (.getfield 49, 3) := dk_180 0 49 (dk_at dksX3_begins_3 5 rfl rfl)
theorem dX3_begins_80 : decode cX3_begins 80 = .ok (.iconst 1, 1) := dk_4 (dk_at dksX3_begins_3 8 rfl rfl)
theorem dX3_begins_81 : decode cX3_begins 81 = .ok (.iadd, 1) := dk_96 (dk_at dksX3_begins_3 9 rfl rfl)
theorem dX3_begins_82 : decode cX3_begins 82 = .ok (.putfield 49, 3) := dk_181 0 49 (dk_at dksX3_begins_3 10 rfl rfl)
theorem dX3_begins_85 : decode cX3_begins 85 = .ok (.return_, 1) := dk_177 (dk_at dksX3_begins_3 13 rfl rfl)
abbrev cX3_first : ByteArray := prog_2_method_9_code
def yX3_first : MethodName := ⟨RX3, "first", "(I)I"⟩
def dkwX3_first_0 : List UInt8 := [3, 61, 42, 27, 28, 182, 0, 90, 154, 0, 9, 132, 2, 1, 167, 255, 244, 28, 172]
abbrev dktX3_first_0 : List UInt8 := dkwX3_first_0 ++ []
theorem dksX3_first_0 : cX3_first.data.toList.drop 0 = dktX3_first_0 := by decide +kernel
theorem dX3_first_0 : decode cX3_first 0 = .ok (.iconst 0, 1) := dk_3 (dk_at dksX3_first_0 0 rfl rfl)
theorem dX3_first_1 : decode cX3_first 1 = .ok (.istore_n 2, 1) := dk_61 (dk_at dksX3_first_0 1 rfl rfl)
theorem dX3_first_2 : decode cX3_first 2 = .ok (.aload_n 0, 1) := dk_42 (dk_at dksX3_first_0 2 rfl rfl)
theorem dX3_first_3 : decode cX3_first 3 = .ok (.iload_n 1, 1) := dk_27 (dk_at dksX3_first_0 3 rfl rfl)
theorem dX3_first_4 : decode cX3_first 4 = .ok (.iload_n 2, 1) := dk_28 (dk_at dksX3_first_0 4 rfl rfl)
theorem dX3_first_5 : decode cX3_first 5 = .ok (.invokevirtual 90, 3) := dk_182 0 90 (dk_at dksX3_first_0 5 rfl rfl)
theorem dX3_first_8 : decode cX3_first 8 = .ok (.ifCond .ne 9, 3) := dk_154 0 9 (dk_at dksX3_first_0 8 rfl rfl)
theorem dX3_first_11 : decode cX3_first 11 = .ok (.iinc 2 1, 3) := dk_132 2 1 (dk_at dksX3_first_0 11 rfl rfl)
theorem dX3_first_14 : decode cX3_first 14 = .ok (.goto (-12), 3) := dk_167 255 244 (dk_at dksX3_first_0 14 rfl rfl)
theorem dX3_first_17 : decode cX3_first 17 = .ok (.iload_n 2, 1) := dk_28 (dk_at dksX3_first_0 17 rfl rfl)
theorem dX3_first_18 : decode cX3_first 18 = .ok (.ireturn, 1) := dk_172 (dk_at dksX3_first_0 18 rfl rfl)
abbrev cX3_leaps : ByteArray := prog_2_method_10_code
def yX3_leaps : MethodName := ⟨RX3, "leaps", "(III)Z"⟩
def dkwX3_leaps_3 : List UInt8 := [162, 0, 7, 4, 167, 0, 4, 3, 172]
abbrev dktX3_leaps_3 : List UInt8 := dkwX3_leaps_3 ++ []
def dkwX3_leaps_2 : List UInt8 := [4, 96, 79, 167, 255, 215, 42, 180, 0, 39, 27, 50, 28, 46, 42, 180, 0, 36, 27, 50, 28, 46]
abbrev dktX3_leaps_2 : List UInt8 := dkwX3_leaps_2 ++ dktX3_leaps_3
def dkwX3_leaps_1 : List UInt8 := [28, 46, 162, 0, 28, 42, 27, 28, 182, 0, 96, 29, 162, 0, 18, 42, 180, 0, 39, 27, 50, 28, 92, 46]
abbrev dktX3_leaps_1 : List UInt8 := dkwX3_leaps_1 ++ dktX3_leaps_2
def dkwX3_leaps_0 : List UInt8 := [42, 89, 180, 0, 53, 4, 96, 181, 0, 53, 42, 180, 0, 39, 27, 50, 28, 46, 42, 180, 0, 36, 27, 50]
abbrev dktX3_leaps_0 : List UInt8 := dkwX3_leaps_0 ++ dktX3_leaps_1
theorem dksX3_leaps_0 : cX3_leaps.data.toList.drop 0 = dktX3_leaps_0 := by decide +kernel
theorem dksX3_leaps_1 : cX3_leaps.data.toList.drop 24 = dktX3_leaps_1 := dk_seg dksX3_leaps_0 24 rfl rfl
theorem dksX3_leaps_2 : cX3_leaps.data.toList.drop 48 = dktX3_leaps_2 := dk_seg dksX3_leaps_1 24 rfl rfl
theorem dksX3_leaps_3 : cX3_leaps.data.toList.drop 70 = dktX3_leaps_3 := dk_seg dksX3_leaps_2 22 rfl rfl
theorem dX3_leaps_0 : decode cX3_leaps 0 = .ok (.aload_n 0, 1) := dk_42 (dk_at dksX3_leaps_0 0 rfl rfl)
theorem dX3_leaps_1 : decode cX3_leaps 1 = .ok (.dup, 1) := dk_89 (dk_at dksX3_leaps_0 1 rfl rfl)
theorem dX3_leaps_2 : decode cX3_leaps 2 = .ok (.getfield 53, 3) := dk_180 0 53 (dk_at dksX3_leaps_0 2 rfl rfl)
theorem dX3_leaps_5 : decode cX3_leaps 5 = .ok (.iconst 1, 1) := dk_4 (dk_at dksX3_leaps_0 5 rfl rfl)
theorem dX3_leaps_6 : decode cX3_leaps 6 = .ok (.iadd, 1) := dk_96 (dk_at dksX3_leaps_0 6 rfl rfl)
theorem dX3_leaps_7 : decode cX3_leaps 7 = .ok (.putfield 53, 3) := dk_181 0 53 (dk_at dksX3_leaps_0 7 rfl rfl)
theorem dX3_leaps_10 : decode cX3_leaps 10 = .ok (.aload_n 0, 1) := dk_42 (dk_at dksX3_leaps_0 10 rfl rfl)
theorem dX3_leaps_11 : decode cX3_leaps 11 = .ok (.getfield 39, 3) := dk_180 0 39 (dk_at dksX3_leaps_0 11 rfl rfl)
theorem dX3_leaps_14 : decode cX3_leaps 14 = .ok (.iload_n 1, 1) := dk_27 (dk_at dksX3_leaps_0 14 rfl rfl)
theorem dX3_leaps_15 : decode cX3_leaps 15 = .ok (.aaload, 1) := dk_50 (dk_at dksX3_leaps_0 15 rfl rfl)
theorem dX3_leaps_16 : decode cX3_leaps 16 = .ok (.iload_n 2, 1) := dk_28 (dk_at dksX3_leaps_0 16 rfl rfl)
theorem dX3_leaps_17 : decode cX3_leaps 17 = .ok (.iaload, 1) := dk_46 (dk_at dksX3_leaps_0 17 rfl rfl)
theorem dX3_leaps_18 : decode cX3_leaps 18 = .ok (.aload_n 0, 1) := dk_42 (dk_at dksX3_leaps_0 18 rfl rfl)
theorem dX3_leaps_19 : decode cX3_leaps 19 = .ok (.getfield 36, 3) := dk_180 0 36 (dk_at dksX3_leaps_0 19 rfl rfl)
theorem dX3_leaps_22 : decode cX3_leaps 22 = .ok (.iload_n 1, 1) := dk_27 (dk_at dksX3_leaps_0 22 rfl rfl)
theorem dX3_leaps_23 : decode cX3_leaps 23 = .ok (.aaload, 1) := dk_50 (dk_at dksX3_leaps_0 23 rfl rfl)
theorem dX3_leaps_24 : decode cX3_leaps 24 = .ok (.iload_n 2, 1) := dk_28 (dk_at dksX3_leaps_1 0 rfl rfl)
theorem dX3_leaps_25 : decode cX3_leaps 25 = .ok (.iaload, 1) := dk_46 (dk_at dksX3_leaps_1 1 rfl rfl)
theorem dX3_leaps_26 : decode cX3_leaps 26 = .ok (.if_icmp .ge 28, 3) := dk_162 0 28 (dk_at dksX3_leaps_1 2 rfl rfl)
theorem dX3_leaps_29 : decode cX3_leaps 29 = .ok (.aload_n 0, 1) := dk_42 (dk_at dksX3_leaps_1 5 rfl rfl)
theorem dX3_leaps_30 : decode cX3_leaps 30 = .ok (.iload_n 1, 1) := dk_27 (dk_at dksX3_leaps_1 6 rfl rfl)
theorem dX3_leaps_31 : decode cX3_leaps 31 = .ok (.iload_n 2, 1) := dk_28 (dk_at dksX3_leaps_1 7 rfl rfl)
theorem dX3_leaps_32 : decode cX3_leaps 32 = .ok (.invokevirtual 96, 3) := dk_182 0 96 (dk_at dksX3_leaps_1 8 rfl rfl)
theorem dX3_leaps_35 : decode cX3_leaps 35 = .ok (.iload_n 3, 1) := dk_29 (dk_at dksX3_leaps_1 11 rfl rfl)
theorem dX3_leaps_36 : decode cX3_leaps 36 = .ok (.if_icmp .ge 18, 3) := dk_162 0 18 (dk_at dksX3_leaps_1 12 rfl rfl)
theorem dX3_leaps_39 : decode cX3_leaps 39 = .ok (.aload_n 0, 1) := dk_42 (dk_at dksX3_leaps_1 15 rfl rfl)
theorem dX3_leaps_40 : decode cX3_leaps 40 = .ok (.getfield 39, 3) := dk_180 0 39 (dk_at dksX3_leaps_1 16 rfl rfl)
theorem dX3_leaps_43 : decode cX3_leaps 43 = .ok (.iload_n 1, 1) := dk_27 (dk_at dksX3_leaps_1 19 rfl rfl)
theorem dX3_leaps_44 : decode cX3_leaps 44 = .ok (.aaload, 1) := dk_50 (dk_at dksX3_leaps_1 20 rfl rfl)
theorem dX3_leaps_45 : decode cX3_leaps 45 = .ok (.iload_n 2, 1) := dk_28 (dk_at dksX3_leaps_1 21 rfl rfl)
theorem dX3_leaps_46 : decode cX3_leaps 46 = .ok (.dup2, 1) := dk_92 (dk_at dksX3_leaps_1 22 rfl rfl)
theorem dX3_leaps_47 : decode cX3_leaps 47 = .ok (.iaload, 1) := dk_46 (dk_at dksX3_leaps_1 23 rfl rfl)
theorem dX3_leaps_48 : decode cX3_leaps 48 = .ok (.iconst 1, 1) := dk_4 (dk_at dksX3_leaps_2 0 rfl rfl)
theorem dX3_leaps_49 : decode cX3_leaps 49 = .ok (.iadd, 1) := dk_96 (dk_at dksX3_leaps_2 1 rfl rfl)
theorem dX3_leaps_50 : decode cX3_leaps 50 = .ok (.iastore, 1) := dk_79 (dk_at dksX3_leaps_2 2 rfl rfl)
theorem dX3_leaps_51 : decode cX3_leaps 51 = .ok (.goto (-41), 3) := dk_167 255 215 (dk_at dksX3_leaps_2 3 rfl rfl)
theorem dX3_leaps_54 : decode cX3_leaps 54 = .ok (.aload_n 0, 1) := dk_42 (dk_at dksX3_leaps_2 6 rfl rfl)
theorem dX3_leaps_55 : decode cX3_leaps 55 = .ok (.getfield 39, 3) := dk_180 0 39 (dk_at dksX3_leaps_2 7 rfl rfl)
theorem dX3_leaps_58 : decode cX3_leaps 58 = .ok (.iload_n 1, 1) := dk_27 (dk_at dksX3_leaps_2 10 rfl rfl)
theorem dX3_leaps_59 : decode cX3_leaps 59 = .ok (.aaload, 1) := dk_50 (dk_at dksX3_leaps_2 11 rfl rfl)
theorem dX3_leaps_60 : decode cX3_leaps 60 = .ok (.iload_n 2, 1) := dk_28 (dk_at dksX3_leaps_2 12 rfl rfl)
theorem dX3_leaps_61 : decode cX3_leaps 61 = .ok (.iaload, 1) := dk_46 (dk_at dksX3_leaps_2 13 rfl rfl)
theorem dX3_leaps_62 : decode cX3_leaps 62 = .ok (.aload_n 0, 1) := dk_42 (dk_at dksX3_leaps_2 14 rfl rfl)
theorem dX3_leaps_63 : decode cX3_leaps 63 = .ok (.getfield 36, 3) := dk_180 0 36 (dk_at dksX3_leaps_2 15 rfl rfl)
theorem dX3_leaps_66 : decode cX3_leaps 66 = .ok (.iload_n 1, 1) := dk_27 (dk_at dksX3_leaps_2 18 rfl rfl)
theorem dX3_leaps_67 : decode cX3_leaps 67 = .ok (.aaload, 1) := dk_50 (dk_at dksX3_leaps_2 19 rfl rfl)
theorem dX3_leaps_68 : decode cX3_leaps 68 = .ok (.iload_n 2, 1) := dk_28 (dk_at dksX3_leaps_2 20 rfl rfl)
theorem dX3_leaps_69 : decode cX3_leaps 69 = .ok (.iaload, 1) := dk_46 (dk_at dksX3_leaps_2 21 rfl rfl)
theorem dX3_leaps_70 : decode cX3_leaps 70 = .ok (.if_icmp .ge 7, 3) := dk_162 0 7 (dk_at dksX3_leaps_3 0 rfl rfl)
theorem dX3_leaps_73 : decode cX3_leaps 73 = .ok (.iconst 1, 1) := dk_4 (dk_at dksX3_leaps_3 3 rfl rfl)
theorem dX3_leaps_74 : decode cX3_leaps 74 = .ok (.goto 4, 3) := dk_167 0 4 (dk_at dksX3_leaps_3 4 rfl rfl)
theorem dX3_leaps_77 : decode cX3_leaps 77 = .ok (.iconst 0, 1) := dk_3 (dk_at dksX3_leaps_3 7 rfl rfl)
theorem dX3_leaps_78 : decode cX3_leaps 78 = .ok (.ireturn, 1) := dk_172 (dk_at dksX3_leaps_3 8 rfl rfl)
abbrev cX3_at : ByteArray := prog_2_method_13_code
def yX3_at : MethodName := ⟨RX3, "at", "(II)I"⟩
def dkwX3_at_0 : List UInt8 := [42, 180, 0, 16, 7, 27, 104, 28, 96, 46, 172]
abbrev dktX3_at_0 : List UInt8 := dkwX3_at_0 ++ []
theorem dksX3_at_0 : cX3_at.data.toList.drop 0 = dktX3_at_0 := by decide +kernel
theorem dX3_at_0 : decode cX3_at 0 = .ok (.aload_n 0, 1) := dk_42 (dk_at dksX3_at_0 0 rfl rfl)
theorem dX3_at_1 : decode cX3_at 1 = .ok (.getfield 16, 3) := dk_180 0 16 (dk_at dksX3_at_0 1 rfl rfl)
theorem dX3_at_4 : decode cX3_at 4 = .ok (.iconst 4, 1) := dk_7 (dk_at dksX3_at_0 4 rfl rfl)
theorem dX3_at_5 : decode cX3_at 5 = .ok (.iload_n 1, 1) := dk_27 (dk_at dksX3_at_0 5 rfl rfl)
theorem dX3_at_6 : decode cX3_at 6 = .ok (.imul, 1) := dk_104 (dk_at dksX3_at_0 6 rfl rfl)
theorem dX3_at_7 : decode cX3_at 7 = .ok (.iload_n 2, 1) := dk_28 (dk_at dksX3_at_0 7 rfl rfl)
theorem dX3_at_8 : decode cX3_at 8 = .ok (.iadd, 1) := dk_96 (dk_at dksX3_at_0 8 rfl rfl)
theorem dX3_at_9 : decode cX3_at 9 = .ok (.iaload, 1) := dk_46 (dk_at dksX3_at_0 9 rfl rfl)
theorem dX3_at_10 : decode cX3_at 10 = .ok (.ireturn, 1) := dk_172 (dk_at dksX3_at_0 10 rfl rfl)
abbrev cX3_given : ByteArray := prog_2_method_19_code
def yX3_given : MethodName := ⟨RX3, "given", "(LLeapJoin$Table;)I"⟩
def dkwX3_given_1 : List UInt8 := [128, 61, 132, 3, 1, 167, 255, 231, 28, 172]
abbrev dktX3_given_1 : List UInt8 := dkwX3_given_1 ++ []
def dkwX3_given_0 : List UInt8 := [3, 61, 3, 62, 29, 42, 180, 0, 49, 162, 0, 23, 28, 4, 43, 42, 29, 182, 0, 135, 182, 0, 139, 120]
abbrev dktX3_given_0 : List UInt8 := dkwX3_given_0 ++ dktX3_given_1
theorem dksX3_given_0 : cX3_given.data.toList.drop 0 = dktX3_given_0 := by decide +kernel
theorem dksX3_given_1 : cX3_given.data.toList.drop 24 = dktX3_given_1 := dk_seg dksX3_given_0 24 rfl rfl
theorem dX3_given_0 : decode cX3_given 0 = .ok (.iconst 0, 1) := dk_3 (dk_at dksX3_given_0 0 rfl rfl)
theorem dX3_given_1 : decode cX3_given 1 = .ok (.istore_n 2, 1) := dk_61 (dk_at dksX3_given_0 1 rfl rfl)
theorem dX3_given_2 : decode cX3_given 2 = .ok (.iconst 0, 1) := dk_3 (dk_at dksX3_given_0 2 rfl rfl)
theorem dX3_given_3 : decode cX3_given 3 = .ok (.istore_n 3, 1) := dk_62 (dk_at dksX3_given_0 3 rfl rfl)
theorem dX3_given_4 : decode cX3_given 4 = .ok (.iload_n 3, 1) := dk_29 (dk_at dksX3_given_0 4 rfl rfl)
theorem dX3_given_5 : decode cX3_given 5 = .ok (.aload_n 0, 1) := dk_42 (dk_at dksX3_given_0 5 rfl rfl)
theorem dX3_given_6 : decode cX3_given 6 = .ok (.getfield 49, 3) := dk_180 0 49 (dk_at dksX3_given_0 6 rfl rfl)
theorem dX3_given_9 : decode cX3_given 9 = .ok (.if_icmp .ge 23, 3) := dk_162 0 23 (dk_at dksX3_given_0 9 rfl rfl)
theorem dX3_given_12 : decode cX3_given 12 = .ok (.iload_n 2, 1) := dk_28 (dk_at dksX3_given_0 12 rfl rfl)
theorem dX3_given_13 : decode cX3_given 13 = .ok (.iconst 1, 1) := dk_4 (dk_at dksX3_given_0 13 rfl rfl)
theorem dX3_given_14 : decode cX3_given 14 = .ok (.aload_n 1, 1) := dk_43 (dk_at dksX3_given_0 14 rfl rfl)
theorem dX3_given_15 : decode cX3_given 15 = .ok (.aload_n 0, 1) := dk_42 (dk_at dksX3_given_0 15 rfl rfl)
theorem dX3_given_16 : decode cX3_given 16 = .ok (.iload_n 3, 1) := dk_29 (dk_at dksX3_given_0 16 rfl rfl)
theorem dX3_given_17 : decode cX3_given 17 = .ok (.invokevirtual 135, 3) := dk_182 0 135 (dk_at dksX3_given_0 17 rfl rfl)
theorem dX3_given_20 : decode cX3_given 20 = .ok (.invokevirtual 139, 3) := dk_182 0 139 (dk_at dksX3_given_0 20 rfl rfl)
theorem dX3_given_23 : decode cX3_given 23 = .ok (.ishl, 1) := dk_120 (dk_at dksX3_given_0 23 rfl rfl)
theorem dX3_given_24 : decode cX3_given 24 = .ok (.ior, 1) := dk_128 (dk_at dksX3_given_1 0 rfl rfl)
theorem dX3_given_25 : decode cX3_given 25 = .ok (.istore_n 2, 1) := dk_61 (dk_at dksX3_given_1 1 rfl rfl)
theorem dX3_given_26 : decode cX3_given 26 = .ok (.iinc 3 1, 3) := dk_132 3 1 (dk_at dksX3_given_1 2 rfl rfl)
theorem dX3_given_29 : decode cX3_given 29 = .ok (.goto (-25), 3) := dk_167 255 231 (dk_at dksX3_given_1 5 rfl rfl)
theorem dX3_given_32 : decode cX3_given 32 = .ok (.iload_n 2, 1) := dk_28 (dk_at dksX3_given_1 8 rfl rfl)
theorem dX3_given_33 : decode cX3_given 33 = .ok (.ireturn, 1) := dk_172 (dk_at dksX3_given_1 9 rfl rfl)
abbrev cX3_row : ByteArray := prog_2_method_14_code
def yX3_row : MethodName := ⟨RX3, "row", "(I)[I"⟩
def dkwX3_row_0 : List UInt8 := [42, 180, 0, 16, 7, 27, 104, 42, 180, 0, 20, 3, 7, 184, 0, 123, 42, 180, 0, 20, 176]
abbrev dktX3_row_0 : List UInt8 := dkwX3_row_0 ++ []
theorem dksX3_row_0 : cX3_row.data.toList.drop 0 = dktX3_row_0 := by decide +kernel
theorem dX3_row_0 : decode cX3_row 0 = .ok (.aload_n 0, 1) := dk_42 (dk_at dksX3_row_0 0 rfl rfl)
theorem dX3_row_1 : decode cX3_row 1 = .ok (.getfield 16, 3) := dk_180 0 16 (dk_at dksX3_row_0 1 rfl rfl)
theorem dX3_row_4 : decode cX3_row 4 = .ok (.iconst 4, 1) := dk_7 (dk_at dksX3_row_0 4 rfl rfl)
theorem dX3_row_5 : decode cX3_row 5 = .ok (.iload_n 1, 1) := dk_27 (dk_at dksX3_row_0 5 rfl rfl)
theorem dX3_row_6 : decode cX3_row 6 = .ok (.imul, 1) := dk_104 (dk_at dksX3_row_0 6 rfl rfl)
theorem dX3_row_7 : decode cX3_row 7 = .ok (.aload_n 0, 1) := dk_42 (dk_at dksX3_row_0 7 rfl rfl)
theorem dX3_row_8 : decode cX3_row 8 = .ok (.getfield 20, 3) := dk_180 0 20 (dk_at dksX3_row_0 8 rfl rfl)
theorem dX3_row_11 : decode cX3_row 11 = .ok (.iconst 0, 1) := dk_3 (dk_at dksX3_row_0 11 rfl rfl)
theorem dX3_row_12 : decode cX3_row 12 = .ok (.iconst 4, 1) := dk_7 (dk_at dksX3_row_0 12 rfl rfl)
theorem dX3_row_13 : decode cX3_row 13 = .ok (.invokestatic 123, 3) := dk_184 0 123 (dk_at dksX3_row_0 13 rfl rfl)
theorem dX3_row_16 : decode cX3_row 16 = .ok (.aload_n 0, 1) := dk_42 (dk_at dksX3_row_0 16 rfl rfl)
theorem dX3_row_17 : decode cX3_row 17 = .ok (.getfield 20, 3) := dk_180 0 20 (dk_at dksX3_row_0 17 rfl rfl)
theorem dX3_row_20 : decode cX3_row 20 = .ok (.areturn, 1) := dk_176 (dk_at dksX3_row_0 20 rfl rfl)
abbrev cX3_tallies : ByteArray := prog_2_method_15_code
def yX3_tallies : MethodName := ⟨RX3, "tallies", "(I)[I"⟩
def dkwX3_tallies_2 : List UInt8 := [132, 2, 1, 167, 255, 230, 42, 180, 0, 42, 176]
abbrev dktX3_tallies_2 : List UInt8 := dkwX3_tallies_2 ++ []
def dkwX3_tallies_1 : List UInt8 := [42, 180, 0, 49, 162, 0, 24, 42, 180, 0, 42, 42, 28, 27, 182, 0, 129, 92, 46, 4, 96, 79]
abbrev dktX3_tallies_1 : List UInt8 := dkwX3_tallies_1 ++ dktX3_tallies_2
def dkwX3_tallies_0 : List UInt8 := [3, 61, 28, 16, 100, 162, 0, 16, 42, 180, 0, 42, 28, 3, 79, 132, 2, 1, 167, 255, 240, 3, 61, 28]
abbrev dktX3_tallies_0 : List UInt8 := dkwX3_tallies_0 ++ dktX3_tallies_1
theorem dksX3_tallies_0 : cX3_tallies.data.toList.drop 0 = dktX3_tallies_0 := by decide +kernel
theorem dksX3_tallies_1 : cX3_tallies.data.toList.drop 24 = dktX3_tallies_1 := dk_seg dksX3_tallies_0 24 rfl rfl
theorem dksX3_tallies_2 : cX3_tallies.data.toList.drop 46 = dktX3_tallies_2 := dk_seg dksX3_tallies_1 22 rfl rfl
theorem dX3_tallies_0 : decode cX3_tallies 0 = .ok (.iconst 0, 1) := dk_3 (dk_at dksX3_tallies_0 0 rfl rfl)
theorem dX3_tallies_1 : decode cX3_tallies 1 = .ok (.istore_n 2, 1) := dk_61 (dk_at dksX3_tallies_0 1 rfl rfl)
theorem dX3_tallies_2 : decode cX3_tallies 2 = .ok (.iload_n 2, 1) := dk_28 (dk_at dksX3_tallies_0 2 rfl rfl)
theorem dX3_tallies_3 : decode cX3_tallies 3 = .ok (.bipush 100, 2) := dk_16 100 (dk_at dksX3_tallies_0 3 rfl rfl)
theorem dX3_tallies_5 : decode cX3_tallies 5 = .ok (.if_icmp .ge 16, 3) := dk_162 0 16 (dk_at dksX3_tallies_0 5 rfl rfl)
theorem dX3_tallies_8 : decode cX3_tallies 8 = .ok (.aload_n 0, 1) := dk_42 (dk_at dksX3_tallies_0 8 rfl rfl)
theorem dX3_tallies_9 : decode cX3_tallies 9 = .ok (.getfield 42, 3) := dk_180 0 42 (dk_at dksX3_tallies_0 9 rfl rfl)
theorem dX3_tallies_12 : decode cX3_tallies 12 = .ok (.iload_n 2, 1) := dk_28 (dk_at dksX3_tallies_0 12 rfl rfl)
theorem dX3_tallies_13 : decode cX3_tallies 13 = .ok (.iconst 0, 1) := dk_3 (dk_at dksX3_tallies_0 13 rfl rfl)
theorem dX3_tallies_14 : decode cX3_tallies 14 = .ok (.iastore, 1) := dk_79 (dk_at dksX3_tallies_0 14 rfl rfl)
theorem dX3_tallies_15 : decode cX3_tallies 15 = .ok (.iinc 2 1, 3) := dk_132 2 1 (dk_at dksX3_tallies_0 15 rfl rfl)
theorem dX3_tallies_18 : decode cX3_tallies 18 = .ok (.goto (-16), 3) := dk_167 255 240 (dk_at dksX3_tallies_0 18 rfl rfl)
theorem dX3_tallies_21 : decode cX3_tallies 21 = .ok (.iconst 0, 1) := dk_3 (dk_at dksX3_tallies_0 21 rfl rfl)
theorem dX3_tallies_22 : decode cX3_tallies 22 = .ok (.istore_n 2, 1) := dk_61 (dk_at dksX3_tallies_0 22 rfl rfl)
theorem dX3_tallies_23 : decode cX3_tallies 23 = .ok (.iload_n 2, 1) := dk_28 (dk_at dksX3_tallies_0 23 rfl rfl)
theorem dX3_tallies_24 : decode cX3_tallies 24 = .ok (.aload_n 0, 1) := dk_42 (dk_at dksX3_tallies_1 0 rfl rfl)
theorem dX3_tallies_25 : decode cX3_tallies 25 = .ok (.getfield 49, 3) := dk_180 0 49 (dk_at dksX3_tallies_1 1 rfl rfl)
theorem dX3_tallies_28 : decode cX3_tallies 28 = .ok (.if_icmp .ge 24, 3) := dk_162 0 24 (dk_at dksX3_tallies_1 4 rfl rfl)
theorem dX3_tallies_31 : decode cX3_tallies 31 = .ok (.aload_n 0, 1) := dk_42 (dk_at dksX3_tallies_1 7 rfl rfl)
theorem dX3_tallies_32 : decode cX3_tallies 32 = .ok (.getfield 42, 3) := dk_180 0 42 (dk_at dksX3_tallies_1 8 rfl rfl)
theorem dX3_tallies_35 : decode cX3_tallies 35 = .ok (.aload_n 0, 1) := dk_42 (dk_at dksX3_tallies_1 11 rfl rfl)
theorem dX3_tallies_36 : decode cX3_tallies 36 = .ok (.iload_n 2, 1) := dk_28 (dk_at dksX3_tallies_1 12 rfl rfl)
theorem dX3_tallies_37 : decode cX3_tallies 37 = .ok (.iload_n 1, 1) := dk_27 (dk_at dksX3_tallies_1 13 rfl rfl)
theorem dX3_tallies_38 : decode cX3_tallies 38 = .ok (.invokevirtual 129, 3) := dk_182 0 129 (dk_at dksX3_tallies_1 14 rfl rfl)
theorem dX3_tallies_41 : decode cX3_tallies 41 = .ok (.dup2, 1) := dk_92 (dk_at dksX3_tallies_1 17 rfl rfl)
theorem dX3_tallies_42 : decode cX3_tallies 42 = .ok (.iaload, 1) := dk_46 (dk_at dksX3_tallies_1 18 rfl rfl)
theorem dX3_tallies_43 : decode cX3_tallies 43 = .ok (.iconst 1, 1) := dk_4 (dk_at dksX3_tallies_1 19 rfl rfl)
theorem dX3_tallies_44 : decode cX3_tallies 44 = .ok (.iadd, 1) := dk_96 (dk_at dksX3_tallies_1 20 rfl rfl)
theorem dX3_tallies_45 : decode cX3_tallies 45 = .ok (.iastore, 1) := dk_79 (dk_at dksX3_tallies_1 21 rfl rfl)
theorem dX3_tallies_46 : decode cX3_tallies 46 = .ok (.iinc 2 1, 3) := dk_132 2 1 (dk_at dksX3_tallies_2 0 rfl rfl)
theorem dX3_tallies_49 : decode cX3_tallies 49 = .ok (.goto (-26), 3) := dk_167 255 230 (dk_at dksX3_tallies_2 3 rfl rfl)
theorem dX3_tallies_52 : decode cX3_tallies 52 = .ok (.aload_n 0, 1) := dk_42 (dk_at dksX3_tallies_2 6 rfl rfl)
theorem dX3_tallies_53 : decode cX3_tallies 53 = .ok (.getfield 42, 3) := dk_180 0 42 (dk_at dksX3_tallies_2 7 rfl rfl)
theorem dX3_tallies_56 : decode cX3_tallies 56 = .ok (.areturn, 1) := dk_176 (dk_at dksX3_tallies_2 10 rfl rfl)
abbrev cX3_against : ByteArray := prog_2_method_18_code
def yX3_against : MethodName := ⟨RX3, "against", "(I[I)I"⟩
def dkwX3_against_2 : List UInt8 := [180, 0, 23, 29, 46, 46, 162, 0, 7, 2, 167, 0, 4, 4, 172, 132, 3, 1, 167, 255, 195, 3, 172]
abbrev dktX3_against_2 : List UInt8 := dkwX3_against_2 ++ []
def dkwX3_against_1 : List UInt8 := [180, 0, 23, 29, 46, 46, 159, 0, 31, 42, 27, 42, 180, 0, 23, 29, 46, 182, 0, 129, 44, 42]
abbrev dktX3_against_1 : List UInt8 := dkwX3_against_1 ++ dktX3_against_2
def dkwX3_against_0 : List UInt8 := [3, 62, 29, 42, 180, 0, 56, 162, 0, 59, 42, 27, 42, 180, 0, 23, 29, 46, 182, 0, 129, 44, 42]
abbrev dktX3_against_0 : List UInt8 := dkwX3_against_0 ++ dktX3_against_1
theorem dksX3_against_0 : cX3_against.data.toList.drop 0 = dktX3_against_0 := by decide +kernel
theorem dksX3_against_1 : cX3_against.data.toList.drop 23 = dktX3_against_1 := dk_seg dksX3_against_0 23 rfl rfl
theorem dksX3_against_2 : cX3_against.data.toList.drop 45 = dktX3_against_2 := dk_seg dksX3_against_1 22 rfl rfl
theorem dX3_against_0 : decode cX3_against 0 = .ok (.iconst 0, 1) := dk_3 (dk_at dksX3_against_0 0 rfl rfl)
theorem dX3_against_1 : decode cX3_against 1 = .ok (.istore_n 3, 1) := dk_62 (dk_at dksX3_against_0 1 rfl rfl)
theorem dX3_against_2 : decode cX3_against 2 = .ok (.iload_n 3, 1) := dk_29 (dk_at dksX3_against_0 2 rfl rfl)
theorem dX3_against_3 : decode cX3_against 3 = .ok (.aload_n 0, 1) := dk_42 (dk_at dksX3_against_0 3 rfl rfl)
theorem dX3_against_4 : decode cX3_against 4 = .ok (.getfield 56, 3) := dk_180 0 56 (dk_at dksX3_against_0 4 rfl rfl)
theorem dX3_against_7 : decode cX3_against 7 = .ok (.if_icmp .ge 59, 3) := dk_162 0 59 (dk_at dksX3_against_0 7 rfl rfl)
theorem dX3_against_10 : decode cX3_against 10 = .ok (.aload_n 0, 1) := dk_42 (dk_at dksX3_against_0 10 rfl rfl)
theorem dX3_against_11 : decode cX3_against 11 = .ok (.iload_n 1, 1) := dk_27 (dk_at dksX3_against_0 11 rfl rfl)
theorem dX3_against_12 : decode cX3_against 12 = .ok (.aload_n 0, 1) := dk_42 (dk_at dksX3_against_0 12 rfl rfl)
theorem dX3_against_13 : decode cX3_against 13 = .ok (.getfield 23, 3) := dk_180 0 23 (dk_at dksX3_against_0 13 rfl rfl)
theorem dX3_against_16 : decode cX3_against 16 = .ok (.iload_n 3, 1) := dk_29 (dk_at dksX3_against_0 16 rfl rfl)
theorem dX3_against_17 : decode cX3_against 17 = .ok (.iaload, 1) := dk_46 (dk_at dksX3_against_0 17 rfl rfl)
theorem dX3_against_18 : decode cX3_against 18 = .ok (.invokevirtual 129, 3) := dk_182 0 129 (dk_at dksX3_against_0 18 rfl rfl)
theorem dX3_against_21 : decode cX3_against 21 = .ok (.aload_n 2, 1) := dk_44 (dk_at dksX3_against_0 21 rfl rfl)
theorem dX3_against_22 : decode cX3_against 22 = .ok (.aload_n 0, 1) := dk_42 (dk_at dksX3_against_0 22 rfl rfl)
theorem dX3_against_23 : decode cX3_against 23 = .ok (.getfield 23, 3) := dk_180 0 23 (dk_at dksX3_against_1 0 rfl rfl)
theorem dX3_against_26 : decode cX3_against 26 = .ok (.iload_n 3, 1) := dk_29 (dk_at dksX3_against_1 3 rfl rfl)
theorem dX3_against_27 : decode cX3_against 27 = .ok (.iaload, 1) := dk_46 (dk_at dksX3_against_1 4 rfl rfl)
theorem dX3_against_28 : decode cX3_against 28 = .ok (.iaload, 1) := dk_46 (dk_at dksX3_against_1 5 rfl rfl)
theorem dX3_against_29 : decode cX3_against 29 = .ok (.if_icmp .eq 31, 3) := dk_159 0 31 (dk_at dksX3_against_1 6 rfl rfl)
theorem dX3_against_32 : decode cX3_against 32 = .ok (.aload_n 0, 1) := dk_42 (dk_at dksX3_against_1 9 rfl rfl)
theorem dX3_against_33 : decode cX3_against 33 = .ok (.iload_n 1, 1) := dk_27 (dk_at dksX3_against_1 10 rfl rfl)
theorem dX3_against_34 : decode cX3_against 34 = .ok (.aload_n 0, 1) := dk_42 (dk_at dksX3_against_1 11 rfl rfl)
theorem dX3_against_35 : decode cX3_against 35 = .ok (.getfield 23, 3) := dk_180 0 23 (dk_at dksX3_against_1 12 rfl rfl)
theorem dX3_against_38 : decode cX3_against 38 = .ok (.iload_n 3, 1) := dk_29 (dk_at dksX3_against_1 15 rfl rfl)
theorem dX3_against_39 : decode cX3_against 39 = .ok (.iaload, 1) := dk_46 (dk_at dksX3_against_1 16 rfl rfl)
theorem dX3_against_40 : decode cX3_against 40 = .ok (.invokevirtual 129, 3) := dk_182 0 129 (dk_at dksX3_against_1 17 rfl rfl)
theorem dX3_against_43 : decode cX3_against 43 = .ok (.aload_n 2, 1) := dk_44 (dk_at dksX3_against_1 20 rfl rfl)
theorem dX3_against_44 : decode cX3_against 44 = .ok (.aload_n 0, 1) := dk_42 (dk_at dksX3_against_1 21 rfl rfl)
theorem dX3_against_45 : decode cX3_against 45 = .ok (.getfield 23, 3) := dk_180 0 23 (dk_at dksX3_against_2 0 rfl rfl)
theorem dX3_against_48 : decode cX3_against 48 = .ok (.iload_n 3, 1) := dk_29 (dk_at dksX3_against_2 3 rfl rfl)
theorem dX3_against_49 : decode cX3_against 49 = .ok (.iaload, 1) := dk_46 (dk_at dksX3_against_2 4 rfl rfl)
theorem dX3_against_50 : decode cX3_against 50 = .ok (.iaload, 1) := dk_46 (dk_at dksX3_against_2 5 rfl rfl)
theorem dX3_against_51 : decode cX3_against 51 = .ok (.if_icmp .ge 7, 3) := dk_162 0 7 (dk_at dksX3_against_2 6 rfl rfl)
theorem dX3_against_54 : decode cX3_against 54 = .ok (.iconst (-1), 1) := dk_2 (dk_at dksX3_against_2 9 rfl rfl)
theorem dX3_against_55 : decode cX3_against 55 = .ok (.goto 4, 3) := dk_167 0 4 (dk_at dksX3_against_2 10 rfl rfl)
theorem dX3_against_58 : decode cX3_against 58 = .ok (.iconst 1, 1) := dk_4 (dk_at dksX3_against_2 13 rfl rfl)
theorem dX3_against_59 : decode cX3_against 59 = .ok (.ireturn, 1) := dk_172 (dk_at dksX3_against_2 14 rfl rfl)
theorem dX3_against_60 : decode cX3_against 60 = .ok (.iinc 3 1, 3) := dk_132 3 1 (dk_at dksX3_against_2 15 rfl rfl)
theorem dX3_against_63 : decode cX3_against 63 = .ok (.goto (-61), 3) := dk_167 255 195 (dk_at dksX3_against_2 18 rfl rfl)
theorem dX3_against_66 : decode cX3_against 66 = .ok (.iconst 0, 1) := dk_3 (dk_at dksX3_against_2 21 rfl rfl)
theorem dX3_against_67 : decode cX3_against 67 = .ok (.ireturn, 1) := dk_172 (dk_at dksX3_against_2 22 rfl rfl)
abbrev cX3_mean : ByteArray := prog_2_method_17_code
def yX3_mean : MethodName := ⟨RX3, "mean", "(I)D"⟩
def dkwX3_mean_0 : List UInt8 := [42, 27, 182, 0, 131, 42, 180, 0, 49, 135, 111, 175]
abbrev dktX3_mean_0 : List UInt8 := dkwX3_mean_0 ++ []
theorem dksX3_mean_0 : cX3_mean.data.toList.drop 0 = dktX3_mean_0 := by decide +kernel
theorem dX3_mean_0 : decode cX3_mean 0 = .ok (.aload_n 0, 1) := dk_42 (dk_at dksX3_mean_0 0 rfl rfl)
theorem dX3_mean_1 : decode cX3_mean 1 = .ok (.iload_n 1, 1) := dk_27 (dk_at dksX3_mean_0 1 rfl rfl)
theorem dX3_mean_2 : decode cX3_mean 2 = .ok (.invokevirtual 131, 3) := dk_182 0 131 (dk_at dksX3_mean_0 2 rfl rfl)
theorem dX3_mean_5 : decode cX3_mean 5 = .ok (.aload_n 0, 1) := dk_42 (dk_at dksX3_mean_0 5 rfl rfl)
theorem dX3_mean_6 : decode cX3_mean 6 = .ok (.getfield 49, 3) := dk_180 0 49 (dk_at dksX3_mean_0 6 rfl rfl)
theorem dX3_mean_9 : decode cX3_mean 9 = .ok (.i2d, 1) := dk_135 (dk_at dksX3_mean_0 9 rfl rfl)
theorem dX3_mean_10 : decode cX3_mean 10 = .ok (.ddiv, 1) := dk_111 (dk_at dksX3_mean_0 10 rfl rfl)
theorem dX3_mean_11 : decode cX3_mean 11 = .ok (.dreturn, 1) := dk_175 (dk_at dksX3_mean_0 11 rfl rfl)
abbrev cX3_sum : ByteArray := prog_2_method_16_code
def yX3_sum : MethodName := ⟨RX3, "sum", "(I)D"⟩
def dkwX3_sum_1 : List UInt8 := [73, 132, 4, 1, 167, 255, 233, 40, 175]
abbrev dktX3_sum_1 : List UInt8 := dkwX3_sum_1 ++ []
def dkwX3_sum_0 : List UInt8 := [14, 73, 3, 54, 4, 21, 4, 42, 180, 0, 49, 162, 0, 20, 40, 42, 21, 4, 27, 182, 0, 129, 135, 99]
abbrev dktX3_sum_0 : List UInt8 := dkwX3_sum_0 ++ dktX3_sum_1
theorem dksX3_sum_0 : cX3_sum.data.toList.drop 0 = dktX3_sum_0 := by decide +kernel
theorem dksX3_sum_1 : cX3_sum.data.toList.drop 24 = dktX3_sum_1 := dk_seg dksX3_sum_0 24 rfl rfl
theorem dX3_sum_0 : decode cX3_sum 0 = .ok (.dconst 0, 1) := dk_14 (dk_at dksX3_sum_0 0 rfl rfl)
theorem dX3_sum_1 : decode cX3_sum 1 = .ok (.dstore_n 2, 1) := dk_73 (dk_at dksX3_sum_0 1 rfl rfl)
theorem dX3_sum_2 : decode cX3_sum 2 = .ok (.iconst 0, 1) := dk_3 (dk_at dksX3_sum_0 2 rfl rfl)
theorem dX3_sum_3 : decode cX3_sum 3 = .ok (.istore 4, 2) := dk_54 4 (dk_at dksX3_sum_0 3 rfl rfl)
theorem dX3_sum_5 : decode cX3_sum 5 = .ok (.iload 4, 2) := dk_21 4 (dk_at dksX3_sum_0 5 rfl rfl)
theorem dX3_sum_7 : decode cX3_sum 7 = .ok (.aload_n 0, 1) := dk_42 (dk_at dksX3_sum_0 7 rfl rfl)
theorem dX3_sum_8 : decode cX3_sum 8 = .ok (.getfield 49, 3) := dk_180 0 49 (dk_at dksX3_sum_0 8 rfl rfl)
theorem dX3_sum_11 : decode cX3_sum 11 = .ok (.if_icmp .ge 20, 3) := dk_162 0 20 (dk_at dksX3_sum_0 11 rfl rfl)
theorem dX3_sum_14 : decode cX3_sum 14 = .ok (.dload_n 2, 1) := dk_40 (dk_at dksX3_sum_0 14 rfl rfl)
theorem dX3_sum_15 : decode cX3_sum 15 = .ok (.aload_n 0, 1) := dk_42 (dk_at dksX3_sum_0 15 rfl rfl)
theorem dX3_sum_16 : decode cX3_sum 16 = .ok (.iload 4, 2) := dk_21 4 (dk_at dksX3_sum_0 16 rfl rfl)
theorem dX3_sum_18 : decode cX3_sum 18 = .ok (.iload_n 1, 1) := dk_27 (dk_at dksX3_sum_0 18 rfl rfl)
theorem dX3_sum_19 : decode cX3_sum 19 = .ok (.invokevirtual 129, 3) := dk_182 0 129 (dk_at dksX3_sum_0 19 rfl rfl)
theorem dX3_sum_22 : decode cX3_sum 22 = .ok (.i2d, 1) := dk_135 (dk_at dksX3_sum_0 22 rfl rfl)
theorem dX3_sum_23 : decode cX3_sum 23 = .ok (.dadd, 1) := dk_99 (dk_at dksX3_sum_0 23 rfl rfl)
theorem dX3_sum_24 : decode cX3_sum 24 = .ok (.dstore_n 2, 1) := dk_73 (dk_at dksX3_sum_1 0 rfl rfl)
theorem dX3_sum_25 : decode cX3_sum 25 = .ok (.iinc 4 1, 3) := dk_132 4 1 (dk_at dksX3_sum_1 1 rfl rfl)
theorem dX3_sum_28 : decode cX3_sum 28 = .ok (.goto (-23), 3) := dk_167 255 233 (dk_at dksX3_sum_1 4 rfl rfl)
theorem dX3_sum_31 : decode cX3_sum 31 = .ok (.dload_n 2, 1) := dk_40 (dk_at dksX3_sum_1 7 rfl rfl)
theorem dX3_sum_32 : decode cX3_sum 32 = .ok (.dreturn, 1) := dk_175 (dk_at dksX3_sum_1 8 rfl rfl)
theorem q124 : (Jvm.Cond.initialized "LeapJoin$Join") ∈ lw_all := lw_g (lw_at lw_m1 3 rfl) rfl
theorem q185 : (Jvm.Cond.fieldLinkNest "LeapJoin$Join" (80 : Nat) "LeapJoin$State" "tables" "[LLeapJoin$Table;" "LeapJoin") ∈ lw_tbl := lw_at lw_m1 64 rfl
theorem q190 : (Jvm.Cond.fieldLinkNest "LeapJoin$Join" (77 : Nat) "LeapJoin$State" "used" "I" "LeapJoin") ∈ lw_tbl := lw_at lw_m1 69 rfl
theorem q217 : (Jvm.Cond.instantiable "LeapJoin$Join" (13 : Nat)) ∈ lw_all := lw_g (lw_at lw_m1 96 rfl) rfl
theorem q219 : (Jvm.Cond.instanceMethod ({ cls := "LeapJoin$Join", name := "<init>", desc := "(LLeapJoin;)V" } : Jvm.MethodName)) ∈ lw_all := lw_g (lw_at lw_m1 98 rfl) rfl
theorem q220 : (Jvm.Cond.code ({ cls := "LeapJoin$Join", name := "<init>", desc := "(LLeapJoin;)V" } : Jvm.MethodName) prog_2_method_1_code (2 : Nat) (Option.none : Option Jvm.ClassFile.FieldType)) ∈ lw_all := lw_g (lw_at lw_m1 99 rfl) rfl
theorem q221 : (Jvm.Cond.methodLink "LeapJoin$Join" (9 : Nat) ({ cls := "java/lang/Object", name := "<init>", desc := "()V" } : Jvm.MethodName)) ∈ lw_all := lw_g (lw_at lw_m1 100 rfl) rfl
theorem q222 : (Jvm.Cond.constant "LeapJoin$Join" (15 : Nat) (82944 : Int32)) ∈ lw_all := lw_g (lw_at lw_m1 101 rfl) rfl
theorem q223 : (Jvm.Cond.classLink "LeapJoin$Join" (29 : Nat) "[[[I") ∈ lw_all := lw_g (lw_at lw_m1 102 rfl) rfl
theorem q226 : (Jvm.Cond.classLink "LeapJoin$Join" (34 : Nat) "[[I") ∈ lw_all := lw_g (lw_at lw_m1 105 rfl) rfl
theorem q227 : (Jvm.Cond.fieldLink "LeapJoin$Join" (16 : Nat) "LeapJoin$Join" "rows" "[I") ∈ lw_all := lw_g (lw_at lw_m1 106 rfl) rfl
theorem q228 : (Jvm.Cond.fieldLink "LeapJoin$Join" (20 : Nat) "LeapJoin$Join" "found" "[I") ∈ lw_all := lw_g (lw_at lw_m1 107 rfl) rfl
theorem q229 : (Jvm.Cond.fieldLink "LeapJoin$Join" (23 : Nat) "LeapJoin$Join" "letters" "[I") ∈ lw_all := lw_g (lw_at lw_m1 108 rfl) rfl
theorem q230 : (Jvm.Cond.fieldLink "LeapJoin$Join" (26 : Nat) "LeapJoin$Join" "begun" "[I") ∈ lw_all := lw_g (lw_at lw_m1 109 rfl) rfl
theorem q232 : (Jvm.Cond.fieldLink "LeapJoin$Join" (31 : Nat) "LeapJoin$Join" "keys" "[[[I") ∈ lw_all := lw_g (lw_at lw_m1 111 rfl) rfl
theorem q233 : (Jvm.Cond.fieldLink "LeapJoin$Join" (36 : Nat) "LeapJoin$Join" "manyOf" "[[I") ∈ lw_all := lw_g (lw_at lw_m1 112 rfl) rfl
theorem q234 : (Jvm.Cond.fieldLink "LeapJoin$Join" (39 : Nat) "LeapJoin$Join" "at" "[[I") ∈ lw_all := lw_g (lw_at lw_m1 113 rfl) rfl
theorem q235 : (Jvm.Cond.fieldLink "LeapJoin$Join" (45 : Nat) "LeapJoin$Join" "state" "LLeapJoin$State;") ∈ lw_all := lw_g (lw_at lw_m1 114 rfl) rfl
theorem q236 : (Jvm.Cond.fieldLink "LeapJoin$Join" (49 : Nat) "LeapJoin$Join" "many" "I") ∈ lw_all := lw_g (lw_at lw_m1 115 rfl) rfl
theorem q238 : (Jvm.Cond.fieldLink "LeapJoin$Join" (53 : Nat) "LeapJoin$Join" "leaps" "I") ∈ lw_all := lw_g (lw_at lw_m1 117 rfl) rfl
theorem q240 : (Jvm.Cond.fieldLink "LeapJoin$Join" (56 : Nat) "LeapJoin$Join" "deep" "I") ∈ lw_all := lw_g (lw_at lw_m1 119 rfl) rfl
theorem q242 : (Jvm.Cond.fieldLink "LeapJoin$Join" (42 : Nat) "LeapJoin$Join" "counts" "[I") ∈ lw_all := lw_g (lw_at lw_m1 121 rfl) rfl
theorem q243 : (Jvm.Cond.fieldLink "LeapJoin$Join" (3 : Nat) "LeapJoin$Join" "this$0" "LLeapJoin;") ∈ lw_all := lw_g (lw_at lw_m1 122 rfl) rfl
theorem q244 : (Jvm.Cond.laysFinal "LeapJoin$Join" "LeapJoin$Join" "rows" "[I") ∈ lw_all := lw_g (lw_at lw_m1 123 rfl) rfl
theorem q245 : (Jvm.Cond.soleField "LeapJoin$Join" "rows") ∈ lw_all := lw_g (lw_at lw_m1 124 rfl) rfl
theorem q246 : (Jvm.Cond.laysFinal "LeapJoin$Join" "LeapJoin$Join" "found" "[I") ∈ lw_all := lw_g (lw_at lw_m1 125 rfl) rfl
theorem q247 : (Jvm.Cond.soleField "LeapJoin$Join" "found") ∈ lw_all := lw_g (lw_at lw_m1 126 rfl) rfl
theorem q248 : (Jvm.Cond.laysFinal "LeapJoin$Join" "LeapJoin$Join" "letters" "[I") ∈ lw_all := lw_g (lw_at lw_m1 127 rfl) rfl
theorem q249 : (Jvm.Cond.soleField "LeapJoin$Join" "letters") ∈ lw_all := lw_g (lw_at lw_m1 128 rfl) rfl
theorem q250 : (Jvm.Cond.laysFinal "LeapJoin$Join" "LeapJoin$Join" "begun" "[I") ∈ lw_all := lw_g (lw_at lw_m1 129 rfl) rfl
theorem q251 : (Jvm.Cond.soleField "LeapJoin$Join" "begun") ∈ lw_all := lw_g (lw_at lw_m1 130 rfl) rfl
theorem q252 : (Jvm.Cond.laysFinal "LeapJoin$Join" "LeapJoin$Join" "keys" "[[[I") ∈ lw_all := lw_g (lw_at lw_m1 131 rfl) rfl
theorem q253 : (Jvm.Cond.soleField "LeapJoin$Join" "keys") ∈ lw_all := lw_g (lw_at lw_m1 132 rfl) rfl
theorem q254 : (Jvm.Cond.laysFinal "LeapJoin$Join" "LeapJoin$Join" "manyOf" "[[I") ∈ lw_all := lw_g (lw_at lw_m1 133 rfl) rfl
theorem q255 : (Jvm.Cond.soleField "LeapJoin$Join" "manyOf") ∈ lw_all := lw_g (lw_at lw_m1 134 rfl) rfl
theorem q256 : (Jvm.Cond.laysFinal "LeapJoin$Join" "LeapJoin$Join" "at" "[[I") ∈ lw_all := lw_g (lw_at lw_m1 135 rfl) rfl
theorem q257 : (Jvm.Cond.soleField "LeapJoin$Join" "at") ∈ lw_all := lw_g (lw_at lw_m1 136 rfl) rfl
theorem q258 : (Jvm.Cond.lays "LeapJoin$Join" "LeapJoin$Join" "state" "LLeapJoin$State;") ∈ lw_all := lw_g (lw_at lw_m1 137 rfl) rfl
theorem q259 : (Jvm.Cond.soleField "LeapJoin$Join" "state") ∈ lw_all := lw_g (lw_at lw_m1 138 rfl) rfl
theorem q260 : (Jvm.Cond.lays "LeapJoin$Join" "LeapJoin$Join" "many" "I") ∈ lw_all := lw_g (lw_at lw_m1 139 rfl) rfl
theorem q261 : (Jvm.Cond.soleField "LeapJoin$Join" "many") ∈ lw_all := lw_g (lw_at lw_m1 140 rfl) rfl
theorem q262 : (Jvm.Cond.lays "LeapJoin$Join" "LeapJoin$Join" "leaps" "I") ∈ lw_all := lw_g (lw_at lw_m1 141 rfl) rfl
theorem q263 : (Jvm.Cond.soleField "LeapJoin$Join" "leaps") ∈ lw_all := lw_g (lw_at lw_m1 142 rfl) rfl
theorem q264 : (Jvm.Cond.lays "LeapJoin$Join" "LeapJoin$Join" "deep" "I") ∈ lw_all := lw_g (lw_at lw_m1 143 rfl) rfl
theorem q265 : (Jvm.Cond.soleField "LeapJoin$Join" "deep") ∈ lw_all := lw_g (lw_at lw_m1 144 rfl) rfl
theorem q266 : (Jvm.Cond.laysFinal "LeapJoin$Join" "LeapJoin$Join" "counts" "[I") ∈ lw_all := lw_g (lw_at lw_m1 145 rfl) rfl
theorem q267 : (Jvm.Cond.soleField "LeapJoin$Join" "counts") ∈ lw_all := lw_g (lw_at lw_m1 146 rfl) rfl
theorem q268 : (Jvm.Cond.laysFinal "LeapJoin$Join" "LeapJoin$Join" "this$0" "LLeapJoin;") ∈ lw_all := lw_g (lw_at lw_m1 147 rfl) rfl
theorem q269 : (Jvm.Cond.soleField "LeapJoin$Join" "this$0") ∈ lw_all := lw_g (lw_at lw_m1 148 rfl) rfl
theorem q270 : (Jvm.Cond.superclass "LeapJoin$Join" "java/lang/Object") ∈ lw_all := lw_g (lw_at lw_m1 149 rfl) rfl
theorem q283 : (Jvm.Cond.fieldLinkNest "LeapJoin$Join" (89 : Nat) "LeapJoin" "many" "I" "LeapJoin") ∈ lw_tbl := lw_at lw_m1 162 rfl
theorem q847 : (Jvm.Cond.instanceMethod ({ cls := "LeapJoin$Join", name := "of", desc := "(LLeapJoin$State;I)LLeapJoin$Join;" } : Jvm.MethodName)) ∈ lw_all := lw_g (lw_at lw_m4 6 rfl) rfl
theorem q848 : (Jvm.Cond.selects "LeapJoin$Join" ({ cls := "LeapJoin$Join", name := "of", desc := "(LLeapJoin$State;I)LLeapJoin$Join;" } : Jvm.MethodName) ({ cls := "LeapJoin$Join", name := "of", desc := "(LLeapJoin$State;I)LLeapJoin$Join;" } : Jvm.MethodName)) ∈ lw_all := lw_g (lw_at lw_m4 7 rfl) rfl
theorem q849 : (Jvm.Cond.code ({ cls := "LeapJoin$Join", name := "of", desc := "(LLeapJoin$State;I)LLeapJoin$Join;" } : Jvm.MethodName) prog_2_method_2_code (9 : Nat) (Option.some (Jvm.ClassFile.FieldType.object "LeapJoin$Join"))) ∈ lw_all := lw_g (lw_at lw_m4 8 rfl) rfl
theorem q850 : (Jvm.Cond.methodLink "LeapJoin$Join" (59 : Nat) ({ cls := "LeapJoin$State", name := "asked", desc := "()I" } : Jvm.MethodName)) ∈ lw_all := lw_g (lw_at lw_m4 9 rfl) rfl
theorem q859 : (Jvm.Cond.methodLink "LeapJoin$Join" (65 : Nat) ({ cls := "LeapJoin$Join", name := "nth", desc := "(II)I" } : Jvm.MethodName)) ∈ lw_all := lw_g (lw_at lw_m4 18 rfl) rfl
theorem q860 : (Jvm.Cond.privateMethod ({ cls := "LeapJoin$Join", name := "nth", desc := "(II)I" } : Jvm.MethodName)) ∈ lw_tbl := lw_at lw_m4 19 rfl
theorem q861 : (Jvm.Cond.instanceMethod ({ cls := "LeapJoin$Join", name := "nth", desc := "(II)I" } : Jvm.MethodName)) ∈ lw_all := lw_g (lw_at lw_m4 20 rfl) rfl
theorem q862 : (Jvm.Cond.code ({ cls := "LeapJoin$Join", name := "nth", desc := "(II)I" } : Jvm.MethodName) prog_2_method_3_code (5 : Nat) (Option.some Jvm.ClassFile.FieldType.int)) ∈ lw_all := lw_g (lw_at lw_m4 21 rfl) rfl
theorem q863 : (Jvm.Cond.methodLinkNest "LeapJoin$Join" (69 : Nat) ({ cls := "LeapJoin", name := "has", desc := "(II)Z" } : Jvm.MethodName) "LeapJoin") ∈ lw_tbl := lw_at lw_m4 22 rfl
theorem q864 : (Jvm.Cond.methodLink "LeapJoin$Join" (73 : Nat) ({ cls := "LeapJoin$Join", name := "finds", desc := "(II)V" } : Jvm.MethodName)) ∈ lw_all := lw_g (lw_at lw_m4 23 rfl) rfl
theorem q865 : (Jvm.Cond.privateMethod ({ cls := "LeapJoin$Join", name := "finds", desc := "(II)V" } : Jvm.MethodName)) ∈ lw_tbl := lw_at lw_m4 24 rfl
theorem q866 : (Jvm.Cond.instanceMethod ({ cls := "LeapJoin$Join", name := "finds", desc := "(II)V" } : Jvm.MethodName)) ∈ lw_all := lw_g (lw_at lw_m4 25 rfl) rfl
theorem q867 : (Jvm.Cond.code ({ cls := "LeapJoin$Join", name := "finds", desc := "(II)V" } : Jvm.MethodName) prog_2_method_11_code (6 : Nat) (Option.none : Option Jvm.ClassFile.FieldType)) ∈ lw_all := lw_g (lw_at lw_m4 26 rfl) rfl
theorem q868 : (Jvm.Cond.methodLink "LeapJoin$Join" (104 : Nat) ({ cls := "LeapJoin$Join", name := "stands", desc := "(II)Z" } : Jvm.MethodName)) ∈ lw_all := lw_g (lw_at lw_m4 27 rfl) rfl
theorem q869 : (Jvm.Cond.privateMethod ({ cls := "LeapJoin$Join", name := "stands", desc := "(II)Z" } : Jvm.MethodName)) ∈ lw_tbl := lw_at lw_m4 28 rfl
theorem q870 : (Jvm.Cond.instanceMethod ({ cls := "LeapJoin$Join", name := "stands", desc := "(II)Z" } : Jvm.MethodName)) ∈ lw_all := lw_g (lw_at lw_m4 29 rfl) rfl
theorem q871 : (Jvm.Cond.code ({ cls := "LeapJoin$Join", name := "stands", desc := "(II)Z" } : Jvm.MethodName) prog_2_method_6_code (5 : Nat) (Option.some Jvm.ClassFile.FieldType.boolean)) ∈ lw_all := lw_g (lw_at lw_m4 30 rfl) rfl
theorem q872 : (Jvm.Cond.methodLink "LeapJoin$Join" (90 : Nat) ({ cls := "LeapJoin$Join", name := "isHere", desc := "(II)Z" } : Jvm.MethodName)) ∈ lw_all := lw_g (lw_at lw_m4 31 rfl) rfl
theorem q873 : (Jvm.Cond.privateMethod ({ cls := "LeapJoin$Join", name := "isHere", desc := "(II)Z" } : Jvm.MethodName)) ∈ lw_tbl := lw_at lw_m4 32 rfl
theorem q874 : (Jvm.Cond.instanceMethod ({ cls := "LeapJoin$Join", name := "isHere", desc := "(II)Z" } : Jvm.MethodName)) ∈ lw_all := lw_g (lw_at lw_m4 33 rfl) rfl
theorem q875 : (Jvm.Cond.code ({ cls := "LeapJoin$Join", name := "isHere", desc := "(II)Z" } : Jvm.MethodName) prog_2_method_4_code (3 : Nat) (Option.some Jvm.ClassFile.FieldType.boolean)) ∈ lw_all := lw_g (lw_at lw_m4 34 rfl) rfl
theorem q876 : (Jvm.Cond.methodLink "LeapJoin$Join" (84 : Nat) ({ cls := "LeapJoin$Table", name := "set", desc := "()I" } : Jvm.MethodName)) ∈ lw_all := lw_g (lw_at lw_m4 35 rfl) rfl
theorem q877 : (Jvm.Cond.methodLink "LeapJoin$Join" (93 : Nat) ({ cls := "LeapJoin$Table", name := "keys", desc := "(I[II[I)I" } : Jvm.MethodName)) ∈ lw_all := lw_g (lw_at lw_m4 36 rfl) rfl
theorem q891 : (Jvm.Cond.methodLink "LeapJoin$Join" (107 : Nat) ({ cls := "LeapJoin$Join", name := "greatest", desc := "(I)I" } : Jvm.MethodName)) ∈ lw_all := lw_g (lw_at lw_m4 50 rfl) rfl
theorem q892 : (Jvm.Cond.privateMethod ({ cls := "LeapJoin$Join", name := "greatest", desc := "(I)I" } : Jvm.MethodName)) ∈ lw_tbl := lw_at lw_m4 51 rfl
theorem q893 : (Jvm.Cond.instanceMethod ({ cls := "LeapJoin$Join", name := "greatest", desc := "(I)I" } : Jvm.MethodName)) ∈ lw_all := lw_g (lw_at lw_m4 52 rfl) rfl
theorem q894 : (Jvm.Cond.code ({ cls := "LeapJoin$Join", name := "greatest", desc := "(I)I" } : Jvm.MethodName) prog_2_method_8_code (4 : Nat) (Option.some Jvm.ClassFile.FieldType.int)) ∈ lw_all := lw_g (lw_at lw_m4 53 rfl) rfl
theorem q895 : (Jvm.Cond.methodLink "LeapJoin$Join" (96 : Nat) ({ cls := "LeapJoin$Join", name := "keyOf", desc := "(II)I" } : Jvm.MethodName)) ∈ lw_all := lw_g (lw_at lw_m4 54 rfl) rfl
theorem q896 : (Jvm.Cond.privateMethod ({ cls := "LeapJoin$Join", name := "keyOf", desc := "(II)I" } : Jvm.MethodName)) ∈ lw_tbl := lw_at lw_m4 55 rfl
theorem q897 : (Jvm.Cond.instanceMethod ({ cls := "LeapJoin$Join", name := "keyOf", desc := "(II)I" } : Jvm.MethodName)) ∈ lw_all := lw_g (lw_at lw_m4 56 rfl) rfl
theorem q898 : (Jvm.Cond.code ({ cls := "LeapJoin$Join", name := "keyOf", desc := "(II)I" } : Jvm.MethodName) prog_2_method_5_code (3 : Nat) (Option.some Jvm.ClassFile.FieldType.int)) ∈ lw_all := lw_g (lw_at lw_m4 57 rfl) rfl
theorem q899 : (Jvm.Cond.methodLink "LeapJoin$Join" (99 : Nat) ({ cls := "java/lang/Math", name := "max", desc := "(II)I" } : Jvm.MethodName)) ∈ lw_all := lw_g (lw_at lw_m4 58 rfl) rfl
theorem q900 : (Jvm.Cond.methodLink "LeapJoin$Join" (111 : Nat) ({ cls := "LeapJoin$Join", name := "lesser", desc := "(II)I" } : Jvm.MethodName)) ∈ lw_all := lw_g (lw_at lw_m4 59 rfl) rfl
theorem q901 : (Jvm.Cond.privateMethod ({ cls := "LeapJoin$Join", name := "lesser", desc := "(II)I" } : Jvm.MethodName)) ∈ lw_tbl := lw_at lw_m4 60 rfl
theorem q902 : (Jvm.Cond.instanceMethod ({ cls := "LeapJoin$Join", name := "lesser", desc := "(II)I" } : Jvm.MethodName)) ∈ lw_all := lw_g (lw_at lw_m4 61 rfl) rfl
theorem q903 : (Jvm.Cond.code ({ cls := "LeapJoin$Join", name := "lesser", desc := "(II)I" } : Jvm.MethodName) prog_2_method_7_code (4 : Nat) (Option.some Jvm.ClassFile.FieldType.int)) ∈ lw_all := lw_g (lw_at lw_m4 62 rfl) rfl
theorem q904 : (Jvm.Cond.methodLink "LeapJoin$Join" (114 : Nat) ({ cls := "LeapJoin$Join", name := "begins", desc := "(II)V" } : Jvm.MethodName)) ∈ lw_all := lw_g (lw_at lw_m4 63 rfl) rfl
theorem q905 : (Jvm.Cond.privateMethod ({ cls := "LeapJoin$Join", name := "begins", desc := "(II)V" } : Jvm.MethodName)) ∈ lw_tbl := lw_at lw_m4 64 rfl
theorem q906 : (Jvm.Cond.instanceMethod ({ cls := "LeapJoin$Join", name := "begins", desc := "(II)V" } : Jvm.MethodName)) ∈ lw_all := lw_g (lw_at lw_m4 65 rfl) rfl
theorem q907 : (Jvm.Cond.code ({ cls := "LeapJoin$Join", name := "begins", desc := "(II)V" } : Jvm.MethodName) prog_2_method_12_code (4 : Nat) (Option.none : Option Jvm.ClassFile.FieldType)) ∈ lw_all := lw_g (lw_at lw_m4 66 rfl) rfl
theorem q908 : (Jvm.Cond.methodLink "LeapJoin$Join" (117 : Nat) ({ cls := "LeapJoin$Join", name := "first", desc := "(I)I" } : Jvm.MethodName)) ∈ lw_all := lw_g (lw_at lw_m4 67 rfl) rfl
theorem q909 : (Jvm.Cond.privateMethod ({ cls := "LeapJoin$Join", name := "first", desc := "(I)I" } : Jvm.MethodName)) ∈ lw_tbl := lw_at lw_m4 68 rfl
theorem q910 : (Jvm.Cond.instanceMethod ({ cls := "LeapJoin$Join", name := "first", desc := "(I)I" } : Jvm.MethodName)) ∈ lw_all := lw_g (lw_at lw_m4 69 rfl) rfl
theorem q911 : (Jvm.Cond.code ({ cls := "LeapJoin$Join", name := "first", desc := "(I)I" } : Jvm.MethodName) prog_2_method_9_code (3 : Nat) (Option.some Jvm.ClassFile.FieldType.int)) ∈ lw_all := lw_g (lw_at lw_m4 70 rfl) rfl
theorem q912 : (Jvm.Cond.methodLink "LeapJoin$Join" (120 : Nat) ({ cls := "LeapJoin$Join", name := "leaps", desc := "(III)Z" } : Jvm.MethodName)) ∈ lw_all := lw_g (lw_at lw_m4 71 rfl) rfl
theorem q913 : (Jvm.Cond.privateMethod ({ cls := "LeapJoin$Join", name := "leaps", desc := "(III)Z" } : Jvm.MethodName)) ∈ lw_tbl := lw_at lw_m4 72 rfl
theorem q914 : (Jvm.Cond.instanceMethod ({ cls := "LeapJoin$Join", name := "leaps", desc := "(III)Z" } : Jvm.MethodName)) ∈ lw_all := lw_g (lw_at lw_m4 73 rfl) rfl
theorem q915 : (Jvm.Cond.code ({ cls := "LeapJoin$Join", name := "leaps", desc := "(III)Z" } : Jvm.MethodName) prog_2_method_10_code (4 : Nat) (Option.some Jvm.ClassFile.FieldType.boolean)) ∈ lw_all := lw_g (lw_at lw_m4 74 rfl) rfl
theorem q995 : (Jvm.Cond.instanceMethod ({ cls := "LeapJoin$Join", name := "at", desc := "(II)I" } : Jvm.MethodName)) ∈ lw_all := lw_g (lw_at lw_m4 154 rfl) rfl
theorem q996 : (Jvm.Cond.selects "LeapJoin$Join" ({ cls := "LeapJoin$Join", name := "at", desc := "(II)I" } : Jvm.MethodName) ({ cls := "LeapJoin$Join", name := "at", desc := "(II)I" } : Jvm.MethodName)) ∈ lw_all := lw_g (lw_at lw_m4 155 rfl) rfl
theorem q997 : (Jvm.Cond.code ({ cls := "LeapJoin$Join", name := "at", desc := "(II)I" } : Jvm.MethodName) prog_2_method_13_code (3 : Nat) (Option.some Jvm.ClassFile.FieldType.int)) ∈ lw_all := lw_g (lw_at lw_m4 156 rfl) rfl
theorem q1023 : (Jvm.Cond.instanceMethod ({ cls := "LeapJoin$Join", name := "given", desc := "(LLeapJoin$Table;)I" } : Jvm.MethodName)) ∈ lw_all := lw_g (lw_at lw_m4 182 rfl) rfl
theorem q1024 : (Jvm.Cond.selects "LeapJoin$Join" ({ cls := "LeapJoin$Join", name := "given", desc := "(LLeapJoin$Table;)I" } : Jvm.MethodName) ({ cls := "LeapJoin$Join", name := "given", desc := "(LLeapJoin$Table;)I" } : Jvm.MethodName)) ∈ lw_all := lw_g (lw_at lw_m4 183 rfl) rfl
theorem q1025 : (Jvm.Cond.code ({ cls := "LeapJoin$Join", name := "given", desc := "(LLeapJoin$Table;)I" } : Jvm.MethodName) prog_2_method_19_code (4 : Nat) (Option.some Jvm.ClassFile.FieldType.int)) ∈ lw_all := lw_g (lw_at lw_m4 184 rfl) rfl
theorem q1026 : (Jvm.Cond.methodLink "LeapJoin$Join" (135 : Nat) ({ cls := "LeapJoin$Join", name := "row", desc := "(I)[I" } : Jvm.MethodName)) ∈ lw_all := lw_g (lw_at lw_m4 185 rfl) rfl
theorem q1027 : (Jvm.Cond.instanceMethod ({ cls := "LeapJoin$Join", name := "row", desc := "(I)[I" } : Jvm.MethodName)) ∈ lw_all := lw_g (lw_at lw_m4 186 rfl) rfl
theorem q1028 : (Jvm.Cond.selects "LeapJoin$Join" ({ cls := "LeapJoin$Join", name := "row", desc := "(I)[I" } : Jvm.MethodName) ({ cls := "LeapJoin$Join", name := "row", desc := "(I)[I" } : Jvm.MethodName)) ∈ lw_all := lw_g (lw_at lw_m4 187 rfl) rfl
theorem q1029 : (Jvm.Cond.code ({ cls := "LeapJoin$Join", name := "row", desc := "(I)[I" } : Jvm.MethodName) prog_2_method_14_code (2 : Nat) (Option.some (Jvm.ClassFile.FieldType.array Jvm.ClassFile.FieldType.int))) ∈ lw_all := lw_g (lw_at lw_m4 188 rfl) rfl
theorem q1030 : (Jvm.Cond.methodLink "LeapJoin$Join" (123 : Nat) ({ cls := "java/lang/System", name := "arraycopy", desc := "(Ljava/lang/Object;ILjava/lang/Object;II)V" } : Jvm.MethodName)) ∈ lw_all := lw_g (lw_at lw_m4 189 rfl) rfl
theorem q1031 : (Jvm.Cond.methodLink "LeapJoin$Join" (139 : Nat) ({ cls := "LeapJoin$Table", name := "rowIn", desc := "([I)I" } : Jvm.MethodName)) ∈ lw_all := lw_g (lw_at lw_m4 190 rfl) rfl
theorem q1055 : (Jvm.Cond.instanceMethod ({ cls := "LeapJoin$Join", name := "tallies", desc := "(I)[I" } : Jvm.MethodName)) ∈ lw_all := lw_g (lw_at lw_m4 214 rfl) rfl
theorem q1056 : (Jvm.Cond.selects "LeapJoin$Join" ({ cls := "LeapJoin$Join", name := "tallies", desc := "(I)[I" } : Jvm.MethodName) ({ cls := "LeapJoin$Join", name := "tallies", desc := "(I)[I" } : Jvm.MethodName)) ∈ lw_all := lw_g (lw_at lw_m4 215 rfl) rfl
theorem q1057 : (Jvm.Cond.code ({ cls := "LeapJoin$Join", name := "tallies", desc := "(I)[I" } : Jvm.MethodName) prog_2_method_15_code (3 : Nat) (Option.some (Jvm.ClassFile.FieldType.array Jvm.ClassFile.FieldType.int))) ∈ lw_all := lw_g (lw_at lw_m4 216 rfl) rfl
theorem q1058 : (Jvm.Cond.methodLink "LeapJoin$Join" (129 : Nat) ({ cls := "LeapJoin$Join", name := "at", desc := "(II)I" } : Jvm.MethodName)) ∈ lw_all := lw_g (lw_at lw_m4 217 rfl) rfl
theorem q1083 : (Jvm.Cond.instanceMethod ({ cls := "LeapJoin$Join", name := "against", desc := "(I[I)I" } : Jvm.MethodName)) ∈ lw_all := lw_g (lw_at lw_m5 2 rfl) rfl
theorem q1084 : (Jvm.Cond.selects "LeapJoin$Join" ({ cls := "LeapJoin$Join", name := "against", desc := "(I[I)I" } : Jvm.MethodName) ({ cls := "LeapJoin$Join", name := "against", desc := "(I[I)I" } : Jvm.MethodName)) ∈ lw_all := lw_g (lw_at lw_m5 3 rfl) rfl
theorem q1085 : (Jvm.Cond.code ({ cls := "LeapJoin$Join", name := "against", desc := "(I[I)I" } : Jvm.MethodName) prog_2_method_18_code (4 : Nat) (Option.some Jvm.ClassFile.FieldType.int)) ∈ lw_all := lw_g (lw_at lw_m5 4 rfl) rfl
theorem q1099 : (Jvm.Cond.instanceMethod ({ cls := "LeapJoin$Join", name := "mean", desc := "(I)D" } : Jvm.MethodName)) ∈ lw_all := lw_g (lw_at lw_m5 18 rfl) rfl
theorem q1100 : (Jvm.Cond.selects "LeapJoin$Join" ({ cls := "LeapJoin$Join", name := "mean", desc := "(I)D" } : Jvm.MethodName) ({ cls := "LeapJoin$Join", name := "mean", desc := "(I)D" } : Jvm.MethodName)) ∈ lw_all := lw_g (lw_at lw_m5 19 rfl) rfl
theorem q1101 : (Jvm.Cond.code ({ cls := "LeapJoin$Join", name := "mean", desc := "(I)D" } : Jvm.MethodName) prog_2_method_17_code (2 : Nat) (Option.some Jvm.ClassFile.FieldType.double)) ∈ lw_all := lw_g (lw_at lw_m5 20 rfl) rfl
theorem q1102 : (Jvm.Cond.methodLink "LeapJoin$Join" (131 : Nat) ({ cls := "LeapJoin$Join", name := "sum", desc := "(I)D" } : Jvm.MethodName)) ∈ lw_all := lw_g (lw_at lw_m5 21 rfl) rfl
theorem q1103 : (Jvm.Cond.instanceMethod ({ cls := "LeapJoin$Join", name := "sum", desc := "(I)D" } : Jvm.MethodName)) ∈ lw_all := lw_g (lw_at lw_m5 22 rfl) rfl
theorem q1104 : (Jvm.Cond.selects "LeapJoin$Join" ({ cls := "LeapJoin$Join", name := "sum", desc := "(I)D" } : Jvm.MethodName) ({ cls := "LeapJoin$Join", name := "sum", desc := "(I)D" } : Jvm.MethodName)) ∈ lw_all := lw_g (lw_at lw_m5 23 rfl) rfl
theorem q1105 : (Jvm.Cond.code ({ cls := "LeapJoin$Join", name := "sum", desc := "(I)D" } : Jvm.MethodName) prog_2_method_16_code (5 : Nat) (Option.some Jvm.ClassFile.FieldType.double)) ∈ lw_all := lw_g (lw_at lw_m5 24 rfl) rfl
theorem q1901 : (Jvm.Cond.castable "LeapJoin$Join" "java/lang/Object") ∈ lw_tbl := lw_at lw_m8 100 rfl
theorem in_X3 : ∀ w ∈ wsX30, w ∈ lw_all := lw_in wsX30 [244, 246, 248, 250, 252, 254, 256, 258, 260, 262, 264, 266, 268] (by decide +kernel) (by decide +kernel)

/-! LeapJoin$Reader -/
set_option maxRecDepth 100000
def RX5 : String := "LeapJoin$Reader"
def TX5 : u_T := fun k => match k with
  | 0 => ("LeapJoin$Reader", "three", "[I", true)
  | 1 => ("LeapJoin$Reader", "at", "I", false)
  | _ => ("LeapJoin$Reader", "this$0", "LLeapJoin;", true)
def tyX5 : Nat → FieldType := fun k => match k with
  | 0 => .array .int
  | 1 => .int
  | _ => .object "LeapJoin"
abbrev wsX50 : List Cond := u_ws RX5 TX5 3
theorem nmX5 : ∀ a, a < 3 → ∀ b, b < 3 → a ≠ b → (TX5 a).2.1 ≠ (TX5 b).2.1 := by decide +kernel
theorem tyX5_ok : ∀ k, k < 3 → parseFieldDescriptor (TX5 k).2.2.1 = some (tyX5 k) := by decide +kernel
abbrev cX5_init : ByteArray := prog_4_method_1_code
def yX5_init : MethodName := ⟨RX5, "<init>", "(LLeapJoin;)V"⟩
def dkwX5_init_0 : List UInt8 := [42, 43, 181, 0, 3, 42, 183, 0, 9, 42, 6, 188, 10, 181, 0, 15, 177]
abbrev dktX5_init_0 : List UInt8 := dkwX5_init_0 ++ []
theorem dksX5_init_0 : cX5_init.data.toList.drop 0 = dktX5_init_0 := by decide +kernel
theorem dX5_init_0 : decode cX5_init 0 = .ok (.aload_n 0, 1) := dk_42 (dk_at dksX5_init_0 0 rfl rfl)
theorem dX5_init_1 : decode cX5_init 1 = .ok (.aload_n 1, 1) := dk_43 (dk_at dksX5_init_0 1 rfl rfl)
theorem dX5_init_2 : decode cX5_init 2 = .ok (.putfield 3, 3) := dk_181 0 3 (dk_at dksX5_init_0 2 rfl rfl)
theorem dX5_init_5 : decode cX5_init 5 = .ok (.aload_n 0, 1) := dk_42 (dk_at dksX5_init_0 5 rfl rfl)
theorem dX5_init_6 : decode cX5_init 6 = .ok (.invokespecial 9, 3) := dk_183 0 9 (dk_at dksX5_init_0 6 rfl rfl)
theorem dX5_init_9 : decode cX5_init 9 = .ok (.aload_n 0, 1) := dk_42 (dk_at dksX5_init_0 9 rfl rfl)
theorem dX5_init_10 : decode cX5_init 10 = .ok (.iconst 3, 1) := dk_6 (dk_at dksX5_init_0 10 rfl rfl)
theorem dX5_init_11 : decode cX5_init 11 = .ok (.newarray .int, 2) := dk_188_10 (dk_at dksX5_init_0 11 rfl rfl)
theorem dX5_init_13 : decode cX5_init 13 = .ok (.putfield 15, 3) := dk_181 0 15 (dk_at dksX5_init_0 13 rfl rfl)
theorem dX5_init_16 : decode cX5_init 16 = .ok (.return_, 1) := dk_177 (dk_at dksX5_init_0 16 rfl rfl)
abbrev cX5_tables : ByteArray := prog_4_method_13_code
def yX5_tables : MethodName := ⟨RX5, "tables", "([LLeapJoin$Table;)I"⟩
def dkwX5_tables_2 : List UInt8 := [167, 255, 222, 42, 182, 0, 106, 28, 172]
abbrev dktX5_tables_2 : List UInt8 := dkwX5_tables_2 ++ []
def dkwX5_tables_1 : List UInt8 := [162, 0, 7, 4, 167, 0, 4, 3, 182, 0, 43, 62, 43, 28, 42, 182, 0, 103, 83, 132, 2, 1]
abbrev dktX5_tables_1 : List UInt8 := dkwX5_tables_1 ++ dktX5_tables_2
def dkwX5_tables_0 : List UInt8 := [3, 61, 43, 28, 42, 182, 0, 103, 83, 132, 2, 1, 42, 16, 59, 182, 0, 39, 153, 0, 31, 42, 28, 7]
abbrev dktX5_tables_0 : List UInt8 := dkwX5_tables_0 ++ dktX5_tables_1
theorem dksX5_tables_0 : cX5_tables.data.toList.drop 0 = dktX5_tables_0 := by decide +kernel
theorem dksX5_tables_1 : cX5_tables.data.toList.drop 24 = dktX5_tables_1 := dk_seg dksX5_tables_0 24 rfl rfl
theorem dksX5_tables_2 : cX5_tables.data.toList.drop 46 = dktX5_tables_2 := dk_seg dksX5_tables_1 22 rfl rfl
theorem dX5_tables_0 : decode cX5_tables 0 = .ok (.iconst 0, 1) := dk_3 (dk_at dksX5_tables_0 0 rfl rfl)
theorem dX5_tables_1 : decode cX5_tables 1 = .ok (.istore_n 2, 1) := dk_61 (dk_at dksX5_tables_0 1 rfl rfl)
theorem dX5_tables_2 : decode cX5_tables 2 = .ok (.aload_n 1, 1) := dk_43 (dk_at dksX5_tables_0 2 rfl rfl)
theorem dX5_tables_3 : decode cX5_tables 3 = .ok (.iload_n 2, 1) := dk_28 (dk_at dksX5_tables_0 3 rfl rfl)
theorem dX5_tables_4 : decode cX5_tables 4 = .ok (.aload_n 0, 1) := dk_42 (dk_at dksX5_tables_0 4 rfl rfl)
theorem dX5_tables_5 : decode cX5_tables 5 = .ok (.invokevirtual 103, 3) := dk_182 0 103 (dk_at dksX5_tables_0 5 rfl rfl)
theorem dX5_tables_8 : decode cX5_tables 8 = .ok (.aastore, 1) := dk_83 (dk_at dksX5_tables_0 8 rfl rfl)
theorem dX5_tables_9 : decode cX5_tables 9 = .ok (.iinc 2 1, 3) := dk_132 2 1 (dk_at dksX5_tables_0 9 rfl rfl)
theorem dX5_tables_12 : decode cX5_tables 12 = .ok (.aload_n 0, 1) := dk_42 (dk_at dksX5_tables_0 12 rfl rfl)
theorem dX5_tables_13 : decode cX5_tables 13 = .ok (.bipush 59, 2) := dk_16 59 (dk_at dksX5_tables_0 13 rfl rfl)
theorem dX5_tables_15 : decode cX5_tables 15 = .ok (.invokevirtual 39, 3) := dk_182 0 39 (dk_at dksX5_tables_0 15 rfl rfl)
theorem dX5_tables_18 : decode cX5_tables 18 = .ok (.ifCond .eq 31, 3) := dk_153 0 31 (dk_at dksX5_tables_0 18 rfl rfl)
theorem dX5_tables_21 : decode cX5_tables 21 = .ok (.aload_n 0, 1) := dk_42 (dk_at dksX5_tables_0 21 rfl rfl)
theorem dX5_tables_22 : decode cX5_tables 22 = .ok (.iload_n 2, 1) := dk_28 (dk_at dksX5_tables_0 22 rfl rfl)
theorem dX5_tables_23 : decode cX5_tables 23 = .ok (.iconst 4, 1) := dk_7 (dk_at dksX5_tables_0 23 rfl rfl)
theorem dX5_tables_24 : decode cX5_tables 24 = .ok (.if_icmp .ge 7, 3) := dk_162 0 7 (dk_at dksX5_tables_1 0 rfl rfl)
theorem dX5_tables_27 : decode cX5_tables 27 = .ok (.iconst 1, 1) := dk_4 (dk_at dksX5_tables_1 3 rfl rfl)
theorem dX5_tables_28 : decode cX5_tables 28 = .ok (.goto 4, 3) := dk_167 0 4 (dk_at dksX5_tables_1 4 rfl rfl)
theorem dX5_tables_31 : decode cX5_tables 31 = .ok (.iconst 0, 1) := dk_3 (dk_at dksX5_tables_1 7 rfl rfl)
theorem dX5_tables_32 : decode cX5_tables 32 = .ok (.invokevirtual 43, 3) := dk_182 0 43 (dk_at dksX5_tables_1 8 rfl rfl)
theorem dX5_tables_35 : decode cX5_tables 35 = .ok (.istore_n 3, 1) := dk_62 (dk_at dksX5_tables_1 11 rfl rfl)
theorem dX5_tables_36 : decode cX5_tables 36 = .ok (.aload_n 1, 1) := dk_43 (dk_at dksX5_tables_1 12 rfl rfl)
theorem dX5_tables_37 : decode cX5_tables 37 = .ok (.iload_n 2, 1) := dk_28 (dk_at dksX5_tables_1 13 rfl rfl)
theorem dX5_tables_38 : decode cX5_tables 38 = .ok (.aload_n 0, 1) := dk_42 (dk_at dksX5_tables_1 14 rfl rfl)
theorem dX5_tables_39 : decode cX5_tables 39 = .ok (.invokevirtual 103, 3) := dk_182 0 103 (dk_at dksX5_tables_1 15 rfl rfl)
theorem dX5_tables_42 : decode cX5_tables 42 = .ok (.aastore, 1) := dk_83 (dk_at dksX5_tables_1 18 rfl rfl)
theorem dX5_tables_43 : decode cX5_tables 43 = .ok (.iinc 2 1, 3) := dk_132 2 1 (dk_at dksX5_tables_1 19 rfl rfl)
theorem dX5_tables_46 : decode cX5_tables 46 = .ok (.goto (-34), 3) := dk_167 255 222 (dk_at dksX5_tables_2 0 rfl rfl)
theorem dX5_tables_49 : decode cX5_tables 49 = .ok (.aload_n 0, 1) := dk_42 (dk_at dksX5_tables_2 3 rfl rfl)
theorem dX5_tables_50 : decode cX5_tables 50 = .ok (.invokevirtual 106, 3) := dk_182 0 106 (dk_at dksX5_tables_2 4 rfl rfl)
theorem dX5_tables_53 : decode cX5_tables 53 = .ok (.iload_n 2, 1) := dk_28 (dk_at dksX5_tables_2 7 rfl rfl)
theorem dX5_tables_54 : decode cX5_tables 54 = .ok (.ireturn, 1) := dk_172 (dk_at dksX5_tables_2 8 rfl rfl)
abbrev cX5_table : ByteArray := prog_4_method_12_code
def yX5_table : MethodName := ⟨RX5, "table", "()LLeapJoin$Table;"⟩
def dkwX5_table_2 : List UInt8 := [182, 0, 43, 61, 42, 43, 182, 0, 99, 132, 3, 1, 167, 255, 223, 43, 176]
abbrev dktX5_table_2 : List UInt8 := dkwX5_table_2 ++ []
def dkwX5_table_1 : List UInt8 := [4, 62, 42, 16, 47, 182, 0, 39, 153, 0, 30, 42, 29, 16, 12, 162, 0, 7, 4, 167, 0, 4, 3]
abbrev dktX5_table_1 : List UInt8 := dkwX5_table_1 ++ dktX5_table_2
def dkwX5_table_0 : List UInt8 := [42, 182, 0, 96, 76, 42, 182, 0, 35, 61, 42, 182, 0, 47, 154, 0, 5, 43, 176, 42, 43, 182, 0, 99]
abbrev dktX5_table_0 : List UInt8 := dkwX5_table_0 ++ dktX5_table_1
theorem dksX5_table_0 : cX5_table.data.toList.drop 0 = dktX5_table_0 := by decide +kernel
theorem dksX5_table_1 : cX5_table.data.toList.drop 24 = dktX5_table_1 := dk_seg dksX5_table_0 24 rfl rfl
theorem dksX5_table_2 : cX5_table.data.toList.drop 47 = dktX5_table_2 := dk_seg dksX5_table_1 23 rfl rfl
theorem dX5_table_0 : decode cX5_table 0 = .ok (.aload_n 0, 1) := dk_42 (dk_at dksX5_table_0 0 rfl rfl)
theorem dX5_table_1 : decode cX5_table 1 = .ok (.invokevirtual 96, 3) := dk_182 0 96 (dk_at dksX5_table_0 1 rfl rfl)
theorem dX5_table_4 : decode cX5_table 4 = .ok (.astore_n 1, 1) := dk_76 (dk_at dksX5_table_0 4 rfl rfl)
theorem dX5_table_5 : decode cX5_table 5 = .ok (.aload_n 0, 1) := dk_42 (dk_at dksX5_table_0 5 rfl rfl)
theorem dX5_table_6 : decode cX5_table 6 = .ok (.invokevirtual 35, 3) := dk_182 0 35 (dk_at dksX5_table_0 6 rfl rfl)
theorem dX5_table_9 : decode cX5_table 9 = .ok (.istore_n 2, 1) := dk_61 (dk_at dksX5_table_0 9 rfl rfl)
theorem dX5_table_10 : decode cX5_table 10 = .ok (.aload_n 0, 1) := dk_42 (dk_at dksX5_table_0 10 rfl rfl)
theorem dX5_table_11 : decode cX5_table 11 = .ok (.invokevirtual 47, 3) := dk_182 0 47 (dk_at dksX5_table_0 11 rfl rfl)
theorem dX5_table_14 : decode cX5_table 14 = .ok (.ifCond .ne 5, 3) := dk_154 0 5 (dk_at dksX5_table_0 14 rfl rfl)
theorem dX5_table_17 : decode cX5_table 17 = .ok (.aload_n 1, 1) := dk_43 (dk_at dksX5_table_0 17 rfl rfl)
theorem dX5_table_18 : decode cX5_table 18 = .ok (.areturn, 1) := dk_176 (dk_at dksX5_table_0 18 rfl rfl)
theorem dX5_table_19 : decode cX5_table 19 = .ok (.aload_n 0, 1) := dk_42 (dk_at dksX5_table_0 19 rfl rfl)
theorem dX5_table_20 : decode cX5_table 20 = .ok (.aload_n 1, 1) := dk_43 (dk_at dksX5_table_0 20 rfl rfl)
theorem dX5_table_21 : decode cX5_table 21 = .ok (.invokevirtual 99, 3) := dk_182 0 99 (dk_at dksX5_table_0 21 rfl rfl)
theorem dX5_table_24 : decode cX5_table 24 = .ok (.iconst 1, 1) := dk_4 (dk_at dksX5_table_1 0 rfl rfl)
theorem dX5_table_25 : decode cX5_table 25 = .ok (.istore_n 3, 1) := dk_62 (dk_at dksX5_table_1 1 rfl rfl)
theorem dX5_table_26 : decode cX5_table 26 = .ok (.aload_n 0, 1) := dk_42 (dk_at dksX5_table_1 2 rfl rfl)
theorem dX5_table_27 : decode cX5_table 27 = .ok (.bipush 47, 2) := dk_16 47 (dk_at dksX5_table_1 3 rfl rfl)
theorem dX5_table_29 : decode cX5_table 29 = .ok (.invokevirtual 39, 3) := dk_182 0 39 (dk_at dksX5_table_1 5 rfl rfl)
theorem dX5_table_32 : decode cX5_table 32 = .ok (.ifCond .eq 30, 3) := dk_153 0 30 (dk_at dksX5_table_1 8 rfl rfl)
theorem dX5_table_35 : decode cX5_table 35 = .ok (.aload_n 0, 1) := dk_42 (dk_at dksX5_table_1 11 rfl rfl)
theorem dX5_table_36 : decode cX5_table 36 = .ok (.iload_n 3, 1) := dk_29 (dk_at dksX5_table_1 12 rfl rfl)
theorem dX5_table_37 : decode cX5_table 37 = .ok (.bipush 12, 2) := dk_16 12 (dk_at dksX5_table_1 13 rfl rfl)
theorem dX5_table_39 : decode cX5_table 39 = .ok (.if_icmp .ge 7, 3) := dk_162 0 7 (dk_at dksX5_table_1 15 rfl rfl)
theorem dX5_table_42 : decode cX5_table 42 = .ok (.iconst 1, 1) := dk_4 (dk_at dksX5_table_1 18 rfl rfl)
theorem dX5_table_43 : decode cX5_table 43 = .ok (.goto 4, 3) := dk_167 0 4 (dk_at dksX5_table_1 19 rfl rfl)
theorem dX5_table_46 : decode cX5_table 46 = .ok (.iconst 0, 1) := dk_3 (dk_at dksX5_table_1 22 rfl rfl)
theorem dX5_table_47 : decode cX5_table 47 = .ok (.invokevirtual 43, 3) := dk_182 0 43 (dk_at dksX5_table_2 0 rfl rfl)
theorem dX5_table_50 : decode cX5_table 50 = .ok (.istore_n 2, 1) := dk_61 (dk_at dksX5_table_2 3 rfl rfl)
theorem dX5_table_51 : decode cX5_table 51 = .ok (.aload_n 0, 1) := dk_42 (dk_at dksX5_table_2 4 rfl rfl)
theorem dX5_table_52 : decode cX5_table 52 = .ok (.aload_n 1, 1) := dk_43 (dk_at dksX5_table_2 5 rfl rfl)
theorem dX5_table_53 : decode cX5_table 53 = .ok (.invokevirtual 99, 3) := dk_182 0 99 (dk_at dksX5_table_2 6 rfl rfl)
theorem dX5_table_56 : decode cX5_table 56 = .ok (.iinc 3 1, 3) := dk_132 3 1 (dk_at dksX5_table_2 9 rfl rfl)
theorem dX5_table_59 : decode cX5_table 59 = .ok (.goto (-33), 3) := dk_167 255 223 (dk_at dksX5_table_2 12 rfl rfl)
theorem dX5_table_62 : decode cX5_table 62 = .ok (.aload_n 1, 1) := dk_43 (dk_at dksX5_table_2 15 rfl rfl)
theorem dX5_table_63 : decode cX5_table 63 = .ok (.areturn, 1) := dk_176 (dk_at dksX5_table_2 16 rfl rfl)
abbrev cX5_letters : ByteArray := prog_4_method_10_code
def yX5_letters : MethodName := ⟨RX5, "letters", "()LLeapJoin$Table;"⟩
def dkwX5_letters_4 : List UInt8 := [58, 4, 42, 180, 0, 15, 3, 25, 4, 3, 27, 184, 0, 61, 187, 0, 67, 89, 25, 4, 183, 0, 69, 176]
abbrev dktX5_letters_4 : List UInt8 := dkwX5_letters_4 ++ []
def dkwX5_letters_3 : List UInt8 := [182, 0, 35, 62, 29, 16, 58, 160, 255, 187, 42, 89, 180, 0, 19, 4, 96, 181, 0, 19, 27, 188, 10]
abbrev dktX5_letters_3 : List UInt8 := dkwX5_letters_3 ++ dktX5_letters_4
def dkwX5_letters_2 : List UInt8 := [3, 182, 0, 43, 62, 28, 4, 21, 4, 120, 128, 61, 42, 180, 0, 15, 27, 21, 4, 79, 132, 1, 1, 42]
abbrev dktX5_letters_2 : List UInt8 := dkwX5_letters_2 ++ dktX5_letters_3
def dkwX5_letters_1 : List UInt8 := [184, 0, 53, 153, 0, 21, 28, 21, 4, 184, 0, 57, 154, 0, 12, 27, 6, 162, 0, 7, 4, 167, 0, 4]
abbrev dktX5_letters_1 : List UInt8 := dkwX5_letters_1 ++ dktX5_letters_2
def dkwX5_letters_0 : List UInt8 := [3, 60, 3, 61, 42, 182, 0, 35, 62, 29, 16, 97, 100, 54, 4, 42, 21, 4, 133, 9, 20, 0, 51]
abbrev dktX5_letters_0 : List UInt8 := dkwX5_letters_0 ++ dktX5_letters_1
theorem dksX5_letters_0 : cX5_letters.data.toList.drop 0 = dktX5_letters_0 := by decide +kernel
theorem dksX5_letters_1 : cX5_letters.data.toList.drop 23 = dktX5_letters_1 := dk_seg dksX5_letters_0 23 rfl rfl
theorem dksX5_letters_2 : cX5_letters.data.toList.drop 47 = dktX5_letters_2 := dk_seg dksX5_letters_1 24 rfl rfl
theorem dksX5_letters_3 : cX5_letters.data.toList.drop 71 = dktX5_letters_3 := dk_seg dksX5_letters_2 24 rfl rfl
theorem dksX5_letters_4 : cX5_letters.data.toList.drop 94 = dktX5_letters_4 := dk_seg dksX5_letters_3 23 rfl rfl
theorem dX5_letters_0 : decode cX5_letters 0 = .ok (.iconst 0, 1) := dk_3 (dk_at dksX5_letters_0 0 rfl rfl)
theorem dX5_letters_1 : decode cX5_letters 1 = .ok (.istore_n 1, 1) := dk_60 (dk_at dksX5_letters_0 1 rfl rfl)
theorem dX5_letters_2 : decode cX5_letters 2 = .ok (.iconst 0, 1) := dk_3 (dk_at dksX5_letters_0 2 rfl rfl)
theorem dX5_letters_3 : decode cX5_letters 3 = .ok (.istore_n 2, 1) := dk_61 (dk_at dksX5_letters_0 3 rfl rfl)
theorem dX5_letters_4 : decode cX5_letters 4 = .ok (.aload_n 0, 1) := dk_42 (dk_at dksX5_letters_0 4 rfl rfl)
theorem dX5_letters_5 : decode cX5_letters 5 = .ok (.invokevirtual 35, 3) := dk_182 0 35 (dk_at dksX5_letters_0 5 rfl rfl)
theorem dX5_letters_8 : decode cX5_letters 8 = .ok (.istore_n 3, 1) := dk_62 (dk_at dksX5_letters_0 8 rfl rfl)
theorem dX5_letters_9 : decode cX5_letters 9 = .ok (.iload_n 3, 1) := dk_29 (dk_at dksX5_letters_0 9 rfl rfl)
theorem dX5_letters_10 : decode cX5_letters 10 = .ok (.bipush 97, 2) := dk_16 97 (dk_at dksX5_letters_0 10 rfl rfl)
theorem dX5_letters_12 : decode cX5_letters 12 = .ok (.isub, 1) := dk_100 (dk_at dksX5_letters_0 12 rfl rfl)
theorem dX5_letters_13 : decode cX5_letters 13 = .ok (.istore 4, 2) := dk_54 4 (dk_at dksX5_letters_0 13 rfl rfl)
theorem dX5_letters_15 : decode cX5_letters 15 = .ok (.aload_n 0, 1) := dk_42 (dk_at dksX5_letters_0 15 rfl rfl)
theorem dX5_letters_16 : decode cX5_letters 16 = .ok (.iload 4, 2) := dk_21 4 (dk_at dksX5_letters_0 16 rfl rfl)
theorem dX5_letters_18 : decode cX5_letters 18 = .ok (.i2l, 1) := dk_133 (dk_at dksX5_letters_0 18 rfl rfl)
theorem dX5_letters_19 : decode cX5_letters 19 = .ok (.lconst 0, 1) := dk_9 (dk_at dksX5_letters_0 19 rfl rfl)
theorem dX5_letters_20 : decode cX5_letters 20 = .ok (.ldc2_w 51, 3) := dk_20 0 51 (dk_at dksX5_letters_0 20 rfl rfl)
theorem dX5_letters_23 : decode cX5_letters 23 = .ok (.invokestatic 53, 3) := dk_184 0 53 (dk_at dksX5_letters_1 0 rfl rfl)
theorem dX5_letters_26 : decode cX5_letters 26 = .ok (.ifCond .eq 21, 3) := dk_153 0 21 (dk_at dksX5_letters_1 3 rfl rfl)
theorem dX5_letters_29 : decode cX5_letters 29 = .ok (.iload_n 2, 1) := dk_28 (dk_at dksX5_letters_1 6 rfl rfl)
theorem dX5_letters_30 : decode cX5_letters 30 = .ok (.iload 4, 2) := dk_21 4 (dk_at dksX5_letters_1 7 rfl rfl)
theorem dX5_letters_32 : decode cX5_letters 32 = .ok (.invokestatic 57, 3) := dk_184 0 57 (dk_at dksX5_letters_1 9 rfl rfl)
theorem dX5_letters_35 : decode cX5_letters 35 = .ok (.ifCond .ne 12, 3) := dk_154 0 12 (dk_at dksX5_letters_1 12 rfl rfl)
theorem dX5_letters_38 : decode cX5_letters 38 = .ok (.iload_n 1, 1) := dk_27 (dk_at dksX5_letters_1 15 rfl rfl)
theorem dX5_letters_39 : decode cX5_letters 39 = .ok (.iconst 3, 1) := dk_6 (dk_at dksX5_letters_1 16 rfl rfl)
theorem dX5_letters_40 : decode cX5_letters 40 = .ok (.if_icmp .ge 7, 3) := dk_162 0 7 (dk_at dksX5_letters_1 17 rfl rfl)
theorem dX5_letters_43 : decode cX5_letters 43 = .ok (.iconst 1, 1) := dk_4 (dk_at dksX5_letters_1 20 rfl rfl)
theorem dX5_letters_44 : decode cX5_letters 44 = .ok (.goto 4, 3) := dk_167 0 4 (dk_at dksX5_letters_1 21 rfl rfl)
theorem dX5_letters_47 : decode cX5_letters 47 = .ok (.iconst 0, 1) := dk_3 (dk_at dksX5_letters_2 0 rfl rfl)
theorem dX5_letters_48 : decode cX5_letters 48 = .ok (.invokevirtual 43, 3) := dk_182 0 43 (dk_at dksX5_letters_2 1 rfl rfl)
theorem dX5_letters_51 : decode cX5_letters 51 = .ok (.istore_n 3, 1) := dk_62 (dk_at dksX5_letters_2 4 rfl rfl)
theorem dX5_letters_52 : decode cX5_letters 52 = .ok (.iload_n 2, 1) := dk_28 (dk_at dksX5_letters_2 5 rfl rfl)
theorem dX5_letters_53 : decode cX5_letters 53 = .ok (.iconst 1, 1) := dk_4 (dk_at dksX5_letters_2 6 rfl rfl)
theorem dX5_letters_54 : decode cX5_letters 54 = .ok (.iload 4, 2) := dk_21 4 (dk_at dksX5_letters_2 7 rfl rfl)
theorem dX5_letters_56 : decode cX5_letters 56 = .ok (.ishl, 1) := dk_120 (dk_at dksX5_letters_2 9 rfl rfl)
theorem dX5_letters_57 : decode cX5_letters 57 = .ok (.ior, 1) := dk_128 (dk_at dksX5_letters_2 10 rfl rfl)
theorem dX5_letters_58 : decode cX5_letters 58 = .ok (.istore_n 2, 1) := dk_61 (dk_at dksX5_letters_2 11 rfl rfl)
theorem dX5_letters_59 : decode cX5_letters 59 = .ok (.aload_n 0, 1) := dk_42 (dk_at dksX5_letters_2 12 rfl rfl)
theorem dX5_letters_60 : decode cX5_letters 60 = .ok (.getfield 15, 3) := dk_180 0 15 (dk_at dksX5_letters_2 13 rfl rfl)
theorem dX5_letters_63 : decode cX5_letters 63 = .ok (.iload_n 1, 1) := dk_27 (dk_at dksX5_letters_2 16 rfl rfl)
theorem dX5_letters_64 : decode cX5_letters 64 = .ok (.iload 4, 2) := dk_21 4 (dk_at dksX5_letters_2 17 rfl rfl)
theorem dX5_letters_66 : decode cX5_letters 66 = .ok (.iastore, 1) := dk_79 (dk_at dksX5_letters_2 19 rfl rfl)
theorem dX5_letters_67 : decode cX5_letters 67 = .ok (.iinc 1 1, 3) := dk_132 1 1 (dk_at dksX5_letters_2 20 rfl rfl)
theorem dX5_letters_70 : decode cX5_letters 70 = .ok (.aload_n 0, 1) := dk_42 (dk_at dksX5_letters_2 23 rfl rfl)
theorem dX5_letters_71 : decode cX5_letters 71 = .ok (.invokevirtual 35, 3) := dk_182 0 35 (dk_at dksX5_letters_3 0 rfl rfl)
theorem dX5_letters_74 : decode cX5_letters 74 = .ok (.istore_n 3, 1) := dk_62 (dk_at dksX5_letters_3 3 rfl rfl)
theorem dX5_letters_75 : decode cX5_letters 75 = .ok (.iload_n 3, 1) := dk_29 (dk_at dksX5_letters_3 4 rfl rfl)
theorem dX5_letters_76 : decode cX5_letters 76 = .ok (.bipush 58, 2) := dk_16 58 (dk_at dksX5_letters_3 5 rfl rfl)
theorem dX5_letters_78 : decode cX5_letters 78 = .ok (.if_icmp .ne (-69), 3) := dk_160 255 187 (dk_at dksX5_letters_3 7 rfl rfl)
theorem dX5_letters_81 : decode cX5_letters 81 = .ok (.aload_n 0, 1) := dk_42 (dk_at dksX5_letters_3 10 rfl rfl)
theorem dX5_letters_82 : decode cX5_letters 82 = .ok (.dup, 1) := dk_89 (dk_at dksX5_letters_3 11 rfl rfl)
theorem dX5_letters_83 : decode cX5_letters 83 = .ok (.getfield 19, 3) := dk_180 0 19 (dk_at dksX5_letters_3 12 rfl rfl)
theorem dX5_letters_86 : decode cX5_letters 86 = .ok (.iconst 1, 1) := dk_4 (dk_at dksX5_letters_3 15 rfl rfl)
theorem dX5_letters_87 : decode cX5_letters 87 = .ok (.iadd, 1) := dk_96 (dk_at dksX5_letters_3 16 rfl rfl)
theorem dX5_letters_88 : decode cX5_letters 88 = .ok (.putfield 19, 3) := dk_181 0 19 (dk_at dksX5_letters_3 17 rfl rfl)
theorem dX5_letters_91 : decode cX5_letters 91 = .ok (.iload_n 1, 1) := dk_27 (dk_at dksX5_letters_3 20 rfl rfl)
theorem dX5_letters_92 : decode cX5_letters 92 = .ok (.newarray .int, 2) := dk_188_10 (dk_at dksX5_letters_3 21 rfl rfl)
theorem dX5_letters_94 : decode cX5_letters 94 = .ok (.astore 4, 2) := dk_58 4 (dk_at dksX5_letters_4 0 rfl rfl)
theorem dX5_letters_96 : decode cX5_letters 96 = .ok (.aload_n 0, 1) := dk_42 (dk_at dksX5_letters_4 2 rfl rfl)
theorem dX5_letters_97 : decode cX5_letters 97 = .ok (.getfield 15, 3) := dk_180 0 15 (dk_at dksX5_letters_4 3 rfl rfl)
theorem dX5_letters_100 : decode cX5_letters 100 = .ok (.iconst 0, 1) := dk_3 (dk_at dksX5_letters_4 6 rfl rfl)
theorem dX5_letters_101 : decode cX5_letters 101 = .ok (.aload 4, 2) := dk_25 4 (dk_at dksX5_letters_4 7 rfl rfl)
theorem dX5_letters_103 : decode cX5_letters 103 = .ok (.iconst 0, 1) := dk_3 (dk_at dksX5_letters_4 9 rfl rfl)
theorem dX5_letters_104 : decode cX5_letters 104 = .ok (.iload_n 1, 1) := dk_27 (dk_at dksX5_letters_4 10 rfl rfl)
theorem dX5_letters_105 : decode cX5_letters 105 = .ok (.invokestatic 61, 3) := dk_184 0 61 (dk_at dksX5_letters_4 11 rfl rfl)
theorem dX5_letters_108 : decode cX5_letters 108 = .ok (.new 67, 3) := dk_187 0 67 (dk_at dksX5_letters_4 14 rfl rfl)
theorem dX5_letters_111 : decode cX5_letters 111 = .ok (.dup, 1) := dk_89 (dk_at dksX5_letters_4 17 rfl rfl)
theorem dX5_letters_112 : decode cX5_letters 112 = .ok (.aload 4, 2) := dk_25 4 (dk_at dksX5_letters_4 18 rfl rfl)
theorem dX5_letters_114 : decode cX5_letters 114 = .ok (.invokespecial 69, 3) := dk_183 0 69 (dk_at dksX5_letters_4 20 rfl rfl)
theorem dX5_letters_117 : decode cX5_letters 117 = .ok (.areturn, 1) := dk_176 (dk_at dksX5_letters_4 23 rfl rfl)
abbrev cX5_peek : ByteArray := prog_4_method_2_code
def yX5_peek : MethodName := ⟨RX5, "peek", "()I"⟩
def dkwX5_peek_3 : List UInt8 := [51, 17, 0, 255, 126, 167, 0, 4, 2, 172]
abbrev dktX5_peek_3 : List UInt8 := dkwX5_peek_3 ++ []
def dkwX5_peek_2 : List UInt8 := [180, 0, 19, 42, 180, 0, 3, 180, 0, 23, 162, 0, 22, 42, 180, 0, 3, 180, 0, 26, 42, 180, 0, 19]
abbrev dktX5_peek_2 : List UInt8 := dkwX5_peek_2 ++ dktX5_peek_3
def dkwX5_peek_1 : List UInt8 := [180, 0, 19, 51, 16, 32, 160, 0, 16, 42, 89, 180, 0, 19, 4, 96, 181, 0, 19, 167, 255, 215, 42]
abbrev dktX5_peek_1 : List UInt8 := dkwX5_peek_1 ++ dktX5_peek_2
def dkwX5_peek_0 : List UInt8 := [42, 180, 0, 19, 42, 180, 0, 3, 180, 0, 23, 162, 0, 33, 42, 180, 0, 3, 180, 0, 26, 42]
abbrev dktX5_peek_0 : List UInt8 := dkwX5_peek_0 ++ dktX5_peek_1
theorem dksX5_peek_0 : cX5_peek.data.toList.drop 0 = dktX5_peek_0 := by decide +kernel
theorem dksX5_peek_1 : cX5_peek.data.toList.drop 22 = dktX5_peek_1 := dk_seg dksX5_peek_0 22 rfl rfl
theorem dksX5_peek_2 : cX5_peek.data.toList.drop 45 = dktX5_peek_2 := dk_seg dksX5_peek_1 23 rfl rfl
theorem dksX5_peek_3 : cX5_peek.data.toList.drop 69 = dktX5_peek_3 := dk_seg dksX5_peek_2 24 rfl rfl
theorem dX5_peek_0 : decode cX5_peek 0 = .ok (.aload_n 0, 1) := dk_42 (dk_at dksX5_peek_0 0 rfl rfl)
theorem dX5_peek_1 : decode cX5_peek 1 = .ok (.getfield 19, 3) := dk_180 0 19 (dk_at dksX5_peek_0 1 rfl rfl)
theorem dX5_peek_4 : decode cX5_peek 4 = .ok (.aload_n 0, 1) := dk_42 (dk_at dksX5_peek_0 4 rfl rfl)
theorem dX5_peek_5 : decode cX5_peek 5 = .ok (.getfield 3, 3) := dk_180 0 3 (dk_at dksX5_peek_0 5 rfl rfl)
theorem dX5_peek_8 : decode cX5_peek 8 = .ok (.getfield 23, 3) := dk_180 0 23 (dk_at dksX5_peek_0 8 rfl rfl)
theorem dX5_peek_11 : decode cX5_peek 11 = .ok (.if_icmp .ge 33, 3) := dk_162 0 33 (dk_at dksX5_peek_0 11 rfl rfl)
theorem dX5_peek_14 : decode cX5_peek 14 = .ok (.aload_n 0, 1) := dk_42 (dk_at dksX5_peek_0 14 rfl rfl)
theorem dX5_peek_15 : decode cX5_peek 15 = .ok (.getfield 3, 3) := dk_180 0 3 (dk_at dksX5_peek_0 15 rfl rfl)
theorem dX5_peek_18 : decode cX5_peek 18 = .ok (.getfield 26, 3) := dk_180 0 26 (dk_at dksX5_peek_0 18 rfl rfl)
theorem dX5_peek_21 : decode cX5_peek 21 = .ok (.aload_n 0, 1) := dk_42 (dk_at dksX5_peek_0 21 rfl rfl)
theorem dX5_peek_22 : decode cX5_peek 22 = .ok (.getfield 19, 3) := dk_180 0 19 (dk_at dksX5_peek_1 0 rfl rfl)
theorem dX5_peek_25 : decode cX5_peek 25 = .ok (.baload, 1) := dk_51 (dk_at dksX5_peek_1 3 rfl rfl)
theorem dX5_peek_26 : decode cX5_peek 26 = .ok (.bipush 32, 2) := dk_16 32 (dk_at dksX5_peek_1 4 rfl rfl)
theorem dX5_peek_28 : decode cX5_peek 28 = .ok (.if_icmp .ne 16, 3) := dk_160 0 16 (dk_at dksX5_peek_1 6 rfl rfl)
theorem dX5_peek_31 : decode cX5_peek 31 = .ok (.aload_n 0, 1) := dk_42 (dk_at dksX5_peek_1 9 rfl rfl)
theorem dX5_peek_32 : decode cX5_peek 32 = .ok (.dup, 1) := dk_89 (dk_at dksX5_peek_1 10 rfl rfl)
theorem dX5_peek_33 : decode cX5_peek 33 = .ok (.getfield 19, 3) := dk_180 0 19 (dk_at dksX5_peek_1 11 rfl rfl)
theorem dX5_peek_36 : decode cX5_peek 36 = .ok (.iconst 1, 1) := dk_4 (dk_at dksX5_peek_1 14 rfl rfl)
theorem dX5_peek_37 : decode cX5_peek 37 = .ok (.iadd, 1) := dk_96 (dk_at dksX5_peek_1 15 rfl rfl)
theorem dX5_peek_38 : decode cX5_peek 38 = .ok (.putfield 19, 3) := dk_181 0 19 (dk_at dksX5_peek_1 16 rfl rfl)
theorem dX5_peek_41 : decode cX5_peek 41 = .ok (.goto (-41), 3) := dk_167 255 215 (dk_at dksX5_peek_1 19 rfl rfl)
theorem dX5_peek_44 : decode cX5_peek 44 = .ok (.aload_n 0, 1) := dk_42 (dk_at dksX5_peek_1 22 rfl rfl)
theorem dX5_peek_45 : decode cX5_peek 45 = .ok (.getfield 19, 3) := dk_180 0 19 (dk_at dksX5_peek_2 0 rfl rfl)
theorem dX5_peek_48 : decode cX5_peek 48 = .ok (.aload_n 0, 1) := dk_42 (dk_at dksX5_peek_2 3 rfl rfl)
theorem dX5_peek_49 : decode cX5_peek 49 = .ok (.getfield 3, 3) := dk_180 0 3 (dk_at dksX5_peek_2 4 rfl rfl)
theorem dX5_peek_52 : decode cX5_peek 52 = .ok (.getfield 23, 3) := dk_180 0 23 (dk_at dksX5_peek_2 7 rfl rfl)
theorem dX5_peek_55 : decode cX5_peek 55 = .ok (.if_icmp .ge 22, 3) := dk_162 0 22 (dk_at dksX5_peek_2 10 rfl rfl)
theorem dX5_peek_58 : decode cX5_peek 58 = .ok (.aload_n 0, 1) := dk_42 (dk_at dksX5_peek_2 13 rfl rfl)
theorem dX5_peek_59 : decode cX5_peek 59 = .ok (.getfield 3, 3) := dk_180 0 3 (dk_at dksX5_peek_2 14 rfl rfl)
theorem dX5_peek_62 : decode cX5_peek 62 = .ok (.getfield 26, 3) := dk_180 0 26 (dk_at dksX5_peek_2 17 rfl rfl)
theorem dX5_peek_65 : decode cX5_peek 65 = .ok (.aload_n 0, 1) := dk_42 (dk_at dksX5_peek_2 20 rfl rfl)
theorem dX5_peek_66 : decode cX5_peek 66 = .ok (.getfield 19, 3) := dk_180 0 19 (dk_at dksX5_peek_2 21 rfl rfl)
theorem dX5_peek_69 : decode cX5_peek 69 = .ok (.baload, 1) := dk_51 (dk_at dksX5_peek_3 0 rfl rfl)
theorem dX5_peek_70 : decode cX5_peek 70 = .ok (.sipush 255, 3) := dk_17 0 255 (dk_at dksX5_peek_3 1 rfl rfl)
theorem dX5_peek_73 : decode cX5_peek 73 = .ok (.iand, 1) := dk_126 (dk_at dksX5_peek_3 4 rfl rfl)
theorem dX5_peek_74 : decode cX5_peek 74 = .ok (.goto 4, 3) := dk_167 0 4 (dk_at dksX5_peek_3 5 rfl rfl)
theorem dX5_peek_77 : decode cX5_peek 77 = .ok (.iconst (-1), 1) := dk_2 (dk_at dksX5_peek_3 8 rfl rfl)
theorem dX5_peek_78 : decode cX5_peek 78 = .ok (.ireturn, 1) := dk_172 (dk_at dksX5_peek_3 9 rfl rfl)
abbrev cX5_take : ByteArray := prog_4_method_3_code
def yX5_take : MethodName := ⟨RX5, "take", "(Z)I"⟩
def dkwX5_take_2 : List UInt8 := [42, 180, 0, 19, 4, 100, 51, 172]
abbrev dktX5_take_2 : List UInt8 := dkwX5_take_2 ++ []
def dkwX5_take_1 : List UInt8 := [180, 0, 19, 183, 0, 32, 191, 42, 89, 180, 0, 19, 4, 96, 181, 0, 19, 42, 180, 0, 3, 180, 0, 26]
abbrev dktX5_take_1 : List UInt8 := dkwX5_take_1 ++ dktX5_take_2
def dkwX5_take_0 : List UInt8 := [27, 153, 0, 17, 42, 180, 0, 19, 42, 180, 0, 3, 180, 0, 23, 161, 0, 15, 187, 0, 30, 89, 42]
abbrev dktX5_take_0 : List UInt8 := dkwX5_take_0 ++ dktX5_take_1
theorem dksX5_take_0 : cX5_take.data.toList.drop 0 = dktX5_take_0 := by decide +kernel
theorem dksX5_take_1 : cX5_take.data.toList.drop 23 = dktX5_take_1 := dk_seg dksX5_take_0 23 rfl rfl
theorem dksX5_take_2 : cX5_take.data.toList.drop 47 = dktX5_take_2 := dk_seg dksX5_take_1 24 rfl rfl
theorem dX5_take_0 : decode cX5_take 0 = .ok (.iload_n 1, 1) := dk_27 (dk_at dksX5_take_0 0 rfl rfl)
theorem dX5_take_1 : decode cX5_take 1 = .ok (.ifCond .eq 17, 3) := dk_153 0 17 (dk_at dksX5_take_0 1 rfl rfl)
theorem dX5_take_4 : decode cX5_take 4 = .ok (.aload_n 0, 1) := dk_42 (dk_at dksX5_take_0 4 rfl rfl)
theorem dX5_take_5 : decode cX5_take 5 = .ok (.getfield 19, 3) := dk_180 0 19 (dk_at dksX5_take_0 5 rfl rfl)
theorem dX5_take_8 : decode cX5_take 8 = .ok (.aload_n 0, 1) := dk_42 (dk_at dksX5_take_0 8 rfl rfl)
theorem dX5_take_9 : decode cX5_take 9 = .ok (.getfield 3, 3) := dk_180 0 3 (dk_at dksX5_take_0 9 rfl rfl)
theorem dX5_take_12 : decode cX5_take 12 = .ok (.getfield 23, 3) := dk_180 0 23 (dk_at dksX5_take_0 12 rfl rfl)
theorem dX5_take_15 : decode cX5_take 15 = .ok (.if_icmp .lt 15, 3) := dk_161 0 15 (dk_at dksX5_take_0 15 rfl rfl)
theorem dX5_take_18 : decode cX5_take 18 = .ok (.new 30, 3) := dk_187 0 30 (dk_at dksX5_take_0 18 rfl rfl)
theorem dX5_take_21 : decode cX5_take 21 = .ok (.dup, 1) := dk_89 (dk_at dksX5_take_0 21 rfl rfl)
theorem dX5_take_22 : decode cX5_take 22 = .ok (.aload_n 0, 1) := dk_42 (dk_at dksX5_take_0 22 rfl rfl)
theorem dX5_take_23 : decode cX5_take 23 = .ok (.getfield 19, 3) := dk_180 0 19 (dk_at dksX5_take_1 0 rfl rfl)
theorem dX5_take_26 : decode cX5_take 26 = .ok (.invokespecial 32, 3) := dk_183 0 32 (dk_at dksX5_take_1 3 rfl rfl)
theorem dX5_take_29 : decode cX5_take 29 = .ok (.athrow, 1) := dk_191 (dk_at dksX5_take_1 6 rfl rfl)
theorem dX5_take_30 : decode cX5_take 30 = .ok (.aload_n 0, 1) := dk_42 (dk_at dksX5_take_1 7 rfl rfl)
theorem dX5_take_31 : decode cX5_take 31 = .ok (.dup, 1) := dk_89 (dk_at dksX5_take_1 8 rfl rfl)
theorem dX5_take_32 : decode cX5_take 32 = .ok (.getfield 19, 3) := dk_180 0 19 (dk_at dksX5_take_1 9 rfl rfl)
theorem dX5_take_35 : decode cX5_take 35 = .ok (.iconst 1, 1) := dk_4 (dk_at dksX5_take_1 12 rfl rfl)
theorem dX5_take_36 : decode cX5_take 36 = .ok (.iadd, 1) := dk_96 (dk_at dksX5_take_1 13 rfl rfl)
theorem dX5_take_37 : decode cX5_take 37 = .ok (.putfield 19, 3) := dk_181 0 19 (dk_at dksX5_take_1 14 rfl rfl)
theorem dX5_take_40 : decode cX5_take 40 = .ok (.aload_n 0, 1) := dk_42 (dk_at dksX5_take_1 17 rfl rfl)
theorem dX5_take_41 : decode cX5_take 41 = .ok (.getfield 3, 3) := dk_180 0 3 (dk_at dksX5_take_1 18 rfl rfl)
theorem dX5_take_44 : decode cX5_take 44 = .ok (.getfield 26, 3) := dk_180 0 26 (dk_at dksX5_take_1 21 rfl rfl)
theorem dX5_take_47 : decode cX5_take 47 = .ok (.aload_n 0, 1) := dk_42 (dk_at dksX5_take_2 0 rfl rfl)
theorem dX5_take_48 : decode cX5_take 48 = .ok (.getfield 19, 3) := dk_180 0 19 (dk_at dksX5_take_2 1 rfl rfl)
theorem dX5_take_51 : decode cX5_take 51 = .ok (.iconst 1, 1) := dk_4 (dk_at dksX5_take_2 4 rfl rfl)
theorem dX5_take_52 : decode cX5_take 52 = .ok (.isub, 1) := dk_100 (dk_at dksX5_take_2 5 rfl rfl)
theorem dX5_take_53 : decode cX5_take 53 = .ok (.baload, 1) := dk_51 (dk_at dksX5_take_2 6 rfl rfl)
theorem dX5_take_54 : decode cX5_take 54 = .ok (.ireturn, 1) := dk_172 (dk_at dksX5_take_2 7 rfl rfl)
abbrev cX5_isDigit : ByteArray := prog_4_method_4_code
def yX5_isDigit : MethodName := ⟨RX5, "isDigit", "()Z"⟩
def dkwX5_isDigit_2 : List UInt8 := [163, 0, 7, 4, 167, 0, 4, 3, 172]
abbrev dktX5_isDigit_2 : List UInt8 := dkwX5_isDigit_2 ++ []
def dkwX5_isDigit_1 : List UInt8 := [180, 0, 19, 51, 16, 48, 161, 0, 24, 42, 180, 0, 3, 180, 0, 26, 42, 180, 0, 19, 51, 16, 57]
abbrev dktX5_isDigit_1 : List UInt8 := dkwX5_isDigit_1 ++ dktX5_isDigit_2
def dkwX5_isDigit_0 : List UInt8 := [42, 180, 0, 19, 42, 180, 0, 3, 180, 0, 23, 162, 0, 41, 42, 180, 0, 3, 180, 0, 26, 42]
abbrev dktX5_isDigit_0 : List UInt8 := dkwX5_isDigit_0 ++ dktX5_isDigit_1
theorem dksX5_isDigit_0 : cX5_isDigit.data.toList.drop 0 = dktX5_isDigit_0 := by decide +kernel
theorem dksX5_isDigit_1 : cX5_isDigit.data.toList.drop 22 = dktX5_isDigit_1 := dk_seg dksX5_isDigit_0 22 rfl rfl
theorem dksX5_isDigit_2 : cX5_isDigit.data.toList.drop 45 = dktX5_isDigit_2 := dk_seg dksX5_isDigit_1 23 rfl rfl
theorem dX5_isDigit_0 : decode cX5_isDigit 0 = .ok (.aload_n 0, 1) := dk_42 (dk_at dksX5_isDigit_0 0 rfl rfl)
theorem dX5_isDigit_1 : decode cX5_isDigit 1 = .ok (.getfield 19, 3) := dk_180 0 19 (dk_at dksX5_isDigit_0 1 rfl rfl)
theorem dX5_isDigit_4 : decode cX5_isDigit 4 = .ok (.aload_n 0, 1) := dk_42 (dk_at dksX5_isDigit_0 4 rfl rfl)
theorem dX5_isDigit_5 : decode cX5_isDigit 5 = .ok (.getfield 3, 3) := dk_180 0 3 (dk_at dksX5_isDigit_0 5 rfl rfl)
theorem dX5_isDigit_8 : decode cX5_isDigit 8 = .ok (.getfield 23, 3) := dk_180 0 23 (dk_at dksX5_isDigit_0 8 rfl rfl)
theorem dX5_isDigit_11 : decode cX5_isDigit 11 = .ok (.if_icmp .ge 41, 3) := dk_162 0 41 (dk_at dksX5_isDigit_0 11 rfl rfl)
theorem dX5_isDigit_14 : decode cX5_isDigit 14 = .ok (.aload_n 0, 1) := dk_42 (dk_at dksX5_isDigit_0 14 rfl rfl)
theorem dX5_isDigit_15 : decode cX5_isDigit 15 = .ok (.getfield 3, 3) := dk_180 0 3 (dk_at dksX5_isDigit_0 15 rfl rfl)
theorem dX5_isDigit_18 : decode cX5_isDigit 18 = .ok (.getfield 26, 3) := dk_180 0 26 (dk_at dksX5_isDigit_0 18 rfl rfl)
theorem dX5_isDigit_21 : decode cX5_isDigit 21 = .ok (.aload_n 0, 1) := dk_42 (dk_at dksX5_isDigit_0 21 rfl rfl)
theorem dX5_isDigit_22 : decode cX5_isDigit 22 = .ok (.getfield 19, 3) := dk_180 0 19 (dk_at dksX5_isDigit_1 0 rfl rfl)
theorem dX5_isDigit_25 : decode cX5_isDigit 25 = .ok (.baload, 1) := dk_51 (dk_at dksX5_isDigit_1 3 rfl rfl)
theorem dX5_isDigit_26 : decode cX5_isDigit 26 = .ok (.bipush 48, 2) := dk_16 48 (dk_at dksX5_isDigit_1 4 rfl rfl)
theorem dX5_isDigit_28 : decode cX5_isDigit 28 = .ok (.if_icmp .lt 24, 3) := dk_161 0 24 (dk_at dksX5_isDigit_1 6 rfl rfl)
theorem dX5_isDigit_31 : decode cX5_isDigit 31 = .ok (.aload_n 0, 1) := dk_42 (dk_at dksX5_isDigit_1 9 rfl rfl)
theorem dX5_isDigit_32 : decode cX5_isDigit 32 = .ok (.getfield 3, 3) := dk_180 0 3 (dk_at dksX5_isDigit_1 10 rfl rfl)
theorem dX5_isDigit_35 : decode cX5_isDigit 35 = .ok (.getfield 26, 3) := dk_180 0 26 (dk_at dksX5_isDigit_1 13 rfl rfl)
theorem dX5_isDigit_38 : decode cX5_isDigit 38 = .ok (.aload_n 0, 1) := dk_42 (dk_at dksX5_isDigit_1 16 rfl rfl)
theorem dX5_isDigit_39 : decode cX5_isDigit 39 = .ok (.getfield 19, 3) := dk_180 0 19 (dk_at dksX5_isDigit_1 17 rfl rfl)
theorem dX5_isDigit_42 : decode cX5_isDigit 42 = .ok (.baload, 1) := dk_51 (dk_at dksX5_isDigit_1 20 rfl rfl)
theorem dX5_isDigit_43 : decode cX5_isDigit 43 = .ok (.bipush 57, 2) := dk_16 57 (dk_at dksX5_isDigit_1 21 rfl rfl)
theorem dX5_isDigit_45 : decode cX5_isDigit 45 = .ok (.if_icmp .gt 7, 3) := dk_163 0 7 (dk_at dksX5_isDigit_2 0 rfl rfl)
theorem dX5_isDigit_48 : decode cX5_isDigit 48 = .ok (.iconst 1, 1) := dk_4 (dk_at dksX5_isDigit_2 3 rfl rfl)
theorem dX5_isDigit_49 : decode cX5_isDigit 49 = .ok (.goto 4, 3) := dk_167 0 4 (dk_at dksX5_isDigit_2 4 rfl rfl)
theorem dX5_isDigit_52 : decode cX5_isDigit 52 = .ok (.iconst 0, 1) := dk_3 (dk_at dksX5_isDigit_2 7 rfl rfl)
theorem dX5_isDigit_53 : decode cX5_isDigit 53 = .ok (.ireturn, 1) := dk_172 (dk_at dksX5_isDigit_2 8 rfl rfl)
abbrev cX5_row : ByteArray := prog_4_method_11_code
def yX5_row : MethodName := ⟨RX5, "row", "(LLeapJoin$Table;)V"⟩
def dkwX5_row_3 : List UInt8 := [46, 184, 0, 82, 77, 43, 44, 182, 0, 88, 2, 160, 0, 8, 43, 44, 182, 0, 92, 177]
abbrev dktX5_row_3 : List UInt8 := dkwX5_row_3 ++ []
def dkwX5_row_2 : List UInt8 := [79, 132, 2, 1, 167, 255, 222, 42, 180, 0, 15, 3, 46, 42, 180, 0, 15, 4, 46, 42, 180, 0, 15, 5]
abbrev dktX5_row_2 : List UInt8 := dkwX5_row_2 ++ dktX5_row_3
def dkwX5_row_1 : List UInt8 := [162, 0, 31, 28, 158, 0, 9, 42, 16, 44, 182, 0, 75, 42, 180, 0, 15, 28, 42, 16, 99, 182, 0, 78]
abbrev dktX5_row_1 : List UInt8 := dkwX5_row_1 ++ dktX5_row_2
def dkwX5_row_0 : List UInt8 := [42, 180, 0, 15, 4, 2, 79, 42, 180, 0, 15, 5, 2, 79, 3, 61, 28, 43, 180, 0, 72, 190]
abbrev dktX5_row_0 : List UInt8 := dkwX5_row_0 ++ dktX5_row_1
theorem dksX5_row_0 : cX5_row.data.toList.drop 0 = dktX5_row_0 := by decide +kernel
theorem dksX5_row_1 : cX5_row.data.toList.drop 22 = dktX5_row_1 := dk_seg dksX5_row_0 22 rfl rfl
theorem dksX5_row_2 : cX5_row.data.toList.drop 46 = dktX5_row_2 := dk_seg dksX5_row_1 24 rfl rfl
theorem dksX5_row_3 : cX5_row.data.toList.drop 70 = dktX5_row_3 := dk_seg dksX5_row_2 24 rfl rfl
theorem dX5_row_0 : decode cX5_row 0 = .ok (.aload_n 0, 1) := dk_42 (dk_at dksX5_row_0 0 rfl rfl)
theorem dX5_row_1 : decode cX5_row 1 = .ok (.getfield 15, 3) := dk_180 0 15 (dk_at dksX5_row_0 1 rfl rfl)
theorem dX5_row_4 : decode cX5_row 4 = .ok (.iconst 1, 1) := dk_4 (dk_at dksX5_row_0 4 rfl rfl)
theorem dX5_row_5 : decode cX5_row 5 = .ok (.iconst (-1), 1) := dk_2 (dk_at dksX5_row_0 5 rfl rfl)
theorem dX5_row_6 : decode cX5_row 6 = .ok (.iastore, 1) := dk_79 (dk_at dksX5_row_0 6 rfl rfl)
theorem dX5_row_7 : decode cX5_row 7 = .ok (.aload_n 0, 1) := dk_42 (dk_at dksX5_row_0 7 rfl rfl)
theorem dX5_row_8 : decode cX5_row 8 = .ok (.getfield 15, 3) := dk_180 0 15 (dk_at dksX5_row_0 8 rfl rfl)
theorem dX5_row_11 : decode cX5_row 11 = .ok (.iconst 2, 1) := dk_5 (dk_at dksX5_row_0 11 rfl rfl)
theorem dX5_row_12 : decode cX5_row 12 = .ok (.iconst (-1), 1) := dk_2 (dk_at dksX5_row_0 12 rfl rfl)
theorem dX5_row_13 : decode cX5_row 13 = .ok (.iastore, 1) := dk_79 (dk_at dksX5_row_0 13 rfl rfl)
theorem dX5_row_14 : decode cX5_row 14 = .ok (.iconst 0, 1) := dk_3 (dk_at dksX5_row_0 14 rfl rfl)
theorem dX5_row_15 : decode cX5_row 15 = .ok (.istore_n 2, 1) := dk_61 (dk_at dksX5_row_0 15 rfl rfl)
theorem dX5_row_16 : decode cX5_row 16 = .ok (.iload_n 2, 1) := dk_28 (dk_at dksX5_row_0 16 rfl rfl)
theorem dX5_row_17 : decode cX5_row 17 = .ok (.aload_n 1, 1) := dk_43 (dk_at dksX5_row_0 17 rfl rfl)
theorem dX5_row_18 : decode cX5_row 18 = .ok (.getfield 72, 3) := dk_180 0 72 (dk_at dksX5_row_0 18 rfl rfl)
theorem dX5_row_21 : decode cX5_row 21 = .ok (.arraylength, 1) := dk_190 (dk_at dksX5_row_0 21 rfl rfl)
theorem dX5_row_22 : decode cX5_row 22 = .ok (.if_icmp .ge 31, 3) := dk_162 0 31 (dk_at dksX5_row_1 0 rfl rfl)
theorem dX5_row_25 : decode cX5_row 25 = .ok (.iload_n 2, 1) := dk_28 (dk_at dksX5_row_1 3 rfl rfl)
theorem dX5_row_26 : decode cX5_row 26 = .ok (.ifCond .le 9, 3) := dk_158 0 9 (dk_at dksX5_row_1 4 rfl rfl)
theorem dX5_row_29 : decode cX5_row 29 = .ok (.aload_n 0, 1) := dk_42 (dk_at dksX5_row_1 7 rfl rfl)
theorem dX5_row_30 : decode cX5_row 30 = .ok (.bipush 44, 2) := dk_16 44 (dk_at dksX5_row_1 8 rfl rfl)
theorem dX5_row_32 : decode cX5_row 32 = .ok (.invokevirtual 75, 3) := dk_182 0 75 (dk_at dksX5_row_1 10 rfl rfl)
theorem dX5_row_35 : decode cX5_row 35 = .ok (.aload_n 0, 1) := dk_42 (dk_at dksX5_row_1 13 rfl rfl)
theorem dX5_row_36 : decode cX5_row 36 = .ok (.getfield 15, 3) := dk_180 0 15 (dk_at dksX5_row_1 14 rfl rfl)
theorem dX5_row_39 : decode cX5_row 39 = .ok (.iload_n 2, 1) := dk_28 (dk_at dksX5_row_1 17 rfl rfl)
theorem dX5_row_40 : decode cX5_row 40 = .ok (.aload_n 0, 1) := dk_42 (dk_at dksX5_row_1 18 rfl rfl)
theorem dX5_row_41 : decode cX5_row 41 = .ok (.bipush 99, 2) := dk_16 99 (dk_at dksX5_row_1 19 rfl rfl)
theorem dX5_row_43 : decode cX5_row 43 = .ok (.invokevirtual 78, 3) := dk_182 0 78 (dk_at dksX5_row_1 21 rfl rfl)
theorem dX5_row_46 : decode cX5_row 46 = .ok (.iastore, 1) := dk_79 (dk_at dksX5_row_2 0 rfl rfl)
theorem dX5_row_47 : decode cX5_row 47 = .ok (.iinc 2 1, 3) := dk_132 2 1 (dk_at dksX5_row_2 1 rfl rfl)
theorem dX5_row_50 : decode cX5_row 50 = .ok (.goto (-34), 3) := dk_167 255 222 (dk_at dksX5_row_2 4 rfl rfl)
theorem dX5_row_53 : decode cX5_row 53 = .ok (.aload_n 0, 1) := dk_42 (dk_at dksX5_row_2 7 rfl rfl)
theorem dX5_row_54 : decode cX5_row 54 = .ok (.getfield 15, 3) := dk_180 0 15 (dk_at dksX5_row_2 8 rfl rfl)
theorem dX5_row_57 : decode cX5_row 57 = .ok (.iconst 0, 1) := dk_3 (dk_at dksX5_row_2 11 rfl rfl)
theorem dX5_row_58 : decode cX5_row 58 = .ok (.iaload, 1) := dk_46 (dk_at dksX5_row_2 12 rfl rfl)
theorem dX5_row_59 : decode cX5_row 59 = .ok (.aload_n 0, 1) := dk_42 (dk_at dksX5_row_2 13 rfl rfl)
theorem dX5_row_60 : decode cX5_row 60 = .ok (.getfield 15, 3) := dk_180 0 15 (dk_at dksX5_row_2 14 rfl rfl)
theorem dX5_row_63 : decode cX5_row 63 = .ok (.iconst 1, 1) := dk_4 (dk_at dksX5_row_2 17 rfl rfl)
theorem dX5_row_64 : decode cX5_row 64 = .ok (.iaload, 1) := dk_46 (dk_at dksX5_row_2 18 rfl rfl)
theorem dX5_row_65 : decode cX5_row 65 = .ok (.aload_n 0, 1) := dk_42 (dk_at dksX5_row_2 19 rfl rfl)
theorem dX5_row_66 : decode cX5_row 66 = .ok (.getfield 15, 3) := dk_180 0 15 (dk_at dksX5_row_2 20 rfl rfl)
theorem dX5_row_69 : decode cX5_row 69 = .ok (.iconst 2, 1) := dk_5 (dk_at dksX5_row_2 23 rfl rfl)
theorem dX5_row_70 : decode cX5_row 70 = .ok (.iaload, 1) := dk_46 (dk_at dksX5_row_3 0 rfl rfl)
theorem dX5_row_71 : decode cX5_row 71 = .ok (.invokestatic 82, 3) := dk_184 0 82 (dk_at dksX5_row_3 1 rfl rfl)
theorem dX5_row_74 : decode cX5_row 74 = .ok (.astore_n 2, 1) := dk_77 (dk_at dksX5_row_3 4 rfl rfl)
theorem dX5_row_75 : decode cX5_row 75 = .ok (.aload_n 1, 1) := dk_43 (dk_at dksX5_row_3 5 rfl rfl)
theorem dX5_row_76 : decode cX5_row 76 = .ok (.aload_n 2, 1) := dk_44 (dk_at dksX5_row_3 6 rfl rfl)
theorem dX5_row_77 : decode cX5_row 77 = .ok (.invokevirtual 88, 3) := dk_182 0 88 (dk_at dksX5_row_3 7 rfl rfl)
theorem dX5_row_80 : decode cX5_row 80 = .ok (.iconst (-1), 1) := dk_2 (dk_at dksX5_row_3 10 rfl rfl)
theorem dX5_row_81 : decode cX5_row 81 = .ok (.if_icmp .ne 8, 3) := dk_160 0 8 (dk_at dksX5_row_3 11 rfl rfl)
theorem dX5_row_84 : decode cX5_row 84 = .ok (.aload_n 1, 1) := dk_43 (dk_at dksX5_row_3 14 rfl rfl)
theorem dX5_row_85 : decode cX5_row 85 = .ok (.aload_n 2, 1) := dk_44 (dk_at dksX5_row_3 15 rfl rfl)
theorem dX5_row_86 : decode cX5_row 86 = .ok (.invokevirtual 92, 3) := dk_182 0 92 (dk_at dksX5_row_3 16 rfl rfl)
theorem dX5_row_89 : decode cX5_row 89 = .ok (.return_, 1) := dk_177 (dk_at dksX5_row_3 19 rfl rfl)
abbrev cX5_sign : ByteArray := prog_4_method_6_code
def yX5_sign : MethodName := ⟨RX5, "sign", "(I)V"⟩
def dkwX5_sign_0 : List UInt8 := [42, 27, 182, 0, 39, 61, 42, 28, 182, 0, 43, 62, 177]
abbrev dktX5_sign_0 : List UInt8 := dkwX5_sign_0 ++ []
theorem dksX5_sign_0 : cX5_sign.data.toList.drop 0 = dktX5_sign_0 := by decide +kernel
theorem dX5_sign_0 : decode cX5_sign 0 = .ok (.aload_n 0, 1) := dk_42 (dk_at dksX5_sign_0 0 rfl rfl)
theorem dX5_sign_1 : decode cX5_sign 1 = .ok (.iload_n 1, 1) := dk_27 (dk_at dksX5_sign_0 1 rfl rfl)
theorem dX5_sign_2 : decode cX5_sign 2 = .ok (.invokevirtual 39, 3) := dk_182 0 39 (dk_at dksX5_sign_0 2 rfl rfl)
theorem dX5_sign_5 : decode cX5_sign 5 = .ok (.istore_n 2, 1) := dk_61 (dk_at dksX5_sign_0 5 rfl rfl)
theorem dX5_sign_6 : decode cX5_sign 6 = .ok (.aload_n 0, 1) := dk_42 (dk_at dksX5_sign_0 6 rfl rfl)
theorem dX5_sign_7 : decode cX5_sign 7 = .ok (.iload_n 2, 1) := dk_28 (dk_at dksX5_sign_0 7 rfl rfl)
theorem dX5_sign_8 : decode cX5_sign 8 = .ok (.invokevirtual 43, 3) := dk_182 0 43 (dk_at dksX5_sign_0 8 rfl rfl)
theorem dX5_sign_11 : decode cX5_sign 11 = .ok (.istore_n 3, 1) := dk_62 (dk_at dksX5_sign_0 11 rfl rfl)
theorem dX5_sign_12 : decode cX5_sign 12 = .ok (.return_, 1) := dk_177 (dk_at dksX5_sign_0 12 rfl rfl)
abbrev cX5_isNext : ByteArray := prog_4_method_5_code
def yX5_isNext : MethodName := ⟨RX5, "isNext", "(I)Z"⟩
def dkwX5_isNext_0 : List UInt8 := [42, 182, 0, 35, 27, 160, 0, 7, 4, 167, 0, 4, 3, 172]
abbrev dktX5_isNext_0 : List UInt8 := dkwX5_isNext_0 ++ []
theorem dksX5_isNext_0 : cX5_isNext.data.toList.drop 0 = dktX5_isNext_0 := by decide +kernel
theorem dX5_isNext_0 : decode cX5_isNext 0 = .ok (.aload_n 0, 1) := dk_42 (dk_at dksX5_isNext_0 0 rfl rfl)
theorem dX5_isNext_1 : decode cX5_isNext 1 = .ok (.invokevirtual 35, 3) := dk_182 0 35 (dk_at dksX5_isNext_0 1 rfl rfl)
theorem dX5_isNext_4 : decode cX5_isNext 4 = .ok (.iload_n 1, 1) := dk_27 (dk_at dksX5_isNext_0 4 rfl rfl)
theorem dX5_isNext_5 : decode cX5_isNext 5 = .ok (.if_icmp .ne 7, 3) := dk_160 0 7 (dk_at dksX5_isNext_0 5 rfl rfl)
theorem dX5_isNext_8 : decode cX5_isNext 8 = .ok (.iconst 1, 1) := dk_4 (dk_at dksX5_isNext_0 8 rfl rfl)
theorem dX5_isNext_9 : decode cX5_isNext 9 = .ok (.goto 4, 3) := dk_167 0 4 (dk_at dksX5_isNext_0 9 rfl rfl)
theorem dX5_isNext_12 : decode cX5_isNext 12 = .ok (.iconst 0, 1) := dk_3 (dk_at dksX5_isNext_0 12 rfl rfl)
theorem dX5_isNext_13 : decode cX5_isNext 13 = .ok (.ireturn, 1) := dk_172 (dk_at dksX5_isNext_0 13 rfl rfl)
abbrev cX5_number : ByteArray := prog_4_method_9_code
def yX5_number : MethodName := ⟨RX5, "number", "(I)I"⟩
def dkwX5_number_3 : List UInt8 := [183, 0, 32, 191, 29, 172]
abbrev dktX5_number_3 : List UInt8 := dkwX5_number_3 ++ []
def dkwX5_number_2 : List UInt8 := [89, 42, 180, 0, 19, 183, 0, 32, 191, 29, 27, 164, 0, 17, 187, 0, 30, 89, 42, 180, 0, 19, 4, 100]
abbrev dktX5_number_2 : List UInt8 := dkwX5_number_2 ++ dktX5_number_3
def dkwX5_number_1 : List UInt8 := [16, 10, 29, 104, 42, 4, 182, 0, 43, 96, 16, 48, 100, 62, 42, 182, 0, 47, 153, 0, 15, 187, 0, 30]
abbrev dktX5_number_1 : List UInt8 := dkwX5_number_1 ++ dktX5_number_2
def dkwX5_number_0 : List UInt8 := [42, 182, 0, 35, 61, 42, 42, 182, 0, 47, 182, 0, 43, 16, 48, 100, 62, 42, 182, 0, 47, 153, 0, 17]
abbrev dktX5_number_0 : List UInt8 := dkwX5_number_0 ++ dktX5_number_1
theorem dksX5_number_0 : cX5_number.data.toList.drop 0 = dktX5_number_0 := by decide +kernel
theorem dksX5_number_1 : cX5_number.data.toList.drop 24 = dktX5_number_1 := dk_seg dksX5_number_0 24 rfl rfl
theorem dksX5_number_2 : cX5_number.data.toList.drop 48 = dktX5_number_2 := dk_seg dksX5_number_1 24 rfl rfl
theorem dksX5_number_3 : cX5_number.data.toList.drop 72 = dktX5_number_3 := dk_seg dksX5_number_2 24 rfl rfl
theorem dX5_number_0 : decode cX5_number 0 = .ok (.aload_n 0, 1) := dk_42 (dk_at dksX5_number_0 0 rfl rfl)
theorem dX5_number_1 : decode cX5_number 1 = .ok (.invokevirtual 35, 3) := dk_182 0 35 (dk_at dksX5_number_0 1 rfl rfl)
theorem dX5_number_4 : decode cX5_number 4 = .ok (.istore_n 2, 1) := dk_61 (dk_at dksX5_number_0 4 rfl rfl)
theorem dX5_number_5 : decode cX5_number 5 = .ok (.aload_n 0, 1) := dk_42 (dk_at dksX5_number_0 5 rfl rfl)
theorem dX5_number_6 : decode cX5_number 6 = .ok (.aload_n 0, 1) := dk_42 (dk_at dksX5_number_0 6 rfl rfl)
theorem dX5_number_7 : decode cX5_number 7 = .ok (.invokevirtual 47, 3) := dk_182 0 47 (dk_at dksX5_number_0 7 rfl rfl)
theorem dX5_number_10 : decode cX5_number 10 = .ok (.invokevirtual 43, 3) := dk_182 0 43 (dk_at dksX5_number_0 10 rfl rfl)
theorem dX5_number_13 : decode cX5_number 13 = .ok (.bipush 48, 2) := dk_16 48 (dk_at dksX5_number_0 13 rfl rfl)
theorem dX5_number_15 : decode cX5_number 15 = .ok (.isub, 1) := dk_100 (dk_at dksX5_number_0 15 rfl rfl)
theorem dX5_number_16 : decode cX5_number 16 = .ok (.istore_n 3, 1) := dk_62 (dk_at dksX5_number_0 16 rfl rfl)
theorem dX5_number_17 : decode cX5_number 17 = .ok (.aload_n 0, 1) := dk_42 (dk_at dksX5_number_0 17 rfl rfl)
theorem dX5_number_18 : decode cX5_number 18 = .ok (.invokevirtual 47, 3) := dk_182 0 47 (dk_at dksX5_number_0 18 rfl rfl)
theorem dX5_number_21 : decode cX5_number 21 = .ok (.ifCond .eq 17, 3) := dk_153 0 17 (dk_at dksX5_number_0 21 rfl rfl)
theorem dX5_number_24 : decode cX5_number 24 = .ok (.bipush 10, 2) := dk_16 10 (dk_at dksX5_number_1 0 rfl rfl)
theorem dX5_number_26 : decode cX5_number 26 = .ok (.iload_n 3, 1) := dk_29 (dk_at dksX5_number_1 2 rfl rfl)
theorem dX5_number_27 : decode cX5_number 27 = .ok (.imul, 1) := dk_104 (dk_at dksX5_number_1 3 rfl rfl)
theorem dX5_number_28 : decode cX5_number 28 = .ok (.aload_n 0, 1) := dk_42 (dk_at dksX5_number_1 4 rfl rfl)
theorem dX5_number_29 : decode cX5_number 29 = .ok (.iconst 1, 1) := dk_4 (dk_at dksX5_number_1 5 rfl rfl)
theorem dX5_number_30 : decode cX5_number 30 = .ok (.invokevirtual 43, 3) := dk_182 0 43 (dk_at dksX5_number_1 6 rfl rfl)
theorem dX5_number_33 : decode cX5_number 33 = .ok (.iadd, 1) := dk_96 (dk_at dksX5_number_1 9 rfl rfl)
theorem dX5_number_34 : decode cX5_number 34 = .ok (.bipush 48, 2) := dk_16 48 (dk_at dksX5_number_1 10 rfl rfl)
theorem dX5_number_36 : decode cX5_number 36 = .ok (.isub, 1) := dk_100 (dk_at dksX5_number_1 12 rfl rfl)
theorem dX5_number_37 : decode cX5_number 37 = .ok (.istore_n 3, 1) := dk_62 (dk_at dksX5_number_1 13 rfl rfl)
theorem dX5_number_38 : decode cX5_number 38 = .ok (.aload_n 0, 1) := dk_42 (dk_at dksX5_number_1 14 rfl rfl)
theorem dX5_number_39 : decode cX5_number 39 = .ok (.invokevirtual 47, 3) := dk_182 0 47 (dk_at dksX5_number_1 15 rfl rfl)
theorem dX5_number_42 : decode cX5_number 42 = .ok (.ifCond .eq 15, 3) := dk_153 0 15 (dk_at dksX5_number_1 18 rfl rfl)
theorem dX5_number_45 : decode cX5_number 45 = .ok (.new 30, 3) := dk_187 0 30 (dk_at dksX5_number_1 21 rfl rfl)
theorem dX5_number_48 : decode cX5_number 48 = .ok (.dup, 1) := dk_89 (dk_at dksX5_number_2 0 rfl rfl)
theorem dX5_number_49 : decode cX5_number 49 = .ok (.aload_n 0, 1) := dk_42 (dk_at dksX5_number_2 1 rfl rfl)
theorem dX5_number_50 : decode cX5_number 50 = .ok (.getfield 19, 3) := dk_180 0 19 (dk_at dksX5_number_2 2 rfl rfl)
theorem dX5_number_53 : decode cX5_number 53 = .ok (.invokespecial 32, 3) := dk_183 0 32 (dk_at dksX5_number_2 5 rfl rfl)
theorem dX5_number_56 : decode cX5_number 56 = .ok (.athrow, 1) := dk_191 (dk_at dksX5_number_2 8 rfl rfl)
theorem dX5_number_57 : decode cX5_number 57 = .ok (.iload_n 3, 1) := dk_29 (dk_at dksX5_number_2 9 rfl rfl)
theorem dX5_number_58 : decode cX5_number 58 = .ok (.iload_n 1, 1) := dk_27 (dk_at dksX5_number_2 10 rfl rfl)
theorem dX5_number_59 : decode cX5_number 59 = .ok (.if_icmp .le 17, 3) := dk_164 0 17 (dk_at dksX5_number_2 11 rfl rfl)
theorem dX5_number_62 : decode cX5_number 62 = .ok (.new 30, 3) := dk_187 0 30 (dk_at dksX5_number_2 14 rfl rfl)
theorem dX5_number_65 : decode cX5_number 65 = .ok (.dup, 1) := dk_89 (dk_at dksX5_number_2 17 rfl rfl)
theorem dX5_number_66 : decode cX5_number 66 = .ok (.aload_n 0, 1) := dk_42 (dk_at dksX5_number_2 18 rfl rfl)
theorem dX5_number_67 : decode cX5_number 67 = .ok (.getfield 19, 3) := dk_180 0 19 (dk_at dksX5_number_2 19 rfl rfl)
theorem dX5_number_70 : decode cX5_number 70 = .ok (.iconst 1, 1) := dk_4 (dk_at dksX5_number_2 22 rfl rfl)
theorem dX5_number_71 : decode cX5_number 71 = .ok (.isub, 1) := dk_100 (dk_at dksX5_number_2 23 rfl rfl)
theorem dX5_number_72 : decode cX5_number 72 = .ok (.invokespecial 32, 3) := dk_183 0 32 (dk_at dksX5_number_3 0 rfl rfl)
theorem dX5_number_75 : decode cX5_number 75 = .ok (.athrow, 1) := dk_191 (dk_at dksX5_number_3 3 rfl rfl)
theorem dX5_number_76 : decode cX5_number 76 = .ok (.iload_n 3, 1) := dk_29 (dk_at dksX5_number_3 4 rfl rfl)
theorem dX5_number_77 : decode cX5_number 77 = .ok (.ireturn, 1) := dk_172 (dk_at dksX5_number_3 5 rfl rfl)
abbrev cX5_ends : ByteArray := prog_4_method_7_code
def yX5_ends : MethodName := ⟨RX5, "ends", "()V"⟩
def dkwX5_ends_0 : List UInt8 := [42, 182, 0, 35, 2, 159, 0, 15, 187, 0, 30, 89, 42, 180, 0, 19, 183, 0, 32, 191, 177]
abbrev dktX5_ends_0 : List UInt8 := dkwX5_ends_0 ++ []
theorem dksX5_ends_0 : cX5_ends.data.toList.drop 0 = dktX5_ends_0 := by decide +kernel
theorem dX5_ends_0 : decode cX5_ends 0 = .ok (.aload_n 0, 1) := dk_42 (dk_at dksX5_ends_0 0 rfl rfl)
theorem dX5_ends_1 : decode cX5_ends 1 = .ok (.invokevirtual 35, 3) := dk_182 0 35 (dk_at dksX5_ends_0 1 rfl rfl)
theorem dX5_ends_4 : decode cX5_ends 4 = .ok (.iconst (-1), 1) := dk_2 (dk_at dksX5_ends_0 4 rfl rfl)
theorem dX5_ends_5 : decode cX5_ends 5 = .ok (.if_icmp .eq 15, 3) := dk_159 0 15 (dk_at dksX5_ends_0 5 rfl rfl)
theorem dX5_ends_8 : decode cX5_ends 8 = .ok (.new 30, 3) := dk_187 0 30 (dk_at dksX5_ends_0 8 rfl rfl)
theorem dX5_ends_11 : decode cX5_ends 11 = .ok (.dup, 1) := dk_89 (dk_at dksX5_ends_0 11 rfl rfl)
theorem dX5_ends_12 : decode cX5_ends 12 = .ok (.aload_n 0, 1) := dk_42 (dk_at dksX5_ends_0 12 rfl rfl)
theorem dX5_ends_13 : decode cX5_ends 13 = .ok (.getfield 19, 3) := dk_180 0 19 (dk_at dksX5_ends_0 13 rfl rfl)
theorem dX5_ends_16 : decode cX5_ends 16 = .ok (.invokespecial 32, 3) := dk_183 0 32 (dk_at dksX5_ends_0 16 rfl rfl)
theorem dX5_ends_19 : decode cX5_ends 19 = .ok (.athrow, 1) := dk_191 (dk_at dksX5_ends_0 19 rfl rfl)
theorem dX5_ends_20 : decode cX5_ends 20 = .ok (.return_, 1) := dk_177 (dk_at dksX5_ends_0 20 rfl rfl)
abbrev cX5_script : ByteArray := prog_4_method_15_code
def yX5_script : MethodName := ⟨RX5, "script", "()LLeapJoin$Script;"⟩
def dkwX5_script_2 : List UInt8 := [167, 255, 223, 42, 182, 0, 106, 43, 176]
abbrev dktX5_script_2 : List UInt8 := dkwX5_script_2 ++ []
def dkwX5_script_1 : List UInt8 := [180, 0, 121, 16, 12, 162, 0, 7, 4, 167, 0, 4, 3, 182, 0, 43, 61, 42, 43, 182, 0, 131]
abbrev dktX5_script_1 : List UInt8 := dkwX5_script_1 ++ dktX5_script_2
def dkwX5_script_0 : List UInt8 := [187, 0, 117, 89, 183, 0, 130, 76, 42, 43, 182, 0, 131, 42, 16, 59, 182, 0, 39, 153, 0, 30, 42, 43]
abbrev dktX5_script_0 : List UInt8 := dkwX5_script_0 ++ dktX5_script_1
theorem dksX5_script_0 : cX5_script.data.toList.drop 0 = dktX5_script_0 := by decide +kernel
theorem dksX5_script_1 : cX5_script.data.toList.drop 24 = dktX5_script_1 := dk_seg dksX5_script_0 24 rfl rfl
theorem dksX5_script_2 : cX5_script.data.toList.drop 46 = dktX5_script_2 := dk_seg dksX5_script_1 22 rfl rfl
theorem dX5_script_0 : decode cX5_script 0 = .ok (.new 117, 3) := dk_187 0 117 (dk_at dksX5_script_0 0 rfl rfl)
theorem dX5_script_3 : decode cX5_script 3 = .ok (.dup, 1) := dk_89 (dk_at dksX5_script_0 3 rfl rfl)
theorem dX5_script_4 : decode cX5_script 4 = .ok (.invokespecial 130, 3) := dk_183 0 130 (dk_at dksX5_script_0 4 rfl rfl)
theorem dX5_script_7 : decode cX5_script 7 = .ok (.astore_n 1, 1) := dk_76 (dk_at dksX5_script_0 7 rfl rfl)
theorem dX5_script_8 : decode cX5_script 8 = .ok (.aload_n 0, 1) := dk_42 (dk_at dksX5_script_0 8 rfl rfl)
theorem dX5_script_9 : decode cX5_script 9 = .ok (.aload_n 1, 1) := dk_43 (dk_at dksX5_script_0 9 rfl rfl)
theorem dX5_script_10 : decode cX5_script 10 = .ok (.invokevirtual 131, 3) := dk_182 0 131 (dk_at dksX5_script_0 10 rfl rfl)
theorem dX5_script_13 : decode cX5_script 13 = .ok (.aload_n 0, 1) := dk_42 (dk_at dksX5_script_0 13 rfl rfl)
theorem dX5_script_14 : decode cX5_script 14 = .ok (.bipush 59, 2) := dk_16 59 (dk_at dksX5_script_0 14 rfl rfl)
theorem dX5_script_16 : decode cX5_script 16 = .ok (.invokevirtual 39, 3) := dk_182 0 39 (dk_at dksX5_script_0 16 rfl rfl)
theorem dX5_script_19 : decode cX5_script 19 = .ok (.ifCond .eq 30, 3) := dk_153 0 30 (dk_at dksX5_script_0 19 rfl rfl)
theorem dX5_script_22 : decode cX5_script 22 = .ok (.aload_n 0, 1) := dk_42 (dk_at dksX5_script_0 22 rfl rfl)
theorem dX5_script_23 : decode cX5_script 23 = .ok (.aload_n 1, 1) := dk_43 (dk_at dksX5_script_0 23 rfl rfl)
theorem dX5_script_24 : decode cX5_script 24 = .ok (.getfield 121, 3) := dk_180 0 121 (dk_at dksX5_script_1 0 rfl rfl)
theorem dX5_script_27 : decode cX5_script 27 = .ok (.bipush 12, 2) := dk_16 12 (dk_at dksX5_script_1 3 rfl rfl)
theorem dX5_script_29 : decode cX5_script 29 = .ok (.if_icmp .ge 7, 3) := dk_162 0 7 (dk_at dksX5_script_1 5 rfl rfl)
theorem dX5_script_32 : decode cX5_script 32 = .ok (.iconst 1, 1) := dk_4 (dk_at dksX5_script_1 8 rfl rfl)
theorem dX5_script_33 : decode cX5_script 33 = .ok (.goto 4, 3) := dk_167 0 4 (dk_at dksX5_script_1 9 rfl rfl)
theorem dX5_script_36 : decode cX5_script 36 = .ok (.iconst 0, 1) := dk_3 (dk_at dksX5_script_1 12 rfl rfl)
theorem dX5_script_37 : decode cX5_script 37 = .ok (.invokevirtual 43, 3) := dk_182 0 43 (dk_at dksX5_script_1 13 rfl rfl)
theorem dX5_script_40 : decode cX5_script 40 = .ok (.istore_n 2, 1) := dk_61 (dk_at dksX5_script_1 16 rfl rfl)
theorem dX5_script_41 : decode cX5_script 41 = .ok (.aload_n 0, 1) := dk_42 (dk_at dksX5_script_1 17 rfl rfl)
theorem dX5_script_42 : decode cX5_script 42 = .ok (.aload_n 1, 1) := dk_43 (dk_at dksX5_script_1 18 rfl rfl)
theorem dX5_script_43 : decode cX5_script 43 = .ok (.invokevirtual 131, 3) := dk_182 0 131 (dk_at dksX5_script_1 19 rfl rfl)
theorem dX5_script_46 : decode cX5_script 46 = .ok (.goto (-33), 3) := dk_167 255 223 (dk_at dksX5_script_2 0 rfl rfl)
theorem dX5_script_49 : decode cX5_script 49 = .ok (.aload_n 0, 1) := dk_42 (dk_at dksX5_script_2 3 rfl rfl)
theorem dX5_script_50 : decode cX5_script 50 = .ok (.invokevirtual 106, 3) := dk_182 0 106 (dk_at dksX5_script_2 4 rfl rfl)
theorem dX5_script_53 : decode cX5_script 53 = .ok (.aload_n 1, 1) := dk_43 (dk_at dksX5_script_2 7 rfl rfl)
theorem dX5_script_54 : decode cX5_script 54 = .ok (.areturn, 1) := dk_176 (dk_at dksX5_script_2 8 rfl rfl)
abbrev cX5_step : ByteArray := prog_4_method_14_code
def yX5_step : MethodName := ⟨RX5, "step", "(LLeapJoin$Script;)V"⟩
def dkwX5_step_8 : List UInt8 := [181, 0, 121, 177]
abbrev dktX5_step_8 : List UInt8 := dkwX5_step_8 ++ []
def dkwX5_step_7 : List UInt8 := [21, 5, 96, 42, 16, 99, 182, 0, 78, 79, 132, 5, 1, 167, 255, 212, 43, 89, 180, 0, 121, 4, 96]
abbrev dktX5_step_7 : List UInt8 := dkwX5_step_7 ++ dktX5_step_8
def dkwX5_step_6 : List UInt8 := [16, 44, 182, 0, 39, 153, 0, 35, 42, 89, 180, 0, 19, 4, 96, 181, 0, 19, 43, 180, 0, 124, 21, 4]
abbrev dktX5_step_6 : List UInt8 := dkwX5_step_6 ++ dktX5_step_7
def dkwX5_step_5 : List UInt8 := [180, 0, 124, 21, 4, 4, 96, 42, 16, 99, 182, 0, 78, 79, 5, 54, 5, 21, 5, 7, 162, 0, 44, 42]
abbrev dktX5_step_5 : List UInt8 := dkwX5_step_5 ++ dktX5_step_6
def dkwX5_step_4 : List UInt8 := [182, 0, 78, 167, 0, 7, 42, 182, 0, 127, 79, 29, 5, 162, 0, 74, 42, 16, 58, 182, 0, 75, 43]
abbrev dktX5_step_4 : List UInt8 := dkwX5_step_4 ++ dktX5_step_5
def dkwX5_step_3 : List UInt8 := [2, 79, 132, 5, 1, 167, 255, 236, 43, 180, 0, 124, 21, 4, 29, 6, 160, 0, 12, 42, 16, 23]
abbrev dktX5_step_3 : List UInt8 := dkwX5_step_3 ++ dktX5_step_4
def dkwX5_step_2 : List UInt8 := [180, 0, 121, 104, 54, 4, 3, 54, 5, 21, 5, 7, 162, 0, 20, 43, 180, 0, 124, 21, 4, 21, 5, 96]
abbrev dktX5_step_2 : List UInt8 := dkwX5_step_2 ++ dktX5_step_3
def dkwX5_step_1 : List UInt8 := [159, 0, 7, 4, 167, 0, 4, 3, 182, 0, 43, 61, 43, 180, 0, 116, 43, 180, 0, 121, 29, 79, 7, 43]
abbrev dktX5_step_1 : List UInt8 := dkwX5_step_1 ++ dktX5_step_2
def dkwX5_step_0 : List UInt8 := [42, 182, 0, 35, 61, 28, 2, 160, 0, 7, 2, 167, 0, 9, 18, 109, 28, 182, 0, 111, 62, 42, 29, 2]
abbrev dktX5_step_0 : List UInt8 := dkwX5_step_0 ++ dktX5_step_1
theorem dksX5_step_0 : cX5_step.data.toList.drop 0 = dktX5_step_0 := by decide +kernel
theorem dksX5_step_1 : cX5_step.data.toList.drop 24 = dktX5_step_1 := dk_seg dksX5_step_0 24 rfl rfl
theorem dksX5_step_2 : cX5_step.data.toList.drop 48 = dktX5_step_2 := dk_seg dksX5_step_1 24 rfl rfl
theorem dksX5_step_3 : cX5_step.data.toList.drop 72 = dktX5_step_3 := dk_seg dksX5_step_2 24 rfl rfl
theorem dksX5_step_4 : cX5_step.data.toList.drop 94 = dktX5_step_4 := dk_seg dksX5_step_3 22 rfl rfl
theorem dksX5_step_5 : cX5_step.data.toList.drop 117 = dktX5_step_5 := dk_seg dksX5_step_4 23 rfl rfl
theorem dksX5_step_6 : cX5_step.data.toList.drop 141 = dktX5_step_6 := dk_seg dksX5_step_5 24 rfl rfl
theorem dksX5_step_7 : cX5_step.data.toList.drop 165 = dktX5_step_7 := dk_seg dksX5_step_6 24 rfl rfl
theorem dksX5_step_8 : cX5_step.data.toList.drop 188 = dktX5_step_8 := dk_seg dksX5_step_7 23 rfl rfl
theorem dX5_step_0 : decode cX5_step 0 = .ok (.aload_n 0, 1) := dk_42 (dk_at dksX5_step_0 0 rfl rfl)
theorem dX5_step_1 : decode cX5_step 1 = .ok (.invokevirtual 35, 3) := dk_182 0 35 (dk_at dksX5_step_0 1 rfl rfl)
theorem dX5_step_4 : decode cX5_step 4 = .ok (.istore_n 2, 1) := dk_61 (dk_at dksX5_step_0 4 rfl rfl)
theorem dX5_step_5 : decode cX5_step 5 = .ok (.iload_n 2, 1) := dk_28 (dk_at dksX5_step_0 5 rfl rfl)
theorem dX5_step_6 : decode cX5_step 6 = .ok (.iconst (-1), 1) := dk_2 (dk_at dksX5_step_0 6 rfl rfl)
theorem dX5_step_7 : decode cX5_step 7 = .ok (.if_icmp .ne 7, 3) := dk_160 0 7 (dk_at dksX5_step_0 7 rfl rfl)
theorem dX5_step_10 : decode cX5_step 10 = .ok (.iconst (-1), 1) := dk_2 (dk_at dksX5_step_0 10 rfl rfl)
theorem dX5_step_11 : decode cX5_step 11 = .ok (.goto 9, 3) := dk_167 0 9 (dk_at dksX5_step_0 11 rfl rfl)
theorem dX5_step_14 : decode cX5_step 14 = .ok (.ldc 109, 2) := dk_18 109 (dk_at dksX5_step_0 14 rfl rfl)
theorem dX5_step_16 : decode cX5_step 16 = .ok (.iload_n 2, 1) := dk_28 (dk_at dksX5_step_0 16 rfl rfl)
theorem dX5_step_17 : decode cX5_step 17 = .ok (.invokevirtual 111, 3) := dk_182 0 111 (dk_at dksX5_step_0 17 rfl rfl)
theorem dX5_step_20 : decode cX5_step 20 = .ok (.istore_n 3, 1) := dk_62 (dk_at dksX5_step_0 20 rfl rfl)
theorem dX5_step_21 : decode cX5_step 21 = .ok (.aload_n 0, 1) := dk_42 (dk_at dksX5_step_0 21 rfl rfl)
theorem dX5_step_22 : decode cX5_step 22 = .ok (.iload_n 3, 1) := dk_29 (dk_at dksX5_step_0 22 rfl rfl)
theorem dX5_step_23 : decode cX5_step 23 = .ok (.iconst (-1), 1) := dk_2 (dk_at dksX5_step_0 23 rfl rfl)
theorem dX5_step_24 : decode cX5_step 24 = .ok (.if_icmp .eq 7, 3) := dk_159 0 7 (dk_at dksX5_step_1 0 rfl rfl)
theorem dX5_step_27 : decode cX5_step 27 = .ok (.iconst 1, 1) := dk_4 (dk_at dksX5_step_1 3 rfl rfl)
theorem dX5_step_28 : decode cX5_step 28 = .ok (.goto 4, 3) := dk_167 0 4 (dk_at dksX5_step_1 4 rfl rfl)
theorem dX5_step_31 : decode cX5_step 31 = .ok (.iconst 0, 1) := dk_3 (dk_at dksX5_step_1 7 rfl rfl)
theorem dX5_step_32 : decode cX5_step 32 = .ok (.invokevirtual 43, 3) := dk_182 0 43 (dk_at dksX5_step_1 8 rfl rfl)
theorem dX5_step_35 : decode cX5_step 35 = .ok (.istore_n 2, 1) := dk_61 (dk_at dksX5_step_1 11 rfl rfl)
theorem dX5_step_36 : decode cX5_step 36 = .ok (.aload_n 1, 1) := dk_43 (dk_at dksX5_step_1 12 rfl rfl)
theorem dX5_step_37 : decode cX5_step 37 = .ok (.getfield 116, 3) := dk_180 0 116 (dk_at dksX5_step_1 13 rfl rfl)
theorem dX5_step_40 : decode cX5_step 40 = .ok (.aload_n 1, 1) := dk_43 (dk_at dksX5_step_1 16 rfl rfl)
theorem dX5_step_41 : decode cX5_step 41 = .ok (.getfield 121, 3) := dk_180 0 121 (dk_at dksX5_step_1 17 rfl rfl)
theorem dX5_step_44 : decode cX5_step 44 = .ok (.iload_n 3, 1) := dk_29 (dk_at dksX5_step_1 20 rfl rfl)
theorem dX5_step_45 : decode cX5_step 45 = .ok (.iastore, 1) := dk_79 (dk_at dksX5_step_1 21 rfl rfl)
theorem dX5_step_46 : decode cX5_step 46 = .ok (.iconst 4, 1) := dk_7 (dk_at dksX5_step_1 22 rfl rfl)
theorem dX5_step_47 : decode cX5_step 47 = .ok (.aload_n 1, 1) := dk_43 (dk_at dksX5_step_1 23 rfl rfl)
theorem dX5_step_48 : decode cX5_step 48 = .ok (.getfield 121, 3) := dk_180 0 121 (dk_at dksX5_step_2 0 rfl rfl)
theorem dX5_step_51 : decode cX5_step 51 = .ok (.imul, 1) := dk_104 (dk_at dksX5_step_2 3 rfl rfl)
theorem dX5_step_52 : decode cX5_step 52 = .ok (.istore 4, 2) := dk_54 4 (dk_at dksX5_step_2 4 rfl rfl)
theorem dX5_step_54 : decode cX5_step 54 = .ok (.iconst 0, 1) := dk_3 (dk_at dksX5_step_2 6 rfl rfl)
theorem dX5_step_55 : decode cX5_step 55 = .ok (.istore 5, 2) := dk_54 5 (dk_at dksX5_step_2 7 rfl rfl)
theorem dX5_step_57 : decode cX5_step 57 = .ok (.iload 5, 2) := dk_21 5 (dk_at dksX5_step_2 9 rfl rfl)
theorem dX5_step_59 : decode cX5_step 59 = .ok (.iconst 4, 1) := dk_7 (dk_at dksX5_step_2 11 rfl rfl)
theorem dX5_step_60 : decode cX5_step 60 = .ok (.if_icmp .ge 20, 3) := dk_162 0 20 (dk_at dksX5_step_2 12 rfl rfl)
theorem dX5_step_63 : decode cX5_step 63 = .ok (.aload_n 1, 1) := dk_43 (dk_at dksX5_step_2 15 rfl rfl)
theorem dX5_step_64 : decode cX5_step 64 = .ok (.getfield 124, 3) := dk_180 0 124 (dk_at dksX5_step_2 16 rfl rfl)
theorem dX5_step_67 : decode cX5_step 67 = .ok (.iload 4, 2) := dk_21 4 (dk_at dksX5_step_2 19 rfl rfl)
theorem dX5_step_69 : decode cX5_step 69 = .ok (.iload 5, 2) := dk_21 5 (dk_at dksX5_step_2 21 rfl rfl)
theorem dX5_step_71 : decode cX5_step 71 = .ok (.iadd, 1) := dk_96 (dk_at dksX5_step_2 23 rfl rfl)
theorem dX5_step_72 : decode cX5_step 72 = .ok (.iconst (-1), 1) := dk_2 (dk_at dksX5_step_3 0 rfl rfl)
theorem dX5_step_73 : decode cX5_step 73 = .ok (.iastore, 1) := dk_79 (dk_at dksX5_step_3 1 rfl rfl)
theorem dX5_step_74 : decode cX5_step 74 = .ok (.iinc 5 1, 3) := dk_132 5 1 (dk_at dksX5_step_3 2 rfl rfl)
theorem dX5_step_77 : decode cX5_step 77 = .ok (.goto (-20), 3) := dk_167 255 236 (dk_at dksX5_step_3 5 rfl rfl)
theorem dX5_step_80 : decode cX5_step 80 = .ok (.aload_n 1, 1) := dk_43 (dk_at dksX5_step_3 8 rfl rfl)
theorem dX5_step_81 : decode cX5_step 81 = .ok (.getfield 124, 3) := dk_180 0 124 (dk_at dksX5_step_3 9 rfl rfl)
theorem dX5_step_84 : decode cX5_step 84 = .ok (.iload 4, 2) := dk_21 4 (dk_at dksX5_step_3 12 rfl rfl)
theorem dX5_step_86 : decode cX5_step 86 = .ok (.iload_n 3, 1) := dk_29 (dk_at dksX5_step_3 14 rfl rfl)
theorem dX5_step_87 : decode cX5_step 87 = .ok (.iconst 3, 1) := dk_6 (dk_at dksX5_step_3 15 rfl rfl)
theorem dX5_step_88 : decode cX5_step 88 = .ok (.if_icmp .ne 12, 3) := dk_160 0 12 (dk_at dksX5_step_3 16 rfl rfl)
theorem dX5_step_91 : decode cX5_step 91 = .ok (.aload_n 0, 1) := dk_42 (dk_at dksX5_step_3 19 rfl rfl)
theorem dX5_step_92 : decode cX5_step 92 = .ok (.bipush 23, 2) := dk_16 23 (dk_at dksX5_step_3 20 rfl rfl)
theorem dX5_step_94 : decode cX5_step 94 = .ok (.invokevirtual 78, 3) := dk_182 0 78 (dk_at dksX5_step_4 0 rfl rfl)
theorem dX5_step_97 : decode cX5_step 97 = .ok (.goto 7, 3) := dk_167 0 7 (dk_at dksX5_step_4 3 rfl rfl)
theorem dX5_step_100 : decode cX5_step 100 = .ok (.aload_n 0, 1) := dk_42 (dk_at dksX5_step_4 6 rfl rfl)
theorem dX5_step_101 : decode cX5_step 101 = .ok (.invokevirtual 127, 3) := dk_182 0 127 (dk_at dksX5_step_4 7 rfl rfl)
theorem dX5_step_104 : decode cX5_step 104 = .ok (.iastore, 1) := dk_79 (dk_at dksX5_step_4 10 rfl rfl)
theorem dX5_step_105 : decode cX5_step 105 = .ok (.iload_n 3, 1) := dk_29 (dk_at dksX5_step_4 11 rfl rfl)
theorem dX5_step_106 : decode cX5_step 106 = .ok (.iconst 2, 1) := dk_5 (dk_at dksX5_step_4 12 rfl rfl)
theorem dX5_step_107 : decode cX5_step 107 = .ok (.if_icmp .ge 74, 3) := dk_162 0 74 (dk_at dksX5_step_4 13 rfl rfl)
theorem dX5_step_110 : decode cX5_step 110 = .ok (.aload_n 0, 1) := dk_42 (dk_at dksX5_step_4 16 rfl rfl)
theorem dX5_step_111 : decode cX5_step 111 = .ok (.bipush 58, 2) := dk_16 58 (dk_at dksX5_step_4 17 rfl rfl)
theorem dX5_step_113 : decode cX5_step 113 = .ok (.invokevirtual 75, 3) := dk_182 0 75 (dk_at dksX5_step_4 19 rfl rfl)
theorem dX5_step_116 : decode cX5_step 116 = .ok (.aload_n 1, 1) := dk_43 (dk_at dksX5_step_4 22 rfl rfl)
theorem dX5_step_117 : decode cX5_step 117 = .ok (.getfield 124, 3) := dk_180 0 124 (dk_at dksX5_step_5 0 rfl rfl)
theorem dX5_step_120 : decode cX5_step 120 = .ok (.iload 4, 2) := dk_21 4 (dk_at dksX5_step_5 3 rfl rfl)
theorem dX5_step_122 : decode cX5_step 122 = .ok (.iconst 1, 1) := dk_4 (dk_at dksX5_step_5 5 rfl rfl)
theorem dX5_step_123 : decode cX5_step 123 = .ok (.iadd, 1) := dk_96 (dk_at dksX5_step_5 6 rfl rfl)
theorem dX5_step_124 : decode cX5_step 124 = .ok (.aload_n 0, 1) := dk_42 (dk_at dksX5_step_5 7 rfl rfl)
theorem dX5_step_125 : decode cX5_step 125 = .ok (.bipush 99, 2) := dk_16 99 (dk_at dksX5_step_5 8 rfl rfl)
theorem dX5_step_127 : decode cX5_step 127 = .ok (.invokevirtual 78, 3) := dk_182 0 78 (dk_at dksX5_step_5 10 rfl rfl)
theorem dX5_step_130 : decode cX5_step 130 = .ok (.iastore, 1) := dk_79 (dk_at dksX5_step_5 13 rfl rfl)
theorem dX5_step_131 : decode cX5_step 131 = .ok (.iconst 2, 1) := dk_5 (dk_at dksX5_step_5 14 rfl rfl)
theorem dX5_step_132 : decode cX5_step 132 = .ok (.istore 5, 2) := dk_54 5 (dk_at dksX5_step_5 15 rfl rfl)
theorem dX5_step_134 : decode cX5_step 134 = .ok (.iload 5, 2) := dk_21 5 (dk_at dksX5_step_5 17 rfl rfl)
theorem dX5_step_136 : decode cX5_step 136 = .ok (.iconst 4, 1) := dk_7 (dk_at dksX5_step_5 19 rfl rfl)
theorem dX5_step_137 : decode cX5_step 137 = .ok (.if_icmp .ge 44, 3) := dk_162 0 44 (dk_at dksX5_step_5 20 rfl rfl)
theorem dX5_step_140 : decode cX5_step 140 = .ok (.aload_n 0, 1) := dk_42 (dk_at dksX5_step_5 23 rfl rfl)
theorem dX5_step_141 : decode cX5_step 141 = .ok (.bipush 44, 2) := dk_16 44 (dk_at dksX5_step_6 0 rfl rfl)
theorem dX5_step_143 : decode cX5_step 143 = .ok (.invokevirtual 39, 3) := dk_182 0 39 (dk_at dksX5_step_6 2 rfl rfl)
theorem dX5_step_146 : decode cX5_step 146 = .ok (.ifCond .eq 35, 3) := dk_153 0 35 (dk_at dksX5_step_6 5 rfl rfl)
theorem dX5_step_149 : decode cX5_step 149 = .ok (.aload_n 0, 1) := dk_42 (dk_at dksX5_step_6 8 rfl rfl)
theorem dX5_step_150 : decode cX5_step 150 = .ok (.dup, 1) := dk_89 (dk_at dksX5_step_6 9 rfl rfl)
theorem dX5_step_151 : decode cX5_step 151 = .ok (.getfield 19, 3) := dk_180 0 19 (dk_at dksX5_step_6 10 rfl rfl)
theorem dX5_step_154 : decode cX5_step 154 = .ok (.iconst 1, 1) := dk_4 (dk_at dksX5_step_6 13 rfl rfl)
theorem dX5_step_155 : decode cX5_step 155 = .ok (.iadd, 1) := dk_96 (dk_at dksX5_step_6 14 rfl rfl)
theorem dX5_step_156 : decode cX5_step 156 = .ok (.putfield 19, 3) := dk_181 0 19 (dk_at dksX5_step_6 15 rfl rfl)
theorem dX5_step_159 : decode cX5_step 159 = .ok (.aload_n 1, 1) := dk_43 (dk_at dksX5_step_6 18 rfl rfl)
theorem dX5_step_160 : decode cX5_step 160 = .ok (.getfield 124, 3) := dk_180 0 124 (dk_at dksX5_step_6 19 rfl rfl)
theorem dX5_step_163 : decode cX5_step 163 = .ok (.iload 4, 2) := dk_21 4 (dk_at dksX5_step_6 22 rfl rfl)
theorem dX5_step_165 : decode cX5_step 165 = .ok (.iload 5, 2) := dk_21 5 (dk_at dksX5_step_7 0 rfl rfl)
theorem dX5_step_167 : decode cX5_step 167 = .ok (.iadd, 1) := dk_96 (dk_at dksX5_step_7 2 rfl rfl)
theorem dX5_step_168 : decode cX5_step 168 = .ok (.aload_n 0, 1) := dk_42 (dk_at dksX5_step_7 3 rfl rfl)
theorem dX5_step_169 : decode cX5_step 169 = .ok (.bipush 99, 2) := dk_16 99 (dk_at dksX5_step_7 4 rfl rfl)
theorem dX5_step_171 : decode cX5_step 171 = .ok (.invokevirtual 78, 3) := dk_182 0 78 (dk_at dksX5_step_7 6 rfl rfl)
theorem dX5_step_174 : decode cX5_step 174 = .ok (.iastore, 1) := dk_79 (dk_at dksX5_step_7 9 rfl rfl)
theorem dX5_step_175 : decode cX5_step 175 = .ok (.iinc 5 1, 3) := dk_132 5 1 (dk_at dksX5_step_7 10 rfl rfl)
theorem dX5_step_178 : decode cX5_step 178 = .ok (.goto (-44), 3) := dk_167 255 212 (dk_at dksX5_step_7 13 rfl rfl)
theorem dX5_step_181 : decode cX5_step 181 = .ok (.aload_n 1, 1) := dk_43 (dk_at dksX5_step_7 16 rfl rfl)
theorem dX5_step_182 : decode cX5_step 182 = .ok (.dup, 1) := dk_89 (dk_at dksX5_step_7 17 rfl rfl)
theorem dX5_step_183 : decode cX5_step 183 = .ok (.getfield 121, 3) := dk_180 0 121 (dk_at dksX5_step_7 18 rfl rfl)
theorem dX5_step_186 : decode cX5_step 186 = .ok (.iconst 1, 1) := dk_4 (dk_at dksX5_step_7 21 rfl rfl)
theorem dX5_step_187 : decode cX5_step 187 = .ok (.iadd, 1) := dk_96 (dk_at dksX5_step_7 22 rfl rfl)
theorem dX5_step_188 : decode cX5_step 188 = .ok (.putfield 121, 3) := dk_181 0 121 (dk_at dksX5_step_8 0 rfl rfl)
theorem dX5_step_191 : decode cX5_step 191 = .ok (.return_, 1) := dk_177 (dk_at dksX5_step_8 3 rfl rfl)
abbrev cX5_digit : ByteArray := prog_4_method_8_code
def yX5_digit : MethodName := ⟨RX5, "digit", "()I"⟩
def dkwX5_digit_0 : List UInt8 := [42, 182, 0, 35, 60, 42, 42, 182, 0, 47, 182, 0, 43, 16, 48, 100, 172]
abbrev dktX5_digit_0 : List UInt8 := dkwX5_digit_0 ++ []
theorem dksX5_digit_0 : cX5_digit.data.toList.drop 0 = dktX5_digit_0 := by decide +kernel
theorem dX5_digit_0 : decode cX5_digit 0 = .ok (.aload_n 0, 1) := dk_42 (dk_at dksX5_digit_0 0 rfl rfl)
theorem dX5_digit_1 : decode cX5_digit 1 = .ok (.invokevirtual 35, 3) := dk_182 0 35 (dk_at dksX5_digit_0 1 rfl rfl)
theorem dX5_digit_4 : decode cX5_digit 4 = .ok (.istore_n 1, 1) := dk_60 (dk_at dksX5_digit_0 4 rfl rfl)
theorem dX5_digit_5 : decode cX5_digit 5 = .ok (.aload_n 0, 1) := dk_42 (dk_at dksX5_digit_0 5 rfl rfl)
theorem dX5_digit_6 : decode cX5_digit 6 = .ok (.aload_n 0, 1) := dk_42 (dk_at dksX5_digit_0 6 rfl rfl)
theorem dX5_digit_7 : decode cX5_digit 7 = .ok (.invokevirtual 47, 3) := dk_182 0 47 (dk_at dksX5_digit_0 7 rfl rfl)
theorem dX5_digit_10 : decode cX5_digit 10 = .ok (.invokevirtual 43, 3) := dk_182 0 43 (dk_at dksX5_digit_0 10 rfl rfl)
theorem dX5_digit_13 : decode cX5_digit 13 = .ok (.bipush 48, 2) := dk_16 48 (dk_at dksX5_digit_0 13 rfl rfl)
theorem dX5_digit_15 : decode cX5_digit 15 = .ok (.isub, 1) := dk_100 (dk_at dksX5_digit_0 15 rfl rfl)
theorem dX5_digit_16 : decode cX5_digit 16 = .ok (.ireturn, 1) := dk_172 (dk_at dksX5_digit_0 16 rfl rfl)
theorem q126 : (Jvm.Cond.initialized "LeapJoin$Reader") ∈ lw_all := lw_g (lw_at lw_m1 5 rfl) rfl
theorem q272 : (Jvm.Cond.fieldLinkNest "LeapJoin$Reader" (26 : Nat) "LeapJoin" "tape" "[B" "LeapJoin") ∈ lw_tbl := lw_at lw_m1 151 rfl
theorem q274 : (Jvm.Cond.fieldLinkNest "LeapJoin$Reader" (23 : Nat) "LeapJoin" "length" "I" "LeapJoin") ∈ lw_tbl := lw_at lw_m1 153 rfl
theorem q353 : (Jvm.Cond.instantiable "LeapJoin$Reader" (3 : Nat)) ∈ lw_all := lw_g (lw_at lw_m1 232 rfl) rfl
theorem q355 : (Jvm.Cond.instanceMethod ({ cls := "LeapJoin$Reader", name := "<init>", desc := "(LLeapJoin;)V" } : Jvm.MethodName)) ∈ lw_all := lw_g (lw_at lw_m1 234 rfl) rfl
theorem q356 : (Jvm.Cond.code ({ cls := "LeapJoin$Reader", name := "<init>", desc := "(LLeapJoin;)V" } : Jvm.MethodName) prog_4_method_1_code (2 : Nat) (Option.none : Option Jvm.ClassFile.FieldType)) ∈ lw_all := lw_g (lw_at lw_m1 235 rfl) rfl
theorem q357 : (Jvm.Cond.methodLink "LeapJoin$Reader" (9 : Nat) ({ cls := "java/lang/Object", name := "<init>", desc := "()V" } : Jvm.MethodName)) ∈ lw_all := lw_g (lw_at lw_m1 236 rfl) rfl
theorem q358 : (Jvm.Cond.fieldLink "LeapJoin$Reader" (15 : Nat) "LeapJoin$Reader" "three" "[I") ∈ lw_all := lw_g (lw_at lw_m1 237 rfl) rfl
theorem q359 : (Jvm.Cond.fieldLink "LeapJoin$Reader" (19 : Nat) "LeapJoin$Reader" "at" "I") ∈ lw_all := lw_g (lw_at lw_m1 238 rfl) rfl
theorem q360 : (Jvm.Cond.fieldLink "LeapJoin$Reader" (3 : Nat) "LeapJoin$Reader" "this$0" "LLeapJoin;") ∈ lw_all := lw_g (lw_at lw_m1 239 rfl) rfl
theorem q361 : (Jvm.Cond.laysFinal "LeapJoin$Reader" "LeapJoin$Reader" "three" "[I") ∈ lw_all := lw_g (lw_at lw_m2 0 rfl) rfl
theorem q362 : (Jvm.Cond.soleField "LeapJoin$Reader" "three") ∈ lw_all := lw_g (lw_at lw_m2 1 rfl) rfl
theorem q363 : (Jvm.Cond.lays "LeapJoin$Reader" "LeapJoin$Reader" "at" "I") ∈ lw_all := lw_g (lw_at lw_m2 2 rfl) rfl
theorem q364 : (Jvm.Cond.soleField "LeapJoin$Reader" "at") ∈ lw_all := lw_g (lw_at lw_m2 3 rfl) rfl
theorem q365 : (Jvm.Cond.laysFinal "LeapJoin$Reader" "LeapJoin$Reader" "this$0" "LLeapJoin;") ∈ lw_all := lw_g (lw_at lw_m2 4 rfl) rfl
theorem q366 : (Jvm.Cond.soleField "LeapJoin$Reader" "this$0") ∈ lw_all := lw_g (lw_at lw_m2 5 rfl) rfl
theorem q367 : (Jvm.Cond.superclass "LeapJoin$Reader" "java/lang/Object") ∈ lw_all := lw_g (lw_at lw_m2 6 rfl) rfl
theorem q369 : (Jvm.Cond.instanceMethod ({ cls := "LeapJoin$Reader", name := "tables", desc := "([LLeapJoin$Table;)I" } : Jvm.MethodName)) ∈ lw_all := lw_g (lw_at lw_m2 8 rfl) rfl
theorem q370 : (Jvm.Cond.selects "LeapJoin$Reader" ({ cls := "LeapJoin$Reader", name := "tables", desc := "([LLeapJoin$Table;)I" } : Jvm.MethodName) ({ cls := "LeapJoin$Reader", name := "tables", desc := "([LLeapJoin$Table;)I" } : Jvm.MethodName)) ∈ lw_all := lw_g (lw_at lw_m2 9 rfl) rfl
theorem q371 : (Jvm.Cond.code ({ cls := "LeapJoin$Reader", name := "tables", desc := "([LLeapJoin$Table;)I" } : Jvm.MethodName) prog_4_method_13_code (4 : Nat) (Option.some Jvm.ClassFile.FieldType.int)) ∈ lw_all := lw_g (lw_at lw_m2 10 rfl) rfl
theorem q372 : (Jvm.Cond.methodLink "LeapJoin$Reader" (103 : Nat) ({ cls := "LeapJoin$Reader", name := "table", desc := "()LLeapJoin$Table;" } : Jvm.MethodName)) ∈ lw_all := lw_g (lw_at lw_m2 11 rfl) rfl
theorem q373 : (Jvm.Cond.privateMethod ({ cls := "LeapJoin$Reader", name := "table", desc := "()LLeapJoin$Table;" } : Jvm.MethodName)) ∈ lw_tbl := lw_at lw_m2 12 rfl
theorem q374 : (Jvm.Cond.instanceMethod ({ cls := "LeapJoin$Reader", name := "table", desc := "()LLeapJoin$Table;" } : Jvm.MethodName)) ∈ lw_all := lw_g (lw_at lw_m2 13 rfl) rfl
theorem q375 : (Jvm.Cond.code ({ cls := "LeapJoin$Reader", name := "table", desc := "()LLeapJoin$Table;" } : Jvm.MethodName) prog_4_method_12_code (4 : Nat) (Option.some (Jvm.ClassFile.FieldType.object "LeapJoin$Table"))) ∈ lw_all := lw_g (lw_at lw_m2 14 rfl) rfl
theorem q376 : (Jvm.Cond.methodLink "LeapJoin$Reader" (96 : Nat) ({ cls := "LeapJoin$Reader", name := "letters", desc := "()LLeapJoin$Table;" } : Jvm.MethodName)) ∈ lw_all := lw_g (lw_at lw_m2 15 rfl) rfl
theorem q377 : (Jvm.Cond.privateMethod ({ cls := "LeapJoin$Reader", name := "letters", desc := "()LLeapJoin$Table;" } : Jvm.MethodName)) ∈ lw_tbl := lw_at lw_m2 16 rfl
theorem q378 : (Jvm.Cond.instanceMethod ({ cls := "LeapJoin$Reader", name := "letters", desc := "()LLeapJoin$Table;" } : Jvm.MethodName)) ∈ lw_all := lw_g (lw_at lw_m2 17 rfl) rfl
theorem q379 : (Jvm.Cond.code ({ cls := "LeapJoin$Reader", name := "letters", desc := "()LLeapJoin$Table;" } : Jvm.MethodName) prog_4_method_10_code (5 : Nat) (Option.some (Jvm.ClassFile.FieldType.object "LeapJoin$Table"))) ∈ lw_all := lw_g (lw_at lw_m2 18 rfl) rfl
theorem q380 : (Jvm.Cond.methodLink "LeapJoin$Reader" (35 : Nat) ({ cls := "LeapJoin$Reader", name := "peek", desc := "()I" } : Jvm.MethodName)) ∈ lw_all := lw_g (lw_at lw_m2 19 rfl) rfl
theorem q381 : (Jvm.Cond.privateMethod ({ cls := "LeapJoin$Reader", name := "peek", desc := "()I" } : Jvm.MethodName)) ∈ lw_tbl := lw_at lw_m2 20 rfl
theorem q382 : (Jvm.Cond.instanceMethod ({ cls := "LeapJoin$Reader", name := "peek", desc := "()I" } : Jvm.MethodName)) ∈ lw_all := lw_g (lw_at lw_m2 21 rfl) rfl
theorem q383 : (Jvm.Cond.code ({ cls := "LeapJoin$Reader", name := "peek", desc := "()I" } : Jvm.MethodName) prog_4_method_2_code (1 : Nat) (Option.some Jvm.ClassFile.FieldType.int)) ∈ lw_all := lw_g (lw_at lw_m2 22 rfl) rfl
theorem q384 : (Jvm.Cond.constantLong "LeapJoin$Reader" (51 : Nat) (3 : Int64)) ∈ lw_all := lw_g (lw_at lw_m2 23 rfl) rfl
theorem q385 : (Jvm.Cond.methodLinkNest "LeapJoin$Reader" (53 : Nat) ({ cls := "LeapJoin", name := "isIn", desc := "(JJJ)Z" } : Jvm.MethodName) "LeapJoin") ∈ lw_tbl := lw_at lw_m2 24 rfl
theorem q386 : (Jvm.Cond.methodLinkNest "LeapJoin$Reader" (57 : Nat) ({ cls := "LeapJoin", name := "has", desc := "(II)Z" } : Jvm.MethodName) "LeapJoin") ∈ lw_tbl := lw_at lw_m2 25 rfl
theorem q389 : (Jvm.Cond.methodLink "LeapJoin$Reader" (43 : Nat) ({ cls := "LeapJoin$Reader", name := "take", desc := "(Z)I" } : Jvm.MethodName)) ∈ lw_all := lw_g (lw_at lw_m2 28 rfl) rfl
theorem q390 : (Jvm.Cond.privateMethod ({ cls := "LeapJoin$Reader", name := "take", desc := "(Z)I" } : Jvm.MethodName)) ∈ lw_tbl := lw_at lw_m2 29 rfl
theorem q391 : (Jvm.Cond.instanceMethod ({ cls := "LeapJoin$Reader", name := "take", desc := "(Z)I" } : Jvm.MethodName)) ∈ lw_all := lw_g (lw_at lw_m2 30 rfl) rfl
theorem q392 : (Jvm.Cond.code ({ cls := "LeapJoin$Reader", name := "take", desc := "(Z)I" } : Jvm.MethodName) prog_4_method_3_code (2 : Nat) (Option.some Jvm.ClassFile.FieldType.int)) ∈ lw_all := lw_g (lw_at lw_m2 31 rfl) rfl
theorem q393 : (Jvm.Cond.classLink "LeapJoin$Reader" (30 : Nat) "LeapJoin$Wrong") ∈ lw_all := lw_g (lw_at lw_m2 32 rfl) rfl
theorem q432 : (Jvm.Cond.methodLink "LeapJoin$Reader" (32 : Nat) ({ cls := "LeapJoin$Wrong", name := "<init>", desc := "(I)V" } : Jvm.MethodName)) ∈ lw_all := lw_g (lw_at lw_m2 71 rfl) rfl
theorem q458 : (Jvm.Cond.methodLink "LeapJoin$Reader" (61 : Nat) ({ cls := "java/lang/System", name := "arraycopy", desc := "(Ljava/lang/Object;ILjava/lang/Object;II)V" } : Jvm.MethodName)) ∈ lw_all := lw_g (lw_at lw_m2 97 rfl) rfl
theorem q461 : (Jvm.Cond.classLink "LeapJoin$Reader" (67 : Nat) "LeapJoin$Table") ∈ lw_all := lw_g (lw_at lw_m2 100 rfl) rfl
theorem q463 : (Jvm.Cond.methodLink "LeapJoin$Reader" (69 : Nat) ({ cls := "LeapJoin$Table", name := "<init>", desc := "([I)V" } : Jvm.MethodName)) ∈ lw_all := lw_g (lw_at lw_m2 102 rfl) rfl
theorem q485 : (Jvm.Cond.fieldLinkNest "LeapJoin$Reader" (72 : Nat) "LeapJoin$Table" "letters" "[I" "LeapJoin") ∈ lw_tbl := lw_at lw_m2 124 rfl
theorem q502 : (Jvm.Cond.methodLink "LeapJoin$Reader" (47 : Nat) ({ cls := "LeapJoin$Reader", name := "isDigit", desc := "()Z" } : Jvm.MethodName)) ∈ lw_all := lw_g (lw_at lw_m2 141 rfl) rfl
theorem q503 : (Jvm.Cond.privateMethod ({ cls := "LeapJoin$Reader", name := "isDigit", desc := "()Z" } : Jvm.MethodName)) ∈ lw_tbl := lw_at lw_m2 142 rfl
theorem q504 : (Jvm.Cond.instanceMethod ({ cls := "LeapJoin$Reader", name := "isDigit", desc := "()Z" } : Jvm.MethodName)) ∈ lw_all := lw_g (lw_at lw_m2 143 rfl) rfl
theorem q505 : (Jvm.Cond.code ({ cls := "LeapJoin$Reader", name := "isDigit", desc := "()Z" } : Jvm.MethodName) prog_4_method_4_code (1 : Nat) (Option.some Jvm.ClassFile.FieldType.boolean)) ∈ lw_all := lw_g (lw_at lw_m2 144 rfl) rfl
theorem q506 : (Jvm.Cond.methodLink "LeapJoin$Reader" (99 : Nat) ({ cls := "LeapJoin$Reader", name := "row", desc := "(LLeapJoin$Table;)V" } : Jvm.MethodName)) ∈ lw_all := lw_g (lw_at lw_m2 145 rfl) rfl
theorem q507 : (Jvm.Cond.privateMethod ({ cls := "LeapJoin$Reader", name := "row", desc := "(LLeapJoin$Table;)V" } : Jvm.MethodName)) ∈ lw_tbl := lw_at lw_m2 146 rfl
theorem q508 : (Jvm.Cond.instanceMethod ({ cls := "LeapJoin$Reader", name := "row", desc := "(LLeapJoin$Table;)V" } : Jvm.MethodName)) ∈ lw_all := lw_g (lw_at lw_m2 147 rfl) rfl
theorem q509 : (Jvm.Cond.code ({ cls := "LeapJoin$Reader", name := "row", desc := "(LLeapJoin$Table;)V" } : Jvm.MethodName) prog_4_method_11_code (3 : Nat) (Option.none : Option Jvm.ClassFile.FieldType)) ∈ lw_all := lw_g (lw_at lw_m2 148 rfl) rfl
theorem q510 : (Jvm.Cond.methodLink "LeapJoin$Reader" (75 : Nat) ({ cls := "LeapJoin$Reader", name := "sign", desc := "(I)V" } : Jvm.MethodName)) ∈ lw_all := lw_g (lw_at lw_m2 149 rfl) rfl
theorem q511 : (Jvm.Cond.privateMethod ({ cls := "LeapJoin$Reader", name := "sign", desc := "(I)V" } : Jvm.MethodName)) ∈ lw_tbl := lw_at lw_m2 150 rfl
theorem q512 : (Jvm.Cond.instanceMethod ({ cls := "LeapJoin$Reader", name := "sign", desc := "(I)V" } : Jvm.MethodName)) ∈ lw_all := lw_g (lw_at lw_m2 151 rfl) rfl
theorem q513 : (Jvm.Cond.code ({ cls := "LeapJoin$Reader", name := "sign", desc := "(I)V" } : Jvm.MethodName) prog_4_method_6_code (4 : Nat) (Option.none : Option Jvm.ClassFile.FieldType)) ∈ lw_all := lw_g (lw_at lw_m2 152 rfl) rfl
theorem q514 : (Jvm.Cond.methodLink "LeapJoin$Reader" (39 : Nat) ({ cls := "LeapJoin$Reader", name := "isNext", desc := "(I)Z" } : Jvm.MethodName)) ∈ lw_all := lw_g (lw_at lw_m2 153 rfl) rfl
theorem q515 : (Jvm.Cond.privateMethod ({ cls := "LeapJoin$Reader", name := "isNext", desc := "(I)Z" } : Jvm.MethodName)) ∈ lw_tbl := lw_at lw_m2 154 rfl
theorem q516 : (Jvm.Cond.instanceMethod ({ cls := "LeapJoin$Reader", name := "isNext", desc := "(I)Z" } : Jvm.MethodName)) ∈ lw_all := lw_g (lw_at lw_m2 155 rfl) rfl
theorem q517 : (Jvm.Cond.code ({ cls := "LeapJoin$Reader", name := "isNext", desc := "(I)Z" } : Jvm.MethodName) prog_4_method_5_code (2 : Nat) (Option.some Jvm.ClassFile.FieldType.boolean)) ∈ lw_all := lw_g (lw_at lw_m2 156 rfl) rfl
theorem q518 : (Jvm.Cond.methodLink "LeapJoin$Reader" (78 : Nat) ({ cls := "LeapJoin$Reader", name := "number", desc := "(I)I" } : Jvm.MethodName)) ∈ lw_all := lw_g (lw_at lw_m2 157 rfl) rfl
theorem q519 : (Jvm.Cond.privateMethod ({ cls := "LeapJoin$Reader", name := "number", desc := "(I)I" } : Jvm.MethodName)) ∈ lw_tbl := lw_at lw_m2 158 rfl
theorem q520 : (Jvm.Cond.instanceMethod ({ cls := "LeapJoin$Reader", name := "number", desc := "(I)I" } : Jvm.MethodName)) ∈ lw_all := lw_g (lw_at lw_m2 159 rfl) rfl
theorem q521 : (Jvm.Cond.code ({ cls := "LeapJoin$Reader", name := "number", desc := "(I)I" } : Jvm.MethodName) prog_4_method_9_code (4 : Nat) (Option.some Jvm.ClassFile.FieldType.int)) ∈ lw_all := lw_g (lw_at lw_m2 160 rfl) rfl
theorem q522 : (Jvm.Cond.methodLink "LeapJoin$Reader" (82 : Nat) ({ cls := "LeapJoin$Row", name := "of", desc := "(III)LLeapJoin$Row;" } : Jvm.MethodName)) ∈ lw_all := lw_g (lw_at lw_m2 161 rfl) rfl
theorem q566 : (Jvm.Cond.methodLink "LeapJoin$Reader" (88 : Nat) ({ cls := "LeapJoin$Table", name := "spotOf", desc := "(LLeapJoin$Row;)I" } : Jvm.MethodName)) ∈ lw_all := lw_g (lw_at lw_m2 205 rfl) rfl
theorem q601 : (Jvm.Cond.methodLink "LeapJoin$Reader" (92 : Nat) ({ cls := "LeapJoin$Table", name := "takes", desc := "(LLeapJoin$Row;)V" } : Jvm.MethodName)) ∈ lw_all := lw_g (lw_at lw_m3 0 rfl) rfl
theorem q605 : (Jvm.Cond.methodLink "LeapJoin$Reader" (106 : Nat) ({ cls := "LeapJoin$Reader", name := "ends", desc := "()V" } : Jvm.MethodName)) ∈ lw_all := lw_g (lw_at lw_m3 4 rfl) rfl
theorem q606 : (Jvm.Cond.privateMethod ({ cls := "LeapJoin$Reader", name := "ends", desc := "()V" } : Jvm.MethodName)) ∈ lw_tbl := lw_at lw_m3 5 rfl
theorem q607 : (Jvm.Cond.instanceMethod ({ cls := "LeapJoin$Reader", name := "ends", desc := "()V" } : Jvm.MethodName)) ∈ lw_all := lw_g (lw_at lw_m3 6 rfl) rfl
theorem q608 : (Jvm.Cond.code ({ cls := "LeapJoin$Reader", name := "ends", desc := "()V" } : Jvm.MethodName) prog_4_method_7_code (1 : Nat) (Option.none : Option Jvm.ClassFile.FieldType)) ∈ lw_all := lw_g (lw_at lw_m3 7 rfl) rfl
theorem q610 : (Jvm.Cond.instanceMethod ({ cls := "LeapJoin$Reader", name := "script", desc := "()LLeapJoin$Script;" } : Jvm.MethodName)) ∈ lw_all := lw_g (lw_at lw_m3 9 rfl) rfl
theorem q611 : (Jvm.Cond.selects "LeapJoin$Reader" ({ cls := "LeapJoin$Reader", name := "script", desc := "()LLeapJoin$Script;" } : Jvm.MethodName) ({ cls := "LeapJoin$Reader", name := "script", desc := "()LLeapJoin$Script;" } : Jvm.MethodName)) ∈ lw_all := lw_g (lw_at lw_m3 10 rfl) rfl
theorem q612 : (Jvm.Cond.code ({ cls := "LeapJoin$Reader", name := "script", desc := "()LLeapJoin$Script;" } : Jvm.MethodName) prog_4_method_15_code (3 : Nat) (Option.some (Jvm.ClassFile.FieldType.object "LeapJoin$Script"))) ∈ lw_all := lw_g (lw_at lw_m3 11 rfl) rfl
theorem q613 : (Jvm.Cond.classLink "LeapJoin$Reader" (117 : Nat) "LeapJoin$Script") ∈ lw_all := lw_g (lw_at lw_m3 12 rfl) rfl
theorem q615 : (Jvm.Cond.methodLinkNest "LeapJoin$Reader" (130 : Nat) ({ cls := "LeapJoin$Script", name := "<init>", desc := "()V" } : Jvm.MethodName) "LeapJoin") ∈ lw_tbl := lw_at lw_m3 14 rfl
theorem q620 : (Jvm.Cond.fieldLinkNest "LeapJoin$Reader" (116 : Nat) "LeapJoin$Script" "what" "[I" "LeapJoin") ∈ lw_tbl := lw_at lw_m3 19 rfl
theorem q623 : (Jvm.Cond.fieldLinkNest "LeapJoin$Reader" (124 : Nat) "LeapJoin$Script" "numbers" "[I" "LeapJoin") ∈ lw_tbl := lw_at lw_m3 22 rfl
theorem q624 : (Jvm.Cond.fieldLinkNest "LeapJoin$Reader" (121 : Nat) "LeapJoin$Script" "many" "I" "LeapJoin") ∈ lw_tbl := lw_at lw_m3 23 rfl
theorem q633 : (Jvm.Cond.methodLink "LeapJoin$Reader" (131 : Nat) ({ cls := "LeapJoin$Reader", name := "step", desc := "(LLeapJoin$Script;)V" } : Jvm.MethodName)) ∈ lw_all := lw_g (lw_at lw_m3 32 rfl) rfl
theorem q634 : (Jvm.Cond.privateMethod ({ cls := "LeapJoin$Reader", name := "step", desc := "(LLeapJoin$Script;)V" } : Jvm.MethodName)) ∈ lw_tbl := lw_at lw_m3 33 rfl
theorem q635 : (Jvm.Cond.instanceMethod ({ cls := "LeapJoin$Reader", name := "step", desc := "(LLeapJoin$Script;)V" } : Jvm.MethodName)) ∈ lw_all := lw_g (lw_at lw_m3 34 rfl) rfl
theorem q636 : (Jvm.Cond.code ({ cls := "LeapJoin$Reader", name := "step", desc := "(LLeapJoin$Script;)V" } : Jvm.MethodName) prog_4_method_14_code (6 : Nat) (Option.none : Option Jvm.ClassFile.FieldType)) ∈ lw_all := lw_g (lw_at lw_m3 35 rfl) rfl
theorem q637 : (Jvm.Cond.stringRef "LeapJoin$Reader" (109 : Nat) "ptuo") ∈ lw_tbl := lw_at lw_m3 36 rfl
theorem q638 : (Jvm.Cond.methodLink "LeapJoin$Reader" (111 : Nat) ({ cls := "java/lang/String", name := "indexOf", desc := "(I)I" } : Jvm.MethodName)) ∈ lw_all := lw_g (lw_at lw_m3 37 rfl) rfl
theorem q724 : (Jvm.Cond.methodLink "LeapJoin$Reader" (127 : Nat) ({ cls := "LeapJoin$Reader", name := "digit", desc := "()I" } : Jvm.MethodName)) ∈ lw_all := lw_g (lw_at lw_m3 123 rfl) rfl
theorem q725 : (Jvm.Cond.privateMethod ({ cls := "LeapJoin$Reader", name := "digit", desc := "()I" } : Jvm.MethodName)) ∈ lw_tbl := lw_at lw_m3 124 rfl
theorem q726 : (Jvm.Cond.instanceMethod ({ cls := "LeapJoin$Reader", name := "digit", desc := "()I" } : Jvm.MethodName)) ∈ lw_all := lw_g (lw_at lw_m3 125 rfl) rfl
theorem q727 : (Jvm.Cond.code ({ cls := "LeapJoin$Reader", name := "digit", desc := "()I" } : Jvm.MethodName) prog_4_method_8_code (2 : Nat) (Option.some Jvm.ClassFile.FieldType.int)) ∈ lw_all := lw_g (lw_at lw_m3 126 rfl) rfl
theorem q1903 : (Jvm.Cond.castable "LeapJoin$Reader" "java/lang/Object") ∈ lw_tbl := lw_at lw_m8 102 rfl
theorem in_X5 : ∀ w ∈ wsX50, w ∈ lw_all := lw_in wsX50 [361, 363, 365] (by decide +kernel) (by decide +kernel)

/-! LeapJoin$Wrong -/
set_option maxRecDepth 100000
def RX6 : String := "LeapJoin$Wrong"
def TX6 : u_T := fun k => match k with
  | 0 => ("java/lang/Throwable", "cause", "Ljava/lang/Throwable;", false)
  | 1 => ("java/lang/Throwable", "stackTrace", "[Ljava/lang/StackTraceElement;", false)
  | 2 => ("java/lang/Throwable", "suppressedExceptions", "Ljava/util/List;", false)
  | 3 => ("java/lang/Throwable", "detailMessage", "Ljava/lang/String;", false)
  | 4 => ("java/lang/Throwable", "backtrace", "Ljava/lang/Object;", false)
  | 5 => ("java/lang/Throwable", "depth", "I", false)
  | _ => ("LeapJoin$Wrong", "at", "I", true)
def tyX6 : Nat → FieldType := fun k => match k with
  | 0 => .object "java/lang/Throwable"
  | 1 => .array (.object "java/lang/StackTraceElement")
  | 2 => .object "java/util/List"
  | 3 => .object "java/lang/String"
  | 4 => .object "java/lang/Object"
  | 5 => .int
  | _ => .int
abbrev wsX60 : List Cond := u_ws RX6 TX6 7
theorem nmX6 : ∀ a, a < 7 → ∀ b, b < 7 → a ≠ b → (TX6 a).2.1 ≠ (TX6 b).2.1 := by decide +kernel
theorem tyX6_ok : ∀ k, k < 7 → parseFieldDescriptor (TX6 k).2.2.1 = some (tyX6 k) := by decide +kernel
abbrev cX6_init : ByteArray := prog_11_method_1_code
def yX6_init : MethodName := ⟨RX6, "<init>", "(I)V"⟩
def dkwX6_init_0 : List UInt8 := [42, 1, 1, 3, 3, 183, 0, 1, 42, 27, 181, 0, 7, 177]
abbrev dktX6_init_0 : List UInt8 := dkwX6_init_0 ++ []
theorem dksX6_init_0 : cX6_init.data.toList.drop 0 = dktX6_init_0 := by decide +kernel
theorem dX6_init_0 : decode cX6_init 0 = .ok (.aload_n 0, 1) := dk_42 (dk_at dksX6_init_0 0 rfl rfl)
theorem dX6_init_1 : decode cX6_init 1 = .ok (.aconst_null, 1) := dk_1 (dk_at dksX6_init_0 1 rfl rfl)
theorem dX6_init_2 : decode cX6_init 2 = .ok (.aconst_null, 1) := dk_1 (dk_at dksX6_init_0 2 rfl rfl)
theorem dX6_init_3 : decode cX6_init 3 = .ok (.iconst 0, 1) := dk_3 (dk_at dksX6_init_0 3 rfl rfl)
theorem dX6_init_4 : decode cX6_init 4 = .ok (.iconst 0, 1) := dk_3 (dk_at dksX6_init_0 4 rfl rfl)
theorem dX6_init_5 : decode cX6_init 5 = .ok (.invokespecial 1, 3) := dk_183 0 1 (dk_at dksX6_init_0 5 rfl rfl)
theorem dX6_init_8 : decode cX6_init 8 = .ok (.aload_n 0, 1) := dk_42 (dk_at dksX6_init_0 8 rfl rfl)
theorem dX6_init_9 : decode cX6_init 9 = .ok (.iload_n 1, 1) := dk_27 (dk_at dksX6_init_0 9 rfl rfl)
theorem dX6_init_10 : decode cX6_init 10 = .ok (.putfield 7, 3) := dk_181 0 7 (dk_at dksX6_init_0 10 rfl rfl)
theorem dX6_init_13 : decode cX6_init 13 = .ok (.return_, 1) := dk_177 (dk_at dksX6_init_0 13 rfl rfl)
theorem q129 : (Jvm.Cond.initialized "LeapJoin$Wrong") ∈ lw_all := lw_g (lw_at lw_m1 8 rfl) rfl
theorem q394 : (Jvm.Cond.instantiable "LeapJoin$Wrong" (7 : Nat)) ∈ lw_all := lw_g (lw_at lw_m2 33 rfl) rfl
theorem q395 : (Jvm.Cond.castable "LeapJoin$Wrong" "LeapJoin$Wrong") ∈ lw_tbl := lw_at lw_m2 34 rfl
theorem q400 : (Jvm.Cond.selects "LeapJoin$Wrong" ({ cls := "java/lang/Throwable", name := "fillInStackTrace", desc := "(I)Ljava/lang/Throwable;" } : Jvm.MethodName) ({ cls := "java/lang/Throwable", name := "fillInStackTrace", desc := "(I)Ljava/lang/Throwable;" } : Jvm.MethodName)) ∈ lw_all := lw_g (lw_at lw_m2 39 rfl) rfl
theorem q401 : (Jvm.Cond.selects "LeapJoin$Wrong" ({ cls := "java/lang/Throwable", name := "fillInStackTrace", desc := "()Ljava/lang/Throwable;" } : Jvm.MethodName) ({ cls := "java/lang/Throwable", name := "fillInStackTrace", desc := "()Ljava/lang/Throwable;" } : Jvm.MethodName)) ∈ lw_all := lw_g (lw_at lw_m2 40 rfl) rfl
theorem q402 : (Jvm.Cond.lays "LeapJoin$Wrong" "java/lang/Throwable" "cause" "Ljava/lang/Throwable;") ∈ lw_all := lw_g (lw_at lw_m2 41 rfl) rfl
theorem q404 : (Jvm.Cond.lays "LeapJoin$Wrong" "java/lang/Throwable" "stackTrace" "[Ljava/lang/StackTraceElement;") ∈ lw_all := lw_g (lw_at lw_m2 43 rfl) rfl
theorem q406 : (Jvm.Cond.lays "LeapJoin$Wrong" "java/lang/Throwable" "suppressedExceptions" "Ljava/util/List;") ∈ lw_all := lw_g (lw_at lw_m2 45 rfl) rfl
theorem q408 : (Jvm.Cond.lays "LeapJoin$Wrong" "java/lang/Throwable" "detailMessage" "Ljava/lang/String;") ∈ lw_all := lw_g (lw_at lw_m2 47 rfl) rfl
theorem q410 : (Jvm.Cond.lays "LeapJoin$Wrong" "java/lang/Throwable" "backtrace" "Ljava/lang/Object;") ∈ lw_all := lw_g (lw_at lw_m2 49 rfl) rfl
theorem q433 : (Jvm.Cond.instanceMethod ({ cls := "LeapJoin$Wrong", name := "<init>", desc := "(I)V" } : Jvm.MethodName)) ∈ lw_all := lw_g (lw_at lw_m2 72 rfl) rfl
theorem q434 : (Jvm.Cond.code ({ cls := "LeapJoin$Wrong", name := "<init>", desc := "(I)V" } : Jvm.MethodName) prog_11_method_1_code (2 : Nat) (Option.none : Option Jvm.ClassFile.FieldType)) ∈ lw_all := lw_g (lw_at lw_m2 73 rfl) rfl
theorem q435 : (Jvm.Cond.methodLink "LeapJoin$Wrong" (1 : Nat) ({ cls := "java/lang/Exception", name := "<init>", desc := "(Ljava/lang/String;Ljava/lang/Throwable;ZZ)V" } : Jvm.MethodName)) ∈ lw_all := lw_g (lw_at lw_m2 74 rfl) rfl
theorem q441 : (Jvm.Cond.fieldLink "LeapJoin$Wrong" (7 : Nat) "LeapJoin$Wrong" "at" "I") ∈ lw_all := lw_g (lw_at lw_m2 80 rfl) rfl
theorem q448 : (Jvm.Cond.laysFinal "LeapJoin$Wrong" "LeapJoin$Wrong" "at" "I") ∈ lw_all := lw_g (lw_at lw_m2 87 rfl) rfl
theorem q449 : (Jvm.Cond.soleField "LeapJoin$Wrong" "at") ∈ lw_all := lw_g (lw_at lw_m2 88 rfl) rfl
theorem q454 : (Jvm.Cond.lays "LeapJoin$Wrong" "java/lang/Throwable" "depth" "I") ∈ lw_all := lw_g (lw_at lw_m2 93 rfl) rfl
theorem q457 : (Jvm.Cond.superclass "LeapJoin$Wrong" "java/lang/Exception") ∈ lw_all := lw_g (lw_at lw_m2 96 rfl) rfl
theorem q1904 : (Jvm.Cond.castable "LeapJoin$Wrong" "java/lang/Object") ∈ lw_tbl := lw_at lw_m8 103 rfl
theorem in_X6 : ∀ w ∈ wsX60, w ∈ lw_all := lw_in wsX60 [402, 404, 406, 408, 410, 454, 448] (by decide +kernel) (by decide +kernel)

/-! LeapJoin$Table -/
set_option maxRecDepth 100000
def RX7 : String := "LeapJoin$Table"
def TX7 : u_T := fun k => match k with
  | 0 => ("LeapJoin$Table", "letters", "[I", true)
  | 1 => ("LeapJoin$Table", "rows", "[LLeapJoin$Row;", true)
  | 2 => ("LeapJoin$Table", "one", "[LLeapJoin$Row;", true)
  | _ => ("LeapJoin$Table", "many", "I", false)
def tyX7 : Nat → FieldType := fun k => match k with
  | 0 => .array .int
  | 1 => .array (.object "LeapJoin$Row")
  | 2 => .array (.object "LeapJoin$Row")
  | _ => .int
abbrev wsX70 : List Cond := u_ws RX7 TX7 4
theorem nmX7 : ∀ a, a < 4 → ∀ b, b < 4 → a ≠ b → (TX7 a).2.1 ≠ (TX7 b).2.1 := by decide +kernel
theorem tyX7_ok : ∀ k, k < 4 → parseFieldDescriptor (TX7 k).2.2.1 = some (tyX7 k) := by decide +kernel
abbrev cX7_init : ByteArray := prog_8_method_1_code
def yX7_init : MethodName := ⟨RX7, "<init>", "([I)V"⟩
def dkwX7_init_1 : List UInt8 := [182, 0, 25, 192, 0, 26, 181, 0, 30, 177]
abbrev dktX7_init_1 : List UInt8 := dkwX7_init_1 ++ []
def dkwX7_init_0 : List UInt8 := [42, 183, 0, 3, 42, 43, 181, 0, 9, 42, 43, 190, 184, 0, 15, 181, 0, 21, 42, 42, 180, 0, 21]
abbrev dktX7_init_0 : List UInt8 := dkwX7_init_0 ++ dktX7_init_1
theorem dksX7_init_0 : cX7_init.data.toList.drop 0 = dktX7_init_0 := by decide +kernel
theorem dksX7_init_1 : cX7_init.data.toList.drop 23 = dktX7_init_1 := dk_seg dksX7_init_0 23 rfl rfl
theorem dX7_init_0 : decode cX7_init 0 = .ok (.aload_n 0, 1) := dk_42 (dk_at dksX7_init_0 0 rfl rfl)
theorem dX7_init_1 : decode cX7_init 1 = .ok (.invokespecial 3, 3) := dk_183 0 3 (dk_at dksX7_init_0 1 rfl rfl)
theorem dX7_init_4 : decode cX7_init 4 = .ok (.aload_n 0, 1) := dk_42 (dk_at dksX7_init_0 4 rfl rfl)
theorem dX7_init_5 : decode cX7_init 5 = .ok (.aload_n 1, 1) := dk_43 (dk_at dksX7_init_0 5 rfl rfl)
theorem dX7_init_6 : decode cX7_init 6 = .ok (.putfield 9, 3) := dk_181 0 9 (dk_at dksX7_init_0 6 rfl rfl)
theorem dX7_init_9 : decode cX7_init 9 = .ok (.aload_n 0, 1) := dk_42 (dk_at dksX7_init_0 9 rfl rfl)
theorem dX7_init_10 : decode cX7_init 10 = .ok (.aload_n 1, 1) := dk_43 (dk_at dksX7_init_0 10 rfl rfl)
theorem dX7_init_11 : decode cX7_init 11 = .ok (.arraylength, 1) := dk_190 (dk_at dksX7_init_0 11 rfl rfl)
theorem dX7_init_12 : decode cX7_init 12 = .ok (.invokestatic 15, 3) := dk_184 0 15 (dk_at dksX7_init_0 12 rfl rfl)
theorem dX7_init_15 : decode cX7_init 15 = .ok (.putfield 21, 3) := dk_181 0 21 (dk_at dksX7_init_0 15 rfl rfl)
theorem dX7_init_18 : decode cX7_init 18 = .ok (.aload_n 0, 1) := dk_42 (dk_at dksX7_init_0 18 rfl rfl)
theorem dX7_init_19 : decode cX7_init 19 = .ok (.aload_n 0, 1) := dk_42 (dk_at dksX7_init_0 19 rfl rfl)
theorem dX7_init_20 : decode cX7_init 20 = .ok (.getfield 21, 3) := dk_180 0 21 (dk_at dksX7_init_0 20 rfl rfl)
theorem dX7_init_23 : decode cX7_init 23 = .ok (.invokevirtual 25, 3) := dk_182 0 25 (dk_at dksX7_init_1 0 rfl rfl)
theorem dX7_init_26 : decode cX7_init 26 = .ok (.checkcast 26, 3) := dk_192 0 26 (dk_at dksX7_init_1 3 rfl rfl)
theorem dX7_init_29 : decode cX7_init 29 = .ok (.putfield 30, 3) := dk_181 0 30 (dk_at dksX7_init_1 6 rfl rfl)
theorem dX7_init_32 : decode cX7_init 32 = .ok (.return_, 1) := dk_177 (dk_at dksX7_init_1 9 rfl rfl)
abbrev cX7_spotOf : ByteArray := prog_8_method_6_code
def yX7_spotOf : MethodName := ⟨RX7, "spotOf", "(LLeapJoin$Row;)I"⟩
def dkwX7_spotOf_1 : List UInt8 := [172, 132, 2, 1, 167, 255, 230, 2, 172]
abbrev dktX7_spotOf_1 : List UInt8 := dkwX7_spotOf_1 ++ []
def dkwX7_spotOf_0 : List UInt8 := [3, 61, 28, 42, 180, 0, 33, 162, 0, 24, 42, 180, 0, 21, 28, 50, 43, 182, 0, 40, 154, 0, 5, 28]
abbrev dktX7_spotOf_0 : List UInt8 := dkwX7_spotOf_0 ++ dktX7_spotOf_1
theorem dksX7_spotOf_0 : cX7_spotOf.data.toList.drop 0 = dktX7_spotOf_0 := by decide +kernel
theorem dksX7_spotOf_1 : cX7_spotOf.data.toList.drop 24 = dktX7_spotOf_1 := dk_seg dksX7_spotOf_0 24 rfl rfl
theorem dX7_spotOf_0 : decode cX7_spotOf 0 = .ok (.iconst 0, 1) := dk_3 (dk_at dksX7_spotOf_0 0 rfl rfl)
theorem dX7_spotOf_1 : decode cX7_spotOf 1 = .ok (.istore_n 2, 1) := dk_61 (dk_at dksX7_spotOf_0 1 rfl rfl)
theorem dX7_spotOf_2 : decode cX7_spotOf 2 = .ok (.iload_n 2, 1) := dk_28 (dk_at dksX7_spotOf_0 2 rfl rfl)
theorem dX7_spotOf_3 : decode cX7_spotOf 3 = .ok (.aload_n 0, 1) := dk_42 (dk_at dksX7_spotOf_0 3 rfl rfl)
theorem dX7_spotOf_4 : decode cX7_spotOf 4 = .ok (.getfield 33, 3) := dk_180 0 33 (dk_at dksX7_spotOf_0 4 rfl rfl)
theorem dX7_spotOf_7 : decode cX7_spotOf 7 = .ok (.if_icmp .ge 24, 3) := dk_162 0 24 (dk_at dksX7_spotOf_0 7 rfl rfl)
theorem dX7_spotOf_10 : decode cX7_spotOf 10 = .ok (.aload_n 0, 1) := dk_42 (dk_at dksX7_spotOf_0 10 rfl rfl)
theorem dX7_spotOf_11 : decode cX7_spotOf 11 = .ok (.getfield 21, 3) := dk_180 0 21 (dk_at dksX7_spotOf_0 11 rfl rfl)
theorem dX7_spotOf_14 : decode cX7_spotOf 14 = .ok (.iload_n 2, 1) := dk_28 (dk_at dksX7_spotOf_0 14 rfl rfl)
theorem dX7_spotOf_15 : decode cX7_spotOf 15 = .ok (.aaload, 1) := dk_50 (dk_at dksX7_spotOf_0 15 rfl rfl)
theorem dX7_spotOf_16 : decode cX7_spotOf 16 = .ok (.aload_n 1, 1) := dk_43 (dk_at dksX7_spotOf_0 16 rfl rfl)
theorem dX7_spotOf_17 : decode cX7_spotOf 17 = .ok (.invokevirtual 40, 3) := dk_182 0 40 (dk_at dksX7_spotOf_0 17 rfl rfl)
theorem dX7_spotOf_20 : decode cX7_spotOf 20 = .ok (.ifCond .ne 5, 3) := dk_154 0 5 (dk_at dksX7_spotOf_0 20 rfl rfl)
theorem dX7_spotOf_23 : decode cX7_spotOf 23 = .ok (.iload_n 2, 1) := dk_28 (dk_at dksX7_spotOf_0 23 rfl rfl)
theorem dX7_spotOf_24 : decode cX7_spotOf 24 = .ok (.ireturn, 1) := dk_172 (dk_at dksX7_spotOf_1 0 rfl rfl)
theorem dX7_spotOf_25 : decode cX7_spotOf 25 = .ok (.iinc 2 1, 3) := dk_132 2 1 (dk_at dksX7_spotOf_1 1 rfl rfl)
theorem dX7_spotOf_28 : decode cX7_spotOf 28 = .ok (.goto (-26), 3) := dk_167 255 230 (dk_at dksX7_spotOf_1 4 rfl rfl)
theorem dX7_spotOf_31 : decode cX7_spotOf 31 = .ok (.iconst (-1), 1) := dk_2 (dk_at dksX7_spotOf_1 7 rfl rfl)
theorem dX7_spotOf_32 : decode cX7_spotOf 32 = .ok (.ireturn, 1) := dk_172 (dk_at dksX7_spotOf_1 8 rfl rfl)
abbrev cX7_takes : ByteArray := prog_8_method_8_code
def yX7_takes : MethodName := ⟨RX7, "takes", "(LLeapJoin$Row;)V"⟩
def dkwX7_takes_2 : List UInt8 := [28, 43, 83, 42, 89, 180, 0, 33, 4, 96, 181, 0, 33, 177]
abbrev dktX7_takes_2 : List UInt8 := dkwX7_takes_2 ++ []
def dkwX7_takes_1 : List UInt8 := [42, 180, 0, 21, 28, 42, 180, 0, 21, 28, 4, 100, 50, 83, 132, 2, 255, 167, 255, 220, 42, 180, 0, 21]
abbrev dktX7_takes_1 : List UInt8 := dkwX7_takes_1 ++ dktX7_takes_2
def dkwX7_takes_0 : List UInt8 := [42, 180, 0, 33, 61, 28, 158, 0, 38, 42, 180, 0, 21, 28, 4, 100, 50, 43, 182, 0, 40, 158, 0, 23]
abbrev dktX7_takes_0 : List UInt8 := dkwX7_takes_0 ++ dktX7_takes_1
theorem dksX7_takes_0 : cX7_takes.data.toList.drop 0 = dktX7_takes_0 := by decide +kernel
theorem dksX7_takes_1 : cX7_takes.data.toList.drop 24 = dktX7_takes_1 := dk_seg dksX7_takes_0 24 rfl rfl
theorem dksX7_takes_2 : cX7_takes.data.toList.drop 48 = dktX7_takes_2 := dk_seg dksX7_takes_1 24 rfl rfl
theorem dX7_takes_0 : decode cX7_takes 0 = .ok (.aload_n 0, 1) := dk_42 (dk_at dksX7_takes_0 0 rfl rfl)
theorem dX7_takes_1 : decode cX7_takes 1 = .ok (.getfield 33, 3) := dk_180 0 33 (dk_at dksX7_takes_0 1 rfl rfl)
theorem dX7_takes_4 : decode cX7_takes 4 = .ok (.istore_n 2, 1) := dk_61 (dk_at dksX7_takes_0 4 rfl rfl)
theorem dX7_takes_5 : decode cX7_takes 5 = .ok (.iload_n 2, 1) := dk_28 (dk_at dksX7_takes_0 5 rfl rfl)
theorem dX7_takes_6 : decode cX7_takes 6 = .ok (.ifCond .le 38, 3) := dk_158 0 38 (dk_at dksX7_takes_0 6 rfl rfl)
theorem dX7_takes_9 : decode cX7_takes 9 = .ok (.aload_n 0, 1) := dk_42 (dk_at dksX7_takes_0 9 rfl rfl)
theorem dX7_takes_10 : decode cX7_takes 10 = .ok (.getfield 21, 3) := dk_180 0 21 (dk_at dksX7_takes_0 10 rfl rfl)
theorem dX7_takes_13 : decode cX7_takes 13 = .ok (.iload_n 2, 1) := dk_28 (dk_at dksX7_takes_0 13 rfl rfl)
theorem dX7_takes_14 : decode cX7_takes 14 = .ok (.iconst 1, 1) := dk_4 (dk_at dksX7_takes_0 14 rfl rfl)
theorem dX7_takes_15 : decode cX7_takes 15 = .ok (.isub, 1) := dk_100 (dk_at dksX7_takes_0 15 rfl rfl)
theorem dX7_takes_16 : decode cX7_takes 16 = .ok (.aaload, 1) := dk_50 (dk_at dksX7_takes_0 16 rfl rfl)
theorem dX7_takes_17 : decode cX7_takes 17 = .ok (.aload_n 1, 1) := dk_43 (dk_at dksX7_takes_0 17 rfl rfl)
theorem dX7_takes_18 : decode cX7_takes 18 = .ok (.invokevirtual 40, 3) := dk_182 0 40 (dk_at dksX7_takes_0 18 rfl rfl)
theorem dX7_takes_21 : decode cX7_takes 21 = .ok (.ifCond .le 23, 3) := dk_158 0 23 (dk_at dksX7_takes_0 21 rfl rfl)
theorem dX7_takes_24 : decode cX7_takes 24 = .ok (.aload_n 0, 1) := dk_42 (dk_at dksX7_takes_1 0 rfl rfl)
theorem dX7_takes_25 : decode cX7_takes 25 = .ok (.getfield 21, 3) := dk_180 0 21 (dk_at dksX7_takes_1 1 rfl rfl)
theorem dX7_takes_28 : decode cX7_takes 28 = .ok (.iload_n 2, 1) := dk_28 (dk_at dksX7_takes_1 4 rfl rfl)
theorem dX7_takes_29 : decode cX7_takes 29 = .ok (.aload_n 0, 1) := dk_42 (dk_at dksX7_takes_1 5 rfl rfl)
theorem dX7_takes_30 : decode cX7_takes 30 = .ok (.getfield 21, 3) := dk_180 0 21 (dk_at dksX7_takes_1 6 rfl rfl)
theorem dX7_takes_33 : decode cX7_takes 33 = .ok (.iload_n 2, 1) := dk_28 (dk_at dksX7_takes_1 9 rfl rfl)
theorem dX7_takes_34 : decode cX7_takes 34 = .ok (.iconst 1, 1) := dk_4 (dk_at dksX7_takes_1 10 rfl rfl)
theorem dX7_takes_35 : decode cX7_takes 35 = .ok (.isub, 1) := dk_100 (dk_at dksX7_takes_1 11 rfl rfl)
theorem dX7_takes_36 : decode cX7_takes 36 = .ok (.aaload, 1) := dk_50 (dk_at dksX7_takes_1 12 rfl rfl)
theorem dX7_takes_37 : decode cX7_takes 37 = .ok (.aastore, 1) := dk_83 (dk_at dksX7_takes_1 13 rfl rfl)
theorem dX7_takes_38 : decode cX7_takes 38 = .ok (.iinc 2 (-1), 3) := dk_132 2 255 (dk_at dksX7_takes_1 14 rfl rfl)
theorem dX7_takes_41 : decode cX7_takes 41 = .ok (.goto (-36), 3) := dk_167 255 220 (dk_at dksX7_takes_1 17 rfl rfl)
theorem dX7_takes_44 : decode cX7_takes 44 = .ok (.aload_n 0, 1) := dk_42 (dk_at dksX7_takes_1 20 rfl rfl)
theorem dX7_takes_45 : decode cX7_takes 45 = .ok (.getfield 21, 3) := dk_180 0 21 (dk_at dksX7_takes_1 21 rfl rfl)
theorem dX7_takes_48 : decode cX7_takes 48 = .ok (.iload_n 2, 1) := dk_28 (dk_at dksX7_takes_2 0 rfl rfl)
theorem dX7_takes_49 : decode cX7_takes 49 = .ok (.aload_n 1, 1) := dk_43 (dk_at dksX7_takes_2 1 rfl rfl)
theorem dX7_takes_50 : decode cX7_takes 50 = .ok (.aastore, 1) := dk_83 (dk_at dksX7_takes_2 2 rfl rfl)
theorem dX7_takes_51 : decode cX7_takes 51 = .ok (.aload_n 0, 1) := dk_42 (dk_at dksX7_takes_2 3 rfl rfl)
theorem dX7_takes_52 : decode cX7_takes 52 = .ok (.dup, 1) := dk_89 (dk_at dksX7_takes_2 4 rfl rfl)
theorem dX7_takes_53 : decode cX7_takes 53 = .ok (.getfield 33, 3) := dk_180 0 33 (dk_at dksX7_takes_2 5 rfl rfl)
theorem dX7_takes_56 : decode cX7_takes 56 = .ok (.iconst 1, 1) := dk_4 (dk_at dksX7_takes_2 8 rfl rfl)
theorem dX7_takes_57 : decode cX7_takes 57 = .ok (.iadd, 1) := dk_96 (dk_at dksX7_takes_2 9 rfl rfl)
theorem dX7_takes_58 : decode cX7_takes 58 = .ok (.putfield 33, 3) := dk_181 0 33 (dk_at dksX7_takes_2 10 rfl rfl)
theorem dX7_takes_61 : decode cX7_takes 61 = .ok (.return_, 1) := dk_177 (dk_at dksX7_takes_2 13 rfl rfl)
abbrev cX7_suits : ByteArray := prog_8_method_7_code
def yX7_suits : MethodName := ⟨RX7, "suits", "(LLeapJoin$Row;)Z"⟩
def dkwX7_suits_0 : List UInt8 := [42, 180, 0, 30, 3, 43, 83, 43, 198, 0, 7, 4, 167, 0, 4, 3, 172, 77, 3, 172]
abbrev dktX7_suits_0 : List UInt8 := dkwX7_suits_0 ++ []
theorem dksX7_suits_0 : cX7_suits.data.toList.drop 0 = dktX7_suits_0 := by decide +kernel
theorem dX7_suits_0 : decode cX7_suits 0 = .ok (.aload_n 0, 1) := dk_42 (dk_at dksX7_suits_0 0 rfl rfl)
theorem dX7_suits_1 : decode cX7_suits 1 = .ok (.getfield 30, 3) := dk_180 0 30 (dk_at dksX7_suits_0 1 rfl rfl)
theorem dX7_suits_4 : decode cX7_suits 4 = .ok (.iconst 0, 1) := dk_3 (dk_at dksX7_suits_0 4 rfl rfl)
theorem dX7_suits_5 : decode cX7_suits 5 = .ok (.aload_n 1, 1) := dk_43 (dk_at dksX7_suits_0 5 rfl rfl)
theorem dX7_suits_6 : decode cX7_suits 6 = .ok (.aastore, 1) := dk_83 (dk_at dksX7_suits_0 6 rfl rfl)
theorem dX7_suits_7 : decode cX7_suits 7 = .ok (.aload_n 1, 1) := dk_43 (dk_at dksX7_suits_0 7 rfl rfl)
theorem dX7_suits_8 : decode cX7_suits 8 = .ok (.ifnull 7, 3) := dk_198 0 7 (dk_at dksX7_suits_0 8 rfl rfl)
theorem dX7_suits_11 : decode cX7_suits 11 = .ok (.iconst 1, 1) := dk_4 (dk_at dksX7_suits_0 11 rfl rfl)
theorem dX7_suits_12 : decode cX7_suits 12 = .ok (.goto 4, 3) := dk_167 0 4 (dk_at dksX7_suits_0 12 rfl rfl)
theorem dX7_suits_15 : decode cX7_suits 15 = .ok (.iconst 0, 1) := dk_3 (dk_at dksX7_suits_0 15 rfl rfl)
theorem dX7_suits_16 : decode cX7_suits 16 = .ok (.ireturn, 1) := dk_172 (dk_at dksX7_suits_0 16 rfl rfl)
theorem dX7_suits_17 : decode cX7_suits 17 = .ok (.astore_n 2, 1) := dk_77 (dk_at dksX7_suits_0 17 rfl rfl)
theorem dX7_suits_18 : decode cX7_suits 18 = .ok (.iconst 0, 1) := dk_3 (dk_at dksX7_suits_0 18 rfl rfl)
theorem dX7_suits_19 : decode cX7_suits 19 = .ok (.ireturn, 1) := dk_172 (dk_at dksX7_suits_0 19 rfl rfl)
abbrev cX7_copy : ByteArray := prog_8_method_3_code
def yX7_copy : MethodName := ⟨RX7, "copy", "()LLeapJoin$Table;"⟩
def dkwX7_copy_0 : List UInt8 := [187, 0, 10, 89, 42, 183, 0, 37, 176]
abbrev dktX7_copy_0 : List UInt8 := dkwX7_copy_0 ++ []
theorem dksX7_copy_0 : cX7_copy.data.toList.drop 0 = dktX7_copy_0 := by decide +kernel
theorem dX7_copy_0 : decode cX7_copy 0 = .ok (.new 10, 3) := dk_187 0 10 (dk_at dksX7_copy_0 0 rfl rfl)
theorem dX7_copy_3 : decode cX7_copy 3 = .ok (.dup, 1) := dk_89 (dk_at dksX7_copy_0 3 rfl rfl)
theorem dX7_copy_4 : decode cX7_copy 4 = .ok (.aload_n 0, 1) := dk_42 (dk_at dksX7_copy_0 4 rfl rfl)
theorem dX7_copy_5 : decode cX7_copy 5 = .ok (.invokespecial 37, 3) := dk_183 0 37 (dk_at dksX7_copy_0 5 rfl rfl)
theorem dX7_copy_8 : decode cX7_copy 8 = .ok (.areturn, 1) := dk_176 (dk_at dksX7_copy_0 8 rfl rfl)
abbrev cX7_init_2 : ByteArray := prog_8_method_2_code
def yX7_init_2 : MethodName := ⟨RX7, "<init>", "(LLeapJoin$Table;)V"⟩
def dkwX7_init_2_1 : List UInt8 := [180, 0, 21, 182, 0, 25, 192, 0, 26, 181, 0, 21, 42, 43, 180, 0, 33, 181, 0, 33, 177]
abbrev dktX7_init_2_1 : List UInt8 := dkwX7_init_2_1 ++ []
def dkwX7_init_2_0 : List UInt8 := [42, 183, 0, 3, 42, 43, 180, 0, 9, 181, 0, 9, 42, 43, 180, 0, 30, 181, 0, 30, 42, 43]
abbrev dktX7_init_2_0 : List UInt8 := dkwX7_init_2_0 ++ dktX7_init_2_1
theorem dksX7_init_2_0 : cX7_init_2.data.toList.drop 0 = dktX7_init_2_0 := by decide +kernel
theorem dksX7_init_2_1 : cX7_init_2.data.toList.drop 22 = dktX7_init_2_1 := dk_seg dksX7_init_2_0 22 rfl rfl
theorem dX7_init_2_0 : decode cX7_init_2 0 = .ok (.aload_n 0, 1) := dk_42 (dk_at dksX7_init_2_0 0 rfl rfl)
theorem dX7_init_2_1 : decode cX7_init_2 1 = .ok (.invokespecial 3, 3) := dk_183 0 3 (dk_at dksX7_init_2_0 1 rfl rfl)
theorem dX7_init_2_4 : decode cX7_init_2 4 = .ok (.aload_n 0, 1) := dk_42 (dk_at dksX7_init_2_0 4 rfl rfl)
theorem dX7_init_2_5 : decode cX7_init_2 5 = .ok (.aload_n 1, 1) := dk_43 (dk_at dksX7_init_2_0 5 rfl rfl)
theorem dX7_init_2_6 : decode cX7_init_2 6 = .ok (.getfield 9, 3) := dk_180 0 9 (dk_at dksX7_init_2_0 6 rfl rfl)
theorem dX7_init_2_9 : decode cX7_init_2 9 = .ok (.putfield 9, 3) := dk_181 0 9 (dk_at dksX7_init_2_0 9 rfl rfl)
theorem dX7_init_2_12 : decode cX7_init_2 12 = .ok (.aload_n 0, 1) := dk_42 (dk_at dksX7_init_2_0 12 rfl rfl)
theorem dX7_init_2_13 : decode cX7_init_2 13 = .ok (.aload_n 1, 1) := dk_43 (dk_at dksX7_init_2_0 13 rfl rfl)
theorem dX7_init_2_14 : decode cX7_init_2 14 = .ok (.getfield 30, 3) := dk_180 0 30 (dk_at dksX7_init_2_0 14 rfl rfl)
theorem dX7_init_2_17 : decode cX7_init_2 17 = .ok (.putfield 30, 3) := dk_181 0 30 (dk_at dksX7_init_2_0 17 rfl rfl)
theorem dX7_init_2_20 : decode cX7_init_2 20 = .ok (.aload_n 0, 1) := dk_42 (dk_at dksX7_init_2_0 20 rfl rfl)
theorem dX7_init_2_21 : decode cX7_init_2 21 = .ok (.aload_n 1, 1) := dk_43 (dk_at dksX7_init_2_0 21 rfl rfl)
theorem dX7_init_2_22 : decode cX7_init_2 22 = .ok (.getfield 21, 3) := dk_180 0 21 (dk_at dksX7_init_2_1 0 rfl rfl)
theorem dX7_init_2_25 : decode cX7_init_2 25 = .ok (.invokevirtual 25, 3) := dk_182 0 25 (dk_at dksX7_init_2_1 3 rfl rfl)
theorem dX7_init_2_28 : decode cX7_init_2 28 = .ok (.checkcast 26, 3) := dk_192 0 26 (dk_at dksX7_init_2_1 6 rfl rfl)
theorem dX7_init_2_31 : decode cX7_init_2 31 = .ok (.putfield 21, 3) := dk_181 0 21 (dk_at dksX7_init_2_1 9 rfl rfl)
theorem dX7_init_2_34 : decode cX7_init_2 34 = .ok (.aload_n 0, 1) := dk_42 (dk_at dksX7_init_2_1 12 rfl rfl)
theorem dX7_init_2_35 : decode cX7_init_2 35 = .ok (.aload_n 1, 1) := dk_43 (dk_at dksX7_init_2_1 13 rfl rfl)
theorem dX7_init_2_36 : decode cX7_init_2 36 = .ok (.getfield 33, 3) := dk_180 0 33 (dk_at dksX7_init_2_1 14 rfl rfl)
theorem dX7_init_2_39 : decode cX7_init_2 39 = .ok (.putfield 33, 3) := dk_181 0 33 (dk_at dksX7_init_2_1 17 rfl rfl)
theorem dX7_init_2_42 : decode cX7_init_2 42 = .ok (.return_, 1) := dk_177 (dk_at dksX7_init_2_1 20 rfl rfl)
abbrev cX7_drops : ByteArray := prog_8_method_9_code
def yX7_drops : MethodName := ⟨RX7, "drops", "(I)V"⟩
def dkwX7_drops_1 : List UInt8 := [89, 180, 0, 33, 4, 100, 181, 0, 33, 177]
abbrev dktX7_drops_1 : List UInt8 := dkwX7_drops_1 ++ []
def dkwX7_drops_0 : List UInt8 := [42, 180, 0, 21, 27, 4, 96, 42, 180, 0, 21, 27, 42, 180, 0, 33, 4, 100, 27, 100, 184, 0, 46, 42]
abbrev dktX7_drops_0 : List UInt8 := dkwX7_drops_0 ++ dktX7_drops_1
theorem dksX7_drops_0 : cX7_drops.data.toList.drop 0 = dktX7_drops_0 := by decide +kernel
theorem dksX7_drops_1 : cX7_drops.data.toList.drop 24 = dktX7_drops_1 := dk_seg dksX7_drops_0 24 rfl rfl
theorem dX7_drops_0 : decode cX7_drops 0 = .ok (.aload_n 0, 1) := dk_42 (dk_at dksX7_drops_0 0 rfl rfl)
theorem dX7_drops_1 : decode cX7_drops 1 = .ok (.getfield 21, 3) := dk_180 0 21 (dk_at dksX7_drops_0 1 rfl rfl)
theorem dX7_drops_4 : decode cX7_drops 4 = .ok (.iload_n 1, 1) := dk_27 (dk_at dksX7_drops_0 4 rfl rfl)
theorem dX7_drops_5 : decode cX7_drops 5 = .ok (.iconst 1, 1) := dk_4 (dk_at dksX7_drops_0 5 rfl rfl)
theorem dX7_drops_6 : decode cX7_drops 6 = .ok (.iadd, 1) := dk_96 (dk_at dksX7_drops_0 6 rfl rfl)
theorem dX7_drops_7 : decode cX7_drops 7 = .ok (.aload_n 0, 1) := dk_42 (dk_at dksX7_drops_0 7 rfl rfl)
theorem dX7_drops_8 : decode cX7_drops 8 = .ok (.getfield 21, 3) := dk_180 0 21 (dk_at dksX7_drops_0 8 rfl rfl)
theorem dX7_drops_11 : decode cX7_drops 11 = .ok (.iload_n 1, 1) := dk_27 (dk_at dksX7_drops_0 11 rfl rfl)
theorem dX7_drops_12 : decode cX7_drops 12 = .ok (.aload_n 0, 1) := dk_42 (dk_at dksX7_drops_0 12 rfl rfl)
theorem dX7_drops_13 : decode cX7_drops 13 = .ok (.getfield 33, 3) := dk_180 0 33 (dk_at dksX7_drops_0 13 rfl rfl)
theorem dX7_drops_16 : decode cX7_drops 16 = .ok (.iconst 1, 1) := dk_4 (dk_at dksX7_drops_0 16 rfl rfl)
theorem dX7_drops_17 : decode cX7_drops 17 = .ok (.isub, 1) := dk_100 (dk_at dksX7_drops_0 17 rfl rfl)
theorem dX7_drops_18 : decode cX7_drops 18 = .ok (.iload_n 1, 1) := dk_27 (dk_at dksX7_drops_0 18 rfl rfl)
theorem dX7_drops_19 : decode cX7_drops 19 = .ok (.isub, 1) := dk_100 (dk_at dksX7_drops_0 19 rfl rfl)
theorem dX7_drops_20 : decode cX7_drops 20 = .ok (.invokestatic 46, 3) := dk_184 0 46 (dk_at dksX7_drops_0 20 rfl rfl)
theorem dX7_drops_23 : decode cX7_drops 23 = .ok (.aload_n 0, 1) := dk_42 (dk_at dksX7_drops_0 23 rfl rfl)
theorem dX7_drops_24 : decode cX7_drops 24 = .ok (.dup, 1) := dk_89 (dk_at dksX7_drops_1 0 rfl rfl)
theorem dX7_drops_25 : decode cX7_drops 25 = .ok (.getfield 33, 3) := dk_180 0 33 (dk_at dksX7_drops_1 1 rfl rfl)
theorem dX7_drops_28 : decode cX7_drops 28 = .ok (.iconst 1, 1) := dk_4 (dk_at dksX7_drops_1 4 rfl rfl)
theorem dX7_drops_29 : decode cX7_drops 29 = .ok (.isub, 1) := dk_100 (dk_at dksX7_drops_1 5 rfl rfl)
theorem dX7_drops_30 : decode cX7_drops 30 = .ok (.putfield 33, 3) := dk_181 0 33 (dk_at dksX7_drops_1 6 rfl rfl)
theorem dX7_drops_33 : decode cX7_drops 33 = .ok (.return_, 1) := dk_177 (dk_at dksX7_drops_1 9 rfl rfl)
abbrev cX7_set : ByteArray := prog_8_method_5_code
def yX7_set : MethodName := ⟨RX7, "set", "()I"⟩
def dkwX7_set_1 : List UInt8 := [54, 5, 27, 4, 21, 5, 120, 128, 60, 132, 4, 1, 167, 255, 234, 27, 172]
abbrev dktX7_set_1 : List UInt8 := dkwX7_set_1 ++ []
def dkwX7_set_0 : List UInt8 := [3, 60, 42, 180, 0, 9, 77, 44, 190, 62, 3, 54, 4, 21, 4, 29, 162, 0, 22, 44, 21, 4, 46]
abbrev dktX7_set_0 : List UInt8 := dkwX7_set_0 ++ dktX7_set_1
theorem dksX7_set_0 : cX7_set.data.toList.drop 0 = dktX7_set_0 := by decide +kernel
theorem dksX7_set_1 : cX7_set.data.toList.drop 23 = dktX7_set_1 := dk_seg dksX7_set_0 23 rfl rfl
theorem dX7_set_0 : decode cX7_set 0 = .ok (.iconst 0, 1) := dk_3 (dk_at dksX7_set_0 0 rfl rfl)
theorem dX7_set_1 : decode cX7_set 1 = .ok (.istore_n 1, 1) := dk_60 (dk_at dksX7_set_0 1 rfl rfl)
theorem dX7_set_2 : decode cX7_set 2 = .ok (.aload_n 0, 1) := dk_42 (dk_at dksX7_set_0 2 rfl rfl)
theorem dX7_set_3 : decode cX7_set 3 = .ok (.getfield 9, 3) := dk_180 0 9 (dk_at dksX7_set_0 3 rfl rfl)
theorem dX7_set_6 : decode cX7_set 6 = .ok (.astore_n 2, 1) := dk_77 (dk_at dksX7_set_0 6 rfl rfl)
theorem dX7_set_7 : decode cX7_set 7 = .ok (.aload_n 2, 1) := dk_44 (dk_at dksX7_set_0 7 rfl rfl)
theorem dX7_set_8 : decode cX7_set 8 = .ok (.arraylength, 1) := dk_190 (dk_at dksX7_set_0 8 rfl rfl)
theorem dX7_set_9 : decode cX7_set 9 = .ok (.istore_n 3, 1) := dk_62 (dk_at dksX7_set_0 9 rfl rfl)
theorem dX7_set_10 : decode cX7_set 10 = .ok (.iconst 0, 1) := dk_3 (dk_at dksX7_set_0 10 rfl rfl)
theorem dX7_set_11 : decode cX7_set 11 = .ok (.istore 4, 2) := dk_54 4 (dk_at dksX7_set_0 11 rfl rfl)
theorem dX7_set_13 : decode cX7_set 13 = .ok (.iload 4, 2) := dk_21 4 (dk_at dksX7_set_0 13 rfl rfl)
theorem dX7_set_15 : decode cX7_set 15 = .ok (.iload_n 3, 1) := dk_29 (dk_at dksX7_set_0 15 rfl rfl)
theorem dX7_set_16 : decode cX7_set 16 = .ok (.if_icmp .ge 22, 3) := dk_162 0 22 (dk_at dksX7_set_0 16 rfl rfl)
theorem dX7_set_19 : decode cX7_set 19 = .ok (.aload_n 2, 1) := dk_44 (dk_at dksX7_set_0 19 rfl rfl)
theorem dX7_set_20 : decode cX7_set 20 = .ok (.iload 4, 2) := dk_21 4 (dk_at dksX7_set_0 20 rfl rfl)
theorem dX7_set_22 : decode cX7_set 22 = .ok (.iaload, 1) := dk_46 (dk_at dksX7_set_0 22 rfl rfl)
theorem dX7_set_23 : decode cX7_set 23 = .ok (.istore 5, 2) := dk_54 5 (dk_at dksX7_set_1 0 rfl rfl)
theorem dX7_set_25 : decode cX7_set 25 = .ok (.iload_n 1, 1) := dk_27 (dk_at dksX7_set_1 2 rfl rfl)
theorem dX7_set_26 : decode cX7_set 26 = .ok (.iconst 1, 1) := dk_4 (dk_at dksX7_set_1 3 rfl rfl)
theorem dX7_set_27 : decode cX7_set 27 = .ok (.iload 5, 2) := dk_21 5 (dk_at dksX7_set_1 4 rfl rfl)
theorem dX7_set_29 : decode cX7_set 29 = .ok (.ishl, 1) := dk_120 (dk_at dksX7_set_1 6 rfl rfl)
theorem dX7_set_30 : decode cX7_set 30 = .ok (.ior, 1) := dk_128 (dk_at dksX7_set_1 7 rfl rfl)
theorem dX7_set_31 : decode cX7_set 31 = .ok (.istore_n 1, 1) := dk_60 (dk_at dksX7_set_1 8 rfl rfl)
theorem dX7_set_32 : decode cX7_set 32 = .ok (.iinc 4 1, 3) := dk_132 4 1 (dk_at dksX7_set_1 9 rfl rfl)
theorem dX7_set_35 : decode cX7_set 35 = .ok (.goto (-22), 3) := dk_167 255 234 (dk_at dksX7_set_1 12 rfl rfl)
theorem dX7_set_38 : decode cX7_set 38 = .ok (.iload_n 1, 1) := dk_27 (dk_at dksX7_set_1 15 rfl rfl)
theorem dX7_set_39 : decode cX7_set 39 = .ok (.ireturn, 1) := dk_172 (dk_at dksX7_set_1 16 rfl rfl)
abbrev cX7_keys : ByteArray := prog_8_method_11_code
def yX7_keys : MethodName := ⟨RX7, "keys", "(I[II[I)I"⟩
def dkwX7_keys_6 : List UInt8 := [132, 7, 1, 167, 255, 125, 21, 5, 172]
abbrev dktX7_keys_6 : List UInt8 := dkwX7_keys_6 ++ []
def dkwX7_keys_5 : List UInt8 := [25, 4, 21, 10, 4, 100, 46, 79, 132, 10, 255, 167, 255, 234, 25, 4, 21, 9, 21, 8, 79, 132, 5, 1]
abbrev dktX7_keys_5 : List UInt8 := dkwX7_keys_5 ++ dktX7_keys_6
def dkwX7_keys_4 : List UInt8 := [21, 8, 160, 0, 6, 167, 0, 42, 21, 5, 54, 10, 21, 10, 21, 9, 164, 0, 21, 25, 4, 21, 10]
abbrev dktX7_keys_4 : List UInt8 := dkwX7_keys_4 ++ dktX7_keys_5
def dkwX7_keys_3 : List UInt8 := [21, 8, 164, 0, 9, 132, 9, 255, 167, 255, 236, 21, 9, 158, 0, 18, 25, 4, 21, 9, 4, 100, 46]
abbrev dktX7_keys_3 : List UInt8 := dkwX7_keys_3 ++ dktX7_keys_4
def dkwX7_keys_2 : List UInt8 := [21, 6, 182, 0, 56, 54, 8, 21, 5, 54, 9, 21, 9, 158, 0, 21, 25, 4, 21, 9, 4, 100, 46]
abbrev dktX7_keys_2 : List UInt8 := dkwX7_keys_2 ++ dktX7_keys_3
def dkwX7_keys_1 : List UInt8 := [180, 0, 21, 21, 7, 50, 44, 29, 182, 0, 63, 154, 0, 6, 167, 0, 103, 42, 180, 0, 21, 21, 7, 50]
abbrev dktX7_keys_1 : List UInt8 := dkwX7_keys_1 ++ dktX7_keys_2
def dkwX7_keys_0 : List UInt8 := [3, 54, 5, 42, 27, 182, 0, 60, 54, 6, 3, 54, 7, 21, 7, 42, 180, 0, 33, 162, 0, 128, 42, 42]
abbrev dktX7_keys_0 : List UInt8 := dkwX7_keys_0 ++ dktX7_keys_1
theorem dksX7_keys_0 : cX7_keys.data.toList.drop 0 = dktX7_keys_0 := by decide +kernel
theorem dksX7_keys_1 : cX7_keys.data.toList.drop 24 = dktX7_keys_1 := dk_seg dksX7_keys_0 24 rfl rfl
theorem dksX7_keys_2 : cX7_keys.data.toList.drop 48 = dktX7_keys_2 := dk_seg dksX7_keys_1 24 rfl rfl
theorem dksX7_keys_3 : cX7_keys.data.toList.drop 71 = dktX7_keys_3 := dk_seg dksX7_keys_2 23 rfl rfl
theorem dksX7_keys_4 : cX7_keys.data.toList.drop 94 = dktX7_keys_4 := dk_seg dksX7_keys_3 23 rfl rfl
theorem dksX7_keys_5 : cX7_keys.data.toList.drop 117 = dktX7_keys_5 := dk_seg dksX7_keys_4 23 rfl rfl
theorem dksX7_keys_6 : cX7_keys.data.toList.drop 141 = dktX7_keys_6 := dk_seg dksX7_keys_5 24 rfl rfl
theorem dX7_keys_0 : decode cX7_keys 0 = .ok (.iconst 0, 1) := dk_3 (dk_at dksX7_keys_0 0 rfl rfl)
theorem dX7_keys_1 : decode cX7_keys 1 = .ok (.istore 5, 2) := dk_54 5 (dk_at dksX7_keys_0 1 rfl rfl)
theorem dX7_keys_3 : decode cX7_keys 3 = .ok (.aload_n 0, 1) := dk_42 (dk_at dksX7_keys_0 3 rfl rfl)
theorem dX7_keys_4 : decode cX7_keys 4 = .ok (.iload_n 1, 1) := dk_27 (dk_at dksX7_keys_0 4 rfl rfl)
theorem dX7_keys_5 : decode cX7_keys 5 = .ok (.invokevirtual 60, 3) := dk_182 0 60 (dk_at dksX7_keys_0 5 rfl rfl)
theorem dX7_keys_8 : decode cX7_keys 8 = .ok (.istore 6, 2) := dk_54 6 (dk_at dksX7_keys_0 8 rfl rfl)
theorem dX7_keys_10 : decode cX7_keys 10 = .ok (.iconst 0, 1) := dk_3 (dk_at dksX7_keys_0 10 rfl rfl)
theorem dX7_keys_11 : decode cX7_keys 11 = .ok (.istore 7, 2) := dk_54 7 (dk_at dksX7_keys_0 11 rfl rfl)
theorem dX7_keys_13 : decode cX7_keys 13 = .ok (.iload 7, 2) := dk_21 7 (dk_at dksX7_keys_0 13 rfl rfl)
theorem dX7_keys_15 : decode cX7_keys 15 = .ok (.aload_n 0, 1) := dk_42 (dk_at dksX7_keys_0 15 rfl rfl)
theorem dX7_keys_16 : decode cX7_keys 16 = .ok (.getfield 33, 3) := dk_180 0 33 (dk_at dksX7_keys_0 16 rfl rfl)
theorem dX7_keys_19 : decode cX7_keys 19 = .ok (.if_icmp .ge 128, 3) := dk_162 0 128 (dk_at dksX7_keys_0 19 rfl rfl)
theorem dX7_keys_22 : decode cX7_keys 22 = .ok (.aload_n 0, 1) := dk_42 (dk_at dksX7_keys_0 22 rfl rfl)
theorem dX7_keys_23 : decode cX7_keys 23 = .ok (.aload_n 0, 1) := dk_42 (dk_at dksX7_keys_0 23 rfl rfl)
theorem dX7_keys_24 : decode cX7_keys 24 = .ok (.getfield 21, 3) := dk_180 0 21 (dk_at dksX7_keys_1 0 rfl rfl)
theorem dX7_keys_27 : decode cX7_keys 27 = .ok (.iload 7, 2) := dk_21 7 (dk_at dksX7_keys_1 3 rfl rfl)
theorem dX7_keys_29 : decode cX7_keys 29 = .ok (.aaload, 1) := dk_50 (dk_at dksX7_keys_1 5 rfl rfl)
theorem dX7_keys_30 : decode cX7_keys 30 = .ok (.aload_n 2, 1) := dk_44 (dk_at dksX7_keys_1 6 rfl rfl)
theorem dX7_keys_31 : decode cX7_keys 31 = .ok (.iload_n 3, 1) := dk_29 (dk_at dksX7_keys_1 7 rfl rfl)
theorem dX7_keys_32 : decode cX7_keys 32 = .ok (.invokevirtual 63, 3) := dk_182 0 63 (dk_at dksX7_keys_1 8 rfl rfl)
theorem dX7_keys_35 : decode cX7_keys 35 = .ok (.ifCond .ne 6, 3) := dk_154 0 6 (dk_at dksX7_keys_1 11 rfl rfl)
theorem dX7_keys_38 : decode cX7_keys 38 = .ok (.goto 103, 3) := dk_167 0 103 (dk_at dksX7_keys_1 14 rfl rfl)
theorem dX7_keys_41 : decode cX7_keys 41 = .ok (.aload_n 0, 1) := dk_42 (dk_at dksX7_keys_1 17 rfl rfl)
theorem dX7_keys_42 : decode cX7_keys 42 = .ok (.getfield 21, 3) := dk_180 0 21 (dk_at dksX7_keys_1 18 rfl rfl)
theorem dX7_keys_45 : decode cX7_keys 45 = .ok (.iload 7, 2) := dk_21 7 (dk_at dksX7_keys_1 21 rfl rfl)
theorem dX7_keys_47 : decode cX7_keys 47 = .ok (.aaload, 1) := dk_50 (dk_at dksX7_keys_1 23 rfl rfl)
theorem dX7_keys_48 : decode cX7_keys 48 = .ok (.iload 6, 2) := dk_21 6 (dk_at dksX7_keys_2 0 rfl rfl)
theorem dX7_keys_50 : decode cX7_keys 50 = .ok (.invokevirtual 56, 3) := dk_182 0 56 (dk_at dksX7_keys_2 2 rfl rfl)
theorem dX7_keys_53 : decode cX7_keys 53 = .ok (.istore 8, 2) := dk_54 8 (dk_at dksX7_keys_2 5 rfl rfl)
theorem dX7_keys_55 : decode cX7_keys 55 = .ok (.iload 5, 2) := dk_21 5 (dk_at dksX7_keys_2 7 rfl rfl)
theorem dX7_keys_57 : decode cX7_keys 57 = .ok (.istore 9, 2) := dk_54 9 (dk_at dksX7_keys_2 9 rfl rfl)
theorem dX7_keys_59 : decode cX7_keys 59 = .ok (.iload 9, 2) := dk_21 9 (dk_at dksX7_keys_2 11 rfl rfl)
theorem dX7_keys_61 : decode cX7_keys 61 = .ok (.ifCond .le 21, 3) := dk_158 0 21 (dk_at dksX7_keys_2 13 rfl rfl)
theorem dX7_keys_64 : decode cX7_keys 64 = .ok (.aload 4, 2) := dk_25 4 (dk_at dksX7_keys_2 16 rfl rfl)
theorem dX7_keys_66 : decode cX7_keys 66 = .ok (.iload 9, 2) := dk_21 9 (dk_at dksX7_keys_2 18 rfl rfl)
theorem dX7_keys_68 : decode cX7_keys 68 = .ok (.iconst 1, 1) := dk_4 (dk_at dksX7_keys_2 20 rfl rfl)
theorem dX7_keys_69 : decode cX7_keys 69 = .ok (.isub, 1) := dk_100 (dk_at dksX7_keys_2 21 rfl rfl)
theorem dX7_keys_70 : decode cX7_keys 70 = .ok (.iaload, 1) := dk_46 (dk_at dksX7_keys_2 22 rfl rfl)
theorem dX7_keys_71 : decode cX7_keys 71 = .ok (.iload 8, 2) := dk_21 8 (dk_at dksX7_keys_3 0 rfl rfl)
theorem dX7_keys_73 : decode cX7_keys 73 = .ok (.if_icmp .le 9, 3) := dk_164 0 9 (dk_at dksX7_keys_3 2 rfl rfl)
theorem dX7_keys_76 : decode cX7_keys 76 = .ok (.iinc 9 (-1), 3) := dk_132 9 255 (dk_at dksX7_keys_3 5 rfl rfl)
theorem dX7_keys_79 : decode cX7_keys 79 = .ok (.goto (-20), 3) := dk_167 255 236 (dk_at dksX7_keys_3 8 rfl rfl)
theorem dX7_keys_82 : decode cX7_keys 82 = .ok (.iload 9, 2) := dk_21 9 (dk_at dksX7_keys_3 11 rfl rfl)
theorem dX7_keys_84 : decode cX7_keys 84 = .ok (.ifCond .le 18, 3) := dk_158 0 18 (dk_at dksX7_keys_3 13 rfl rfl)
theorem dX7_keys_87 : decode cX7_keys 87 = .ok (.aload 4, 2) := dk_25 4 (dk_at dksX7_keys_3 16 rfl rfl)
theorem dX7_keys_89 : decode cX7_keys 89 = .ok (.iload 9, 2) := dk_21 9 (dk_at dksX7_keys_3 18 rfl rfl)
theorem dX7_keys_91 : decode cX7_keys 91 = .ok (.iconst 1, 1) := dk_4 (dk_at dksX7_keys_3 20 rfl rfl)
theorem dX7_keys_92 : decode cX7_keys 92 = .ok (.isub, 1) := dk_100 (dk_at dksX7_keys_3 21 rfl rfl)
theorem dX7_keys_93 : decode cX7_keys 93 = .ok (.iaload, 1) := dk_46 (dk_at dksX7_keys_3 22 rfl rfl)
theorem dX7_keys_94 : decode cX7_keys 94 = .ok (.iload 8, 2) := dk_21 8 (dk_at dksX7_keys_4 0 rfl rfl)
theorem dX7_keys_96 : decode cX7_keys 96 = .ok (.if_icmp .ne 6, 3) := dk_160 0 6 (dk_at dksX7_keys_4 2 rfl rfl)
theorem dX7_keys_99 : decode cX7_keys 99 = .ok (.goto 42, 3) := dk_167 0 42 (dk_at dksX7_keys_4 5 rfl rfl)
theorem dX7_keys_102 : decode cX7_keys 102 = .ok (.iload 5, 2) := dk_21 5 (dk_at dksX7_keys_4 8 rfl rfl)
theorem dX7_keys_104 : decode cX7_keys 104 = .ok (.istore 10, 2) := dk_54 10 (dk_at dksX7_keys_4 10 rfl rfl)
theorem dX7_keys_106 : decode cX7_keys 106 = .ok (.iload 10, 2) := dk_21 10 (dk_at dksX7_keys_4 12 rfl rfl)
theorem dX7_keys_108 : decode cX7_keys 108 = .ok (.iload 9, 2) := dk_21 9 (dk_at dksX7_keys_4 14 rfl rfl)
theorem dX7_keys_110 : decode cX7_keys 110 = .ok (.if_icmp .le 21, 3) := dk_164 0 21 (dk_at dksX7_keys_4 16 rfl rfl)
theorem dX7_keys_113 : decode cX7_keys 113 = .ok (.aload 4, 2) := dk_25 4 (dk_at dksX7_keys_4 19 rfl rfl)
theorem dX7_keys_115 : decode cX7_keys 115 = .ok (.iload 10, 2) := dk_21 10 (dk_at dksX7_keys_4 21 rfl rfl)
theorem dX7_keys_117 : decode cX7_keys 117 = .ok (.aload 4, 2) := dk_25 4 (dk_at dksX7_keys_5 0 rfl rfl)
theorem dX7_keys_119 : decode cX7_keys 119 = .ok (.iload 10, 2) := dk_21 10 (dk_at dksX7_keys_5 2 rfl rfl)
theorem dX7_keys_121 : decode cX7_keys 121 = .ok (.iconst 1, 1) := dk_4 (dk_at dksX7_keys_5 4 rfl rfl)
theorem dX7_keys_122 : decode cX7_keys 122 = .ok (.isub, 1) := dk_100 (dk_at dksX7_keys_5 5 rfl rfl)
theorem dX7_keys_123 : decode cX7_keys 123 = .ok (.iaload, 1) := dk_46 (dk_at dksX7_keys_5 6 rfl rfl)
theorem dX7_keys_124 : decode cX7_keys 124 = .ok (.iastore, 1) := dk_79 (dk_at dksX7_keys_5 7 rfl rfl)
theorem dX7_keys_125 : decode cX7_keys 125 = .ok (.iinc 10 (-1), 3) := dk_132 10 255 (dk_at dksX7_keys_5 8 rfl rfl)
theorem dX7_keys_128 : decode cX7_keys 128 = .ok (.goto (-22), 3) := dk_167 255 234 (dk_at dksX7_keys_5 11 rfl rfl)
theorem dX7_keys_131 : decode cX7_keys 131 = .ok (.aload 4, 2) := dk_25 4 (dk_at dksX7_keys_5 14 rfl rfl)
theorem dX7_keys_133 : decode cX7_keys 133 = .ok (.iload 9, 2) := dk_21 9 (dk_at dksX7_keys_5 16 rfl rfl)
theorem dX7_keys_135 : decode cX7_keys 135 = .ok (.iload 8, 2) := dk_21 8 (dk_at dksX7_keys_5 18 rfl rfl)
theorem dX7_keys_137 : decode cX7_keys 137 = .ok (.iastore, 1) := dk_79 (dk_at dksX7_keys_5 20 rfl rfl)
theorem dX7_keys_138 : decode cX7_keys 138 = .ok (.iinc 5 1, 3) := dk_132 5 1 (dk_at dksX7_keys_5 21 rfl rfl)
theorem dX7_keys_141 : decode cX7_keys 141 = .ok (.iinc 7 1, 3) := dk_132 7 1 (dk_at dksX7_keys_6 0 rfl rfl)
theorem dX7_keys_144 : decode cX7_keys 144 = .ok (.goto (-131), 3) := dk_167 255 125 (dk_at dksX7_keys_6 3 rfl rfl)
theorem dX7_keys_147 : decode cX7_keys 147 = .ok (.iload 5, 2) := dk_21 5 (dk_at dksX7_keys_6 6 rfl rfl)
theorem dX7_keys_149 : decode cX7_keys 149 = .ok (.ireturn, 1) := dk_172 (dk_at dksX7_keys_6 8 rfl rfl)
abbrev cX7_columnOf : ByteArray := prog_8_method_4_code
def yX7_columnOf : MethodName := ⟨RX7, "columnOf", "(I)I"⟩
def dkwX7_columnOf_1 : List UInt8 := [132, 2, 1, 167, 255, 232, 2, 172]
abbrev dktX7_columnOf_1 : List UInt8 := dkwX7_columnOf_1 ++ []
def dkwX7_columnOf_0 : List UInt8 := [3, 61, 28, 42, 180, 0, 9, 190, 162, 0, 21, 42, 180, 0, 9, 28, 46, 27, 160, 0, 5, 28, 172]
abbrev dktX7_columnOf_0 : List UInt8 := dkwX7_columnOf_0 ++ dktX7_columnOf_1
theorem dksX7_columnOf_0 : cX7_columnOf.data.toList.drop 0 = dktX7_columnOf_0 := by decide +kernel
theorem dksX7_columnOf_1 : cX7_columnOf.data.toList.drop 23 = dktX7_columnOf_1 := dk_seg dksX7_columnOf_0 23 rfl rfl
theorem dX7_columnOf_0 : decode cX7_columnOf 0 = .ok (.iconst 0, 1) := dk_3 (dk_at dksX7_columnOf_0 0 rfl rfl)
theorem dX7_columnOf_1 : decode cX7_columnOf 1 = .ok (.istore_n 2, 1) := dk_61 (dk_at dksX7_columnOf_0 1 rfl rfl)
theorem dX7_columnOf_2 : decode cX7_columnOf 2 = .ok (.iload_n 2, 1) := dk_28 (dk_at dksX7_columnOf_0 2 rfl rfl)
theorem dX7_columnOf_3 : decode cX7_columnOf 3 = .ok (.aload_n 0, 1) := dk_42 (dk_at dksX7_columnOf_0 3 rfl rfl)
theorem dX7_columnOf_4 : decode cX7_columnOf 4 = .ok (.getfield 9, 3) := dk_180 0 9 (dk_at dksX7_columnOf_0 4 rfl rfl)
theorem dX7_columnOf_7 : decode cX7_columnOf 7 = .ok (.arraylength, 1) := dk_190 (dk_at dksX7_columnOf_0 7 rfl rfl)
theorem dX7_columnOf_8 : decode cX7_columnOf 8 = .ok (.if_icmp .ge 21, 3) := dk_162 0 21 (dk_at dksX7_columnOf_0 8 rfl rfl)
theorem dX7_columnOf_11 : decode cX7_columnOf 11 = .ok (.aload_n 0, 1) := dk_42 (dk_at dksX7_columnOf_0 11 rfl rfl)
theorem dX7_columnOf_12 : decode cX7_columnOf 12 = .ok (.getfield 9, 3) := dk_180 0 9 (dk_at dksX7_columnOf_0 12 rfl rfl)
theorem dX7_columnOf_15 : decode cX7_columnOf 15 = .ok (.iload_n 2, 1) := dk_28 (dk_at dksX7_columnOf_0 15 rfl rfl)
theorem dX7_columnOf_16 : decode cX7_columnOf 16 = .ok (.iaload, 1) := dk_46 (dk_at dksX7_columnOf_0 16 rfl rfl)
theorem dX7_columnOf_17 : decode cX7_columnOf 17 = .ok (.iload_n 1, 1) := dk_27 (dk_at dksX7_columnOf_0 17 rfl rfl)
theorem dX7_columnOf_18 : decode cX7_columnOf 18 = .ok (.if_icmp .ne 5, 3) := dk_160 0 5 (dk_at dksX7_columnOf_0 18 rfl rfl)
theorem dX7_columnOf_21 : decode cX7_columnOf 21 = .ok (.iload_n 2, 1) := dk_28 (dk_at dksX7_columnOf_0 21 rfl rfl)
theorem dX7_columnOf_22 : decode cX7_columnOf 22 = .ok (.ireturn, 1) := dk_172 (dk_at dksX7_columnOf_0 22 rfl rfl)
theorem dX7_columnOf_23 : decode cX7_columnOf 23 = .ok (.iinc 2 1, 3) := dk_132 2 1 (dk_at dksX7_columnOf_1 0 rfl rfl)
theorem dX7_columnOf_26 : decode cX7_columnOf 26 = .ok (.goto (-24), 3) := dk_167 255 232 (dk_at dksX7_columnOf_1 3 rfl rfl)
theorem dX7_columnOf_29 : decode cX7_columnOf 29 = .ok (.iconst (-1), 1) := dk_2 (dk_at dksX7_columnOf_1 6 rfl rfl)
theorem dX7_columnOf_30 : decode cX7_columnOf 30 = .ok (.ireturn, 1) := dk_172 (dk_at dksX7_columnOf_1 7 rfl rfl)
abbrev cX7_fits : ByteArray := prog_8_method_10_code
def yX7_fits : MethodName := ⟨RX7, "fits", "(LLeapJoin$Row;[II)Z"⟩
def dkwX7_fits_2 : List UInt8 := [132, 4, 1, 167, 255, 209, 4, 172]
abbrev dktX7_fits_2 : List UInt8 := dkwX7_fits_2 ++ []
def dkwX7_fits_1 : List UInt8 := [153, 0, 23, 44, 42, 180, 0, 9, 21, 4, 46, 46, 43, 21, 4, 182, 0, 56, 159, 0, 5, 3, 172]
abbrev dktX7_fits_1 : List UInt8 := dkwX7_fits_1 ++ dktX7_fits_2
def dkwX7_fits_0 : List UInt8 := [3, 54, 4, 21, 4, 42, 180, 0, 9, 190, 162, 0, 43, 29, 42, 180, 0, 9, 21, 4, 46, 184, 0, 52]
abbrev dktX7_fits_0 : List UInt8 := dkwX7_fits_0 ++ dktX7_fits_1
theorem dksX7_fits_0 : cX7_fits.data.toList.drop 0 = dktX7_fits_0 := by decide +kernel
theorem dksX7_fits_1 : cX7_fits.data.toList.drop 24 = dktX7_fits_1 := dk_seg dksX7_fits_0 24 rfl rfl
theorem dksX7_fits_2 : cX7_fits.data.toList.drop 47 = dktX7_fits_2 := dk_seg dksX7_fits_1 23 rfl rfl
theorem dX7_fits_0 : decode cX7_fits 0 = .ok (.iconst 0, 1) := dk_3 (dk_at dksX7_fits_0 0 rfl rfl)
theorem dX7_fits_1 : decode cX7_fits 1 = .ok (.istore 4, 2) := dk_54 4 (dk_at dksX7_fits_0 1 rfl rfl)
theorem dX7_fits_3 : decode cX7_fits 3 = .ok (.iload 4, 2) := dk_21 4 (dk_at dksX7_fits_0 3 rfl rfl)
theorem dX7_fits_5 : decode cX7_fits 5 = .ok (.aload_n 0, 1) := dk_42 (dk_at dksX7_fits_0 5 rfl rfl)
theorem dX7_fits_6 : decode cX7_fits 6 = .ok (.getfield 9, 3) := dk_180 0 9 (dk_at dksX7_fits_0 6 rfl rfl)
theorem dX7_fits_9 : decode cX7_fits 9 = .ok (.arraylength, 1) := dk_190 (dk_at dksX7_fits_0 9 rfl rfl)
theorem dX7_fits_10 : decode cX7_fits 10 = .ok (.if_icmp .ge 43, 3) := dk_162 0 43 (dk_at dksX7_fits_0 10 rfl rfl)
theorem dX7_fits_13 : decode cX7_fits 13 = .ok (.iload_n 3, 1) := dk_29 (dk_at dksX7_fits_0 13 rfl rfl)
theorem dX7_fits_14 : decode cX7_fits 14 = .ok (.aload_n 0, 1) := dk_42 (dk_at dksX7_fits_0 14 rfl rfl)
theorem dX7_fits_15 : decode cX7_fits 15 = .ok (.getfield 9, 3) := dk_180 0 9 (dk_at dksX7_fits_0 15 rfl rfl)
theorem dX7_fits_18 : decode cX7_fits 18 = .ok (.iload 4, 2) := dk_21 4 (dk_at dksX7_fits_0 18 rfl rfl)
theorem dX7_fits_20 : decode cX7_fits 20 = .ok (.iaload, 1) := dk_46 (dk_at dksX7_fits_0 20 rfl rfl)
theorem dX7_fits_21 : decode cX7_fits 21 = .ok (.invokestatic 52, 3) := dk_184 0 52 (dk_at dksX7_fits_0 21 rfl rfl)
theorem dX7_fits_24 : decode cX7_fits 24 = .ok (.ifCond .eq 23, 3) := dk_153 0 23 (dk_at dksX7_fits_1 0 rfl rfl)
theorem dX7_fits_27 : decode cX7_fits 27 = .ok (.aload_n 2, 1) := dk_44 (dk_at dksX7_fits_1 3 rfl rfl)
theorem dX7_fits_28 : decode cX7_fits 28 = .ok (.aload_n 0, 1) := dk_42 (dk_at dksX7_fits_1 4 rfl rfl)
theorem dX7_fits_29 : decode cX7_fits 29 = .ok (.getfield 9, 3) := dk_180 0 9 (dk_at dksX7_fits_1 5 rfl rfl)
theorem dX7_fits_32 : decode cX7_fits 32 = .ok (.iload 4, 2) := dk_21 4 (dk_at dksX7_fits_1 8 rfl rfl)
theorem dX7_fits_34 : decode cX7_fits 34 = .ok (.iaload, 1) := dk_46 (dk_at dksX7_fits_1 10 rfl rfl)
theorem dX7_fits_35 : decode cX7_fits 35 = .ok (.iaload, 1) := dk_46 (dk_at dksX7_fits_1 11 rfl rfl)
theorem dX7_fits_36 : decode cX7_fits 36 = .ok (.aload_n 1, 1) := dk_43 (dk_at dksX7_fits_1 12 rfl rfl)
theorem dX7_fits_37 : decode cX7_fits 37 = .ok (.iload 4, 2) := dk_21 4 (dk_at dksX7_fits_1 13 rfl rfl)
theorem dX7_fits_39 : decode cX7_fits 39 = .ok (.invokevirtual 56, 3) := dk_182 0 56 (dk_at dksX7_fits_1 15 rfl rfl)
theorem dX7_fits_42 : decode cX7_fits 42 = .ok (.if_icmp .eq 5, 3) := dk_159 0 5 (dk_at dksX7_fits_1 18 rfl rfl)
theorem dX7_fits_45 : decode cX7_fits 45 = .ok (.iconst 0, 1) := dk_3 (dk_at dksX7_fits_1 21 rfl rfl)
theorem dX7_fits_46 : decode cX7_fits 46 = .ok (.ireturn, 1) := dk_172 (dk_at dksX7_fits_1 22 rfl rfl)
theorem dX7_fits_47 : decode cX7_fits 47 = .ok (.iinc 4 1, 3) := dk_132 4 1 (dk_at dksX7_fits_2 0 rfl rfl)
theorem dX7_fits_50 : decode cX7_fits 50 = .ok (.goto (-47), 3) := dk_167 255 209 (dk_at dksX7_fits_2 3 rfl rfl)
theorem dX7_fits_53 : decode cX7_fits 53 = .ok (.iconst 1, 1) := dk_4 (dk_at dksX7_fits_2 6 rfl rfl)
theorem dX7_fits_54 : decode cX7_fits 54 = .ok (.ireturn, 1) := dk_172 (dk_at dksX7_fits_2 7 rfl rfl)
abbrev cX7_rowIn : ByteArray := prog_8_method_12_code
def yX7_rowIn : MethodName := ⟨RX7, "rowIn", "([I)I"⟩
def dkwX7_rowIn_1 : List UInt8 := [153, 0, 5, 28, 172, 132, 2, 1, 167, 255, 227, 2, 172]
abbrev dktX7_rowIn_1 : List UInt8 := dkwX7_rowIn_1 ++ []
def dkwX7_rowIn_0 : List UInt8 := [3, 61, 28, 42, 180, 0, 33, 162, 0, 27, 42, 42, 180, 0, 21, 28, 50, 43, 16, 15, 182, 0, 63]
abbrev dktX7_rowIn_0 : List UInt8 := dkwX7_rowIn_0 ++ dktX7_rowIn_1
theorem dksX7_rowIn_0 : cX7_rowIn.data.toList.drop 0 = dktX7_rowIn_0 := by decide +kernel
theorem dksX7_rowIn_1 : cX7_rowIn.data.toList.drop 23 = dktX7_rowIn_1 := dk_seg dksX7_rowIn_0 23 rfl rfl
theorem dX7_rowIn_0 : decode cX7_rowIn 0 = .ok (.iconst 0, 1) := dk_3 (dk_at dksX7_rowIn_0 0 rfl rfl)
theorem dX7_rowIn_1 : decode cX7_rowIn 1 = .ok (.istore_n 2, 1) := dk_61 (dk_at dksX7_rowIn_0 1 rfl rfl)
theorem dX7_rowIn_2 : decode cX7_rowIn 2 = .ok (.iload_n 2, 1) := dk_28 (dk_at dksX7_rowIn_0 2 rfl rfl)
theorem dX7_rowIn_3 : decode cX7_rowIn 3 = .ok (.aload_n 0, 1) := dk_42 (dk_at dksX7_rowIn_0 3 rfl rfl)
theorem dX7_rowIn_4 : decode cX7_rowIn 4 = .ok (.getfield 33, 3) := dk_180 0 33 (dk_at dksX7_rowIn_0 4 rfl rfl)
theorem dX7_rowIn_7 : decode cX7_rowIn 7 = .ok (.if_icmp .ge 27, 3) := dk_162 0 27 (dk_at dksX7_rowIn_0 7 rfl rfl)
theorem dX7_rowIn_10 : decode cX7_rowIn 10 = .ok (.aload_n 0, 1) := dk_42 (dk_at dksX7_rowIn_0 10 rfl rfl)
theorem dX7_rowIn_11 : decode cX7_rowIn 11 = .ok (.aload_n 0, 1) := dk_42 (dk_at dksX7_rowIn_0 11 rfl rfl)
theorem dX7_rowIn_12 : decode cX7_rowIn 12 = .ok (.getfield 21, 3) := dk_180 0 21 (dk_at dksX7_rowIn_0 12 rfl rfl)
theorem dX7_rowIn_15 : decode cX7_rowIn 15 = .ok (.iload_n 2, 1) := dk_28 (dk_at dksX7_rowIn_0 15 rfl rfl)
theorem dX7_rowIn_16 : decode cX7_rowIn 16 = .ok (.aaload, 1) := dk_50 (dk_at dksX7_rowIn_0 16 rfl rfl)
theorem dX7_rowIn_17 : decode cX7_rowIn 17 = .ok (.aload_n 1, 1) := dk_43 (dk_at dksX7_rowIn_0 17 rfl rfl)
theorem dX7_rowIn_18 : decode cX7_rowIn 18 = .ok (.bipush 15, 2) := dk_16 15 (dk_at dksX7_rowIn_0 18 rfl rfl)
theorem dX7_rowIn_20 : decode cX7_rowIn 20 = .ok (.invokevirtual 63, 3) := dk_182 0 63 (dk_at dksX7_rowIn_0 20 rfl rfl)
theorem dX7_rowIn_23 : decode cX7_rowIn 23 = .ok (.ifCond .eq 5, 3) := dk_153 0 5 (dk_at dksX7_rowIn_1 0 rfl rfl)
theorem dX7_rowIn_26 : decode cX7_rowIn 26 = .ok (.iload_n 2, 1) := dk_28 (dk_at dksX7_rowIn_1 3 rfl rfl)
theorem dX7_rowIn_27 : decode cX7_rowIn 27 = .ok (.ireturn, 1) := dk_172 (dk_at dksX7_rowIn_1 4 rfl rfl)
theorem dX7_rowIn_28 : decode cX7_rowIn 28 = .ok (.iinc 2 1, 3) := dk_132 2 1 (dk_at dksX7_rowIn_1 5 rfl rfl)
theorem dX7_rowIn_31 : decode cX7_rowIn 31 = .ok (.goto (-29), 3) := dk_167 255 227 (dk_at dksX7_rowIn_1 8 rfl rfl)
theorem dX7_rowIn_34 : decode cX7_rowIn 34 = .ok (.iconst (-1), 1) := dk_2 (dk_at dksX7_rowIn_1 11 rfl rfl)
theorem dX7_rowIn_35 : decode cX7_rowIn 35 = .ok (.ireturn, 1) := dk_172 (dk_at dksX7_rowIn_1 12 rfl rfl)
theorem q131 : (Jvm.Cond.initialized "LeapJoin$Table") ∈ lw_all := lw_g (lw_at lw_m1 10 rfl) rfl
theorem q462 : (Jvm.Cond.instantiable "LeapJoin$Table" (4 : Nat)) ∈ lw_all := lw_g (lw_at lw_m2 101 rfl) rfl
theorem q464 : (Jvm.Cond.instanceMethod ({ cls := "LeapJoin$Table", name := "<init>", desc := "([I)V" } : Jvm.MethodName)) ∈ lw_all := lw_g (lw_at lw_m2 103 rfl) rfl
theorem q465 : (Jvm.Cond.code ({ cls := "LeapJoin$Table", name := "<init>", desc := "([I)V" } : Jvm.MethodName) prog_8_method_1_code (2 : Nat) (Option.none : Option Jvm.ClassFile.FieldType)) ∈ lw_all := lw_g (lw_at lw_m2 104 rfl) rfl
theorem q466 : (Jvm.Cond.methodLink "LeapJoin$Table" (3 : Nat) ({ cls := "java/lang/Object", name := "<init>", desc := "()V" } : Jvm.MethodName)) ∈ lw_all := lw_g (lw_at lw_m2 105 rfl) rfl
theorem q467 : (Jvm.Cond.methodLink "LeapJoin$Table" (15 : Nat) ({ cls := "LeapJoin$Row", name := "places", desc := "(I)[LLeapJoin$Row;" } : Jvm.MethodName)) ∈ lw_all := lw_g (lw_at lw_m2 106 rfl) rfl
theorem q476 : (Jvm.Cond.methodLink "LeapJoin$Table" (25 : Nat) ({ cls := "[LLeapJoin$Row;", name := "clone", desc := "()Ljava/lang/Object;" } : Jvm.MethodName)) ∈ lw_all := lw_g (lw_at lw_m2 115 rfl) rfl
theorem q483 : (Jvm.Cond.classLink "LeapJoin$Table" (26 : Nat) "[LLeapJoin$Row;") ∈ lw_all := lw_g (lw_at lw_m2 122 rfl) rfl
theorem q484 : (Jvm.Cond.fieldLink "LeapJoin$Table" (9 : Nat) "LeapJoin$Table" "letters" "[I") ∈ lw_all := lw_g (lw_at lw_m2 123 rfl) rfl
theorem q487 : (Jvm.Cond.fieldLink "LeapJoin$Table" (21 : Nat) "LeapJoin$Table" "rows" "[LLeapJoin$Row;") ∈ lw_all := lw_g (lw_at lw_m2 126 rfl) rfl
theorem q489 : (Jvm.Cond.fieldLink "LeapJoin$Table" (30 : Nat) "LeapJoin$Table" "one" "[LLeapJoin$Row;") ∈ lw_all := lw_g (lw_at lw_m2 128 rfl) rfl
theorem q490 : (Jvm.Cond.fieldLink "LeapJoin$Table" (33 : Nat) "LeapJoin$Table" "many" "I") ∈ lw_all := lw_g (lw_at lw_m2 129 rfl) rfl
theorem q493 : (Jvm.Cond.laysFinal "LeapJoin$Table" "LeapJoin$Table" "letters" "[I") ∈ lw_all := lw_g (lw_at lw_m2 132 rfl) rfl
theorem q494 : (Jvm.Cond.soleField "LeapJoin$Table" "letters") ∈ lw_all := lw_g (lw_at lw_m2 133 rfl) rfl
theorem q495 : (Jvm.Cond.laysFinal "LeapJoin$Table" "LeapJoin$Table" "rows" "[LLeapJoin$Row;") ∈ lw_all := lw_g (lw_at lw_m2 134 rfl) rfl
theorem q496 : (Jvm.Cond.soleField "LeapJoin$Table" "rows") ∈ lw_all := lw_g (lw_at lw_m2 135 rfl) rfl
theorem q497 : (Jvm.Cond.laysFinal "LeapJoin$Table" "LeapJoin$Table" "one" "[LLeapJoin$Row;") ∈ lw_all := lw_g (lw_at lw_m2 136 rfl) rfl
theorem q498 : (Jvm.Cond.soleField "LeapJoin$Table" "one") ∈ lw_all := lw_g (lw_at lw_m2 137 rfl) rfl
theorem q499 : (Jvm.Cond.lays "LeapJoin$Table" "LeapJoin$Table" "many" "I") ∈ lw_all := lw_g (lw_at lw_m2 138 rfl) rfl
theorem q500 : (Jvm.Cond.soleField "LeapJoin$Table" "many") ∈ lw_all := lw_g (lw_at lw_m2 139 rfl) rfl
theorem q501 : (Jvm.Cond.superclass "LeapJoin$Table" "java/lang/Object") ∈ lw_all := lw_g (lw_at lw_m2 140 rfl) rfl
theorem q567 : (Jvm.Cond.instanceMethod ({ cls := "LeapJoin$Table", name := "spotOf", desc := "(LLeapJoin$Row;)I" } : Jvm.MethodName)) ∈ lw_all := lw_g (lw_at lw_m2 206 rfl) rfl
theorem q568 : (Jvm.Cond.selects "LeapJoin$Table" ({ cls := "LeapJoin$Table", name := "spotOf", desc := "(LLeapJoin$Row;)I" } : Jvm.MethodName) ({ cls := "LeapJoin$Table", name := "spotOf", desc := "(LLeapJoin$Row;)I" } : Jvm.MethodName)) ∈ lw_all := lw_g (lw_at lw_m2 207 rfl) rfl
theorem q569 : (Jvm.Cond.code ({ cls := "LeapJoin$Table", name := "spotOf", desc := "(LLeapJoin$Row;)I" } : Jvm.MethodName) prog_8_method_6_code (3 : Nat) (Option.some Jvm.ClassFile.FieldType.int)) ∈ lw_all := lw_g (lw_at lw_m2 208 rfl) rfl
theorem q570 : (Jvm.Cond.methodLink "LeapJoin$Table" (40 : Nat) ({ cls := "LeapJoin$Row", name := "against", desc := "(LLeapJoin$Row;)I" } : Jvm.MethodName)) ∈ lw_all := lw_g (lw_at lw_m2 209 rfl) rfl
theorem q602 : (Jvm.Cond.instanceMethod ({ cls := "LeapJoin$Table", name := "takes", desc := "(LLeapJoin$Row;)V" } : Jvm.MethodName)) ∈ lw_all := lw_g (lw_at lw_m3 1 rfl) rfl
theorem q603 : (Jvm.Cond.selects "LeapJoin$Table" ({ cls := "LeapJoin$Table", name := "takes", desc := "(LLeapJoin$Row;)V" } : Jvm.MethodName) ({ cls := "LeapJoin$Table", name := "takes", desc := "(LLeapJoin$Row;)V" } : Jvm.MethodName)) ∈ lw_all := lw_g (lw_at lw_m3 2 rfl) rfl
theorem q604 : (Jvm.Cond.code ({ cls := "LeapJoin$Table", name := "takes", desc := "(LLeapJoin$Row;)V" } : Jvm.MethodName) prog_8_method_8_code (3 : Nat) (Option.none : Option Jvm.ClassFile.FieldType)) ∈ lw_all := lw_g (lw_at lw_m3 3 rfl) rfl
theorem q773 : (Jvm.Cond.instanceMethod ({ cls := "LeapJoin$Table", name := "suits", desc := "(LLeapJoin$Row;)Z" } : Jvm.MethodName)) ∈ lw_all := lw_g (lw_at lw_m3 172 rfl) rfl
theorem q774 : (Jvm.Cond.selects "LeapJoin$Table" ({ cls := "LeapJoin$Table", name := "suits", desc := "(LLeapJoin$Row;)Z" } : Jvm.MethodName) ({ cls := "LeapJoin$Table", name := "suits", desc := "(LLeapJoin$Row;)Z" } : Jvm.MethodName)) ∈ lw_all := lw_g (lw_at lw_m3 173 rfl) rfl
theorem q775 : (Jvm.Cond.codeWith ({ cls := "LeapJoin$Table", name := "suits", desc := "(LLeapJoin$Row;)Z" } : Jvm.MethodName) prog_8_method_7_code (3 : Nat) (Option.some Jvm.ClassFile.FieldType.boolean) [((0 : Nat), (16 : Nat), (17 : Nat), (44 : Nat))]) ∈ lw_all := lw_g (lw_at lw_m3 174 rfl) rfl
theorem q776 : (Jvm.Cond.classLink "LeapJoin$Table" (44 : Nat) "java/lang/ArrayStoreException") ∈ lw_all := lw_g (lw_at lw_m3 175 rfl) rfl
theorem q807 : (Jvm.Cond.instanceMethod ({ cls := "LeapJoin$Table", name := "copy", desc := "()LLeapJoin$Table;" } : Jvm.MethodName)) ∈ lw_all := lw_g (lw_at lw_m3 206 rfl) rfl
theorem q808 : (Jvm.Cond.selects "LeapJoin$Table" ({ cls := "LeapJoin$Table", name := "copy", desc := "()LLeapJoin$Table;" } : Jvm.MethodName) ({ cls := "LeapJoin$Table", name := "copy", desc := "()LLeapJoin$Table;" } : Jvm.MethodName)) ∈ lw_all := lw_g (lw_at lw_m3 207 rfl) rfl
theorem q809 : (Jvm.Cond.code ({ cls := "LeapJoin$Table", name := "copy", desc := "()LLeapJoin$Table;" } : Jvm.MethodName) prog_8_method_3_code (1 : Nat) (Option.some (Jvm.ClassFile.FieldType.object "LeapJoin$Table"))) ∈ lw_all := lw_g (lw_at lw_m3 208 rfl) rfl
theorem q810 : (Jvm.Cond.classLink "LeapJoin$Table" (10 : Nat) "LeapJoin$Table") ∈ lw_all := lw_g (lw_at lw_m3 209 rfl) rfl
theorem q811 : (Jvm.Cond.methodLink "LeapJoin$Table" (37 : Nat) ({ cls := "LeapJoin$Table", name := "<init>", desc := "(LLeapJoin$Table;)V" } : Jvm.MethodName)) ∈ lw_all := lw_g (lw_at lw_m3 210 rfl) rfl
theorem q812 : (Jvm.Cond.instanceMethod ({ cls := "LeapJoin$Table", name := "<init>", desc := "(LLeapJoin$Table;)V" } : Jvm.MethodName)) ∈ lw_all := lw_g (lw_at lw_m3 211 rfl) rfl
theorem q813 : (Jvm.Cond.code ({ cls := "LeapJoin$Table", name := "<init>", desc := "(LLeapJoin$Table;)V" } : Jvm.MethodName) prog_8_method_2_code (2 : Nat) (Option.none : Option Jvm.ClassFile.FieldType)) ∈ lw_all := lw_g (lw_at lw_m3 212 rfl) rfl
theorem q824 : (Jvm.Cond.instanceMethod ({ cls := "LeapJoin$Table", name := "drops", desc := "(I)V" } : Jvm.MethodName)) ∈ lw_all := lw_g (lw_at lw_m3 223 rfl) rfl
theorem q825 : (Jvm.Cond.selects "LeapJoin$Table" ({ cls := "LeapJoin$Table", name := "drops", desc := "(I)V" } : Jvm.MethodName) ({ cls := "LeapJoin$Table", name := "drops", desc := "(I)V" } : Jvm.MethodName)) ∈ lw_all := lw_g (lw_at lw_m3 224 rfl) rfl
theorem q826 : (Jvm.Cond.code ({ cls := "LeapJoin$Table", name := "drops", desc := "(I)V" } : Jvm.MethodName) prog_8_method_9_code (2 : Nat) (Option.none : Option Jvm.ClassFile.FieldType)) ∈ lw_all := lw_g (lw_at lw_m3 225 rfl) rfl
theorem q827 : (Jvm.Cond.methodLink "LeapJoin$Table" (46 : Nat) ({ cls := "java/lang/System", name := "arraycopy", desc := "(Ljava/lang/Object;ILjava/lang/Object;II)V" } : Jvm.MethodName)) ∈ lw_all := lw_g (lw_at lw_m3 226 rfl) rfl
theorem q856 : (Jvm.Cond.instanceMethod ({ cls := "LeapJoin$Table", name := "set", desc := "()I" } : Jvm.MethodName)) ∈ lw_all := lw_g (lw_at lw_m4 15 rfl) rfl
theorem q857 : (Jvm.Cond.selects "LeapJoin$Table" ({ cls := "LeapJoin$Table", name := "set", desc := "()I" } : Jvm.MethodName) ({ cls := "LeapJoin$Table", name := "set", desc := "()I" } : Jvm.MethodName)) ∈ lw_all := lw_g (lw_at lw_m4 16 rfl) rfl
theorem q858 : (Jvm.Cond.code ({ cls := "LeapJoin$Table", name := "set", desc := "()I" } : Jvm.MethodName) prog_8_method_5_code (6 : Nat) (Option.some Jvm.ClassFile.FieldType.int)) ∈ lw_all := lw_g (lw_at lw_m4 17 rfl) rfl
theorem q878 : (Jvm.Cond.instanceMethod ({ cls := "LeapJoin$Table", name := "keys", desc := "(I[II[I)I" } : Jvm.MethodName)) ∈ lw_all := lw_g (lw_at lw_m4 37 rfl) rfl
theorem q879 : (Jvm.Cond.selects "LeapJoin$Table" ({ cls := "LeapJoin$Table", name := "keys", desc := "(I[II[I)I" } : Jvm.MethodName) ({ cls := "LeapJoin$Table", name := "keys", desc := "(I[II[I)I" } : Jvm.MethodName)) ∈ lw_all := lw_g (lw_at lw_m4 38 rfl) rfl
theorem q880 : (Jvm.Cond.code ({ cls := "LeapJoin$Table", name := "keys", desc := "(I[II[I)I" } : Jvm.MethodName) prog_8_method_11_code (11 : Nat) (Option.some Jvm.ClassFile.FieldType.int)) ∈ lw_all := lw_g (lw_at lw_m4 39 rfl) rfl
theorem q881 : (Jvm.Cond.methodLink "LeapJoin$Table" (60 : Nat) ({ cls := "LeapJoin$Table", name := "columnOf", desc := "(I)I" } : Jvm.MethodName)) ∈ lw_all := lw_g (lw_at lw_m4 40 rfl) rfl
theorem q882 : (Jvm.Cond.instanceMethod ({ cls := "LeapJoin$Table", name := "columnOf", desc := "(I)I" } : Jvm.MethodName)) ∈ lw_all := lw_g (lw_at lw_m4 41 rfl) rfl
theorem q883 : (Jvm.Cond.selects "LeapJoin$Table" ({ cls := "LeapJoin$Table", name := "columnOf", desc := "(I)I" } : Jvm.MethodName) ({ cls := "LeapJoin$Table", name := "columnOf", desc := "(I)I" } : Jvm.MethodName)) ∈ lw_all := lw_g (lw_at lw_m4 42 rfl) rfl
theorem q884 : (Jvm.Cond.code ({ cls := "LeapJoin$Table", name := "columnOf", desc := "(I)I" } : Jvm.MethodName) prog_8_method_4_code (3 : Nat) (Option.some Jvm.ClassFile.FieldType.int)) ∈ lw_all := lw_g (lw_at lw_m4 43 rfl) rfl
theorem q885 : (Jvm.Cond.methodLink "LeapJoin$Table" (63 : Nat) ({ cls := "LeapJoin$Table", name := "fits", desc := "(LLeapJoin$Row;[II)Z" } : Jvm.MethodName)) ∈ lw_all := lw_g (lw_at lw_m4 44 rfl) rfl
theorem q886 : (Jvm.Cond.privateMethod ({ cls := "LeapJoin$Table", name := "fits", desc := "(LLeapJoin$Row;[II)Z" } : Jvm.MethodName)) ∈ lw_tbl := lw_at lw_m4 45 rfl
theorem q887 : (Jvm.Cond.instanceMethod ({ cls := "LeapJoin$Table", name := "fits", desc := "(LLeapJoin$Row;[II)Z" } : Jvm.MethodName)) ∈ lw_all := lw_g (lw_at lw_m4 46 rfl) rfl
theorem q888 : (Jvm.Cond.code ({ cls := "LeapJoin$Table", name := "fits", desc := "(LLeapJoin$Row;[II)Z" } : Jvm.MethodName) prog_8_method_10_code (5 : Nat) (Option.some Jvm.ClassFile.FieldType.boolean)) ∈ lw_all := lw_g (lw_at lw_m4 47 rfl) rfl
theorem q889 : (Jvm.Cond.methodLinkNest "LeapJoin$Table" (52 : Nat) ({ cls := "LeapJoin", name := "has", desc := "(II)Z" } : Jvm.MethodName) "LeapJoin") ∈ lw_tbl := lw_at lw_m4 48 rfl
theorem q890 : (Jvm.Cond.methodLink "LeapJoin$Table" (56 : Nat) ({ cls := "LeapJoin$Row", name := "at", desc := "(I)I" } : Jvm.MethodName)) ∈ lw_all := lw_g (lw_at lw_m4 49 rfl) rfl
theorem q1032 : (Jvm.Cond.instanceMethod ({ cls := "LeapJoin$Table", name := "rowIn", desc := "([I)I" } : Jvm.MethodName)) ∈ lw_all := lw_g (lw_at lw_m4 191 rfl) rfl
theorem q1033 : (Jvm.Cond.selects "LeapJoin$Table" ({ cls := "LeapJoin$Table", name := "rowIn", desc := "([I)I" } : Jvm.MethodName) ({ cls := "LeapJoin$Table", name := "rowIn", desc := "([I)I" } : Jvm.MethodName)) ∈ lw_all := lw_g (lw_at lw_m4 192 rfl) rfl
theorem q1034 : (Jvm.Cond.code ({ cls := "LeapJoin$Table", name := "rowIn", desc := "([I)I" } : Jvm.MethodName) prog_8_method_12_code (3 : Nat) (Option.some Jvm.ClassFile.FieldType.int)) ∈ lw_all := lw_g (lw_at lw_m4 193 rfl) rfl
theorem q1905 : (Jvm.Cond.castable "LeapJoin$Table" "java/lang/Object") ∈ lw_tbl := lw_at lw_m8 104 rfl
theorem in_X7 : ∀ w ∈ wsX70, w ∈ lw_all := lw_in wsX70 [493, 495, 497, 499] (by decide +kernel) (by decide +kernel)

/-! LeapJoin$Row -/
set_option maxRecDepth 100000
def RX8 : String := "LeapJoin$Row"
abbrev cX8_places : ByteArray := prog_5_method_6_code
def yX8_places : MethodName := ⟨RX8, "places", "(I)[LLeapJoin$Row;"⟩
def dkwX8_places_1 : List UInt8 := [16, 12, 189, 0, 37, 176]
abbrev dktX8_places_1 : List UInt8 := dkwX8_places_1 ++ []
def dkwX8_places_0 : List UInt8 := [26, 4, 160, 0, 9, 16, 12, 189, 0, 27, 176, 26, 5, 160, 0, 11, 16, 12, 189, 0, 32, 167, 0, 8]
abbrev dktX8_places_0 : List UInt8 := dkwX8_places_0 ++ dktX8_places_1
theorem dksX8_places_0 : cX8_places.data.toList.drop 0 = dktX8_places_0 := by decide +kernel
theorem dksX8_places_1 : cX8_places.data.toList.drop 24 = dktX8_places_1 := dk_seg dksX8_places_0 24 rfl rfl
theorem dX8_places_0 : decode cX8_places 0 = .ok (.iload_n 0, 1) := dk_26 (dk_at dksX8_places_0 0 rfl rfl)
theorem dX8_places_1 : decode cX8_places 1 = .ok (.iconst 1, 1) := dk_4 (dk_at dksX8_places_0 1 rfl rfl)
theorem dX8_places_2 : decode cX8_places 2 = .ok (.if_icmp .ne 9, 3) := dk_160 0 9 (dk_at dksX8_places_0 2 rfl rfl)
theorem dX8_places_5 : decode cX8_places 5 = .ok (.bipush 12, 2) := dk_16 12 (dk_at dksX8_places_0 5 rfl rfl)
theorem dX8_places_7 : decode cX8_places 7 = .ok (.anewarray 27, 3) := dk_189 0 27 (dk_at dksX8_places_0 7 rfl rfl)
theorem dX8_places_10 : decode cX8_places 10 = .ok (.areturn, 1) := dk_176 (dk_at dksX8_places_0 10 rfl rfl)
theorem dX8_places_11 : decode cX8_places 11 = .ok (.iload_n 0, 1) := dk_26 (dk_at dksX8_places_0 11 rfl rfl)
theorem dX8_places_12 : decode cX8_places 12 = .ok (.iconst 2, 1) := dk_5 (dk_at dksX8_places_0 12 rfl rfl)
theorem dX8_places_13 : decode cX8_places 13 = .ok (.if_icmp .ne 11, 3) := dk_160 0 11 (dk_at dksX8_places_0 13 rfl rfl)
theorem dX8_places_16 : decode cX8_places 16 = .ok (.bipush 12, 2) := dk_16 12 (dk_at dksX8_places_0 16 rfl rfl)
theorem dX8_places_18 : decode cX8_places 18 = .ok (.anewarray 32, 3) := dk_189 0 32 (dk_at dksX8_places_0 18 rfl rfl)
theorem dX8_places_21 : decode cX8_places 21 = .ok (.goto 8, 3) := dk_167 0 8 (dk_at dksX8_places_0 21 rfl rfl)
theorem dX8_places_24 : decode cX8_places 24 = .ok (.bipush 12, 2) := dk_16 12 (dk_at dksX8_places_1 0 rfl rfl)
theorem dX8_places_26 : decode cX8_places 26 = .ok (.anewarray 37, 3) := dk_189 0 37 (dk_at dksX8_places_1 2 rfl rfl)
theorem dX8_places_29 : decode cX8_places 29 = .ok (.areturn, 1) := dk_176 (dk_at dksX8_places_1 5 rfl rfl)
abbrev cX8_of : ByteArray := prog_5_method_5_code
def yX8_of : MethodName := ⟨RX8, "of", "(III)LLeapJoin$Row;"⟩
def dkwX8_of_4 : List UInt8 := [26, 79, 89, 4, 27, 79, 89, 5, 28, 79, 183, 0, 39, 176]
abbrev dktX8_of_4 : List UInt8 := dkwX8_of_4 ++ []
def dkwX8_of_3 : List UInt8 := [160, 0, 15, 187, 0, 32, 89, 26, 27, 183, 0, 34, 167, 0, 25, 187, 0, 37, 89, 6, 188, 10, 89, 3]
abbrev dktX8_of_3 : List UInt8 := dkwX8_of_3 ++ dktX8_of_4
def dkwX8_of_2 : List UInt8 := [159, 0, 5, 1, 176, 27, 2, 160, 0, 14, 187, 0, 27, 89, 26, 183, 0, 29, 167, 0, 42, 28, 2]
abbrev dktX8_of_2 : List UInt8 := dkwX8_of_2 ++ dktX8_of_3
def dkwX8_of_1 : List UInt8 := [153, 0, 27, 28, 133, 20, 0, 25, 20, 0, 19, 184, 0, 21, 153, 0, 13, 27, 2, 160, 0, 10, 28, 2]
abbrev dktX8_of_1 : List UInt8 := dkwX8_of_1 ++ dktX8_of_2
def dkwX8_of_0 : List UInt8 := [26, 133, 9, 20, 0, 19, 184, 0, 21, 153, 0, 41, 27, 133, 20, 0, 25, 20, 0, 19, 184, 0, 21]
abbrev dktX8_of_0 : List UInt8 := dkwX8_of_0 ++ dktX8_of_1
theorem dksX8_of_0 : cX8_of.data.toList.drop 0 = dktX8_of_0 := by decide +kernel
theorem dksX8_of_1 : cX8_of.data.toList.drop 23 = dktX8_of_1 := dk_seg dksX8_of_0 23 rfl rfl
theorem dksX8_of_2 : cX8_of.data.toList.drop 47 = dktX8_of_2 := dk_seg dksX8_of_1 24 rfl rfl
theorem dksX8_of_3 : cX8_of.data.toList.drop 70 = dktX8_of_3 := dk_seg dksX8_of_2 23 rfl rfl
theorem dksX8_of_4 : cX8_of.data.toList.drop 94 = dktX8_of_4 := dk_seg dksX8_of_3 24 rfl rfl
theorem dX8_of_0 : decode cX8_of 0 = .ok (.iload_n 0, 1) := dk_26 (dk_at dksX8_of_0 0 rfl rfl)
theorem dX8_of_1 : decode cX8_of 1 = .ok (.i2l, 1) := dk_133 (dk_at dksX8_of_0 1 rfl rfl)
theorem dX8_of_2 : decode cX8_of 2 = .ok (.lconst 0, 1) := dk_9 (dk_at dksX8_of_0 2 rfl rfl)
theorem dX8_of_3 : decode cX8_of 3 = .ok (.ldc2_w 19, 3) := dk_20 0 19 (dk_at dksX8_of_0 3 rfl rfl)
theorem dX8_of_6 : decode cX8_of 6 = .ok (.invokestatic 21, 3) := dk_184 0 21 (dk_at dksX8_of_0 6 rfl rfl)
theorem dX8_of_9 : decode cX8_of 9 = .ok (.ifCond .eq 41, 3) := dk_153 0 41 (dk_at dksX8_of_0 9 rfl rfl)
theorem dX8_of_12 : decode cX8_of 12 = .ok (.iload_n 1, 1) := dk_27 (dk_at dksX8_of_0 12 rfl rfl)
theorem dX8_of_13 : decode cX8_of 13 = .ok (.i2l, 1) := dk_133 (dk_at dksX8_of_0 13 rfl rfl)
theorem dX8_of_14 : decode cX8_of 14 = .ok (.ldc2_w 25, 3) := dk_20 0 25 (dk_at dksX8_of_0 14 rfl rfl)
theorem dX8_of_17 : decode cX8_of 17 = .ok (.ldc2_w 19, 3) := dk_20 0 19 (dk_at dksX8_of_0 17 rfl rfl)
theorem dX8_of_20 : decode cX8_of 20 = .ok (.invokestatic 21, 3) := dk_184 0 21 (dk_at dksX8_of_0 20 rfl rfl)
theorem dX8_of_23 : decode cX8_of 23 = .ok (.ifCond .eq 27, 3) := dk_153 0 27 (dk_at dksX8_of_1 0 rfl rfl)
theorem dX8_of_26 : decode cX8_of 26 = .ok (.iload_n 2, 1) := dk_28 (dk_at dksX8_of_1 3 rfl rfl)
theorem dX8_of_27 : decode cX8_of 27 = .ok (.i2l, 1) := dk_133 (dk_at dksX8_of_1 4 rfl rfl)
theorem dX8_of_28 : decode cX8_of 28 = .ok (.ldc2_w 25, 3) := dk_20 0 25 (dk_at dksX8_of_1 5 rfl rfl)
theorem dX8_of_31 : decode cX8_of 31 = .ok (.ldc2_w 19, 3) := dk_20 0 19 (dk_at dksX8_of_1 8 rfl rfl)
theorem dX8_of_34 : decode cX8_of 34 = .ok (.invokestatic 21, 3) := dk_184 0 21 (dk_at dksX8_of_1 11 rfl rfl)
theorem dX8_of_37 : decode cX8_of 37 = .ok (.ifCond .eq 13, 3) := dk_153 0 13 (dk_at dksX8_of_1 14 rfl rfl)
theorem dX8_of_40 : decode cX8_of 40 = .ok (.iload_n 1, 1) := dk_27 (dk_at dksX8_of_1 17 rfl rfl)
theorem dX8_of_41 : decode cX8_of 41 = .ok (.iconst (-1), 1) := dk_2 (dk_at dksX8_of_1 18 rfl rfl)
theorem dX8_of_42 : decode cX8_of 42 = .ok (.if_icmp .ne 10, 3) := dk_160 0 10 (dk_at dksX8_of_1 19 rfl rfl)
theorem dX8_of_45 : decode cX8_of 45 = .ok (.iload_n 2, 1) := dk_28 (dk_at dksX8_of_1 22 rfl rfl)
theorem dX8_of_46 : decode cX8_of 46 = .ok (.iconst (-1), 1) := dk_2 (dk_at dksX8_of_1 23 rfl rfl)
theorem dX8_of_47 : decode cX8_of 47 = .ok (.if_icmp .eq 5, 3) := dk_159 0 5 (dk_at dksX8_of_2 0 rfl rfl)
theorem dX8_of_50 : decode cX8_of 50 = .ok (.aconst_null, 1) := dk_1 (dk_at dksX8_of_2 3 rfl rfl)
theorem dX8_of_51 : decode cX8_of 51 = .ok (.areturn, 1) := dk_176 (dk_at dksX8_of_2 4 rfl rfl)
theorem dX8_of_52 : decode cX8_of 52 = .ok (.iload_n 1, 1) := dk_27 (dk_at dksX8_of_2 5 rfl rfl)
theorem dX8_of_53 : decode cX8_of 53 = .ok (.iconst (-1), 1) := dk_2 (dk_at dksX8_of_2 6 rfl rfl)
theorem dX8_of_54 : decode cX8_of 54 = .ok (.if_icmp .ne 14, 3) := dk_160 0 14 (dk_at dksX8_of_2 7 rfl rfl)
theorem dX8_of_57 : decode cX8_of 57 = .ok (.new 27, 3) := dk_187 0 27 (dk_at dksX8_of_2 10 rfl rfl)
theorem dX8_of_60 : decode cX8_of 60 = .ok (.dup, 1) := dk_89 (dk_at dksX8_of_2 13 rfl rfl)
theorem dX8_of_61 : decode cX8_of 61 = .ok (.iload_n 0, 1) := dk_26 (dk_at dksX8_of_2 14 rfl rfl)
theorem dX8_of_62 : decode cX8_of 62 = .ok (.invokespecial 29, 3) := dk_183 0 29 (dk_at dksX8_of_2 15 rfl rfl)
theorem dX8_of_65 : decode cX8_of 65 = .ok (.goto 42, 3) := dk_167 0 42 (dk_at dksX8_of_2 18 rfl rfl)
theorem dX8_of_68 : decode cX8_of 68 = .ok (.iload_n 2, 1) := dk_28 (dk_at dksX8_of_2 21 rfl rfl)
theorem dX8_of_69 : decode cX8_of 69 = .ok (.iconst (-1), 1) := dk_2 (dk_at dksX8_of_2 22 rfl rfl)
theorem dX8_of_70 : decode cX8_of 70 = .ok (.if_icmp .ne 15, 3) := dk_160 0 15 (dk_at dksX8_of_3 0 rfl rfl)
theorem dX8_of_73 : decode cX8_of 73 = .ok (.new 32, 3) := dk_187 0 32 (dk_at dksX8_of_3 3 rfl rfl)
theorem dX8_of_76 : decode cX8_of 76 = .ok (.dup, 1) := dk_89 (dk_at dksX8_of_3 6 rfl rfl)
theorem dX8_of_77 : decode cX8_of 77 = .ok (.iload_n 0, 1) := dk_26 (dk_at dksX8_of_3 7 rfl rfl)
theorem dX8_of_78 : decode cX8_of 78 = .ok (.iload_n 1, 1) := dk_27 (dk_at dksX8_of_3 8 rfl rfl)
theorem dX8_of_79 : decode cX8_of 79 = .ok (.invokespecial 34, 3) := dk_183 0 34 (dk_at dksX8_of_3 9 rfl rfl)
theorem dX8_of_82 : decode cX8_of 82 = .ok (.goto 25, 3) := dk_167 0 25 (dk_at dksX8_of_3 12 rfl rfl)
theorem dX8_of_85 : decode cX8_of 85 = .ok (.new 37, 3) := dk_187 0 37 (dk_at dksX8_of_3 15 rfl rfl)
theorem dX8_of_88 : decode cX8_of 88 = .ok (.dup, 1) := dk_89 (dk_at dksX8_of_3 18 rfl rfl)
theorem dX8_of_89 : decode cX8_of 89 = .ok (.iconst 3, 1) := dk_6 (dk_at dksX8_of_3 19 rfl rfl)
theorem dX8_of_90 : decode cX8_of 90 = .ok (.newarray .int, 2) := dk_188_10 (dk_at dksX8_of_3 20 rfl rfl)
theorem dX8_of_92 : decode cX8_of 92 = .ok (.dup, 1) := dk_89 (dk_at dksX8_of_3 22 rfl rfl)
theorem dX8_of_93 : decode cX8_of 93 = .ok (.iconst 0, 1) := dk_3 (dk_at dksX8_of_3 23 rfl rfl)
theorem dX8_of_94 : decode cX8_of 94 = .ok (.iload_n 0, 1) := dk_26 (dk_at dksX8_of_4 0 rfl rfl)
theorem dX8_of_95 : decode cX8_of 95 = .ok (.iastore, 1) := dk_79 (dk_at dksX8_of_4 1 rfl rfl)
theorem dX8_of_96 : decode cX8_of 96 = .ok (.dup, 1) := dk_89 (dk_at dksX8_of_4 2 rfl rfl)
theorem dX8_of_97 : decode cX8_of 97 = .ok (.iconst 1, 1) := dk_4 (dk_at dksX8_of_4 3 rfl rfl)
theorem dX8_of_98 : decode cX8_of 98 = .ok (.iload_n 1, 1) := dk_27 (dk_at dksX8_of_4 4 rfl rfl)
theorem dX8_of_99 : decode cX8_of 99 = .ok (.iastore, 1) := dk_79 (dk_at dksX8_of_4 5 rfl rfl)
theorem dX8_of_100 : decode cX8_of 100 = .ok (.dup, 1) := dk_89 (dk_at dksX8_of_4 6 rfl rfl)
theorem dX8_of_101 : decode cX8_of 101 = .ok (.iconst 2, 1) := dk_5 (dk_at dksX8_of_4 7 rfl rfl)
theorem dX8_of_102 : decode cX8_of 102 = .ok (.iload_n 2, 1) := dk_28 (dk_at dksX8_of_4 8 rfl rfl)
theorem dX8_of_103 : decode cX8_of 103 = .ok (.iastore, 1) := dk_79 (dk_at dksX8_of_4 9 rfl rfl)
theorem dX8_of_104 : decode cX8_of 104 = .ok (.invokespecial 39, 3) := dk_183 0 39 (dk_at dksX8_of_4 10 rfl rfl)
theorem dX8_of_107 : decode cX8_of 107 = .ok (.areturn, 1) := dk_176 (dk_at dksX8_of_4 13 rfl rfl)
abbrev cX8_init : ByteArray := prog_5_method_1_code
def yX8_init : MethodName := ⟨RX8, "<init>", "()V"⟩
theorem dX8_init_0 : decode cX8_init 0 = .ok (.aload_n 0, 1) := by decide +kernel
theorem dX8_init_1 : decode cX8_init 1 = .ok (.invokespecial 3, 3) := by decide +kernel
theorem dX8_init_4 : decode cX8_init 4 = .ok (.return_, 1) := by decide +kernel
abbrev cX8_against : ByteArray := prog_5_method_4_code
def yX8_against : MethodName := ⟨RX8, "against", "(LLeapJoin$Row;)I"⟩
def dkwX8_against_1 : List UInt8 := [28, 182, 0, 15, 43, 28, 182, 0, 15, 100, 172, 132, 2, 1, 167, 255, 220, 3, 172]
abbrev dktX8_against_1 : List UInt8 := dkwX8_against_1 ++ []
def dkwX8_against_0 : List UInt8 := [3, 61, 28, 42, 182, 0, 9, 162, 0, 34, 42, 28, 182, 0, 15, 43, 28, 182, 0, 15, 159, 0, 15, 42]
abbrev dktX8_against_0 : List UInt8 := dkwX8_against_0 ++ dktX8_against_1
theorem dksX8_against_0 : cX8_against.data.toList.drop 0 = dktX8_against_0 := by decide +kernel
theorem dksX8_against_1 : cX8_against.data.toList.drop 24 = dktX8_against_1 := dk_seg dksX8_against_0 24 rfl rfl
theorem dX8_against_0 : decode cX8_against 0 = .ok (.iconst 0, 1) := dk_3 (dk_at dksX8_against_0 0 rfl rfl)
theorem dX8_against_1 : decode cX8_against 1 = .ok (.istore_n 2, 1) := dk_61 (dk_at dksX8_against_0 1 rfl rfl)
theorem dX8_against_2 : decode cX8_against 2 = .ok (.iload_n 2, 1) := dk_28 (dk_at dksX8_against_0 2 rfl rfl)
theorem dX8_against_3 : decode cX8_against 3 = .ok (.aload_n 0, 1) := dk_42 (dk_at dksX8_against_0 3 rfl rfl)
theorem dX8_against_4 : decode cX8_against 4 = .ok (.invokevirtual 9, 3) := dk_182 0 9 (dk_at dksX8_against_0 4 rfl rfl)
theorem dX8_against_7 : decode cX8_against 7 = .ok (.if_icmp .ge 34, 3) := dk_162 0 34 (dk_at dksX8_against_0 7 rfl rfl)
theorem dX8_against_10 : decode cX8_against 10 = .ok (.aload_n 0, 1) := dk_42 (dk_at dksX8_against_0 10 rfl rfl)
theorem dX8_against_11 : decode cX8_against 11 = .ok (.iload_n 2, 1) := dk_28 (dk_at dksX8_against_0 11 rfl rfl)
theorem dX8_against_12 : decode cX8_against 12 = .ok (.invokevirtual 15, 3) := dk_182 0 15 (dk_at dksX8_against_0 12 rfl rfl)
theorem dX8_against_15 : decode cX8_against 15 = .ok (.aload_n 1, 1) := dk_43 (dk_at dksX8_against_0 15 rfl rfl)
theorem dX8_against_16 : decode cX8_against 16 = .ok (.iload_n 2, 1) := dk_28 (dk_at dksX8_against_0 16 rfl rfl)
theorem dX8_against_17 : decode cX8_against 17 = .ok (.invokevirtual 15, 3) := dk_182 0 15 (dk_at dksX8_against_0 17 rfl rfl)
theorem dX8_against_20 : decode cX8_against 20 = .ok (.if_icmp .eq 15, 3) := dk_159 0 15 (dk_at dksX8_against_0 20 rfl rfl)
theorem dX8_against_23 : decode cX8_against 23 = .ok (.aload_n 0, 1) := dk_42 (dk_at dksX8_against_0 23 rfl rfl)
theorem dX8_against_24 : decode cX8_against 24 = .ok (.iload_n 2, 1) := dk_28 (dk_at dksX8_against_1 0 rfl rfl)
theorem dX8_against_25 : decode cX8_against 25 = .ok (.invokevirtual 15, 3) := dk_182 0 15 (dk_at dksX8_against_1 1 rfl rfl)
theorem dX8_against_28 : decode cX8_against 28 = .ok (.aload_n 1, 1) := dk_43 (dk_at dksX8_against_1 4 rfl rfl)
theorem dX8_against_29 : decode cX8_against 29 = .ok (.iload_n 2, 1) := dk_28 (dk_at dksX8_against_1 5 rfl rfl)
theorem dX8_against_30 : decode cX8_against 30 = .ok (.invokevirtual 15, 3) := dk_182 0 15 (dk_at dksX8_against_1 6 rfl rfl)
theorem dX8_against_33 : decode cX8_against 33 = .ok (.isub, 1) := dk_100 (dk_at dksX8_against_1 9 rfl rfl)
theorem dX8_against_34 : decode cX8_against 34 = .ok (.ireturn, 1) := dk_172 (dk_at dksX8_against_1 10 rfl rfl)
theorem dX8_against_35 : decode cX8_against 35 = .ok (.iinc 2 1, 3) := dk_132 2 1 (dk_at dksX8_against_1 11 rfl rfl)
theorem dX8_against_38 : decode cX8_against 38 = .ok (.goto (-36), 3) := dk_167 255 220 (dk_at dksX8_against_1 14 rfl rfl)
theorem dX8_against_41 : decode cX8_against 41 = .ok (.iconst 0, 1) := dk_3 (dk_at dksX8_against_1 17 rfl rfl)
theorem dX8_against_42 : decode cX8_against 42 = .ok (.ireturn, 1) := dk_172 (dk_at dksX8_against_1 18 rfl rfl)
theorem q132 : (Jvm.Cond.initialized "LeapJoin$Row") ∈ lw_all := lw_g (lw_at lw_m1 11 rfl) rfl
theorem q468 : (Jvm.Cond.static ({ cls := "LeapJoin$Row", name := "places", desc := "(I)[LLeapJoin$Row;" } : Jvm.MethodName)) ∈ lw_all := lw_g (lw_at lw_m2 107 rfl) rfl
theorem q469 : (Jvm.Cond.code ({ cls := "LeapJoin$Row", name := "places", desc := "(I)[LLeapJoin$Row;" } : Jvm.MethodName) prog_5_method_6_code (1 : Nat) (Option.some (Jvm.ClassFile.FieldType.array (Jvm.ClassFile.FieldType.object "LeapJoin$Row")))) ∈ lw_all := lw_g (lw_at lw_m2 108 rfl) rfl
theorem q470 : (Jvm.Cond.classLink "LeapJoin$Row" (27 : Nat) "LeapJoin$One") ∈ lw_all := lw_g (lw_at lw_m2 109 rfl) rfl
theorem q472 : (Jvm.Cond.classLink "LeapJoin$Row" (32 : Nat) "LeapJoin$Two") ∈ lw_all := lw_g (lw_at lw_m2 111 rfl) rfl
theorem q474 : (Jvm.Cond.classLink "LeapJoin$Row" (37 : Nat) "LeapJoin$Three") ∈ lw_all := lw_g (lw_at lw_m2 113 rfl) rfl
theorem q523 : (Jvm.Cond.static ({ cls := "LeapJoin$Row", name := "of", desc := "(III)LLeapJoin$Row;" } : Jvm.MethodName)) ∈ lw_all := lw_g (lw_at lw_m2 162 rfl) rfl
theorem q524 : (Jvm.Cond.code ({ cls := "LeapJoin$Row", name := "of", desc := "(III)LLeapJoin$Row;" } : Jvm.MethodName) prog_5_method_5_code (3 : Nat) (Option.some (Jvm.ClassFile.FieldType.object "LeapJoin$Row"))) ∈ lw_all := lw_g (lw_at lw_m2 163 rfl) rfl
theorem q525 : (Jvm.Cond.constantLong "LeapJoin$Row" (19 : Nat) (99 : Int64)) ∈ lw_all := lw_g (lw_at lw_m2 164 rfl) rfl
theorem q526 : (Jvm.Cond.methodLinkNest "LeapJoin$Row" (21 : Nat) ({ cls := "LeapJoin", name := "isIn", desc := "(JJJ)Z" } : Jvm.MethodName) "LeapJoin") ∈ lw_tbl := lw_at lw_m2 165 rfl
theorem q527 : (Jvm.Cond.constantLong "LeapJoin$Row" (25 : Nat) (-1 : Int64)) ∈ lw_all := lw_g (lw_at lw_m2 166 rfl) rfl
theorem q529 : (Jvm.Cond.methodLink "LeapJoin$Row" (29 : Nat) ({ cls := "LeapJoin$One", name := "<init>", desc := "(I)V" } : Jvm.MethodName)) ∈ lw_all := lw_g (lw_at lw_m2 168 rfl) rfl
theorem q533 : (Jvm.Cond.instanceMethod ({ cls := "LeapJoin$Row", name := "<init>", desc := "()V" } : Jvm.MethodName)) ∈ lw_all := lw_g (lw_at lw_m2 172 rfl) rfl
theorem q534 : (Jvm.Cond.code ({ cls := "LeapJoin$Row", name := "<init>", desc := "()V" } : Jvm.MethodName) prog_5_method_1_code (1 : Nat) (Option.none : Option Jvm.ClassFile.FieldType)) ∈ lw_all := lw_g (lw_at lw_m2 173 rfl) rfl
theorem q535 : (Jvm.Cond.methodLink "LeapJoin$Row" (3 : Nat) ({ cls := "java/lang/Object", name := "<init>", desc := "()V" } : Jvm.MethodName)) ∈ lw_all := lw_g (lw_at lw_m2 174 rfl) rfl
theorem q541 : (Jvm.Cond.methodLink "LeapJoin$Row" (34 : Nat) ({ cls := "LeapJoin$Two", name := "<init>", desc := "(II)V" } : Jvm.MethodName)) ∈ lw_all := lw_g (lw_at lw_m2 180 rfl) rfl
theorem q553 : (Jvm.Cond.methodLink "LeapJoin$Row" (39 : Nat) ({ cls := "LeapJoin$Three", name := "<init>", desc := "([I)V" } : Jvm.MethodName)) ∈ lw_all := lw_g (lw_at lw_m2 192 rfl) rfl
theorem q571 : (Jvm.Cond.instanceMethod ({ cls := "LeapJoin$Row", name := "against", desc := "(LLeapJoin$Row;)I" } : Jvm.MethodName)) ∈ lw_all := lw_g (lw_at lw_m2 210 rfl) rfl
theorem q572 : (Jvm.Cond.sameMethod "LeapJoin$Row" "LeapJoin$Row" "against" "(LLeapJoin$Row;)I") ∈ lw_all := lw_g (lw_at lw_m2 211 rfl) rfl
theorem q576 : (Jvm.Cond.code ({ cls := "LeapJoin$Row", name := "against", desc := "(LLeapJoin$Row;)I" } : Jvm.MethodName) prog_5_method_4_code (3 : Nat) (Option.some Jvm.ClassFile.FieldType.int)) ∈ lw_all := lw_g (lw_at lw_m2 215 rfl) rfl
theorem q577 : (Jvm.Cond.methodLink "LeapJoin$Row" (9 : Nat) ({ cls := "LeapJoin$Row", name := "width", desc := "()I" } : Jvm.MethodName)) ∈ lw_all := lw_g (lw_at lw_m2 216 rfl) rfl
theorem q578 : (Jvm.Cond.declares ({ cls := "LeapJoin$Row", name := "width", desc := "()I" } : Jvm.MethodName)) ∈ lw_tbl := lw_at lw_m2 217 rfl
theorem q579 : (Jvm.Cond.sameMethod "LeapJoin$Row" "LeapJoin$Row" "width" "()I") ∈ lw_all := lw_g (lw_at lw_m2 218 rfl) rfl
theorem q589 : (Jvm.Cond.methodLink "LeapJoin$Row" (15 : Nat) ({ cls := "LeapJoin$Row", name := "at", desc := "(I)I" } : Jvm.MethodName)) ∈ lw_all := lw_g (lw_at lw_m2 228 rfl) rfl
theorem q590 : (Jvm.Cond.declares ({ cls := "LeapJoin$Row", name := "at", desc := "(I)I" } : Jvm.MethodName)) ∈ lw_tbl := lw_at lw_m2 229 rfl
theorem q591 : (Jvm.Cond.sameMethod "LeapJoin$Row" "LeapJoin$Row" "at" "(I)I") ∈ lw_all := lw_g (lw_at lw_m2 230 rfl) rfl

/-! LeapJoin$One -/
set_option maxRecDepth 100000
def RX9 : String := "LeapJoin$One"
def TX9 : u_T := fun k => match k with
  | _ => ("LeapJoin$One", "x", "I", true)
def tyX9 : Nat → FieldType := fun k => match k with
  | _ => .int
abbrev wsX90 : List Cond := u_ws RX9 TX9 1
theorem nmX9 : ∀ a, a < 1 → ∀ b, b < 1 → a ≠ b → (TX9 a).2.1 ≠ (TX9 b).2.1 := by decide +kernel
theorem tyX9_ok : ∀ k, k < 1 → parseFieldDescriptor (TX9 k).2.2.1 = some (tyX9 k) := by decide +kernel
abbrev cX9_init : ByteArray := prog_3_method_1_code
def yX9_init : MethodName := ⟨RX9, "<init>", "(I)V"⟩
def dkwX9_init_0 : List UInt8 := [42, 183, 0, 1, 42, 27, 181, 0, 7, 177]
abbrev dktX9_init_0 : List UInt8 := dkwX9_init_0 ++ []
theorem dksX9_init_0 : cX9_init.data.toList.drop 0 = dktX9_init_0 := by decide +kernel
theorem dX9_init_0 : decode cX9_init 0 = .ok (.aload_n 0, 1) := dk_42 (dk_at dksX9_init_0 0 rfl rfl)
theorem dX9_init_1 : decode cX9_init 1 = .ok (.invokespecial 1, 3) := dk_183 0 1 (dk_at dksX9_init_0 1 rfl rfl)
theorem dX9_init_4 : decode cX9_init 4 = .ok (.aload_n 0, 1) := dk_42 (dk_at dksX9_init_0 4 rfl rfl)
theorem dX9_init_5 : decode cX9_init 5 = .ok (.iload_n 1, 1) := dk_27 (dk_at dksX9_init_0 5 rfl rfl)
theorem dX9_init_6 : decode cX9_init 6 = .ok (.putfield 7, 3) := dk_181 0 7 (dk_at dksX9_init_0 6 rfl rfl)
theorem dX9_init_9 : decode cX9_init 9 = .ok (.return_, 1) := dk_177 (dk_at dksX9_init_0 9 rfl rfl)
abbrev cX9_width : ByteArray := prog_3_method_2_code
def yX9_width : MethodName := ⟨RX9, "width", "()I"⟩
theorem dX9_width_0 : decode cX9_width 0 = .ok (.iconst 1, 1) := by decide +kernel
theorem dX9_width_1 : decode cX9_width 1 = .ok (.ireturn, 1) := by decide +kernel
abbrev cX9_at : ByteArray := prog_3_method_3_code
def yX9_at : MethodName := ⟨RX9, "at", "(I)I"⟩
theorem dX9_at_0 : decode cX9_at 0 = .ok (.aload_n 0, 1) := by decide +kernel
theorem dX9_at_1 : decode cX9_at 1 = .ok (.getfield 7, 3) := by decide +kernel
theorem dX9_at_4 : decode cX9_at 4 = .ok (.ireturn, 1) := by decide +kernel
theorem q133 : (Jvm.Cond.initialized "LeapJoin$One") ∈ lw_all := lw_g (lw_at lw_m1 12 rfl) rfl
theorem q528 : (Jvm.Cond.instantiable "LeapJoin$One" (1 : Nat)) ∈ lw_all := lw_g (lw_at lw_m2 167 rfl) rfl
theorem q530 : (Jvm.Cond.instanceMethod ({ cls := "LeapJoin$One", name := "<init>", desc := "(I)V" } : Jvm.MethodName)) ∈ lw_all := lw_g (lw_at lw_m2 169 rfl) rfl
theorem q531 : (Jvm.Cond.code ({ cls := "LeapJoin$One", name := "<init>", desc := "(I)V" } : Jvm.MethodName) prog_3_method_1_code (2 : Nat) (Option.none : Option Jvm.ClassFile.FieldType)) ∈ lw_all := lw_g (lw_at lw_m2 170 rfl) rfl
theorem q532 : (Jvm.Cond.methodLinkNest "LeapJoin$One" (1 : Nat) ({ cls := "LeapJoin$Row", name := "<init>", desc := "()V" } : Jvm.MethodName) "LeapJoin") ∈ lw_tbl := lw_at lw_m2 171 rfl
theorem q536 : (Jvm.Cond.fieldLink "LeapJoin$One" (7 : Nat) "LeapJoin$One" "x" "I") ∈ lw_all := lw_g (lw_at lw_m2 175 rfl) rfl
theorem q537 : (Jvm.Cond.laysFinal "LeapJoin$One" "LeapJoin$One" "x" "I") ∈ lw_all := lw_g (lw_at lw_m2 176 rfl) rfl
theorem q538 : (Jvm.Cond.soleField "LeapJoin$One" "x") ∈ lw_all := lw_g (lw_at lw_m2 177 rfl) rfl
theorem q539 : (Jvm.Cond.superclass "LeapJoin$One" "LeapJoin$Row") ∈ lw_all := lw_g (lw_at lw_m2 178 rfl) rfl
theorem q573 : (Jvm.Cond.selects "LeapJoin$One" ({ cls := "LeapJoin$Row", name := "against", desc := "(LLeapJoin$Row;)I" } : Jvm.MethodName) ({ cls := "LeapJoin$Row", name := "against", desc := "(LLeapJoin$Row;)I" } : Jvm.MethodName)) ∈ lw_all := lw_g (lw_at lw_m2 212 rfl) rfl
theorem q580 : (Jvm.Cond.selects "LeapJoin$One" ({ cls := "LeapJoin$Row", name := "width", desc := "()I" } : Jvm.MethodName) ({ cls := "LeapJoin$One", name := "width", desc := "()I" } : Jvm.MethodName)) ∈ lw_all := lw_g (lw_at lw_m2 219 rfl) rfl
theorem q581 : (Jvm.Cond.instanceMethod ({ cls := "LeapJoin$One", name := "width", desc := "()I" } : Jvm.MethodName)) ∈ lw_all := lw_g (lw_at lw_m2 220 rfl) rfl
theorem q582 : (Jvm.Cond.code ({ cls := "LeapJoin$One", name := "width", desc := "()I" } : Jvm.MethodName) prog_3_method_2_code (1 : Nat) (Option.some Jvm.ClassFile.FieldType.int)) ∈ lw_all := lw_g (lw_at lw_m2 221 rfl) rfl
theorem q592 : (Jvm.Cond.selects "LeapJoin$One" ({ cls := "LeapJoin$Row", name := "at", desc := "(I)I" } : Jvm.MethodName) ({ cls := "LeapJoin$One", name := "at", desc := "(I)I" } : Jvm.MethodName)) ∈ lw_all := lw_g (lw_at lw_m2 231 rfl) rfl
theorem q593 : (Jvm.Cond.instanceMethod ({ cls := "LeapJoin$One", name := "at", desc := "(I)I" } : Jvm.MethodName)) ∈ lw_all := lw_g (lw_at lw_m2 232 rfl) rfl
theorem q594 : (Jvm.Cond.code ({ cls := "LeapJoin$One", name := "at", desc := "(I)I" } : Jvm.MethodName) prog_3_method_3_code (2 : Nat) (Option.some Jvm.ClassFile.FieldType.int)) ∈ lw_all := lw_g (lw_at lw_m2 233 rfl) rfl
theorem q1896 : (Jvm.Cond.castable "LeapJoin$One" "LeapJoin$Row") ∈ lw_tbl := lw_at lw_m8 95 rfl
theorem q1906 : (Jvm.Cond.castable "LeapJoin$One" "java/lang/Object") ∈ lw_tbl := lw_at lw_m8 105 rfl
theorem in_X9 : ∀ w ∈ wsX90, w ∈ lw_all := lw_in wsX90 [537] (by decide +kernel) (by decide +kernel)

/-! LeapJoin$Two -/
set_option maxRecDepth 100000
def RX10 : String := "LeapJoin$Two"
def TX10 : u_T := fun k => match k with
  | 0 => ("LeapJoin$Two", "x", "I", true)
  | _ => ("LeapJoin$Two", "y", "I", true)
def tyX10 : Nat → FieldType := fun k => match k with
  | 0 => .int
  | _ => .int
abbrev wsX100 : List Cond := u_ws RX10 TX10 2
theorem nmX10 : ∀ a, a < 2 → ∀ b, b < 2 → a ≠ b → (TX10 a).2.1 ≠ (TX10 b).2.1 := by decide +kernel
theorem tyX10_ok : ∀ k, k < 2 → parseFieldDescriptor (TX10 k).2.2.1 = some (tyX10 k) := by decide +kernel
abbrev cX10_init : ByteArray := prog_10_method_1_code
def yX10_init : MethodName := ⟨RX10, "<init>", "(II)V"⟩
def dkwX10_init_0 : List UInt8 := [42, 183, 0, 1, 42, 27, 181, 0, 7, 42, 28, 181, 0, 13, 177]
abbrev dktX10_init_0 : List UInt8 := dkwX10_init_0 ++ []
theorem dksX10_init_0 : cX10_init.data.toList.drop 0 = dktX10_init_0 := by decide +kernel
theorem dX10_init_0 : decode cX10_init 0 = .ok (.aload_n 0, 1) := dk_42 (dk_at dksX10_init_0 0 rfl rfl)
theorem dX10_init_1 : decode cX10_init 1 = .ok (.invokespecial 1, 3) := dk_183 0 1 (dk_at dksX10_init_0 1 rfl rfl)
theorem dX10_init_4 : decode cX10_init 4 = .ok (.aload_n 0, 1) := dk_42 (dk_at dksX10_init_0 4 rfl rfl)
theorem dX10_init_5 : decode cX10_init 5 = .ok (.iload_n 1, 1) := dk_27 (dk_at dksX10_init_0 5 rfl rfl)
theorem dX10_init_6 : decode cX10_init 6 = .ok (.putfield 7, 3) := dk_181 0 7 (dk_at dksX10_init_0 6 rfl rfl)
theorem dX10_init_9 : decode cX10_init 9 = .ok (.aload_n 0, 1) := dk_42 (dk_at dksX10_init_0 9 rfl rfl)
theorem dX10_init_10 : decode cX10_init 10 = .ok (.iload_n 2, 1) := dk_28 (dk_at dksX10_init_0 10 rfl rfl)
theorem dX10_init_11 : decode cX10_init 11 = .ok (.putfield 13, 3) := dk_181 0 13 (dk_at dksX10_init_0 11 rfl rfl)
theorem dX10_init_14 : decode cX10_init 14 = .ok (.return_, 1) := dk_177 (dk_at dksX10_init_0 14 rfl rfl)
abbrev cX10_width : ByteArray := prog_10_method_2_code
def yX10_width : MethodName := ⟨RX10, "width", "()I"⟩
theorem dX10_width_0 : decode cX10_width 0 = .ok (.iconst 2, 1) := by decide +kernel
theorem dX10_width_1 : decode cX10_width 1 = .ok (.ireturn, 1) := by decide +kernel
abbrev cX10_at : ByteArray := prog_10_method_3_code
def yX10_at : MethodName := ⟨RX10, "at", "(I)I"⟩
def dkwX10_at_0 : List UInt8 := [27, 154, 0, 10, 42, 180, 0, 7, 167, 0, 7, 42, 180, 0, 13, 172]
abbrev dktX10_at_0 : List UInt8 := dkwX10_at_0 ++ []
theorem dksX10_at_0 : cX10_at.data.toList.drop 0 = dktX10_at_0 := by decide +kernel
theorem dX10_at_0 : decode cX10_at 0 = .ok (.iload_n 1, 1) := dk_27 (dk_at dksX10_at_0 0 rfl rfl)
theorem dX10_at_1 : decode cX10_at 1 = .ok (.ifCond .ne 10, 3) := dk_154 0 10 (dk_at dksX10_at_0 1 rfl rfl)
theorem dX10_at_4 : decode cX10_at 4 = .ok (.aload_n 0, 1) := dk_42 (dk_at dksX10_at_0 4 rfl rfl)
theorem dX10_at_5 : decode cX10_at 5 = .ok (.getfield 7, 3) := dk_180 0 7 (dk_at dksX10_at_0 5 rfl rfl)
theorem dX10_at_8 : decode cX10_at 8 = .ok (.goto 7, 3) := dk_167 0 7 (dk_at dksX10_at_0 8 rfl rfl)
theorem dX10_at_11 : decode cX10_at 11 = .ok (.aload_n 0, 1) := dk_42 (dk_at dksX10_at_0 11 rfl rfl)
theorem dX10_at_12 : decode cX10_at 12 = .ok (.getfield 13, 3) := dk_180 0 13 (dk_at dksX10_at_0 12 rfl rfl)
theorem dX10_at_15 : decode cX10_at 15 = .ok (.ireturn, 1) := dk_172 (dk_at dksX10_at_0 15 rfl rfl)
theorem q134 : (Jvm.Cond.initialized "LeapJoin$Two") ∈ lw_all := lw_g (lw_at lw_m1 13 rfl) rfl
theorem q540 : (Jvm.Cond.instantiable "LeapJoin$Two" (2 : Nat)) ∈ lw_all := lw_g (lw_at lw_m2 179 rfl) rfl
theorem q542 : (Jvm.Cond.instanceMethod ({ cls := "LeapJoin$Two", name := "<init>", desc := "(II)V" } : Jvm.MethodName)) ∈ lw_all := lw_g (lw_at lw_m2 181 rfl) rfl
theorem q543 : (Jvm.Cond.code ({ cls := "LeapJoin$Two", name := "<init>", desc := "(II)V" } : Jvm.MethodName) prog_10_method_1_code (3 : Nat) (Option.none : Option Jvm.ClassFile.FieldType)) ∈ lw_all := lw_g (lw_at lw_m2 182 rfl) rfl
theorem q544 : (Jvm.Cond.methodLinkNest "LeapJoin$Two" (1 : Nat) ({ cls := "LeapJoin$Row", name := "<init>", desc := "()V" } : Jvm.MethodName) "LeapJoin") ∈ lw_tbl := lw_at lw_m2 183 rfl
theorem q545 : (Jvm.Cond.fieldLink "LeapJoin$Two" (7 : Nat) "LeapJoin$Two" "x" "I") ∈ lw_all := lw_g (lw_at lw_m2 184 rfl) rfl
theorem q546 : (Jvm.Cond.fieldLink "LeapJoin$Two" (13 : Nat) "LeapJoin$Two" "y" "I") ∈ lw_all := lw_g (lw_at lw_m2 185 rfl) rfl
theorem q547 : (Jvm.Cond.laysFinal "LeapJoin$Two" "LeapJoin$Two" "x" "I") ∈ lw_all := lw_g (lw_at lw_m2 186 rfl) rfl
theorem q548 : (Jvm.Cond.soleField "LeapJoin$Two" "x") ∈ lw_all := lw_g (lw_at lw_m2 187 rfl) rfl
theorem q549 : (Jvm.Cond.laysFinal "LeapJoin$Two" "LeapJoin$Two" "y" "I") ∈ lw_all := lw_g (lw_at lw_m2 188 rfl) rfl
theorem q550 : (Jvm.Cond.soleField "LeapJoin$Two" "y") ∈ lw_all := lw_g (lw_at lw_m2 189 rfl) rfl
theorem q551 : (Jvm.Cond.superclass "LeapJoin$Two" "LeapJoin$Row") ∈ lw_all := lw_g (lw_at lw_m2 190 rfl) rfl
theorem q575 : (Jvm.Cond.selects "LeapJoin$Two" ({ cls := "LeapJoin$Row", name := "against", desc := "(LLeapJoin$Row;)I" } : Jvm.MethodName) ({ cls := "LeapJoin$Row", name := "against", desc := "(LLeapJoin$Row;)I" } : Jvm.MethodName)) ∈ lw_all := lw_g (lw_at lw_m2 214 rfl) rfl
theorem q586 : (Jvm.Cond.selects "LeapJoin$Two" ({ cls := "LeapJoin$Row", name := "width", desc := "()I" } : Jvm.MethodName) ({ cls := "LeapJoin$Two", name := "width", desc := "()I" } : Jvm.MethodName)) ∈ lw_all := lw_g (lw_at lw_m2 225 rfl) rfl
theorem q587 : (Jvm.Cond.instanceMethod ({ cls := "LeapJoin$Two", name := "width", desc := "()I" } : Jvm.MethodName)) ∈ lw_all := lw_g (lw_at lw_m2 226 rfl) rfl
theorem q588 : (Jvm.Cond.code ({ cls := "LeapJoin$Two", name := "width", desc := "()I" } : Jvm.MethodName) prog_10_method_2_code (1 : Nat) (Option.some Jvm.ClassFile.FieldType.int)) ∈ lw_all := lw_g (lw_at lw_m2 227 rfl) rfl
theorem q598 : (Jvm.Cond.selects "LeapJoin$Two" ({ cls := "LeapJoin$Row", name := "at", desc := "(I)I" } : Jvm.MethodName) ({ cls := "LeapJoin$Two", name := "at", desc := "(I)I" } : Jvm.MethodName)) ∈ lw_all := lw_g (lw_at lw_m2 237 rfl) rfl
theorem q599 : (Jvm.Cond.instanceMethod ({ cls := "LeapJoin$Two", name := "at", desc := "(I)I" } : Jvm.MethodName)) ∈ lw_all := lw_g (lw_at lw_m2 238 rfl) rfl
theorem q600 : (Jvm.Cond.code ({ cls := "LeapJoin$Two", name := "at", desc := "(I)I" } : Jvm.MethodName) prog_10_method_3_code (2 : Nat) (Option.some Jvm.ClassFile.FieldType.int)) ∈ lw_all := lw_g (lw_at lw_m2 239 rfl) rfl
theorem q1897 : (Jvm.Cond.castable "LeapJoin$Two" "LeapJoin$Row") ∈ lw_tbl := lw_at lw_m8 96 rfl
theorem q1907 : (Jvm.Cond.castable "LeapJoin$Two" "java/lang/Object") ∈ lw_tbl := lw_at lw_m8 106 rfl
theorem in_X10 : ∀ w ∈ wsX100, w ∈ lw_all := lw_in wsX100 [547, 549] (by decide +kernel) (by decide +kernel)

/-! LeapJoin$Three -/
set_option maxRecDepth 100000
def RX11 : String := "LeapJoin$Three"
def TX11 : u_T := fun k => match k with
  | _ => ("LeapJoin$Three", "numbers", "[I", true)
def tyX11 : Nat → FieldType := fun k => match k with
  | _ => .array .int
abbrev wsX110 : List Cond := u_ws RX11 TX11 1
theorem nmX11 : ∀ a, a < 1 → ∀ b, b < 1 → a ≠ b → (TX11 a).2.1 ≠ (TX11 b).2.1 := by decide +kernel
theorem tyX11_ok : ∀ k, k < 1 → parseFieldDescriptor (TX11 k).2.2.1 = some (tyX11 k) := by decide +kernel
abbrev cX11_init : ByteArray := prog_9_method_1_code
def yX11_init : MethodName := ⟨RX11, "<init>", "([I)V"⟩
def dkwX11_init_0 : List UInt8 := [42, 183, 0, 3, 42, 43, 182, 0, 9, 192, 0, 10, 181, 0, 15, 177]
abbrev dktX11_init_0 : List UInt8 := dkwX11_init_0 ++ []
theorem dksX11_init_0 : cX11_init.data.toList.drop 0 = dktX11_init_0 := by decide +kernel
theorem dX11_init_0 : decode cX11_init 0 = .ok (.aload_n 0, 1) := dk_42 (dk_at dksX11_init_0 0 rfl rfl)
theorem dX11_init_1 : decode cX11_init 1 = .ok (.invokespecial 3, 3) := dk_183 0 3 (dk_at dksX11_init_0 1 rfl rfl)
theorem dX11_init_4 : decode cX11_init 4 = .ok (.aload_n 0, 1) := dk_42 (dk_at dksX11_init_0 4 rfl rfl)
theorem dX11_init_5 : decode cX11_init 5 = .ok (.aload_n 1, 1) := dk_43 (dk_at dksX11_init_0 5 rfl rfl)
theorem dX11_init_6 : decode cX11_init 6 = .ok (.invokevirtual 9, 3) := dk_182 0 9 (dk_at dksX11_init_0 6 rfl rfl)
theorem dX11_init_9 : decode cX11_init 9 = .ok (.checkcast 10, 3) := dk_192 0 10 (dk_at dksX11_init_0 9 rfl rfl)
theorem dX11_init_12 : decode cX11_init 12 = .ok (.putfield 15, 3) := dk_181 0 15 (dk_at dksX11_init_0 12 rfl rfl)
theorem dX11_init_15 : decode cX11_init 15 = .ok (.return_, 1) := dk_177 (dk_at dksX11_init_0 15 rfl rfl)
abbrev cX11_width : ByteArray := prog_9_method_2_code
def yX11_width : MethodName := ⟨RX11, "width", "()I"⟩
theorem dX11_width_0 : decode cX11_width 0 = .ok (.iconst 3, 1) := by decide +kernel
theorem dX11_width_1 : decode cX11_width 1 = .ok (.ireturn, 1) := by decide +kernel
abbrev cX11_at : ByteArray := prog_9_method_3_code
def yX11_at : MethodName := ⟨RX11, "at", "(I)I"⟩
def dkwX11_at_0 : List UInt8 := [42, 180, 0, 15, 27, 46, 172]
abbrev dktX11_at_0 : List UInt8 := dkwX11_at_0 ++ []
theorem dksX11_at_0 : cX11_at.data.toList.drop 0 = dktX11_at_0 := by decide +kernel
theorem dX11_at_0 : decode cX11_at 0 = .ok (.aload_n 0, 1) := dk_42 (dk_at dksX11_at_0 0 rfl rfl)
theorem dX11_at_1 : decode cX11_at 1 = .ok (.getfield 15, 3) := dk_180 0 15 (dk_at dksX11_at_0 1 rfl rfl)
theorem dX11_at_4 : decode cX11_at 4 = .ok (.iload_n 1, 1) := dk_27 (dk_at dksX11_at_0 4 rfl rfl)
theorem dX11_at_5 : decode cX11_at 5 = .ok (.iaload, 1) := dk_46 (dk_at dksX11_at_0 5 rfl rfl)
theorem dX11_at_6 : decode cX11_at 6 = .ok (.ireturn, 1) := dk_172 (dk_at dksX11_at_0 6 rfl rfl)
theorem q135 : (Jvm.Cond.initialized "LeapJoin$Three") ∈ lw_all := lw_g (lw_at lw_m1 14 rfl) rfl
theorem q552 : (Jvm.Cond.instantiable "LeapJoin$Three" (1 : Nat)) ∈ lw_all := lw_g (lw_at lw_m2 191 rfl) rfl
theorem q554 : (Jvm.Cond.instanceMethod ({ cls := "LeapJoin$Three", name := "<init>", desc := "([I)V" } : Jvm.MethodName)) ∈ lw_all := lw_g (lw_at lw_m2 193 rfl) rfl
theorem q555 : (Jvm.Cond.code ({ cls := "LeapJoin$Three", name := "<init>", desc := "([I)V" } : Jvm.MethodName) prog_9_method_1_code (2 : Nat) (Option.none : Option Jvm.ClassFile.FieldType)) ∈ lw_all := lw_g (lw_at lw_m2 194 rfl) rfl
theorem q556 : (Jvm.Cond.methodLinkNest "LeapJoin$Three" (3 : Nat) ({ cls := "LeapJoin$Row", name := "<init>", desc := "()V" } : Jvm.MethodName) "LeapJoin") ∈ lw_tbl := lw_at lw_m2 195 rfl
theorem q557 : (Jvm.Cond.methodLink "LeapJoin$Three" (9 : Nat) ({ cls := "[I", name := "clone", desc := "()Ljava/lang/Object;" } : Jvm.MethodName)) ∈ lw_all := lw_g (lw_at lw_m2 196 rfl) rfl
theorem q561 : (Jvm.Cond.classLink "LeapJoin$Three" (10 : Nat) "[I") ∈ lw_all := lw_g (lw_at lw_m2 200 rfl) rfl
theorem q562 : (Jvm.Cond.fieldLink "LeapJoin$Three" (15 : Nat) "LeapJoin$Three" "numbers" "[I") ∈ lw_all := lw_g (lw_at lw_m2 201 rfl) rfl
theorem q563 : (Jvm.Cond.laysFinal "LeapJoin$Three" "LeapJoin$Three" "numbers" "[I") ∈ lw_all := lw_g (lw_at lw_m2 202 rfl) rfl
theorem q564 : (Jvm.Cond.soleField "LeapJoin$Three" "numbers") ∈ lw_all := lw_g (lw_at lw_m2 203 rfl) rfl
theorem q565 : (Jvm.Cond.superclass "LeapJoin$Three" "LeapJoin$Row") ∈ lw_all := lw_g (lw_at lw_m2 204 rfl) rfl
theorem q574 : (Jvm.Cond.selects "LeapJoin$Three" ({ cls := "LeapJoin$Row", name := "against", desc := "(LLeapJoin$Row;)I" } : Jvm.MethodName) ({ cls := "LeapJoin$Row", name := "against", desc := "(LLeapJoin$Row;)I" } : Jvm.MethodName)) ∈ lw_all := lw_g (lw_at lw_m2 213 rfl) rfl
theorem q583 : (Jvm.Cond.selects "LeapJoin$Three" ({ cls := "LeapJoin$Row", name := "width", desc := "()I" } : Jvm.MethodName) ({ cls := "LeapJoin$Three", name := "width", desc := "()I" } : Jvm.MethodName)) ∈ lw_all := lw_g (lw_at lw_m2 222 rfl) rfl
theorem q584 : (Jvm.Cond.instanceMethod ({ cls := "LeapJoin$Three", name := "width", desc := "()I" } : Jvm.MethodName)) ∈ lw_all := lw_g (lw_at lw_m2 223 rfl) rfl
theorem q585 : (Jvm.Cond.code ({ cls := "LeapJoin$Three", name := "width", desc := "()I" } : Jvm.MethodName) prog_9_method_2_code (1 : Nat) (Option.some Jvm.ClassFile.FieldType.int)) ∈ lw_all := lw_g (lw_at lw_m2 224 rfl) rfl
theorem q595 : (Jvm.Cond.selects "LeapJoin$Three" ({ cls := "LeapJoin$Row", name := "at", desc := "(I)I" } : Jvm.MethodName) ({ cls := "LeapJoin$Three", name := "at", desc := "(I)I" } : Jvm.MethodName)) ∈ lw_all := lw_g (lw_at lw_m2 234 rfl) rfl
theorem q596 : (Jvm.Cond.instanceMethod ({ cls := "LeapJoin$Three", name := "at", desc := "(I)I" } : Jvm.MethodName)) ∈ lw_all := lw_g (lw_at lw_m2 235 rfl) rfl
theorem q597 : (Jvm.Cond.code ({ cls := "LeapJoin$Three", name := "at", desc := "(I)I" } : Jvm.MethodName) prog_9_method_3_code (2 : Nat) (Option.some Jvm.ClassFile.FieldType.int)) ∈ lw_all := lw_g (lw_at lw_m2 236 rfl) rfl
theorem q1898 : (Jvm.Cond.castable "LeapJoin$Three" "LeapJoin$Row") ∈ lw_tbl := lw_at lw_m8 97 rfl
theorem q1908 : (Jvm.Cond.castable "LeapJoin$Three" "java/lang/Object") ∈ lw_tbl := lw_at lw_m8 107 rfl
theorem in_X11 : ∀ w ∈ wsX110, w ∈ lw_all := lw_in wsX110 [563] (by decide +kernel) (by decide +kernel)

/-! LeapJoin$Script -/
set_option maxRecDepth 100000
def RX12 : String := "LeapJoin$Script"
def TX12 : u_T := fun k => match k with
  | 0 => ("LeapJoin$Script", "what", "[I", true)
  | 1 => ("LeapJoin$Script", "numbers", "[I", true)
  | _ => ("LeapJoin$Script", "many", "I", false)
def tyX12 : Nat → FieldType := fun k => match k with
  | 0 => .array .int
  | 1 => .array .int
  | _ => .int
abbrev wsX120 : List Cond := u_ws RX12 TX12 3
theorem nmX12 : ∀ a, a < 3 → ∀ b, b < 3 → a ≠ b → (TX12 a).2.1 ≠ (TX12 b).2.1 := by decide +kernel
theorem tyX12_ok : ∀ k, k < 3 → parseFieldDescriptor (TX12 k).2.2.1 = some (tyX12 k) := by decide +kernel
abbrev cX12_init : ByteArray := prog_6_method_1_code
def yX12_init : MethodName := ⟨RX12, "<init>", "()V"⟩
def dkwX12_init_0 : List UInt8 := [42, 183, 0, 3, 42, 16, 12, 188, 10, 181, 0, 9, 42, 16, 48, 188, 10, 181, 0, 15, 177]
abbrev dktX12_init_0 : List UInt8 := dkwX12_init_0 ++ []
theorem dksX12_init_0 : cX12_init.data.toList.drop 0 = dktX12_init_0 := by decide +kernel
theorem dX12_init_0 : decode cX12_init 0 = .ok (.aload_n 0, 1) := dk_42 (dk_at dksX12_init_0 0 rfl rfl)
theorem dX12_init_1 : decode cX12_init 1 = .ok (.invokespecial 3, 3) := dk_183 0 3 (dk_at dksX12_init_0 1 rfl rfl)
theorem dX12_init_4 : decode cX12_init 4 = .ok (.aload_n 0, 1) := dk_42 (dk_at dksX12_init_0 4 rfl rfl)
theorem dX12_init_5 : decode cX12_init 5 = .ok (.bipush 12, 2) := dk_16 12 (dk_at dksX12_init_0 5 rfl rfl)
theorem dX12_init_7 : decode cX12_init 7 = .ok (.newarray .int, 2) := dk_188_10 (dk_at dksX12_init_0 7 rfl rfl)
theorem dX12_init_9 : decode cX12_init 9 = .ok (.putfield 9, 3) := dk_181 0 9 (dk_at dksX12_init_0 9 rfl rfl)
theorem dX12_init_12 : decode cX12_init 12 = .ok (.aload_n 0, 1) := dk_42 (dk_at dksX12_init_0 12 rfl rfl)
theorem dX12_init_13 : decode cX12_init 13 = .ok (.bipush 48, 2) := dk_16 48 (dk_at dksX12_init_0 13 rfl rfl)
theorem dX12_init_15 : decode cX12_init 15 = .ok (.newarray .int, 2) := dk_188_10 (dk_at dksX12_init_0 15 rfl rfl)
theorem dX12_init_17 : decode cX12_init 17 = .ok (.putfield 15, 3) := dk_181 0 15 (dk_at dksX12_init_0 17 rfl rfl)
theorem dX12_init_20 : decode cX12_init 20 = .ok (.return_, 1) := dk_177 (dk_at dksX12_init_0 20 rfl rfl)
abbrev cX12_number : ByteArray := prog_6_method_2_code
def yX12_number : MethodName := ⟨RX12, "number", "(II)I"⟩
def dkwX12_number_0 : List UInt8 := [42, 180, 0, 15, 7, 27, 104, 28, 96, 46, 172]
abbrev dktX12_number_0 : List UInt8 := dkwX12_number_0 ++ []
theorem dksX12_number_0 : cX12_number.data.toList.drop 0 = dktX12_number_0 := by decide +kernel
theorem dX12_number_0 : decode cX12_number 0 = .ok (.aload_n 0, 1) := dk_42 (dk_at dksX12_number_0 0 rfl rfl)
theorem dX12_number_1 : decode cX12_number 1 = .ok (.getfield 15, 3) := dk_180 0 15 (dk_at dksX12_number_0 1 rfl rfl)
theorem dX12_number_4 : decode cX12_number 4 = .ok (.iconst 4, 1) := dk_7 (dk_at dksX12_number_0 4 rfl rfl)
theorem dX12_number_5 : decode cX12_number 5 = .ok (.iload_n 1, 1) := dk_27 (dk_at dksX12_number_0 5 rfl rfl)
theorem dX12_number_6 : decode cX12_number 6 = .ok (.imul, 1) := dk_104 (dk_at dksX12_number_0 6 rfl rfl)
theorem dX12_number_7 : decode cX12_number 7 = .ok (.iload_n 2, 1) := dk_28 (dk_at dksX12_number_0 7 rfl rfl)
theorem dX12_number_8 : decode cX12_number 8 = .ok (.iadd, 1) := dk_96 (dk_at dksX12_number_0 8 rfl rfl)
theorem dX12_number_9 : decode cX12_number 9 = .ok (.iaload, 1) := dk_46 (dk_at dksX12_number_0 9 rfl rfl)
theorem dX12_number_10 : decode cX12_number 10 = .ok (.ireturn, 1) := dk_172 (dk_at dksX12_number_0 10 rfl rfl)
theorem q136 : (Jvm.Cond.initialized "LeapJoin$Script") ∈ lw_all := lw_g (lw_at lw_m1 15 rfl) rfl
theorem q614 : (Jvm.Cond.instantiable "LeapJoin$Script" (3 : Nat)) ∈ lw_all := lw_g (lw_at lw_m3 13 rfl) rfl
theorem q616 : (Jvm.Cond.instanceMethod ({ cls := "LeapJoin$Script", name := "<init>", desc := "()V" } : Jvm.MethodName)) ∈ lw_all := lw_g (lw_at lw_m3 15 rfl) rfl
theorem q617 : (Jvm.Cond.code ({ cls := "LeapJoin$Script", name := "<init>", desc := "()V" } : Jvm.MethodName) prog_6_method_1_code (1 : Nat) (Option.none : Option Jvm.ClassFile.FieldType)) ∈ lw_all := lw_g (lw_at lw_m3 16 rfl) rfl
theorem q618 : (Jvm.Cond.methodLink "LeapJoin$Script" (3 : Nat) ({ cls := "java/lang/Object", name := "<init>", desc := "()V" } : Jvm.MethodName)) ∈ lw_all := lw_g (lw_at lw_m3 17 rfl) rfl
theorem q619 : (Jvm.Cond.fieldLink "LeapJoin$Script" (9 : Nat) "LeapJoin$Script" "what" "[I") ∈ lw_all := lw_g (lw_at lw_m3 18 rfl) rfl
theorem q622 : (Jvm.Cond.fieldLink "LeapJoin$Script" (15 : Nat) "LeapJoin$Script" "numbers" "[I") ∈ lw_all := lw_g (lw_at lw_m3 21 rfl) rfl
theorem q626 : (Jvm.Cond.laysFinal "LeapJoin$Script" "LeapJoin$Script" "what" "[I") ∈ lw_all := lw_g (lw_at lw_m3 25 rfl) rfl
theorem q627 : (Jvm.Cond.soleField "LeapJoin$Script" "what") ∈ lw_all := lw_g (lw_at lw_m3 26 rfl) rfl
theorem q628 : (Jvm.Cond.laysFinal "LeapJoin$Script" "LeapJoin$Script" "numbers" "[I") ∈ lw_all := lw_g (lw_at lw_m3 27 rfl) rfl
theorem q629 : (Jvm.Cond.soleField "LeapJoin$Script" "numbers") ∈ lw_all := lw_g (lw_at lw_m3 28 rfl) rfl
theorem q630 : (Jvm.Cond.lays "LeapJoin$Script" "LeapJoin$Script" "many" "I") ∈ lw_all := lw_g (lw_at lw_m3 29 rfl) rfl
theorem q631 : (Jvm.Cond.soleField "LeapJoin$Script" "many") ∈ lw_all := lw_g (lw_at lw_m3 30 rfl) rfl
theorem q632 : (Jvm.Cond.superclass "LeapJoin$Script" "java/lang/Object") ∈ lw_all := lw_g (lw_at lw_m3 31 rfl) rfl
theorem q1163 : (Jvm.Cond.instanceMethod ({ cls := "LeapJoin$Script", name := "number", desc := "(II)I" } : Jvm.MethodName)) ∈ lw_all := lw_g (lw_at lw_m5 82 rfl) rfl
theorem q1164 : (Jvm.Cond.selects "LeapJoin$Script" ({ cls := "LeapJoin$Script", name := "number", desc := "(II)I" } : Jvm.MethodName) ({ cls := "LeapJoin$Script", name := "number", desc := "(II)I" } : Jvm.MethodName)) ∈ lw_all := lw_g (lw_at lw_m5 83 rfl) rfl
theorem q1165 : (Jvm.Cond.code ({ cls := "LeapJoin$Script", name := "number", desc := "(II)I" } : Jvm.MethodName) prog_6_method_2_code (3 : Nat) (Option.some Jvm.ClassFile.FieldType.int)) ∈ lw_all := lw_g (lw_at lw_m5 84 rfl) rfl
theorem q1909 : (Jvm.Cond.castable "LeapJoin$Script" "java/lang/Object") ∈ lw_tbl := lw_at lw_m8 108 rfl
theorem in_X12 : ∀ w ∈ wsX120, w ∈ lw_all := lw_in wsX120 [626, 628, 630] (by decide +kernel) (by decide +kernel)
