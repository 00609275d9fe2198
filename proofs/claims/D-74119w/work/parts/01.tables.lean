-- ===== PART A: goes FIRST, ahead of the names: the tables' words, and 'selects' of the private methods out of them =====
/-- a private method of a class that the tables say can be made, by its rows of tables_1 -/
def lw_okq (q : MethodName × Nat) : Prop := (q.1.cls ≠ "java/lang/invoke/MethodHandle" ∧ q.1.cls ≠ "java/lang/invoke/VarHandle") ∧ Cond.instantiable q.1.cls q.2 ∈ tables_1 ∧ Cond.privateMethod q.1 ∈ tables_1 ∧ Cond.instanceMethod q.1 ∈ tables_1
set_option maxRecDepth 100000
theorem lw_t1 {w : Cond} (h : w ∈ tables_1_1) : w ∈ tables_1 := List.mem_append_left _ h
theorem lw_t2 {w : Cond} (h : w ∈ tables_1_2) : w ∈ tables_1 := List.mem_append_right _ (List.mem_append_left _ h)
theorem lw_t3 {w : Cond} (h : w ∈ tables_1_3) : w ∈ tables_1 := List.mem_append_right _ (List.mem_append_right _ (List.mem_append_left _ h))
theorem lw_t4 {w : Cond} (h : w ∈ tables_1_4) : w ∈ tables_1 := List.mem_append_right _ (List.mem_append_right _ (List.mem_append_right _ (List.mem_append_left _ h)))
theorem lw_t5 {w : Cond} (h : w ∈ tables_1_5) : w ∈ tables_1 := List.mem_append_right _ (List.mem_append_right _ (List.mem_append_right _ (List.mem_append_right _ (List.mem_append_left _ h))))
theorem lw_t6 {w : Cond} (h : w ∈ tables_1_6) : w ∈ tables_1 := List.mem_append_right _ (List.mem_append_right _ (List.mem_append_right _ (List.mem_append_right _ (List.mem_append_right _ (List.mem_append_left _ h)))))
theorem lw_t7 {w : Cond} (h : w ∈ tables_1_7) : w ∈ tables_1 := List.mem_append_right _ (List.mem_append_right _ (List.mem_append_right _ (List.mem_append_right _ (List.mem_append_right _ (List.mem_append_right _ (List.mem_append_left _ h))))))
theorem lw_t8 {w : Cond} (h : w ∈ tables_1_8) : w ∈ tables_1 := List.mem_append_right _ (List.mem_append_right _ (List.mem_append_right _ (List.mem_append_right _ (List.mem_append_right _ (List.mem_append_right _ (List.mem_append_right _ h))))))
theorem lw_p0 : lw_okq (⟨"LeapJoin", "bring", "(I)V"⟩, 22) := ⟨⟨by decide +kernel, by decide +kernel⟩, lw_t1 (List.mem_of_getElem? (i := 39) rfl), lw_t1 (List.mem_of_getElem? (i := 37) rfl), lw_t1 (List.mem_of_getElem? (i := 38) rfl)⟩
theorem lw_p1 : lw_okq (⟨"LeapJoin$Reader", "table", "()LLeapJoin$Table;"⟩, 3) := ⟨⟨by decide +kernel, by decide +kernel⟩, lw_t1 (List.mem_of_getElem? (i := 232) rfl), lw_t2 (List.mem_of_getElem? (i := 12) rfl), lw_t2 (List.mem_of_getElem? (i := 13) rfl)⟩
theorem lw_p2 : lw_okq (⟨"LeapJoin$Reader", "letters", "()LLeapJoin$Table;"⟩, 3) := ⟨⟨by decide +kernel, by decide +kernel⟩, lw_t1 (List.mem_of_getElem? (i := 232) rfl), lw_t2 (List.mem_of_getElem? (i := 16) rfl), lw_t2 (List.mem_of_getElem? (i := 17) rfl)⟩
theorem lw_p3 : lw_okq (⟨"LeapJoin$Reader", "peek", "()I"⟩, 3) := ⟨⟨by decide +kernel, by decide +kernel⟩, lw_t1 (List.mem_of_getElem? (i := 232) rfl), lw_t2 (List.mem_of_getElem? (i := 20) rfl), lw_t2 (List.mem_of_getElem? (i := 21) rfl)⟩
theorem lw_p4 : lw_okq (⟨"LeapJoin$Reader", "take", "(Z)I"⟩, 3) := ⟨⟨by decide +kernel, by decide +kernel⟩, lw_t1 (List.mem_of_getElem? (i := 232) rfl), lw_t2 (List.mem_of_getElem? (i := 29) rfl), lw_t2 (List.mem_of_getElem? (i := 30) rfl)⟩
theorem lw_p5 : lw_okq (⟨"java/lang/Throwable", "fillInStackTrace", "(I)Ljava/lang/Throwable;"⟩, 6) := ⟨⟨by decide +kernel, by decide +kernel⟩, lw_t2 (List.mem_of_getElem? (i := 69) rfl), lw_t2 (List.mem_of_getElem? (i := 67) rfl), lw_t2 (List.mem_of_getElem? (i := 68) rfl)⟩
theorem lw_p6 : lw_okq (⟨"LeapJoin$Reader", "isDigit", "()Z"⟩, 3) := ⟨⟨by decide +kernel, by decide +kernel⟩, lw_t1 (List.mem_of_getElem? (i := 232) rfl), lw_t2 (List.mem_of_getElem? (i := 142) rfl), lw_t2 (List.mem_of_getElem? (i := 143) rfl)⟩
theorem lw_p7 : lw_okq (⟨"LeapJoin$Reader", "row", "(LLeapJoin$Table;)V"⟩, 3) := ⟨⟨by decide +kernel, by decide +kernel⟩, lw_t1 (List.mem_of_getElem? (i := 232) rfl), lw_t2 (List.mem_of_getElem? (i := 146) rfl), lw_t2 (List.mem_of_getElem? (i := 147) rfl)⟩
theorem lw_p8 : lw_okq (⟨"LeapJoin$Reader", "sign", "(I)V"⟩, 3) := ⟨⟨by decide +kernel, by decide +kernel⟩, lw_t1 (List.mem_of_getElem? (i := 232) rfl), lw_t2 (List.mem_of_getElem? (i := 150) rfl), lw_t2 (List.mem_of_getElem? (i := 151) rfl)⟩
theorem lw_p9 : lw_okq (⟨"LeapJoin$Reader", "isNext", "(I)Z"⟩, 3) := ⟨⟨by decide +kernel, by decide +kernel⟩, lw_t1 (List.mem_of_getElem? (i := 232) rfl), lw_t2 (List.mem_of_getElem? (i := 154) rfl), lw_t2 (List.mem_of_getElem? (i := 155) rfl)⟩
theorem lw_p10 : lw_okq (⟨"LeapJoin$Reader", "number", "(I)I"⟩, 3) := ⟨⟨by decide +kernel, by decide +kernel⟩, lw_t1 (List.mem_of_getElem? (i := 232) rfl), lw_t2 (List.mem_of_getElem? (i := 158) rfl), lw_t2 (List.mem_of_getElem? (i := 159) rfl)⟩
theorem lw_p11 : lw_okq (⟨"LeapJoin$Reader", "ends", "()V"⟩, 3) := ⟨⟨by decide +kernel, by decide +kernel⟩, lw_t1 (List.mem_of_getElem? (i := 232) rfl), lw_t3 (List.mem_of_getElem? (i := 5) rfl), lw_t3 (List.mem_of_getElem? (i := 6) rfl)⟩
theorem lw_p12 : lw_okq (⟨"LeapJoin$Reader", "step", "(LLeapJoin$Script;)V"⟩, 3) := ⟨⟨by decide +kernel, by decide +kernel⟩, lw_t1 (List.mem_of_getElem? (i := 232) rfl), lw_t3 (List.mem_of_getElem? (i := 33) rfl), lw_t3 (List.mem_of_getElem? (i := 34) rfl)⟩
theorem lw_p13 : lw_okq (⟨"LeapJoin$Reader", "digit", "()I"⟩, 3) := ⟨⟨by decide +kernel, by decide +kernel⟩, lw_t1 (List.mem_of_getElem? (i := 232) rfl), lw_t3 (List.mem_of_getElem? (i := 124) rfl), lw_t3 (List.mem_of_getElem? (i := 125) rfl)⟩
theorem lw_p14 : lw_okq (⟨"LeapJoin", "act", "(IIIII)I"⟩, 22) := ⟨⟨by decide +kernel, by decide +kernel⟩, lw_t1 (List.mem_of_getElem? (i := 39) rfl), lw_t3 (List.mem_of_getElem? (i := 141) rfl), lw_t3 (List.mem_of_getElem? (i := 142) rfl)⟩
theorem lw_p15 : lw_okq (⟨"LeapJoin", "acts", "(IIIII)I"⟩, 22) := ⟨⟨by decide +kernel, by decide +kernel⟩, lw_t1 (List.mem_of_getElem? (i := 39) rfl), lw_t3 (List.mem_of_getElem? (i := 145) rfl), lw_t3 (List.mem_of_getElem? (i := 146) rfl)⟩
def lw_privs_1 : List (MethodName × Nat) := [(⟨"LeapJoin", "bring", "(I)V"⟩, 22), (⟨"LeapJoin$Reader", "table", "()LLeapJoin$Table;"⟩, 3), (⟨"LeapJoin$Reader", "letters", "()LLeapJoin$Table;"⟩, 3), (⟨"LeapJoin$Reader", "peek", "()I"⟩, 3), (⟨"LeapJoin$Reader", "take", "(Z)I"⟩, 3), (⟨"java/lang/Throwable", "fillInStackTrace", "(I)Ljava/lang/Throwable;"⟩, 6), (⟨"LeapJoin$Reader", "isDigit", "()Z"⟩, 3), (⟨"LeapJoin$Reader", "row", "(LLeapJoin$Table;)V"⟩, 3), (⟨"LeapJoin$Reader", "sign", "(I)V"⟩, 3), (⟨"LeapJoin$Reader", "isNext", "(I)Z"⟩, 3), (⟨"LeapJoin$Reader", "number", "(I)I"⟩, 3), (⟨"LeapJoin$Reader", "ends", "()V"⟩, 3), (⟨"LeapJoin$Reader", "step", "(LLeapJoin$Script;)V"⟩, 3), (⟨"LeapJoin$Reader", "digit", "()I"⟩, 3), (⟨"LeapJoin", "act", "(IIIII)I"⟩, 22), (⟨"LeapJoin", "acts", "(IIIII)I"⟩, 22)]
theorem lw_r1 : ∀ q ∈ lw_privs_1, lw_okq q := List.forall_mem_cons.mpr ⟨lw_p0, List.forall_mem_cons.mpr ⟨lw_p1, List.forall_mem_cons.mpr ⟨lw_p2, List.forall_mem_cons.mpr ⟨lw_p3, List.forall_mem_cons.mpr ⟨lw_p4, List.forall_mem_cons.mpr ⟨lw_p5, List.forall_mem_cons.mpr ⟨lw_p6, List.forall_mem_cons.mpr ⟨lw_p7, List.forall_mem_cons.mpr ⟨lw_p8, List.forall_mem_cons.mpr ⟨lw_p9, List.forall_mem_cons.mpr ⟨lw_p10, List.forall_mem_cons.mpr ⟨lw_p11, List.forall_mem_cons.mpr ⟨lw_p12, List.forall_mem_cons.mpr ⟨lw_p13, List.forall_mem_cons.mpr ⟨lw_p14, List.forall_mem_cons.mpr ⟨lw_p15, fun _ h => absurd h List.not_mem_nil⟩⟩⟩⟩⟩⟩⟩⟩⟩⟩⟩⟩⟩⟩⟩⟩
theorem lw_p16 : lw_okq (⟨"LeapJoin$State", "done", "(I)I"⟩, 7) := ⟨⟨by decide +kernel, by decide +kernel⟩, lw_t1 (List.mem_of_getElem? (i := 57) rfl), lw_t3 (List.mem_of_getElem? (i := 215) rfl), lw_t3 (List.mem_of_getElem? (i := 216) rfl)⟩
theorem lw_p17 : lw_okq (⟨"LeapJoin", "joined", "()LLeapJoin$Join;"⟩, 22) := ⟨⟨by decide +kernel, by decide +kernel⟩, lw_t1 (List.mem_of_getElem? (i := 39) rfl), lw_t3 (List.mem_of_getElem? (i := 238) rfl), lw_t3 (List.mem_of_getElem? (i := 239) rfl)⟩
theorem lw_p18 : lw_okq (⟨"LeapJoin", "joined", "(LLeapJoin$State;)LLeapJoin$Join;"⟩, 22) := ⟨⟨by decide +kernel, by decide +kernel⟩, lw_t1 (List.mem_of_getElem? (i := 39) rfl), lw_t4 (List.mem_of_getElem? (i := 2) rfl), lw_t4 (List.mem_of_getElem? (i := 3) rfl)⟩
theorem lw_p19 : lw_okq (⟨"LeapJoin$Join", "nth", "(II)I"⟩, 13) := ⟨⟨by decide +kernel, by decide +kernel⟩, lw_t1 (List.mem_of_getElem? (i := 96) rfl), lw_t4 (List.mem_of_getElem? (i := 19) rfl), lw_t4 (List.mem_of_getElem? (i := 20) rfl)⟩
theorem lw_p20 : lw_okq (⟨"LeapJoin$Join", "finds", "(II)V"⟩, 13) := ⟨⟨by decide +kernel, by decide +kernel⟩, lw_t1 (List.mem_of_getElem? (i := 96) rfl), lw_t4 (List.mem_of_getElem? (i := 24) rfl), lw_t4 (List.mem_of_getElem? (i := 25) rfl)⟩
theorem lw_p21 : lw_okq (⟨"LeapJoin$Join", "stands", "(II)Z"⟩, 13) := ⟨⟨by decide +kernel, by decide +kernel⟩, lw_t1 (List.mem_of_getElem? (i := 96) rfl), lw_t4 (List.mem_of_getElem? (i := 28) rfl), lw_t4 (List.mem_of_getElem? (i := 29) rfl)⟩
theorem lw_p22 : lw_okq (⟨"LeapJoin$Join", "isHere", "(II)Z"⟩, 13) := ⟨⟨by decide +kernel, by decide +kernel⟩, lw_t1 (List.mem_of_getElem? (i := 96) rfl), lw_t4 (List.mem_of_getElem? (i := 32) rfl), lw_t4 (List.mem_of_getElem? (i := 33) rfl)⟩
theorem lw_p23 : lw_okq (⟨"LeapJoin$Table", "fits", "(LLeapJoin$Row;[II)Z"⟩, 4) := ⟨⟨by decide +kernel, by decide +kernel⟩, lw_t2 (List.mem_of_getElem? (i := 101) rfl), lw_t4 (List.mem_of_getElem? (i := 45) rfl), lw_t4 (List.mem_of_getElem? (i := 46) rfl)⟩
theorem lw_p24 : lw_okq (⟨"LeapJoin$Join", "greatest", "(I)I"⟩, 13) := ⟨⟨by decide +kernel, by decide +kernel⟩, lw_t1 (List.mem_of_getElem? (i := 96) rfl), lw_t4 (List.mem_of_getElem? (i := 51) rfl), lw_t4 (List.mem_of_getElem? (i := 52) rfl)⟩
theorem lw_p25 : lw_okq (⟨"LeapJoin$Join", "keyOf", "(II)I"⟩, 13) := ⟨⟨by decide +kernel, by decide +kernel⟩, lw_t1 (List.mem_of_getElem? (i := 96) rfl), lw_t4 (List.mem_of_getElem? (i := 55) rfl), lw_t4 (List.mem_of_getElem? (i := 56) rfl)⟩
theorem lw_p26 : lw_okq (⟨"LeapJoin$Join", "lesser", "(II)I"⟩, 13) := ⟨⟨by decide +kernel, by decide +kernel⟩, lw_t1 (List.mem_of_getElem? (i := 96) rfl), lw_t4 (List.mem_of_getElem? (i := 60) rfl), lw_t4 (List.mem_of_getElem? (i := 61) rfl)⟩
theorem lw_p27 : lw_okq (⟨"LeapJoin$Join", "begins", "(II)V"⟩, 13) := ⟨⟨by decide +kernel, by decide +kernel⟩, lw_t1 (List.mem_of_getElem? (i := 96) rfl), lw_t4 (List.mem_of_getElem? (i := 64) rfl), lw_t4 (List.mem_of_getElem? (i := 65) rfl)⟩
theorem lw_p28 : lw_okq (⟨"LeapJoin$Join", "first", "(I)I"⟩, 13) := ⟨⟨by decide +kernel, by decide +kernel⟩, lw_t1 (List.mem_of_getElem? (i := 96) rfl), lw_t4 (List.mem_of_getElem? (i := 68) rfl), lw_t4 (List.mem_of_getElem? (i := 69) rfl)⟩
theorem lw_p29 : lw_okq (⟨"LeapJoin$Join", "leaps", "(III)Z"⟩, 13) := ⟨⟨by decide +kernel, by decide +kernel⟩, lw_t1 (List.mem_of_getElem? (i := 96) rfl), lw_t4 (List.mem_of_getElem? (i := 72) rfl), lw_t4 (List.mem_of_getElem? (i := 73) rfl)⟩
theorem lw_p30 : lw_okq (⟨"LeapJoin", "happens", "()I"⟩, 22) := ⟨⟨by decide +kernel, by decide +kernel⟩, lw_t1 (List.mem_of_getElem? (i := 39) rfl), lw_t4 (List.mem_of_getElem? (i := 112) rfl), lw_t4 (List.mem_of_getElem? (i := 113) rfl)⟩
theorem lw_p31 : lw_okq (⟨"LeapJoin", "draw", "(I)I"⟩, 22) := ⟨⟨by decide +kernel, by decide +kernel⟩, lw_t1 (List.mem_of_getElem? (i := 39) rfl), lw_t4 (List.mem_of_getElem? (i := 116) rfl), lw_t4 (List.mem_of_getElem? (i := 117) rfl)⟩
def lw_privs_2 : List (MethodName × Nat) := [(⟨"LeapJoin$State", "done", "(I)I"⟩, 7), (⟨"LeapJoin", "joined", "()LLeapJoin$Join;"⟩, 22), (⟨"LeapJoin", "joined", "(LLeapJoin$State;)LLeapJoin$Join;"⟩, 22), (⟨"LeapJoin$Join", "nth", "(II)I"⟩, 13), (⟨"LeapJoin$Join", "finds", "(II)V"⟩, 13), (⟨"LeapJoin$Join", "stands", "(II)Z"⟩, 13), (⟨"LeapJoin$Join", "isHere", "(II)Z"⟩, 13), (⟨"LeapJoin$Table", "fits", "(LLeapJoin$Row;[II)Z"⟩, 4), (⟨"LeapJoin$Join", "greatest", "(I)I"⟩, 13), (⟨"LeapJoin$Join", "keyOf", "(II)I"⟩, 13), (⟨"LeapJoin$Join", "lesser", "(II)I"⟩, 13), (⟨"LeapJoin$Join", "begins", "(II)V"⟩, 13), (⟨"LeapJoin$Join", "first", "(I)I"⟩, 13), (⟨"LeapJoin$Join", "leaps", "(III)Z"⟩, 13), (⟨"LeapJoin", "happens", "()I"⟩, 22), (⟨"LeapJoin", "draw", "(I)I"⟩, 22)]
theorem lw_r2 : ∀ q ∈ lw_privs_2, lw_okq q := List.forall_mem_cons.mpr ⟨lw_p16, List.forall_mem_cons.mpr ⟨lw_p17, List.forall_mem_cons.mpr ⟨lw_p18, List.forall_mem_cons.mpr ⟨lw_p19, List.forall_mem_cons.mpr ⟨lw_p20, List.forall_mem_cons.mpr ⟨lw_p21, List.forall_mem_cons.mpr ⟨lw_p22, List.forall_mem_cons.mpr ⟨lw_p23, List.forall_mem_cons.mpr ⟨lw_p24, List.forall_mem_cons.mpr ⟨lw_p25, List.forall_mem_cons.mpr ⟨lw_p26, List.forall_mem_cons.mpr ⟨lw_p27, List.forall_mem_cons.mpr ⟨lw_p28, List.forall_mem_cons.mpr ⟨lw_p29, List.forall_mem_cons.mpr ⟨lw_p30, List.forall_mem_cons.mpr ⟨lw_p31, fun _ h => absurd h List.not_mem_nil⟩⟩⟩⟩⟩⟩⟩⟩⟩⟩⟩⟩⟩⟩⟩⟩
theorem lw_p32 : lw_okq (⟨"LeapJoin", "isTable", "(I)Z"⟩, 22) := ⟨⟨by decide +kernel, by decide +kernel⟩, lw_t1 (List.mem_of_getElem? (i := 39) rfl), lw_t4 (List.mem_of_getElem? (i := 136) rfl), lw_t4 (List.mem_of_getElem? (i := 137) rfl)⟩
theorem lw_p33 : lw_okq (⟨"LeapJoin", "isAsked", "(I)Z"⟩, 22) := ⟨⟨by decide +kernel, by decide +kernel⟩, lw_t1 (List.mem_of_getElem? (i := 39) rfl), lw_t4 (List.mem_of_getElem? (i := 149) rfl), lw_t4 (List.mem_of_getElem? (i := 150) rfl)⟩
theorem lw_p34 : lw_okq (⟨"LeapJoin", "givenOf", "(I)I"⟩, 22) := ⟨⟨by decide +kernel, by decide +kernel⟩, lw_t1 (List.mem_of_getElem? (i := 39) rfl), lw_t4 (List.mem_of_getElem? (i := 178) rfl), lw_t4 (List.mem_of_getElem? (i := 179) rfl)⟩
theorem lw_p35 : lw_okq (⟨"LeapJoin", "unlike", "(I)I"⟩, 22) := ⟨⟨by decide +kernel, by decide +kernel⟩, lw_t1 (List.mem_of_getElem? (i := 39) rfl), lw_t4 (List.mem_of_getElem? (i := 205) rfl), lw_t4 (List.mem_of_getElem? (i := 206) rfl)⟩
theorem lw_p36 : lw_okq (⟨"LeapJoin", "isTold", "(LLeapJoin$Join;II)Z"⟩, 22) := ⟨⟨by decide +kernel, by decide +kernel⟩, lw_t1 (List.mem_of_getElem? (i := 39) rfl), lw_t4 (List.mem_of_getElem? (i := 230) rfl), lw_t4 (List.mem_of_getElem? (i := 231) rfl)⟩
theorem lw_p37 : lw_okq (⟨"LeapJoin", "from", "(IIIIZ)I"⟩, 22) := ⟨⟨by decide +kernel, by decide +kernel⟩, lw_t1 (List.mem_of_getElem? (i := 39) rfl), lw_t4 (List.mem_of_getElem? (i := 238) rfl), lw_t4 (List.mem_of_getElem? (i := 239) rfl)⟩
theorem lw_p38 : lw_okq (⟨"LeapJoin", "hasMean", "(I)Z"⟩, 22) := ⟨⟨by decide +kernel, by decide +kernel⟩, lw_t1 (List.mem_of_getElem? (i := 39) rfl), lw_t5 (List.mem_of_getElem? (i := 14) rfl), lw_t5 (List.mem_of_getElem? (i := 15) rfl)⟩
theorem lw_p39 : lw_okq (⟨"LeapJoin", "isScript", "(I)Z"⟩, 22) := ⟨⟨by decide +kernel, by decide +kernel⟩, lw_t1 (List.mem_of_getElem? (i := 39) rfl), lw_t5 (List.mem_of_getElem? (i := 77) rfl), lw_t5 (List.mem_of_getElem? (i := 78) rfl)⟩
theorem lw_p40 : lw_okq (⟨"LeapJoin", "sums", "()I"⟩, 22) := ⟨⟨by decide +kernel, by decide +kernel⟩, lw_t1 (List.mem_of_getElem? (i := 39) rfl), lw_t5 (List.mem_of_getElem? (i := 98) rfl), lw_t5 (List.mem_of_getElem? (i := 99) rfl)⟩
theorem lw_p41 : lw_okq (⟨"LeapJoin", "greatestTable", "(Z)I"⟩, 22) := ⟨⟨by decide +kernel, by decide +kernel⟩, lw_t1 (List.mem_of_getElem? (i := 39) rfl), lw_t5 (List.mem_of_getElem? (i := 102) rfl), lw_t5 (List.mem_of_getElem? (i := 103) rfl)⟩
theorem lw_p42 : lw_okq (⟨"LeapJoin", "dangling", "()I"⟩, 22) := ⟨⟨by decide +kernel, by decide +kernel⟩, lw_t1 (List.mem_of_getElem? (i := 39) rfl), lw_t5 (List.mem_of_getElem? (i := 112) rfl), lw_t5 (List.mem_of_getElem? (i := 113) rfl)⟩
theorem lw_p43 : lw_okq (⟨"LeapJoin", "tellings", "()I"⟩, 22) := ⟨⟨by decide +kernel, by decide +kernel⟩, lw_t1 (List.mem_of_getElem? (i := 39) rfl), lw_t5 (List.mem_of_getElem? (i := 116) rfl), lw_t5 (List.mem_of_getElem? (i := 117) rfl)⟩
theorem lw_p44 : lw_okq (⟨"LeapJoin", "mostLeaps", "()I"⟩, 22) := ⟨⟨by decide +kernel, by decide +kernel⟩, lw_t1 (List.mem_of_getElem? (i := 39) rfl), lw_t5 (List.mem_of_getElem? (i := 121) rfl), lw_t5 (List.mem_of_getElem? (i := 122) rfl)⟩
theorem lw_p45 : lw_okq (⟨"LeapJoinModel", "readAll", "()I"⟩, 43) := ⟨⟨by decide +kernel, by decide +kernel⟩, lw_t5 (List.mem_of_getElem? (i := 168) rfl), lw_t6 (List.mem_of_getElem? (i := 88) rfl), lw_t6 (List.mem_of_getElem? (i := 89) rfl)⟩
theorem lw_p46 : lw_okq (⟨"LeapJoinModel", "begins", "()V"⟩, 43) := ⟨⟨by decide +kernel, by decide +kernel⟩, lw_t5 (List.mem_of_getElem? (i := 168) rfl), lw_t6 (List.mem_of_getElem? (i := 92) rfl), lw_t6 (List.mem_of_getElem? (i := 93) rfl)⟩
theorem lw_p47 : lw_okq (⟨"LeapJoinModel", "readTable", "(I)V"⟩, 43) := ⟨⟨by decide +kernel, by decide +kernel⟩, lw_t5 (List.mem_of_getElem? (i := 168) rfl), lw_t6 (List.mem_of_getElem? (i := 96) rfl), lw_t6 (List.mem_of_getElem? (i := 97) rfl)⟩
def lw_privs_3 : List (MethodName × Nat) := [(⟨"LeapJoin", "isTable", "(I)Z"⟩, 22), (⟨"LeapJoin", "isAsked", "(I)Z"⟩, 22), (⟨"LeapJoin", "givenOf", "(I)I"⟩, 22), (⟨"LeapJoin", "unlike", "(I)I"⟩, 22), (⟨"LeapJoin", "isTold", "(LLeapJoin$Join;II)Z"⟩, 22), (⟨"LeapJoin", "from", "(IIIIZ)I"⟩, 22), (⟨"LeapJoin", "hasMean", "(I)Z"⟩, 22), (⟨"LeapJoin", "isScript", "(I)Z"⟩, 22), (⟨"LeapJoin", "sums", "()I"⟩, 22), (⟨"LeapJoin", "greatestTable", "(Z)I"⟩, 22), (⟨"LeapJoin", "dangling", "()I"⟩, 22), (⟨"LeapJoin", "tellings", "()I"⟩, 22), (⟨"LeapJoin", "mostLeaps", "()I"⟩, 22), (⟨"LeapJoinModel", "readAll", "()I"⟩, 43), (⟨"LeapJoinModel", "begins", "()V"⟩, 43), (⟨"LeapJoinModel", "readTable", "(I)V"⟩, 43)]
theorem lw_r3 : ∀ q ∈ lw_privs_3, lw_okq q := List.forall_mem_cons.mpr ⟨lw_p32, List.forall_mem_cons.mpr ⟨lw_p33, List.forall_mem_cons.mpr ⟨lw_p34, List.forall_mem_cons.mpr ⟨lw_p35, List.forall_mem_cons.mpr ⟨lw_p36, List.forall_mem_cons.mpr ⟨lw_p37, List.forall_mem_cons.mpr ⟨lw_p38, List.forall_mem_cons.mpr ⟨lw_p39, List.forall_mem_cons.mpr ⟨lw_p40, List.forall_mem_cons.mpr ⟨lw_p41, List.forall_mem_cons.mpr ⟨lw_p42, List.forall_mem_cons.mpr ⟨lw_p43, List.forall_mem_cons.mpr ⟨lw_p44, List.forall_mem_cons.mpr ⟨lw_p45, List.forall_mem_cons.mpr ⟨lw_p46, List.forall_mem_cons.mpr ⟨lw_p47, fun _ h => absurd h List.not_mem_nil⟩⟩⟩⟩⟩⟩⟩⟩⟩⟩⟩⟩⟩⟩⟩⟩
theorem lw_p48 : lw_okq (⟨"LeapJoinModel", "readHead", "(I)V"⟩, 43) := ⟨⟨by decide +kernel, by decide +kernel⟩, lw_t5 (List.mem_of_getElem? (i := 168) rfl), lw_t6 (List.mem_of_getElem? (i := 100) rfl), lw_t6 (List.mem_of_getElem? (i := 101) rfl)⟩
theorem lw_p49 : lw_okq (⟨"LeapJoinModel", "ahead", "()I"⟩, 43) := ⟨⟨by decide +kernel, by decide +kernel⟩, lw_t5 (List.mem_of_getElem? (i := 168) rfl), lw_t6 (List.mem_of_getElem? (i := 104) rfl), lw_t6 (List.mem_of_getElem? (i := 105) rfl)⟩
theorem lw_p50 : lw_okq (⟨"LeapJoinModel", "here", "()I"⟩, 43) := ⟨⟨by decide +kernel, by decide +kernel⟩, lw_t5 (List.mem_of_getElem? (i := 168) rfl), lw_t6 (List.mem_of_getElem? (i := 108) rfl), lw_t6 (List.mem_of_getElem? (i := 109) rfl)⟩
theorem lw_p51 : lw_okq (⟨"LeapJoinModel", "isLetter", "(I)Z"⟩, 43) := ⟨⟨by decide +kernel, by decide +kernel⟩, lw_t5 (List.mem_of_getElem? (i := 168) rfl), lw_t6 (List.mem_of_getElem? (i := 112) rfl), lw_t6 (List.mem_of_getElem? (i := 113) rfl)⟩
theorem lw_p52 : lw_okq (⟨"LeapJoinModel", "bad", "()V"⟩, 43) := ⟨⟨by decide +kernel, by decide +kernel⟩, lw_t5 (List.mem_of_getElem? (i := 168) rfl), lw_t6 (List.mem_of_getElem? (i := 116) rfl), lw_t6 (List.mem_of_getElem? (i := 117) rfl)⟩
theorem lw_p53 : lw_okq (⟨"LeapJoinModel", "must", "(I)V"⟩, 43) := ⟨⟨by decide +kernel, by decide +kernel⟩, lw_t5 (List.mem_of_getElem? (i := 168) rfl), lw_t6 (List.mem_of_getElem? (i := 123) rfl), lw_t6 (List.mem_of_getElem? (i := 124) rfl)⟩
theorem lw_p54 : lw_okq (⟨"LeapJoinModel", "readRow", "(I)V"⟩, 43) := ⟨⟨by decide +kernel, by decide +kernel⟩, lw_t5 (List.mem_of_getElem? (i := 168) rfl), lw_t6 (List.mem_of_getElem? (i := 130) rfl), lw_t6 (List.mem_of_getElem? (i := 131) rfl)⟩
theorem lw_p55 : lw_okq (⟨"LeapJoinModel", "number", "(I)I"⟩, 43) := ⟨⟨by decide +kernel, by decide +kernel⟩, lw_t5 (List.mem_of_getElem? (i := 168) rfl), lw_t6 (List.mem_of_getElem? (i := 134) rfl), lw_t6 (List.mem_of_getElem? (i := 135) rfl)⟩
theorem lw_p56 : lw_okq (⟨"LeapJoinModel", "ends", "()I"⟩, 43) := ⟨⟨by decide +kernel, by decide +kernel⟩, lw_t5 (List.mem_of_getElem? (i := 168) rfl), lw_t6 (List.mem_of_getElem? (i := 138) rfl), lw_t6 (List.mem_of_getElem? (i := 139) rfl)⟩
theorem lw_p57 : lw_okq (⟨"LeapJoinModel", "readScript", "(I)I"⟩, 43) := ⟨⟨by decide +kernel, by decide +kernel⟩, lw_t5 (List.mem_of_getElem? (i := 168) rfl), lw_t6 (List.mem_of_getElem? (i := 142) rfl), lw_t6 (List.mem_of_getElem? (i := 143) rfl)⟩
theorem lw_p58 : lw_okq (⟨"LeapJoinModel", "readStep", "(I)V"⟩, 43) := ⟨⟨by decide +kernel, by decide +kernel⟩, lw_t5 (List.mem_of_getElem? (i := 168) rfl), lw_t6 (List.mem_of_getElem? (i := 146) rfl), lw_t6 (List.mem_of_getElem? (i := 147) rfl)⟩
theorem lw_p59 : lw_okq (⟨"LeapJoinModel", "digit", "()I"⟩, 43) := ⟨⟨by decide +kernel, by decide +kernel⟩, lw_t5 (List.mem_of_getElem? (i := 168) rfl), lw_t6 (List.mem_of_getElem? (i := 150) rfl), lw_t6 (List.mem_of_getElem? (i := 151) rfl)⟩
theorem lw_p60 : lw_okq (⟨"LeapJoinModel", "takeTables", "()I"⟩, 43) := ⟨⟨by decide +kernel, by decide +kernel⟩, lw_t5 (List.mem_of_getElem? (i := 168) rfl), lw_t6 (List.mem_of_getElem? (i := 158) rfl), lw_t6 (List.mem_of_getElem? (i := 159) rfl)⟩
theorem lw_p61 : lw_okq (⟨"LeapJoinModel", "hasRow", "(IIII)Z"⟩, 43) := ⟨⟨by decide +kernel, by decide +kernel⟩, lw_t5 (List.mem_of_getElem? (i := 168) rfl), lw_t6 (List.mem_of_getElem? (i := 162) rfl), lw_t6 (List.mem_of_getElem? (i := 163) rfl)⟩
theorem lw_p62 : lw_okq (⟨"LeapJoinModel", "countLess", "(IIII)I"⟩, 43) := ⟨⟨by decide +kernel, by decide +kernel⟩, lw_t5 (List.mem_of_getElem? (i := 168) rfl), lw_t6 (List.mem_of_getElem? (i := 166) rfl), lw_t6 (List.mem_of_getElem? (i := 167) rfl)⟩
theorem lw_p63 : lw_okq (⟨"LeapJoinModel", "many", "(I)I"⟩, 43) := ⟨⟨by decide +kernel, by decide +kernel⟩, lw_t5 (List.mem_of_getElem? (i := 168) rfl), lw_t6 (List.mem_of_getElem? (i := 170) rfl), lw_t6 (List.mem_of_getElem? (i := 171) rfl)⟩
def lw_privs_4 : List (MethodName × Nat) := [(⟨"LeapJoinModel", "readHead", "(I)V"⟩, 43), (⟨"LeapJoinModel", "ahead", "()I"⟩, 43), (⟨"LeapJoinModel", "here", "()I"⟩, 43), (⟨"LeapJoinModel", "isLetter", "(I)Z"⟩, 43), (⟨"LeapJoinModel", "bad", "()V"⟩, 43), (⟨"LeapJoinModel", "must", "(I)V"⟩, 43), (⟨"LeapJoinModel", "readRow", "(I)V"⟩, 43), (⟨"LeapJoinModel", "number", "(I)I"⟩, 43), (⟨"LeapJoinModel", "ends", "()I"⟩, 43), (⟨"LeapJoinModel", "readScript", "(I)I"⟩, 43), (⟨"LeapJoinModel", "readStep", "(I)V"⟩, 43), (⟨"LeapJoinModel", "digit", "()I"⟩, 43), (⟨"LeapJoinModel", "takeTables", "()I"⟩, 43), (⟨"LeapJoinModel", "hasRow", "(IIII)Z"⟩, 43), (⟨"LeapJoinModel", "countLess", "(IIII)I"⟩, 43), (⟨"LeapJoinModel", "many", "(I)I"⟩, 43)]
theorem lw_r4 : ∀ q ∈ lw_privs_4, lw_okq q := List.forall_mem_cons.mpr ⟨lw_p48, List.forall_mem_cons.mpr ⟨lw_p49, List.forall_mem_cons.mpr ⟨lw_p50, List.forall_mem_cons.mpr ⟨lw_p51, List.forall_mem_cons.mpr ⟨lw_p52, List.forall_mem_cons.mpr ⟨lw_p53, List.forall_mem_cons.mpr ⟨lw_p54, List.forall_mem_cons.mpr ⟨lw_p55, List.forall_mem_cons.mpr ⟨lw_p56, List.forall_mem_cons.mpr ⟨lw_p57, List.forall_mem_cons.mpr ⟨lw_p58, List.forall_mem_cons.mpr ⟨lw_p59, List.forall_mem_cons.mpr ⟨lw_p60, List.forall_mem_cons.mpr ⟨lw_p61, List.forall_mem_cons.mpr ⟨lw_p62, List.forall_mem_cons.mpr ⟨lw_p63, fun _ h => absurd h List.not_mem_nil⟩⟩⟩⟩⟩⟩⟩⟩⟩⟩⟩⟩⟩⟩⟩⟩
theorem lw_p64 : lw_okq (⟨"LeapJoinModel", "compares", "(IIIII)I"⟩, 43) := ⟨⟨by decide +kernel, by decide +kernel⟩, lw_t5 (List.mem_of_getElem? (i := 168) rfl), lw_t6 (List.mem_of_getElem? (i := 174) rfl), lw_t6 (List.mem_of_getElem? (i := 175) rfl)⟩
theorem lw_p65 : lw_okq (⟨"LeapJoinModel", "putsNow", "(IIII)I"⟩, 43) := ⟨⟨by decide +kernel, by decide +kernel⟩, lw_t5 (List.mem_of_getElem? (i := 168) rfl), lw_t6 (List.mem_of_getElem? (i := 181) rfl), lw_t6 (List.mem_of_getElem? (i := 182) rfl)⟩
theorem lw_p66 : lw_okq (⟨"LeapJoinModel", "hand", "(IIIII)I"⟩, 43) := ⟨⟨by decide +kernel, by decide +kernel⟩, lw_t5 (List.mem_of_getElem? (i := 168) rfl), lw_t6 (List.mem_of_getElem? (i := 189) rfl), lw_t6 (List.mem_of_getElem? (i := 190) rfl)⟩
theorem lw_p67 : lw_okq (⟨"LeapJoinModel", "whyNot", "(IIIII)I"⟩, 43) := ⟨⟨by decide +kernel, by decide +kernel⟩, lw_t5 (List.mem_of_getElem? (i := 168) rfl), lw_t6 (List.mem_of_getElem? (i := 193) rfl), lw_t6 (List.mem_of_getElem? (i := 194) rfl)⟩
theorem lw_p68 : lw_okq (⟨"LeapJoinModel", "whyPut", "(IIII)I"⟩, 43) := ⟨⟨by decide +kernel, by decide +kernel⟩, lw_t5 (List.mem_of_getElem? (i := 168) rfl), lw_t6 (List.mem_of_getElem? (i := 197) rfl), lw_t6 (List.mem_of_getElem? (i := 198) rfl)⟩
theorem lw_p69 : lw_okq (⟨"LeapJoinModel", "isTable", "(I)Z"⟩, 43) := ⟨⟨by decide +kernel, by decide +kernel⟩, lw_t5 (List.mem_of_getElem? (i := 168) rfl), lw_t6 (List.mem_of_getElem? (i := 201) rfl), lw_t6 (List.mem_of_getElem? (i := 202) rfl)⟩
theorem lw_p70 : lw_okq (⟨"LeapJoinModel", "isRow", "(IIII)Z"⟩, 43) := ⟨⟨by decide +kernel, by decide +kernel⟩, lw_t5 (List.mem_of_getElem? (i := 168) rfl), lw_t6 (List.mem_of_getElem? (i := 205) rfl), lw_t6 (List.mem_of_getElem? (i := 206) rfl)⟩
theorem lw_p71 : lw_okq (⟨"LeapJoinModel", "whyTake", "(IIII)I"⟩, 43) := ⟨⟨by decide +kernel, by decide +kernel⟩, lw_t5 (List.mem_of_getElem? (i := 168) rfl), lw_t6 (List.mem_of_getElem? (i := 209) rfl), lw_t6 (List.mem_of_getElem? (i := 210) rfl)⟩
theorem lw_p72 : lw_okq (⟨"LeapJoinModel", "areTables", "()Z"⟩, 43) := ⟨⟨by decide +kernel, by decide +kernel⟩, lw_t5 (List.mem_of_getElem? (i := 168) rfl), lw_t6 (List.mem_of_getElem? (i := 213) rfl), lw_t6 (List.mem_of_getElem? (i := 214) rfl)⟩
theorem lw_p73 : lw_okq (⟨"LeapJoinModel", "act", "(IIIII)I"⟩, 43) := ⟨⟨by decide +kernel, by decide +kernel⟩, lw_t5 (List.mem_of_getElem? (i := 168) rfl), lw_t6 (List.mem_of_getElem? (i := 217) rfl), lw_t6 (List.mem_of_getElem? (i := 218) rfl)⟩
theorem lw_p74 : lw_okq (⟨"LeapJoinModel", "keep", "()V"⟩, 43) := ⟨⟨by decide +kernel, by decide +kernel⟩, lw_t5 (List.mem_of_getElem? (i := 168) rfl), lw_t6 (List.mem_of_getElem? (i := 221) rfl), lw_t6 (List.mem_of_getElem? (i := 222) rfl)⟩
theorem lw_p75 : lw_okq (⟨"LeapJoinModel", "doNow", "(IIIII)I"⟩, 43) := ⟨⟨by decide +kernel, by decide +kernel⟩, lw_t5 (List.mem_of_getElem? (i := 168) rfl), lw_t6 (List.mem_of_getElem? (i := 225) rfl), lw_t6 (List.mem_of_getElem? (i := 226) rfl)⟩
theorem lw_p76 : lw_okq (⟨"LeapJoinModel", "takesNow", "(IIII)I"⟩, 43) := ⟨⟨by decide +kernel, by decide +kernel⟩, lw_t5 (List.mem_of_getElem? (i := 168) rfl), lw_t6 (List.mem_of_getElem? (i := 229) rfl), lw_t6 (List.mem_of_getElem? (i := 230) rfl)⟩
theorem lw_p77 : lw_okq (⟨"LeapJoinModel", "isUsed", "(I)Z"⟩, 43) := ⟨⟨by decide +kernel, by decide +kernel⟩, lw_t5 (List.mem_of_getElem? (i := 168) rfl), lw_t6 (List.mem_of_getElem? (i := 233) rfl), lw_t6 (List.mem_of_getElem? (i := 234) rfl)⟩
theorem lw_p78 : lw_okq (⟨"LeapJoinModel", "note", "(II)V"⟩, 43) := ⟨⟨by decide +kernel, by decide +kernel⟩, lw_t5 (List.mem_of_getElem? (i := 168) rfl), lw_t6 (List.mem_of_getElem? (i := 237) rfl), lw_t6 (List.mem_of_getElem? (i := 238) rfl)⟩
theorem lw_p79 : lw_okq (⟨"LeapJoinModel", "rowsNow", "()I"⟩, 43) := ⟨⟨by decide +kernel, by decide +kernel⟩, lw_t5 (List.mem_of_getElem? (i := 168) rfl), lw_t7 (List.mem_of_getElem? (i := 1) rfl), lw_t7 (List.mem_of_getElem? (i := 2) rfl)⟩
def lw_privs_5 : List (MethodName × Nat) := [(⟨"LeapJoinModel", "compares", "(IIIII)I"⟩, 43), (⟨"LeapJoinModel", "putsNow", "(IIII)I"⟩, 43), (⟨"LeapJoinModel", "hand", "(IIIII)I"⟩, 43), (⟨"LeapJoinModel", "whyNot", "(IIIII)I"⟩, 43), (⟨"LeapJoinModel", "whyPut", "(IIII)I"⟩, 43), (⟨"LeapJoinModel", "isTable", "(I)Z"⟩, 43), (⟨"LeapJoinModel", "isRow", "(IIII)Z"⟩, 43), (⟨"LeapJoinModel", "whyTake", "(IIII)I"⟩, 43), (⟨"LeapJoinModel", "areTables", "()Z"⟩, 43), (⟨"LeapJoinModel", "act", "(IIIII)I"⟩, 43), (⟨"LeapJoinModel", "keep", "()V"⟩, 43), (⟨"LeapJoinModel", "doNow", "(IIIII)I"⟩, 43), (⟨"LeapJoinModel", "takesNow", "(IIII)I"⟩, 43), (⟨"LeapJoinModel", "isUsed", "(I)Z"⟩, 43), (⟨"LeapJoinModel", "note", "(II)V"⟩, 43), (⟨"LeapJoinModel", "rowsNow", "()I"⟩, 43)]
theorem lw_r5 : ∀ q ∈ lw_privs_5, lw_okq q := List.forall_mem_cons.mpr ⟨lw_p64, List.forall_mem_cons.mpr ⟨lw_p65, List.forall_mem_cons.mpr ⟨lw_p66, List.forall_mem_cons.mpr ⟨lw_p67, List.forall_mem_cons.mpr ⟨lw_p68, List.forall_mem_cons.mpr ⟨lw_p69, List.forall_mem_cons.mpr ⟨lw_p70, List.forall_mem_cons.mpr ⟨lw_p71, List.forall_mem_cons.mpr ⟨lw_p72, List.forall_mem_cons.mpr ⟨lw_p73, List.forall_mem_cons.mpr ⟨lw_p74, List.forall_mem_cons.mpr ⟨lw_p75, List.forall_mem_cons.mpr ⟨lw_p76, List.forall_mem_cons.mpr ⟨lw_p77, List.forall_mem_cons.mpr ⟨lw_p78, List.forall_mem_cons.mpr ⟨lw_p79, fun _ h => absurd h List.not_mem_nil⟩⟩⟩⟩⟩⟩⟩⟩⟩⟩⟩⟩⟩⟩⟩⟩
theorem lw_p80 : lw_okq (⟨"LeapJoinModel", "joinsNow", "()V"⟩, 43) := ⟨⟨by decide +kernel, by decide +kernel⟩, lw_t5 (List.mem_of_getElem? (i := 168) rfl), lw_t7 (List.mem_of_getElem? (i := 5) rfl), lw_t7 (List.mem_of_getElem? (i := 6) rfl)⟩
theorem lw_p81 : lw_okq (⟨"LeapJoinModel", "joins", "(I)V"⟩, 43) := ⟨⟨by decide +kernel, by decide +kernel⟩, lw_t5 (List.mem_of_getElem? (i := 168) rfl), lw_t7 (List.mem_of_getElem? (i := 9) rfl), lw_t7 (List.mem_of_getElem? (i := 10) rfl)⟩
theorem lw_p82 : lw_okq (⟨"LeapJoinModel", "laysOrder", "(I)V"⟩, 43) := ⟨⟨by decide +kernel, by decide +kernel⟩, lw_t5 (List.mem_of_getElem? (i := 168) rfl), lw_t7 (List.mem_of_getElem? (i := 13) rfl), lw_t7 (List.mem_of_getElem? (i := 14) rfl)⟩
theorem lw_p83 : lw_okq (⟨"LeapJoinModel", "asked", "()I"⟩, 43) := ⟨⟨by decide +kernel, by decide +kernel⟩, lw_t5 (List.mem_of_getElem? (i := 168) rfl), lw_t7 (List.mem_of_getElem? (i := 17) rfl), lw_t7 (List.mem_of_getElem? (i := 18) rfl)⟩
theorem lw_p84 : lw_okq (⟨"LeapJoinModel", "lettersOf", "(I)I"⟩, 43) := ⟨⟨by decide +kernel, by decide +kernel⟩, lw_t5 (List.mem_of_getElem? (i := 168) rfl), lw_t7 (List.mem_of_getElem? (i := 21) rfl), lw_t7 (List.mem_of_getElem? (i := 22) rfl)⟩
theorem lw_p85 : lw_okq (⟨"LeapJoinModel", "goes", "(I)V"⟩, 43) := ⟨⟨by decide +kernel, by decide +kernel⟩, lw_t5 (List.mem_of_getElem? (i := 168) rfl), lw_t7 (List.mem_of_getElem? (i := 25) rfl), lw_t7 (List.mem_of_getElem? (i := 26) rfl)⟩
theorem lw_p86 : lw_okq (⟨"LeapJoinModel", "takesRow", "()V"⟩, 43) := ⟨⟨by decide +kernel, by decide +kernel⟩, lw_t5 (List.mem_of_getElem? (i := 168) rfl), lw_t7 (List.mem_of_getElem? (i := 29) rfl), lw_t7 (List.mem_of_getElem? (i := 30) rfl)⟩
theorem lw_p87 : lw_okq (⟨"LeapJoinModel", "laysKeys", "(I)Z"⟩, 43) := ⟨⟨by decide +kernel, by decide +kernel⟩, lw_t5 (List.mem_of_getElem? (i := 168) rfl), lw_t7 (List.mem_of_getElem? (i := 33) rfl), lw_t7 (List.mem_of_getElem? (i := 34) rfl)⟩
theorem lw_p88 : lw_okq (⟨"LeapJoinModel", "isIn", "(II)Z"⟩, 43) := ⟨⟨by decide +kernel, by decide +kernel⟩, lw_t5 (List.mem_of_getElem? (i := 168) rfl), lw_t7 (List.mem_of_getElem? (i := 37) rfl), lw_t7 (List.mem_of_getElem? (i := 38) rfl)⟩
theorem lw_p89 : lw_okq (⟨"LeapJoinModel", "columnOf", "(II)I"⟩, 43) := ⟨⟨by decide +kernel, by decide +kernel⟩, lw_t5 (List.mem_of_getElem? (i := 168) rfl), lw_t7 (List.mem_of_getElem? (i := 41) rfl), lw_t7 (List.mem_of_getElem? (i := 42) rfl)⟩
theorem lw_p90 : lw_okq (⟨"LeapJoinModel", "fits", "(III)Z"⟩, 43) := ⟨⟨by decide +kernel, by decide +kernel⟩, lw_t5 (List.mem_of_getElem? (i := 168) rfl), lw_t7 (List.mem_of_getElem? (i := 45) rfl), lw_t7 (List.mem_of_getElem? (i := 46) rfl)⟩
theorem lw_p91 : lw_okq (⟨"LeapJoinModel", "takesKey", "(II)V"⟩, 43) := ⟨⟨by decide +kernel, by decide +kernel⟩, lw_t5 (List.mem_of_getElem? (i := 168) rfl), lw_t7 (List.mem_of_getElem? (i := 49) rfl), lw_t7 (List.mem_of_getElem? (i := 50) rfl)⟩
theorem lw_p92 : lw_okq (⟨"LeapJoinModel", "greatestKey", "(I)I"⟩, 43) := ⟨⟨by decide +kernel, by decide +kernel⟩, lw_t5 (List.mem_of_getElem? (i := 168) rfl), lw_t7 (List.mem_of_getElem? (i := 53) rfl), lw_t7 (List.mem_of_getElem? (i := 54) rfl)⟩
theorem lw_p93 : lw_okq (⟨"LeapJoinModel", "keyAt", "(II)I"⟩, 43) := ⟨⟨by decide +kernel, by decide +kernel⟩, lw_t5 (List.mem_of_getElem? (i := 168) rfl), lw_t7 (List.mem_of_getElem? (i := 57) rfl), lw_t7 (List.mem_of_getElem? (i := 58) rfl)⟩
theorem lw_p94 : lw_okq (⟨"LeapJoinModel", "firstBehind", "(II)I"⟩, 43) := ⟨⟨by decide +kernel, by decide +kernel⟩, lw_t5 (List.mem_of_getElem? (i := 168) rfl), lw_t7 (List.mem_of_getElem? (i := 62) rfl), lw_t7 (List.mem_of_getElem? (i := 63) rfl)⟩
theorem lw_p95 : lw_okq (⟨"LeapJoinModel", "firstIn", "(I)I"⟩, 43) := ⟨⟨by decide +kernel, by decide +kernel⟩, lw_t5 (List.mem_of_getElem? (i := 168) rfl), lw_t7 (List.mem_of_getElem? (i := 66) rfl), lw_t7 (List.mem_of_getElem? (i := 67) rfl)⟩
def lw_privs_6 : List (MethodName × Nat) := [(⟨"LeapJoinModel", "joinsNow", "()V"⟩, 43), (⟨"LeapJoinModel", "joins", "(I)V"⟩, 43), (⟨"LeapJoinModel", "laysOrder", "(I)V"⟩, 43), (⟨"LeapJoinModel", "asked", "()I"⟩, 43), (⟨"LeapJoinModel", "lettersOf", "(I)I"⟩, 43), (⟨"LeapJoinModel", "goes", "(I)V"⟩, 43), (⟨"LeapJoinModel", "takesRow", "()V"⟩, 43), (⟨"LeapJoinModel", "laysKeys", "(I)Z"⟩, 43), (⟨"LeapJoinModel", "isIn", "(II)Z"⟩, 43), (⟨"LeapJoinModel", "columnOf", "(II)I"⟩, 43), (⟨"LeapJoinModel", "fits", "(III)Z"⟩, 43), (⟨"LeapJoinModel", "takesKey", "(II)V"⟩, 43), (⟨"LeapJoinModel", "greatestKey", "(I)I"⟩, 43), (⟨"LeapJoinModel", "keyAt", "(II)I"⟩, 43), (⟨"LeapJoinModel", "firstBehind", "(II)I"⟩, 43), (⟨"LeapJoinModel", "firstIn", "(I)I"⟩, 43)]
theorem lw_r6 : ∀ q ∈ lw_privs_6, lw_okq q := List.forall_mem_cons.mpr ⟨lw_p80, List.forall_mem_cons.mpr ⟨lw_p81, List.forall_mem_cons.mpr ⟨lw_p82, List.forall_mem_cons.mpr ⟨lw_p83, List.forall_mem_cons.mpr ⟨lw_p84, List.forall_mem_cons.mpr ⟨lw_p85, List.forall_mem_cons.mpr ⟨lw_p86, List.forall_mem_cons.mpr ⟨lw_p87, List.forall_mem_cons.mpr ⟨lw_p88, List.forall_mem_cons.mpr ⟨lw_p89, List.forall_mem_cons.mpr ⟨lw_p90, List.forall_mem_cons.mpr ⟨lw_p91, List.forall_mem_cons.mpr ⟨lw_p92, List.forall_mem_cons.mpr ⟨lw_p93, List.forall_mem_cons.mpr ⟨lw_p94, List.forall_mem_cons.mpr ⟨lw_p95, fun _ h => absurd h List.not_mem_nil⟩⟩⟩⟩⟩⟩⟩⟩⟩⟩⟩⟩⟩⟩⟩⟩
theorem lw_p96 : lw_okq (⟨"LeapJoinModel", "leaps", "(III)Z"⟩, 43) := ⟨⟨by decide +kernel, by decide +kernel⟩, lw_t5 (List.mem_of_getElem? (i := 168) rfl), lw_t7 (List.mem_of_getElem? (i := 70) rfl), lw_t7 (List.mem_of_getElem? (i := 71) rfl)⟩
theorem lw_p97 : lw_okq (⟨"LeapJoinModel", "drawWay", "()V"⟩, 43) := ⟨⟨by decide +kernel, by decide +kernel⟩, lw_t5 (List.mem_of_getElem? (i := 168) rfl), lw_t7 (List.mem_of_getElem? (i := 90) rfl), lw_t7 (List.mem_of_getElem? (i := 91) rfl)⟩
theorem lw_p98 : lw_okq (⟨"LeapJoinModel", "draw", "(I)I"⟩, 43) := ⟨⟨by decide +kernel, by decide +kernel⟩, lw_t5 (List.mem_of_getElem? (i := 168) rfl), lw_t7 (List.mem_of_getElem? (i := 94) rfl), lw_t7 (List.mem_of_getElem? (i := 95) rfl)⟩
theorem lw_p99 : lw_okq (⟨"LeapJoinModel", "tryOne", "(IIIII)V"⟩, 43) := ⟨⟨by decide +kernel, by decide +kernel⟩, lw_t5 (List.mem_of_getElem? (i := 168) rfl), lw_t7 (List.mem_of_getElem? (i := 100) rfl), lw_t7 (List.mem_of_getElem? (i := 101) rfl)⟩
theorem lw_p100 : lw_okq (⟨"LeapJoinModel", "rowsOfAll", "()I"⟩, 43) := ⟨⟨by decide +kernel, by decide +kernel⟩, lw_t5 (List.mem_of_getElem? (i := 168) rfl), lw_t7 (List.mem_of_getElem? (i := 121) rfl), lw_t7 (List.mem_of_getElem? (i := 122) rfl)⟩
theorem lw_p101 : lw_okq (⟨"LeapJoinModel", "isAsked", "(I)Z"⟩, 43) := ⟨⟨by decide +kernel, by decide +kernel⟩, lw_t5 (List.mem_of_getElem? (i := 168) rfl), lw_t7 (List.mem_of_getElem? (i := 141) rfl), lw_t7 (List.mem_of_getElem? (i := 142) rfl)⟩
theorem lw_p102 : lw_okq (⟨"LeapJoinModel", "numberOf", "(II)I"⟩, 43) := ⟨⟨by decide +kernel, by decide +kernel⟩, lw_t5 (List.mem_of_getElem? (i := 168) rfl), lw_t7 (List.mem_of_getElem? (i := 145) rfl), lw_t7 (List.mem_of_getElem? (i := 146) rfl)⟩
theorem lw_p103 : lw_okq (⟨"LeapJoinModel", "triesOrders", "()V"⟩, 43) := ⟨⟨by decide +kernel, by decide +kernel⟩, lw_t5 (List.mem_of_getElem? (i := 168) rfl), lw_t7 (List.mem_of_getElem? (i := 161) rfl), lw_t7 (List.mem_of_getElem? (i := 162) rfl)⟩
theorem lw_p104 : lw_okq (⟨"LeapJoinModel", "givenBy", "(I)I"⟩, 43) := ⟨⟨by decide +kernel, by decide +kernel⟩, lw_t5 (List.mem_of_getElem? (i := 168) rfl), lw_t7 (List.mem_of_getElem? (i := 173) rfl), lw_t7 (List.mem_of_getElem? (i := 174) rfl)⟩
theorem lw_p105 : lw_okq (⟨"LeapJoinModel", "isOf", "(III)Z"⟩, 43) := ⟨⟨by decide +kernel, by decide +kernel⟩, lw_t5 (List.mem_of_getElem? (i := 168) rfl), lw_t7 (List.mem_of_getElem? (i := 177) rfl), lw_t7 (List.mem_of_getElem? (i := 178) rfl)⟩
theorem lw_p106 : lw_okq (⟨"LeapJoinModel", "counts", "()V"⟩, 43) := ⟨⟨by decide +kernel, by decide +kernel⟩, lw_t5 (List.mem_of_getElem? (i := 168) rfl), lw_t7 (List.mem_of_getElem? (i := 189) rfl), lw_t7 (List.mem_of_getElem? (i := 190) rfl)⟩
theorem lw_p107 : lw_okq (⟨"LeapJoinModel", "extremeOf", "(II)I"⟩, 43) := ⟨⟨by decide +kernel, by decide +kernel⟩, lw_t5 (List.mem_of_getElem? (i := 168) rfl), lw_t7 (List.mem_of_getElem? (i := 201) rfl), lw_t7 (List.mem_of_getElem? (i := 202) rfl)⟩
theorem lw_p108 : lw_okq (⟨"LeapJoinModel", "isTold", "(II)Z"⟩, 43) := ⟨⟨by decide +kernel, by decide +kernel⟩, lw_t5 (List.mem_of_getElem? (i := 168) rfl), lw_t7 (List.mem_of_getElem? (i := 209) rfl), lw_t7 (List.mem_of_getElem? (i := 210) rfl)⟩
theorem lw_p109 : lw_okq (⟨"LeapJoinModel", "takesFour", "(IIII)V"⟩, 43) := ⟨⟨by decide +kernel, by decide +kernel⟩, lw_t5 (List.mem_of_getElem? (i := 168) rfl), lw_t7 (List.mem_of_getElem? (i := 217) rfl), lw_t7 (List.mem_of_getElem? (i := 218) rfl)⟩
theorem lw_p110 : lw_okq (⟨"LeapJoinModel", "comparesFour", "(I)I"⟩, 43) := ⟨⟨by decide +kernel, by decide +kernel⟩, lw_t5 (List.mem_of_getElem? (i := 168) rfl), lw_t7 (List.mem_of_getElem? (i := 221) rfl), lw_t7 (List.mem_of_getElem? (i := 222) rfl)⟩
theorem lw_p111 : lw_okq (⟨"LeapJoinModel", "hasMean", "(I)Z"⟩, 43) := ⟨⟨by decide +kernel, by decide +kernel⟩, lw_t5 (List.mem_of_getElem? (i := 168) rfl), lw_t7 (List.mem_of_getElem? (i := 233) rfl), lw_t7 (List.mem_of_getElem? (i := 234) rfl)⟩
def lw_privs_7 : List (MethodName × Nat) := [(⟨"LeapJoinModel", "leaps", "(III)Z"⟩, 43), (⟨"LeapJoinModel", "drawWay", "()V"⟩, 43), (⟨"LeapJoinModel", "draw", "(I)I"⟩, 43), (⟨"LeapJoinModel", "tryOne", "(IIIII)V"⟩, 43), (⟨"LeapJoinModel", "rowsOfAll", "()I"⟩, 43), (⟨"LeapJoinModel", "isAsked", "(I)Z"⟩, 43), (⟨"LeapJoinModel", "numberOf", "(II)I"⟩, 43), (⟨"LeapJoinModel", "triesOrders", "()V"⟩, 43), (⟨"LeapJoinModel", "givenBy", "(I)I"⟩, 43), (⟨"LeapJoinModel", "isOf", "(III)Z"⟩, 43), (⟨"LeapJoinModel", "counts", "()V"⟩, 43), (⟨"LeapJoinModel", "extremeOf", "(II)I"⟩, 43), (⟨"LeapJoinModel", "isTold", "(II)Z"⟩, 43), (⟨"LeapJoinModel", "takesFour", "(IIII)V"⟩, 43), (⟨"LeapJoinModel", "comparesFour", "(I)I"⟩, 43), (⟨"LeapJoinModel", "hasMean", "(I)Z"⟩, 43)]
theorem lw_r7 : ∀ q ∈ lw_privs_7, lw_okq q := List.forall_mem_cons.mpr ⟨lw_p96, List.forall_mem_cons.mpr ⟨lw_p97, List.forall_mem_cons.mpr ⟨lw_p98, List.forall_mem_cons.mpr ⟨lw_p99, List.forall_mem_cons.mpr ⟨lw_p100, List.forall_mem_cons.mpr ⟨lw_p101, List.forall_mem_cons.mpr ⟨lw_p102, List.forall_mem_cons.mpr ⟨lw_p103, List.forall_mem_cons.mpr ⟨lw_p104, List.forall_mem_cons.mpr ⟨lw_p105, List.forall_mem_cons.mpr ⟨lw_p106, List.forall_mem_cons.mpr ⟨lw_p107, List.forall_mem_cons.mpr ⟨lw_p108, List.forall_mem_cons.mpr ⟨lw_p109, List.forall_mem_cons.mpr ⟨lw_p110, List.forall_mem_cons.mpr ⟨lw_p111, fun _ h => absurd h List.not_mem_nil⟩⟩⟩⟩⟩⟩⟩⟩⟩⟩⟩⟩⟩⟩⟩⟩
theorem lw_p112 : lw_okq (⟨"LeapJoinModel", "meanOf", "(I)D"⟩, 43) := ⟨⟨by decide +kernel, by decide +kernel⟩, lw_t5 (List.mem_of_getElem? (i := 168) rfl), lw_t7 (List.mem_of_getElem? (i := 237) rfl), lw_t7 (List.mem_of_getElem? (i := 238) rfl)⟩
theorem lw_p113 : lw_okq (⟨"LeapJoinModel", "putAside", "()V"⟩, 43) := ⟨⟨by decide +kernel, by decide +kernel⟩, lw_t5 (List.mem_of_getElem? (i := 168) rfl), lw_t8 (List.mem_of_getElem? (i := 20) rfl), lw_t8 (List.mem_of_getElem? (i := 21) rfl)⟩
theorem lw_p114 : lw_okq (⟨"LeapJoinModel", "bringBack", "()V"⟩, 43) := ⟨⟨by decide +kernel, by decide +kernel⟩, lw_t5 (List.mem_of_getElem? (i := 168) rfl), lw_t8 (List.mem_of_getElem? (i := 24) rfl), lw_t8 (List.mem_of_getElem? (i := 25) rfl)⟩
theorem lw_p115 : lw_okq (⟨"LeapJoinModel", "isScript", "(I)Z"⟩, 43) := ⟨⟨by decide +kernel, by decide +kernel⟩, lw_t5 (List.mem_of_getElem? (i := 168) rfl), lw_t8 (List.mem_of_getElem? (i := 32) rfl), lw_t8 (List.mem_of_getElem? (i := 33) rfl)⟩
theorem lw_p116 : lw_okq (⟨"LeapJoinModel", "goSteps", "(IZ)I"⟩, 43) := ⟨⟨by decide +kernel, by decide +kernel⟩, lw_t5 (List.mem_of_getElem? (i := 168) rfl), lw_t8 (List.mem_of_getElem? (i := 40) rfl), lw_t8 (List.mem_of_getElem? (i := 41) rfl)⟩
theorem lw_p117 : lw_okq (⟨"LeapJoinModel", "sumOfRows", "()I"⟩, 43) := ⟨⟨by decide +kernel, by decide +kernel⟩, lw_t5 (List.mem_of_getElem? (i := 168) rfl), lw_t8 (List.mem_of_getElem? (i := 52) rfl), lw_t8 (List.mem_of_getElem? (i := 53) rfl)⟩
theorem lw_p118 : lw_okq (⟨"LeapJoinModel", "greatestTable", "(Z)I"⟩, 43) := ⟨⟨by decide +kernel, by decide +kernel⟩, lw_t5 (List.mem_of_getElem? (i := 168) rfl), lw_t8 (List.mem_of_getElem? (i := 56) rfl), lw_t8 (List.mem_of_getElem? (i := 57) rfl)⟩
theorem lw_p119 : lw_okq (⟨"LeapJoinModel", "notGiven", "()I"⟩, 43) := ⟨⟨by decide +kernel, by decide +kernel⟩, lw_t5 (List.mem_of_getElem? (i := 168) rfl), lw_t8 (List.mem_of_getElem? (i := 63) rfl), lw_t8 (List.mem_of_getElem? (i := 64) rfl)⟩
theorem lw_p120 : lw_okq (⟨"LeapJoinModel", "couples", "()I"⟩, 43) := ⟨⟨by decide +kernel, by decide +kernel⟩, lw_t5 (List.mem_of_getElem? (i := 168) rfl), lw_t8 (List.mem_of_getElem? (i := 67) rfl), lw_t8 (List.mem_of_getElem? (i := 68) rfl)⟩
def lw_privs_8 : List (MethodName × Nat) := [(⟨"LeapJoinModel", "meanOf", "(I)D"⟩, 43), (⟨"LeapJoinModel", "putAside", "()V"⟩, 43), (⟨"LeapJoinModel", "bringBack", "()V"⟩, 43), (⟨"LeapJoinModel", "isScript", "(I)Z"⟩, 43), (⟨"LeapJoinModel", "goSteps", "(IZ)I"⟩, 43), (⟨"LeapJoinModel", "sumOfRows", "()I"⟩, 43), (⟨"LeapJoinModel", "greatestTable", "(Z)I"⟩, 43), (⟨"LeapJoinModel", "notGiven", "()I"⟩, 43), (⟨"LeapJoinModel", "couples", "()I"⟩, 43)]
theorem lw_r8 : ∀ q ∈ lw_privs_8, lw_okq q := List.forall_mem_cons.mpr ⟨lw_p112, List.forall_mem_cons.mpr ⟨lw_p113, List.forall_mem_cons.mpr ⟨lw_p114, List.forall_mem_cons.mpr ⟨lw_p115, List.forall_mem_cons.mpr ⟨lw_p116, List.forall_mem_cons.mpr ⟨lw_p117, List.forall_mem_cons.mpr ⟨lw_p118, List.forall_mem_cons.mpr ⟨lw_p119, List.forall_mem_cons.mpr ⟨lw_p120, fun _ h => absurd h List.not_mem_nil⟩⟩⟩⟩⟩⟩⟩⟩⟩
def lw_privs : List (MethodName × Nat) := lw_privs_1 ++ (lw_privs_2 ++ (lw_privs_3 ++ (lw_privs_4 ++ (lw_privs_5 ++ (lw_privs_6 ++ (lw_privs_7 ++ (lw_privs_8)))))))
def lw_tbl : List Cond := k2_sels lw_privs ++ tables_1
theorem lw_privs_ok : ∀ q ∈ lw_privs, lw_okq q := by
  show ∀ q ∈ lw_privs_1 ++ (lw_privs_2 ++ (lw_privs_3 ++ (lw_privs_4 ++ (lw_privs_5 ++ (lw_privs_6 ++ (lw_privs_7 ++ (lw_privs_8))))))), lw_okq q
  exact List.forall_mem_append.mpr ⟨lw_r1, List.forall_mem_append.mpr ⟨lw_r2, List.forall_mem_append.mpr ⟨lw_r3, List.forall_mem_append.mpr ⟨lw_r4, List.forall_mem_append.mpr ⟨lw_r5, List.forall_mem_append.mpr ⟨lw_r6, List.forall_mem_append.mpr ⟨lw_r7, lw_r8⟩⟩⟩⟩⟩⟩⟩
-- ===== ONE list of words for every method: the tables' words that hold all through a run =====
def lw_all : List Cond := lw_tbl.filter goodWord
/-- a word of the tables by its place: claim/WORDS.tsv -/
theorem lw_w {w : Cond} (i : Nat) (h : lw_tbl[i]? = some w) (g : goodWord w = true) : w ∈ lw_all := List.mem_filter.mpr ⟨List.mem_of_getElem? h, g⟩
theorem lw_all_tbl {w : Cond} (h : w ∈ lw_all) : w ∈ lw_tbl := (List.mem_filter.mp h).1
theorem lw_self : GoodIn lw_all lw_all := fun w h => ⟨h, good_of_word (List.mem_filter.mp h).2⟩
/-- a class's field words, by their places -/
theorem lw_in (ws : List Cond) (ps : List Nat) (hp : ws = ps.filterMap (fun i => lw_tbl[i]?)) (hg : ws.all goodWord = true) : ∀ w ∈ ws, w ∈ lw_all := by
  intro w h
  have h1 := List.all_eq_true.mp hg w h
  rw [hp] at h
  obtain ⟨i, -, hi⟩ := List.mem_filterMap.mp h
  exact lw_w i hi h1
/-- the words of a contract for the method y with code b, L locals, answer r -/
abbrev ws_ (y : MethodName) (b : ByteArray) (L : Nat) (r : Option FieldType) : List Cond := Cond.code y b L r :: lw_all
theorem lw_meth {y : MethodName} {b : ByteArray} {L : Nat} {r : Option FieldType} (h : Cond.code y b L r ∈ lw_all) : GoodIn lw_all (ws_ y b L r) := by
  intro w hw
  rcases List.mem_cons.mp hw with e | e
  · rw [e]
    exact lw_self _ h
  · exact lw_self _ e
theorem lw_app {a c : List Cond} (ha : ∀ w ∈ a, w ∈ lw_all) (hc : GoodIn lw_all c) : GoodIn lw_all (a ++ c) := by
  intro w hw
  rcases List.mem_append.mp hw with e | e
  · exact lw_self w (ha w e)
  · exact hc w e
/-- what a call through an object asks: cwV n hts (lw_V ..) -/
theorem lw_V {own : String} {idx : Nat} {C : String} {y : MethodName} {b : ByteArray} {L : Nat} {r : Option FieldType} (h1 : Cond.methodLink own idx y ∈ lw_all) (h2 : Cond.instanceMethod y ∈ lw_all) (h3 : Cond.selects C y y ∈ lw_all) (h4 : Cond.initialized C ∈ lw_all) (h5 : Cond.code y b L r ∈ lw_all) : GoodIn lw_all (wsV own idx C y (ws_ y b L r)) := by
  refine lw_app ?_ (lw_meth h5)
  intro w hw
  simp only [List.mem_cons, List.not_mem_nil, or_false] at hw
  rcases hw with e | e | e | e
  · rw [e]; exact h1
  · rw [e]; exact h2
  · rw [e]; exact h3
  · rw [e]; exact h4
/-- what a static call asks: va_cwS n hts (lw_S ..) -/
theorem lw_S {own : String} {idx : Nat} {y : MethodName} {b : ByteArray} {L : Nat} {r : Option FieldType} (h1 : Cond.methodLink own idx y ∈ lw_all) (h2 : Cond.static y ∈ lw_all) (h3 : Cond.initialized y.cls ∈ lw_all) (h4 : Cond.code y b L r ∈ lw_all) : GoodIn lw_all (va_wsS own idx y (ws_ y b L r)) := by
  refine lw_app ?_ (lw_meth h4)
  intro w hw
  simp only [List.mem_cons, List.not_mem_nil, or_false] at hw
  rcases hw with e | e | e
  · rw [e]; exact h1
  · rw [e]; exact h2
  · rw [e]; exact h3
/-- the words of a contract for a method WITH HANDLERS (hh: its table) -/
abbrev wsW_ (y : MethodName) (b : ByteArray) (L : Nat) (r : Option FieldType) (hh : List (Nat × Nat × Nat × Nat)) : List Cond := Cond.codeWith y b L r hh :: lw_all
theorem lw_methW {y : MethodName} {b : ByteArray} {L : Nat} {r : Option FieldType} {hh : List (Nat × Nat × Nat × Nat)} (h : Cond.codeWith y b L r hh ∈ lw_all) : GoodIn lw_all (wsW_ y b L r hh) := by
  intro w hw
  rcases List.mem_cons.mp hw with e | e
  · rw [e]
    exact lw_self _ h
  · exact lw_self _ e
/-- any list of words by their places (lw_in), good -/
theorem lw_good {ws : List Cond} (h : ∀ w ∈ ws, w ∈ lw_all) : GoodIn lw_all ws := fun w hw => lw_self w (h w hw)
/-- what a call of a method with handlers asks: vx_cwVW n hts (lw_VW ..), vx_cwSW n hts (lw_SW ..) -/
theorem lw_VW {own : String} {idx : Nat} {C : String} {y : MethodName} {b : ByteArray} {L : Nat} {r : Option FieldType} {hh : List (Nat × Nat × Nat × Nat)} (h1 : Cond.methodLink own idx y ∈ lw_all) (h2 : Cond.instanceMethod y ∈ lw_all) (h3 : Cond.selects C y y ∈ lw_all) (h4 : Cond.initialized C ∈ lw_all) (h5 : Cond.codeWith y b L r hh ∈ lw_all) : GoodIn lw_all (wsV own idx C y (wsW_ y b L r hh)) := by
  refine lw_app ?_ (lw_methW h5)
  intro w hw
  simp only [List.mem_cons, List.not_mem_nil, or_false] at hw
  rcases hw with e | e | e | e
  · rw [e]; exact h1
  · rw [e]; exact h2
  · rw [e]; exact h3
  · rw [e]; exact h4
theorem lw_SW {own : String} {idx : Nat} {y : MethodName} {b : ByteArray} {L : Nat} {r : Option FieldType} {hh : List (Nat × Nat × Nat × Nat)} (h1 : Cond.methodLink own idx y ∈ lw_all) (h2 : Cond.static y ∈ lw_all) (h3 : Cond.initialized y.cls ∈ lw_all) (h4 : Cond.codeWith y b L r hh ∈ lw_all) : GoodIn lw_all (va_wsS own idx y (wsW_ y b L r hh)) := by
  refine lw_app ?_ (lw_methW h4)
  intro w hw
  simp only [List.mem_cons, List.not_mem_nil, or_false] at hw
  rcases hw with e | e | e
  · rw [e]; exact h1
  · rw [e]; exact h2
  · rw [e]; exact h3
/-- a word by its place in its run of the tables -/
theorem lw_at {r : List Cond} (hr : ∀ w ∈ r, w ∈ lw_tbl) {w : Cond} (i : Nat) (h : r[i]? = some w) : w ∈ lw_tbl := hr w (List.mem_of_getElem? h)
theorem lw_g {w : Cond} (h : w ∈ lw_tbl) (g : goodWord w = true) : w ∈ lw_all := List.mem_filter.mpr ⟨h, g⟩
theorem lw_ms : ∀ w ∈ k2_sels lw_privs, w ∈ lw_tbl := fun w h => show w ∈ k2_sels lw_privs ++ tables_1 from List.mem_append_left _ h
theorem lw_m1 : ∀ w ∈ tables_1_1, w ∈ lw_tbl := fun w h => show w ∈ k2_sels lw_privs ++ tables_1 from List.mem_append_right (k2_sels lw_privs) (show w ∈ tables_1 from List.mem_append_left _ h)
theorem lw_m2 : ∀ w ∈ tables_1_2, w ∈ lw_tbl := fun w h => show w ∈ k2_sels lw_privs ++ tables_1 from List.mem_append_right (k2_sels lw_privs) (show w ∈ tables_1 from List.mem_append_right _ (List.mem_append_left _ h))
theorem lw_m3 : ∀ w ∈ tables_1_3, w ∈ lw_tbl := fun w h => show w ∈ k2_sels lw_privs ++ tables_1 from List.mem_append_right (k2_sels lw_privs) (show w ∈ tables_1 from List.mem_append_right _ (List.mem_append_right _ (List.mem_append_left _ h)))
theorem lw_m4 : ∀ w ∈ tables_1_4, w ∈ lw_tbl := fun w h => show w ∈ k2_sels lw_privs ++ tables_1 from List.mem_append_right (k2_sels lw_privs) (show w ∈ tables_1 from List.mem_append_right _ (List.mem_append_right _ (List.mem_append_right _ (List.mem_append_left _ h))))
theorem lw_m5 : ∀ w ∈ tables_1_5, w ∈ lw_tbl := fun w h => show w ∈ k2_sels lw_privs ++ tables_1 from List.mem_append_right (k2_sels lw_privs) (show w ∈ tables_1 from List.mem_append_right _ (List.mem_append_right _ (List.mem_append_right _ (List.mem_append_right _ (List.mem_append_left _ h)))))
theorem lw_m6 : ∀ w ∈ tables_1_6, w ∈ lw_tbl := fun w h => show w ∈ k2_sels lw_privs ++ tables_1 from List.mem_append_right (k2_sels lw_privs) (show w ∈ tables_1 from List.mem_append_right _ (List.mem_append_right _ (List.mem_append_right _ (List.mem_append_right _ (List.mem_append_right _ (List.mem_append_left _ h))))))
theorem lw_m7 : ∀ w ∈ tables_1_7, w ∈ lw_tbl := fun w h => show w ∈ k2_sels lw_privs ++ tables_1 from List.mem_append_right (k2_sels lw_privs) (show w ∈ tables_1 from List.mem_append_right _ (List.mem_append_right _ (List.mem_append_right _ (List.mem_append_right _ (List.mem_append_right _ (List.mem_append_right _ (List.mem_append_left _ h)))))))
theorem lw_m8 : ∀ w ∈ tables_1_8, w ∈ lw_tbl := fun w h => show w ∈ k2_sels lw_privs ++ tables_1 from List.mem_append_right (k2_sels lw_privs) (show w ∈ tables_1 from List.mem_append_right _ (List.mem_append_right _ (List.mem_append_right _ (List.mem_append_right _ (List.mem_append_right _ (List.mem_append_right _ (List.mem_append_right _ h)))))))
theorem qs0 : (Cond.selects "LeapJoin" ⟨"LeapJoin", "bring", "(I)V"⟩ ⟨"LeapJoin", "bring", "(I)V"⟩) ∈ lw_all := lw_g (lw_at lw_ms 0 rfl) rfl
theorem qs1 : (Cond.selects "LeapJoin$Reader" ⟨"LeapJoin$Reader", "table", "()LLeapJoin$Table;"⟩ ⟨"LeapJoin$Reader", "table", "()LLeapJoin$Table;"⟩) ∈ lw_all := lw_g (lw_at lw_ms 1 rfl) rfl
theorem qs2 : (Cond.selects "LeapJoin$Reader" ⟨"LeapJoin$Reader", "letters", "()LLeapJoin$Table;"⟩ ⟨"LeapJoin$Reader", "letters", "()LLeapJoin$Table;"⟩) ∈ lw_all := lw_g (lw_at lw_ms 2 rfl) rfl
theorem qs3 : (Cond.selects "LeapJoin$Reader" ⟨"LeapJoin$Reader", "peek", "()I"⟩ ⟨"LeapJoin$Reader", "peek", "()I"⟩) ∈ lw_all := lw_g (lw_at lw_ms 3 rfl) rfl
theorem qs4 : (Cond.selects "LeapJoin$Reader" ⟨"LeapJoin$Reader", "take", "(Z)I"⟩ ⟨"LeapJoin$Reader", "take", "(Z)I"⟩) ∈ lw_all := lw_g (lw_at lw_ms 4 rfl) rfl
theorem qs5 : (Cond.selects "java/lang/Throwable" ⟨"java/lang/Throwable", "fillInStackTrace", "(I)Ljava/lang/Throwable;"⟩ ⟨"java/lang/Throwable", "fillInStackTrace", "(I)Ljava/lang/Throwable;"⟩) ∈ lw_all := lw_g (lw_at lw_ms 5 rfl) rfl
theorem qs6 : (Cond.selects "LeapJoin$Reader" ⟨"LeapJoin$Reader", "isDigit", "()Z"⟩ ⟨"LeapJoin$Reader", "isDigit", "()Z"⟩) ∈ lw_all := lw_g (lw_at lw_ms 6 rfl) rfl
theorem qs7 : (Cond.selects "LeapJoin$Reader" ⟨"LeapJoin$Reader", "row", "(LLeapJoin$Table;)V"⟩ ⟨"LeapJoin$Reader", "row", "(LLeapJoin$Table;)V"⟩) ∈ lw_all := lw_g (lw_at lw_ms 7 rfl) rfl
theorem qs8 : (Cond.selects "LeapJoin$Reader" ⟨"LeapJoin$Reader", "sign", "(I)V"⟩ ⟨"LeapJoin$Reader", "sign", "(I)V"⟩) ∈ lw_all := lw_g (lw_at lw_ms 8 rfl) rfl
theorem qs9 : (Cond.selects "LeapJoin$Reader" ⟨"LeapJoin$Reader", "isNext", "(I)Z"⟩ ⟨"LeapJoin$Reader", "isNext", "(I)Z"⟩) ∈ lw_all := lw_g (lw_at lw_ms 9 rfl) rfl
theorem qs10 : (Cond.selects "LeapJoin$Reader" ⟨"LeapJoin$Reader", "number", "(I)I"⟩ ⟨"LeapJoin$Reader", "number", "(I)I"⟩) ∈ lw_all := lw_g (lw_at lw_ms 10 rfl) rfl
theorem qs11 : (Cond.selects "LeapJoin$Reader" ⟨"LeapJoin$Reader", "ends", "()V"⟩ ⟨"LeapJoin$Reader", "ends", "()V"⟩) ∈ lw_all := lw_g (lw_at lw_ms 11 rfl) rfl
theorem qs12 : (Cond.selects "LeapJoin$Reader" ⟨"LeapJoin$Reader", "step", "(LLeapJoin$Script;)V"⟩ ⟨"LeapJoin$Reader", "step", "(LLeapJoin$Script;)V"⟩) ∈ lw_all := lw_g (lw_at lw_ms 12 rfl) rfl
theorem qs13 : (Cond.selects "LeapJoin$Reader" ⟨"LeapJoin$Reader", "digit", "()I"⟩ ⟨"LeapJoin$Reader", "digit", "()I"⟩) ∈ lw_all := lw_g (lw_at lw_ms 13 rfl) rfl
theorem qs14 : (Cond.selects "LeapJoin" ⟨"LeapJoin", "act", "(IIIII)I"⟩ ⟨"LeapJoin", "act", "(IIIII)I"⟩) ∈ lw_all := lw_g (lw_at lw_ms 14 rfl) rfl
theorem qs15 : (Cond.selects "LeapJoin" ⟨"LeapJoin", "acts", "(IIIII)I"⟩ ⟨"LeapJoin", "acts", "(IIIII)I"⟩) ∈ lw_all := lw_g (lw_at lw_ms 15 rfl) rfl
theorem qs16 : (Cond.selects "LeapJoin$State" ⟨"LeapJoin$State", "done", "(I)I"⟩ ⟨"LeapJoin$State", "done", "(I)I"⟩) ∈ lw_all := lw_g (lw_at lw_ms 16 rfl) rfl
theorem qs17 : (Cond.selects "LeapJoin" ⟨"LeapJoin", "joined", "()LLeapJoin$Join;"⟩ ⟨"LeapJoin", "joined", "()LLeapJoin$Join;"⟩) ∈ lw_all := lw_g (lw_at lw_ms 17 rfl) rfl
theorem qs18 : (Cond.selects "LeapJoin" ⟨"LeapJoin", "joined", "(LLeapJoin$State;)LLeapJoin$Join;"⟩ ⟨"LeapJoin", "joined", "(LLeapJoin$State;)LLeapJoin$Join;"⟩) ∈ lw_all := lw_g (lw_at lw_ms 18 rfl) rfl
theorem qs19 : (Cond.selects "LeapJoin$Join" ⟨"LeapJoin$Join", "nth", "(II)I"⟩ ⟨"LeapJoin$Join", "nth", "(II)I"⟩) ∈ lw_all := lw_g (lw_at lw_ms 19 rfl) rfl
theorem qs20 : (Cond.selects "LeapJoin$Join" ⟨"LeapJoin$Join", "finds", "(II)V"⟩ ⟨"LeapJoin$Join", "finds", "(II)V"⟩) ∈ lw_all := lw_g (lw_at lw_ms 20 rfl) rfl
theorem qs21 : (Cond.selects "LeapJoin$Join" ⟨"LeapJoin$Join", "stands", "(II)Z"⟩ ⟨"LeapJoin$Join", "stands", "(II)Z"⟩) ∈ lw_all := lw_g (lw_at lw_ms 21 rfl) rfl
theorem qs22 : (Cond.selects "LeapJoin$Join" ⟨"LeapJoin$Join", "isHere", "(II)Z"⟩ ⟨"LeapJoin$Join", "isHere", "(II)Z"⟩) ∈ lw_all := lw_g (lw_at lw_ms 22 rfl) rfl
theorem qs23 : (Cond.selects "LeapJoin$Table" ⟨"LeapJoin$Table", "fits", "(LLeapJoin$Row;[II)Z"⟩ ⟨"LeapJoin$Table", "fits", "(LLeapJoin$Row;[II)Z"⟩) ∈ lw_all := lw_g (lw_at lw_ms 23 rfl) rfl
theorem qs24 : (Cond.selects "LeapJoin$Join" ⟨"LeapJoin$Join", "greatest", "(I)I"⟩ ⟨"LeapJoin$Join", "greatest", "(I)I"⟩) ∈ lw_all := lw_g (lw_at lw_ms 24 rfl) rfl
theorem qs25 : (Cond.selects "LeapJoin$Join" ⟨"LeapJoin$Join", "keyOf", "(II)I"⟩ ⟨"LeapJoin$Join", "keyOf", "(II)I"⟩) ∈ lw_all := lw_g (lw_at lw_ms 25 rfl) rfl
theorem qs26 : (Cond.selects "LeapJoin$Join" ⟨"LeapJoin$Join", "lesser", "(II)I"⟩ ⟨"LeapJoin$Join", "lesser", "(II)I"⟩) ∈ lw_all := lw_g (lw_at lw_ms 26 rfl) rfl
theorem qs27 : (Cond.selects "LeapJoin$Join" ⟨"LeapJoin$Join", "begins", "(II)V"⟩ ⟨"LeapJoin$Join", "begins", "(II)V"⟩) ∈ lw_all := lw_g (lw_at lw_ms 27 rfl) rfl
theorem qs28 : (Cond.selects "LeapJoin$Join" ⟨"LeapJoin$Join", "first", "(I)I"⟩ ⟨"LeapJoin$Join", "first", "(I)I"⟩) ∈ lw_all := lw_g (lw_at lw_ms 28 rfl) rfl
theorem qs29 : (Cond.selects "LeapJoin$Join" ⟨"LeapJoin$Join", "leaps", "(III)Z"⟩ ⟨"LeapJoin$Join", "leaps", "(III)Z"⟩) ∈ lw_all := lw_g (lw_at lw_ms 29 rfl) rfl
theorem qs30 : (Cond.selects "LeapJoin" ⟨"LeapJoin", "happens", "()I"⟩ ⟨"LeapJoin", "happens", "()I"⟩) ∈ lw_all := lw_g (lw_at lw_ms 30 rfl) rfl
theorem qs31 : (Cond.selects "LeapJoin" ⟨"LeapJoin", "draw", "(I)I"⟩ ⟨"LeapJoin", "draw", "(I)I"⟩) ∈ lw_all := lw_g (lw_at lw_ms 31 rfl) rfl
theorem qs32 : (Cond.selects "LeapJoin" ⟨"LeapJoin", "isTable", "(I)Z"⟩ ⟨"LeapJoin", "isTable", "(I)Z"⟩) ∈ lw_all := lw_g (lw_at lw_ms 32 rfl) rfl
theorem qs33 : (Cond.selects "LeapJoin" ⟨"LeapJoin", "isAsked", "(I)Z"⟩ ⟨"LeapJoin", "isAsked", "(I)Z"⟩) ∈ lw_all := lw_g (lw_at lw_ms 33 rfl) rfl
theorem qs34 : (Cond.selects "LeapJoin" ⟨"LeapJoin", "givenOf", "(I)I"⟩ ⟨"LeapJoin", "givenOf", "(I)I"⟩) ∈ lw_all := lw_g (lw_at lw_ms 34 rfl) rfl
theorem qs35 : (Cond.selects "LeapJoin" ⟨"LeapJoin", "unlike", "(I)I"⟩ ⟨"LeapJoin", "unlike", "(I)I"⟩) ∈ lw_all := lw_g (lw_at lw_ms 35 rfl) rfl
theorem qs36 : (Cond.selects "LeapJoin" ⟨"LeapJoin", "isTold", "(LLeapJoin$Join;II)Z"⟩ ⟨"LeapJoin", "isTold", "(LLeapJoin$Join;II)Z"⟩) ∈ lw_all := lw_g (lw_at lw_ms 36 rfl) rfl
theorem qs37 : (Cond.selects "LeapJoin" ⟨"LeapJoin", "from", "(IIIIZ)I"⟩ ⟨"LeapJoin", "from", "(IIIIZ)I"⟩) ∈ lw_all := lw_g (lw_at lw_ms 37 rfl) rfl
theorem qs38 : (Cond.selects "LeapJoin" ⟨"LeapJoin", "hasMean", "(I)Z"⟩ ⟨"LeapJoin", "hasMean", "(I)Z"⟩) ∈ lw_all := lw_g (lw_at lw_ms 38 rfl) rfl
theorem qs39 : (Cond.selects "LeapJoin" ⟨"LeapJoin", "isScript", "(I)Z"⟩ ⟨"LeapJoin", "isScript", "(I)Z"⟩) ∈ lw_all := lw_g (lw_at lw_ms 39 rfl) rfl
theorem qs40 : (Cond.selects "LeapJoin" ⟨"LeapJoin", "sums", "()I"⟩ ⟨"LeapJoin", "sums", "()I"⟩) ∈ lw_all := lw_g (lw_at lw_ms 40 rfl) rfl
theorem qs41 : (Cond.selects "LeapJoin" ⟨"LeapJoin", "greatestTable", "(Z)I"⟩ ⟨"LeapJoin", "greatestTable", "(Z)I"⟩) ∈ lw_all := lw_g (lw_at lw_ms 41 rfl) rfl
theorem qs42 : (Cond.selects "LeapJoin" ⟨"LeapJoin", "dangling", "()I"⟩ ⟨"LeapJoin", "dangling", "()I"⟩) ∈ lw_all := lw_g (lw_at lw_ms 42 rfl) rfl
theorem qs43 : (Cond.selects "LeapJoin" ⟨"LeapJoin", "tellings", "()I"⟩ ⟨"LeapJoin", "tellings", "()I"⟩) ∈ lw_all := lw_g (lw_at lw_ms 43 rfl) rfl
theorem qs44 : (Cond.selects "LeapJoin" ⟨"LeapJoin", "mostLeaps", "()I"⟩ ⟨"LeapJoin", "mostLeaps", "()I"⟩) ∈ lw_all := lw_g (lw_at lw_ms 44 rfl) rfl
theorem qs45 : (Cond.selects "LeapJoinModel" ⟨"LeapJoinModel", "readAll", "()I"⟩ ⟨"LeapJoinModel", "readAll", "()I"⟩) ∈ lw_all := lw_g (lw_at lw_ms 45 rfl) rfl
theorem qs46 : (Cond.selects "LeapJoinModel" ⟨"LeapJoinModel", "begins", "()V"⟩ ⟨"LeapJoinModel", "begins", "()V"⟩) ∈ lw_all := lw_g (lw_at lw_ms 46 rfl) rfl
theorem qs47 : (Cond.selects "LeapJoinModel" ⟨"LeapJoinModel", "readTable", "(I)V"⟩ ⟨"LeapJoinModel", "readTable", "(I)V"⟩) ∈ lw_all := lw_g (lw_at lw_ms 47 rfl) rfl
theorem qs48 : (Cond.selects "LeapJoinModel" ⟨"LeapJoinModel", "readHead", "(I)V"⟩ ⟨"LeapJoinModel", "readHead", "(I)V"⟩) ∈ lw_all := lw_g (lw_at lw_ms 48 rfl) rfl
theorem qs49 : (Cond.selects "LeapJoinModel" ⟨"LeapJoinModel", "ahead", "()I"⟩ ⟨"LeapJoinModel", "ahead", "()I"⟩) ∈ lw_all := lw_g (lw_at lw_ms 49 rfl) rfl
theorem qs50 : (Cond.selects "LeapJoinModel" ⟨"LeapJoinModel", "here", "()I"⟩ ⟨"LeapJoinModel", "here", "()I"⟩) ∈ lw_all := lw_g (lw_at lw_ms 50 rfl) rfl
theorem qs51 : (Cond.selects "LeapJoinModel" ⟨"LeapJoinModel", "isLetter", "(I)Z"⟩ ⟨"LeapJoinModel", "isLetter", "(I)Z"⟩) ∈ lw_all := lw_g (lw_at lw_ms 51 rfl) rfl
theorem qs52 : (Cond.selects "LeapJoinModel" ⟨"LeapJoinModel", "bad", "()V"⟩ ⟨"LeapJoinModel", "bad", "()V"⟩) ∈ lw_all := lw_g (lw_at lw_ms 52 rfl) rfl
theorem qs53 : (Cond.selects "LeapJoinModel" ⟨"LeapJoinModel", "must", "(I)V"⟩ ⟨"LeapJoinModel", "must", "(I)V"⟩) ∈ lw_all := lw_g (lw_at lw_ms 53 rfl) rfl
theorem qs54 : (Cond.selects "LeapJoinModel" ⟨"LeapJoinModel", "readRow", "(I)V"⟩ ⟨"LeapJoinModel", "readRow", "(I)V"⟩) ∈ lw_all := lw_g (lw_at lw_ms 54 rfl) rfl
theorem qs55 : (Cond.selects "LeapJoinModel" ⟨"LeapJoinModel", "number", "(I)I"⟩ ⟨"LeapJoinModel", "number", "(I)I"⟩) ∈ lw_all := lw_g (lw_at lw_ms 55 rfl) rfl
theorem qs56 : (Cond.selects "LeapJoinModel" ⟨"LeapJoinModel", "ends", "()I"⟩ ⟨"LeapJoinModel", "ends", "()I"⟩) ∈ lw_all := lw_g (lw_at lw_ms 56 rfl) rfl
theorem qs57 : (Cond.selects "LeapJoinModel" ⟨"LeapJoinModel", "readScript", "(I)I"⟩ ⟨"LeapJoinModel", "readScript", "(I)I"⟩) ∈ lw_all := lw_g (lw_at lw_ms 57 rfl) rfl
theorem qs58 : (Cond.selects "LeapJoinModel" ⟨"LeapJoinModel", "readStep", "(I)V"⟩ ⟨"LeapJoinModel", "readStep", "(I)V"⟩) ∈ lw_all := lw_g (lw_at lw_ms 58 rfl) rfl
theorem qs59 : (Cond.selects "LeapJoinModel" ⟨"LeapJoinModel", "digit", "()I"⟩ ⟨"LeapJoinModel", "digit", "()I"⟩) ∈ lw_all := lw_g (lw_at lw_ms 59 rfl) rfl
theorem qs60 : (Cond.selects "LeapJoinModel" ⟨"LeapJoinModel", "takeTables", "()I"⟩ ⟨"LeapJoinModel", "takeTables", "()I"⟩) ∈ lw_all := lw_g (lw_at lw_ms 60 rfl) rfl
theorem qs61 : (Cond.selects "LeapJoinModel" ⟨"LeapJoinModel", "hasRow", "(IIII)Z"⟩ ⟨"LeapJoinModel", "hasRow", "(IIII)Z"⟩) ∈ lw_all := lw_g (lw_at lw_ms 61 rfl) rfl
theorem qs62 : (Cond.selects "LeapJoinModel" ⟨"LeapJoinModel", "countLess", "(IIII)I"⟩ ⟨"LeapJoinModel", "countLess", "(IIII)I"⟩) ∈ lw_all := lw_g (lw_at lw_ms 62 rfl) rfl
theorem qs63 : (Cond.selects "LeapJoinModel" ⟨"LeapJoinModel", "many", "(I)I"⟩ ⟨"LeapJoinModel", "many", "(I)I"⟩) ∈ lw_all := lw_g (lw_at lw_ms 63 rfl) rfl
theorem qs64 : (Cond.selects "LeapJoinModel" ⟨"LeapJoinModel", "compares", "(IIIII)I"⟩ ⟨"LeapJoinModel", "compares", "(IIIII)I"⟩) ∈ lw_all := lw_g (lw_at lw_ms 64 rfl) rfl
theorem qs65 : (Cond.selects "LeapJoinModel" ⟨"LeapJoinModel", "putsNow", "(IIII)I"⟩ ⟨"LeapJoinModel", "putsNow", "(IIII)I"⟩) ∈ lw_all := lw_g (lw_at lw_ms 65 rfl) rfl
theorem qs66 : (Cond.selects "LeapJoinModel" ⟨"LeapJoinModel", "hand", "(IIIII)I"⟩ ⟨"LeapJoinModel", "hand", "(IIIII)I"⟩) ∈ lw_all := lw_g (lw_at lw_ms 66 rfl) rfl
theorem qs67 : (Cond.selects "LeapJoinModel" ⟨"LeapJoinModel", "whyNot", "(IIIII)I"⟩ ⟨"LeapJoinModel", "whyNot", "(IIIII)I"⟩) ∈ lw_all := lw_g (lw_at lw_ms 67 rfl) rfl
theorem qs68 : (Cond.selects "LeapJoinModel" ⟨"LeapJoinModel", "whyPut", "(IIII)I"⟩ ⟨"LeapJoinModel", "whyPut", "(IIII)I"⟩) ∈ lw_all := lw_g (lw_at lw_ms 68 rfl) rfl
theorem qs69 : (Cond.selects "LeapJoinModel" ⟨"LeapJoinModel", "isTable", "(I)Z"⟩ ⟨"LeapJoinModel", "isTable", "(I)Z"⟩) ∈ lw_all := lw_g (lw_at lw_ms 69 rfl) rfl
theorem qs70 : (Cond.selects "LeapJoinModel" ⟨"LeapJoinModel", "isRow", "(IIII)Z"⟩ ⟨"LeapJoinModel", "isRow", "(IIII)Z"⟩) ∈ lw_all := lw_g (lw_at lw_ms 70 rfl) rfl
theorem qs71 : (Cond.selects "LeapJoinModel" ⟨"LeapJoinModel", "whyTake", "(IIII)I"⟩ ⟨"LeapJoinModel", "whyTake", "(IIII)I"⟩) ∈ lw_all := lw_g (lw_at lw_ms 71 rfl) rfl
theorem qs72 : (Cond.selects "LeapJoinModel" ⟨"LeapJoinModel", "areTables", "()Z"⟩ ⟨"LeapJoinModel", "areTables", "()Z"⟩) ∈ lw_all := lw_g (lw_at lw_ms 72 rfl) rfl
theorem qs73 : (Cond.selects "LeapJoinModel" ⟨"LeapJoinModel", "act", "(IIIII)I"⟩ ⟨"LeapJoinModel", "act", "(IIIII)I"⟩) ∈ lw_all := lw_g (lw_at lw_ms 73 rfl) rfl
theorem qs74 : (Cond.selects "LeapJoinModel" ⟨"LeapJoinModel", "keep", "()V"⟩ ⟨"LeapJoinModel", "keep", "()V"⟩) ∈ lw_all := lw_g (lw_at lw_ms 74 rfl) rfl
theorem qs75 : (Cond.selects "LeapJoinModel" ⟨"LeapJoinModel", "doNow", "(IIIII)I"⟩ ⟨"LeapJoinModel", "doNow", "(IIIII)I"⟩) ∈ lw_all := lw_g (lw_at lw_ms 75 rfl) rfl
theorem qs76 : (Cond.selects "LeapJoinModel" ⟨"LeapJoinModel", "takesNow", "(IIII)I"⟩ ⟨"LeapJoinModel", "takesNow", "(IIII)I"⟩) ∈ lw_all := lw_g (lw_at lw_ms 76 rfl) rfl
theorem qs77 : (Cond.selects "LeapJoinModel" ⟨"LeapJoinModel", "isUsed", "(I)Z"⟩ ⟨"LeapJoinModel", "isUsed", "(I)Z"⟩) ∈ lw_all := lw_g (lw_at lw_ms 77 rfl) rfl
theorem qs78 : (Cond.selects "LeapJoinModel" ⟨"LeapJoinModel", "note", "(II)V"⟩ ⟨"LeapJoinModel", "note", "(II)V"⟩) ∈ lw_all := lw_g (lw_at lw_ms 78 rfl) rfl
theorem qs79 : (Cond.selects "LeapJoinModel" ⟨"LeapJoinModel", "rowsNow", "()I"⟩ ⟨"LeapJoinModel", "rowsNow", "()I"⟩) ∈ lw_all := lw_g (lw_at lw_ms 79 rfl) rfl
theorem qs80 : (Cond.selects "LeapJoinModel" ⟨"LeapJoinModel", "joinsNow", "()V"⟩ ⟨"LeapJoinModel", "joinsNow", "()V"⟩) ∈ lw_all := lw_g (lw_at lw_ms 80 rfl) rfl
theorem qs81 : (Cond.selects "LeapJoinModel" ⟨"LeapJoinModel", "joins", "(I)V"⟩ ⟨"LeapJoinModel", "joins", "(I)V"⟩) ∈ lw_all := lw_g (lw_at lw_ms 81 rfl) rfl
theorem qs82 : (Cond.selects "LeapJoinModel" ⟨"LeapJoinModel", "laysOrder", "(I)V"⟩ ⟨"LeapJoinModel", "laysOrder", "(I)V"⟩) ∈ lw_all := lw_g (lw_at lw_ms 82 rfl) rfl
theorem qs83 : (Cond.selects "LeapJoinModel" ⟨"LeapJoinModel", "asked", "()I"⟩ ⟨"LeapJoinModel", "asked", "()I"⟩) ∈ lw_all := lw_g (lw_at lw_ms 83 rfl) rfl
theorem qs84 : (Cond.selects "LeapJoinModel" ⟨"LeapJoinModel", "lettersOf", "(I)I"⟩ ⟨"LeapJoinModel", "lettersOf", "(I)I"⟩) ∈ lw_all := lw_g (lw_at lw_ms 84 rfl) rfl
theorem qs85 : (Cond.selects "LeapJoinModel" ⟨"LeapJoinModel", "goes", "(I)V"⟩ ⟨"LeapJoinModel", "goes", "(I)V"⟩) ∈ lw_all := lw_g (lw_at lw_ms 85 rfl) rfl
theorem qs86 : (Cond.selects "LeapJoinModel" ⟨"LeapJoinModel", "takesRow", "()V"⟩ ⟨"LeapJoinModel", "takesRow", "()V"⟩) ∈ lw_all := lw_g (lw_at lw_ms 86 rfl) rfl
theorem qs87 : (Cond.selects "LeapJoinModel" ⟨"LeapJoinModel", "laysKeys", "(I)Z"⟩ ⟨"LeapJoinModel", "laysKeys", "(I)Z"⟩) ∈ lw_all := lw_g (lw_at lw_ms 87 rfl) rfl
theorem qs88 : (Cond.selects "LeapJoinModel" ⟨"LeapJoinModel", "isIn", "(II)Z"⟩ ⟨"LeapJoinModel", "isIn", "(II)Z"⟩) ∈ lw_all := lw_g (lw_at lw_ms 88 rfl) rfl
theorem qs89 : (Cond.selects "LeapJoinModel" ⟨"LeapJoinModel", "columnOf", "(II)I"⟩ ⟨"LeapJoinModel", "columnOf", "(II)I"⟩) ∈ lw_all := lw_g (lw_at lw_ms 89 rfl) rfl
theorem qs90 : (Cond.selects "LeapJoinModel" ⟨"LeapJoinModel", "fits", "(III)Z"⟩ ⟨"LeapJoinModel", "fits", "(III)Z"⟩) ∈ lw_all := lw_g (lw_at lw_ms 90 rfl) rfl
theorem qs91 : (Cond.selects "LeapJoinModel" ⟨"LeapJoinModel", "takesKey", "(II)V"⟩ ⟨"LeapJoinModel", "takesKey", "(II)V"⟩) ∈ lw_all := lw_g (lw_at lw_ms 91 rfl) rfl
theorem qs92 : (Cond.selects "LeapJoinModel" ⟨"LeapJoinModel", "greatestKey", "(I)I"⟩ ⟨"LeapJoinModel", "greatestKey", "(I)I"⟩) ∈ lw_all := lw_g (lw_at lw_ms 92 rfl) rfl
theorem qs93 : (Cond.selects "LeapJoinModel" ⟨"LeapJoinModel", "keyAt", "(II)I"⟩ ⟨"LeapJoinModel", "keyAt", "(II)I"⟩) ∈ lw_all := lw_g (lw_at lw_ms 93 rfl) rfl
theorem qs94 : (Cond.selects "LeapJoinModel" ⟨"LeapJoinModel", "firstBehind", "(II)I"⟩ ⟨"LeapJoinModel", "firstBehind", "(II)I"⟩) ∈ lw_all := lw_g (lw_at lw_ms 94 rfl) rfl
theorem qs95 : (Cond.selects "LeapJoinModel" ⟨"LeapJoinModel", "firstIn", "(I)I"⟩ ⟨"LeapJoinModel", "firstIn", "(I)I"⟩) ∈ lw_all := lw_g (lw_at lw_ms 95 rfl) rfl
theorem qs96 : (Cond.selects "LeapJoinModel" ⟨"LeapJoinModel", "leaps", "(III)Z"⟩ ⟨"LeapJoinModel", "leaps", "(III)Z"⟩) ∈ lw_all := lw_g (lw_at lw_ms 96 rfl) rfl
theorem qs97 : (Cond.selects "LeapJoinModel" ⟨"LeapJoinModel", "drawWay", "()V"⟩ ⟨"LeapJoinModel", "drawWay", "()V"⟩) ∈ lw_all := lw_g (lw_at lw_ms 97 rfl) rfl
theorem qs98 : (Cond.selects "LeapJoinModel" ⟨"LeapJoinModel", "draw", "(I)I"⟩ ⟨"LeapJoinModel", "draw", "(I)I"⟩) ∈ lw_all := lw_g (lw_at lw_ms 98 rfl) rfl
theorem qs99 : (Cond.selects "LeapJoinModel" ⟨"LeapJoinModel", "tryOne", "(IIIII)V"⟩ ⟨"LeapJoinModel", "tryOne", "(IIIII)V"⟩) ∈ lw_all := lw_g (lw_at lw_ms 99 rfl) rfl
theorem qs100 : (Cond.selects "LeapJoinModel" ⟨"LeapJoinModel", "rowsOfAll", "()I"⟩ ⟨"LeapJoinModel", "rowsOfAll", "()I"⟩) ∈ lw_all := lw_g (lw_at lw_ms 100 rfl) rfl
theorem qs101 : (Cond.selects "LeapJoinModel" ⟨"LeapJoinModel", "isAsked", "(I)Z"⟩ ⟨"LeapJoinModel", "isAsked", "(I)Z"⟩) ∈ lw_all := lw_g (lw_at lw_ms 101 rfl) rfl
theorem qs102 : (Cond.selects "LeapJoinModel" ⟨"LeapJoinModel", "numberOf", "(II)I"⟩ ⟨"LeapJoinModel", "numberOf", "(II)I"⟩) ∈ lw_all := lw_g (lw_at lw_ms 102 rfl) rfl
theorem qs103 : (Cond.selects "LeapJoinModel" ⟨"LeapJoinModel", "triesOrders", "()V"⟩ ⟨"LeapJoinModel", "triesOrders", "()V"⟩) ∈ lw_all := lw_g (lw_at lw_ms 103 rfl) rfl
theorem qs104 : (Cond.selects "LeapJoinModel" ⟨"LeapJoinModel", "givenBy", "(I)I"⟩ ⟨"LeapJoinModel", "givenBy", "(I)I"⟩) ∈ lw_all := lw_g (lw_at lw_ms 104 rfl) rfl
theorem qs105 : (Cond.selects "LeapJoinModel" ⟨"LeapJoinModel", "isOf", "(III)Z"⟩ ⟨"LeapJoinModel", "isOf", "(III)Z"⟩) ∈ lw_all := lw_g (lw_at lw_ms 105 rfl) rfl
theorem qs106 : (Cond.selects "LeapJoinModel" ⟨"LeapJoinModel", "counts", "()V"⟩ ⟨"LeapJoinModel", "counts", "()V"⟩) ∈ lw_all := lw_g (lw_at lw_ms 106 rfl) rfl
theorem qs107 : (Cond.selects "LeapJoinModel" ⟨"LeapJoinModel", "extremeOf", "(II)I"⟩ ⟨"LeapJoinModel", "extremeOf", "(II)I"⟩) ∈ lw_all := lw_g (lw_at lw_ms 107 rfl) rfl
theorem qs108 : (Cond.selects "LeapJoinModel" ⟨"LeapJoinModel", "isTold", "(II)Z"⟩ ⟨"LeapJoinModel", "isTold", "(II)Z"⟩) ∈ lw_all := lw_g (lw_at lw_ms 108 rfl) rfl
theorem qs109 : (Cond.selects "LeapJoinModel" ⟨"LeapJoinModel", "takesFour", "(IIII)V"⟩ ⟨"LeapJoinModel", "takesFour", "(IIII)V"⟩) ∈ lw_all := lw_g (lw_at lw_ms 109 rfl) rfl
theorem qs110 : (Cond.selects "LeapJoinModel" ⟨"LeapJoinModel", "comparesFour", "(I)I"⟩ ⟨"LeapJoinModel", "comparesFour", "(I)I"⟩) ∈ lw_all := lw_g (lw_at lw_ms 110 rfl) rfl
theorem qs111 : (Cond.selects "LeapJoinModel" ⟨"LeapJoinModel", "hasMean", "(I)Z"⟩ ⟨"LeapJoinModel", "hasMean", "(I)Z"⟩) ∈ lw_all := lw_g (lw_at lw_ms 111 rfl) rfl
theorem qs112 : (Cond.selects "LeapJoinModel" ⟨"LeapJoinModel", "meanOf", "(I)D"⟩ ⟨"LeapJoinModel", "meanOf", "(I)D"⟩) ∈ lw_all := lw_g (lw_at lw_ms 112 rfl) rfl
theorem qs113 : (Cond.selects "LeapJoinModel" ⟨"LeapJoinModel", "putAside", "()V"⟩ ⟨"LeapJoinModel", "putAside", "()V"⟩) ∈ lw_all := lw_g (lw_at lw_ms 113 rfl) rfl
theorem qs114 : (Cond.selects "LeapJoinModel" ⟨"LeapJoinModel", "bringBack", "()V"⟩ ⟨"LeapJoinModel", "bringBack", "()V"⟩) ∈ lw_all := lw_g (lw_at lw_ms 114 rfl) rfl
theorem qs115 : (Cond.selects "LeapJoinModel" ⟨"LeapJoinModel", "isScript", "(I)Z"⟩ ⟨"LeapJoinModel", "isScript", "(I)Z"⟩) ∈ lw_all := lw_g (lw_at lw_ms 115 rfl) rfl
theorem qs116 : (Cond.selects "LeapJoinModel" ⟨"LeapJoinModel", "goSteps", "(IZ)I"⟩ ⟨"LeapJoinModel", "goSteps", "(IZ)I"⟩) ∈ lw_all := lw_g (lw_at lw_ms 116 rfl) rfl
theorem qs117 : (Cond.selects "LeapJoinModel" ⟨"LeapJoinModel", "sumOfRows", "()I"⟩ ⟨"LeapJoinModel", "sumOfRows", "()I"⟩) ∈ lw_all := lw_g (lw_at lw_ms 117 rfl) rfl
theorem qs118 : (Cond.selects "LeapJoinModel" ⟨"LeapJoinModel", "greatestTable", "(Z)I"⟩ ⟨"LeapJoinModel", "greatestTable", "(Z)I"⟩) ∈ lw_all := lw_g (lw_at lw_ms 118 rfl) rfl
theorem qs119 : (Cond.selects "LeapJoinModel" ⟨"LeapJoinModel", "notGiven", "()I"⟩ ⟨"LeapJoinModel", "notGiven", "()I"⟩) ∈ lw_all := lw_g (lw_at lw_ms 119 rfl) rfl
theorem qs120 : (Cond.selects "LeapJoinModel" ⟨"LeapJoinModel", "couples", "()I"⟩ ⟨"LeapJoinModel", "couples", "()I"⟩) ∈ lw_all := lw_g (lw_at lw_ms 120 rfl) rfl
