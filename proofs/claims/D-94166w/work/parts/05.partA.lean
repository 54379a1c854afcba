-- ===== PART A: goes FIRST, ahead of the names: the tables' words, and 'selects' of the private methods out of them =====
/-- a private method of a class that the tables say can be made, by its rows of tables_1 -/
def lw_okq (q : MethodName × Nat) : Prop := (q.1.cls ≠ "java/lang/invoke/MethodHandle" ∧ q.1.cls ≠ "java/lang/invoke/VarHandle") ∧ Cond.instantiable q.1.cls q.2 ∈ tables_1 ∧ Cond.privateMethod q.1 ∈ tables_1 ∧ Cond.instanceMethod q.1 ∈ tables_1
set_option maxRecDepth 100000
theorem lw_t1 {w : Cond} (h : w ∈ tables_1_1) : w ∈ tables_1 := List.mem_append_left _ h
theorem lw_t2 {w : Cond} (h : w ∈ tables_1_2) : w ∈ tables_1 := List.mem_append_right _ (List.mem_append_left _ h)
theorem lw_t3 {w : Cond} (h : w ∈ tables_1_3) : w ∈ tables_1 := List.mem_append_right _ (List.mem_append_right _ (List.mem_append_left _ h))
theorem lw_t4 {w : Cond} (h : w ∈ tables_1_4) : w ∈ tables_1 := List.mem_append_right _ (List.mem_append_right _ (List.mem_append_right _ (List.mem_append_left _ h)))
theorem lw_t5 {w : Cond} (h : w ∈ tables_1_5) : w ∈ tables_1 := List.mem_append_right _ (List.mem_append_right _ (List.mem_append_right _ (List.mem_append_right _ (List.mem_append_left _ h))))
theorem lw_t6 {w : Cond} (h : w ∈ tables_1_6) : w ∈ tables_1 := List.mem_append_right _ (List.mem_append_right _ (List.mem_append_right _ (List.mem_append_right _ (List.mem_append_right _ (List.mem_append_left _ h)))))
theorem lw_t7 {w : Cond} (h : w ∈ tables_1_7) : w ∈ tables_1 := List.mem_append_right _ (List.mem_append_right _ (List.mem_append_right _ (List.mem_append_right _ (List.mem_append_right _ (List.mem_append_right _ (List.mem_append_left _ h))))))
theorem lw_t8 {w : Cond} (h : w ∈ tables_1_8) : w ∈ tables_1 := List.mem_append_right _ (List.mem_append_right _ (List.mem_append_right _ (List.mem_append_right _ (List.mem_append_right _ (List.mem_append_right _ (List.mem_append_right _ h))))))
theorem lw_p0 : lw_okq (⟨"DayBoy", "bring", "(I)V"⟩, 28) := ⟨⟨by decide +kernel, by decide +kernel⟩, lw_t1 (List.mem_of_getElem? (i := 25) rfl), lw_t2 (List.mem_of_getElem? (i := 57) rfl), lw_t2 (List.mem_of_getElem? (i := 58) rfl)⟩
theorem lw_p1 : lw_okq (⟨"DayBoy$Reader", "number", "(II)I"⟩, 3) := ⟨⟨by decide +kernel, by decide +kernel⟩, lw_t2 (List.mem_of_getElem? (i := 74) rfl), lw_t2 (List.mem_of_getElem? (i := 94) rfl), lw_t2 (List.mem_of_getElem? (i := 95) rfl)⟩
theorem lw_p2 : lw_okq (⟨"DayBoy$Reader", "look", "()I"⟩, 3) := ⟨⟨by decide +kernel, by decide +kernel⟩, lw_t2 (List.mem_of_getElem? (i := 74) rfl), lw_t2 (List.mem_of_getElem? (i := 98) rfl), lw_t2 (List.mem_of_getElem? (i := 99) rfl)⟩
theorem lw_p3 : lw_okq (⟨"DayBoy$Reader", "here", "()I"⟩, 3) := ⟨⟨by decide +kernel, by decide +kernel⟩, lw_t2 (List.mem_of_getElem? (i := 74) rfl), lw_t2 (List.mem_of_getElem? (i := 102) rfl), lw_t2 (List.mem_of_getElem? (i := 103) rfl)⟩
theorem lw_p4 : lw_okq (⟨"DayBoy$Reader", "isDigit", "()Z"⟩, 3) := ⟨⟨by decide +kernel, by decide +kernel⟩, lw_t2 (List.mem_of_getElem? (i := 74) rfl), lw_t2 (List.mem_of_getElem? (i := 106) rfl), lw_t2 (List.mem_of_getElem? (i := 107) rfl)⟩
theorem lw_p5 : lw_okq (⟨"DayBoy$Reader", "take", "(Z)I"⟩, 3) := ⟨⟨by decide +kernel, by decide +kernel⟩, lw_t2 (List.mem_of_getElem? (i := 74) rfl), lw_t2 (List.mem_of_getElem? (i := 110) rfl), lw_t2 (List.mem_of_getElem? (i := 111) rfl)⟩
theorem lw_p6 : lw_okq (⟨"java/lang/Throwable", "fillInStackTrace", "(I)Ljava/lang/Throwable;"⟩, 6) := ⟨⟨by decide +kernel, by decide +kernel⟩, lw_t2 (List.mem_of_getElem? (i := 151) rfl), lw_t2 (List.mem_of_getElem? (i := 149) rfl), lw_t2 (List.mem_of_getElem? (i := 150) rfl)⟩
theorem lw_p7 : lw_okq (⟨"DayBoy$Reader", "right", "(IZ)I"⟩, 3) := ⟨⟨by decide +kernel, by decide +kernel⟩, lw_t2 (List.mem_of_getElem? (i := 74) rfl), lw_t2 (List.mem_of_getElem? (i := 184) rfl), lw_t2 (List.mem_of_getElem? (i := 185) rfl)⟩
theorem lw_p8 : lw_okq (⟨"DayBoy$Reader", "takes", "(I)V"⟩, 3) := ⟨⟨by decide +kernel, by decide +kernel⟩, lw_t2 (List.mem_of_getElem? (i := 74) rfl), lw_t2 (List.mem_of_getElem? (i := 188) rfl), lw_t2 (List.mem_of_getElem? (i := 189) rfl)⟩
theorem lw_p9 : lw_okq (⟨"DayBoy$Reader", "leaps", "(LDayBoy$Leaps;)V"⟩, 3) := ⟨⟨by decide +kernel, by decide +kernel⟩, lw_t2 (List.mem_of_getElem? (i := 74) rfl), lw_t2 (List.mem_of_getElem? (i := 204) rfl), lw_t2 (List.mem_of_getElem? (i := 205) rfl)⟩
theorem lw_p10 : lw_okq (⟨"DayBoy$Reader", "change", "(LDayBoy$Almanac;)V"⟩, 3) := ⟨⟨by decide +kernel, by decide +kernel⟩, lw_t2 (List.mem_of_getElem? (i := 74) rfl), lw_t2 (List.mem_of_getElem? (i := 220) rfl), lw_t2 (List.mem_of_getElem? (i := 221) rfl)⟩
theorem lw_p11 : lw_okq (⟨"DayBoy$Leaps", "ofYear", "(I)I"⟩, 4) := ⟨⟨by decide +kernel, by decide +kernel⟩, lw_t1 (List.mem_of_getElem? (i := 46) rfl), lw_t2 (List.mem_of_getElem? (i := 233) rfl), lw_t2 (List.mem_of_getElem? (i := 234) rfl)⟩
theorem lw_p12 : lw_okq (⟨"DayBoy$Leaps", "ahead", "(II)I"⟩, 4) := ⟨⟨by decide +kernel, by decide +kernel⟩, lw_t1 (List.mem_of_getElem? (i := 46) rfl), lw_t2 (List.mem_of_getElem? (i := 237) rfl), lw_t2 (List.mem_of_getElem? (i := 238) rfl)⟩
theorem lw_p13 : lw_okq (⟨"DayBoy$Reader", "ends", "()V"⟩, 3) := ⟨⟨by decide +kernel, by decide +kernel⟩, lw_t2 (List.mem_of_getElem? (i := 74) rfl), lw_t3 (List.mem_of_getElem? (i := 10) rfl), lw_t3 (List.mem_of_getElem? (i := 11) rfl)⟩
theorem lw_p14 : lw_okq (⟨"DayBoy$Reader", "item", "(LDayBoy$Head;)LDayBoy$Item;"⟩, 3) := ⟨⟨by decide +kernel, by decide +kernel⟩, lw_t2 (List.mem_of_getElem? (i := 74) rfl), lw_t3 (List.mem_of_getElem? (i := 22) rfl), lw_t3 (List.mem_of_getElem? (i := 23) rfl)⟩
theorem lw_p15 : lw_okq (⟨"DayBoy$Reader", "range", "()LDayBoy$Item;"⟩, 3) := ⟨⟨by decide +kernel, by decide +kernel⟩, lw_t2 (List.mem_of_getElem? (i := 74) rfl), lw_t3 (List.mem_of_getElem? (i := 26) rfl), lw_t3 (List.mem_of_getElem? (i := 27) rfl)⟩
def lw_privs_1 : List (MethodName × Nat) := [(⟨"DayBoy", "bring", "(I)V"⟩, 28), (⟨"DayBoy$Reader", "number", "(II)I"⟩, 3), (⟨"DayBoy$Reader", "look", "()I"⟩, 3), (⟨"DayBoy$Reader", "here", "()I"⟩, 3), (⟨"DayBoy$Reader", "isDigit", "()Z"⟩, 3), (⟨"DayBoy$Reader", "take", "(Z)I"⟩, 3), (⟨"java/lang/Throwable", "fillInStackTrace", "(I)Ljava/lang/Throwable;"⟩, 6), (⟨"DayBoy$Reader", "right", "(IZ)I"⟩, 3), (⟨"DayBoy$Reader", "takes", "(I)V"⟩, 3), (⟨"DayBoy$Reader", "leaps", "(LDayBoy$Leaps;)V"⟩, 3), (⟨"DayBoy$Reader", "change", "(LDayBoy$Almanac;)V"⟩, 3), (⟨"DayBoy$Leaps", "ofYear", "(I)I"⟩, 4), (⟨"DayBoy$Leaps", "ahead", "(II)I"⟩, 4), (⟨"DayBoy$Reader", "ends", "()V"⟩, 3), (⟨"DayBoy$Reader", "item", "(LDayBoy$Head;)LDayBoy$Item;"⟩, 3), (⟨"DayBoy$Reader", "range", "()LDayBoy$Item;"⟩, 3)]
theorem lw_r1 : ∀ q ∈ lw_privs_1, lw_okq q := List.forall_mem_cons.mpr ⟨lw_p0, List.forall_mem_cons.mpr ⟨lw_p1, List.forall_mem_cons.mpr ⟨lw_p2, List.forall_mem_cons.mpr ⟨lw_p3, List.forall_mem_cons.mpr ⟨lw_p4, List.forall_mem_cons.mpr ⟨lw_p5, List.forall_mem_cons.mpr ⟨lw_p6, List.forall_mem_cons.mpr ⟨lw_p7, List.forall_mem_cons.mpr ⟨lw_p8, List.forall_mem_cons.mpr ⟨lw_p9, List.forall_mem_cons.mpr ⟨lw_p10, List.forall_mem_cons.mpr ⟨lw_p11, List.forall_mem_cons.mpr ⟨lw_p12, List.forall_mem_cons.mpr ⟨lw_p13, List.forall_mem_cons.mpr ⟨lw_p14, List.forall_mem_cons.mpr ⟨lw_p15, fun _ h => absurd h List.not_mem_nil⟩⟩⟩⟩⟩⟩⟩⟩⟩⟩⟩⟩⟩⟩⟩⟩
theorem lw_p16 : lw_okq (⟨"DayBoy$Reader", "step", "(LDayBoy$Head;)LDayBoy$Item;"⟩, 3) := ⟨⟨by decide +kernel, by decide +kernel⟩, lw_t2 (List.mem_of_getElem? (i := 74) rfl), lw_t3 (List.mem_of_getElem? (i := 46) rfl), lw_t3 (List.mem_of_getElem? (i := 47) rfl)⟩
theorem lw_p17 : lw_okq (⟨"DayBoy$Reader", "alike", "()LDayBoy$Item;"⟩, 3) := ⟨⟨by decide +kernel, by decide +kernel⟩, lw_t2 (List.mem_of_getElem? (i := 74) rfl), lw_t3 (List.mem_of_getElem? (i := 63) rfl), lw_t3 (List.mem_of_getElem? (i := 64) rfl)⟩
theorem lw_p18 : lw_okq (⟨"DayBoy$Reader", "own", "(LDayBoy$Head;)LDayBoy$Item;"⟩, 3) := ⟨⟨by decide +kernel, by decide +kernel⟩, lw_t2 (List.mem_of_getElem? (i := 74) rfl), lw_t3 (List.mem_of_getElem? (i := 83) rfl), lw_t3 (List.mem_of_getElem? (i := 84) rfl)⟩
theorem lw_p19 : lw_okq (⟨"DayBoy$Head", "clear", "()V"⟩, 22) := ⟨⟨by decide +kernel, by decide +kernel⟩, lw_t1 (List.mem_of_getElem? (i := 95) rfl), lw_t3 (List.mem_of_getElem? (i := 144) rfl), lw_t3 (List.mem_of_getElem? (i := 145) rfl)⟩
theorem lw_p20 : lw_okq (⟨"DayBoy$Head", "improve", "(IJ)V"⟩, 22) := ⟨⟨by decide +kernel, by decide +kernel⟩, lw_t1 (List.mem_of_getElem? (i := 95) rfl), lw_t3 (List.mem_of_getElem? (i := 149) rfl), lw_t3 (List.mem_of_getElem? (i := 150) rfl)⟩
theorem lw_p21 : lw_okq (⟨"DayBoy$Head", "spread", "()V"⟩, 22) := ⟨⟨by decide +kernel, by decide +kernel⟩, lw_t1 (List.mem_of_getElem? (i := 95) rfl), lw_t3 (List.mem_of_getElem? (i := 155) rfl), lw_t3 (List.mem_of_getElem? (i := 156) rfl)⟩
theorem lw_p22 : lw_okq (⟨"DayBoy", "isCalendar", "(I)Z"⟩, 28) := ⟨⟨by decide +kernel, by decide +kernel⟩, lw_t1 (List.mem_of_getElem? (i := 25) rfl), lw_t3 (List.mem_of_getElem? (i := 167) rfl), lw_t3 (List.mem_of_getElem? (i := 168) rfl)⟩
theorem lw_p23 : lw_okq (⟨"DayBoy$Almanac", "eraAt", "(I)LDayBoy$Era;"⟩, 2) := ⟨⟨by decide +kernel, by decide +kernel⟩, lw_t1 (List.mem_of_getElem? (i := 33) rfl), lw_t3 (List.mem_of_getElem? (i := 176) rfl), lw_t3 (List.mem_of_getElem? (i := 177) rfl)⟩
theorem lw_p24 : lw_okq (⟨"DayBoy", "isDate", "(IIII)Z"⟩, 28) := ⟨⟨by decide +kernel, by decide +kernel⟩, lw_t1 (List.mem_of_getElem? (i := 25) rfl), lw_t3 (List.mem_of_getElem? (i := 206) rfl), lw_t3 (List.mem_of_getElem? (i := 207) rfl)⟩
theorem lw_p25 : lw_okq (⟨"DayBoy$Almanac", "eraOf", "(III)LDayBoy$Era;"⟩, 2) := ⟨⟨by decide +kernel, by decide +kernel⟩, lw_t1 (List.mem_of_getElem? (i := 33) rfl), lw_t3 (List.mem_of_getElem? (i := 214) rfl), lw_t3 (List.mem_of_getElem? (i := 215) rfl)⟩
theorem lw_p26 : lw_okq (⟨"DayBoy", "isAnswered", "(IIIII)Z"⟩, 28) := ⟨⟨by decide +kernel, by decide +kernel⟩, lw_t1 (List.mem_of_getElem? (i := 25) rfl), lw_t4 (List.mem_of_getElem? (i := 24) rfl), lw_t4 (List.mem_of_getElem? (i := 25) rfl)⟩
theorem lw_p27 : lw_okq (⟨"DayBoy", "isHead", "(I)Z"⟩, 28) := ⟨⟨by decide +kernel, by decide +kernel⟩, lw_t1 (List.mem_of_getElem? (i := 25) rfl), lw_t4 (List.mem_of_getElem? (i := 28) rfl), lw_t4 (List.mem_of_getElem? (i := 29) rfl)⟩
theorem lw_p28 : lw_okq (⟨"DayBoy", "hasWay", "(LDayBoy$Head;LDayBoy$Almanac;II)Z"⟩, 28) := ⟨⟨by decide +kernel, by decide +kernel⟩, lw_t1 (List.mem_of_getElem? (i := 25) rfl), lw_t4 (List.mem_of_getElem? (i := 32) rfl), lw_t4 (List.mem_of_getElem? (i := 33) rfl)⟩
theorem lw_p29 : lw_okq (⟨"DayBoy$Head", "better", "(IIJ)I"⟩, 22) := ⟨⟨by decide +kernel, by decide +kernel⟩, lw_t1 (List.mem_of_getElem? (i := 95) rfl), lw_t4 (List.mem_of_getElem? (i := 48) rfl), lw_t4 (List.mem_of_getElem? (i := 49) rfl)⟩
theorem lw_p30 : lw_okq (⟨"DayBoy", "soMany", "(LDayBoy$Head;I)I"⟩, 28) := ⟨⟨by decide +kernel, by decide +kernel⟩, lw_t1 (List.mem_of_getElem? (i := 25) rfl), lw_t4 (List.mem_of_getElem? (i := 147) rfl), lw_t4 (List.mem_of_getElem? (i := 148) rfl)⟩
theorem lw_p31 : lw_okq (⟨"DayBoy", "isSo", "(LDayBoy$Head;LDayBoy$Ask;I)Z"⟩, 28) := ⟨⟨by decide +kernel, by decide +kernel⟩, lw_t1 (List.mem_of_getElem? (i := 25) rfl), lw_t4 (List.mem_of_getElem? (i := 151) rfl), lw_t4 (List.mem_of_getElem? (i := 152) rfl)⟩
def lw_privs_2 : List (MethodName × Nat) := [(⟨"DayBoy$Reader", "step", "(LDayBoy$Head;)LDayBoy$Item;"⟩, 3), (⟨"DayBoy$Reader", "alike", "()LDayBoy$Item;"⟩, 3), (⟨"DayBoy$Reader", "own", "(LDayBoy$Head;)LDayBoy$Item;"⟩, 3), (⟨"DayBoy$Head", "clear", "()V"⟩, 22), (⟨"DayBoy$Head", "improve", "(IJ)V"⟩, 22), (⟨"DayBoy$Head", "spread", "()V"⟩, 22), (⟨"DayBoy", "isCalendar", "(I)Z"⟩, 28), (⟨"DayBoy$Almanac", "eraAt", "(I)LDayBoy$Era;"⟩, 2), (⟨"DayBoy", "isDate", "(IIII)Z"⟩, 28), (⟨"DayBoy$Almanac", "eraOf", "(III)LDayBoy$Era;"⟩, 2), (⟨"DayBoy", "isAnswered", "(IIIII)Z"⟩, 28), (⟨"DayBoy", "isHead", "(I)Z"⟩, 28), (⟨"DayBoy", "hasWay", "(LDayBoy$Head;LDayBoy$Almanac;II)Z"⟩, 28), (⟨"DayBoy$Head", "better", "(IIJ)I"⟩, 22), (⟨"DayBoy", "soMany", "(LDayBoy$Head;I)I"⟩, 28), (⟨"DayBoy", "isSo", "(LDayBoy$Head;LDayBoy$Ask;I)Z"⟩, 28)]
theorem lw_r2 : ∀ q ∈ lw_privs_2, lw_okq q := List.forall_mem_cons.mpr ⟨lw_p16, List.forall_mem_cons.mpr ⟨lw_p17, List.forall_mem_cons.mpr ⟨lw_p18, List.forall_mem_cons.mpr ⟨lw_p19, List.forall_mem_cons.mpr ⟨lw_p20, List.forall_mem_cons.mpr ⟨lw_p21, List.forall_mem_cons.mpr ⟨lw_p22, List.forall_mem_cons.mpr ⟨lw_p23, List.forall_mem_cons.mpr ⟨lw_p24, List.forall_mem_cons.mpr ⟨lw_p25, List.forall_mem_cons.mpr ⟨lw_p26, List.forall_mem_cons.mpr ⟨lw_p27, List.forall_mem_cons.mpr ⟨lw_p28, List.forall_mem_cons.mpr ⟨lw_p29, List.forall_mem_cons.mpr ⟨lw_p30, List.forall_mem_cons.mpr ⟨lw_p31, fun _ h => absurd h List.not_mem_nil⟩⟩⟩⟩⟩⟩⟩⟩⟩⟩⟩⟩⟩⟩⟩⟩
theorem lw_p32 : lw_okq (⟨"DayBoy", "birthday", "(I)I"⟩, 28) := ⟨⟨by decide +kernel, by decide +kernel⟩, lw_t1 (List.mem_of_getElem? (i := 25) rfl), lw_t4 (List.mem_of_getElem? (i := 177) rfl), lw_t4 (List.mem_of_getElem? (i := 178) rfl)⟩
theorem lw_p33 : lw_okq (⟨"DayBoy", "kindOf", "(LDayBoy$Ask;)I"⟩, 28) := ⟨⟨by decide +kernel, by decide +kernel⟩, lw_t1 (List.mem_of_getElem? (i := 25) rfl), lw_t4 (List.mem_of_getElem? (i := 193) rfl), lw_t4 (List.mem_of_getElem? (i := 194) rfl)⟩
theorem lw_p34 : lw_okq (⟨"DayBoy", "isLearnt", "(LDayBoy$Head;LDayBoy$Head;II)Z"⟩, 28) := ⟨⟨by decide +kernel, by decide +kernel⟩, lw_t1 (List.mem_of_getElem? (i := 25) rfl), lw_t4 (List.mem_of_getElem? (i := 201) rfl), lw_t4 (List.mem_of_getElem? (i := 202) rfl)⟩
theorem lw_p35 : lw_okq (⟨"DayBoy", "areHeads", "(I)Z"⟩, 28) := ⟨⟨by decide +kernel, by decide +kernel⟩, lw_t1 (List.mem_of_getElem? (i := 25) rfl), lw_t4 (List.mem_of_getElem? (i := 222) rfl), lw_t4 (List.mem_of_getElem? (i := 223) rfl)⟩
theorem lw_p36 : lw_okq (⟨"DayBoy", "partedBy", "(II)I"⟩, 28) := ⟨⟨by decide +kernel, by decide +kernel⟩, lw_t1 (List.mem_of_getElem? (i := 25) rfl), lw_t4 (List.mem_of_getElem? (i := 226) rfl), lw_t4 (List.mem_of_getElem? (i := 227) rfl)⟩
theorem lw_p37 : lw_okq (⟨"DayBoy", "partsAt", "(LDayBoy$Head;LDayBoy$Head;LDayBoy$Almanac;III)Z"⟩, 28) := ⟨⟨by decide +kernel, by decide +kernel⟩, lw_t1 (List.mem_of_getElem? (i := 25) rfl), lw_t4 (List.mem_of_getElem? (i := 230) rfl), lw_t4 (List.mem_of_getElem? (i := 231) rfl)⟩
theorem lw_p38 : lw_okq (⟨"DayBoy", "layGets", "(LDayBoy$Head;II)V"⟩, 28) := ⟨⟨by decide +kernel, by decide +kernel⟩, lw_t1 (List.mem_of_getElem? (i := 25) rfl), lw_t5 (List.mem_of_getElem? (i := 11) rfl), lw_t5 (List.mem_of_getElem? (i := 12) rfl)⟩
theorem lw_p39 : lw_okq (⟨"DayBoy", "isCovered", "(III)Z"⟩, 28) := ⟨⟨by decide +kernel, by decide +kernel⟩, lw_t1 (List.mem_of_getElem? (i := 25) rfl), lw_t5 (List.mem_of_getElem? (i := 33) rfl), lw_t5 (List.mem_of_getElem? (i := 34) rfl)⟩
theorem lw_p40 : lw_okq (⟨"DayBoy", "holds", "(II)Z"⟩, 28) := ⟨⟨by decide +kernel, by decide +kernel⟩, lw_t1 (List.mem_of_getElem? (i := 25) rfl), lw_t5 (List.mem_of_getElem? (i := 57) rfl), lw_t5 (List.mem_of_getElem? (i := 58) rfl)⟩
theorem lw_p41 : lw_okq (⟨"DayBoy", "answerTo", "(LDayBoy$Head;LDayBoy$Almanac;I)I"⟩, 28) := ⟨⟨by decide +kernel, by decide +kernel⟩, lw_t1 (List.mem_of_getElem? (i := 25) rfl), lw_t5 (List.mem_of_getElem? (i := 72) rfl), lw_t5 (List.mem_of_getElem? (i := 73) rfl)⟩
theorem lw_p42 : lw_okq (⟨"DayBoy", "tenthsOfPlan", "(LDayBoy$Head;III)I"⟩, 28) := ⟨⟨by decide +kernel, by decide +kernel⟩, lw_t1 (List.mem_of_getElem? (i := 25) rfl), lw_t5 (List.mem_of_getElem? (i := 83) rfl), lw_t5 (List.mem_of_getElem? (i := 84) rfl)⟩
theorem lw_p43 : lw_okq (⟨"DayBoy", "planKind", "(I)I"⟩, 28) := ⟨⟨by decide +kernel, by decide +kernel⟩, lw_t1 (List.mem_of_getElem? (i := 25) rfl), lw_t5 (List.mem_of_getElem? (i := 87) rfl), lw_t5 (List.mem_of_getElem? (i := 88) rfl)⟩
theorem lw_p44 : lw_okq (⟨"DayBoyModel", "readCalendar", "(I)I"⟩, 71) := ⟨⟨by decide +kernel, by decide +kernel⟩, lw_t5 (List.mem_of_getElem? (i := 171) rfl), lw_t6 (List.mem_of_getElem? (i := 172) rfl), lw_t6 (List.mem_of_getElem? (i := 173) rfl)⟩
theorem lw_p45 : lw_okq (⟨"DayBoyModel", "plain", "(II)I"⟩, 71) := ⟨⟨by decide +kernel, by decide +kernel⟩, lw_t5 (List.mem_of_getElem? (i := 171) rfl), lw_t6 (List.mem_of_getElem? (i := 176) rfl), lw_t6 (List.mem_of_getElem? (i := 177) rfl)⟩
theorem lw_p46 : lw_okq (⟨"DayBoyModel", "number", "(II)I"⟩, 71) := ⟨⟨by decide +kernel, by decide +kernel⟩, lw_t5 (List.mem_of_getElem? (i := 171) rfl), lw_t6 (List.mem_of_getElem? (i := 180) rfl), lw_t6 (List.mem_of_getElem? (i := 181) rfl)⟩
theorem lw_p47 : lw_okq (⟨"DayBoyModel", "look", "()I"⟩, 71) := ⟨⟨by decide +kernel, by decide +kernel⟩, lw_t5 (List.mem_of_getElem? (i := 171) rfl), lw_t6 (List.mem_of_getElem? (i := 184) rfl), lw_t6 (List.mem_of_getElem? (i := 185) rfl)⟩
def lw_privs_3 : List (MethodName × Nat) := [(⟨"DayBoy", "birthday", "(I)I"⟩, 28), (⟨"DayBoy", "kindOf", "(LDayBoy$Ask;)I"⟩, 28), (⟨"DayBoy", "isLearnt", "(LDayBoy$Head;LDayBoy$Head;II)Z"⟩, 28), (⟨"DayBoy", "areHeads", "(I)Z"⟩, 28), (⟨"DayBoy", "partedBy", "(II)I"⟩, 28), (⟨"DayBoy", "partsAt", "(LDayBoy$Head;LDayBoy$Head;LDayBoy$Almanac;III)Z"⟩, 28), (⟨"DayBoy", "layGets", "(LDayBoy$Head;II)V"⟩, 28), (⟨"DayBoy", "isCovered", "(III)Z"⟩, 28), (⟨"DayBoy", "holds", "(II)Z"⟩, 28), (⟨"DayBoy", "answerTo", "(LDayBoy$Head;LDayBoy$Almanac;I)I"⟩, 28), (⟨"DayBoy", "tenthsOfPlan", "(LDayBoy$Head;III)I"⟩, 28), (⟨"DayBoy", "planKind", "(I)I"⟩, 28), (⟨"DayBoyModel", "readCalendar", "(I)I"⟩, 71), (⟨"DayBoyModel", "plain", "(II)I"⟩, 71), (⟨"DayBoyModel", "number", "(II)I"⟩, 71), (⟨"DayBoyModel", "look", "()I"⟩, 71)]
theorem lw_r3 : ∀ q ∈ lw_privs_3, lw_okq q := List.forall_mem_cons.mpr ⟨lw_p32, List.forall_mem_cons.mpr ⟨lw_p33, List.forall_mem_cons.mpr ⟨lw_p34, List.forall_mem_cons.mpr ⟨lw_p35, List.forall_mem_cons.mpr ⟨lw_p36, List.forall_mem_cons.mpr ⟨lw_p37, List.forall_mem_cons.mpr ⟨lw_p38, List.forall_mem_cons.mpr ⟨lw_p39, List.forall_mem_cons.mpr ⟨lw_p40, List.forall_mem_cons.mpr ⟨lw_p41, List.forall_mem_cons.mpr ⟨lw_p42, List.forall_mem_cons.mpr ⟨lw_p43, List.forall_mem_cons.mpr ⟨lw_p44, List.forall_mem_cons.mpr ⟨lw_p45, List.forall_mem_cons.mpr ⟨lw_p46, List.forall_mem_cons.mpr ⟨lw_p47, fun _ h => absurd h List.not_mem_nil⟩⟩⟩⟩⟩⟩⟩⟩⟩⟩⟩⟩⟩⟩⟩⟩
theorem lw_p48 : lw_okq (⟨"DayBoyModel", "here", "()I"⟩, 71) := ⟨⟨by decide +kernel, by decide +kernel⟩, lw_t5 (List.mem_of_getElem? (i := 171) rfl), lw_t6 (List.mem_of_getElem? (i := 188) rfl), lw_t6 (List.mem_of_getElem? (i := 189) rfl)⟩
theorem lw_p49 : lw_okq (⟨"DayBoyModel", "bad", "()V"⟩, 71) := ⟨⟨by decide +kernel, by decide +kernel⟩, lw_t5 (List.mem_of_getElem? (i := 171) rfl), lw_t6 (List.mem_of_getElem? (i := 195) rfl), lw_t6 (List.mem_of_getElem? (i := 196) rfl)⟩
theorem lw_p50 : lw_okq (⟨"DayBoyModel", "wrongAtLast", "()V"⟩, 71) := ⟨⟨by decide +kernel, by decide +kernel⟩, lw_t5 (List.mem_of_getElem? (i := 171) rfl), lw_t6 (List.mem_of_getElem? (i := 202) rfl), lw_t6 (List.mem_of_getElem? (i := 203) rfl)⟩
theorem lw_p51 : lw_okq (⟨"DayBoyModel", "closeNumber", "()V"⟩, 71) := ⟨⟨by decide +kernel, by decide +kernel⟩, lw_t5 (List.mem_of_getElem? (i := 171) rfl), lw_t6 (List.mem_of_getElem? (i := 206) rfl), lw_t6 (List.mem_of_getElem? (i := 207) rfl)⟩
theorem lw_p52 : lw_okq (⟨"DayBoyModel", "sign", "(I)V"⟩, 71) := ⟨⟨by decide +kernel, by decide +kernel⟩, lw_t5 (List.mem_of_getElem? (i := 171) rfl), lw_t6 (List.mem_of_getElem? (i := 210) rfl), lw_t6 (List.mem_of_getElem? (i := 211) rfl)⟩
theorem lw_p53 : lw_okq (⟨"DayBoyModel", "readLeaps", "(I)V"⟩, 71) := ⟨⟨by decide +kernel, by decide +kernel⟩, lw_t5 (List.mem_of_getElem? (i := 171) rfl), lw_t6 (List.mem_of_getElem? (i := 214) rfl), lw_t6 (List.mem_of_getElem? (i := 215) rfl)⟩
theorem lw_p54 : lw_okq (⟨"DayBoyModel", "layOut", "(I)V"⟩, 71) := ⟨⟨by decide +kernel, by decide +kernel⟩, lw_t5 (List.mem_of_getElem? (i := 171) rfl), lw_t6 (List.mem_of_getElem? (i := 218) rfl), lw_t6 (List.mem_of_getElem? (i := 219) rfl)⟩
theorem lw_p55 : lw_okq (⟨"DayBoyModel", "isLeap", "(II)Z"⟩, 71) := ⟨⟨by decide +kernel, by decide +kernel⟩, lw_t5 (List.mem_of_getElem? (i := 171) rfl), lw_t6 (List.mem_of_getElem? (i := 222) rfl), lw_t6 (List.mem_of_getElem? (i := 223) rfl)⟩
theorem lw_p56 : lw_okq (⟨"DayBoyModel", "change", "(II)V"⟩, 71) := ⟨⟨by decide +kernel, by decide +kernel⟩, lw_t5 (List.mem_of_getElem? (i := 171) rfl), lw_t6 (List.mem_of_getElem? (i := 229) rfl), lw_t6 (List.mem_of_getElem? (i := 230) rfl)⟩
theorem lw_p57 : lw_okq (⟨"DayBoyModel", "daysOf", "(III)I"⟩, 71) := ⟨⟨by decide +kernel, by decide +kernel⟩, lw_t5 (List.mem_of_getElem? (i := 171) rfl), lw_t6 (List.mem_of_getElem? (i := 233) rfl), lw_t6 (List.mem_of_getElem? (i := 234) rfl)⟩
theorem lw_p58 : lw_okq (⟨"DayBoyModel", "ordinal", "(II)I"⟩, 71) := ⟨⟨by decide +kernel, by decide +kernel⟩, lw_t5 (List.mem_of_getElem? (i := 171) rfl), lw_t6 (List.mem_of_getElem? (i := 237) rfl), lw_t6 (List.mem_of_getElem? (i := 238) rfl)⟩
theorem lw_p59 : lw_okq (⟨"DayBoyModel", "dated", "(II)I"⟩, 71) := ⟨⟨by decide +kernel, by decide +kernel⟩, lw_t5 (List.mem_of_getElem? (i := 171) rfl), lw_t7 (List.mem_of_getElem? (i := 2) rfl), lw_t7 (List.mem_of_getElem? (i := 3) rfl)⟩
theorem lw_p60 : lw_okq (⟨"DayBoyModel", "readHead", "(I)I"⟩, 71) := ⟨⟨by decide +kernel, by decide +kernel⟩, lw_t5 (List.mem_of_getElem? (i := 171) rfl), lw_t7 (List.mem_of_getElem? (i := 6) rfl), lw_t7 (List.mem_of_getElem? (i := 7) rfl)⟩
theorem lw_p61 : lw_okq (⟨"DayBoyModel", "item", "(I)V"⟩, 71) := ⟨⟨by decide +kernel, by decide +kernel⟩, lw_t5 (List.mem_of_getElem? (i := 171) rfl), lw_t7 (List.mem_of_getElem? (i := 10) rfl), lw_t7 (List.mem_of_getElem? (i := 11) rfl)⟩
theorem lw_p62 : lw_okq (⟨"DayBoyModel", "readStep", "(I)V"⟩, 71) := ⟨⟨by decide +kernel, by decide +kernel⟩, lw_t5 (List.mem_of_getElem? (i := 171) rfl), lw_t7 (List.mem_of_getElem? (i := 15) rfl), lw_t7 (List.mem_of_getElem? (i := 16) rfl)⟩
theorem lw_p63 : lw_okq (⟨"DayBoyModel", "readLike", "(I)V"⟩, 71) := ⟨⟨by decide +kernel, by decide +kernel⟩, lw_t5 (List.mem_of_getElem? (i := 171) rfl), lw_t7 (List.mem_of_getElem? (i := 19) rfl), lw_t7 (List.mem_of_getElem? (i := 20) rfl)⟩
def lw_privs_4 : List (MethodName × Nat) := [(⟨"DayBoyModel", "here", "()I"⟩, 71), (⟨"DayBoyModel", "bad", "()V"⟩, 71), (⟨"DayBoyModel", "wrongAtLast", "()V"⟩, 71), (⟨"DayBoyModel", "closeNumber", "()V"⟩, 71), (⟨"DayBoyModel", "sign", "(I)V"⟩, 71), (⟨"DayBoyModel", "readLeaps", "(I)V"⟩, 71), (⟨"DayBoyModel", "layOut", "(I)V"⟩, 71), (⟨"DayBoyModel", "isLeap", "(II)Z"⟩, 71), (⟨"DayBoyModel", "change", "(II)V"⟩, 71), (⟨"DayBoyModel", "daysOf", "(III)I"⟩, 71), (⟨"DayBoyModel", "ordinal", "(II)I"⟩, 71), (⟨"DayBoyModel", "dated", "(II)I"⟩, 71), (⟨"DayBoyModel", "readHead", "(I)I"⟩, 71), (⟨"DayBoyModel", "item", "(I)V"⟩, 71), (⟨"DayBoyModel", "readStep", "(I)V"⟩, 71), (⟨"DayBoyModel", "readLike", "(I)V"⟩, 71)]
theorem lw_r4 : ∀ q ∈ lw_privs_4, lw_okq q := List.forall_mem_cons.mpr ⟨lw_p48, List.forall_mem_cons.mpr ⟨lw_p49, List.forall_mem_cons.mpr ⟨lw_p50, List.forall_mem_cons.mpr ⟨lw_p51, List.forall_mem_cons.mpr ⟨lw_p52, List.forall_mem_cons.mpr ⟨lw_p53, List.forall_mem_cons.mpr ⟨lw_p54, List.forall_mem_cons.mpr ⟨lw_p55, List.forall_mem_cons.mpr ⟨lw_p56, List.forall_mem_cons.mpr ⟨lw_p57, List.forall_mem_cons.mpr ⟨lw_p58, List.forall_mem_cons.mpr ⟨lw_p59, List.forall_mem_cons.mpr ⟨lw_p60, List.forall_mem_cons.mpr ⟨lw_p61, List.forall_mem_cons.mpr ⟨lw_p62, List.forall_mem_cons.mpr ⟨lw_p63, fun _ h => absurd h List.not_mem_nil⟩⟩⟩⟩⟩⟩⟩⟩⟩⟩⟩⟩⟩⟩⟩⟩
theorem lw_p64 : lw_okq (⟨"DayBoyModel", "readCost", "(II)V"⟩, 71) := ⟨⟨by decide +kernel, by decide +kernel⟩, lw_t5 (List.mem_of_getElem? (i := 171) rfl), lw_t7 (List.mem_of_getElem? (i := 23) rfl), lw_t7 (List.mem_of_getElem? (i := 24) rfl)⟩
theorem lw_p65 : lw_okq (⟨"DayBoyModel", "readRow", "(Z)I"⟩, 71) := ⟨⟨by decide +kernel, by decide +kernel⟩, lw_t5 (List.mem_of_getElem? (i := 171) rfl), lw_t7 (List.mem_of_getElem? (i := 27) rfl), lw_t7 (List.mem_of_getElem? (i := 28) rfl)⟩
theorem lw_p66 : lw_okq (⟨"DayBoyModel", "readThing", "(IZ)V"⟩, 71) := ⟨⟨by decide +kernel, by decide +kernel⟩, lw_t5 (List.mem_of_getElem? (i := 171) rfl), lw_t7 (List.mem_of_getElem? (i := 31) rfl), lw_t7 (List.mem_of_getElem? (i := 32) rfl)⟩
theorem lw_p67 : lw_okq (⟨"DayBoyModel", "takeRow", "()I"⟩, 71) := ⟨⟨by decide +kernel, by decide +kernel⟩, lw_t5 (List.mem_of_getElem? (i := 171) rfl), lw_t7 (List.mem_of_getElem? (i := 39) rfl), lw_t7 (List.mem_of_getElem? (i := 40) rfl)⟩
theorem lw_p68 : lw_okq (⟨"DayBoyModel", "spread", "(I)V"⟩, 71) := ⟨⟨by decide +kernel, by decide +kernel⟩, lw_t5 (List.mem_of_getElem? (i := 171) rfl), lw_t7 (List.mem_of_getElem? (i := 43) rfl), lw_t7 (List.mem_of_getElem? (i := 44) rfl)⟩
theorem lw_p69 : lw_okq (⟨"DayBoyModel", "knowsYear", "(II)Z"⟩, 71) := ⟨⟨by decide +kernel, by decide +kernel⟩, lw_t5 (List.mem_of_getElem? (i := 171) rfl), lw_t7 (List.mem_of_getElem? (i := 48) rfl), lw_t7 (List.mem_of_getElem? (i := 49) rfl)⟩
theorem lw_p70 : lw_okq (⟨"DayBoyModel", "push", "(I)V"⟩, 71) := ⟨⟨by decide +kernel, by decide +kernel⟩, lw_t5 (List.mem_of_getElem? (i := 171) rfl), lw_t7 (List.mem_of_getElem? (i := 52) rfl), lw_t7 (List.mem_of_getElem? (i := 53) rfl)⟩
theorem lw_p71 : lw_okq (⟨"DayBoyModel", "flood", "(II)V"⟩, 71) := ⟨⟨by decide +kernel, by decide +kernel⟩, lw_t5 (List.mem_of_getElem? (i := 171) rfl), lw_t7 (List.mem_of_getElem? (i := 56) rfl), lw_t7 (List.mem_of_getElem? (i := 57) rfl)⟩
theorem lw_p72 : lw_okq (⟨"DayBoyModel", "touch", "(IIII)V"⟩, 71) := ⟨⟨by decide +kernel, by decide +kernel⟩, lw_t5 (List.mem_of_getElem? (i := 171) rfl), lw_t7 (List.mem_of_getElem? (i := 60) rfl), lw_t7 (List.mem_of_getElem? (i := 61) rfl)⟩
theorem lw_p73 : lw_okq (⟨"DayBoyModel", "isDate", "(IIII)Z"⟩, 71) := ⟨⟨by decide +kernel, by decide +kernel⟩, lw_t5 (List.mem_of_getElem? (i := 171) rfl), lw_t7 (List.mem_of_getElem? (i := 70) rfl), lw_t7 (List.mem_of_getElem? (i := 71) rfl)⟩
theorem lw_p74 : lw_okq (⟨"DayBoyModel", "stretchOf", "(IIII)I"⟩, 71) := ⟨⟨by decide +kernel, by decide +kernel⟩, lw_t5 (List.mem_of_getElem? (i := 171) rfl), lw_t7 (List.mem_of_getElem? (i := 74) rfl), lw_t7 (List.mem_of_getElem? (i := 75) rfl)⟩
theorem lw_p75 : lw_okq (⟨"DayBoyModel", "isCalendar", "(I)Z"⟩, 71) := ⟨⟨by decide +kernel, by decide +kernel⟩, lw_t5 (List.mem_of_getElem? (i := 171) rfl), lw_t7 (List.mem_of_getElem? (i := 78) rfl), lw_t7 (List.mem_of_getElem? (i := 79) rfl)⟩
theorem lw_p76 : lw_okq (⟨"DayBoyModel", "dayOf", "(IIII)I"⟩, 71) := ⟨⟨by decide +kernel, by decide +kernel⟩, lw_t5 (List.mem_of_getElem? (i := 171) rfl), lw_t7 (List.mem_of_getElem? (i := 82) rfl), lw_t7 (List.mem_of_getElem? (i := 83) rfl)⟩
theorem lw_p77 : lw_okq (⟨"DayBoyModel", "dateOf", "(II)I"⟩, 71) := ⟨⟨by decide +kernel, by decide +kernel⟩, lw_t5 (List.mem_of_getElem? (i := 171) rfl), lw_t7 (List.mem_of_getElem? (i := 90) rfl), lw_t7 (List.mem_of_getElem? (i := 91) rfl)⟩
theorem lw_p78 : lw_okq (⟨"DayBoyModel", "kindOf", "(II)I"⟩, 71) := ⟨⟨by decide +kernel, by decide +kernel⟩, lw_t5 (List.mem_of_getElem? (i := 171) rfl), lw_t7 (List.mem_of_getElem? (i := 110) rfl), lw_t7 (List.mem_of_getElem? (i := 111) rfl)⟩
theorem lw_p79 : lw_okq (⟨"DayBoyModel", "isHead", "(I)Z"⟩, 71) := ⟨⟨by decide +kernel, by decide +kernel⟩, lw_t5 (List.mem_of_getElem? (i := 171) rfl), lw_t7 (List.mem_of_getElem? (i := 118) rfl), lw_t7 (List.mem_of_getElem? (i := 119) rfl)⟩
def lw_privs_5 : List (MethodName × Nat) := [(⟨"DayBoyModel", "readCost", "(II)V"⟩, 71), (⟨"DayBoyModel", "readRow", "(Z)I"⟩, 71), (⟨"DayBoyModel", "readThing", "(IZ)V"⟩, 71), (⟨"DayBoyModel", "takeRow", "()I"⟩, 71), (⟨"DayBoyModel", "spread", "(I)V"⟩, 71), (⟨"DayBoyModel", "knowsYear", "(II)Z"⟩, 71), (⟨"DayBoyModel", "push", "(I)V"⟩, 71), (⟨"DayBoyModel", "flood", "(II)V"⟩, 71), (⟨"DayBoyModel", "touch", "(IIII)V"⟩, 71), (⟨"DayBoyModel", "isDate", "(IIII)Z"⟩, 71), (⟨"DayBoyModel", "stretchOf", "(IIII)I"⟩, 71), (⟨"DayBoyModel", "isCalendar", "(I)Z"⟩, 71), (⟨"DayBoyModel", "dayOf", "(IIII)I"⟩, 71), (⟨"DayBoyModel", "dateOf", "(II)I"⟩, 71), (⟨"DayBoyModel", "kindOf", "(II)I"⟩, 71), (⟨"DayBoyModel", "isHead", "(I)Z"⟩, 71)]
theorem lw_r5 : ∀ q ∈ lw_privs_5, lw_okq q := List.forall_mem_cons.mpr ⟨lw_p64, List.forall_mem_cons.mpr ⟨lw_p65, List.forall_mem_cons.mpr ⟨lw_p66, List.forall_mem_cons.mpr ⟨lw_p67, List.forall_mem_cons.mpr ⟨lw_p68, List.forall_mem_cons.mpr ⟨lw_p69, List.forall_mem_cons.mpr ⟨lw_p70, List.forall_mem_cons.mpr ⟨lw_p71, List.forall_mem_cons.mpr ⟨lw_p72, List.forall_mem_cons.mpr ⟨lw_p73, List.forall_mem_cons.mpr ⟨lw_p74, List.forall_mem_cons.mpr ⟨lw_p75, List.forall_mem_cons.mpr ⟨lw_p76, List.forall_mem_cons.mpr ⟨lw_p77, List.forall_mem_cons.mpr ⟨lw_p78, List.forall_mem_cons.mpr ⟨lw_p79, fun _ h => absurd h List.not_mem_nil⟩⟩⟩⟩⟩⟩⟩⟩⟩⟩⟩⟩⟩⟩⟩⟩
theorem lw_p80 : lw_okq (⟨"DayBoyModel", "goes", "(IIII)Z"⟩, 71) := ⟨⟨by decide +kernel, by decide +kernel⟩, lw_t5 (List.mem_of_getElem? (i := 171) rfl), lw_t7 (List.mem_of_getElem? (i := 122) rfl), lw_t7 (List.mem_of_getElem? (i := 123) rfl)⟩
theorem lw_p81 : lw_okq (⟨"DayBoyModel", "nextYear", "(II)I"⟩, 71) := ⟨⟨by decide +kernel, by decide +kernel⟩, lw_t5 (List.mem_of_getElem? (i := 171) rfl), lw_t7 (List.mem_of_getElem? (i := 126) rfl), lw_t7 (List.mem_of_getElem? (i := 127) rfl)⟩
theorem lw_p82 : lw_okq (⟨"DayBoyModel", "nextMonth", "(II)I"⟩, 71) := ⟨⟨by decide +kernel, by decide +kernel⟩, lw_t5 (List.mem_of_getElem? (i := 171) rfl), lw_t7 (List.mem_of_getElem? (i := 130) rfl), lw_t7 (List.mem_of_getElem? (i := 131) rfl)⟩
theorem lw_p83 : lw_okq (⟨"DayBoyModel", "answer", "(IIIII)Z"⟩, 71) := ⟨⟨by decide +kernel, by decide +kernel⟩, lw_t5 (List.mem_of_getElem? (i := 171) rfl), lw_t7 (List.mem_of_getElem? (i := 138) rfl), lw_t7 (List.mem_of_getElem? (i := 139) rfl)⟩
theorem lw_p84 : lw_okq (⟨"DayBoyModel", "falseStep", "(I)I"⟩, 71) := ⟨⟨by decide +kernel, by decide +kernel⟩, lw_t5 (List.mem_of_getElem? (i := 171) rfl), lw_t7 (List.mem_of_getElem? (i := 145) rfl), lw_t7 (List.mem_of_getElem? (i := 146) rfl)⟩
theorem lw_p85 : lw_okq (⟨"DayBoyModel", "askDay", "(I)I"⟩, 71) := ⟨⟨by decide +kernel, by decide +kernel⟩, lw_t5 (List.mem_of_getElem? (i := 171) rfl), lw_t7 (List.mem_of_getElem? (i := 157) rfl), lw_t7 (List.mem_of_getElem? (i := 158) rfl)⟩
theorem lw_p86 : lw_okq (⟨"DayBoyModel", "isSlack", "(I)Z"⟩, 71) := ⟨⟨by decide +kernel, by decide +kernel⟩, lw_t5 (List.mem_of_getElem? (i := 171) rfl), lw_t7 (List.mem_of_getElem? (i := 165) rfl), lw_t7 (List.mem_of_getElem? (i := 166) rfl)⟩
theorem lw_p87 : lw_okq (⟨"DayBoyModel", "soMany", "(II)I"⟩, 71) := ⟨⟨by decide +kernel, by decide +kernel⟩, lw_t5 (List.mem_of_getElem? (i := 171) rfl), lw_t7 (List.mem_of_getElem? (i := 169) rfl), lw_t7 (List.mem_of_getElem? (i := 170) rfl)⟩
theorem lw_p88 : lw_okq (⟨"DayBoyModel", "isSo", "(III)Z"⟩, 71) := ⟨⟨by decide +kernel, by decide +kernel⟩, lw_t5 (List.mem_of_getElem? (i := 171) rfl), lw_t7 (List.mem_of_getElem? (i := 173) rfl), lw_t7 (List.mem_of_getElem? (i := 174) rfl)⟩
theorem lw_p89 : lw_okq (⟨"DayBoyModel", "areHeads", "(I)Z"⟩, 71) := ⟨⟨by decide +kernel, by decide +kernel⟩, lw_t5 (List.mem_of_getElem? (i := 171) rfl), lw_t7 (List.mem_of_getElem? (i := 218) rfl), lw_t7 (List.mem_of_getElem? (i := 219) rfl)⟩
theorem lw_p90 : lw_okq (⟨"DayBoyModel", "partedBy", "(II)I"⟩, 71) := ⟨⟨by decide +kernel, by decide +kernel⟩, lw_t5 (List.mem_of_getElem? (i := 171) rfl), lw_t7 (List.mem_of_getElem? (i := 222) rfl), lw_t7 (List.mem_of_getElem? (i := 223) rfl)⟩
theorem lw_p91 : lw_okq (⟨"DayBoyModel", "areApart", "(IIIIII)Z"⟩, 71) := ⟨⟨by decide +kernel, by decide +kernel⟩, lw_t5 (List.mem_of_getElem? (i := 171) rfl), lw_t7 (List.mem_of_getElem? (i := 226) rfl), lw_t7 (List.mem_of_getElem? (i := 227) rfl)⟩
theorem lw_p92 : lw_okq (⟨"DayBoyModel", "nearYears", "(IIII)V"⟩, 71) := ⟨⟨by decide +kernel, by decide +kernel⟩, lw_t5 (List.mem_of_getElem? (i := 171) rfl), lw_t8 (List.mem_of_getElem? (i := 2) rfl), lw_t8 (List.mem_of_getElem? (i := 3) rfl)⟩
theorem lw_p93 : lw_okq (⟨"DayBoyModel", "doAll", "(II)Z"⟩, 71) := ⟨⟨by decide +kernel, by decide +kernel⟩, lw_t5 (List.mem_of_getElem? (i := 171) rfl), lw_t8 (List.mem_of_getElem? (i := 8) rfl), lw_t8 (List.mem_of_getElem? (i := 9) rfl)⟩
theorem lw_p94 : lw_okq (⟨"DayBoyModel", "firstFrom", "(II)I"⟩, 71) := ⟨⟨by decide +kernel, by decide +kernel⟩, lw_t5 (List.mem_of_getElem? (i := 171) rfl), lw_t8 (List.mem_of_getElem? (i := 32) rfl), lw_t8 (List.mem_of_getElem? (i := 33) rfl)⟩
theorem lw_p95 : lw_okq (⟨"DayBoyModel", "hasEvent", "(II)Z"⟩, 71) := ⟨⟨by decide +kernel, by decide +kernel⟩, lw_t5 (List.mem_of_getElem? (i := 171) rfl), lw_t8 (List.mem_of_getElem? (i := 48) rfl), lw_t8 (List.mem_of_getElem? (i := 49) rfl)⟩
def lw_privs_6 : List (MethodName × Nat) := [(⟨"DayBoyModel", "goes", "(IIII)Z"⟩, 71), (⟨"DayBoyModel", "nextYear", "(II)I"⟩, 71), (⟨"DayBoyModel", "nextMonth", "(II)I"⟩, 71), (⟨"DayBoyModel", "answer", "(IIIII)Z"⟩, 71), (⟨"DayBoyModel", "falseStep", "(I)I"⟩, 71), (⟨"DayBoyModel", "askDay", "(I)I"⟩, 71), (⟨"DayBoyModel", "isSlack", "(I)Z"⟩, 71), (⟨"DayBoyModel", "soMany", "(II)I"⟩, 71), (⟨"DayBoyModel", "isSo", "(III)Z"⟩, 71), (⟨"DayBoyModel", "areHeads", "(I)Z"⟩, 71), (⟨"DayBoyModel", "partedBy", "(II)I"⟩, 71), (⟨"DayBoyModel", "areApart", "(IIIIII)Z"⟩, 71), (⟨"DayBoyModel", "nearYears", "(IIII)V"⟩, 71), (⟨"DayBoyModel", "doAll", "(II)Z"⟩, 71), (⟨"DayBoyModel", "firstFrom", "(II)I"⟩, 71), (⟨"DayBoyModel", "hasEvent", "(II)Z"⟩, 71)]
theorem lw_r6 : ∀ q ∈ lw_privs_6, lw_okq q := List.forall_mem_cons.mpr ⟨lw_p80, List.forall_mem_cons.mpr ⟨lw_p81, List.forall_mem_cons.mpr ⟨lw_p82, List.forall_mem_cons.mpr ⟨lw_p83, List.forall_mem_cons.mpr ⟨lw_p84, List.forall_mem_cons.mpr ⟨lw_p85, List.forall_mem_cons.mpr ⟨lw_p86, List.forall_mem_cons.mpr ⟨lw_p87, List.forall_mem_cons.mpr ⟨lw_p88, List.forall_mem_cons.mpr ⟨lw_p89, List.forall_mem_cons.mpr ⟨lw_p90, List.forall_mem_cons.mpr ⟨lw_p91, List.forall_mem_cons.mpr ⟨lw_p92, List.forall_mem_cons.mpr ⟨lw_p93, List.forall_mem_cons.mpr ⟨lw_p94, List.forall_mem_cons.mpr ⟨lw_p95, fun _ h => absurd h List.not_mem_nil⟩⟩⟩⟩⟩⟩⟩⟩⟩⟩⟩⟩⟩⟩⟩⟩
theorem lw_p96 : lw_okq (⟨"DayBoyModel", "draw", "(I)I"⟩, 71) := ⟨⟨by decide +kernel, by decide +kernel⟩, lw_t5 (List.mem_of_getElem? (i := 171) rfl), lw_t8 (List.mem_of_getElem? (i := 68) rfl), lw_t8 (List.mem_of_getElem? (i := 69) rfl)⟩
theorem lw_p97 : lw_okq (⟨"DayBoyModel", "isEased", "(I)Z"⟩, 71) := ⟨⟨by decide +kernel, by decide +kernel⟩, lw_t5 (List.mem_of_getElem? (i := 171) rfl), lw_t8 (List.mem_of_getElem? (i := 74) rfl), lw_t8 (List.mem_of_getElem? (i := 75) rfl)⟩
theorem lw_p98 : lw_okq (⟨"DayBoyModel", "areYears", "(II)Z"⟩, 71) := ⟨⟨by decide +kernel, by decide +kernel⟩, lw_t5 (List.mem_of_getElem? (i := 171) rfl), lw_t8 (List.mem_of_getElem? (i := 82) rfl), lw_t8 (List.mem_of_getElem? (i := 83) rfl)⟩
theorem lw_p99 : lw_okq (⟨"DayBoyModel", "stepTrue", "(IIII)I"⟩, 71) := ⟨⟨by decide +kernel, by decide +kernel⟩, lw_t5 (List.mem_of_getElem? (i := 171) rfl), lw_t8 (List.mem_of_getElem? (i := 86) rfl), lw_t8 (List.mem_of_getElem? (i := 87) rfl)⟩
theorem lw_p100 : lw_okq (⟨"DayBoyModel", "monthsTrue", "(IIIII)I"⟩, 71) := ⟨⟨by decide +kernel, by decide +kernel⟩, lw_t5 (List.mem_of_getElem? (i := 171) rfl), lw_t8 (List.mem_of_getElem? (i := 90) rfl), lw_t8 (List.mem_of_getElem? (i := 91) rfl)⟩
theorem lw_p101 : lw_okq (⟨"DayBoyModel", "yearsLack", "(IIII)I"⟩, 71) := ⟨⟨by decide +kernel, by decide +kernel⟩, lw_t5 (List.mem_of_getElem? (i := 171) rfl), lw_t8 (List.mem_of_getElem? (i := 102) rfl), lw_t8 (List.mem_of_getElem? (i := 103) rfl)⟩
theorem lw_p102 : lw_okq (⟨"DayBoyModel", "costOf", "(II)I"⟩, 71) := ⟨⟨by decide +kernel, by decide +kernel⟩, lw_t5 (List.mem_of_getElem? (i := 171) rfl), lw_t8 (List.mem_of_getElem? (i := 106) rfl), lw_t8 (List.mem_of_getElem? (i := 107) rfl)⟩
def lw_privs_7 : List (MethodName × Nat) := [(⟨"DayBoyModel", "draw", "(I)I"⟩, 71), (⟨"DayBoyModel", "isEased", "(I)Z"⟩, 71), (⟨"DayBoyModel", "areYears", "(II)Z"⟩, 71), (⟨"DayBoyModel", "stepTrue", "(IIII)I"⟩, 71), (⟨"DayBoyModel", "monthsTrue", "(IIIII)I"⟩, 71), (⟨"DayBoyModel", "yearsLack", "(IIII)I"⟩, 71), (⟨"DayBoyModel", "costOf", "(II)I"⟩, 71)]
theorem lw_r7 : ∀ q ∈ lw_privs_7, lw_okq q := List.forall_mem_cons.mpr ⟨lw_p96, List.forall_mem_cons.mpr ⟨lw_p97, List.forall_mem_cons.mpr ⟨lw_p98, List.forall_mem_cons.mpr ⟨lw_p99, List.forall_mem_cons.mpr ⟨lw_p100, List.forall_mem_cons.mpr ⟨lw_p101, List.forall_mem_cons.mpr ⟨lw_p102, fun _ h => absurd h List.not_mem_nil⟩⟩⟩⟩⟩⟩⟩
def lw_privs : List (MethodName × Nat) := lw_privs_1 ++ (lw_privs_2 ++ (lw_privs_3 ++ (lw_privs_4 ++ (lw_privs_5 ++ (lw_privs_6 ++ (lw_privs_7))))))
def lw_tbl : List Cond := k2_sels lw_privs ++ tables_1
theorem lw_privs_ok : ∀ q ∈ lw_privs, lw_okq q := by
  show ∀ q ∈ lw_privs_1 ++ (lw_privs_2 ++ (lw_privs_3 ++ (lw_privs_4 ++ (lw_privs_5 ++ (lw_privs_6 ++ (lw_privs_7)))))), lw_okq q
  exact List.forall_mem_append.mpr ⟨lw_r1, List.forall_mem_append.mpr ⟨lw_r2, List.forall_mem_append.mpr ⟨lw_r3, List.forall_mem_append.mpr ⟨lw_r4, List.forall_mem_append.mpr ⟨lw_r5, List.forall_mem_append.mpr ⟨lw_r6, lw_r7⟩⟩⟩⟩⟩⟩
-- ===== ONE list of words for every method: the tables' words that hold all through a run =====
def lw_all : List Cond := lw_tbl.filter goodWord
/-- a word of the tables by its place: claim/WORDS.tsv -/
theorem lw_w {w : Cond} (i : Nat) (h : lw_tbl[i]? = some w) (g : goodWord w = true) : w ∈ lw_all := List.mem_filter.mpr ⟨List.mem_of_getElem? h, g⟩
theorem lw_all_tbl {w : Cond} (h : w ∈ lw_all) : w ∈ lw_tbl := (List.mem_filter.mp h).1
theorem lw_self : GoodIn lw_all lw_all := fun w h => ⟨h, good_of_word (List.mem_filter.mp h).2⟩
/-- a class's field words, by their places -/
theorem lw_in (ws : List Cond) (ps : List Nat) (hp : ws = ps.filterMap (fun i => lw_tbl[i]?)) (hg : ws.all goodWord = true) : ∀ w ∈ ws, w ∈ lw_all := by
  intro w h
  have h1 := List.all_eq_true.mp hg w h
  rw [hp] at h
  obtain ⟨i, -, hi⟩ := List.mem_filterMap.mp h
  exact lw_w i hi h1
/-- the words of a contract for the method y with code b, L locals, answer r -/
abbrev ws_ (y : MethodName) (b : ByteArray) (L : Nat) (r : Option FieldType) : List Cond := Cond.code y b L r :: lw_all
theorem lw_meth {y : MethodName} {b : ByteArray} {L : Nat} {r : Option FieldType} (h : Cond.code y b L r ∈ lw_all) : GoodIn lw_all (ws_ y b L r) := by
  intro w hw
  rcases List.mem_cons.mp hw with e | e
  · rw [e]
    exact lw_self _ h
  · exact lw_self _ e
theorem lw_app {a c : List Cond} (ha : ∀ w ∈ a, w ∈ lw_all) (hc : GoodIn lw_all c) : GoodIn lw_all (a ++ c) := by
  intro w hw
  rcases List.mem_append.mp hw with e | e
  · exact lw_self w (ha w e)
  · exact hc w e
/-- what a call through an object asks: cwV n hts (lw_V ..) -/
theorem lw_V {own : String} {idx : Nat} {C : String} {y : MethodName} {b : ByteArray} {L : Nat} {r : Option FieldType} (h1 : Cond.methodLink own idx y ∈ lw_all) (h2 : Cond.instanceMethod y ∈ lw_all) (h3 : Cond.selects C y y ∈ lw_all) (h4 : Cond.initialized C ∈ lw_all) (h5 : Cond.code y b L r ∈ lw_all) : GoodIn lw_all (wsV own idx C y (ws_ y b L r)) := by
  refine lw_app ?_ (lw_meth h5)
  intro w hw
  simp only [List.mem_cons, List.not_mem_nil, or_false] at hw
  rcases hw with e | e | e | e
  · rw [e]; exact h1
  · rw [e]; exact h2
  · rw [e]; exact h3
  · rw [e]; exact h4
/-- what a static call asks: va_cwS n hts (lw_S ..) -/
theorem lw_S {own : String} {idx : Nat} {y : MethodName} {b : ByteArray} {L : Nat} {r : Option FieldType} (h1 : Cond.methodLink own idx y ∈ lw_all) (h2 : Cond.static y ∈ lw_all) (h3 : Cond.initialized y.cls ∈ lw_all) (h4 : Cond.code y b L r ∈ lw_all) : GoodIn lw_all (va_wsS own idx y (ws_ y b L r)) := by
  refine lw_app ?_ (lw_meth h4)
  intro w hw
  simp only [List.mem_cons, List.not_mem_nil, or_false] at hw
  rcases hw with e | e | e
  · rw [e]; exact h1
  · rw [e]; exact h2
  · rw [e]; exact h3
/-- the words of a contract for a method WITH HANDLERS (hh: its table) -/
abbrev wsW_ (y : MethodName) (b : ByteArray) (L : Nat) (r : Option FieldType) (hh : List (Nat × Nat × Nat × Nat)) : List Cond := Cond.codeWith y b L r hh :: lw_all
theorem lw_methW {y : MethodName} {b : ByteArray} {L : Nat} {r : Option FieldType} {hh : List (Nat × Nat × Nat × Nat)} (h : Cond.codeWith y b L r hh ∈ lw_all) : GoodIn lw_all (wsW_ y b L r hh) := by
  intro w hw
  rcases List.mem_cons.mp hw with e | e
  · rw [e]
    exact lw_self _ h
  · exact lw_self _ e
/-- any list of words by their places (lw_in), good -/
theorem lw_good {ws : List Cond} (h : ∀ w ∈ ws, w ∈ lw_all) : GoodIn lw_all ws := fun w hw => lw_self w (h w hw)
/-- what a call of a method with handlers asks: vx_cwVW n hts (lw_VW ..), vx_cwSW n hts (lw_SW ..) -/
theorem lw_VW {own : String} {idx : Nat} {C : String} {y : MethodName} {b : ByteArray} {L : Nat} {r : Option FieldType} {hh : List (Nat × Nat × Nat × Nat)} (h1 : Cond.methodLink own idx y ∈ lw_all) (h2 : Cond.instanceMethod y ∈ lw_all) (h3 : Cond.selects C y y ∈ lw_all) (h4 : Cond.initialized C ∈ lw_all) (h5 : Cond.codeWith y b L r hh ∈ lw_all) : GoodIn lw_all (wsV own idx C y (wsW_ y b L r hh)) := by
  refine lw_app ?_ (lw_methW h5)
  intro w hw
  simp only [List.mem_cons, List.not_mem_nil, or_false] at hw
  rcases hw with e | e | e | e
  · rw [e]; exact h1
  · rw [e]; exact h2
  · rw [e]; exact h3
  · rw [e]; exact h4
theorem lw_SW {own : String} {idx : Nat} {y : MethodName} {b : ByteArray} {L : Nat} {r : Option FieldType} {hh : List (Nat × Nat × Nat × Nat)} (h1 : Cond.methodLink own idx y ∈ lw_all) (h2 : Cond.static y ∈ lw_all) (h3 : Cond.initialized y.cls ∈ lw_all) (h4 : Cond.codeWith y b L r hh ∈ lw_all) : GoodIn lw_all (va_wsS own idx y (wsW_ y b L r hh)) := by
  refine lw_app ?_ (lw_methW h4)
  intro w hw
  simp only [List.mem_cons, List.not_mem_nil, or_false] at hw
  rcases hw with e | e | e
  · rw [e]; exact h1
  · rw [e]; exact h2
  · rw [e]; exact h3
/-- a word by its place in its run of the tables -/
theorem lw_at {r : List Cond} (hr : ∀ w ∈ r, w ∈ lw_tbl) {w : Cond} (i : Nat) (h : r[i]? = some w) : w ∈ lw_tbl := hr w (List.mem_of_getElem? h)
theorem lw_g {w : Cond} (h : w ∈ lw_tbl) (g : goodWord w = true) : w ∈ lw_all := List.mem_filter.mpr ⟨h, g⟩
theorem lw_ms : ∀ w ∈ k2_sels lw_privs, w ∈ lw_tbl := fun w h => show w ∈ k2_sels lw_privs ++ tables_1 from List.mem_append_left _ h
theorem lw_m1 : ∀ w ∈ tables_1_1, w ∈ lw_tbl := fun w h => show w ∈ k2_sels lw_privs ++ tables_1 from List.mem_append_right (k2_sels lw_privs) (show w ∈ tables_1 from List.mem_append_left _ h)
theorem lw_m2 : ∀ w ∈ tables_1_2, w ∈ lw_tbl := fun w h => show w ∈ k2_sels lw_privs ++ tables_1 from List.mem_append_right (k2_sels lw_privs) (show w ∈ tables_1 from List.mem_append_right _ (List.mem_append_left _ h))
theorem lw_m3 : ∀ w ∈ tables_1_3, w ∈ lw_tbl := fun w h => show w ∈ k2_sels lw_privs ++ tables_1 from List.mem_append_right (k2_sels lw_privs) (show w ∈ tables_1 from List.mem_append_right _ (List.mem_append_right _ (List.mem_append_left _ h)))
theorem lw_m4 : ∀ w ∈ tables_1_4, w ∈ lw_tbl := fun w h => show w ∈ k2_sels lw_privs ++ tables_1 from List.mem_append_right (k2_sels lw_privs) (show w ∈ tables_1 from List.mem_append_right _ (List.mem_append_right _ (List.mem_append_right _ (List.mem_append_left _ h))))
theorem lw_m5 : ∀ w ∈ tables_1_5, w ∈ lw_tbl := fun w h => show w ∈ k2_sels lw_privs ++ tables_1 from List.mem_append_right (k2_sels lw_privs) (show w ∈ tables_1 from List.mem_append_right _ (List.mem_append_right _ (List.mem_append_right _ (List.mem_append_right _ (List.mem_append_left _ h)))))
theorem lw_m6 : ∀ w ∈ tables_1_6, w ∈ lw_tbl := fun w h => show w ∈ k2_sels lw_privs ++ tables_1 from List.mem_append_right (k2_sels lw_privs) (show w ∈ tables_1 from List.mem_append_right _ (List.mem_append_right _ (List.mem_append_right _ (List.mem_append_right _ (List.mem_append_right _ (List.mem_append_left _ h))))))
theorem lw_m7 : ∀ w ∈ tables_1_7, w ∈ lw_tbl := fun w h => show w ∈ k2_sels lw_privs ++ tables_1 from List.mem_append_right (k2_sels lw_privs) (show w ∈ tables_1 from List.mem_append_right _ (List.mem_append_right _ (List.mem_append_right _ (List.mem_append_right _ (List.mem_append_right _ (List.mem_append_right _ (List.mem_append_left _ h)))))))
theorem lw_m8 : ∀ w ∈ tables_1_8, w ∈ lw_tbl := fun w h => show w ∈ k2_sels lw_privs ++ tables_1 from List.mem_append_right (k2_sels lw_privs) (show w ∈ tables_1 from List.mem_append_right _ (List.mem_append_right _ (List.mem_append_right _ (List.mem_append_right _ (List.mem_append_right _ (List.mem_append_right _ (List.mem_append_right _ h)))))))
theorem qs0 : (Cond.selects "DayBoy" ⟨"DayBoy", "bring", "(I)V"⟩ ⟨"DayBoy", "bring", "(I)V"⟩) ∈ lw_all := lw_g (lw_at lw_ms 0 rfl) rfl
theorem qs1 : (Cond.selects "DayBoy$Reader" ⟨"DayBoy$Reader", "number", "(II)I"⟩ ⟨"DayBoy$Reader", "number", "(II)I"⟩) ∈ lw_all := lw_g (lw_at lw_ms 1 rfl) rfl
theorem qs2 : (Cond.selects "DayBoy$Reader" ⟨"DayBoy$Reader", "look", "()I"⟩ ⟨"DayBoy$Reader", "look", "()I"⟩) ∈ lw_all := lw_g (lw_at lw_ms 2 rfl) rfl
theorem qs3 : (Cond.selects "DayBoy$Reader" ⟨"DayBoy$Reader", "here", "()I"⟩ ⟨"DayBoy$Reader", "here", "()I"⟩) ∈ lw_all := lw_g (lw_at lw_ms 3 rfl) rfl
theorem qs4 : (Cond.selects "DayBoy$Reader" ⟨"DayBoy$Reader", "isDigit", "()Z"⟩ ⟨"DayBoy$Reader", "isDigit", "()Z"⟩) ∈ lw_all := lw_g (lw_at lw_ms 4 rfl) rfl
theorem qs5 : (Cond.selects "DayBoy$Reader" ⟨"DayBoy$Reader", "take", "(Z)I"⟩ ⟨"DayBoy$Reader", "take", "(Z)I"⟩) ∈ lw_all := lw_g (lw_at lw_ms 5 rfl) rfl
theorem qs6 : (Cond.selects "java/lang/Throwable" ⟨"java/lang/Throwable", "fillInStackTrace", "(I)Ljava/lang/Throwable;"⟩ ⟨"java/lang/Throwable", "fillInStackTrace", "(I)Ljava/lang/Throwable;"⟩) ∈ lw_all := lw_g (lw_at lw_ms 6 rfl) rfl
theorem qs7 : (Cond.selects "DayBoy$Reader" ⟨"DayBoy$Reader", "right", "(IZ)I"⟩ ⟨"DayBoy$Reader", "right", "(IZ)I"⟩) ∈ lw_all := lw_g (lw_at lw_ms 7 rfl) rfl
theorem qs8 : (Cond.selects "DayBoy$Reader" ⟨"DayBoy$Reader", "takes", "(I)V"⟩ ⟨"DayBoy$Reader", "takes", "(I)V"⟩) ∈ lw_all := lw_g (lw_at lw_ms 8 rfl) rfl
theorem qs9 : (Cond.selects "DayBoy$Reader" ⟨"DayBoy$Reader", "leaps", "(LDayBoy$Leaps;)V"⟩ ⟨"DayBoy$Reader", "leaps", "(LDayBoy$Leaps;)V"⟩) ∈ lw_all := lw_g (lw_at lw_ms 9 rfl) rfl
theorem qs10 : (Cond.selects "DayBoy$Reader" ⟨"DayBoy$Reader", "change", "(LDayBoy$Almanac;)V"⟩ ⟨"DayBoy$Reader", "change", "(LDayBoy$Almanac;)V"⟩) ∈ lw_all := lw_g (lw_at lw_ms 10 rfl) rfl
theorem qs11 : (Cond.selects "DayBoy$Leaps" ⟨"DayBoy$Leaps", "ofYear", "(I)I"⟩ ⟨"DayBoy$Leaps", "ofYear", "(I)I"⟩) ∈ lw_all := lw_g (lw_at lw_ms 11 rfl) rfl
theorem qs12 : (Cond.selects "DayBoy$Leaps" ⟨"DayBoy$Leaps", "ahead", "(II)I"⟩ ⟨"DayBoy$Leaps", "ahead", "(II)I"⟩) ∈ lw_all := lw_g (lw_at lw_ms 12 rfl) rfl
theorem qs13 : (Cond.selects "DayBoy$Reader" ⟨"DayBoy$Reader", "ends", "()V"⟩ ⟨"DayBoy$Reader", "ends", "()V"⟩) ∈ lw_all := lw_g (lw_at lw_ms 13 rfl) rfl
theorem qs14 : (Cond.selects "DayBoy$Reader" ⟨"DayBoy$Reader", "item", "(LDayBoy$Head;)LDayBoy$Item;"⟩ ⟨"DayBoy$Reader", "item", "(LDayBoy$Head;)LDayBoy$Item;"⟩) ∈ lw_all := lw_g (lw_at lw_ms 14 rfl) rfl
theorem qs15 : (Cond.selects "DayBoy$Reader" ⟨"DayBoy$Reader", "range", "()LDayBoy$Item;"⟩ ⟨"DayBoy$Reader", "range", "()LDayBoy$Item;"⟩) ∈ lw_all := lw_g (lw_at lw_ms 15 rfl) rfl
theorem qs16 : (Cond.selects "DayBoy$Reader" ⟨"DayBoy$Reader", "step", "(LDayBoy$Head;)LDayBoy$Item;"⟩ ⟨"DayBoy$Reader", "step", "(LDayBoy$Head;)LDayBoy$Item;"⟩) ∈ lw_all := lw_g (lw_at lw_ms 16 rfl) rfl
theorem qs17 : (Cond.selects "DayBoy$Reader" ⟨"DayBoy$Reader", "alike", "()LDayBoy$Item;"⟩ ⟨"DayBoy$Reader", "alike", "()LDayBoy$Item;"⟩) ∈ lw_all := lw_g (lw_at lw_ms 17 rfl) rfl
theorem qs18 : (Cond.selects "DayBoy$Reader" ⟨"DayBoy$Reader", "own", "(LDayBoy$Head;)LDayBoy$Item;"⟩ ⟨"DayBoy$Reader", "own", "(LDayBoy$Head;)LDayBoy$Item;"⟩) ∈ lw_all := lw_g (lw_at lw_ms 18 rfl) rfl
theorem qs19 : (Cond.selects "DayBoy$Head" ⟨"DayBoy$Head", "clear", "()V"⟩ ⟨"DayBoy$Head", "clear", "()V"⟩) ∈ lw_all := lw_g (lw_at lw_ms 19 rfl) rfl
theorem qs20 : (Cond.selects "DayBoy$Head" ⟨"DayBoy$Head", "improve", "(IJ)V"⟩ ⟨"DayBoy$Head", "improve", "(IJ)V"⟩) ∈ lw_all := lw_g (lw_at lw_ms 20 rfl) rfl
theorem qs21 : (Cond.selects "DayBoy$Head" ⟨"DayBoy$Head", "spread", "()V"⟩ ⟨"DayBoy$Head", "spread", "()V"⟩) ∈ lw_all := lw_g (lw_at lw_ms 21 rfl) rfl
theorem qs22 : (Cond.selects "DayBoy" ⟨"DayBoy", "isCalendar", "(I)Z"⟩ ⟨"DayBoy", "isCalendar", "(I)Z"⟩) ∈ lw_all := lw_g (lw_at lw_ms 22 rfl) rfl
theorem qs23 : (Cond.selects "DayBoy$Almanac" ⟨"DayBoy$Almanac", "eraAt", "(I)LDayBoy$Era;"⟩ ⟨"DayBoy$Almanac", "eraAt", "(I)LDayBoy$Era;"⟩) ∈ lw_all := lw_g (lw_at lw_ms 23 rfl) rfl
theorem qs24 : (Cond.selects "DayBoy" ⟨"DayBoy", "isDate", "(IIII)Z"⟩ ⟨"DayBoy", "isDate", "(IIII)Z"⟩) ∈ lw_all := lw_g (lw_at lw_ms 24 rfl) rfl
theorem qs25 : (Cond.selects "DayBoy$Almanac" ⟨"DayBoy$Almanac", "eraOf", "(III)LDayBoy$Era;"⟩ ⟨"DayBoy$Almanac", "eraOf", "(III)LDayBoy$Era;"⟩) ∈ lw_all := lw_g (lw_at lw_ms 25 rfl) rfl
theorem qs26 : (Cond.selects "DayBoy" ⟨"DayBoy", "isAnswered", "(IIIII)Z"⟩ ⟨"DayBoy", "isAnswered", "(IIIII)Z"⟩) ∈ lw_all := lw_g (lw_at lw_ms 26 rfl) rfl
theorem qs27 : (Cond.selects "DayBoy" ⟨"DayBoy", "isHead", "(I)Z"⟩ ⟨"DayBoy", "isHead", "(I)Z"⟩) ∈ lw_all := lw_g (lw_at lw_ms 27 rfl) rfl
theorem qs28 : (Cond.selects "DayBoy" ⟨"DayBoy", "hasWay", "(LDayBoy$Head;LDayBoy$Almanac;II)Z"⟩ ⟨"DayBoy", "hasWay", "(LDayBoy$Head;LDayBoy$Almanac;II)Z"⟩) ∈ lw_all := lw_g (lw_at lw_ms 28 rfl) rfl
theorem qs29 : (Cond.selects "DayBoy$Head" ⟨"DayBoy$Head", "better", "(IIJ)I"⟩ ⟨"DayBoy$Head", "better", "(IIJ)I"⟩) ∈ lw_all := lw_g (lw_at lw_ms 29 rfl) rfl
theorem qs30 : (Cond.selects "DayBoy" ⟨"DayBoy", "soMany", "(LDayBoy$Head;I)I"⟩ ⟨"DayBoy", "soMany", "(LDayBoy$Head;I)I"⟩) ∈ lw_all := lw_g (lw_at lw_ms 30 rfl) rfl
theorem qs31 : (Cond.selects "DayBoy" ⟨"DayBoy", "isSo", "(LDayBoy$Head;LDayBoy$Ask;I)Z"⟩ ⟨"DayBoy", "isSo", "(LDayBoy$Head;LDayBoy$Ask;I)Z"⟩) ∈ lw_all := lw_g (lw_at lw_ms 31 rfl) rfl
theorem qs32 : (Cond.selects "DayBoy" ⟨"DayBoy", "birthday", "(I)I"⟩ ⟨"DayBoy", "birthday", "(I)I"⟩) ∈ lw_all := lw_g (lw_at lw_ms 32 rfl) rfl
theorem qs33 : (Cond.selects "DayBoy" ⟨"DayBoy", "kindOf", "(LDayBoy$Ask;)I"⟩ ⟨"DayBoy", "kindOf", "(LDayBoy$Ask;)I"⟩) ∈ lw_all := lw_g (lw_at lw_ms 33 rfl) rfl
theorem qs34 : (Cond.selects "DayBoy" ⟨"DayBoy", "isLearnt", "(LDayBoy$Head;LDayBoy$Head;II)Z"⟩ ⟨"DayBoy", "isLearnt", "(LDayBoy$Head;LDayBoy$Head;II)Z"⟩) ∈ lw_all := lw_g (lw_at lw_ms 34 rfl) rfl
theorem qs35 : (Cond.selects "DayBoy" ⟨"DayBoy", "areHeads", "(I)Z"⟩ ⟨"DayBoy", "areHeads", "(I)Z"⟩) ∈ lw_all := lw_g (lw_at lw_ms 35 rfl) rfl
theorem qs36 : (Cond.selects "DayBoy" ⟨"DayBoy", "partedBy", "(II)I"⟩ ⟨"DayBoy", "partedBy", "(II)I"⟩) ∈ lw_all := lw_g (lw_at lw_ms 36 rfl) rfl
theorem qs37 : (Cond.selects "DayBoy" ⟨"DayBoy", "partsAt", "(LDayBoy$Head;LDayBoy$Head;LDayBoy$Almanac;III)Z"⟩ ⟨"DayBoy", "partsAt", "(LDayBoy$Head;LDayBoy$Head;LDayBoy$Almanac;III)Z"⟩) ∈ lw_all := lw_g (lw_at lw_ms 37 rfl) rfl
theorem qs38 : (Cond.selects "DayBoy" ⟨"DayBoy", "layGets", "(LDayBoy$Head;II)V"⟩ ⟨"DayBoy", "layGets", "(LDayBoy$Head;II)V"⟩) ∈ lw_all := lw_g (lw_at lw_ms 38 rfl) rfl
theorem qs39 : (Cond.selects "DayBoy" ⟨"DayBoy", "isCovered", "(III)Z"⟩ ⟨"DayBoy", "isCovered", "(III)Z"⟩) ∈ lw_all := lw_g (lw_at lw_ms 39 rfl) rfl
theorem qs40 : (Cond.selects "DayBoy" ⟨"DayBoy", "holds", "(II)Z"⟩ ⟨"DayBoy", "holds", "(II)Z"⟩) ∈ lw_all := lw_g (lw_at lw_ms 40 rfl) rfl
theorem qs41 : (Cond.selects "DayBoy" ⟨"DayBoy", "answerTo", "(LDayBoy$Head;LDayBoy$Almanac;I)I"⟩ ⟨"DayBoy", "answerTo", "(LDayBoy$Head;LDayBoy$Almanac;I)I"⟩) ∈ lw_all := lw_g (lw_at lw_ms 41 rfl) rfl
theorem qs42 : (Cond.selects "DayBoy" ⟨"DayBoy", "tenthsOfPlan", "(LDayBoy$Head;III)I"⟩ ⟨"DayBoy", "tenthsOfPlan", "(LDayBoy$Head;III)I"⟩) ∈ lw_all := lw_g (lw_at lw_ms 42 rfl) rfl
theorem qs43 : (Cond.selects "DayBoy" ⟨"DayBoy", "planKind", "(I)I"⟩ ⟨"DayBoy", "planKind", "(I)I"⟩) ∈ lw_all := lw_g (lw_at lw_ms 43 rfl) rfl
theorem qs44 : (Cond.selects "DayBoyModel" ⟨"DayBoyModel", "readCalendar", "(I)I"⟩ ⟨"DayBoyModel", "readCalendar", "(I)I"⟩) ∈ lw_all := lw_g (lw_at lw_ms 44 rfl) rfl
theorem qs45 : (Cond.selects "DayBoyModel" ⟨"DayBoyModel", "plain", "(II)I"⟩ ⟨"DayBoyModel", "plain", "(II)I"⟩) ∈ lw_all := lw_g (lw_at lw_ms 45 rfl) rfl
theorem qs46 : (Cond.selects "DayBoyModel" ⟨"DayBoyModel", "number", "(II)I"⟩ ⟨"DayBoyModel", "number", "(II)I"⟩) ∈ lw_all := lw_g (lw_at lw_ms 46 rfl) rfl
theorem qs47 : (Cond.selects "DayBoyModel" ⟨"DayBoyModel", "look", "()I"⟩ ⟨"DayBoyModel", "look", "()I"⟩) ∈ lw_all := lw_g (lw_at lw_ms 47 rfl) rfl
theorem qs48 : (Cond.selects "DayBoyModel" ⟨"DayBoyModel", "here", "()I"⟩ ⟨"DayBoyModel", "here", "()I"⟩) ∈ lw_all := lw_g (lw_at lw_ms 48 rfl) rfl
theorem qs49 : (Cond.selects "DayBoyModel" ⟨"DayBoyModel", "bad", "()V"⟩ ⟨"DayBoyModel", "bad", "()V"⟩) ∈ lw_all := lw_g (lw_at lw_ms 49 rfl) rfl
theorem qs50 : (Cond.selects "DayBoyModel" ⟨"DayBoyModel", "wrongAtLast", "()V"⟩ ⟨"DayBoyModel", "wrongAtLast", "()V"⟩) ∈ lw_all := lw_g (lw_at lw_ms 50 rfl) rfl
theorem qs51 : (Cond.selects "DayBoyModel" ⟨"DayBoyModel", "closeNumber", "()V"⟩ ⟨"DayBoyModel", "closeNumber", "()V"⟩) ∈ lw_all := lw_g (lw_at lw_ms 51 rfl) rfl
theorem qs52 : (Cond.selects "DayBoyModel" ⟨"DayBoyModel", "sign", "(I)V"⟩ ⟨"DayBoyModel", "sign", "(I)V"⟩) ∈ lw_all := lw_g (lw_at lw_ms 52 rfl) rfl
theorem qs53 : (Cond.selects "DayBoyModel" ⟨"DayBoyModel", "readLeaps", "(I)V"⟩ ⟨"DayBoyModel", "readLeaps", "(I)V"⟩) ∈ lw_all := lw_g (lw_at lw_ms 53 rfl) rfl
theorem qs54 : (Cond.selects "DayBoyModel" ⟨"DayBoyModel", "layOut", "(I)V"⟩ ⟨"DayBoyModel", "layOut", "(I)V"⟩) ∈ lw_all := lw_g (lw_at lw_ms 54 rfl) rfl
theorem qs55 : (Cond.selects "DayBoyModel" ⟨"DayBoyModel", "isLeap", "(II)Z"⟩ ⟨"DayBoyModel", "isLeap", "(II)Z"⟩) ∈ lw_all := lw_g (lw_at lw_ms 55 rfl) rfl
theorem qs56 : (Cond.selects "DayBoyModel" ⟨"DayBoyModel", "change", "(II)V"⟩ ⟨"DayBoyModel", "change", "(II)V"⟩) ∈ lw_all := lw_g (lw_at lw_ms 56 rfl) rfl
theorem qs57 : (Cond.selects "DayBoyModel" ⟨"DayBoyModel", "daysOf", "(III)I"⟩ ⟨"DayBoyModel", "daysOf", "(III)I"⟩) ∈ lw_all := lw_g (lw_at lw_ms 57 rfl) rfl
theorem qs58 : (Cond.selects "DayBoyModel" ⟨"DayBoyModel", "ordinal", "(II)I"⟩ ⟨"DayBoyModel", "ordinal", "(II)I"⟩) ∈ lw_all := lw_g (lw_at lw_ms 58 rfl) rfl
theorem qs59 : (Cond.selects "DayBoyModel" ⟨"DayBoyModel", "dated", "(II)I"⟩ ⟨"DayBoyModel", "dated", "(II)I"⟩) ∈ lw_all := lw_g (lw_at lw_ms 59 rfl) rfl
theorem qs60 : (Cond.selects "DayBoyModel" ⟨"DayBoyModel", "readHead", "(I)I"⟩ ⟨"DayBoyModel", "readHead", "(I)I"⟩) ∈ lw_all := lw_g (lw_at lw_ms 60 rfl) rfl
theorem qs61 : (Cond.selects "DayBoyModel" ⟨"DayBoyModel", "item", "(I)V"⟩ ⟨"DayBoyModel", "item", "(I)V"⟩) ∈ lw_all := lw_g (lw_at lw_ms 61 rfl) rfl
theorem qs62 : (Cond.selects "DayBoyModel" ⟨"DayBoyModel", "readStep", "(I)V"⟩ ⟨"DayBoyModel", "readStep", "(I)V"⟩) ∈ lw_all := lw_g (lw_at lw_ms 62 rfl) rfl
theorem qs63 : (Cond.selects "DayBoyModel" ⟨"DayBoyModel", "readLike", "(I)V"⟩ ⟨"DayBoyModel", "readLike", "(I)V"⟩) ∈ lw_all := lw_g (lw_at lw_ms 63 rfl) rfl
theorem qs64 : (Cond.selects "DayBoyModel" ⟨"DayBoyModel", "readCost", "(II)V"⟩ ⟨"DayBoyModel", "readCost", "(II)V"⟩) ∈ lw_all := lw_g (lw_at lw_ms 64 rfl) rfl
theorem qs65 : (Cond.selects "DayBoyModel" ⟨"DayBoyModel", "readRow", "(Z)I"⟩ ⟨"DayBoyModel", "readRow", "(Z)I"⟩) ∈ lw_all := lw_g (lw_at lw_ms 65 rfl) rfl
theorem qs66 : (Cond.selects "DayBoyModel" ⟨"DayBoyModel", "readThing", "(IZ)V"⟩ ⟨"DayBoyModel", "readThing", "(IZ)V"⟩) ∈ lw_all := lw_g (lw_at lw_ms 66 rfl) rfl
theorem qs67 : (Cond.selects "DayBoyModel" ⟨"DayBoyModel", "takeRow", "()I"⟩ ⟨"DayBoyModel", "takeRow", "()I"⟩) ∈ lw_all := lw_g (lw_at lw_ms 67 rfl) rfl
theorem qs68 : (Cond.selects "DayBoyModel" ⟨"DayBoyModel", "spread", "(I)V"⟩ ⟨"DayBoyModel", "spread", "(I)V"⟩) ∈ lw_all := lw_g (lw_at lw_ms 68 rfl) rfl
theorem qs69 : (Cond.selects "DayBoyModel" ⟨"DayBoyModel", "knowsYear", "(II)Z"⟩ ⟨"DayBoyModel", "knowsYear", "(II)Z"⟩) ∈ lw_all := lw_g (lw_at lw_ms 69 rfl) rfl
theorem qs70 : (Cond.selects "DayBoyModel" ⟨"DayBoyModel", "push", "(I)V"⟩ ⟨"DayBoyModel", "push", "(I)V"⟩) ∈ lw_all := lw_g (lw_at lw_ms 70 rfl) rfl
theorem qs71 : (Cond.selects "DayBoyModel" ⟨"DayBoyModel", "flood", "(II)V"⟩ ⟨"DayBoyModel", "flood", "(II)V"⟩) ∈ lw_all := lw_g (lw_at lw_ms 71 rfl) rfl
theorem qs72 : (Cond.selects "DayBoyModel" ⟨"DayBoyModel", "touch", "(IIII)V"⟩ ⟨"DayBoyModel", "touch", "(IIII)V"⟩) ∈ lw_all := lw_g (lw_at lw_ms 72 rfl) rfl
theorem qs73 : (Cond.selects "DayBoyModel" ⟨"DayBoyModel", "isDate", "(IIII)Z"⟩ ⟨"DayBoyModel", "isDate", "(IIII)Z"⟩) ∈ lw_all := lw_g (lw_at lw_ms 73 rfl) rfl
theorem qs74 : (Cond.selects "DayBoyModel" ⟨"DayBoyModel", "stretchOf", "(IIII)I"⟩ ⟨"DayBoyModel", "stretchOf", "(IIII)I"⟩) ∈ lw_all := lw_g (lw_at lw_ms 74 rfl) rfl
theorem qs75 : (Cond.selects "DayBoyModel" ⟨"DayBoyModel", "isCalendar", "(I)Z"⟩ ⟨"DayBoyModel", "isCalendar", "(I)Z"⟩) ∈ lw_all := lw_g (lw_at lw_ms 75 rfl) rfl
theorem qs76 : (Cond.selects "DayBoyModel" ⟨"DayBoyModel", "dayOf", "(IIII)I"⟩ ⟨"DayBoyModel", "dayOf", "(IIII)I"⟩) ∈ lw_all := lw_g (lw_at lw_ms 76 rfl) rfl
theorem qs77 : (Cond.selects "DayBoyModel" ⟨"DayBoyModel", "dateOf", "(II)I"⟩ ⟨"DayBoyModel", "dateOf", "(II)I"⟩) ∈ lw_all := lw_g (lw_at lw_ms 77 rfl) rfl
theorem qs78 : (Cond.selects "DayBoyModel" ⟨"DayBoyModel", "kindOf", "(II)I"⟩ ⟨"DayBoyModel", "kindOf", "(II)I"⟩) ∈ lw_all := lw_g (lw_at lw_ms 78 rfl) rfl
theorem qs79 : (Cond.selects "DayBoyModel" ⟨"DayBoyModel", "isHead", "(I)Z"⟩ ⟨"DayBoyModel", "isHead", "(I)Z"⟩) ∈ lw_all := lw_g (lw_at lw_ms 79 rfl) rfl
theorem qs80 : (Cond.selects "DayBoyModel" ⟨"DayBoyModel", "goes", "(IIII)Z"⟩ ⟨"DayBoyModel", "goes", "(IIII)Z"⟩) ∈ lw_all := lw_g (lw_at lw_ms 80 rfl) rfl
theorem qs81 : (Cond.selects "DayBoyModel" ⟨"DayBoyModel", "nextYear", "(II)I"⟩ ⟨"DayBoyModel", "nextYear", "(II)I"⟩) ∈ lw_all := lw_g (lw_at lw_ms 81 rfl) rfl
theorem qs82 : (Cond.selects "DayBoyModel" ⟨"DayBoyModel", "nextMonth", "(II)I"⟩ ⟨"DayBoyModel", "nextMonth", "(II)I"⟩) ∈ lw_all := lw_g (lw_at lw_ms 82 rfl) rfl
theorem qs83 : (Cond.selects "DayBoyModel" ⟨"DayBoyModel", "answer", "(IIIII)Z"⟩ ⟨"DayBoyModel", "answer", "(IIIII)Z"⟩) ∈ lw_all := lw_g (lw_at lw_ms 83 rfl) rfl
theorem qs84 : (Cond.selects "DayBoyModel" ⟨"DayBoyModel", "falseStep", "(I)I"⟩ ⟨"DayBoyModel", "falseStep", "(I)I"⟩) ∈ lw_all := lw_g (lw_at lw_ms 84 rfl) rfl
theorem qs85 : (Cond.selects "DayBoyModel" ⟨"DayBoyModel", "askDay", "(I)I"⟩ ⟨"DayBoyModel", "askDay", "(I)I"⟩) ∈ lw_all := lw_g (lw_at lw_ms 85 rfl) rfl
theorem qs86 : (Cond.selects "DayBoyModel" ⟨"DayBoyModel", "isSlack", "(I)Z"⟩ ⟨"DayBoyModel", "isSlack", "(I)Z"⟩) ∈ lw_all := lw_g (lw_at lw_ms 86 rfl) rfl
theorem qs87 : (Cond.selects "DayBoyModel" ⟨"DayBoyModel", "soMany", "(II)I"⟩ ⟨"DayBoyModel", "soMany", "(II)I"⟩) ∈ lw_all := lw_g (lw_at lw_ms 87 rfl) rfl
theorem qs88 : (Cond.selects "DayBoyModel" ⟨"DayBoyModel", "isSo", "(III)Z"⟩ ⟨"DayBoyModel", "isSo", "(III)Z"⟩) ∈ lw_all := lw_g (lw_at lw_ms 88 rfl) rfl
theorem qs89 : (Cond.selects "DayBoyModel" ⟨"DayBoyModel", "areHeads", "(I)Z"⟩ ⟨"DayBoyModel", "areHeads", "(I)Z"⟩) ∈ lw_all := lw_g (lw_at lw_ms 89 rfl) rfl
theorem qs90 : (Cond.selects "DayBoyModel" ⟨"DayBoyModel", "partedBy", "(II)I"⟩ ⟨"DayBoyModel", "partedBy", "(II)I"⟩) ∈ lw_all := lw_g (lw_at lw_ms 90 rfl) rfl
theorem qs91 : (Cond.selects "DayBoyModel" ⟨"DayBoyModel", "areApart", "(IIIIII)Z"⟩ ⟨"DayBoyModel", "areApart", "(IIIIII)Z"⟩) ∈ lw_all := lw_g (lw_at lw_ms 91 rfl) rfl
theorem qs92 : (Cond.selects "DayBoyModel" ⟨"DayBoyModel", "nearYears", "(IIII)V"⟩ ⟨"DayBoyModel", "nearYears", "(IIII)V"⟩) ∈ lw_all := lw_g (lw_at lw_ms 92 rfl) rfl
theorem qs93 : (Cond.selects "DayBoyModel" ⟨"DayBoyModel", "doAll", "(II)Z"⟩ ⟨"DayBoyModel", "doAll", "(II)Z"⟩) ∈ lw_all := lw_g (lw_at lw_ms 93 rfl) rfl
theorem qs94 : (Cond.selects "DayBoyModel" ⟨"DayBoyModel", "firstFrom", "(II)I"⟩ ⟨"DayBoyModel", "firstFrom", "(II)I"⟩) ∈ lw_all := lw_g (lw_at lw_ms 94 rfl) rfl
theorem qs95 : (Cond.selects "DayBoyModel" ⟨"DayBoyModel", "hasEvent", "(II)Z"⟩ ⟨"DayBoyModel", "hasEvent", "(II)Z"⟩) ∈ lw_all := lw_g (lw_at lw_ms 95 rfl) rfl
theorem qs96 : (Cond.selects "DayBoyModel" ⟨"DayBoyModel", "draw", "(I)I"⟩ ⟨"DayBoyModel", "draw", "(I)I"⟩) ∈ lw_all := lw_g (lw_at lw_ms 96 rfl) rfl
theorem qs97 : (Cond.selects "DayBoyModel" ⟨"DayBoyModel", "isEased", "(I)Z"⟩ ⟨"DayBoyModel", "isEased", "(I)Z"⟩) ∈ lw_all := lw_g (lw_at lw_ms 97 rfl) rfl
theorem qs98 : (Cond.selects "DayBoyModel" ⟨"DayBoyModel", "areYears", "(II)Z"⟩ ⟨"DayBoyModel", "areYears", "(II)Z"⟩) ∈ lw_all := lw_g (lw_at lw_ms 98 rfl) rfl
theorem qs99 : (Cond.selects "DayBoyModel" ⟨"DayBoyModel", "stepTrue", "(IIII)I"⟩ ⟨"DayBoyModel", "stepTrue", "(IIII)I"⟩) ∈ lw_all := lw_g (lw_at lw_ms 99 rfl) rfl
theorem qs100 : (Cond.selects "DayBoyModel" ⟨"DayBoyModel", "monthsTrue", "(IIIII)I"⟩ ⟨"DayBoyModel", "monthsTrue", "(IIIII)I"⟩) ∈ lw_all := lw_g (lw_at lw_ms 100 rfl) rfl
theorem qs101 : (Cond.selects "DayBoyModel" ⟨"DayBoyModel", "yearsLack", "(IIII)I"⟩ ⟨"DayBoyModel", "yearsLack", "(IIII)I"⟩) ∈ lw_all := lw_g (lw_at lw_ms 101 rfl) rfl
theorem qs102 : (Cond.selects "DayBoyModel" ⟨"DayBoyModel", "costOf", "(II)I"⟩ ⟨"DayBoyModel", "costOf", "(II)I"⟩) ∈ lw_all := lw_g (lw_at lw_ms 102 rfl) rfl
