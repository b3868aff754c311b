-- ===== PART A: goes FIRST, ahead of the names: the tables' words, and 'selects' of the private methods out of them =====
/-- a private method of a class that the tables say can be made, by its rows of tables_1 -/
def lw_okq (q : MethodName × Nat) : Prop := (q.1.cls ≠ "java/lang/invoke/MethodHandle" ∧ q.1.cls ≠ "java/lang/invoke/VarHandle") ∧ Cond.instantiable q.1.cls q.2 ∈ tables_1 ∧ Cond.privateMethod q.1 ∈ tables_1 ∧ Cond.instanceMethod q.1 ∈ tables_1
set_option maxRecDepth 100000
theorem lw_t1 {w : Cond} (h : w ∈ tables_1_1) : w ∈ tables_1 := List.mem_append_left _ h
theorem lw_t2 {w : Cond} (h : w ∈ tables_1_2) : w ∈ tables_1 := List.mem_append_right _ (List.mem_append_left _ h)
theorem lw_t3 {w : Cond} (h : w ∈ tables_1_3) : w ∈ tables_1 := List.mem_append_right _ (List.mem_append_right _ (List.mem_append_left _ h))
theorem lw_t4 {w : Cond} (h : w ∈ tables_1_4) : w ∈ tables_1 := List.mem_append_right _ (List.mem_append_right _ (List.mem_append_right _ (List.mem_append_left _ h)))
theorem lw_t5 {w : Cond} (h : w ∈ tables_1_5) : w ∈ tables_1 := List.mem_append_right _ (List.mem_append_right _ (List.mem_append_right _ (List.mem_append_right _ (List.mem_append_left _ h))))
theorem lw_t6 {w : Cond} (h : w ∈ tables_1_6) : w ∈ tables_1 := List.mem_append_right _ (List.mem_append_right _ (List.mem_append_right _ (List.mem_append_right _ (List.mem_append_right _ (List.mem_append_left _ h)))))
theorem lw_t7 {w : Cond} (h : w ∈ tables_1_7) : w ∈ tables_1 := List.mem_append_right _ (List.mem_append_right _ (List.mem_append_right _ (List.mem_append_right _ (List.mem_append_right _ (List.mem_append_right _ (List.mem_append_left _ h))))))
theorem lw_t8 {w : Cond} (h : w ∈ tables_1_8) : w ∈ tables_1 := List.mem_append_right _ (List.mem_append_right _ (List.mem_append_right _ (List.mem_append_right _ (List.mem_append_right _ (List.mem_append_right _ (List.mem_append_right _ h))))))
theorem lw_p0 : lw_okq (⟨"java/lang/NullPointerException", "getExtendedNPEMessage", "()Ljava/lang/String;"⟩, 8) := ⟨⟨by decide +kernel, by decide +kernel⟩, lw_t1 (List.mem_of_getElem? (i := 136) rfl), lw_t1 (List.mem_of_getElem? (i := 134) rfl), lw_t1 (List.mem_of_getElem? (i := 135) rfl)⟩
theorem lw_p1 : lw_okq (⟨"java/lang/Throwable", "fillInStackTrace", "(I)Ljava/lang/Throwable;"⟩, 6) := ⟨⟨by decide +kernel, by decide +kernel⟩, lw_t1 (List.mem_of_getElem? (i := 148) rfl), lw_t1 (List.mem_of_getElem? (i := 146) rfl), lw_t1 (List.mem_of_getElem? (i := 147) rfl)⟩
theorem lw_p2 : lw_okq (⟨"SendTheBox", "no", "(I)I"⟩, 6) := ⟨⟨by decide +kernel, by decide +kernel⟩, lw_t1 (List.mem_of_getElem? (i := 36) rfl), lw_t1 (List.mem_of_getElem? (i := 198) rfl), lw_t1 (List.mem_of_getElem? (i := 199) rfl)⟩
theorem lw_p3 : lw_okq (⟨"SendTheBox", "rowIn", "(I)Ljava/lang/Object;"⟩, 6) := ⟨⟨by decide +kernel, by decide +kernel⟩, lw_t1 (List.mem_of_getElem? (i := 36) rfl), lw_t1 (List.mem_of_getElem? (i := 232) rfl), lw_t1 (List.mem_of_getElem? (i := 233) rfl)⟩
theorem lw_p4 : lw_okq (⟨"SendTheBox", "ruleOf", "(II)LSendTheBox$Rule;"⟩, 6) := ⟨⟨by decide +kernel, by decide +kernel⟩, lw_t1 (List.mem_of_getElem? (i := 36) rfl), lw_t2 (List.mem_of_getElem? (i := 117) rfl), lw_t2 (List.mem_of_getElem? (i := 118) rfl)⟩
theorem lw_p5 : lw_okq (⟨"SendTheBox", "ruleIn", "(I)LSendTheBox$Rule;"⟩, 6) := ⟨⟨by decide +kernel, by decide +kernel⟩, lw_t1 (List.mem_of_getElem? (i := 36) rfl), lw_t2 (List.mem_of_getElem? (i := 224) rfl), lw_t2 (List.mem_of_getElem? (i := 225) rfl)⟩
theorem lw_p6 : lw_okq (⟨"SendTheBox$Reader", "next", "()V"⟩, 7) := ⟨⟨by decide +kernel, by decide +kernel⟩, lw_t3 (List.mem_of_getElem? (i := 18) rfl), lw_t3 (List.mem_of_getElem? (i := 134) rfl), lw_t3 (List.mem_of_getElem? (i := 135) rfl)⟩
theorem lw_p7 : lw_okq (⟨"SendTheBox$Reader", "isIn", "(II)Z"⟩, 7) := ⟨⟨by decide +kernel, by decide +kernel⟩, lw_t3 (List.mem_of_getElem? (i := 18) rfl), lw_t3 (List.mem_of_getElem? (i := 138) rfl), lw_t3 (List.mem_of_getElem? (i := 139) rfl)⟩
theorem lw_p8 : lw_okq (⟨"SendTheBox$Reader", "part", "()V"⟩, 7) := ⟨⟨by decide +kernel, by decide +kernel⟩, lw_t3 (List.mem_of_getElem? (i := 18) rfl), lw_t4 (List.mem_of_getElem? (i := 103) rfl), lw_t4 (List.mem_of_getElem? (i := 104) rfl)⟩
theorem lw_p9 : lw_okq (⟨"SendTheBox$Reader", "takes", "(Ljava/lang/String;)Z"⟩, 7) := ⟨⟨by decide +kernel, by decide +kernel⟩, lw_t3 (List.mem_of_getElem? (i := 18) rfl), lw_t4 (List.mem_of_getElem? (i := 108) rfl), lw_t4 (List.mem_of_getElem? (i := 109) rfl)⟩
theorem lw_p10 : lw_okq (⟨"SendTheBox$Reader", "number", "(II)I"⟩, 7) := ⟨⟨by decide +kernel, by decide +kernel⟩, lw_t3 (List.mem_of_getElem? (i := 18) rfl), lw_t4 (List.mem_of_getElem? (i := 120) rfl), lw_t4 (List.mem_of_getElem? (i := 121) rfl)⟩
theorem lw_p11 : lw_okq (⟨"SendTheBox$Reader", "wrong", "()LSendTheBox$Fault;"⟩, 7) := ⟨⟨by decide +kernel, by decide +kernel⟩, lw_t3 (List.mem_of_getElem? (i := 18) rfl), lw_t4 (List.mem_of_getElem? (i := 124) rfl), lw_t4 (List.mem_of_getElem? (i := 125) rfl)⟩
theorem lw_p12 : lw_okq (⟨"SendTheBox$Reader", "wants", "(Ljava/lang/String;)V"⟩, 7) := ⟨⟨by decide +kernel, by decide +kernel⟩, lw_t3 (List.mem_of_getElem? (i := 18) rfl), lw_t4 (List.mem_of_getElem? (i := 131) rfl), lw_t4 (List.mem_of_getElem? (i := 132) rfl)⟩
theorem lw_p13 : lw_okq (⟨"SendTheBox$Reader", "sort", "()V"⟩, 7) := ⟨⟨by decide +kernel, by decide +kernel⟩, lw_t3 (List.mem_of_getElem? (i := 18) rfl), lw_t4 (List.mem_of_getElem? (i := 136) rfl), lw_t4 (List.mem_of_getElem? (i := 137) rfl)⟩
theorem lw_p14 : lw_okq (⟨"SendTheBox", "isHouse", "(I)Z"⟩, 6) := ⟨⟨by decide +kernel, by decide +kernel⟩, lw_t1 (List.mem_of_getElem? (i := 36) rfl), lw_t4 (List.mem_of_getElem? (i := 148) rfl), lw_t4 (List.mem_of_getElem? (i := 149) rfl)⟩
theorem lw_p15 : lw_okq (⟨"SendTheBox", "isSort", "(II)Z"⟩, 6) := ⟨⟨by decide +kernel, by decide +kernel⟩, lw_t1 (List.mem_of_getElem? (i := 36) rfl), lw_t4 (List.mem_of_getElem? (i := 156) rfl), lw_t4 (List.mem_of_getElem? (i := 157) rfl)⟩
def lw_privs_1 : List (MethodName × Nat) := [(⟨"java/lang/NullPointerException", "getExtendedNPEMessage", "()Ljava/lang/String;"⟩, 8), (⟨"java/lang/Throwable", "fillInStackTrace", "(I)Ljava/lang/Throwable;"⟩, 6), (⟨"SendTheBox", "no", "(I)I"⟩, 6), (⟨"SendTheBox", "rowIn", "(I)Ljava/lang/Object;"⟩, 6), (⟨"SendTheBox", "ruleOf", "(II)LSendTheBox$Rule;"⟩, 6), (⟨"SendTheBox", "ruleIn", "(I)LSendTheBox$Rule;"⟩, 6), (⟨"SendTheBox$Reader", "next", "()V"⟩, 7), (⟨"SendTheBox$Reader", "isIn", "(II)Z"⟩, 7), (⟨"SendTheBox$Reader", "part", "()V"⟩, 7), (⟨"SendTheBox$Reader", "takes", "(Ljava/lang/String;)Z"⟩, 7), (⟨"SendTheBox$Reader", "number", "(II)I"⟩, 7), (⟨"SendTheBox$Reader", "wrong", "()LSendTheBox$Fault;"⟩, 7), (⟨"SendTheBox$Reader", "wants", "(Ljava/lang/String;)V"⟩, 7), (⟨"SendTheBox$Reader", "sort", "()V"⟩, 7), (⟨"SendTheBox", "isHouse", "(I)Z"⟩, 6), (⟨"SendTheBox", "isSort", "(II)Z"⟩, 6)]
theorem lw_r1 : ∀ q ∈ lw_privs_1, lw_okq q := List.forall_mem_cons.mpr ⟨lw_p0, List.forall_mem_cons.mpr ⟨lw_p1, List.forall_mem_cons.mpr ⟨lw_p2, List.forall_mem_cons.mpr ⟨lw_p3, List.forall_mem_cons.mpr ⟨lw_p4, List.forall_mem_cons.mpr ⟨lw_p5, List.forall_mem_cons.mpr ⟨lw_p6, List.forall_mem_cons.mpr ⟨lw_p7, List.forall_mem_cons.mpr ⟨lw_p8, List.forall_mem_cons.mpr ⟨lw_p9, List.forall_mem_cons.mpr ⟨lw_p10, List.forall_mem_cons.mpr ⟨lw_p11, List.forall_mem_cons.mpr ⟨lw_p12, List.forall_mem_cons.mpr ⟨lw_p13, List.forall_mem_cons.mpr ⟨lw_p14, List.forall_mem_cons.mpr ⟨lw_p15, fun _ h => absurd h List.not_mem_nil⟩⟩⟩⟩⟩⟩⟩⟩⟩⟩⟩⟩⟩⟩⟩⟩
theorem lw_p16 : lw_okq (⟨"SendTheBox", "isState", "(II)Z"⟩, 6) := ⟨⟨by decide +kernel, by decide +kernel⟩, lw_t1 (List.mem_of_getElem? (i := 36) rfl), lw_t4 (List.mem_of_getElem? (i := 185) rfl), lw_t4 (List.mem_of_getElem? (i := 186) rfl)⟩
theorem lw_p17 : lw_okq (⟨"SendTheBox", "isLeft", "(III)Z"⟩, 6) := ⟨⟨by decide +kernel, by decide +kernel⟩, lw_t1 (List.mem_of_getElem? (i := 36) rfl), lw_t4 (List.mem_of_getElem? (i := 202) rfl), lw_t4 (List.mem_of_getElem? (i := 203) rfl)⟩
theorem lw_p18 : lw_okq (⟨"SendTheBox$House", "finds", "()V"⟩, 17) := ⟨⟨by decide +kernel, by decide +kernel⟩, lw_t3 (List.mem_of_getElem? (i := 24) rfl), lw_t4 (List.mem_of_getElem? (i := 222) rfl), lw_t4 (List.mem_of_getElem? (i := 223) rfl)⟩
theorem lw_p19 : lw_okq (⟨"SendTheBox$House", "makesRoom", "()V"⟩, 17) := ⟨⟨by decide +kernel, by decide +kernel⟩, lw_t3 (List.mem_of_getElem? (i := 24) rfl), lw_t4 (List.mem_of_getElem? (i := 226) rfl), lw_t4 (List.mem_of_getElem? (i := 227) rfl)⟩
theorem lw_p20 : lw_okq (⟨"SendTheBox$House", "finds", "(II)V"⟩, 17) := ⟨⟨by decide +kernel, by decide +kernel⟩, lw_t3 (List.mem_of_getElem? (i := 24) rfl), lw_t5 (List.mem_of_getElem? (i := 5) rfl), lw_t5 (List.mem_of_getElem? (i := 6) rfl)⟩
theorem lw_p21 : lw_okq (⟨"SendTheBox$House", "dearest", "(I)I"⟩, 17) := ⟨⟨by decide +kernel, by decide +kernel⟩, lw_t3 (List.mem_of_getElem? (i := 24) rfl), lw_t5 (List.mem_of_getElem? (i := 33) rfl), lw_t5 (List.mem_of_getElem? (i := 34) rfl)⟩
theorem lw_p22 : lw_okq (⟨"SendTheBox", "meanBy", "(IIII)J"⟩, 6) := ⟨⟨by decide +kernel, by decide +kernel⟩, lw_t1 (List.mem_of_getElem? (i := 36) rfl), lw_t5 (List.mem_of_getElem? (i := 82) rfl), lw_t5 (List.mem_of_getElem? (i := 83) rfl)⟩
theorem lw_p23 : lw_okq (⟨"SendTheBox", "ruleFor", "(ZI)LSendTheBox$Rule;"⟩, 6) := ⟨⟨by decide +kernel, by decide +kernel⟩, lw_t1 (List.mem_of_getElem? (i := 36) rfl), lw_t5 (List.mem_of_getElem? (i := 146) rfl), lw_t5 (List.mem_of_getElem? (i := 147) rfl)⟩
theorem lw_p24 : lw_okq (⟨"SendTheBox$House", "spreads", "([JIJ)V"⟩, 17) := ⟨⟨by decide +kernel, by decide +kernel⟩, lw_t3 (List.mem_of_getElem? (i := 24) rfl), lw_t5 (List.mem_of_getElem? (i := 157) rfl), lw_t5 (List.mem_of_getElem? (i := 158) rfl)⟩
theorem lw_p25 : lw_okq (⟨"SendTheBox$House", "chosen", "(II[JZ)I"⟩, 17) := ⟨⟨by decide +kernel, by decide +kernel⟩, lw_t3 (List.mem_of_getElem? (i := 24) rfl), lw_t5 (List.mem_of_getElem? (i := 195) rfl), lw_t5 (List.mem_of_getElem? (i := 196) rfl)⟩
theorem lw_p26 : lw_okq (⟨"SendTheBox", "joined", "(II)LSendTheBox$House;"⟩, 6) := ⟨⟨by decide +kernel, by decide +kernel⟩, lw_t1 (List.mem_of_getElem? (i := 36) rfl), lw_t5 (List.mem_of_getElem? (i := 221) rfl), lw_t5 (List.mem_of_getElem? (i := 222) rfl)⟩
theorem lw_p27 : lw_okq (⟨"SendTheBox", "held", "()I"⟩, 6) := ⟨⟨by decide +kernel, by decide +kernel⟩, lw_t1 (List.mem_of_getElem? (i := 36) rfl), lw_t6 (List.mem_of_getElem? (i := 106) rfl), lw_t6 (List.mem_of_getElem? (i := 107) rfl)⟩
theorem lw_p28 : lw_okq (⟨"SendTheBoxModel", "refuse", "(I)I"⟩, 46) := ⟨⟨by decide +kernel, by decide +kernel⟩, lw_t6 (List.mem_of_getElem? (i := 110) rfl), lw_t7 (List.mem_of_getElem? (i := 29) rfl), lw_t7 (List.mem_of_getElem? (i := 30) rfl)⟩
theorem lw_p29 : lw_okq (⟨"SendTheBoxModel", "read", "([I)Z"⟩, 46) := ⟨⟨by decide +kernel, by decide +kernel⟩, lw_t6 (List.mem_of_getElem? (i := 110) rfl), lw_t7 (List.mem_of_getElem? (i := 78) rfl), lw_t7 (List.mem_of_getElem? (i := 79) rfl)⟩
theorem lw_p30 : lw_okq (⟨"SendTheBoxModel", "look", "()V"⟩, 46) := ⟨⟨by decide +kernel, by decide +kernel⟩, lw_t6 (List.mem_of_getElem? (i := 110) rfl), lw_t7 (List.mem_of_getElem? (i := 82) rfl), lw_t7 (List.mem_of_getElem? (i := 83) rfl)⟩
theorem lw_p31 : lw_okq (⟨"SendTheBoxModel", "statement", "([I)Z"⟩, 46) := ⟨⟨by decide +kernel, by decide +kernel⟩, lw_t6 (List.mem_of_getElem? (i := 110) rfl), lw_t7 (List.mem_of_getElem? (i := 95) rfl), lw_t7 (List.mem_of_getElem? (i := 96) rfl)⟩
def lw_privs_2 : List (MethodName × Nat) := [(⟨"SendTheBox", "isState", "(II)Z"⟩, 6), (⟨"SendTheBox", "isLeft", "(III)Z"⟩, 6), (⟨"SendTheBox$House", "finds", "()V"⟩, 17), (⟨"SendTheBox$House", "makesRoom", "()V"⟩, 17), (⟨"SendTheBox$House", "finds", "(II)V"⟩, 17), (⟨"SendTheBox$House", "dearest", "(I)I"⟩, 17), (⟨"SendTheBox", "meanBy", "(IIII)J"⟩, 6), (⟨"SendTheBox", "ruleFor", "(ZI)LSendTheBox$Rule;"⟩, 6), (⟨"SendTheBox$House", "spreads", "([JIJ)V"⟩, 17), (⟨"SendTheBox$House", "chosen", "(II[JZ)I"⟩, 17), (⟨"SendTheBox", "joined", "(II)LSendTheBox$House;"⟩, 6), (⟨"SendTheBox", "held", "()I"⟩, 6), (⟨"SendTheBoxModel", "refuse", "(I)I"⟩, 46), (⟨"SendTheBoxModel", "read", "([I)Z"⟩, 46), (⟨"SendTheBoxModel", "look", "()V"⟩, 46), (⟨"SendTheBoxModel", "statement", "([I)Z"⟩, 46)]
theorem lw_r2 : ∀ q ∈ lw_privs_2, lw_okq q := List.forall_mem_cons.mpr ⟨lw_p16, List.forall_mem_cons.mpr ⟨lw_p17, List.forall_mem_cons.mpr ⟨lw_p18, List.forall_mem_cons.mpr ⟨lw_p19, List.forall_mem_cons.mpr ⟨lw_p20, List.forall_mem_cons.mpr ⟨lw_p21, List.forall_mem_cons.mpr ⟨lw_p22, List.forall_mem_cons.mpr ⟨lw_p23, List.forall_mem_cons.mpr ⟨lw_p24, List.forall_mem_cons.mpr ⟨lw_p25, List.forall_mem_cons.mpr ⟨lw_p26, List.forall_mem_cons.mpr ⟨lw_p27, List.forall_mem_cons.mpr ⟨lw_p28, List.forall_mem_cons.mpr ⟨lw_p29, List.forall_mem_cons.mpr ⟨lw_p30, List.forall_mem_cons.mpr ⟨lw_p31, fun _ h => absurd h List.not_mem_nil⟩⟩⟩⟩⟩⟩⟩⟩⟩⟩⟩⟩⟩⟩⟩⟩
theorem lw_p32 : lw_okq (⟨"SendTheBoxModel", "isWord", "(Ljava/lang/String;)Z"⟩, 46) := ⟨⟨by decide +kernel, by decide +kernel⟩, lw_t6 (List.mem_of_getElem? (i := 110) rfl), lw_t7 (List.mem_of_getElem? (i := 100) rfl), lw_t7 (List.mem_of_getElem? (i := 101) rfl)⟩
theorem lw_p33 : lw_okq (⟨"SendTheBoxModel", "told", "(Ljava/lang/String;[IIII)Z"⟩, 46) := ⟨⟨by decide +kernel, by decide +kernel⟩, lw_t6 (List.mem_of_getElem? (i := 110) rfl), lw_t7 (List.mem_of_getElem? (i := 127) rfl), lw_t7 (List.mem_of_getElem? (i := 128) rfl)⟩
theorem lw_p34 : lw_okq (⟨"SendTheBoxModel", "wrong", "()Z"⟩, 46) := ⟨⟨by decide +kernel, by decide +kernel⟩, lw_t6 (List.mem_of_getElem? (i := 110) rfl), lw_t7 (List.mem_of_getElem? (i := 131) rfl), lw_t7 (List.mem_of_getElem? (i := 132) rfl)⟩
theorem lw_p35 : lw_okq (⟨"SendTheBoxModel", "isHouse", "(I)Z"⟩, 46) := ⟨⟨by decide +kernel, by decide +kernel⟩, lw_t6 (List.mem_of_getElem? (i := 110) rfl), lw_t7 (List.mem_of_getElem? (i := 147) rfl), lw_t7 (List.mem_of_getElem? (i := 148) rfl)⟩
theorem lw_p36 : lw_okq (⟨"SendTheBoxModel", "sorts", "(I)I"⟩, 46) := ⟨⟨by decide +kernel, by decide +kernel⟩, lw_t6 (List.mem_of_getElem? (i := 110) rfl), lw_t7 (List.mem_of_getElem? (i := 155) rfl), lw_t7 (List.mem_of_getElem? (i := 156) rfl)⟩
theorem lw_p37 : lw_okq (⟨"SendTheBoxModel", "isState", "(II)Z"⟩, 46) := ⟨⟨by decide +kernel, by decide +kernel⟩, lw_t6 (List.mem_of_getElem? (i := 110) rfl), lw_t7 (List.mem_of_getElem? (i := 186) rfl), lw_t7 (List.mem_of_getElem? (i := 187) rfl)⟩
theorem lw_p38 : lw_okq (⟨"SendTheBoxModel", "states", "(I)I"⟩, 46) := ⟨⟨by decide +kernel, by decide +kernel⟩, lw_t6 (List.mem_of_getElem? (i := 110) rfl), lw_t7 (List.mem_of_getElem? (i := 190) rfl), lw_t7 (List.mem_of_getElem? (i := 191) rfl)⟩
theorem lw_p39 : lw_okq (⟨"SendTheBoxModel", "sum", "(III)I"⟩, 46) := ⟨⟨by decide +kernel, by decide +kernel⟩, lw_t6 (List.mem_of_getElem? (i := 110) rfl), lw_t7 (List.mem_of_getElem? (i := 194) rfl), lw_t7 (List.mem_of_getElem? (i := 195) rfl)⟩
theorem lw_p40 : lw_okq (⟨"SendTheBoxModel", "numberOf", "(III)I"⟩, 46) := ⟨⟨by decide +kernel, by decide +kernel⟩, lw_t6 (List.mem_of_getElem? (i := 110) rfl), lw_t7 (List.mem_of_getElem? (i := 198) rfl), lw_t7 (List.mem_of_getElem? (i := 199) rfl)⟩
theorem lw_p41 : lw_okq (⟨"SendTheBoxModel", "isLeft", "(II)Z"⟩, 46) := ⟨⟨by decide +kernel, by decide +kernel⟩, lw_t6 (List.mem_of_getElem? (i := 110) rfl), lw_t7 (List.mem_of_getElem? (i := 206) rfl), lw_t7 (List.mem_of_getElem? (i := 207) rfl)⟩
theorem lw_p42 : lw_okq (⟨"SendTheBoxModel", "scaleOf", "(II)J"⟩, 46) := ⟨⟨by decide +kernel, by decide +kernel⟩, lw_t6 (List.mem_of_getElem? (i := 110) rfl), lw_t7 (List.mem_of_getElem? (i := 210) rfl), lw_t7 (List.mem_of_getElem? (i := 211) rfl)⟩
theorem lw_p43 : lw_okq (⟨"SendTheBoxModel", "fillOf", "(II)I"⟩, 46) := ⟨⟨by decide +kernel, by decide +kernel⟩, lw_t6 (List.mem_of_getElem? (i := 110) rfl), lw_t7 (List.mem_of_getElem? (i := 218) rfl), lw_t7 (List.mem_of_getElem? (i := 219) rfl)⟩
theorem lw_p44 : lw_okq (⟨"SendTheBoxModel", "findBest", "(I)V"⟩, 46) := ⟨⟨by decide +kernel, by decide +kernel⟩, lw_t6 (List.mem_of_getElem? (i := 110) rfl), lw_t7 (List.mem_of_getElem? (i := 226) rfl), lw_t7 (List.mem_of_getElem? (i := 227) rfl)⟩
theorem lw_p45 : lw_okq (⟨"SendTheBoxModel", "findWays", "(I)V"⟩, 46) := ⟨⟨by decide +kernel, by decide +kernel⟩, lw_t6 (List.mem_of_getElem? (i := 110) rfl), lw_t7 (List.mem_of_getElem? (i := 230) rfl), lw_t7 (List.mem_of_getElem? (i := 231) rfl)⟩
theorem lw_p46 : lw_okq (⟨"SendTheBoxModel", "behind", "(III[J)J"⟩, 46) := ⟨⟨by decide +kernel, by decide +kernel⟩, lw_t6 (List.mem_of_getElem? (i := 110) rfl), lw_t7 (List.mem_of_getElem? (i := 234) rfl), lw_t7 (List.mem_of_getElem? (i := 235) rfl)⟩
theorem lw_p47 : lw_okq (⟨"SendTheBoxModel", "isLoad", "(III)Z"⟩, 46) := ⟨⟨by decide +kernel, by decide +kernel⟩, lw_t6 (List.mem_of_getElem? (i := 110) rfl), lw_t7 (List.mem_of_getElem? (i := 238) rfl), lw_t7 (List.mem_of_getElem? (i := 239) rfl)⟩
def lw_privs_3 : List (MethodName × Nat) := [(⟨"SendTheBoxModel", "isWord", "(Ljava/lang/String;)Z"⟩, 46), (⟨"SendTheBoxModel", "told", "(Ljava/lang/String;[IIII)Z"⟩, 46), (⟨"SendTheBoxModel", "wrong", "()Z"⟩, 46), (⟨"SendTheBoxModel", "isHouse", "(I)Z"⟩, 46), (⟨"SendTheBoxModel", "sorts", "(I)I"⟩, 46), (⟨"SendTheBoxModel", "isState", "(II)Z"⟩, 46), (⟨"SendTheBoxModel", "states", "(I)I"⟩, 46), (⟨"SendTheBoxModel", "sum", "(III)I"⟩, 46), (⟨"SendTheBoxModel", "numberOf", "(III)I"⟩, 46), (⟨"SendTheBoxModel", "isLeft", "(II)Z"⟩, 46), (⟨"SendTheBoxModel", "scaleOf", "(II)J"⟩, 46), (⟨"SendTheBoxModel", "fillOf", "(II)I"⟩, 46), (⟨"SendTheBoxModel", "findBest", "(I)V"⟩, 46), (⟨"SendTheBoxModel", "findWays", "(I)V"⟩, 46), (⟨"SendTheBoxModel", "behind", "(III[J)J"⟩, 46), (⟨"SendTheBoxModel", "isLoad", "(III)Z"⟩, 46)]
theorem lw_r3 : ∀ q ∈ lw_privs_3, lw_okq q := List.forall_mem_cons.mpr ⟨lw_p32, List.forall_mem_cons.mpr ⟨lw_p33, List.forall_mem_cons.mpr ⟨lw_p34, List.forall_mem_cons.mpr ⟨lw_p35, List.forall_mem_cons.mpr ⟨lw_p36, List.forall_mem_cons.mpr ⟨lw_p37, List.forall_mem_cons.mpr ⟨lw_p38, List.forall_mem_cons.mpr ⟨lw_p39, List.forall_mem_cons.mpr ⟨lw_p40, List.forall_mem_cons.mpr ⟨lw_p41, List.forall_mem_cons.mpr ⟨lw_p42, List.forall_mem_cons.mpr ⟨lw_p43, List.forall_mem_cons.mpr ⟨lw_p44, List.forall_mem_cons.mpr ⟨lw_p45, List.forall_mem_cons.mpr ⟨lw_p46, List.forall_mem_cons.mpr ⟨lw_p47, fun _ h => absurd h List.not_mem_nil⟩⟩⟩⟩⟩⟩⟩⟩⟩⟩⟩⟩⟩⟩⟩⟩
theorem lw_p48 : lw_okq (⟨"SendTheBoxModel", "boxOf", "(II)J"⟩, 46) := ⟨⟨by decide +kernel, by decide +kernel⟩, lw_t6 (List.mem_of_getElem? (i := 110) rfl), lw_t8 (List.mem_of_getElem? (i := 2) rfl), lw_t8 (List.mem_of_getElem? (i := 3) rfl)⟩
theorem lw_p49 : lw_okq (⟨"SendTheBoxModel", "noRule", "(I)I"⟩, 46) := ⟨⟨by decide +kernel, by decide +kernel⟩, lw_t6 (List.mem_of_getElem? (i := 110) rfl), lw_t8 (List.mem_of_getElem? (i := 14) rfl), lw_t8 (List.mem_of_getElem? (i := 15) rfl)⟩
theorem lw_p50 : lw_okq (⟨"SendTheBoxModel", "loadBy", "(IIII)I"⟩, 46) := ⟨⟨by decide +kernel, by decide +kernel⟩, lw_t6 (List.mem_of_getElem? (i := 110) rfl), lw_t8 (List.mem_of_getElem? (i := 18) rfl), lw_t8 (List.mem_of_getElem? (i := 19) rfl)⟩
theorem lw_p51 : lw_okq (⟨"SendTheBoxModel", "fillsBy", "(IIII)Z"⟩, 46) := ⟨⟨by decide +kernel, by decide +kernel⟩, lw_t6 (List.mem_of_getElem? (i := 110) rfl), lw_t8 (List.mem_of_getElem? (i := 22) rfl), lw_t8 (List.mem_of_getElem? (i := 23) rfl)⟩
theorem lw_p52 : lw_okq (⟨"SendTheBoxModel", "byShelf", "(IIIIZ)J"⟩, 46) := ⟨⟨by decide +kernel, by decide +kernel⟩, lw_t6 (List.mem_of_getElem? (i := 110) rfl), lw_t8 (List.mem_of_getElem? (i := 30) rfl), lw_t8 (List.mem_of_getElem? (i := 31) rfl)⟩
theorem lw_p53 : lw_okq (⟨"SendTheBoxModel", "findByRule", "(II)V"⟩, 46) := ⟨⟨by decide +kernel, by decide +kernel⟩, lw_t6 (List.mem_of_getElem? (i := 110) rfl), lw_t8 (List.mem_of_getElem? (i := 34) rfl), lw_t8 (List.mem_of_getElem? (i := 35) rfl)⟩
theorem lw_p54 : lw_okq (⟨"SendTheBoxModel", "goesByRule", "(II)V"⟩, 46) := ⟨⟨by decide +kernel, by decide +kernel⟩, lw_t6 (List.mem_of_getElem? (i := 110) rfl), lw_t8 (List.mem_of_getElem? (i := 38) rfl), lw_t8 (List.mem_of_getElem? (i := 39) rfl)⟩
theorem lw_p55 : lw_okq (⟨"SendTheBoxModel", "withLoad", "(IIII[J)J"⟩, 46) := ⟨⟨by decide +kernel, by decide +kernel⟩, lw_t6 (List.mem_of_getElem? (i := 110) rfl), lw_t8 (List.mem_of_getElem? (i := 58) rfl), lw_t8 (List.mem_of_getElem? (i := 59) rfl)⟩
theorem lw_p56 : lw_okq (⟨"SendTheBoxModel", "findChances", "(II)V"⟩, 46) := ⟨⟨by decide +kernel, by decide +kernel⟩, lw_t6 (List.mem_of_getElem? (i := 110) rfl), lw_t8 (List.mem_of_getElem? (i := 66) rfl), lw_t8 (List.mem_of_getElem? (i := 67) rfl)⟩
theorem lw_p57 : lw_okq (⟨"SendTheBoxModel", "goesOn", "(IIJ[J)V"⟩, 46) := ⟨⟨by decide +kernel, by decide +kernel⟩, lw_t6 (List.mem_of_getElem? (i := 110) rfl), lw_t8 (List.mem_of_getElem? (i := 70) rfl), lw_t8 (List.mem_of_getElem? (i := 71) rfl)⟩
theorem lw_p58 : lw_okq (⟨"SendTheBoxModel", "meanOf", "(III)J"⟩, 46) := ⟨⟨by decide +kernel, by decide +kernel⟩, lw_t6 (List.mem_of_getElem? (i := 110) rfl), lw_t8 (List.mem_of_getElem? (i := 82) rfl), lw_t8 (List.mem_of_getElem? (i := 83) rfl)⟩
theorem lw_p59 : lw_okq (⟨"SendTheBoxModel", "leastOf", "(IIII)I"⟩, 46) := ⟨⟨by decide +kernel, by decide +kernel⟩, lw_t6 (List.mem_of_getElem? (i := 110) rfl), lw_t8 (List.mem_of_getElem? (i := 94) rfl), lw_t8 (List.mem_of_getElem? (i := 95) rfl)⟩
theorem lw_p60 : lw_okq (⟨"SendTheBoxModel", "hasRoom", "(II)Z"⟩, 46) := ⟨⟨by decide +kernel, by decide +kernel⟩, lw_t6 (List.mem_of_getElem? (i := 110) rfl), lw_t8 (List.mem_of_getElem? (i := 98) rfl), lw_t8 (List.mem_of_getElem? (i := 99) rfl)⟩
theorem lw_p61 : lw_okq (⟨"SendTheBoxModel", "findRooms", "(II)Z"⟩, 46) := ⟨⟨by decide +kernel, by decide +kernel⟩, lw_t6 (List.mem_of_getElem? (i := 110) rfl), lw_t8 (List.mem_of_getElem? (i := 118) rfl), lw_t8 (List.mem_of_getElem? (i := 119) rfl)⟩
theorem lw_p62 : lw_okq (⟨"SendTheBoxModel", "mayJoin", "(II)Z"⟩, 46) := ⟨⟨by decide +kernel, by decide +kernel⟩, lw_t6 (List.mem_of_getElem? (i := 110) rfl), lw_t8 (List.mem_of_getElem? (i := 134) rfl), lw_t8 (List.mem_of_getElem? (i := 135) rfl)⟩
theorem lw_p63 : lw_okq (⟨"SendTheBoxModel", "joinTo", "(III)V"⟩, 46) := ⟨⟨by decide +kernel, by decide +kernel⟩, lw_t6 (List.mem_of_getElem? (i := 110) rfl), lw_t8 (List.mem_of_getElem? (i := 138) rfl), lw_t8 (List.mem_of_getElem? (i := 139) rfl)⟩
def lw_privs_4 : List (MethodName × Nat) := [(⟨"SendTheBoxModel", "boxOf", "(II)J"⟩, 46), (⟨"SendTheBoxModel", "noRule", "(I)I"⟩, 46), (⟨"SendTheBoxModel", "loadBy", "(IIII)I"⟩, 46), (⟨"SendTheBoxModel", "fillsBy", "(IIII)Z"⟩, 46), (⟨"SendTheBoxModel", "byShelf", "(IIIIZ)J"⟩, 46), (⟨"SendTheBoxModel", "findByRule", "(II)V"⟩, 46), (⟨"SendTheBoxModel", "goesByRule", "(II)V"⟩, 46), (⟨"SendTheBoxModel", "withLoad", "(IIII[J)J"⟩, 46), (⟨"SendTheBoxModel", "findChances", "(II)V"⟩, 46), (⟨"SendTheBoxModel", "goesOn", "(IIJ[J)V"⟩, 46), (⟨"SendTheBoxModel", "meanOf", "(III)J"⟩, 46), (⟨"SendTheBoxModel", "leastOf", "(IIII)I"⟩, 46), (⟨"SendTheBoxModel", "hasRoom", "(II)Z"⟩, 46), (⟨"SendTheBoxModel", "findRooms", "(II)Z"⟩, 46), (⟨"SendTheBoxModel", "mayJoin", "(II)Z"⟩, 46), (⟨"SendTheBoxModel", "joinTo", "(III)V"⟩, 46)]
theorem lw_r4 : ∀ q ∈ lw_privs_4, lw_okq q := List.forall_mem_cons.mpr ⟨lw_p48, List.forall_mem_cons.mpr ⟨lw_p49, List.forall_mem_cons.mpr ⟨lw_p50, List.forall_mem_cons.mpr ⟨lw_p51, List.forall_mem_cons.mpr ⟨lw_p52, List.forall_mem_cons.mpr ⟨lw_p53, List.forall_mem_cons.mpr ⟨lw_p54, List.forall_mem_cons.mpr ⟨lw_p55, List.forall_mem_cons.mpr ⟨lw_p56, List.forall_mem_cons.mpr ⟨lw_p57, List.forall_mem_cons.mpr ⟨lw_p58, List.forall_mem_cons.mpr ⟨lw_p59, List.forall_mem_cons.mpr ⟨lw_p60, List.forall_mem_cons.mpr ⟨lw_p61, List.forall_mem_cons.mpr ⟨lw_p62, List.forall_mem_cons.mpr ⟨lw_p63, fun _ h => absurd h List.not_mem_nil⟩⟩⟩⟩⟩⟩⟩⟩⟩⟩⟩⟩⟩⟩⟩⟩
theorem lw_p64 : lw_okq (⟨"SendTheBoxModel", "wholeCost", "(I)J"⟩, 46) := ⟨⟨by decide +kernel, by decide +kernel⟩, lw_t6 (List.mem_of_getElem? (i := 110) rfl), lw_t8 (List.mem_of_getElem? (i := 146) rfl), lw_t8 (List.mem_of_getElem? (i := 147) rfl)⟩
theorem lw_p65 : lw_okq (⟨"SendTheBoxModel", "day", "(IIII)I"⟩, 46) := ⟨⟨by decide +kernel, by decide +kernel⟩, lw_t6 (List.mem_of_getElem? (i := 110) rfl), lw_t8 (List.mem_of_getElem? (i := 162) rfl), lw_t8 (List.mem_of_getElem? (i := 163) rfl)⟩
theorem lw_p66 : lw_okq (⟨"SendTheBoxModel", "draw", "()I"⟩, 46) := ⟨⟨by decide +kernel, by decide +kernel⟩, lw_t6 (List.mem_of_getElem? (i := 110) rfl), lw_t8 (List.mem_of_getElem? (i := 166) rfl), lw_t8 (List.mem_of_getElem? (i := 167) rfl)⟩
theorem lw_p67 : lw_okq (⟨"SendTheBoxModel", "takeFrom", "(LSendTheBoxModel;)V"⟩, 46) := ⟨⟨by decide +kernel, by decide +kernel⟩, lw_t6 (List.mem_of_getElem? (i := 110) rfl), lw_t8 (List.mem_of_getElem? (i := 186) rfl), lw_t8 (List.mem_of_getElem? (i := 187) rfl)⟩
def lw_privs_5 : List (MethodName × Nat) := [(⟨"SendTheBoxModel", "wholeCost", "(I)J"⟩, 46), (⟨"SendTheBoxModel", "day", "(IIII)I"⟩, 46), (⟨"SendTheBoxModel", "draw", "()I"⟩, 46), (⟨"SendTheBoxModel", "takeFrom", "(LSendTheBoxModel;)V"⟩, 46)]
theorem lw_r5 : ∀ q ∈ lw_privs_5, lw_okq q := List.forall_mem_cons.mpr ⟨lw_p64, List.forall_mem_cons.mpr ⟨lw_p65, List.forall_mem_cons.mpr ⟨lw_p66, List.forall_mem_cons.mpr ⟨lw_p67, fun _ h => absurd h List.not_mem_nil⟩⟩⟩⟩
def lw_privs : List (MethodName × Nat) := lw_privs_1 ++ (lw_privs_2 ++ (lw_privs_3 ++ (lw_privs_4 ++ (lw_privs_5))))
def lw_tbl : List Cond := k2_sels lw_privs ++ tables_1
theorem lw_privs_ok : ∀ q ∈ lw_privs, lw_okq q := by
  show ∀ q ∈ lw_privs_1 ++ (lw_privs_2 ++ (lw_privs_3 ++ (lw_privs_4 ++ (lw_privs_5)))), lw_okq q
  exact List.forall_mem_append.mpr ⟨lw_r1, List.forall_mem_append.mpr ⟨lw_r2, List.forall_mem_append.mpr ⟨lw_r3, List.forall_mem_append.mpr ⟨lw_r4, lw_r5⟩⟩⟩⟩
-- ===== ONE list of words for every method: the tables' words that hold all through a run =====
def lw_all : List Cond := lw_tbl.filter goodWord
/-- a word of the tables by its place: claim/WORDS.tsv -/
theorem lw_w {w : Cond} (i : Nat) (h : lw_tbl[i]? = some w) (g : goodWord w = true) : w ∈ lw_all := List.mem_filter.mpr ⟨List.mem_of_getElem? h, g⟩
theorem lw_all_tbl {w : Cond} (h : w ∈ lw_all) : w ∈ lw_tbl := (List.mem_filter.mp h).1
theorem lw_self : GoodIn lw_all lw_all := fun w h => ⟨h, good_of_word (List.mem_filter.mp h).2⟩
/-- a class's field words, by their places -/
theorem lw_in (ws : List Cond) (ps : List Nat) (hp : ws = ps.filterMap (fun i => lw_tbl[i]?)) (hg : ws.all goodWord = true) : ∀ w ∈ ws, w ∈ lw_all := by
  intro w h
  have h1 := List.all_eq_true.mp hg w h
  rw [hp] at h
  obtain ⟨i, -, hi⟩ := List.mem_filterMap.mp h
  exact lw_w i hi h1
/-- the words of a contract for the method y with code b, L locals, answer r -/
abbrev ws_ (y : MethodName) (b : ByteArray) (L : Nat) (r : Option FieldType) : List Cond := Cond.code y b L r :: lw_all
theorem lw_meth {y : MethodName} {b : ByteArray} {L : Nat} {r : Option FieldType} (h : Cond.code y b L r ∈ lw_all) : GoodIn lw_all (ws_ y b L r) := by
  intro w hw
  rcases List.mem_cons.mp hw with e | e
  · rw [e]
    exact lw_self _ h
  · exact lw_self _ e
theorem lw_app {a c : List Cond} (ha : ∀ w ∈ a, w ∈ lw_all) (hc : GoodIn lw_all c) : GoodIn lw_all (a ++ c) := by
  intro w hw
  rcases List.mem_append.mp hw with e | e
  · exact lw_self w (ha w e)
  · exact hc w e
/-- what a call through an object asks: cwV n hts (lw_V ..) -/
theorem lw_V {own : String} {idx : Nat} {C : String} {y : MethodName} {b : ByteArray} {L : Nat} {r : Option FieldType} (h1 : Cond.methodLink own idx y ∈ lw_all) (h2 : Cond.instanceMethod y ∈ lw_all) (h3 : Cond.selects C y y ∈ lw_all) (h4 : Cond.initialized C ∈ lw_all) (h5 : Cond.code y b L r ∈ lw_all) : GoodIn lw_all (wsV own idx C y (ws_ y b L r)) := by
  refine lw_app ?_ (lw_meth h5)
  intro w hw
  simp only [List.mem_cons, List.not_mem_nil, or_false] at hw
  rcases hw with e | e | e | e
  · rw [e]; exact h1
  · rw [e]; exact h2
  · rw [e]; exact h3
  · rw [e]; exact h4
/-- what a static call asks: va_cwS n hts (lw_S ..) -/
theorem lw_S {own : String} {idx : Nat} {y : MethodName} {b : ByteArray} {L : Nat} {r : Option FieldType} (h1 : Cond.methodLink own idx y ∈ lw_all) (h2 : Cond.static y ∈ lw_all) (h3 : Cond.initialized y.cls ∈ lw_all) (h4 : Cond.code y b L r ∈ lw_all) : GoodIn lw_all (va_wsS own idx y (ws_ y b L r)) := by
  refine lw_app ?_ (lw_meth h4)
  intro w hw
  simp only [List.mem_cons, List.not_mem_nil, or_false] at hw
  rcases hw with e | e | e
  · rw [e]; exact h1
  · rw [e]; exact h2
  · rw [e]; exact h3
/-- the words of a contract for a method WITH HANDLERS (hh: its table) -/
abbrev wsW_ (y : MethodName) (b : ByteArray) (L : Nat) (r : Option FieldType) (hh : List (Nat × Nat × Nat × Nat)) : List Cond := Cond.codeWith y b L r hh :: lw_all
theorem lw_methW {y : MethodName} {b : ByteArray} {L : Nat} {r : Option FieldType} {hh : List (Nat × Nat × Nat × Nat)} (h : Cond.codeWith y b L r hh ∈ lw_all) : GoodIn lw_all (wsW_ y b L r hh) := by
  intro w hw
  rcases List.mem_cons.mp hw with e | e
  · rw [e]
    exact lw_self _ h
  · exact lw_self _ e
/-- any list of words by their places (lw_in), good -/
theorem lw_good {ws : List Cond} (h : ∀ w ∈ ws, w ∈ lw_all) : GoodIn lw_all ws := fun w hw => lw_self w (h w hw)
/-- what a call of a method with handlers asks: vx_cwVW n hts (lw_VW ..), vx_cwSW n hts (lw_SW ..) -/
theorem lw_VW {own : String} {idx : Nat} {C : String} {y : MethodName} {b : ByteArray} {L : Nat} {r : Option FieldType} {hh : List (Nat × Nat × Nat × Nat)} (h1 : Cond.methodLink own idx y ∈ lw_all) (h2 : Cond.instanceMethod y ∈ lw_all) (h3 : Cond.selects C y y ∈ lw_all) (h4 : Cond.initialized C ∈ lw_all) (h5 : Cond.codeWith y b L r hh ∈ lw_all) : GoodIn lw_all (wsV own idx C y (wsW_ y b L r hh)) := by
  refine lw_app ?_ (lw_methW h5)
  intro w hw
  simp only [List.mem_cons, List.not_mem_nil, or_false] at hw
  rcases hw with e | e | e | e
  · rw [e]; exact h1
  · rw [e]; exact h2
  · rw [e]; exact h3
  · rw [e]; exact h4
theorem lw_SW {own : String} {idx : Nat} {y : MethodName} {b : ByteArray} {L : Nat} {r : Option FieldType} {hh : List (Nat × Nat × Nat × Nat)} (h1 : Cond.methodLink own idx y ∈ lw_all) (h2 : Cond.static y ∈ lw_all) (h3 : Cond.initialized y.cls ∈ lw_all) (h4 : Cond.codeWith y b L r hh ∈ lw_all) : GoodIn lw_all (va_wsS own idx y (wsW_ y b L r hh)) := by
  refine lw_app ?_ (lw_methW h4)
  intro w hw
  simp only [List.mem_cons, List.not_mem_nil, or_false] at hw
  rcases hw with e | e | e
  · rw [e]; exact h1
  · rw [e]; exact h2
  · rw [e]; exact h3
/-- a word by its place in its run of the tables -/
theorem lw_at {r : List Cond} (hr : ∀ w ∈ r, w ∈ lw_tbl) {w : Cond} (i : Nat) (h : r[i]? = some w) : w ∈ lw_tbl := hr w (List.mem_of_getElem? h)
theorem lw_g {w : Cond} (h : w ∈ lw_tbl) (g : goodWord w = true) : w ∈ lw_all := List.mem_filter.mpr ⟨h, g⟩
theorem lw_ms : ∀ w ∈ k2_sels lw_privs, w ∈ lw_tbl := fun w h => show w ∈ k2_sels lw_privs ++ tables_1 from List.mem_append_left _ h
theorem lw_m1 : ∀ w ∈ tables_1_1, w ∈ lw_tbl := fun w h => show w ∈ k2_sels lw_privs ++ tables_1 from List.mem_append_right (k2_sels lw_privs) (show w ∈ tables_1 from List.mem_append_left _ h)
theorem lw_m2 : ∀ w ∈ tables_1_2, w ∈ lw_tbl := fun w h => show w ∈ k2_sels lw_privs ++ tables_1 from List.mem_append_right (k2_sels lw_privs) (show w ∈ tables_1 from List.mem_append_right _ (List.mem_append_left _ h))
theorem lw_m3 : ∀ w ∈ tables_1_3, w ∈ lw_tbl := fun w h => show w ∈ k2_sels lw_privs ++ tables_1 from List.mem_append_right (k2_sels lw_privs) (show w ∈ tables_1 from List.mem_append_right _ (List.mem_append_right _ (List.mem_append_left _ h)))
theorem lw_m4 : ∀ w ∈ tables_1_4, w ∈ lw_tbl := fun w h => show w ∈ k2_sels lw_privs ++ tables_1 from List.mem_append_right (k2_sels lw_privs) (show w ∈ tables_1 from List.mem_append_right _ (List.mem_append_right _ (List.mem_append_right _ (List.mem_append_left _ h))))
theorem lw_m5 : ∀ w ∈ tables_1_5, w ∈ lw_tbl := fun w h => show w ∈ k2_sels lw_privs ++ tables_1 from List.mem_append_right (k2_sels lw_privs) (show w ∈ tables_1 from List.mem_append_right _ (List.mem_append_right _ (List.mem_append_right _ (List.mem_append_right _ (List.mem_append_left _ h)))))
theorem lw_m6 : ∀ w ∈ tables_1_6, w ∈ lw_tbl := fun w h => show w ∈ k2_sels lw_privs ++ tables_1 from List.mem_append_right (k2_sels lw_privs) (show w ∈ tables_1 from List.mem_append_right _ (List.mem_append_right _ (List.mem_append_right _ (List.mem_append_right _ (List.mem_append_right _ (List.mem_append_left _ h))))))
theorem lw_m7 : ∀ w ∈ tables_1_7, w ∈ lw_tbl := fun w h => show w ∈ k2_sels lw_privs ++ tables_1 from List.mem_append_right (k2_sels lw_privs) (show w ∈ tables_1 from List.mem_append_right _ (List.mem_append_right _ (List.mem_append_right _ (List.mem_append_right _ (List.mem_append_right _ (List.mem_append_right _ (List.mem_append_left _ h)))))))
theorem lw_m8 : ∀ w ∈ tables_1_8, w ∈ lw_tbl := fun w h => show w ∈ k2_sels lw_privs ++ tables_1 from List.mem_append_right (k2_sels lw_privs) (show w ∈ tables_1 from List.mem_append_right _ (List.mem_append_right _ (List.mem_append_right _ (List.mem_append_right _ (List.mem_append_right _ (List.mem_append_right _ (List.mem_append_right _ h)))))))
theorem qs0 : (Cond.selects "java/lang/NullPointerException" ⟨"java/lang/NullPointerException", "getExtendedNPEMessage", "()Ljava/lang/String;"⟩ ⟨"java/lang/NullPointerException", "getExtendedNPEMessage", "()Ljava/lang/String;"⟩) ∈ lw_all := lw_g (lw_at lw_ms 0 rfl) rfl
theorem qs1 : (Cond.selects "java/lang/Throwable" ⟨"java/lang/Throwable", "fillInStackTrace", "(I)Ljava/lang/Throwable;"⟩ ⟨"java/lang/Throwable", "fillInStackTrace", "(I)Ljava/lang/Throwable;"⟩) ∈ lw_all := lw_g (lw_at lw_ms 1 rfl) rfl
theorem qs2 : (Cond.selects "SendTheBox" ⟨"SendTheBox", "no", "(I)I"⟩ ⟨"SendTheBox", "no", "(I)I"⟩) ∈ lw_all := lw_g (lw_at lw_ms 2 rfl) rfl
theorem qs3 : (Cond.selects "SendTheBox" ⟨"SendTheBox", "rowIn", "(I)Ljava/lang/Object;"⟩ ⟨"SendTheBox", "rowIn", "(I)Ljava/lang/Object;"⟩) ∈ lw_all := lw_g (lw_at lw_ms 3 rfl) rfl
theorem qs4 : (Cond.selects "SendTheBox" ⟨"SendTheBox", "ruleOf", "(II)LSendTheBox$Rule;"⟩ ⟨"SendTheBox", "ruleOf", "(II)LSendTheBox$Rule;"⟩) ∈ lw_all := lw_g (lw_at lw_ms 4 rfl) rfl
theorem qs5 : (Cond.selects "SendTheBox" ⟨"SendTheBox", "ruleIn", "(I)LSendTheBox$Rule;"⟩ ⟨"SendTheBox", "ruleIn", "(I)LSendTheBox$Rule;"⟩) ∈ lw_all := lw_g (lw_at lw_ms 5 rfl) rfl
theorem qs6 : (Cond.selects "SendTheBox$Reader" ⟨"SendTheBox$Reader", "next", "()V"⟩ ⟨"SendTheBox$Reader", "next", "()V"⟩) ∈ lw_all := lw_g (lw_at lw_ms 6 rfl) rfl
theorem qs7 : (Cond.selects "SendTheBox$Reader" ⟨"SendTheBox$Reader", "isIn", "(II)Z"⟩ ⟨"SendTheBox$Reader", "isIn", "(II)Z"⟩) ∈ lw_all := lw_g (lw_at lw_ms 7 rfl) rfl
theorem qs8 : (Cond.selects "SendTheBox$Reader" ⟨"SendTheBox$Reader", "part", "()V"⟩ ⟨"SendTheBox$Reader", "part", "()V"⟩) ∈ lw_all := lw_g (lw_at lw_ms 8 rfl) rfl
theorem qs9 : (Cond.selects "SendTheBox$Reader" ⟨"SendTheBox$Reader", "takes", "(Ljava/lang/String;)Z"⟩ ⟨"SendTheBox$Reader", "takes", "(Ljava/lang/String;)Z"⟩) ∈ lw_all := lw_g (lw_at lw_ms 9 rfl) rfl
theorem qs10 : (Cond.selects "SendTheBox$Reader" ⟨"SendTheBox$Reader", "number", "(II)I"⟩ ⟨"SendTheBox$Reader", "number", "(II)I"⟩) ∈ lw_all := lw_g (lw_at lw_ms 10 rfl) rfl
theorem qs11 : (Cond.selects "SendTheBox$Reader" ⟨"SendTheBox$Reader", "wrong", "()LSendTheBox$Fault;"⟩ ⟨"SendTheBox$Reader", "wrong", "()LSendTheBox$Fault;"⟩) ∈ lw_all := lw_g (lw_at lw_ms 11 rfl) rfl
theorem qs12 : (Cond.selects "SendTheBox$Reader" ⟨"SendTheBox$Reader", "wants", "(Ljava/lang/String;)V"⟩ ⟨"SendTheBox$Reader", "wants", "(Ljava/lang/String;)V"⟩) ∈ lw_all := lw_g (lw_at lw_ms 12 rfl) rfl
theorem qs13 : (Cond.selects "SendTheBox$Reader" ⟨"SendTheBox$Reader", "sort", "()V"⟩ ⟨"SendTheBox$Reader", "sort", "()V"⟩) ∈ lw_all := lw_g (lw_at lw_ms 13 rfl) rfl
theorem qs14 : (Cond.selects "SendTheBox" ⟨"SendTheBox", "isHouse", "(I)Z"⟩ ⟨"SendTheBox", "isHouse", "(I)Z"⟩) ∈ lw_all := lw_g (lw_at lw_ms 14 rfl) rfl
theorem qs15 : (Cond.selects "SendTheBox" ⟨"SendTheBox", "isSort", "(II)Z"⟩ ⟨"SendTheBox", "isSort", "(II)Z"⟩) ∈ lw_all := lw_g (lw_at lw_ms 15 rfl) rfl
theorem qs16 : (Cond.selects "SendTheBox" ⟨"SendTheBox", "isState", "(II)Z"⟩ ⟨"SendTheBox", "isState", "(II)Z"⟩) ∈ lw_all := lw_g (lw_at lw_ms 16 rfl) rfl
theorem qs17 : (Cond.selects "SendTheBox" ⟨"SendTheBox", "isLeft", "(III)Z"⟩ ⟨"SendTheBox", "isLeft", "(III)Z"⟩) ∈ lw_all := lw_g (lw_at lw_ms 17 rfl) rfl
theorem qs18 : (Cond.selects "SendTheBox$House" ⟨"SendTheBox$House", "finds", "()V"⟩ ⟨"SendTheBox$House", "finds", "()V"⟩) ∈ lw_all := lw_g (lw_at lw_ms 18 rfl) rfl
theorem qs19 : (Cond.selects "SendTheBox$House" ⟨"SendTheBox$House", "makesRoom", "()V"⟩ ⟨"SendTheBox$House", "makesRoom", "()V"⟩) ∈ lw_all := lw_g (lw_at lw_ms 19 rfl) rfl
theorem qs20 : (Cond.selects "SendTheBox$House" ⟨"SendTheBox$House", "finds", "(II)V"⟩ ⟨"SendTheBox$House", "finds", "(II)V"⟩) ∈ lw_all := lw_g (lw_at lw_ms 20 rfl) rfl
theorem qs21 : (Cond.selects "SendTheBox$House" ⟨"SendTheBox$House", "dearest", "(I)I"⟩ ⟨"SendTheBox$House", "dearest", "(I)I"⟩) ∈ lw_all := lw_g (lw_at lw_ms 21 rfl) rfl
theorem qs22 : (Cond.selects "SendTheBox" ⟨"SendTheBox", "meanBy", "(IIII)J"⟩ ⟨"SendTheBox", "meanBy", "(IIII)J"⟩) ∈ lw_all := lw_g (lw_at lw_ms 22 rfl) rfl
theorem qs23 : (Cond.selects "SendTheBox" ⟨"SendTheBox", "ruleFor", "(ZI)LSendTheBox$Rule;"⟩ ⟨"SendTheBox", "ruleFor", "(ZI)LSendTheBox$Rule;"⟩) ∈ lw_all := lw_g (lw_at lw_ms 23 rfl) rfl
theorem qs24 : (Cond.selects "SendTheBox$House" ⟨"SendTheBox$House", "spreads", "([JIJ)V"⟩ ⟨"SendTheBox$House", "spreads", "([JIJ)V"⟩) ∈ lw_all := lw_g (lw_at lw_ms 24 rfl) rfl
theorem qs25 : (Cond.selects "SendTheBox$House" ⟨"SendTheBox$House", "chosen", "(II[JZ)I"⟩ ⟨"SendTheBox$House", "chosen", "(II[JZ)I"⟩) ∈ lw_all := lw_g (lw_at lw_ms 25 rfl) rfl
theorem qs26 : (Cond.selects "SendTheBox" ⟨"SendTheBox", "joined", "(II)LSendTheBox$House;"⟩ ⟨"SendTheBox", "joined", "(II)LSendTheBox$House;"⟩) ∈ lw_all := lw_g (lw_at lw_ms 26 rfl) rfl
theorem qs27 : (Cond.selects "SendTheBox" ⟨"SendTheBox", "held", "()I"⟩ ⟨"SendTheBox", "held", "()I"⟩) ∈ lw_all := lw_g (lw_at lw_ms 27 rfl) rfl
theorem qs28 : (Cond.selects "SendTheBoxModel" ⟨"SendTheBoxModel", "refuse", "(I)I"⟩ ⟨"SendTheBoxModel", "refuse", "(I)I"⟩) ∈ lw_all := lw_g (lw_at lw_ms 28 rfl) rfl
theorem qs29 : (Cond.selects "SendTheBoxModel" ⟨"SendTheBoxModel", "read", "([I)Z"⟩ ⟨"SendTheBoxModel", "read", "([I)Z"⟩) ∈ lw_all := lw_g (lw_at lw_ms 29 rfl) rfl
theorem qs30 : (Cond.selects "SendTheBoxModel" ⟨"SendTheBoxModel", "look", "()V"⟩ ⟨"SendTheBoxModel", "look", "()V"⟩) ∈ lw_all := lw_g (lw_at lw_ms 30 rfl) rfl
theorem qs31 : (Cond.selects "SendTheBoxModel" ⟨"SendTheBoxModel", "statement", "([I)Z"⟩ ⟨"SendTheBoxModel", "statement", "([I)Z"⟩) ∈ lw_all := lw_g (lw_at lw_ms 31 rfl) rfl
theorem qs32 : (Cond.selects "SendTheBoxModel" ⟨"SendTheBoxModel", "isWord", "(Ljava/lang/String;)Z"⟩ ⟨"SendTheBoxModel", "isWord", "(Ljava/lang/String;)Z"⟩) ∈ lw_all := lw_g (lw_at lw_ms 32 rfl) rfl
theorem qs33 : (Cond.selects "SendTheBoxModel" ⟨"SendTheBoxModel", "told", "(Ljava/lang/String;[IIII)Z"⟩ ⟨"SendTheBoxModel", "told", "(Ljava/lang/String;[IIII)Z"⟩) ∈ lw_all := lw_g (lw_at lw_ms 33 rfl) rfl
theorem qs34 : (Cond.selects "SendTheBoxModel" ⟨"SendTheBoxModel", "wrong", "()Z"⟩ ⟨"SendTheBoxModel", "wrong", "()Z"⟩) ∈ lw_all := lw_g (lw_at lw_ms 34 rfl) rfl
theorem qs35 : (Cond.selects "SendTheBoxModel" ⟨"SendTheBoxModel", "isHouse", "(I)Z"⟩ ⟨"SendTheBoxModel", "isHouse", "(I)Z"⟩) ∈ lw_all := lw_g (lw_at lw_ms 35 rfl) rfl
theorem qs36 : (Cond.selects "SendTheBoxModel" ⟨"SendTheBoxModel", "sorts", "(I)I"⟩ ⟨"SendTheBoxModel", "sorts", "(I)I"⟩) ∈ lw_all := lw_g (lw_at lw_ms 36 rfl) rfl
theorem qs37 : (Cond.selects "SendTheBoxModel" ⟨"SendTheBoxModel", "isState", "(II)Z"⟩ ⟨"SendTheBoxModel", "isState", "(II)Z"⟩) ∈ lw_all := lw_g (lw_at lw_ms 37 rfl) rfl
theorem qs38 : (Cond.selects "SendTheBoxModel" ⟨"SendTheBoxModel", "states", "(I)I"⟩ ⟨"SendTheBoxModel", "states", "(I)I"⟩) ∈ lw_all := lw_g (lw_at lw_ms 38 rfl) rfl
theorem qs39 : (Cond.selects "SendTheBoxModel" ⟨"SendTheBoxModel", "sum", "(III)I"⟩ ⟨"SendTheBoxModel", "sum", "(III)I"⟩) ∈ lw_all := lw_g (lw_at lw_ms 39 rfl) rfl
theorem qs40 : (Cond.selects "SendTheBoxModel" ⟨"SendTheBoxModel", "numberOf", "(III)I"⟩ ⟨"SendTheBoxModel", "numberOf", "(III)I"⟩) ∈ lw_all := lw_g (lw_at lw_ms 40 rfl) rfl
theorem qs41 : (Cond.selects "SendTheBoxModel" ⟨"SendTheBoxModel", "isLeft", "(II)Z"⟩ ⟨"SendTheBoxModel", "isLeft", "(II)Z"⟩) ∈ lw_all := lw_g (lw_at lw_ms 41 rfl) rfl
theorem qs42 : (Cond.selects "SendTheBoxModel" ⟨"SendTheBoxModel", "scaleOf", "(II)J"⟩ ⟨"SendTheBoxModel", "scaleOf", "(II)J"⟩) ∈ lw_all := lw_g (lw_at lw_ms 42 rfl) rfl
theorem qs43 : (Cond.selects "SendTheBoxModel" ⟨"SendTheBoxModel", "fillOf", "(II)I"⟩ ⟨"SendTheBoxModel", "fillOf", "(II)I"⟩) ∈ lw_all := lw_g (lw_at lw_ms 43 rfl) rfl
theorem qs44 : (Cond.selects "SendTheBoxModel" ⟨"SendTheBoxModel", "findBest", "(I)V"⟩ ⟨"SendTheBoxModel", "findBest", "(I)V"⟩) ∈ lw_all := lw_g (lw_at lw_ms 44 rfl) rfl
theorem qs45 : (Cond.selects "SendTheBoxModel" ⟨"SendTheBoxModel", "findWays", "(I)V"⟩ ⟨"SendTheBoxModel", "findWays", "(I)V"⟩) ∈ lw_all := lw_g (lw_at lw_ms 45 rfl) rfl
theorem qs46 : (Cond.selects "SendTheBoxModel" ⟨"SendTheBoxModel", "behind", "(III[J)J"⟩ ⟨"SendTheBoxModel", "behind", "(III[J)J"⟩) ∈ lw_all := lw_g (lw_at lw_ms 46 rfl) rfl
theorem qs47 : (Cond.selects "SendTheBoxModel" ⟨"SendTheBoxModel", "isLoad", "(III)Z"⟩ ⟨"SendTheBoxModel", "isLoad", "(III)Z"⟩) ∈ lw_all := lw_g (lw_at lw_ms 47 rfl) rfl
theorem qs48 : (Cond.selects "SendTheBoxModel" ⟨"SendTheBoxModel", "boxOf", "(II)J"⟩ ⟨"SendTheBoxModel", "boxOf", "(II)J"⟩) ∈ lw_all := lw_g (lw_at lw_ms 48 rfl) rfl
theorem qs49 : (Cond.selects "SendTheBoxModel" ⟨"SendTheBoxModel", "noRule", "(I)I"⟩ ⟨"SendTheBoxModel", "noRule", "(I)I"⟩) ∈ lw_all := lw_g (lw_at lw_ms 49 rfl) rfl
theorem qs50 : (Cond.selects "SendTheBoxModel" ⟨"SendTheBoxModel", "loadBy", "(IIII)I"⟩ ⟨"SendTheBoxModel", "loadBy", "(IIII)I"⟩) ∈ lw_all := lw_g (lw_at lw_ms 50 rfl) rfl
theorem qs51 : (Cond.selects "SendTheBoxModel" ⟨"SendTheBoxModel", "fillsBy", "(IIII)Z"⟩ ⟨"SendTheBoxModel", "fillsBy", "(IIII)Z"⟩) ∈ lw_all := lw_g (lw_at lw_ms 51 rfl) rfl
theorem qs52 : (Cond.selects "SendTheBoxModel" ⟨"SendTheBoxModel", "byShelf", "(IIIIZ)J"⟩ ⟨"SendTheBoxModel", "byShelf", "(IIIIZ)J"⟩) ∈ lw_all := lw_g (lw_at lw_ms 52 rfl) rfl
theorem qs53 : (Cond.selects "SendTheBoxModel" ⟨"SendTheBoxModel", "findByRule", "(II)V"⟩ ⟨"SendTheBoxModel", "findByRule", "(II)V"⟩) ∈ lw_all := lw_g (lw_at lw_ms 53 rfl) rfl
theorem qs54 : (Cond.selects "SendTheBoxModel" ⟨"SendTheBoxModel", "goesByRule", "(II)V"⟩ ⟨"SendTheBoxModel", "goesByRule", "(II)V"⟩) ∈ lw_all := lw_g (lw_at lw_ms 54 rfl) rfl
theorem qs55 : (Cond.selects "SendTheBoxModel" ⟨"SendTheBoxModel", "withLoad", "(IIII[J)J"⟩ ⟨"SendTheBoxModel", "withLoad", "(IIII[J)J"⟩) ∈ lw_all := lw_g (lw_at lw_ms 55 rfl) rfl
theorem qs56 : (Cond.selects "SendTheBoxModel" ⟨"SendTheBoxModel", "findChances", "(II)V"⟩ ⟨"SendTheBoxModel", "findChances", "(II)V"⟩) ∈ lw_all := lw_g (lw_at lw_ms 56 rfl) rfl
theorem qs57 : (Cond.selects "SendTheBoxModel" ⟨"SendTheBoxModel", "goesOn", "(IIJ[J)V"⟩ ⟨"SendTheBoxModel", "goesOn", "(IIJ[J)V"⟩) ∈ lw_all := lw_g (lw_at lw_ms 57 rfl) rfl
theorem qs58 : (Cond.selects "SendTheBoxModel" ⟨"SendTheBoxModel", "meanOf", "(III)J"⟩ ⟨"SendTheBoxModel", "meanOf", "(III)J"⟩) ∈ lw_all := lw_g (lw_at lw_ms 58 rfl) rfl
theorem qs59 : (Cond.selects "SendTheBoxModel" ⟨"SendTheBoxModel", "leastOf", "(IIII)I"⟩ ⟨"SendTheBoxModel", "leastOf", "(IIII)I"⟩) ∈ lw_all := lw_g (lw_at lw_ms 59 rfl) rfl
theorem qs60 : (Cond.selects "SendTheBoxModel" ⟨"SendTheBoxModel", "hasRoom", "(II)Z"⟩ ⟨"SendTheBoxModel", "hasRoom", "(II)Z"⟩) ∈ lw_all := lw_g (lw_at lw_ms 60 rfl) rfl
theorem qs61 : (Cond.selects "SendTheBoxModel" ⟨"SendTheBoxModel", "findRooms", "(II)Z"⟩ ⟨"SendTheBoxModel", "findRooms", "(II)Z"⟩) ∈ lw_all := lw_g (lw_at lw_ms 61 rfl) rfl
theorem qs62 : (Cond.selects "SendTheBoxModel" ⟨"SendTheBoxModel", "mayJoin", "(II)Z"⟩ ⟨"SendTheBoxModel", "mayJoin", "(II)Z"⟩) ∈ lw_all := lw_g (lw_at lw_ms 62 rfl) rfl
theorem qs63 : (Cond.selects "SendTheBoxModel" ⟨"SendTheBoxModel", "joinTo", "(III)V"⟩ ⟨"SendTheBoxModel", "joinTo", "(III)V"⟩) ∈ lw_all := lw_g (lw_at lw_ms 63 rfl) rfl
theorem qs64 : (Cond.selects "SendTheBoxModel" ⟨"SendTheBoxModel", "wholeCost", "(I)J"⟩ ⟨"SendTheBoxModel", "wholeCost", "(I)J"⟩) ∈ lw_all := lw_g (lw_at lw_ms 64 rfl) rfl
theorem qs65 : (Cond.selects "SendTheBoxModel" ⟨"SendTheBoxModel", "day", "(IIII)I"⟩ ⟨"SendTheBoxModel", "day", "(IIII)I"⟩) ∈ lw_all := lw_g (lw_at lw_ms 65 rfl) rfl
theorem qs66 : (Cond.selects "SendTheBoxModel" ⟨"SendTheBoxModel", "draw", "()I"⟩ ⟨"SendTheBoxModel", "draw", "()I"⟩) ∈ lw_all := lw_g (lw_at lw_ms 66 rfl) rfl
theorem qs67 : (Cond.selects "SendTheBoxModel" ⟨"SendTheBoxModel", "takeFrom", "(LSendTheBoxModel;)V"⟩ ⟨"SendTheBoxModel", "takeFrom", "(LSendTheBoxModel;)V"⟩) ∈ lw_all := lw_g (lw_at lw_ms 67 rfl) rfl
