-- ===== PART A: goes FIRST, ahead of the names: the tables' words, and 'selects' of the private methods out of them =====
/-- a private method of a class that the tables say can be made, by its rows of tables_1 -/
def lw_okq (q : MethodName × Nat) : Prop := (q.1.cls ≠ "java/lang/invoke/MethodHandle" ∧ q.1.cls ≠ "java/lang/invoke/VarHandle") ∧ Cond.instantiable q.1.cls q.2 ∈ tables_1 ∧ Cond.privateMethod q.1 ∈ tables_1 ∧ Cond.instanceMethod q.1 ∈ tables_1
set_option maxRecDepth 100000
theorem lw_t1 {w : Cond} (h : w ∈ tables_1_1) : w ∈ tables_1 := List.mem_append_left _ h
theorem lw_t2 {w : Cond} (h : w ∈ tables_1_2) : w ∈ tables_1 := List.mem_append_right _ (List.mem_append_left _ h)
theorem lw_t3 {w : Cond} (h : w ∈ tables_1_3) : w ∈ tables_1 := List.mem_append_right _ (List.mem_append_right _ (List.mem_append_left _ h))
theorem lw_t4 {w : Cond} (h : w ∈ tables_1_4) : w ∈ tables_1 := List.mem_append_right _ (List.mem_append_right _ (List.mem_append_right _ (List.mem_append_left _ h)))
theorem lw_t5 {w : Cond} (h : w ∈ tables_1_5) : w ∈ tables_1 := List.mem_append_right _ (List.mem_append_right _ (List.mem_append_right _ (List.mem_append_right _ (List.mem_append_left _ h))))
theorem lw_t6 {w : Cond} (h : w ∈ tables_1_6) : w ∈ tables_1 := List.mem_append_right _ (List.mem_append_right _ (List.mem_append_right _ (List.mem_append_right _ (List.mem_append_right _ (List.mem_append_left _ h)))))
theorem lw_t7 {w : Cond} (h : w ∈ tables_1_7) : w ∈ tables_1 := List.mem_append_right _ (List.mem_append_right _ (List.mem_append_right _ (List.mem_append_right _ (List.mem_append_right _ (List.mem_append_right _ (List.mem_append_left _ h))))))
theorem lw_t8 {w : Cond} (h : w ∈ tables_1_8) : w ∈ tables_1 := List.mem_append_right _ (List.mem_append_right _ (List.mem_append_right _ (List.mem_append_right _ (List.mem_append_right _ (List.mem_append_right _ (List.mem_append_right _ (List.mem_append_left _ h)))))))
theorem lw_t9 {w : Cond} (h : w ∈ tables_1_9) : w ∈ tables_1 := List.mem_append_right _ (List.mem_append_right _ (List.mem_append_right _ (List.mem_append_right _ (List.mem_append_right _ (List.mem_append_right _ (List.mem_append_right _ (List.mem_append_right _ h)))))))
theorem lw_p0 : lw_okq (⟨"HatsDecide", "hatOf", "(IIII)LHatsDecide$Hat;"⟩, 40) := ⟨⟨by decide +kernel, by decide +kernel⟩, lw_t1 (List.mem_of_getElem? (i := 44) rfl), lw_t2 (List.mem_of_getElem? (i := 91) rfl), lw_t2 (List.mem_of_getElem? (i := 92) rfl)⟩
theorem lw_p1 : lw_okq (⟨"HatsDecide", "isHat", "(I)Z"⟩, 40) := ⟨⟨by decide +kernel, by decide +kernel⟩, lw_t1 (List.mem_of_getElem? (i := 44) rfl), lw_t2 (List.mem_of_getElem? (i := 232) rfl), lw_t2 (List.mem_of_getElem? (i := 233) rfl)⟩
theorem lw_p2 : lw_okq (⟨"HatsDecide", "isHead", "(I)Z"⟩, 40) := ⟨⟨by decide +kernel, by decide +kernel⟩, lw_t1 (List.mem_of_getElem? (i := 44) rfl), lw_t3 (List.mem_of_getElem? (i := 26) rfl), lw_t3 (List.mem_of_getElem? (i := 27) rfl)⟩
theorem lw_p3 : lw_okq (⟨"HatsDecide", "deedOf", "(LHatsDecide$Time;II)I"⟩, 40) := ⟨⟨by decide +kernel, by decide +kernel⟩, lw_t1 (List.mem_of_getElem? (i := 44) rfl), lw_t3 (List.mem_of_getElem? (i := 30) rfl), lw_t3 (List.mem_of_getElem? (i := 31) rfl)⟩
theorem lw_p4 : lw_okq (⟨"HatsDecide$Reader", "clause", "()V"⟩, 5) := ⟨⟨by decide +kernel, by decide +kernel⟩, lw_t3 (List.mem_of_getElem? (i := 145) rfl), lw_t3 (List.mem_of_getElem? (i := 173) rfl), lw_t3 (List.mem_of_getElem? (i := 174) rfl)⟩
theorem lw_p5 : lw_okq (⟨"HatsDecide$Reader", "here", "()I"⟩, 5) := ⟨⟨by decide +kernel, by decide +kernel⟩, lw_t3 (List.mem_of_getElem? (i := 145) rfl), lw_t3 (List.mem_of_getElem? (i := 177) rfl), lw_t3 (List.mem_of_getElem? (i := 178) rfl)⟩
theorem lw_p6 : lw_okq (⟨"HatsDecide$Reader", "tested", "(Ljava/lang/String;I)V"⟩, 5) := ⟨⟨by decide +kernel, by decide +kernel⟩, lw_t3 (List.mem_of_getElem? (i := 145) rfl), lw_t3 (List.mem_of_getElem? (i := 182) rfl), lw_t3 (List.mem_of_getElem? (i := 183) rfl)⟩
theorem lw_p7 : lw_okq (⟨"HatsDecide$Reader", "word", "(Ljava/lang/String;)V"⟩, 5) := ⟨⟨by decide +kernel, by decide +kernel⟩, lw_t3 (List.mem_of_getElem? (i := 145) rfl), lw_t3 (List.mem_of_getElem? (i := 186) rfl), lw_t3 (List.mem_of_getElem? (i := 187) rfl)⟩
theorem lw_p8 : lw_okq (⟨"HatsDecide$Reader", "must", "(I)V"⟩, 5) := ⟨⟨by decide +kernel, by decide +kernel⟩, lw_t3 (List.mem_of_getElem? (i := 145) rfl), lw_t3 (List.mem_of_getElem? (i := 236) rfl), lw_t3 (List.mem_of_getElem? (i := 237) rfl)⟩
theorem lw_p9 : lw_okq (⟨"HatsDecide$Reader", "off", "()LHatsDecide$Off;"⟩, 5) := ⟨⟨by decide +kernel, by decide +kernel⟩, lw_t3 (List.mem_of_getElem? (i := 145) rfl), lw_t4 (List.mem_of_getElem? (i := 0) rfl), lw_t4 (List.mem_of_getElem? (i := 1) rfl)⟩
theorem lw_p10 : lw_okq (⟨"java/lang/NullPointerException", "getExtendedNPEMessage", "()Ljava/lang/String;"⟩, 8) := ⟨⟨by decide +kernel, by decide +kernel⟩, lw_t4 (List.mem_of_getElem? (i := 46) rfl), lw_t4 (List.mem_of_getElem? (i := 44) rfl), lw_t4 (List.mem_of_getElem? (i := 45) rfl)⟩
theorem lw_p11 : lw_okq (⟨"java/lang/Throwable", "fillInStackTrace", "(I)Ljava/lang/Throwable;"⟩, 6) := ⟨⟨by decide +kernel, by decide +kernel⟩, lw_t4 (List.mem_of_getElem? (i := 58) rfl), lw_t4 (List.mem_of_getElem? (i := 56) rfl), lw_t4 (List.mem_of_getElem? (i := 57) rfl)⟩
theorem lw_p12 : lw_okq (⟨"HatsDecide$Reader", "number", "()I"⟩, 5) := ⟨⟨by decide +kernel, by decide +kernel⟩, lw_t3 (List.mem_of_getElem? (i := 145) rfl), lw_t4 (List.mem_of_getElem? (i := 88) rfl), lw_t4 (List.mem_of_getElem? (i := 89) rfl)⟩
theorem lw_p13 : lw_okq (⟨"HatsDecide$Reader", "some", "()LHatsDecide$Test;"⟩, 5) := ⟨⟨by decide +kernel, by decide +kernel⟩, lw_t3 (List.mem_of_getElem? (i := 145) rfl), lw_t4 (List.mem_of_getElem? (i := 95) rfl), lw_t4 (List.mem_of_getElem? (i := 96) rfl)⟩
theorem lw_p14 : lw_okq (⟨"HatsDecide$Reader", "all", "()LHatsDecide$Test;"⟩, 5) := ⟨⟨by decide +kernel, by decide +kernel⟩, lw_t3 (List.mem_of_getElem? (i := 145) rfl), lw_t4 (List.mem_of_getElem? (i := 118) rfl), lw_t4 (List.mem_of_getElem? (i := 119) rfl)⟩
theorem lw_p15 : lw_okq (⟨"HatsDecide$Reader", "factor", "()LHatsDecide$Test;"⟩, 5) := ⟨⟨by decide +kernel, by decide +kernel⟩, lw_t3 (List.mem_of_getElem? (i := 145) rfl), lw_t4 (List.mem_of_getElem? (i := 122) rfl), lw_t4 (List.mem_of_getElem? (i := 123) rfl)⟩
def lw_privs_1 : List (MethodName × Nat) := [(⟨"HatsDecide", "hatOf", "(IIII)LHatsDecide$Hat;"⟩, 40), (⟨"HatsDecide", "isHat", "(I)Z"⟩, 40), (⟨"HatsDecide", "isHead", "(I)Z"⟩, 40), (⟨"HatsDecide", "deedOf", "(LHatsDecide$Time;II)I"⟩, 40), (⟨"HatsDecide$Reader", "clause", "()V"⟩, 5), (⟨"HatsDecide$Reader", "here", "()I"⟩, 5), (⟨"HatsDecide$Reader", "tested", "(Ljava/lang/String;I)V"⟩, 5), (⟨"HatsDecide$Reader", "word", "(Ljava/lang/String;)V"⟩, 5), (⟨"HatsDecide$Reader", "must", "(I)V"⟩, 5), (⟨"HatsDecide$Reader", "off", "()LHatsDecide$Off;"⟩, 5), (⟨"java/lang/NullPointerException", "getExtendedNPEMessage", "()Ljava/lang/String;"⟩, 8), (⟨"java/lang/Throwable", "fillInStackTrace", "(I)Ljava/lang/Throwable;"⟩, 6), (⟨"HatsDecide$Reader", "number", "()I"⟩, 5), (⟨"HatsDecide$Reader", "some", "()LHatsDecide$Test;"⟩, 5), (⟨"HatsDecide$Reader", "all", "()LHatsDecide$Test;"⟩, 5), (⟨"HatsDecide$Reader", "factor", "()LHatsDecide$Test;"⟩, 5)]
theorem lw_r1 : ∀ q ∈ lw_privs_1, lw_okq q := List.forall_mem_cons.mpr ⟨lw_p0, List.forall_mem_cons.mpr ⟨lw_p1, List.forall_mem_cons.mpr ⟨lw_p2, List.forall_mem_cons.mpr ⟨lw_p3, List.forall_mem_cons.mpr ⟨lw_p4, List.forall_mem_cons.mpr ⟨lw_p5, List.forall_mem_cons.mpr ⟨lw_p6, List.forall_mem_cons.mpr ⟨lw_p7, List.forall_mem_cons.mpr ⟨lw_p8, List.forall_mem_cons.mpr ⟨lw_p9, List.forall_mem_cons.mpr ⟨lw_p10, List.forall_mem_cons.mpr ⟨lw_p11, List.forall_mem_cons.mpr ⟨lw_p12, List.forall_mem_cons.mpr ⟨lw_p13, List.forall_mem_cons.mpr ⟨lw_p14, List.forall_mem_cons.mpr ⟨lw_p15, fun _ h => absurd h List.not_mem_nil⟩⟩⟩⟩⟩⟩⟩⟩⟩⟩⟩⟩⟩⟩⟩⟩
theorem lw_p16 : lw_okq (⟨"HatsDecide$Reader", "deeper", "()V"⟩, 5) := ⟨⟨by decide +kernel, by decide +kernel⟩, lw_t3 (List.mem_of_getElem? (i := 145) rfl), lw_t4 (List.mem_of_getElem? (i := 126) rfl), lw_t4 (List.mem_of_getElem? (i := 127) rfl)⟩
theorem lw_p17 : lw_okq (⟨"java/util/ArrayList", "add", "(Ljava/lang/Object;[Ljava/lang/Object;I)V"⟩, 3) := ⟨⟨by decide +kernel, by decide +kernel⟩, lw_t1 (List.mem_of_getElem? (i := 85) rfl), lw_t4 (List.mem_of_getElem? (i := 160) rfl), lw_t4 (List.mem_of_getElem? (i := 161) rfl)⟩
theorem lw_p18 : lw_okq (⟨"java/util/ArrayList", "grow", "()[Ljava/lang/Object;"⟩, 3) := ⟨⟨by decide +kernel, by decide +kernel⟩, lw_t1 (List.mem_of_getElem? (i := 85) rfl), lw_t4 (List.mem_of_getElem? (i := 164) rfl), lw_t4 (List.mem_of_getElem? (i := 165) rfl)⟩
theorem lw_p19 : lw_okq (⟨"java/util/ArrayList", "grow", "(I)[Ljava/lang/Object;"⟩, 3) := ⟨⟨by decide +kernel, by decide +kernel⟩, lw_t1 (List.mem_of_getElem? (i := 85) rfl), lw_t4 (List.mem_of_getElem? (i := 168) rfl), lw_t4 (List.mem_of_getElem? (i := 169) rfl)⟩
theorem lw_p20 : lw_okq (⟨"HatsDecide$Reader", "work", "()V"⟩, 5) := ⟨⟨by decide +kernel, by decide +kernel⟩, lw_t3 (List.mem_of_getElem? (i := 145) rfl), lw_t5 (List.mem_of_getElem? (i := 2) rfl), lw_t5 (List.mem_of_getElem? (i := 3) rfl)⟩
theorem lw_p21 : lw_okq (⟨"HatsDecide", "todayOf", "(LHatsDecide$Time;I)I"⟩, 40) := ⟨⟨by decide +kernel, by decide +kernel⟩, lw_t1 (List.mem_of_getElem? (i := 44) rfl), lw_t5 (List.mem_of_getElem? (i := 15) rfl), lw_t5 (List.mem_of_getElem? (i := 16) rfl)⟩
theorem lw_p22 : lw_okq (⟨"HatsDecide", "isEnough", "(LHatsDecide$Time;I)Z"⟩, 40) := ⟨⟨by decide +kernel, by decide +kernel⟩, lw_t1 (List.mem_of_getElem? (i := 44) rfl), lw_t5 (List.mem_of_getElem? (i := 56) rfl), lw_t5 (List.mem_of_getElem? (i := 57) rfl)⟩
theorem lw_p23 : lw_okq (⟨"HatsDecide", "looksForDeeds", "()V"⟩, 40) := ⟨⟨by decide +kernel, by decide +kernel⟩, lw_t1 (List.mem_of_getElem? (i := 44) rfl), lw_t5 (List.mem_of_getElem? (i := 81) rfl), lw_t5 (List.mem_of_getElem? (i := 82) rfl)⟩
theorem lw_p24 : lw_okq (⟨"HatsDecide", "waysFrom", "(IIII)V"⟩, 40) := ⟨⟨by decide +kernel, by decide +kernel⟩, lw_t1 (List.mem_of_getElem? (i := 44) rfl), lw_t5 (List.mem_of_getElem? (i := 85) rfl), lw_t5 (List.mem_of_getElem? (i := 86) rfl)⟩
theorem lw_p25 : lw_okq (⟨"HatsDecide", "mostFrom", "(III)I"⟩, 40) := ⟨⟨by decide +kernel, by decide +kernel⟩, lw_t1 (List.mem_of_getElem? (i := 44) rfl), lw_t5 (List.mem_of_getElem? (i := 94) rfl), lw_t5 (List.mem_of_getElem? (i := 95) rfl)⟩
theorem lw_p26 : lw_okq (⟨"HatsDecide", "goalOf", "(I)I"⟩, 40) := ⟨⟨by decide +kernel, by decide +kernel⟩, lw_t1 (List.mem_of_getElem? (i := 44) rfl), lw_t5 (List.mem_of_getElem? (i := 103) rfl), lw_t5 (List.mem_of_getElem? (i := 104) rfl)⟩
theorem lw_p27 : lw_okq (⟨"HatsDecide", "isRing", "(I)Z"⟩, 40) := ⟨⟨by decide +kernel, by decide +kernel⟩, lw_t1 (List.mem_of_getElem? (i := 44) rfl), lw_t5 (List.mem_of_getElem? (i := 107) rfl), lw_t5 (List.mem_of_getElem? (i := 108) rfl)⟩
theorem lw_p28 : lw_okq (⟨"HatsDecide", "gustedBy", "(II)I"⟩, 40) := ⟨⟨by decide +kernel, by decide +kernel⟩, lw_t1 (List.mem_of_getElem? (i := 44) rfl), lw_t5 (List.mem_of_getElem? (i := 115) rfl), lw_t5 (List.mem_of_getElem? (i := 116) rfl)⟩
theorem lw_p29 : lw_okq (⟨"HatsDecide", "woreOf", "(I)I"⟩, 40) := ⟨⟨by decide +kernel, by decide +kernel⟩, lw_t1 (List.mem_of_getElem? (i := 44) rfl), lw_t5 (List.mem_of_getElem? (i := 143) rfl), lw_t5 (List.mem_of_getElem? (i := 144) rfl)⟩
theorem lw_p30 : lw_okq (⟨"HatsDecide", "isAsSeen", "(II)Z"⟩, 40) := ⟨⟨by decide +kernel, by decide +kernel⟩, lw_t1 (List.mem_of_getElem? (i := 44) rfl), lw_t5 (List.mem_of_getElem? (i := 147) rfl), lw_t5 (List.mem_of_getElem? (i := 148) rfl)⟩
theorem lw_p31 : lw_okq (⟨"HatsDecide", "waysSeen", "(II)I"⟩, 40) := ⟨⟨by decide +kernel, by decide +kernel⟩, lw_t1 (List.mem_of_getElem? (i := 44) rfl), lw_t5 (List.mem_of_getElem? (i := 155) rfl), lw_t5 (List.mem_of_getElem? (i := 156) rfl)⟩
def lw_privs_2 : List (MethodName × Nat) := [(⟨"HatsDecide$Reader", "deeper", "()V"⟩, 5), (⟨"java/util/ArrayList", "add", "(Ljava/lang/Object;[Ljava/lang/Object;I)V"⟩, 3), (⟨"java/util/ArrayList", "grow", "()[Ljava/lang/Object;"⟩, 3), (⟨"java/util/ArrayList", "grow", "(I)[Ljava/lang/Object;"⟩, 3), (⟨"HatsDecide$Reader", "work", "()V"⟩, 5), (⟨"HatsDecide", "todayOf", "(LHatsDecide$Time;I)I"⟩, 40), (⟨"HatsDecide", "isEnough", "(LHatsDecide$Time;I)Z"⟩, 40), (⟨"HatsDecide", "looksForDeeds", "()V"⟩, 40), (⟨"HatsDecide", "waysFrom", "(IIII)V"⟩, 40), (⟨"HatsDecide", "mostFrom", "(III)I"⟩, 40), (⟨"HatsDecide", "goalOf", "(I)I"⟩, 40), (⟨"HatsDecide", "isRing", "(I)Z"⟩, 40), (⟨"HatsDecide", "gustedBy", "(II)I"⟩, 40), (⟨"HatsDecide", "woreOf", "(I)I"⟩, 40), (⟨"HatsDecide", "isAsSeen", "(II)Z"⟩, 40), (⟨"HatsDecide", "waysSeen", "(II)I"⟩, 40)]
theorem lw_r2 : ∀ q ∈ lw_privs_2, lw_okq q := List.forall_mem_cons.mpr ⟨lw_p16, List.forall_mem_cons.mpr ⟨lw_p17, List.forall_mem_cons.mpr ⟨lw_p18, List.forall_mem_cons.mpr ⟨lw_p19, List.forall_mem_cons.mpr ⟨lw_p20, List.forall_mem_cons.mpr ⟨lw_p21, List.forall_mem_cons.mpr ⟨lw_p22, List.forall_mem_cons.mpr ⟨lw_p23, List.forall_mem_cons.mpr ⟨lw_p24, List.forall_mem_cons.mpr ⟨lw_p25, List.forall_mem_cons.mpr ⟨lw_p26, List.forall_mem_cons.mpr ⟨lw_p27, List.forall_mem_cons.mpr ⟨lw_p28, List.forall_mem_cons.mpr ⟨lw_p29, List.forall_mem_cons.mpr ⟨lw_p30, List.forall_mem_cons.mpr ⟨lw_p31, fun _ h => absurd h List.not_mem_nil⟩⟩⟩⟩⟩⟩⟩⟩⟩⟩⟩⟩⟩⟩⟩⟩
theorem lw_p32 : lw_okq (⟨"HatsDecide", "isSeen", "(I)Z"⟩, 40) := ⟨⟨by decide +kernel, by decide +kernel⟩, lw_t1 (List.mem_of_getElem? (i := 44) rfl), lw_t5 (List.mem_of_getElem? (i := 159) rfl), lw_t5 (List.mem_of_getElem? (i := 160) rfl)⟩
theorem lw_p33 : lw_okq (⟨"HatsDecide", "firstOther", "([BI)I"⟩, 40) := ⟨⟨by decide +kernel, by decide +kernel⟩, lw_t1 (List.mem_of_getElem? (i := 44) rfl), lw_t5 (List.mem_of_getElem? (i := 221) rfl), lw_t5 (List.mem_of_getElem? (i := 222) rfl)⟩
theorem lw_p34 : lw_okq (⟨"HatsDecide$Tape", "has", "(I)V"⟩, 1) := ⟨⟨by decide +kernel, by decide +kernel⟩, lw_t1 (List.mem_of_getElem? (i := 176) rfl), lw_t6 (List.mem_of_getElem? (i := 139) rfl), lw_t6 (List.mem_of_getElem? (i := 140) rfl)⟩
theorem lw_p35 : lw_okq (⟨"HatsDecide$Tape", "size", "()I"⟩, 1) := ⟨⟨by decide +kernel, by decide +kernel⟩, lw_t1 (List.mem_of_getElem? (i := 176) rfl), lw_t6 (List.mem_of_getElem? (i := 145) rfl), lw_t6 (List.mem_of_getElem? (i := 146) rfl)⟩
theorem lw_p36 : lw_okq (⟨"HatsDecideModel", "in", "(III)Z"⟩, 78) := ⟨⟨by decide +kernel, by decide +kernel⟩, lw_t6 (List.mem_of_getElem? (i := 201) rfl), lw_t7 (List.mem_of_getElem? (i := 206) rfl), lw_t7 (List.mem_of_getElem? (i := 207) rfl)⟩
theorem lw_p37 : lw_okq (⟨"HatsDecideModel", "isTrade", "(I)Z"⟩, 78) := ⟨⟨by decide +kernel, by decide +kernel⟩, lw_t6 (List.mem_of_getElem? (i := 201) rfl), lw_t7 (List.mem_of_getElem? (i := 214) rfl), lw_t7 (List.mem_of_getElem? (i := 215) rfl)⟩
theorem lw_p38 : lw_okq (⟨"HatsDecideModel", "isHat", "(I)Z"⟩, 78) := ⟨⟨by decide +kernel, by decide +kernel⟩, lw_t6 (List.mem_of_getElem? (i := 201) rfl), lw_t7 (List.mem_of_getElem? (i := 222) rfl), lw_t7 (List.mem_of_getElem? (i := 223) rfl)⟩
theorem lw_p39 : lw_okq (⟨"HatsDecideModel", "isHead", "(I)Z"⟩, 78) := ⟨⟨by decide +kernel, by decide +kernel⟩, lw_t6 (List.mem_of_getElem? (i := 201) rfl), lw_t7 (List.mem_of_getElem? (i := 230) rfl), lw_t7 (List.mem_of_getElem? (i := 231) rfl)⟩
theorem lw_p40 : lw_okq (⟨"HatsDecideModel", "headOf", "(I)I"⟩, 78) := ⟨⟨by decide +kernel, by decide +kernel⟩, lw_t6 (List.mem_of_getElem? (i := 201) rfl), lw_t7 (List.mem_of_getElem? (i := 234) rfl), lw_t7 (List.mem_of_getElem? (i := 235) rfl)⟩
theorem lw_p41 : lw_okq (⟨"HatsDecideModel", "orNone", "(I)I"⟩, 78) := ⟨⟨by decide +kernel, by decide +kernel⟩, lw_t6 (List.mem_of_getElem? (i := 201) rfl), lw_t8 (List.mem_of_getElem? (i := 2) rfl), lw_t8 (List.mem_of_getElem? (i := 3) rfl)⟩
theorem lw_p42 : lw_okq (⟨"HatsDecideModel", "goesText", "(I)Z"⟩, 78) := ⟨⟨by decide +kernel, by decide +kernel⟩, lw_t6 (List.mem_of_getElem? (i := 201) rfl), lw_t8 (List.mem_of_getElem? (i := 18) rfl), lw_t8 (List.mem_of_getElem? (i := 19) rfl)⟩
theorem lw_p43 : lw_okq (⟨"HatsDecideModel", "takesClause", "(I)Z"⟩, 78) := ⟨⟨by decide +kernel, by decide +kernel⟩, lw_t6 (List.mem_of_getElem? (i := 201) rfl), lw_t8 (List.mem_of_getElem? (i := 22) rfl), lw_t8 (List.mem_of_getElem? (i := 23) rfl)⟩
theorem lw_p44 : lw_okq (⟨"HatsDecideModel", "takesHead", "(I)Z"⟩, 78) := ⟨⟨by decide +kernel, by decide +kernel⟩, lw_t6 (List.mem_of_getElem? (i := 201) rfl), lw_t8 (List.mem_of_getElem? (i := 26) rfl), lw_t8 (List.mem_of_getElem? (i := 27) rfl)⟩
theorem lw_p45 : lw_okq (⟨"HatsDecideModel", "next", "()I"⟩, 78) := ⟨⟨by decide +kernel, by decide +kernel⟩, lw_t6 (List.mem_of_getElem? (i := 201) rfl), lw_t8 (List.mem_of_getElem? (i := 30) rfl), lw_t8 (List.mem_of_getElem? (i := 31) rfl)⟩
theorem lw_p46 : lw_okq (⟨"HatsDecideModel", "takesWord", "(II)Z"⟩, 78) := ⟨⟨by decide +kernel, by decide +kernel⟩, lw_t6 (List.mem_of_getElem? (i := 201) rfl), lw_t8 (List.mem_of_getElem? (i := 34) rfl), lw_t8 (List.mem_of_getElem? (i := 35) rfl)⟩
theorem lw_p47 : lw_okq (⟨"HatsDecideModel", "takes", "(I)Z"⟩, 78) := ⟨⟨by decide +kernel, by decide +kernel⟩, lw_t6 (List.mem_of_getElem? (i := 201) rfl), lw_t8 (List.mem_of_getElem? (i := 38) rfl), lw_t8 (List.mem_of_getElem? (i := 39) rfl)⟩
def lw_privs_3 : List (MethodName × Nat) := [(⟨"HatsDecide", "isSeen", "(I)Z"⟩, 40), (⟨"HatsDecide", "firstOther", "([BI)I"⟩, 40), (⟨"HatsDecide$Tape", "has", "(I)V"⟩, 1), (⟨"HatsDecide$Tape", "size", "()I"⟩, 1), (⟨"HatsDecideModel", "in", "(III)Z"⟩, 78), (⟨"HatsDecideModel", "isTrade", "(I)Z"⟩, 78), (⟨"HatsDecideModel", "isHat", "(I)Z"⟩, 78), (⟨"HatsDecideModel", "isHead", "(I)Z"⟩, 78), (⟨"HatsDecideModel", "headOf", "(I)I"⟩, 78), (⟨"HatsDecideModel", "orNone", "(I)I"⟩, 78), (⟨"HatsDecideModel", "goesText", "(I)Z"⟩, 78), (⟨"HatsDecideModel", "takesClause", "(I)Z"⟩, 78), (⟨"HatsDecideModel", "takesHead", "(I)Z"⟩, 78), (⟨"HatsDecideModel", "next", "()I"⟩, 78), (⟨"HatsDecideModel", "takesWord", "(II)Z"⟩, 78), (⟨"HatsDecideModel", "takes", "(I)Z"⟩, 78)]
theorem lw_r3 : ∀ q ∈ lw_privs_3, lw_okq q := List.forall_mem_cons.mpr ⟨lw_p32, List.forall_mem_cons.mpr ⟨lw_p33, List.forall_mem_cons.mpr ⟨lw_p34, List.forall_mem_cons.mpr ⟨lw_p35, List.forall_mem_cons.mpr ⟨lw_p36, List.forall_mem_cons.mpr ⟨lw_p37, List.forall_mem_cons.mpr ⟨lw_p38, List.forall_mem_cons.mpr ⟨lw_p39, List.forall_mem_cons.mpr ⟨lw_p40, List.forall_mem_cons.mpr ⟨lw_p41, List.forall_mem_cons.mpr ⟨lw_p42, List.forall_mem_cons.mpr ⟨lw_p43, List.forall_mem_cons.mpr ⟨lw_p44, List.forall_mem_cons.mpr ⟨lw_p45, List.forall_mem_cons.mpr ⟨lw_p46, List.forall_mem_cons.mpr ⟨lw_p47, fun _ h => absurd h List.not_mem_nil⟩⟩⟩⟩⟩⟩⟩⟩⟩⟩⟩⟩⟩⟩⟩⟩
theorem lw_p48 : lw_okq (⟨"HatsDecideModel", "takesNumber", "()Z"⟩, 78) := ⟨⟨by decide +kernel, by decide +kernel⟩, lw_t6 (List.mem_of_getElem? (i := 201) rfl), lw_t8 (List.mem_of_getElem? (i := 42) rfl), lw_t8 (List.mem_of_getElem? (i := 43) rfl)⟩
theorem lw_p49 : lw_okq (⟨"HatsDecideModel", "isDigit", "()Z"⟩, 78) := ⟨⟨by decide +kernel, by decide +kernel⟩, lw_t6 (List.mem_of_getElem? (i := 201) rfl), lw_t8 (List.mem_of_getElem? (i := 46) rfl), lw_t8 (List.mem_of_getElem? (i := 47) rfl)⟩
theorem lw_p50 : lw_okq (⟨"HatsDecideModel", "takesE", "(I)Z"⟩, 78) := ⟨⟨by decide +kernel, by decide +kernel⟩, lw_t6 (List.mem_of_getElem? (i := 201) rfl), lw_t8 (List.mem_of_getElem? (i := 50) rfl), lw_t8 (List.mem_of_getElem? (i := 51) rfl)⟩
theorem lw_p51 : lw_okq (⟨"HatsDecideModel", "takesTest", "()Z"⟩, 78) := ⟨⟨by decide +kernel, by decide +kernel⟩, lw_t6 (List.mem_of_getElem? (i := 201) rfl), lw_t8 (List.mem_of_getElem? (i := 54) rfl), lw_t8 (List.mem_of_getElem? (i := 55) rfl)⟩
theorem lw_p52 : lw_okq (⟨"HatsDecideModel", "place", "(I)I"⟩, 78) := ⟨⟨by decide +kernel, by decide +kernel⟩, lw_t6 (List.mem_of_getElem? (i := 201) rfl), lw_t8 (List.mem_of_getElem? (i := 58) rfl), lw_t8 (List.mem_of_getElem? (i := 59) rfl)⟩
theorem lw_p53 : lw_okq (⟨"HatsDecideModel", "emits", "(I)V"⟩, 78) := ⟨⟨by decide +kernel, by decide +kernel⟩, lw_t6 (List.mem_of_getElem? (i := 201) rfl), lw_t8 (List.mem_of_getElem? (i := 62) rfl), lw_t8 (List.mem_of_getElem? (i := 63) rfl)⟩
theorem lw_p54 : lw_okq (⟨"HatsDecideModel", "whole", "()V"⟩, 78) := ⟨⟨by decide +kernel, by decide +kernel⟩, lw_t6 (List.mem_of_getElem? (i := 201) rfl), lw_t8 (List.mem_of_getElem? (i := 66) rfl), lw_t8 (List.mem_of_getElem? (i := 67) rfl)⟩
theorem lw_p55 : lw_okq (⟨"HatsDecideModel", "settle", "(I)V"⟩, 78) := ⟨⟨by decide +kernel, by decide +kernel⟩, lw_t6 (List.mem_of_getElem? (i := 201) rfl), lw_t8 (List.mem_of_getElem? (i := 70) rfl), lw_t8 (List.mem_of_getElem? (i := 71) rfl)⟩
theorem lw_p56 : lw_okq (⟨"HatsDecideModel", "deed", "(II)I"⟩, 78) := ⟨⟨by decide +kernel, by decide +kernel⟩, lw_t6 (List.mem_of_getElem? (i := 201) rfl), lw_t8 (List.mem_of_getElem? (i := 78) rfl), lw_t8 (List.mem_of_getElem? (i := 79) rfl)⟩
theorem lw_p57 : lw_okq (⟨"HatsDecideModel", "fits", "(II)I"⟩, 78) := ⟨⟨by decide +kernel, by decide +kernel⟩, lw_t6 (List.mem_of_getElem? (i := 201) rfl), lw_t8 (List.mem_of_getElem? (i := 82) rfl), lw_t8 (List.mem_of_getElem? (i := 83) rfl)⟩
theorem lw_p58 : lw_okq (⟨"HatsDecideModel", "begin", "()I"⟩, 78) := ⟨⟨by decide +kernel, by decide +kernel⟩, lw_t6 (List.mem_of_getElem? (i := 201) rfl), lw_t8 (List.mem_of_getElem? (i := 86) rfl), lw_t8 (List.mem_of_getElem? (i := 87) rfl)⟩
theorem lw_p59 : lw_okq (⟨"HatsDecideModel", "behind", "()I"⟩, 78) := ⟨⟨by decide +kernel, by decide +kernel⟩, lw_t6 (List.mem_of_getElem? (i := 201) rfl), lw_t8 (List.mem_of_getElem? (i := 90) rfl), lw_t8 (List.mem_of_getElem? (i := 91) rfl)⟩
theorem lw_p60 : lw_okq (⟨"HatsDecideModel", "holds", "(III)Z"⟩, 78) := ⟨⟨by decide +kernel, by decide +kernel⟩, lw_t6 (List.mem_of_getElem? (i := 201) rfl), lw_t8 (List.mem_of_getElem? (i := 94) rfl), lw_t8 (List.mem_of_getElem? (i := 95) rfl)⟩
theorem lw_p61 : lw_okq (⟨"HatsDecideModel", "factOf", "(III)I"⟩, 78) := ⟨⟨by decide +kernel, by decide +kernel⟩, lw_t6 (List.mem_of_getElem? (i := 201) rfl), lw_t8 (List.mem_of_getElem? (i := 98) rfl), lw_t8 (List.mem_of_getElem? (i := 99) rfl)⟩
theorem lw_p62 : lw_okq (⟨"HatsDecideModel", "most", "(II)I"⟩, 78) := ⟨⟨by decide +kernel, by decide +kernel⟩, lw_t6 (List.mem_of_getElem? (i := 201) rfl), lw_t8 (List.mem_of_getElem? (i := 102) rfl), lw_t8 (List.mem_of_getElem? (i := 103) rfl)⟩
theorem lw_p63 : lw_okq (⟨"HatsDecideModel", "apart", "(II)I"⟩, 78) := ⟨⟨by decide +kernel, by decide +kernel⟩, lw_t6 (List.mem_of_getElem? (i := 201) rfl), lw_t8 (List.mem_of_getElem? (i := 106) rfl), lw_t8 (List.mem_of_getElem? (i := 107) rfl)⟩
def lw_privs_4 : List (MethodName × Nat) := [(⟨"HatsDecideModel", "takesNumber", "()Z"⟩, 78), (⟨"HatsDecideModel", "isDigit", "()Z"⟩, 78), (⟨"HatsDecideModel", "takesE", "(I)Z"⟩, 78), (⟨"HatsDecideModel", "takesTest", "()Z"⟩, 78), (⟨"HatsDecideModel", "place", "(I)I"⟩, 78), (⟨"HatsDecideModel", "emits", "(I)V"⟩, 78), (⟨"HatsDecideModel", "whole", "()V"⟩, 78), (⟨"HatsDecideModel", "settle", "(I)V"⟩, 78), (⟨"HatsDecideModel", "deed", "(II)I"⟩, 78), (⟨"HatsDecideModel", "fits", "(II)I"⟩, 78), (⟨"HatsDecideModel", "begin", "()I"⟩, 78), (⟨"HatsDecideModel", "behind", "()I"⟩, 78), (⟨"HatsDecideModel", "holds", "(III)Z"⟩, 78), (⟨"HatsDecideModel", "factOf", "(III)I"⟩, 78), (⟨"HatsDecideModel", "most", "(II)I"⟩, 78), (⟨"HatsDecideModel", "apart", "(II)I"⟩, 78)]
theorem lw_r4 : ∀ q ∈ lw_privs_4, lw_okq q := List.forall_mem_cons.mpr ⟨lw_p48, List.forall_mem_cons.mpr ⟨lw_p49, List.forall_mem_cons.mpr ⟨lw_p50, List.forall_mem_cons.mpr ⟨lw_p51, List.forall_mem_cons.mpr ⟨lw_p52, List.forall_mem_cons.mpr ⟨lw_p53, List.forall_mem_cons.mpr ⟨lw_p54, List.forall_mem_cons.mpr ⟨lw_p55, List.forall_mem_cons.mpr ⟨lw_p56, List.forall_mem_cons.mpr ⟨lw_p57, List.forall_mem_cons.mpr ⟨lw_p58, List.forall_mem_cons.mpr ⟨lw_p59, List.forall_mem_cons.mpr ⟨lw_p60, List.forall_mem_cons.mpr ⟨lw_p61, List.forall_mem_cons.mpr ⟨lw_p62, List.forall_mem_cons.mpr ⟨lw_p63, fun _ h => absurd h List.not_mem_nil⟩⟩⟩⟩⟩⟩⟩⟩⟩⟩⟩⟩⟩⟩⟩⟩
theorem lw_p64 : lw_okq (⟨"HatsDecideModel", "moth", "()I"⟩, 78) := ⟨⟨by decide +kernel, by decide +kernel⟩, lw_t6 (List.mem_of_getElem? (i := 201) rfl), lw_t8 (List.mem_of_getElem? (i := 110) rfl), lw_t8 (List.mem_of_getElem? (i := 111) rfl)⟩
theorem lw_p65 : lw_okq (⟨"HatsDecideModel", "work", "(I)I"⟩, 78) := ⟨⟨by decide +kernel, by decide +kernel⟩, lw_t6 (List.mem_of_getElem? (i := 201) rfl), lw_t8 (List.mem_of_getElem? (i := 122) rfl), lw_t8 (List.mem_of_getElem? (i := 123) rfl)⟩
theorem lw_p66 : lw_okq (⟨"HatsDecideModel", "todayOf", "(I)I"⟩, 78) := ⟨⟨by decide +kernel, by decide +kernel⟩, lw_t6 (List.mem_of_getElem? (i := 201) rfl), lw_t8 (List.mem_of_getElem? (i := 130) rfl), lw_t8 (List.mem_of_getElem? (i := 131) rfl)⟩
theorem lw_p67 : lw_okq (⟨"HatsDecideModel", "goDay", "()V"⟩, 78) := ⟨⟨by decide +kernel, by decide +kernel⟩, lw_t6 (List.mem_of_getElem? (i := 201) rfl), lw_t8 (List.mem_of_getElem? (i := 135) rfl), lw_t8 (List.mem_of_getElem? (i := 136) rfl)⟩
theorem lw_p68 : lw_okq (⟨"HatsDecideModel", "goGust", "(I)I"⟩, 78) := ⟨⟨by decide +kernel, by decide +kernel⟩, lw_t6 (List.mem_of_getElem? (i := 201) rfl), lw_t8 (List.mem_of_getElem? (i := 143) rfl), lw_t8 (List.mem_of_getElem? (i := 144) rfl)⟩
theorem lw_p69 : lw_okq (⟨"HatsDecideModel", "swaps", "(II)V"⟩, 78) := ⟨⟨by decide +kernel, by decide +kernel⟩, lw_t6 (List.mem_of_getElem? (i := 201) rfl), lw_t8 (List.mem_of_getElem? (i := 151) rfl), lw_t8 (List.mem_of_getElem? (i := 152) rfl)⟩
theorem lw_p70 : lw_okq (⟨"HatsDecideModel", "save", "()V"⟩, 78) := ⟨⟨by decide +kernel, by decide +kernel⟩, lw_t6 (List.mem_of_getElem? (i := 201) rfl), lw_t8 (List.mem_of_getElem? (i := 171) rfl), lw_t8 (List.mem_of_getElem? (i := 172) rfl)⟩
theorem lw_p71 : lw_okq (⟨"HatsDecideModel", "putBack", "()V"⟩, 78) := ⟨⟨by decide +kernel, by decide +kernel⟩, lw_t6 (List.mem_of_getElem? (i := 201) rfl), lw_t8 (List.mem_of_getElem? (i := 176) rfl), lw_t8 (List.mem_of_getElem? (i := 177) rfl)⟩
theorem lw_p72 : lw_okq (⟨"HatsDecideModel", "layBest", "()V"⟩, 78) := ⟨⟨by decide +kernel, by decide +kernel⟩, lw_t6 (List.mem_of_getElem? (i := 201) rfl), lw_t8 (List.mem_of_getElem? (i := 188) rfl), lw_t8 (List.mem_of_getElem? (i := 189) rfl)⟩
theorem lw_p73 : lw_okq (⟨"HatsDecideModel", "layDeeds", "()V"⟩, 78) := ⟨⟨by decide +kernel, by decide +kernel⟩, lw_t6 (List.mem_of_getElem? (i := 201) rfl), lw_t8 (List.mem_of_getElem? (i := 192) rfl), lw_t8 (List.mem_of_getElem? (i := 193) rfl)⟩
theorem lw_p74 : lw_okq (⟨"HatsDecideModel", "ones", "(I)I"⟩, 78) := ⟨⟨by decide +kernel, by decide +kernel⟩, lw_t6 (List.mem_of_getElem? (i := 201) rfl), lw_t8 (List.mem_of_getElem? (i := 196) rfl), lw_t8 (List.mem_of_getElem? (i := 197) rfl)⟩
theorem lw_p75 : lw_okq (⟨"HatsDecideModel", "onwardBy", "(III)I"⟩, 78) := ⟨⟨by decide +kernel, by decide +kernel⟩, lw_t6 (List.mem_of_getElem? (i := 201) rfl), lw_t8 (List.mem_of_getElem? (i := 200) rfl), lw_t8 (List.mem_of_getElem? (i := 201) rfl)⟩
theorem lw_p76 : lw_okq (⟨"HatsDecideModel", "has", "(II)Z"⟩, 78) := ⟨⟨by decide +kernel, by decide +kernel⟩, lw_t6 (List.mem_of_getElem? (i := 201) rfl), lw_t8 (List.mem_of_getElem? (i := 204) rfl), lw_t8 (List.mem_of_getElem? (i := 205) rfl)⟩
theorem lw_p77 : lw_okq (⟨"HatsDecideModel", "mostOf", "(I)I"⟩, 78) := ⟨⟨by decide +kernel, by decide +kernel⟩, lw_t6 (List.mem_of_getElem? (i := 201) rfl), lw_t8 (List.mem_of_getElem? (i := 212) rfl), lw_t8 (List.mem_of_getElem? (i := 213) rfl)⟩
theorem lw_p78 : lw_okq (⟨"HatsDecideModel", "isClash", "()Z"⟩, 78) := ⟨⟨by decide +kernel, by decide +kernel⟩, lw_t6 (List.mem_of_getElem? (i := 201) rfl), lw_t8 (List.mem_of_getElem? (i := 220) rfl), lw_t8 (List.mem_of_getElem? (i := 221) rfl)⟩
theorem lw_p79 : lw_okq (⟨"HatsDecideModel", "dueFor", "(I)I"⟩, 78) := ⟨⟨by decide +kernel, by decide +kernel⟩, lw_t6 (List.mem_of_getElem? (i := 201) rfl), lw_t8 (List.mem_of_getElem? (i := 224) rfl), lw_t8 (List.mem_of_getElem? (i := 225) rfl)⟩
def lw_privs_5 : List (MethodName × Nat) := [(⟨"HatsDecideModel", "moth", "()I"⟩, 78), (⟨"HatsDecideModel", "work", "(I)I"⟩, 78), (⟨"HatsDecideModel", "todayOf", "(I)I"⟩, 78), (⟨"HatsDecideModel", "goDay", "()V"⟩, 78), (⟨"HatsDecideModel", "goGust", "(I)I"⟩, 78), (⟨"HatsDecideModel", "swaps", "(II)V"⟩, 78), (⟨"HatsDecideModel", "save", "()V"⟩, 78), (⟨"HatsDecideModel", "putBack", "()V"⟩, 78), (⟨"HatsDecideModel", "layBest", "()V"⟩, 78), (⟨"HatsDecideModel", "layDeeds", "()V"⟩, 78), (⟨"HatsDecideModel", "ones", "(I)I"⟩, 78), (⟨"HatsDecideModel", "onwardBy", "(III)I"⟩, 78), (⟨"HatsDecideModel", "has", "(II)Z"⟩, 78), (⟨"HatsDecideModel", "mostOf", "(I)I"⟩, 78), (⟨"HatsDecideModel", "isClash", "()Z"⟩, 78), (⟨"HatsDecideModel", "dueFor", "(I)I"⟩, 78)]
theorem lw_r5 : ∀ q ∈ lw_privs_5, lw_okq q := List.forall_mem_cons.mpr ⟨lw_p64, List.forall_mem_cons.mpr ⟨lw_p65, List.forall_mem_cons.mpr ⟨lw_p66, List.forall_mem_cons.mpr ⟨lw_p67, List.forall_mem_cons.mpr ⟨lw_p68, List.forall_mem_cons.mpr ⟨lw_p69, List.forall_mem_cons.mpr ⟨lw_p70, List.forall_mem_cons.mpr ⟨lw_p71, List.forall_mem_cons.mpr ⟨lw_p72, List.forall_mem_cons.mpr ⟨lw_p73, List.forall_mem_cons.mpr ⟨lw_p74, List.forall_mem_cons.mpr ⟨lw_p75, List.forall_mem_cons.mpr ⟨lw_p76, List.forall_mem_cons.mpr ⟨lw_p77, List.forall_mem_cons.mpr ⟨lw_p78, List.forall_mem_cons.mpr ⟨lw_p79, fun _ h => absurd h List.not_mem_nil⟩⟩⟩⟩⟩⟩⟩⟩⟩⟩⟩⟩⟩⟩⟩⟩
theorem lw_p80 : lw_okq (⟨"HatsDecideModel", "isRing", "(I)Z"⟩, 78) := ⟨⟨by decide +kernel, by decide +kernel⟩, lw_t6 (List.mem_of_getElem? (i := 201) rfl), lw_t8 (List.mem_of_getElem? (i := 228) rfl), lw_t8 (List.mem_of_getElem? (i := 229) rfl)⟩
theorem lw_p81 : lw_okq (⟨"HatsDecideModel", "gustedBy", "(I)I"⟩, 78) := ⟨⟨by decide +kernel, by decide +kernel⟩, lw_t6 (List.mem_of_getElem? (i := 201) rfl), lw_t8 (List.mem_of_getElem? (i := 236) rfl), lw_t8 (List.mem_of_getElem? (i := 237) rfl)⟩
theorem lw_p82 : lw_okq (⟨"HatsDecideModel", "woreOn", "(I)I"⟩, 78) := ⟨⟨by decide +kernel, by decide +kernel⟩, lw_t6 (List.mem_of_getElem? (i := 201) rfl), lw_t9 (List.mem_of_getElem? (i := 24) rfl), lw_t9 (List.mem_of_getElem? (i := 25) rfl)⟩
theorem lw_p83 : lw_okq (⟨"HatsDecideModel", "lowest", "(III)J"⟩, 78) := ⟨⟨by decide +kernel, by decide +kernel⟩, lw_t6 (List.mem_of_getElem? (i := 201) rfl), lw_t9 (List.mem_of_getElem? (i := 37) rfl), lw_t9 (List.mem_of_getElem? (i := 38) rfl)⟩
theorem lw_p84 : lw_okq (⟨"HatsDecideModel", "divisor", "(II)I"⟩, 78) := ⟨⟨by decide +kernel, by decide +kernel⟩, lw_t6 (List.mem_of_getElem? (i := 201) rfl), lw_t9 (List.mem_of_getElem? (i := 41) rfl), lw_t9 (List.mem_of_getElem? (i := 42) rfl)⟩
theorem lw_p85 : lw_okq (⟨"HatsDecideModel", "isTape", "(I)Z"⟩, 78) := ⟨⟨by decide +kernel, by decide +kernel⟩, lw_t6 (List.mem_of_getElem? (i := 201) rfl), lw_t9 (List.mem_of_getElem? (i := 61) rfl), lw_t9 (List.mem_of_getElem? (i := 62) rfl)⟩
theorem lw_p86 : lw_okq (⟨"HatsDecideModel", "sitsAct", "(II)I"⟩, 78) := ⟨⟨by decide +kernel, by decide +kernel⟩, lw_t6 (List.mem_of_getElem? (i := 201) rfl), lw_t9 (List.mem_of_getElem? (i := 77) rfl), lw_t9 (List.mem_of_getElem? (i := 78) rfl)⟩
theorem lw_p87 : lw_okq (⟨"HatsDecideModel", "body", "(I)V"⟩, 78) := ⟨⟨by decide +kernel, by decide +kernel⟩, lw_t6 (List.mem_of_getElem? (i := 201) rfl), lw_t9 (List.mem_of_getElem? (i := 81) rfl), lw_t9 (List.mem_of_getElem? (i := 82) rfl)⟩
theorem lw_p88 : lw_okq (⟨"HatsDecideModel", "hatSits", "(II)I"⟩, 78) := ⟨⟨by decide +kernel, by decide +kernel⟩, lw_t6 (List.mem_of_getElem? (i := 201) rfl), lw_t9 (List.mem_of_getElem? (i := 85) rfl), lw_t9 (List.mem_of_getElem? (i := 86) rfl)⟩
theorem lw_p89 : lw_okq (⟨"HatsDecideModel", "doesAct", "(II)I"⟩, 78) := ⟨⟨by decide +kernel, by decide +kernel⟩, lw_t6 (List.mem_of_getElem? (i := 201) rfl), lw_t9 (List.mem_of_getElem? (i := 89) rfl), lw_t9 (List.mem_of_getElem? (i := 90) rfl)⟩
theorem lw_p90 : lw_okq (⟨"HatsDecideModel", "tightDoes", "(II)I"⟩, 78) := ⟨⟨by decide +kernel, by decide +kernel⟩, lw_t6 (List.mem_of_getElem? (i := 201) rfl), lw_t9 (List.mem_of_getElem? (i := 93) rfl), lw_t9 (List.mem_of_getElem? (i := 94) rfl)⟩
theorem lw_p91 : lw_okq (⟨"HatsDecideModel", "hatDoes", "(II)I"⟩, 78) := ⟨⟨by decide +kernel, by decide +kernel⟩, lw_t6 (List.mem_of_getElem? (i := 201) rfl), lw_t9 (List.mem_of_getElem? (i := 97) rfl), lw_t9 (List.mem_of_getElem? (i := 98) rfl)⟩
theorem lw_p92 : lw_okq (⟨"HatsDecideModel", "tellsAct", "(II)I"⟩, 78) := ⟨⟨by decide +kernel, by decide +kernel⟩, lw_t6 (List.mem_of_getElem? (i := 201) rfl), lw_t9 (List.mem_of_getElem? (i := 101) rfl), lw_t9 (List.mem_of_getElem? (i := 102) rfl)⟩
theorem lw_p93 : lw_okq (⟨"HatsDecideModel", "hatTells", "(II)I"⟩, 78) := ⟨⟨by decide +kernel, by decide +kernel⟩, lw_t6 (List.mem_of_getElem? (i := 201) rfl), lw_t9 (List.mem_of_getElem? (i := 105) rfl), lw_t9 (List.mem_of_getElem? (i := 106) rfl)⟩
theorem lw_p94 : lw_okq (⟨"HatsDecideModel", "narrow", "(IJ)J"⟩, 78) := ⟨⟨by decide +kernel, by decide +kernel⟩, lw_t6 (List.mem_of_getElem? (i := 201) rfl), lw_t9 (List.mem_of_getElem? (i := 129) rfl), lw_t9 (List.mem_of_getElem? (i := 130) rfl)⟩
def lw_privs_6 : List (MethodName × Nat) := [(⟨"HatsDecideModel", "isRing", "(I)Z"⟩, 78), (⟨"HatsDecideModel", "gustedBy", "(I)I"⟩, 78), (⟨"HatsDecideModel", "woreOn", "(I)I"⟩, 78), (⟨"HatsDecideModel", "lowest", "(III)J"⟩, 78), (⟨"HatsDecideModel", "divisor", "(II)I"⟩, 78), (⟨"HatsDecideModel", "isTape", "(I)Z"⟩, 78), (⟨"HatsDecideModel", "sitsAct", "(II)I"⟩, 78), (⟨"HatsDecideModel", "body", "(I)V"⟩, 78), (⟨"HatsDecideModel", "hatSits", "(II)I"⟩, 78), (⟨"HatsDecideModel", "doesAct", "(II)I"⟩, 78), (⟨"HatsDecideModel", "tightDoes", "(II)I"⟩, 78), (⟨"HatsDecideModel", "hatDoes", "(II)I"⟩, 78), (⟨"HatsDecideModel", "tellsAct", "(II)I"⟩, 78), (⟨"HatsDecideModel", "hatTells", "(II)I"⟩, 78), (⟨"HatsDecideModel", "narrow", "(IJ)J"⟩, 78)]
theorem lw_r6 : ∀ q ∈ lw_privs_6, lw_okq q := List.forall_mem_cons.mpr ⟨lw_p80, List.forall_mem_cons.mpr ⟨lw_p81, List.forall_mem_cons.mpr ⟨lw_p82, List.forall_mem_cons.mpr ⟨lw_p83, List.forall_mem_cons.mpr ⟨lw_p84, List.forall_mem_cons.mpr ⟨lw_p85, List.forall_mem_cons.mpr ⟨lw_p86, List.forall_mem_cons.mpr ⟨lw_p87, List.forall_mem_cons.mpr ⟨lw_p88, List.forall_mem_cons.mpr ⟨lw_p89, List.forall_mem_cons.mpr ⟨lw_p90, List.forall_mem_cons.mpr ⟨lw_p91, List.forall_mem_cons.mpr ⟨lw_p92, List.forall_mem_cons.mpr ⟨lw_p93, List.forall_mem_cons.mpr ⟨lw_p94, fun _ h => absurd h List.not_mem_nil⟩⟩⟩⟩⟩⟩⟩⟩⟩⟩⟩⟩⟩⟩⟩
def lw_privs : List (MethodName × Nat) := lw_privs_1 ++ (lw_privs_2 ++ (lw_privs_3 ++ (lw_privs_4 ++ (lw_privs_5 ++ (lw_privs_6)))))
def lw_tbl : List Cond := k2_sels lw_privs ++ tables_1
theorem lw_privs_ok : ∀ q ∈ lw_privs, lw_okq q := by
  show ∀ q ∈ lw_privs_1 ++ (lw_privs_2 ++ (lw_privs_3 ++ (lw_privs_4 ++ (lw_privs_5 ++ (lw_privs_6))))), lw_okq q
  exact List.forall_mem_append.mpr ⟨lw_r1, List.forall_mem_append.mpr ⟨lw_r2, List.forall_mem_append.mpr ⟨lw_r3, List.forall_mem_append.mpr ⟨lw_r4, List.forall_mem_append.mpr ⟨lw_r5, lw_r6⟩⟩⟩⟩⟩
-- ===== ONE list of words for every method: the tables' words that hold all through a run =====
def lw_all : List Cond := lw_tbl.filter goodWord
/-- a word of the tables by its place: claim/WORDS.tsv -/
theorem lw_w {w : Cond} (i : Nat) (h : lw_tbl[i]? = some w) (g : goodWord w = true) : w ∈ lw_all := List.mem_filter.mpr ⟨List.mem_of_getElem? h, g⟩
theorem lw_all_tbl {w : Cond} (h : w ∈ lw_all) : w ∈ lw_tbl := (List.mem_filter.mp h).1
theorem lw_self : GoodIn lw_all lw_all := fun w h => ⟨h, good_of_word (List.mem_filter.mp h).2⟩
/-- a class's field words, by their places -/
theorem lw_in (ws : List Cond) (ps : List Nat) (hp : ws = ps.filterMap (fun i => lw_tbl[i]?)) (hg : ws.all goodWord = true) : ∀ w ∈ ws, w ∈ lw_all := by
  intro w h
  have h1 := List.all_eq_true.mp hg w h
  rw [hp] at h
  obtain ⟨i, -, hi⟩ := List.mem_filterMap.mp h
  exact lw_w i hi h1
/-- the words of a contract for the method y with code b, L locals, answer r -/
abbrev ws_ (y : MethodName) (b : ByteArray) (L : Nat) (r : Option FieldType) : List Cond := Cond.code y b L r :: lw_all
theorem lw_meth {y : MethodName} {b : ByteArray} {L : Nat} {r : Option FieldType} (h : Cond.code y b L r ∈ lw_all) : GoodIn lw_all (ws_ y b L r) := by
  intro w hw
  rcases List.mem_cons.mp hw with e | e
  · rw [e]
    exact lw_self _ h
  · exact lw_self _ e
theorem lw_app {a c : List Cond} (ha : ∀ w ∈ a, w ∈ lw_all) (hc : GoodIn lw_all c) : GoodIn lw_all (a ++ c) := by
  intro w hw
  rcases List.mem_append.mp hw with e | e
  · exact lw_self w (ha w e)
  · exact hc w e
/-- what a call through an object asks: cwV n hts (lw_V ..) -/
theorem lw_V {own : String} {idx : Nat} {C : String} {y : MethodName} {b : ByteArray} {L : Nat} {r : Option FieldType} (h1 : Cond.methodLink own idx y ∈ lw_all) (h2 : Cond.instanceMethod y ∈ lw_all) (h3 : Cond.selects C y y ∈ lw_all) (h4 : Cond.initialized C ∈ lw_all) (h5 : Cond.code y b L r ∈ lw_all) : GoodIn lw_all (wsV own idx C y (ws_ y b L r)) := by
  refine lw_app ?_ (lw_meth h5)
  intro w hw
  simp only [List.mem_cons, List.not_mem_nil, or_false] at hw
  rcases hw with e | e | e | e
  · rw [e]; exact h1
  · rw [e]; exact h2
  · rw [e]; exact h3
  · rw [e]; exact h4
/-- what a static call asks: va_cwS n hts (lw_S ..) -/
theorem lw_S {own : String} {idx : Nat} {y : MethodName} {b : ByteArray} {L : Nat} {r : Option FieldType} (h1 : Cond.methodLink own idx y ∈ lw_all) (h2 : Cond.static y ∈ lw_all) (h3 : Cond.initialized y.cls ∈ lw_all) (h4 : Cond.code y b L r ∈ lw_all) : GoodIn lw_all (va_wsS own idx y (ws_ y b L r)) := by
  refine lw_app ?_ (lw_meth h4)
  intro w hw
  simp only [List.mem_cons, List.not_mem_nil, or_false] at hw
  rcases hw with e | e | e
  · rw [e]; exact h1
  · rw [e]; exact h2
  · rw [e]; exact h3
/-- the words of a contract for a method WITH HANDLERS (hh: its table) -/
abbrev wsW_ (y : MethodName) (b : ByteArray) (L : Nat) (r : Option FieldType) (hh : List (Nat × Nat × Nat × Nat)) : List Cond := Cond.codeWith y b L r hh :: lw_all
theorem lw_methW {y : MethodName} {b : ByteArray} {L : Nat} {r : Option FieldType} {hh : List (Nat × Nat × Nat × Nat)} (h : Cond.codeWith y b L r hh ∈ lw_all) : GoodIn lw_all (wsW_ y b L r hh) := by
  intro w hw
  rcases List.mem_cons.mp hw with e | e
  · rw [e]
    exact lw_self _ h
  · exact lw_self _ e
/-- any list of words by their places (lw_in), good -/
theorem lw_good {ws : List Cond} (h : ∀ w ∈ ws, w ∈ lw_all) : GoodIn lw_all ws := fun w hw => lw_self w (h w hw)
/-- what a call of a method with handlers asks: vx_cwVW n hts (lw_VW ..), vx_cwSW n hts (lw_SW ..) -/
theorem lw_VW {own : String} {idx : Nat} {C : String} {y : MethodName} {b : ByteArray} {L : Nat} {r : Option FieldType} {hh : List (Nat × Nat × Nat × Nat)} (h1 : Cond.methodLink own idx y ∈ lw_all) (h2 : Cond.instanceMethod y ∈ lw_all) (h3 : Cond.selects C y y ∈ lw_all) (h4 : Cond.initialized C ∈ lw_all) (h5 : Cond.codeWith y b L r hh ∈ lw_all) : GoodIn lw_all (wsV own idx C y (wsW_ y b L r hh)) := by
  refine lw_app ?_ (lw_methW h5)
  intro w hw
  simp only [List.mem_cons, List.not_mem_nil, or_false] at hw
  rcases hw with e | e | e | e
  · rw [e]; exact h1
  · rw [e]; exact h2
  · rw [e]; exact h3
  · rw [e]; exact h4
theorem lw_SW {own : String} {idx : Nat} {y : MethodName} {b : ByteArray} {L : Nat} {r : Option FieldType} {hh : List (Nat × Nat × Nat × Nat)} (h1 : Cond.methodLink own idx y ∈ lw_all) (h2 : Cond.static y ∈ lw_all) (h3 : Cond.initialized y.cls ∈ lw_all) (h4 : Cond.codeWith y b L r hh ∈ lw_all) : GoodIn lw_all (va_wsS own idx y (wsW_ y b L r hh)) := by
  refine lw_app ?_ (lw_methW h4)
  intro w hw
  simp only [List.mem_cons, List.not_mem_nil, or_false] at hw
  rcases hw with e | e | e
  · rw [e]; exact h1
  · rw [e]; exact h2
  · rw [e]; exact h3
/-- a word by its place in its run of the tables -/
theorem lw_at {r : List Cond} (hr : ∀ w ∈ r, w ∈ lw_tbl) {w : Cond} (i : Nat) (h : r[i]? = some w) : w ∈ lw_tbl := hr w (List.mem_of_getElem? h)
theorem lw_g {w : Cond} (h : w ∈ lw_tbl) (g : goodWord w = true) : w ∈ lw_all := List.mem_filter.mpr ⟨h, g⟩
theorem lw_ms : ∀ w ∈ k2_sels lw_privs, w ∈ lw_tbl := fun w h => show w ∈ k2_sels lw_privs ++ tables_1 from List.mem_append_left _ h
theorem lw_m1 : ∀ w ∈ tables_1_1, w ∈ lw_tbl := fun w h => show w ∈ k2_sels lw_privs ++ tables_1 from List.mem_append_right (k2_sels lw_privs) (show w ∈ tables_1 from List.mem_append_left _ h)
theorem lw_m2 : ∀ w ∈ tables_1_2, w ∈ lw_tbl := fun w h => show w ∈ k2_sels lw_privs ++ tables_1 from List.mem_append_right (k2_sels lw_privs) (show w ∈ tables_1 from List.mem_append_right _ (List.mem_append_left _ h))
theorem lw_m3 : ∀ w ∈ tables_1_3, w ∈ lw_tbl := fun w h => show w ∈ k2_sels lw_privs ++ tables_1 from List.mem_append_right (k2_sels lw_privs) (show w ∈ tables_1 from List.mem_append_right _ (List.mem_append_right _ (List.mem_append_left _ h)))
theorem lw_m4 : ∀ w ∈ tables_1_4, w ∈ lw_tbl := fun w h => show w ∈ k2_sels lw_privs ++ tables_1 from List.mem_append_right (k2_sels lw_privs) (show w ∈ tables_1 from List.mem_append_right _ (List.mem_append_right _ (List.mem_append_right _ (List.mem_append_left _ h))))
theorem lw_m5 : ∀ w ∈ tables_1_5, w ∈ lw_tbl := fun w h => show w ∈ k2_sels lw_privs ++ tables_1 from List.mem_append_right (k2_sels lw_privs) (show w ∈ tables_1 from List.mem_append_right _ (List.mem_append_right _ (List.mem_append_right _ (List.mem_append_right _ (List.mem_append_left _ h)))))
theorem lw_m6 : ∀ w ∈ tables_1_6, w ∈ lw_tbl := fun w h => show w ∈ k2_sels lw_privs ++ tables_1 from List.mem_append_right (k2_sels lw_privs) (show w ∈ tables_1 from List.mem_append_right _ (List.mem_append_right _ (List.mem_append_right _ (List.mem_append_right _ (List.mem_append_right _ (List.mem_append_left _ h))))))
theorem lw_m7 : ∀ w ∈ tables_1_7, w ∈ lw_tbl := fun w h => show w ∈ k2_sels lw_privs ++ tables_1 from List.mem_append_right (k2_sels lw_privs) (show w ∈ tables_1 from List.mem_append_right _ (List.mem_append_right _ (List.mem_append_right _ (List.mem_append_right _ (List.mem_append_right _ (List.mem_append_right _ (List.mem_append_left _ h)))))))
theorem lw_m8 : ∀ w ∈ tables_1_8, w ∈ lw_tbl := fun w h => show w ∈ k2_sels lw_privs ++ tables_1 from List.mem_append_right (k2_sels lw_privs) (show w ∈ tables_1 from List.mem_append_right _ (List.mem_append_right _ (List.mem_append_right _ (List.mem_append_right _ (List.mem_append_right _ (List.mem_append_right _ (List.mem_append_right _ (List.mem_append_left _ h))))))))
theorem lw_m9 : ∀ w ∈ tables_1_9, w ∈ lw_tbl := fun w h => show w ∈ k2_sels lw_privs ++ tables_1 from List.mem_append_right (k2_sels lw_privs) (show w ∈ tables_1 from List.mem_append_right _ (List.mem_append_right _ (List.mem_append_right _ (List.mem_append_right _ (List.mem_append_right _ (List.mem_append_right _ (List.mem_append_right _ (List.mem_append_right _ h))))))))
theorem qs0 : (Cond.selects "HatsDecide" ⟨"HatsDecide", "hatOf", "(IIII)LHatsDecide$Hat;"⟩ ⟨"HatsDecide", "hatOf", "(IIII)LHatsDecide$Hat;"⟩) ∈ lw_all := lw_g (lw_at lw_ms 0 rfl) rfl
theorem qs1 : (Cond.selects "HatsDecide" ⟨"HatsDecide", "isHat", "(I)Z"⟩ ⟨"HatsDecide", "isHat", "(I)Z"⟩) ∈ lw_all := lw_g (lw_at lw_ms 1 rfl) rfl
theorem qs2 : (Cond.selects "HatsDecide" ⟨"HatsDecide", "isHead", "(I)Z"⟩ ⟨"HatsDecide", "isHead", "(I)Z"⟩) ∈ lw_all := lw_g (lw_at lw_ms 2 rfl) rfl
theorem qs3 : (Cond.selects "HatsDecide" ⟨"HatsDecide", "deedOf", "(LHatsDecide$Time;II)I"⟩ ⟨"HatsDecide", "deedOf", "(LHatsDecide$Time;II)I"⟩) ∈ lw_all := lw_g (lw_at lw_ms 3 rfl) rfl
theorem qs4 : (Cond.selects "HatsDecide$Reader" ⟨"HatsDecide$Reader", "clause", "()V"⟩ ⟨"HatsDecide$Reader", "clause", "()V"⟩) ∈ lw_all := lw_g (lw_at lw_ms 4 rfl) rfl
theorem qs5 : (Cond.selects "HatsDecide$Reader" ⟨"HatsDecide$Reader", "here", "()I"⟩ ⟨"HatsDecide$Reader", "here", "()I"⟩) ∈ lw_all := lw_g (lw_at lw_ms 5 rfl) rfl
theorem qs6 : (Cond.selects "HatsDecide$Reader" ⟨"HatsDecide$Reader", "tested", "(Ljava/lang/String;I)V"⟩ ⟨"HatsDecide$Reader", "tested", "(Ljava/lang/String;I)V"⟩) ∈ lw_all := lw_g (lw_at lw_ms 6 rfl) rfl
theorem qs7 : (Cond.selects "HatsDecide$Reader" ⟨"HatsDecide$Reader", "word", "(Ljava/lang/String;)V"⟩ ⟨"HatsDecide$Reader", "word", "(Ljava/lang/String;)V"⟩) ∈ lw_all := lw_g (lw_at lw_ms 7 rfl) rfl
theorem qs8 : (Cond.selects "HatsDecide$Reader" ⟨"HatsDecide$Reader", "must", "(I)V"⟩ ⟨"HatsDecide$Reader", "must", "(I)V"⟩) ∈ lw_all := lw_g (lw_at lw_ms 8 rfl) rfl
theorem qs9 : (Cond.selects "HatsDecide$Reader" ⟨"HatsDecide$Reader", "off", "()LHatsDecide$Off;"⟩ ⟨"HatsDecide$Reader", "off", "()LHatsDecide$Off;"⟩) ∈ lw_all := lw_g (lw_at lw_ms 9 rfl) rfl
theorem qs10 : (Cond.selects "java/lang/NullPointerException" ⟨"java/lang/NullPointerException", "getExtendedNPEMessage", "()Ljava/lang/String;"⟩ ⟨"java/lang/NullPointerException", "getExtendedNPEMessage", "()Ljava/lang/String;"⟩) ∈ lw_all := lw_g (lw_at lw_ms 10 rfl) rfl
theorem qs11 : (Cond.selects "java/lang/Throwable" ⟨"java/lang/Throwable", "fillInStackTrace", "(I)Ljava/lang/Throwable;"⟩ ⟨"java/lang/Throwable", "fillInStackTrace", "(I)Ljava/lang/Throwable;"⟩) ∈ lw_all := lw_g (lw_at lw_ms 11 rfl) rfl
theorem qs12 : (Cond.selects "HatsDecide$Reader" ⟨"HatsDecide$Reader", "number", "()I"⟩ ⟨"HatsDecide$Reader", "number", "()I"⟩) ∈ lw_all := lw_g (lw_at lw_ms 12 rfl) rfl
theorem qs13 : (Cond.selects "HatsDecide$Reader" ⟨"HatsDecide$Reader", "some", "()LHatsDecide$Test;"⟩ ⟨"HatsDecide$Reader", "some", "()LHatsDecide$Test;"⟩) ∈ lw_all := lw_g (lw_at lw_ms 13 rfl) rfl
theorem qs14 : (Cond.selects "HatsDecide$Reader" ⟨"HatsDecide$Reader", "all", "()LHatsDecide$Test;"⟩ ⟨"HatsDecide$Reader", "all", "()LHatsDecide$Test;"⟩) ∈ lw_all := lw_g (lw_at lw_ms 14 rfl) rfl
theorem qs15 : (Cond.selects "HatsDecide$Reader" ⟨"HatsDecide$Reader", "factor", "()LHatsDecide$Test;"⟩ ⟨"HatsDecide$Reader", "factor", "()LHatsDecide$Test;"⟩) ∈ lw_all := lw_g (lw_at lw_ms 15 rfl) rfl
theorem qs16 : (Cond.selects "HatsDecide$Reader" ⟨"HatsDecide$Reader", "deeper", "()V"⟩ ⟨"HatsDecide$Reader", "deeper", "()V"⟩) ∈ lw_all := lw_g (lw_at lw_ms 16 rfl) rfl
theorem qs17 : (Cond.selects "java/util/ArrayList" ⟨"java/util/ArrayList", "add", "(Ljava/lang/Object;[Ljava/lang/Object;I)V"⟩ ⟨"java/util/ArrayList", "add", "(Ljava/lang/Object;[Ljava/lang/Object;I)V"⟩) ∈ lw_all := lw_g (lw_at lw_ms 17 rfl) rfl
theorem qs18 : (Cond.selects "java/util/ArrayList" ⟨"java/util/ArrayList", "grow", "()[Ljava/lang/Object;"⟩ ⟨"java/util/ArrayList", "grow", "()[Ljava/lang/Object;"⟩) ∈ lw_all := lw_g (lw_at lw_ms 18 rfl) rfl
theorem qs19 : (Cond.selects "java/util/ArrayList" ⟨"java/util/ArrayList", "grow", "(I)[Ljava/lang/Object;"⟩ ⟨"java/util/ArrayList", "grow", "(I)[Ljava/lang/Object;"⟩) ∈ lw_all := lw_g (lw_at lw_ms 19 rfl) rfl
theorem qs20 : (Cond.selects "HatsDecide$Reader" ⟨"HatsDecide$Reader", "work", "()V"⟩ ⟨"HatsDecide$Reader", "work", "()V"⟩) ∈ lw_all := lw_g (lw_at lw_ms 20 rfl) rfl
theorem qs21 : (Cond.selects "HatsDecide" ⟨"HatsDecide", "todayOf", "(LHatsDecide$Time;I)I"⟩ ⟨"HatsDecide", "todayOf", "(LHatsDecide$Time;I)I"⟩) ∈ lw_all := lw_g (lw_at lw_ms 21 rfl) rfl
theorem qs22 : (Cond.selects "HatsDecide" ⟨"HatsDecide", "isEnough", "(LHatsDecide$Time;I)Z"⟩ ⟨"HatsDecide", "isEnough", "(LHatsDecide$Time;I)Z"⟩) ∈ lw_all := lw_g (lw_at lw_ms 22 rfl) rfl
theorem qs23 : (Cond.selects "HatsDecide" ⟨"HatsDecide", "looksForDeeds", "()V"⟩ ⟨"HatsDecide", "looksForDeeds", "()V"⟩) ∈ lw_all := lw_g (lw_at lw_ms 23 rfl) rfl
theorem qs24 : (Cond.selects "HatsDecide" ⟨"HatsDecide", "waysFrom", "(IIII)V"⟩ ⟨"HatsDecide", "waysFrom", "(IIII)V"⟩) ∈ lw_all := lw_g (lw_at lw_ms 24 rfl) rfl
theorem qs25 : (Cond.selects "HatsDecide" ⟨"HatsDecide", "mostFrom", "(III)I"⟩ ⟨"HatsDecide", "mostFrom", "(III)I"⟩) ∈ lw_all := lw_g (lw_at lw_ms 25 rfl) rfl
theorem qs26 : (Cond.selects "HatsDecide" ⟨"HatsDecide", "goalOf", "(I)I"⟩ ⟨"HatsDecide", "goalOf", "(I)I"⟩) ∈ lw_all := lw_g (lw_at lw_ms 26 rfl) rfl
theorem qs27 : (Cond.selects "HatsDecide" ⟨"HatsDecide", "isRing", "(I)Z"⟩ ⟨"HatsDecide", "isRing", "(I)Z"⟩) ∈ lw_all := lw_g (lw_at lw_ms 27 rfl) rfl
theorem qs28 : (Cond.selects "HatsDecide" ⟨"HatsDecide", "gustedBy", "(II)I"⟩ ⟨"HatsDecide", "gustedBy", "(II)I"⟩) ∈ lw_all := lw_g (lw_at lw_ms 28 rfl) rfl
theorem qs29 : (Cond.selects "HatsDecide" ⟨"HatsDecide", "woreOf", "(I)I"⟩ ⟨"HatsDecide", "woreOf", "(I)I"⟩) ∈ lw_all := lw_g (lw_at lw_ms 29 rfl) rfl
theorem qs30 : (Cond.selects "HatsDecide" ⟨"HatsDecide", "isAsSeen", "(II)Z"⟩ ⟨"HatsDecide", "isAsSeen", "(II)Z"⟩) ∈ lw_all := lw_g (lw_at lw_ms 30 rfl) rfl
theorem qs31 : (Cond.selects "HatsDecide" ⟨"HatsDecide", "waysSeen", "(II)I"⟩ ⟨"HatsDecide", "waysSeen", "(II)I"⟩) ∈ lw_all := lw_g (lw_at lw_ms 31 rfl) rfl
theorem qs32 : (Cond.selects "HatsDecide" ⟨"HatsDecide", "isSeen", "(I)Z"⟩ ⟨"HatsDecide", "isSeen", "(I)Z"⟩) ∈ lw_all := lw_g (lw_at lw_ms 32 rfl) rfl
theorem qs33 : (Cond.selects "HatsDecide" ⟨"HatsDecide", "firstOther", "([BI)I"⟩ ⟨"HatsDecide", "firstOther", "([BI)I"⟩) ∈ lw_all := lw_g (lw_at lw_ms 33 rfl) rfl
theorem qs34 : (Cond.selects "HatsDecide$Tape" ⟨"HatsDecide$Tape", "has", "(I)V"⟩ ⟨"HatsDecide$Tape", "has", "(I)V"⟩) ∈ lw_all := lw_g (lw_at lw_ms 34 rfl) rfl
theorem qs35 : (Cond.selects "HatsDecide$Tape" ⟨"HatsDecide$Tape", "size", "()I"⟩ ⟨"HatsDecide$Tape", "size", "()I"⟩) ∈ lw_all := lw_g (lw_at lw_ms 35 rfl) rfl
theorem qs36 : (Cond.selects "HatsDecideModel" ⟨"HatsDecideModel", "in", "(III)Z"⟩ ⟨"HatsDecideModel", "in", "(III)Z"⟩) ∈ lw_all := lw_g (lw_at lw_ms 36 rfl) rfl
theorem qs37 : (Cond.selects "HatsDecideModel" ⟨"HatsDecideModel", "isTrade", "(I)Z"⟩ ⟨"HatsDecideModel", "isTrade", "(I)Z"⟩) ∈ lw_all := lw_g (lw_at lw_ms 37 rfl) rfl
theorem qs38 : (Cond.selects "HatsDecideModel" ⟨"HatsDecideModel", "isHat", "(I)Z"⟩ ⟨"HatsDecideModel", "isHat", "(I)Z"⟩) ∈ lw_all := lw_g (lw_at lw_ms 38 rfl) rfl
theorem qs39 : (Cond.selects "HatsDecideModel" ⟨"HatsDecideModel", "isHead", "(I)Z"⟩ ⟨"HatsDecideModel", "isHead", "(I)Z"⟩) ∈ lw_all := lw_g (lw_at lw_ms 39 rfl) rfl
theorem qs40 : (Cond.selects "HatsDecideModel" ⟨"HatsDecideModel", "headOf", "(I)I"⟩ ⟨"HatsDecideModel", "headOf", "(I)I"⟩) ∈ lw_all := lw_g (lw_at lw_ms 40 rfl) rfl
theorem qs41 : (Cond.selects "HatsDecideModel" ⟨"HatsDecideModel", "orNone", "(I)I"⟩ ⟨"HatsDecideModel", "orNone", "(I)I"⟩) ∈ lw_all := lw_g (lw_at lw_ms 41 rfl) rfl
theorem qs42 : (Cond.selects "HatsDecideModel" ⟨"HatsDecideModel", "goesText", "(I)Z"⟩ ⟨"HatsDecideModel", "goesText", "(I)Z"⟩) ∈ lw_all := lw_g (lw_at lw_ms 42 rfl) rfl
theorem qs43 : (Cond.selects "HatsDecideModel" ⟨"HatsDecideModel", "takesClause", "(I)Z"⟩ ⟨"HatsDecideModel", "takesClause", "(I)Z"⟩) ∈ lw_all := lw_g (lw_at lw_ms 43 rfl) rfl
theorem qs44 : (Cond.selects "HatsDecideModel" ⟨"HatsDecideModel", "takesHead", "(I)Z"⟩ ⟨"HatsDecideModel", "takesHead", "(I)Z"⟩) ∈ lw_all := lw_g (lw_at lw_ms 44 rfl) rfl
theorem qs45 : (Cond.selects "HatsDecideModel" ⟨"HatsDecideModel", "next", "()I"⟩ ⟨"HatsDecideModel", "next", "()I"⟩) ∈ lw_all := lw_g (lw_at lw_ms 45 rfl) rfl
theorem qs46 : (Cond.selects "HatsDecideModel" ⟨"HatsDecideModel", "takesWord", "(II)Z"⟩ ⟨"HatsDecideModel", "takesWord", "(II)Z"⟩) ∈ lw_all := lw_g (lw_at lw_ms 46 rfl) rfl
theorem qs47 : (Cond.selects "HatsDecideModel" ⟨"HatsDecideModel", "takes", "(I)Z"⟩ ⟨"HatsDecideModel", "takes", "(I)Z"⟩) ∈ lw_all := lw_g (lw_at lw_ms 47 rfl) rfl
theorem qs48 : (Cond.selects "HatsDecideModel" ⟨"HatsDecideModel", "takesNumber", "()Z"⟩ ⟨"HatsDecideModel", "takesNumber", "()Z"⟩) ∈ lw_all := lw_g (lw_at lw_ms 48 rfl) rfl
theorem qs49 : (Cond.selects "HatsDecideModel" ⟨"HatsDecideModel", "isDigit", "()Z"⟩ ⟨"HatsDecideModel", "isDigit", "()Z"⟩) ∈ lw_all := lw_g (lw_at lw_ms 49 rfl) rfl
theorem qs50 : (Cond.selects "HatsDecideModel" ⟨"HatsDecideModel", "takesE", "(I)Z"⟩ ⟨"HatsDecideModel", "takesE", "(I)Z"⟩) ∈ lw_all := lw_g (lw_at lw_ms 50 rfl) rfl
theorem qs51 : (Cond.selects "HatsDecideModel" ⟨"HatsDecideModel", "takesTest", "()Z"⟩ ⟨"HatsDecideModel", "takesTest", "()Z"⟩) ∈ lw_all := lw_g (lw_at lw_ms 51 rfl) rfl
theorem qs52 : (Cond.selects "HatsDecideModel" ⟨"HatsDecideModel", "place", "(I)I"⟩ ⟨"HatsDecideModel", "place", "(I)I"⟩) ∈ lw_all := lw_g (lw_at lw_ms 52 rfl) rfl
theorem qs53 : (Cond.selects "HatsDecideModel" ⟨"HatsDecideModel", "emits", "(I)V"⟩ ⟨"HatsDecideModel", "emits", "(I)V"⟩) ∈ lw_all := lw_g (lw_at lw_ms 53 rfl) rfl
theorem qs54 : (Cond.selects "HatsDecideModel" ⟨"HatsDecideModel", "whole", "()V"⟩ ⟨"HatsDecideModel", "whole", "()V"⟩) ∈ lw_all := lw_g (lw_at lw_ms 54 rfl) rfl
theorem qs55 : (Cond.selects "HatsDecideModel" ⟨"HatsDecideModel", "settle", "(I)V"⟩ ⟨"HatsDecideModel", "settle", "(I)V"⟩) ∈ lw_all := lw_g (lw_at lw_ms 55 rfl) rfl
theorem qs56 : (Cond.selects "HatsDecideModel" ⟨"HatsDecideModel", "deed", "(II)I"⟩ ⟨"HatsDecideModel", "deed", "(II)I"⟩) ∈ lw_all := lw_g (lw_at lw_ms 56 rfl) rfl
theorem qs57 : (Cond.selects "HatsDecideModel" ⟨"HatsDecideModel", "fits", "(II)I"⟩ ⟨"HatsDecideModel", "fits", "(II)I"⟩) ∈ lw_all := lw_g (lw_at lw_ms 57 rfl) rfl
theorem qs58 : (Cond.selects "HatsDecideModel" ⟨"HatsDecideModel", "begin", "()I"⟩ ⟨"HatsDecideModel", "begin", "()I"⟩) ∈ lw_all := lw_g (lw_at lw_ms 58 rfl) rfl
theorem qs59 : (Cond.selects "HatsDecideModel" ⟨"HatsDecideModel", "behind", "()I"⟩ ⟨"HatsDecideModel", "behind", "()I"⟩) ∈ lw_all := lw_g (lw_at lw_ms 59 rfl) rfl
theorem qs60 : (Cond.selects "HatsDecideModel" ⟨"HatsDecideModel", "holds", "(III)Z"⟩ ⟨"HatsDecideModel", "holds", "(III)Z"⟩) ∈ lw_all := lw_g (lw_at lw_ms 60 rfl) rfl
theorem qs61 : (Cond.selects "HatsDecideModel" ⟨"HatsDecideModel", "factOf", "(III)I"⟩ ⟨"HatsDecideModel", "factOf", "(III)I"⟩) ∈ lw_all := lw_g (lw_at lw_ms 61 rfl) rfl
theorem qs62 : (Cond.selects "HatsDecideModel" ⟨"HatsDecideModel", "most", "(II)I"⟩ ⟨"HatsDecideModel", "most", "(II)I"⟩) ∈ lw_all := lw_g (lw_at lw_ms 62 rfl) rfl
theorem qs63 : (Cond.selects "HatsDecideModel" ⟨"HatsDecideModel", "apart", "(II)I"⟩ ⟨"HatsDecideModel", "apart", "(II)I"⟩) ∈ lw_all := lw_g (lw_at lw_ms 63 rfl) rfl
theorem qs64 : (Cond.selects "HatsDecideModel" ⟨"HatsDecideModel", "moth", "()I"⟩ ⟨"HatsDecideModel", "moth", "()I"⟩) ∈ lw_all := lw_g (lw_at lw_ms 64 rfl) rfl
theorem qs65 : (Cond.selects "HatsDecideModel" ⟨"HatsDecideModel", "work", "(I)I"⟩ ⟨"HatsDecideModel", "work", "(I)I"⟩) ∈ lw_all := lw_g (lw_at lw_ms 65 rfl) rfl
theorem qs66 : (Cond.selects "HatsDecideModel" ⟨"HatsDecideModel", "todayOf", "(I)I"⟩ ⟨"HatsDecideModel", "todayOf", "(I)I"⟩) ∈ lw_all := lw_g (lw_at lw_ms 66 rfl) rfl
theorem qs67 : (Cond.selects "HatsDecideModel" ⟨"HatsDecideModel", "goDay", "()V"⟩ ⟨"HatsDecideModel", "goDay", "()V"⟩) ∈ lw_all := lw_g (lw_at lw_ms 67 rfl) rfl
theorem qs68 : (Cond.selects "HatsDecideModel" ⟨"HatsDecideModel", "goGust", "(I)I"⟩ ⟨"HatsDecideModel", "goGust", "(I)I"⟩) ∈ lw_all := lw_g (lw_at lw_ms 68 rfl) rfl
theorem qs69 : (Cond.selects "HatsDecideModel" ⟨"HatsDecideModel", "swaps", "(II)V"⟩ ⟨"HatsDecideModel", "swaps", "(II)V"⟩) ∈ lw_all := lw_g (lw_at lw_ms 69 rfl) rfl
theorem qs70 : (Cond.selects "HatsDecideModel" ⟨"HatsDecideModel", "save", "()V"⟩ ⟨"HatsDecideModel", "save", "()V"⟩) ∈ lw_all := lw_g (lw_at lw_ms 70 rfl) rfl
theorem qs71 : (Cond.selects "HatsDecideModel" ⟨"HatsDecideModel", "putBack", "()V"⟩ ⟨"HatsDecideModel", "putBack", "()V"⟩) ∈ lw_all := lw_g (lw_at lw_ms 71 rfl) rfl
theorem qs72 : (Cond.selects "HatsDecideModel" ⟨"HatsDecideModel", "layBest", "()V"⟩ ⟨"HatsDecideModel", "layBest", "()V"⟩) ∈ lw_all := lw_g (lw_at lw_ms 72 rfl) rfl
theorem qs73 : (Cond.selects "HatsDecideModel" ⟨"HatsDecideModel", "layDeeds", "()V"⟩ ⟨"HatsDecideModel", "layDeeds", "()V"⟩) ∈ lw_all := lw_g (lw_at lw_ms 73 rfl) rfl
theorem qs74 : (Cond.selects "HatsDecideModel" ⟨"HatsDecideModel", "ones", "(I)I"⟩ ⟨"HatsDecideModel", "ones", "(I)I"⟩) ∈ lw_all := lw_g (lw_at lw_ms 74 rfl) rfl
theorem qs75 : (Cond.selects "HatsDecideModel" ⟨"HatsDecideModel", "onwardBy", "(III)I"⟩ ⟨"HatsDecideModel", "onwardBy", "(III)I"⟩) ∈ lw_all := lw_g (lw_at lw_ms 75 rfl) rfl
theorem qs76 : (Cond.selects "HatsDecideModel" ⟨"HatsDecideModel", "has", "(II)Z"⟩ ⟨"HatsDecideModel", "has", "(II)Z"⟩) ∈ lw_all := lw_g (lw_at lw_ms 76 rfl) rfl
theorem qs77 : (Cond.selects "HatsDecideModel" ⟨"HatsDecideModel", "mostOf", "(I)I"⟩ ⟨"HatsDecideModel", "mostOf", "(I)I"⟩) ∈ lw_all := lw_g (lw_at lw_ms 77 rfl) rfl
theorem qs78 : (Cond.selects "HatsDecideModel" ⟨"HatsDecideModel", "isClash", "()Z"⟩ ⟨"HatsDecideModel", "isClash", "()Z"⟩) ∈ lw_all := lw_g (lw_at lw_ms 78 rfl) rfl
theorem qs79 : (Cond.selects "HatsDecideModel" ⟨"HatsDecideModel", "dueFor", "(I)I"⟩ ⟨"HatsDecideModel", "dueFor", "(I)I"⟩) ∈ lw_all := lw_g (lw_at lw_ms 79 rfl) rfl
theorem qs80 : (Cond.selects "HatsDecideModel" ⟨"HatsDecideModel", "isRing", "(I)Z"⟩ ⟨"HatsDecideModel", "isRing", "(I)Z"⟩) ∈ lw_all := lw_g (lw_at lw_ms 80 rfl) rfl
theorem qs81 : (Cond.selects "HatsDecideModel" ⟨"HatsDecideModel", "gustedBy", "(I)I"⟩ ⟨"HatsDecideModel", "gustedBy", "(I)I"⟩) ∈ lw_all := lw_g (lw_at lw_ms 81 rfl) rfl
theorem qs82 : (Cond.selects "HatsDecideModel" ⟨"HatsDecideModel", "woreOn", "(I)I"⟩ ⟨"HatsDecideModel", "woreOn", "(I)I"⟩) ∈ lw_all := lw_g (lw_at lw_ms 82 rfl) rfl
theorem qs83 : (Cond.selects "HatsDecideModel" ⟨"HatsDecideModel", "lowest", "(III)J"⟩ ⟨"HatsDecideModel", "lowest", "(III)J"⟩) ∈ lw_all := lw_g (lw_at lw_ms 83 rfl) rfl
theorem qs84 : (Cond.selects "HatsDecideModel" ⟨"HatsDecideModel", "divisor", "(II)I"⟩ ⟨"HatsDecideModel", "divisor", "(II)I"⟩) ∈ lw_all := lw_g (lw_at lw_ms 84 rfl) rfl
theorem qs85 : (Cond.selects "HatsDecideModel" ⟨"HatsDecideModel", "isTape", "(I)Z"⟩ ⟨"HatsDecideModel", "isTape", "(I)Z"⟩) ∈ lw_all := lw_g (lw_at lw_ms 85 rfl) rfl
theorem qs86 : (Cond.selects "HatsDecideModel" ⟨"HatsDecideModel", "sitsAct", "(II)I"⟩ ⟨"HatsDecideModel", "sitsAct", "(II)I"⟩) ∈ lw_all := lw_g (lw_at lw_ms 86 rfl) rfl
theorem qs87 : (Cond.selects "HatsDecideModel" ⟨"HatsDecideModel", "body", "(I)V"⟩ ⟨"HatsDecideModel", "body", "(I)V"⟩) ∈ lw_all := lw_g (lw_at lw_ms 87 rfl) rfl
theorem qs88 : (Cond.selects "HatsDecideModel" ⟨"HatsDecideModel", "hatSits", "(II)I"⟩ ⟨"HatsDecideModel", "hatSits", "(II)I"⟩) ∈ lw_all := lw_g (lw_at lw_ms 88 rfl) rfl
theorem qs89 : (Cond.selects "HatsDecideModel" ⟨"HatsDecideModel", "doesAct", "(II)I"⟩ ⟨"HatsDecideModel", "doesAct", "(II)I"⟩) ∈ lw_all := lw_g (lw_at lw_ms 89 rfl) rfl
theorem qs90 : (Cond.selects "HatsDecideModel" ⟨"HatsDecideModel", "tightDoes", "(II)I"⟩ ⟨"HatsDecideModel", "tightDoes", "(II)I"⟩) ∈ lw_all := lw_g (lw_at lw_ms 90 rfl) rfl
theorem qs91 : (Cond.selects "HatsDecideModel" ⟨"HatsDecideModel", "hatDoes", "(II)I"⟩ ⟨"HatsDecideModel", "hatDoes", "(II)I"⟩) ∈ lw_all := lw_g (lw_at lw_ms 91 rfl) rfl
theorem qs92 : (Cond.selects "HatsDecideModel" ⟨"HatsDecideModel", "tellsAct", "(II)I"⟩ ⟨"HatsDecideModel", "tellsAct", "(II)I"⟩) ∈ lw_all := lw_g (lw_at lw_ms 92 rfl) rfl
theorem qs93 : (Cond.selects "HatsDecideModel" ⟨"HatsDecideModel", "hatTells", "(II)I"⟩ ⟨"HatsDecideModel", "hatTells", "(II)I"⟩) ∈ lw_all := lw_g (lw_at lw_ms 93 rfl) rfl
theorem qs94 : (Cond.selects "HatsDecideModel" ⟨"HatsDecideModel", "narrow", "(IJ)J"⟩ ⟨"HatsDecideModel", "narrow", "(IJ)J"⟩) ∈ lw_all := lw_g (lw_at lw_ms 94 rfl) rfl
