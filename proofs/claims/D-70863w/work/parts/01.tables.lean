-- ===== PART A: goes FIRST, ahead of the names: the tables' words, and 'selects' of the private methods out of them =====
/-- a private method of a class that the tables say can be made, by its rows of tables_1 -/
def lw_okq (q : MethodName × Nat) : Prop := (q.1.cls ≠ "java/lang/invoke/MethodHandle" ∧ q.1.cls ≠ "java/lang/invoke/VarHandle") ∧ Cond.instantiable q.1.cls q.2 ∈ tables_1 ∧ Cond.privateMethod q.1 ∈ tables_1 ∧ Cond.instanceMethod q.1 ∈ tables_1
set_option maxRecDepth 100000
theorem lw_t1 {w : Cond} (h : w ∈ tables_1_1) : w ∈ tables_1 := List.mem_append_left _ h
theorem lw_t2 {w : Cond} (h : w ∈ tables_1_2) : w ∈ tables_1 := List.mem_append_right _ (List.mem_append_left _ h)
theorem lw_t3 {w : Cond} (h : w ∈ tables_1_3) : w ∈ tables_1 := List.mem_append_right _ (List.mem_append_right _ (List.mem_append_left _ h))
theorem lw_t4 {w : Cond} (h : w ∈ tables_1_4) : w ∈ tables_1 := List.mem_append_right _ (List.mem_append_right _ (List.mem_append_right _ (List.mem_append_left _ h)))
theorem lw_t5 {w : Cond} (h : w ∈ tables_1_5) : w ∈ tables_1 := List.mem_append_right _ (List.mem_append_right _ (List.mem_append_right _ (List.mem_append_right _ (List.mem_append_left _ h))))
theorem lw_t6 {w : Cond} (h : w ∈ tables_1_6) : w ∈ tables_1 := List.mem_append_right _ (List.mem_append_right _ (List.mem_append_right _ (List.mem_append_right _ (List.mem_append_right _ (List.mem_append_left _ h)))))
theorem lw_t7 {w : Cond} (h : w ∈ tables_1_7) : w ∈ tables_1 := List.mem_append_right _ (List.mem_append_right _ (List.mem_append_right _ (List.mem_append_right _ (List.mem_append_right _ (List.mem_append_right _ h)))))
theorem lw_p0 : lw_okq (⟨"java/lang/Throwable", "fillInStackTrace", "(I)Ljava/lang/Throwable;"⟩, 6) := ⟨⟨by decide +kernel, by decide +kernel⟩, lw_t2 (List.mem_of_getElem? (i := 53) rfl), lw_t2 (List.mem_of_getElem? (i := 51) rfl), lw_t2 (List.mem_of_getElem? (i := 52) rfl)⟩
theorem lw_p1 : lw_okq (⟨"ChairRanks", "well", "(I)I"⟩, 12) := ⟨⟨by decide +kernel, by decide +kernel⟩, lw_t1 (List.mem_of_getElem? (i := 35) rfl), lw_t2 (List.mem_of_getElem? (i := 96) rfl), lw_t2 (List.mem_of_getElem? (i := 97) rfl)⟩
theorem lw_p2 : lw_okq (⟨"ChairRanks", "found", "(LChairRanks$Finding;)I"⟩, 12) := ⟨⟨by decide +kernel, by decide +kernel⟩, lw_t1 (List.mem_of_getElem? (i := 35) rfl), lw_t2 (List.mem_of_getElem? (i := 100) rfl), lw_t2 (List.mem_of_getElem? (i := 101) rfl)⟩
theorem lw_p3 : lw_okq (⟨"ChairRanks", "rowAt", "(I)LChairRanks$Row;"⟩, 12) := ⟨⟨by decide +kernel, by decide +kernel⟩, lw_t1 (List.mem_of_getElem? (i := 35) rfl), lw_t2 (List.mem_of_getElem? (i := 109) rfl), lw_t2 (List.mem_of_getElem? (i := 110) rfl)⟩
theorem lw_p4 : lw_okq (⟨"ChairRanks$Reader", "next", "()V"⟩, 7) := ⟨⟨by decide +kernel, by decide +kernel⟩, lw_t2 (List.mem_of_getElem? (i := 173) rfl), lw_t2 (List.mem_of_getElem? (i := 208) rfl), lw_t2 (List.mem_of_getElem? (i := 209) rfl)⟩
theorem lw_p5 : lw_okq (⟨"ChairRanks$Reader", "look", "()I"⟩, 7) := ⟨⟨by decide +kernel, by decide +kernel⟩, lw_t2 (List.mem_of_getElem? (i := 173) rfl), lw_t2 (List.mem_of_getElem? (i := 212) rfl), lw_t2 (List.mem_of_getElem? (i := 213) rfl)⟩
theorem lw_p6 : lw_okq (⟨"ChairRanks$Reader", "isLetter", "(I)Z"⟩, 7) := ⟨⟨by decide +kernel, by decide +kernel⟩, lw_t2 (List.mem_of_getElem? (i := 173) rfl), lw_t2 (List.mem_of_getElem? (i := 222) rfl), lw_t2 (List.mem_of_getElem? (i := 223) rfl)⟩
theorem lw_p7 : lw_okq (⟨"ChairRanks$Reader", "must", "(ZI)V"⟩, 7) := ⟨⟨by decide +kernel, by decide +kernel⟩, lw_t2 (List.mem_of_getElem? (i := 173) rfl), lw_t2 (List.mem_of_getElem? (i := 226) rfl), lw_t2 (List.mem_of_getElem? (i := 227) rfl)⟩
theorem lw_p8 : lw_okq (⟨"ChairRanks$Reader", "figure", "(II)I"⟩, 7) := ⟨⟨by decide +kernel, by decide +kernel⟩, lw_t2 (List.mem_of_getElem? (i := 173) rfl), lw_t3 (List.mem_of_getElem? (i := 13) rfl), lw_t3 (List.mem_of_getElem? (i := 14) rfl)⟩
theorem lw_p9 : lw_okq (⟨"ChairRanks$Reader", "more", "(II)I"⟩, 7) := ⟨⟨by decide +kernel, by decide +kernel⟩, lw_t2 (List.mem_of_getElem? (i := 173) rfl), lw_t3 (List.mem_of_getElem? (i := 17) rfl), lw_t3 (List.mem_of_getElem? (i := 18) rfl)⟩
theorem lw_p10 : lw_okq (⟨"ChairRanks$Reader", "sign", "(I)V"⟩, 7) := ⟨⟨by decide +kernel, by decide +kernel⟩, lw_t2 (List.mem_of_getElem? (i := 173) rfl), lw_t3 (List.mem_of_getElem? (i := 21) rfl), lw_t3 (List.mem_of_getElem? (i := 22) rfl)⟩
theorem lw_p11 : lw_okq (⟨"ChairRanks$Reader", "sortOf", "(Ljava/lang/String;)I"⟩, 7) := ⟨⟨by decide +kernel, by decide +kernel⟩, lw_t2 (List.mem_of_getElem? (i := 173) rfl), lw_t3 (List.mem_of_getElem? (i := 26) rfl), lw_t3 (List.mem_of_getElem? (i := 27) rfl)⟩
theorem lw_p12 : lw_okq (⟨"ChairRanks$Reader", "chair", "()V"⟩, 7) := ⟨⟨by decide +kernel, by decide +kernel⟩, lw_t2 (List.mem_of_getElem? (i := 173) rfl), lw_t3 (List.mem_of_getElem? (i := 81) rfl), lw_t3 (List.mem_of_getElem? (i := 82) rfl)⟩
theorem lw_p13 : lw_okq (⟨"ChairRanks$Reader", "begin", "(II)V"⟩, 7) := ⟨⟨by decide +kernel, by decide +kernel⟩, lw_t2 (List.mem_of_getElem? (i := 173) rfl), lw_t3 (List.mem_of_getElem? (i := 99) rfl), lw_t3 (List.mem_of_getElem? (i := 100) rfl)⟩
theorem lw_p14 : lw_okq (⟨"java/util/ArrayList", "add", "(Ljava/lang/Object;[Ljava/lang/Object;I)V"⟩, 3) := ⟨⟨by decide +kernel, by decide +kernel⟩, lw_t1 (List.mem_of_getElem? (i := 51) rfl), lw_t3 (List.mem_of_getElem? (i := 115) rfl), lw_t3 (List.mem_of_getElem? (i := 116) rfl)⟩
theorem lw_p15 : lw_okq (⟨"java/util/ArrayList", "grow", "()[Ljava/lang/Object;"⟩, 3) := ⟨⟨by decide +kernel, by decide +kernel⟩, lw_t1 (List.mem_of_getElem? (i := 51) rfl), lw_t3 (List.mem_of_getElem? (i := 119) rfl), lw_t3 (List.mem_of_getElem? (i := 120) rfl)⟩
def lw_privs_1 : List (MethodName × Nat) := [(⟨"java/lang/Throwable", "fillInStackTrace", "(I)Ljava/lang/Throwable;"⟩, 6), (⟨"ChairRanks", "well", "(I)I"⟩, 12), (⟨"ChairRanks", "found", "(LChairRanks$Finding;)I"⟩, 12), (⟨"ChairRanks", "rowAt", "(I)LChairRanks$Row;"⟩, 12), (⟨"ChairRanks$Reader", "next", "()V"⟩, 7), (⟨"ChairRanks$Reader", "look", "()I"⟩, 7), (⟨"ChairRanks$Reader", "isLetter", "(I)Z"⟩, 7), (⟨"ChairRanks$Reader", "must", "(ZI)V"⟩, 7), (⟨"ChairRanks$Reader", "figure", "(II)I"⟩, 7), (⟨"ChairRanks$Reader", "more", "(II)I"⟩, 7), (⟨"ChairRanks$Reader", "sign", "(I)V"⟩, 7), (⟨"ChairRanks$Reader", "sortOf", "(Ljava/lang/String;)I"⟩, 7), (⟨"ChairRanks$Reader", "chair", "()V"⟩, 7), (⟨"ChairRanks$Reader", "begin", "(II)V"⟩, 7), (⟨"java/util/ArrayList", "add", "(Ljava/lang/Object;[Ljava/lang/Object;I)V"⟩, 3), (⟨"java/util/ArrayList", "grow", "()[Ljava/lang/Object;"⟩, 3)]
theorem lw_r1 : ∀ q ∈ lw_privs_1, lw_okq q := List.forall_mem_cons.mpr ⟨lw_p0, List.forall_mem_cons.mpr ⟨lw_p1, List.forall_mem_cons.mpr ⟨lw_p2, List.forall_mem_cons.mpr ⟨lw_p3, List.forall_mem_cons.mpr ⟨lw_p4, List.forall_mem_cons.mpr ⟨lw_p5, List.forall_mem_cons.mpr ⟨lw_p6, List.forall_mem_cons.mpr ⟨lw_p7, List.forall_mem_cons.mpr ⟨lw_p8, List.forall_mem_cons.mpr ⟨lw_p9, List.forall_mem_cons.mpr ⟨lw_p10, List.forall_mem_cons.mpr ⟨lw_p11, List.forall_mem_cons.mpr ⟨lw_p12, List.forall_mem_cons.mpr ⟨lw_p13, List.forall_mem_cons.mpr ⟨lw_p14, List.forall_mem_cons.mpr ⟨lw_p15, fun _ h => absurd h List.not_mem_nil⟩⟩⟩⟩⟩⟩⟩⟩⟩⟩⟩⟩⟩⟩⟩⟩
theorem lw_p16 : lw_okq (⟨"java/util/ArrayList", "grow", "(I)[Ljava/lang/Object;"⟩, 3) := ⟨⟨by decide +kernel, by decide +kernel⟩, lw_t1 (List.mem_of_getElem? (i := 51) rfl), lw_t3 (List.mem_of_getElem? (i := 123) rfl), lw_t3 (List.mem_of_getElem? (i := 124) rfl)⟩
theorem lw_p17 : lw_okq (⟨"ChairRanks", "isMinistry", "()Z"⟩, 12) := ⟨⟨by decide +kernel, by decide +kernel⟩, lw_t1 (List.mem_of_getElem? (i := 35) rfl), lw_t3 (List.mem_of_getElem? (i := 192) rfl), lw_t3 (List.mem_of_getElem? (i := 193) rfl)⟩
theorem lw_p18 : lw_okq (⟨"ChairRanks", "keep", "()V"⟩, 12) := ⟨⟨by decide +kernel, by decide +kernel⟩, lw_t1 (List.mem_of_getElem? (i := 35) rfl), lw_t3 (List.mem_of_getElem? (i := 197) rfl), lw_t3 (List.mem_of_getElem? (i := 198) rfl)⟩
theorem lw_p19 : lw_okq (⟨"ChairRanks$Ministry", "grudged", "(I)I"⟩, 13) := ⟨⟨by decide +kernel, by decide +kernel⟩, lw_t1 (List.mem_of_getElem? (i := 45) rfl), lw_t3 (List.mem_of_getElem? (i := 210) rfl), lw_t3 (List.mem_of_getElem? (i := 211) rfl)⟩
theorem lw_p20 : lw_okq (⟨"ChairRanks", "isChair", "(I)Z"⟩, 12) := ⟨⟨by decide +kernel, by decide +kernel⟩, lw_t1 (List.mem_of_getElem? (i := 35) rfl), lw_t4 (List.mem_of_getElem? (i := 55) rfl), lw_t4 (List.mem_of_getElem? (i := 56) rfl)⟩
theorem lw_p21 : lw_okq (⟨"ChairRanks", "puts", "([III)I"⟩, 12) := ⟨⟨by decide +kernel, by decide +kernel⟩, lw_t1 (List.mem_of_getElem? (i := 35) rfl), lw_t4 (List.mem_of_getElem? (i := 60) rfl), lw_t4 (List.mem_of_getElem? (i := 61) rfl)⟩
theorem lw_p22 : lw_okq (⟨"ChairRanks", "tried", "()LChairRanks$Ministry;"⟩, 12) := ⟨⟨by decide +kernel, by decide +kernel⟩, lw_t1 (List.mem_of_getElem? (i := 35) rfl), lw_t4 (List.mem_of_getElem? (i := 121) rfl), lw_t4 (List.mem_of_getElem? (i := 122) rfl)⟩
theorem lw_p23 : lw_okq (⟨"ChairRanks", "goOn", "(I)LChairRanks$Ministry;"⟩, 12) := ⟨⟨by decide +kernel, by decide +kernel⟩, lw_t1 (List.mem_of_getElem? (i := 35) rfl), lw_t4 (List.mem_of_getElem? (i := 125) rfl), lw_t4 (List.mem_of_getElem? (i := 126) rfl)⟩
theorem lw_p24 : lw_okq (⟨"ChairRanks", "isHighIn", "(III)Z"⟩, 12) := ⟨⟨by decide +kernel, by decide +kernel⟩, lw_t1 (List.mem_of_getElem? (i := 35) rfl), lw_t4 (List.mem_of_getElem? (i := 162) rfl), lw_t4 (List.mem_of_getElem? (i := 163) rfl)⟩
theorem lw_p25 : lw_okq (⟨"ChairRanks", "orderOf", "(II)[I"⟩, 12) := ⟨⟨by decide +kernel, by decide +kernel⟩, lw_t1 (List.mem_of_getElem? (i := 35) rfl), lw_t4 (List.mem_of_getElem? (i := 182) rfl), lw_t4 (List.mem_of_getElem? (i := 183) rfl)⟩
theorem lw_p26 : lw_okq (⟨"ChairRanks", "dustOf", "([I)I"⟩, 12) := ⟨⟨by decide +kernel, by decide +kernel⟩, lw_t1 (List.mem_of_getElem? (i := 35) rfl), lw_t4 (List.mem_of_getElem? (i := 195) rfl), lw_t4 (List.mem_of_getElem? (i := 196) rfl)⟩
theorem lw_p27 : lw_okq (⟨"ChairRanks", "cutBelow", "(II)I"⟩, 12) := ⟨⟨by decide +kernel, by decide +kernel⟩, lw_t1 (List.mem_of_getElem? (i := 35) rfl), lw_t4 (List.mem_of_getElem? (i := 199) rfl), lw_t4 (List.mem_of_getElem? (i := 200) rfl)⟩
theorem lw_p28 : lw_okq (⟨"ChairRanks", "pileOf", "([I)I"⟩, 12) := ⟨⟨by decide +kernel, by decide +kernel⟩, lw_t1 (List.mem_of_getElem? (i := 35) rfl), lw_t4 (List.mem_of_getElem? (i := 208) rfl), lw_t4 (List.mem_of_getElem? (i := 209) rfl)⟩
theorem lw_p29 : lw_okq (⟨"ChairRanks", "pileAbove", "(II)I"⟩, 12) := ⟨⟨by decide +kernel, by decide +kernel⟩, lw_t1 (List.mem_of_getElem? (i := 35) rfl), lw_t4 (List.mem_of_getElem? (i := 212) rfl), lw_t4 (List.mem_of_getElem? (i := 213) rfl)⟩
theorem lw_p30 : lw_okq (⟨"ChairRanks", "alters", "(III)V"⟩, 12) := ⟨⟨by decide +kernel, by decide +kernel⟩, lw_t1 (List.mem_of_getElem? (i := 35) rfl), lw_t5 (List.mem_of_getElem? (i := 8) rfl), lw_t5 (List.mem_of_getElem? (i := 9) rfl)⟩
theorem lw_p31 : lw_okq (⟨"ChairRanks", "isSeen", "(I[I)Z"⟩, 12) := ⟨⟨by decide +kernel, by decide +kernel⟩, lw_t1 (List.mem_of_getElem? (i := 35) rfl), lw_t5 (List.mem_of_getElem? (i := 12) rfl), lw_t5 (List.mem_of_getElem? (i := 13) rfl)⟩
def lw_privs_2 : List (MethodName × Nat) := [(⟨"java/util/ArrayList", "grow", "(I)[Ljava/lang/Object;"⟩, 3), (⟨"ChairRanks", "isMinistry", "()Z"⟩, 12), (⟨"ChairRanks", "keep", "()V"⟩, 12), (⟨"ChairRanks$Ministry", "grudged", "(I)I"⟩, 13), (⟨"ChairRanks", "isChair", "(I)Z"⟩, 12), (⟨"ChairRanks", "puts", "([III)I"⟩, 12), (⟨"ChairRanks", "tried", "()LChairRanks$Ministry;"⟩, 12), (⟨"ChairRanks", "goOn", "(I)LChairRanks$Ministry;"⟩, 12), (⟨"ChairRanks", "isHighIn", "(III)Z"⟩, 12), (⟨"ChairRanks", "orderOf", "(II)[I"⟩, 12), (⟨"ChairRanks", "dustOf", "([I)I"⟩, 12), (⟨"ChairRanks", "cutBelow", "(II)I"⟩, 12), (⟨"ChairRanks", "pileOf", "([I)I"⟩, 12), (⟨"ChairRanks", "pileAbove", "(II)I"⟩, 12), (⟨"ChairRanks", "alters", "(III)V"⟩, 12), (⟨"ChairRanks", "isSeen", "(I[I)Z"⟩, 12)]
theorem lw_r2 : ∀ q ∈ lw_privs_2, lw_okq q := List.forall_mem_cons.mpr ⟨lw_p16, List.forall_mem_cons.mpr ⟨lw_p17, List.forall_mem_cons.mpr ⟨lw_p18, List.forall_mem_cons.mpr ⟨lw_p19, List.forall_mem_cons.mpr ⟨lw_p20, List.forall_mem_cons.mpr ⟨lw_p21, List.forall_mem_cons.mpr ⟨lw_p22, List.forall_mem_cons.mpr ⟨lw_p23, List.forall_mem_cons.mpr ⟨lw_p24, List.forall_mem_cons.mpr ⟨lw_p25, List.forall_mem_cons.mpr ⟨lw_p26, List.forall_mem_cons.mpr ⟨lw_p27, List.forall_mem_cons.mpr ⟨lw_p28, List.forall_mem_cons.mpr ⟨lw_p29, List.forall_mem_cons.mpr ⟨lw_p30, List.forall_mem_cons.mpr ⟨lw_p31, fun _ h => absurd h List.not_mem_nil⟩⟩⟩⟩⟩⟩⟩⟩⟩⟩⟩⟩⟩⟩⟩⟩
theorem lw_p32 : lw_okq (⟨"ChairRanksModel", "find", "(I)I"⟩, 25) := ⟨⟨by decide +kernel, by decide +kernel⟩, lw_t5 (List.mem_of_getElem? (i := 198) rfl), lw_t6 (List.mem_of_getElem? (i := 54) rfl), lw_t6 (List.mem_of_getElem? (i := 55) rfl)⟩
theorem lw_p33 : lw_okq (⟨"ChairRanksModel", "well", "(I)I"⟩, 25) := ⟨⟨by decide +kernel, by decide +kernel⟩, lw_t5 (List.mem_of_getElem? (i := 198) rfl), lw_t6 (List.mem_of_getElem? (i := 59) rfl), lw_t6 (List.mem_of_getElem? (i := 60) rfl)⟩
theorem lw_p34 : lw_okq (⟨"ChairRanksModel", "readMinistry", "()Z"⟩, 25) := ⟨⟨by decide +kernel, by decide +kernel⟩, lw_t5 (List.mem_of_getElem? (i := 198) rfl), lw_t6 (List.mem_of_getElem? (i := 88) rfl), lw_t6 (List.mem_of_getElem? (i := 89) rfl)⟩
theorem lw_p35 : lw_okq (⟨"ChairRanksModel", "nextToken", "()V"⟩, 25) := ⟨⟨by decide +kernel, by decide +kernel⟩, lw_t5 (List.mem_of_getElem? (i := 198) rfl), lw_t6 (List.mem_of_getElem? (i := 92) rfl), lw_t6 (List.mem_of_getElem? (i := 93) rfl)⟩
theorem lw_p36 : lw_okq (⟨"ChairRanksModel", "takes", "(I)Z"⟩, 25) := ⟨⟨by decide +kernel, by decide +kernel⟩, lw_t5 (List.mem_of_getElem? (i := 198) rfl), lw_t6 (List.mem_of_getElem? (i := 100) rfl), lw_t6 (List.mem_of_getElem? (i := 101) rfl)⟩
theorem lw_p37 : lw_okq (⟨"ChairRanksModel", "isLetter", "(I)Z"⟩, 25) := ⟨⟨by decide +kernel, by decide +kernel⟩, lw_t5 (List.mem_of_getElem? (i := 198) rfl), lw_t6 (List.mem_of_getElem? (i := 104) rfl), lw_t6 (List.mem_of_getElem? (i := 105) rfl)⟩
theorem lw_p38 : lw_okq (⟨"ChairRanksModel", "faults", "(I)Z"⟩, 25) := ⟨⟨by decide +kernel, by decide +kernel⟩, lw_t5 (List.mem_of_getElem? (i := 198) rfl), lw_t6 (List.mem_of_getElem? (i := 108) rfl), lw_t6 (List.mem_of_getElem? (i := 109) rfl)⟩
theorem lw_p39 : lw_okq (⟨"ChairRanksModel", "takesNumber", "(IIII)Z"⟩, 25) := ⟨⟨by decide +kernel, by decide +kernel⟩, lw_t5 (List.mem_of_getElem? (i := 198) rfl), lw_t6 (List.mem_of_getElem? (i := 112) rfl), lw_t6 (List.mem_of_getElem? (i := 113) rfl)⟩
theorem lw_p40 : lw_okq (⟨"ChairRanksModel", "readChair", "()Z"⟩, 25) := ⟨⟨by decide +kernel, by decide +kernel⟩, lw_t5 (List.mem_of_getElem? (i := 198) rfl), lw_t6 (List.mem_of_getElem? (i := 116) rfl), lw_t6 (List.mem_of_getElem? (i := 117) rfl)⟩
theorem lw_p41 : lw_okq (⟨"ChairRanksModel", "note", "()V"⟩, 25) := ⟨⟨by decide +kernel, by decide +kernel⟩, lw_t5 (List.mem_of_getElem? (i := 198) rfl), lw_t6 (List.mem_of_getElem? (i := 135) rfl), lw_t6 (List.mem_of_getElem? (i := 136) rfl)⟩
theorem lw_p42 : lw_okq (⟨"ChairRanksModel", "oneNight", "()V"⟩, 25) := ⟨⟨by decide +kernel, by decide +kernel⟩, lw_t5 (List.mem_of_getElem? (i := 198) rfl), lw_t6 (List.mem_of_getElem? (i := 139) rfl), lw_t6 (List.mem_of_getElem? (i := 140) rfl)⟩
theorem lw_p43 : lw_okq (⟨"ChairRanksModel", "targetOf", "(I)I"⟩, 25) := ⟨⟨by decide +kernel, by decide +kernel⟩, lw_t5 (List.mem_of_getElem? (i := 198) rfl), lw_t6 (List.mem_of_getElem? (i := 143) rfl), lw_t6 (List.mem_of_getElem? (i := 144) rfl)⟩
theorem lw_p44 : lw_okq (⟨"ChairRanksModel", "rankOf", "(I)I"⟩, 25) := ⟨⟨by decide +kernel, by decide +kernel⟩, lw_t5 (List.mem_of_getElem? (i := 198) rfl), lw_t6 (List.mem_of_getElem? (i := 148) rfl), lw_t6 (List.mem_of_getElem? (i := 149) rfl)⟩
theorem lw_p45 : lw_okq (⟨"ChairRanksModel", "highOf", "(I)I"⟩, 25) := ⟨⟨by decide +kernel, by decide +kernel⟩, lw_t5 (List.mem_of_getElem? (i := 198) rfl), lw_t6 (List.mem_of_getElem? (i := 152) rfl), lw_t6 (List.mem_of_getElem? (i := 153) rfl)⟩
theorem lw_p46 : lw_okq (⟨"ChairRanksModel", "atRank", "(I)I"⟩, 25) := ⟨⟨by decide +kernel, by decide +kernel⟩, lw_t5 (List.mem_of_getElem? (i := 198) rfl), lw_t6 (List.mem_of_getElem? (i := 159) rfl), lw_t6 (List.mem_of_getElem? (i := 160) rfl)⟩
theorem lw_p47 : lw_okq (⟨"ChairRanksModel", "sawnOff", "(II)I"⟩, 25) := ⟨⟨by decide +kernel, by decide +kernel⟩, lw_t5 (List.mem_of_getElem? (i := 198) rfl), lw_t6 (List.mem_of_getElem? (i := 166) rfl), lw_t6 (List.mem_of_getElem? (i := 167) rfl)⟩
def lw_privs_3 : List (MethodName × Nat) := [(⟨"ChairRanksModel", "find", "(I)I"⟩, 25), (⟨"ChairRanksModel", "well", "(I)I"⟩, 25), (⟨"ChairRanksModel", "readMinistry", "()Z"⟩, 25), (⟨"ChairRanksModel", "nextToken", "()V"⟩, 25), (⟨"ChairRanksModel", "takes", "(I)Z"⟩, 25), (⟨"ChairRanksModel", "isLetter", "(I)Z"⟩, 25), (⟨"ChairRanksModel", "faults", "(I)Z"⟩, 25), (⟨"ChairRanksModel", "takesNumber", "(IIII)Z"⟩, 25), (⟨"ChairRanksModel", "readChair", "()Z"⟩, 25), (⟨"ChairRanksModel", "note", "()V"⟩, 25), (⟨"ChairRanksModel", "oneNight", "()V"⟩, 25), (⟨"ChairRanksModel", "targetOf", "(I)I"⟩, 25), (⟨"ChairRanksModel", "rankOf", "(I)I"⟩, 25), (⟨"ChairRanksModel", "highOf", "(I)I"⟩, 25), (⟨"ChairRanksModel", "atRank", "(I)I"⟩, 25), (⟨"ChairRanksModel", "sawnOff", "(II)I"⟩, 25)]
theorem lw_r3 : ∀ q ∈ lw_privs_3, lw_okq q := List.forall_mem_cons.mpr ⟨lw_p32, List.forall_mem_cons.mpr ⟨lw_p33, List.forall_mem_cons.mpr ⟨lw_p34, List.forall_mem_cons.mpr ⟨lw_p35, List.forall_mem_cons.mpr ⟨lw_p36, List.forall_mem_cons.mpr ⟨lw_p37, List.forall_mem_cons.mpr ⟨lw_p38, List.forall_mem_cons.mpr ⟨lw_p39, List.forall_mem_cons.mpr ⟨lw_p40, List.forall_mem_cons.mpr ⟨lw_p41, List.forall_mem_cons.mpr ⟨lw_p42, List.forall_mem_cons.mpr ⟨lw_p43, List.forall_mem_cons.mpr ⟨lw_p44, List.forall_mem_cons.mpr ⟨lw_p45, List.forall_mem_cons.mpr ⟨lw_p46, List.forall_mem_cons.mpr ⟨lw_p47, fun _ h => absurd h List.not_mem_nil⟩⟩⟩⟩⟩⟩⟩⟩⟩⟩⟩⟩⟩⟩⟩⟩
theorem lw_p48 : lw_okq (⟨"ChairRanksModel", "isChair", "(I)Z"⟩, 25) := ⟨⟨by decide +kernel, by decide +kernel⟩, lw_t5 (List.mem_of_getElem? (i := 198) rfl), lw_t6 (List.mem_of_getElem? (i := 174) rfl), lw_t6 (List.mem_of_getElem? (i := 175) rfl)⟩
theorem lw_p49 : lw_okq (⟨"ChairRanksModel", "glue", "(I)V"⟩, 25) := ⟨⟨by decide +kernel, by decide +kernel⟩, lw_t5 (List.mem_of_getElem? (i := 198) rfl), lw_t6 (List.mem_of_getElem? (i := 183) rfl), lw_t6 (List.mem_of_getElem? (i := 184) rfl)⟩
theorem lw_p50 : lw_okq (⟨"ChairRanksModel", "exchange", "(III)V"⟩, 25) := ⟨⟨by decide +kernel, by decide +kernel⟩, lw_t5 (List.mem_of_getElem? (i := 198) rfl), lw_t6 (List.mem_of_getElem? (i := 198) rfl), lw_t6 (List.mem_of_getElem? (i := 199) rfl)⟩
theorem lw_p51 : lw_okq (⟨"ChairRanksModel", "putAside", "()V"⟩, 25) := ⟨⟨by decide +kernel, by decide +kernel⟩, lw_t5 (List.mem_of_getElem? (i := 198) rfl), lw_t6 (List.mem_of_getElem? (i := 220) rfl), lw_t6 (List.mem_of_getElem? (i := 221) rfl)⟩
theorem lw_p52 : lw_okq (⟨"ChairRanksModel", "goOn", "(I)V"⟩, 25) := ⟨⟨by decide +kernel, by decide +kernel⟩, lw_t5 (List.mem_of_getElem? (i := 198) rfl), lw_t6 (List.mem_of_getElem? (i := 224) rfl), lw_t6 (List.mem_of_getElem? (i := 225) rfl)⟩
theorem lw_p53 : lw_okq (⟨"ChairRanksModel", "takeBack", "()V"⟩, 25) := ⟨⟨by decide +kernel, by decide +kernel⟩, lw_t5 (List.mem_of_getElem? (i := 198) rfl), lw_t6 (List.mem_of_getElem? (i := 228) rfl), lw_t6 (List.mem_of_getElem? (i := 229) rfl)⟩
theorem lw_p54 : lw_okq (⟨"ChairRanksModel", "sumOf", "(I)I"⟩, 25) := ⟨⟨by decide +kernel, by decide +kernel⟩, lw_t5 (List.mem_of_getElem? (i := 198) rfl), lw_t7 (List.mem_of_getElem? (i := 9) rfl), lw_t7 (List.mem_of_getElem? (i := 10) rfl)⟩
theorem lw_p55 : lw_okq (⟨"ChairRanksModel", "rankBy", "(II)I"⟩, 25) := ⟨⟨by decide +kernel, by decide +kernel⟩, lw_t5 (List.mem_of_getElem? (i := 198) rfl), lw_t7 (List.mem_of_getElem? (i := 18) rfl), lw_t7 (List.mem_of_getElem? (i := 19) rfl)⟩
theorem lw_p56 : lw_okq (⟨"ChairRanksModel", "lacksOrder", "(II)I"⟩, 25) := ⟨⟨by decide +kernel, by decide +kernel⟩, lw_t5 (List.mem_of_getElem? (i := 198) rfl), lw_t7 (List.mem_of_getElem? (i := 37) rfl), lw_t7 (List.mem_of_getElem? (i := 38) rfl)⟩
theorem lw_p57 : lw_okq (⟨"ChairRanksModel", "lacks", "(III)I"⟩, 25) := ⟨⟨by decide +kernel, by decide +kernel⟩, lw_t5 (List.mem_of_getElem? (i := 198) rfl), lw_t7 (List.mem_of_getElem? (i := 41) rfl), lw_t7 (List.mem_of_getElem? (i := 42) rfl)⟩
theorem lw_p58 : lw_okq (⟨"ChairRanksModel", "isSo", "(III)Z"⟩, 25) := ⟨⟨by decide +kernel, by decide +kernel⟩, lw_t5 (List.mem_of_getElem? (i := 198) rfl), lw_t7 (List.mem_of_getElem? (i := 77) rfl), lw_t7 (List.mem_of_getElem? (i := 78) rfl)⟩
theorem lw_p59 : lw_okq (⟨"ChairRanksModel", "sizeOf", "(I)I"⟩, 25) := ⟨⟨by decide +kernel, by decide +kernel⟩, lw_t5 (List.mem_of_getElem? (i := 198) rfl), lw_t7 (List.mem_of_getElem? (i := 121) rfl), lw_t7 (List.mem_of_getElem? (i := 122) rfl)⟩
theorem lw_p60 : lw_okq (⟨"ChairRanksModel", "begin", "(I)V"⟩, 25) := ⟨⟨by decide +kernel, by decide +kernel⟩, lw_t5 (List.mem_of_getElem? (i := 198) rfl), lw_t7 (List.mem_of_getElem? (i := 125) rfl), lw_t7 (List.mem_of_getElem? (i := 126) rfl)⟩
theorem lw_p61 : lw_okq (⟨"ChairRanksModel", "plainSize", "(I)I"⟩, 25) := ⟨⟨by decide +kernel, by decide +kernel⟩, lw_t5 (List.mem_of_getElem? (i := 198) rfl), lw_t7 (List.mem_of_getElem? (i := 129) rfl), lw_t7 (List.mem_of_getElem? (i := 130) rfl)⟩
theorem lw_p62 : lw_okq (⟨"ChairRanksModel", "lent", "(II)I"⟩, 25) := ⟨⟨by decide +kernel, by decide +kernel⟩, lw_t5 (List.mem_of_getElem? (i := 198) rfl), lw_t7 (List.mem_of_getElem? (i := 133) rfl), lw_t7 (List.mem_of_getElem? (i := 134) rfl)⟩
theorem lw_p63 : lw_okq (⟨"ChairRanksModel", "markOf", "(I)I"⟩, 25) := ⟨⟨by decide +kernel, by decide +kernel⟩, lw_t5 (List.mem_of_getElem? (i := 198) rfl), lw_t7 (List.mem_of_getElem? (i := 137) rfl), lw_t7 (List.mem_of_getElem? (i := 138) rfl)⟩
def lw_privs_4 : List (MethodName × Nat) := [(⟨"ChairRanksModel", "isChair", "(I)Z"⟩, 25), (⟨"ChairRanksModel", "glue", "(I)V"⟩, 25), (⟨"ChairRanksModel", "exchange", "(III)V"⟩, 25), (⟨"ChairRanksModel", "putAside", "()V"⟩, 25), (⟨"ChairRanksModel", "goOn", "(I)V"⟩, 25), (⟨"ChairRanksModel", "takeBack", "()V"⟩, 25), (⟨"ChairRanksModel", "sumOf", "(I)I"⟩, 25), (⟨"ChairRanksModel", "rankBy", "(II)I"⟩, 25), (⟨"ChairRanksModel", "lacksOrder", "(II)I"⟩, 25), (⟨"ChairRanksModel", "lacks", "(III)I"⟩, 25), (⟨"ChairRanksModel", "isSo", "(III)Z"⟩, 25), (⟨"ChairRanksModel", "sizeOf", "(I)I"⟩, 25), (⟨"ChairRanksModel", "begin", "(I)V"⟩, 25), (⟨"ChairRanksModel", "plainSize", "(I)I"⟩, 25), (⟨"ChairRanksModel", "lent", "(II)I"⟩, 25), (⟨"ChairRanksModel", "markOf", "(I)I"⟩, 25)]
theorem lw_r4 : ∀ q ∈ lw_privs_4, lw_okq q := List.forall_mem_cons.mpr ⟨lw_p48, List.forall_mem_cons.mpr ⟨lw_p49, List.forall_mem_cons.mpr ⟨lw_p50, List.forall_mem_cons.mpr ⟨lw_p51, List.forall_mem_cons.mpr ⟨lw_p52, List.forall_mem_cons.mpr ⟨lw_p53, List.forall_mem_cons.mpr ⟨lw_p54, List.forall_mem_cons.mpr ⟨lw_p55, List.forall_mem_cons.mpr ⟨lw_p56, List.forall_mem_cons.mpr ⟨lw_p57, List.forall_mem_cons.mpr ⟨lw_p58, List.forall_mem_cons.mpr ⟨lw_p59, List.forall_mem_cons.mpr ⟨lw_p60, List.forall_mem_cons.mpr ⟨lw_p61, List.forall_mem_cons.mpr ⟨lw_p62, List.forall_mem_cons.mpr ⟨lw_p63, fun _ h => absurd h List.not_mem_nil⟩⟩⟩⟩⟩⟩⟩⟩⟩⟩⟩⟩⟩⟩⟩⟩
theorem lw_p64 : lw_okq (⟨"ChairRanksModel", "plainMark", "(I)I"⟩, 25) := ⟨⟨by decide +kernel, by decide +kernel⟩, lw_t5 (List.mem_of_getElem? (i := 198) rfl), lw_t7 (List.mem_of_getElem? (i := 141) rfl), lw_t7 (List.mem_of_getElem? (i := 142) rfl)⟩
theorem lw_p65 : lw_okq (⟨"ChairRanksModel", "sizeOfOak", "(I)I"⟩, 25) := ⟨⟨by decide +kernel, by decide +kernel⟩, lw_t5 (List.mem_of_getElem? (i := 198) rfl), lw_t7 (List.mem_of_getElem? (i := 145) rfl), lw_t7 (List.mem_of_getElem? (i := 146) rfl)⟩
theorem lw_p66 : lw_okq (⟨"ChairRanksModel", "oakSize", "(I)I"⟩, 25) := ⟨⟨by decide +kernel, by decide +kernel⟩, lw_t5 (List.mem_of_getElem? (i := 198) rfl), lw_t7 (List.mem_of_getElem? (i := 149) rfl), lw_t7 (List.mem_of_getElem? (i := 150) rfl)⟩
def lw_privs_5 : List (MethodName × Nat) := [(⟨"ChairRanksModel", "plainMark", "(I)I"⟩, 25), (⟨"ChairRanksModel", "sizeOfOak", "(I)I"⟩, 25), (⟨"ChairRanksModel", "oakSize", "(I)I"⟩, 25)]
theorem lw_r5 : ∀ q ∈ lw_privs_5, lw_okq q := List.forall_mem_cons.mpr ⟨lw_p64, List.forall_mem_cons.mpr ⟨lw_p65, List.forall_mem_cons.mpr ⟨lw_p66, fun _ h => absurd h List.not_mem_nil⟩⟩⟩
def lw_privs : List (MethodName × Nat) := lw_privs_1 ++ (lw_privs_2 ++ (lw_privs_3 ++ (lw_privs_4 ++ (lw_privs_5))))
def lw_tbl : List Cond := k2_sels lw_privs ++ tables_1
theorem lw_privs_ok : ∀ q ∈ lw_privs, lw_okq q := by
  show ∀ q ∈ lw_privs_1 ++ (lw_privs_2 ++ (lw_privs_3 ++ (lw_privs_4 ++ (lw_privs_5)))), lw_okq q
  exact List.forall_mem_append.mpr ⟨lw_r1, List.forall_mem_append.mpr ⟨lw_r2, List.forall_mem_append.mpr ⟨lw_r3, List.forall_mem_append.mpr ⟨lw_r4, lw_r5⟩⟩⟩⟩
-- ===== ONE list of words for every method: the tables' words that hold all through a run =====
def lw_all : List Cond := lw_tbl.filter goodWord
/-- a word of the tables by its place: claim/WORDS.tsv -/
theorem lw_w {w : Cond} (i : Nat) (h : lw_tbl[i]? = some w) (g : goodWord w = true) : w ∈ lw_all := List.mem_filter.mpr ⟨List.mem_of_getElem? h, g⟩
theorem lw_all_tbl {w : Cond} (h : w ∈ lw_all) : w ∈ lw_tbl := (List.mem_filter.mp h).1
theorem lw_self : GoodIn lw_all lw_all := fun w h => ⟨h, good_of_word (List.mem_filter.mp h).2⟩
/-- a class's field words, by their places -/
theorem lw_in (ws : List Cond) (ps : List Nat) (hp : ws = ps.filterMap (fun i => lw_tbl[i]?)) (hg : ws.all goodWord = true) : ∀ w ∈ ws, w ∈ lw_all := by
  intro w h
  have h1 := List.all_eq_true.mp hg w h
  rw [hp] at h
  obtain ⟨i, -, hi⟩ := List.mem_filterMap.mp h
  exact lw_w i hi h1
/-- the words of a contract for the method y with code b, L locals, answer r -/
abbrev ws_ (y : MethodName) (b : ByteArray) (L : Nat) (r : Option FieldType) : List Cond := Cond.code y b L r :: lw_all
theorem lw_meth {y : MethodName} {b : ByteArray} {L : Nat} {r : Option FieldType} (h : Cond.code y b L r ∈ lw_all) : GoodIn lw_all (ws_ y b L r) := by
  intro w hw
  rcases List.mem_cons.mp hw with e | e
  · rw [e]
    exact lw_self _ h
  · exact lw_self _ e
theorem lw_app {a c : List Cond} (ha : ∀ w ∈ a, w ∈ lw_all) (hc : GoodIn lw_all c) : GoodIn lw_all (a ++ c) := by
  intro w hw
  rcases List.mem_append.mp hw with e | e
  · exact lw_self w (ha w e)
  · exact hc w e
/-- what a call through an object asks: cwV n hts (lw_V ..) -/
theorem lw_V {own : String} {idx : Nat} {C : String} {y : MethodName} {b : ByteArray} {L : Nat} {r : Option FieldType} (h1 : Cond.methodLink own idx y ∈ lw_all) (h2 : Cond.instanceMethod y ∈ lw_all) (h3 : Cond.selects C y y ∈ lw_all) (h4 : Cond.initialized C ∈ lw_all) (h5 : Cond.code y b L r ∈ lw_all) : GoodIn lw_all (wsV own idx C y (ws_ y b L r)) := by
  refine lw_app ?_ (lw_meth h5)
  intro w hw
  simp only [List.mem_cons, List.not_mem_nil, or_false] at hw
  rcases hw with e | e | e | e
  · rw [e]; exact h1
  · rw [e]; exact h2
  · rw [e]; exact h3
  · rw [e]; exact h4
/-- what a static call asks: va_cwS n hts (lw_S ..) -/
theorem lw_S {own : String} {idx : Nat} {y : MethodName} {b : ByteArray} {L : Nat} {r : Option FieldType} (h1 : Cond.methodLink own idx y ∈ lw_all) (h2 : Cond.static y ∈ lw_all) (h3 : Cond.initialized y.cls ∈ lw_all) (h4 : Cond.code y b L r ∈ lw_all) : GoodIn lw_all (va_wsS own idx y (ws_ y b L r)) := by
  refine lw_app ?_ (lw_meth h4)
  intro w hw
  simp only [List.mem_cons, List.not_mem_nil, or_false] at hw
  rcases hw with e | e | e
  · rw [e]; exact h1
  · rw [e]; exact h2
  · rw [e]; exact h3
/-- the words of a contract for a method WITH HANDLERS (hh: its table) -/
abbrev wsW_ (y : MethodName) (b : ByteArray) (L : Nat) (r : Option FieldType) (hh : List (Nat × Nat × Nat × Nat)) : List Cond := Cond.codeWith y b L r hh :: lw_all
theorem lw_methW {y : MethodName} {b : ByteArray} {L : Nat} {r : Option FieldType} {hh : List (Nat × Nat × Nat × Nat)} (h : Cond.codeWith y b L r hh ∈ lw_all) : GoodIn lw_all (wsW_ y b L r hh) := by
  intro w hw
  rcases List.mem_cons.mp hw with e | e
  · rw [e]
    exact lw_self _ h
  · exact lw_self _ e
/-- any list of words by their places (lw_in), good -/
theorem lw_good {ws : List Cond} (h : ∀ w ∈ ws, w ∈ lw_all) : GoodIn lw_all ws := fun w hw => lw_self w (h w hw)
/-- what a call of a method with handlers asks: vx_cwVW n hts (lw_VW ..), vx_cwSW n hts (lw_SW ..) -/
theorem lw_VW {own : String} {idx : Nat} {C : String} {y : MethodName} {b : ByteArray} {L : Nat} {r : Option FieldType} {hh : List (Nat × Nat × Nat × Nat)} (h1 : Cond.methodLink own idx y ∈ lw_all) (h2 : Cond.instanceMethod y ∈ lw_all) (h3 : Cond.selects C y y ∈ lw_all) (h4 : Cond.initialized C ∈ lw_all) (h5 : Cond.codeWith y b L r hh ∈ lw_all) : GoodIn lw_all (wsV own idx C y (wsW_ y b L r hh)) := by
  refine lw_app ?_ (lw_methW h5)
  intro w hw
  simp only [List.mem_cons, List.not_mem_nil, or_false] at hw
  rcases hw with e | e | e | e
  · rw [e]; exact h1
  · rw [e]; exact h2
  · rw [e]; exact h3
  · rw [e]; exact h4
theorem lw_SW {own : String} {idx : Nat} {y : MethodName} {b : ByteArray} {L : Nat} {r : Option FieldType} {hh : List (Nat × Nat × Nat × Nat)} (h1 : Cond.methodLink own idx y ∈ lw_all) (h2 : Cond.static y ∈ lw_all) (h3 : Cond.initialized y.cls ∈ lw_all) (h4 : Cond.codeWith y b L r hh ∈ lw_all) : GoodIn lw_all (va_wsS own idx y (wsW_ y b L r hh)) := by
  refine lw_app ?_ (lw_methW h4)
  intro w hw
  simp only [List.mem_cons, List.not_mem_nil, or_false] at hw
  rcases hw with e | e | e
  · rw [e]; exact h1
  · rw [e]; exact h2
  · rw [e]; exact h3
/-- a word by its place in its run of the tables -/
theorem lw_at {r : List Cond} (hr : ∀ w ∈ r, w ∈ lw_tbl) {w : Cond} (i : Nat) (h : r[i]? = some w) : w ∈ lw_tbl := hr w (List.mem_of_getElem? h)
theorem lw_g {w : Cond} (h : w ∈ lw_tbl) (g : goodWord w = true) : w ∈ lw_all := List.mem_filter.mpr ⟨h, g⟩
theorem lw_ms : ∀ w ∈ k2_sels lw_privs, w ∈ lw_tbl := fun w h => show w ∈ k2_sels lw_privs ++ tables_1 from List.mem_append_left _ h
theorem lw_m1 : ∀ w ∈ tables_1_1, w ∈ lw_tbl := fun w h => show w ∈ k2_sels lw_privs ++ tables_1 from List.mem_append_right (k2_sels lw_privs) (show w ∈ tables_1 from List.mem_append_left _ h)
theorem lw_m2 : ∀ w ∈ tables_1_2, w ∈ lw_tbl := fun w h => show w ∈ k2_sels lw_privs ++ tables_1 from List.mem_append_right (k2_sels lw_privs) (show w ∈ tables_1 from List.mem_append_right _ (List.mem_append_left _ h))
theorem lw_m3 : ∀ w ∈ tables_1_3, w ∈ lw_tbl := fun w h => show w ∈ k2_sels lw_privs ++ tables_1 from List.mem_append_right (k2_sels lw_privs) (show w ∈ tables_1 from List.mem_append_right _ (List.mem_append_right _ (List.mem_append_left _ h)))
theorem lw_m4 : ∀ w ∈ tables_1_4, w ∈ lw_tbl := fun w h => show w ∈ k2_sels lw_privs ++ tables_1 from List.mem_append_right (k2_sels lw_privs) (show w ∈ tables_1 from List.mem_append_right _ (List.mem_append_right _ (List.mem_append_right _ (List.mem_append_left _ h))))
theorem lw_m5 : ∀ w ∈ tables_1_5, w ∈ lw_tbl := fun w h => show w ∈ k2_sels lw_privs ++ tables_1 from List.mem_append_right (k2_sels lw_privs) (show w ∈ tables_1 from List.mem_append_right _ (List.mem_append_right _ (List.mem_append_right _ (List.mem_append_right _ (List.mem_append_left _ h)))))
theorem lw_m6 : ∀ w ∈ tables_1_6, w ∈ lw_tbl := fun w h => show w ∈ k2_sels lw_privs ++ tables_1 from List.mem_append_right (k2_sels lw_privs) (show w ∈ tables_1 from List.mem_append_right _ (List.mem_append_right _ (List.mem_append_right _ (List.mem_append_right _ (List.mem_append_right _ (List.mem_append_left _ h))))))
theorem lw_m7 : ∀ w ∈ tables_1_7, w ∈ lw_tbl := fun w h => show w ∈ k2_sels lw_privs ++ tables_1 from List.mem_append_right (k2_sels lw_privs) (show w ∈ tables_1 from List.mem_append_right _ (List.mem_append_right _ (List.mem_append_right _ (List.mem_append_right _ (List.mem_append_right _ (List.mem_append_right _ h))))))
theorem qs0 : (Cond.selects "java/lang/Throwable" ⟨"java/lang/Throwable", "fillInStackTrace", "(I)Ljava/lang/Throwable;"⟩ ⟨"java/lang/Throwable", "fillInStackTrace", "(I)Ljava/lang/Throwable;"⟩) ∈ lw_all := lw_g (lw_at lw_ms 0 rfl) rfl
theorem qs1 : (Cond.selects "ChairRanks" ⟨"ChairRanks", "well", "(I)I"⟩ ⟨"ChairRanks", "well", "(I)I"⟩) ∈ lw_all := lw_g (lw_at lw_ms 1 rfl) rfl
theorem qs2 : (Cond.selects "ChairRanks" ⟨"ChairRanks", "found", "(LChairRanks$Finding;)I"⟩ ⟨"ChairRanks", "found", "(LChairRanks$Finding;)I"⟩) ∈ lw_all := lw_g (lw_at lw_ms 2 rfl) rfl
theorem qs3 : (Cond.selects "ChairRanks" ⟨"ChairRanks", "rowAt", "(I)LChairRanks$Row;"⟩ ⟨"ChairRanks", "rowAt", "(I)LChairRanks$Row;"⟩) ∈ lw_all := lw_g (lw_at lw_ms 3 rfl) rfl
theorem qs4 : (Cond.selects "ChairRanks$Reader" ⟨"ChairRanks$Reader", "next", "()V"⟩ ⟨"ChairRanks$Reader", "next", "()V"⟩) ∈ lw_all := lw_g (lw_at lw_ms 4 rfl) rfl
theorem qs5 : (Cond.selects "ChairRanks$Reader" ⟨"ChairRanks$Reader", "look", "()I"⟩ ⟨"ChairRanks$Reader", "look", "()I"⟩) ∈ lw_all := lw_g (lw_at lw_ms 5 rfl) rfl
theorem qs6 : (Cond.selects "ChairRanks$Reader" ⟨"ChairRanks$Reader", "isLetter", "(I)Z"⟩ ⟨"ChairRanks$Reader", "isLetter", "(I)Z"⟩) ∈ lw_all := lw_g (lw_at lw_ms 6 rfl) rfl
theorem qs7 : (Cond.selects "ChairRanks$Reader" ⟨"ChairRanks$Reader", "must", "(ZI)V"⟩ ⟨"ChairRanks$Reader", "must", "(ZI)V"⟩) ∈ lw_all := lw_g (lw_at lw_ms 7 rfl) rfl
theorem qs8 : (Cond.selects "ChairRanks$Reader" ⟨"ChairRanks$Reader", "figure", "(II)I"⟩ ⟨"ChairRanks$Reader", "figure", "(II)I"⟩) ∈ lw_all := lw_g (lw_at lw_ms 8 rfl) rfl
theorem qs9 : (Cond.selects "ChairRanks$Reader" ⟨"ChairRanks$Reader", "more", "(II)I"⟩ ⟨"ChairRanks$Reader", "more", "(II)I"⟩) ∈ lw_all := lw_g (lw_at lw_ms 9 rfl) rfl
theorem qs10 : (Cond.selects "ChairRanks$Reader" ⟨"ChairRanks$Reader", "sign", "(I)V"⟩ ⟨"ChairRanks$Reader", "sign", "(I)V"⟩) ∈ lw_all := lw_g (lw_at lw_ms 10 rfl) rfl
theorem qs11 : (Cond.selects "ChairRanks$Reader" ⟨"ChairRanks$Reader", "sortOf", "(Ljava/lang/String;)I"⟩ ⟨"ChairRanks$Reader", "sortOf", "(Ljava/lang/String;)I"⟩) ∈ lw_all := lw_g (lw_at lw_ms 11 rfl) rfl
theorem qs12 : (Cond.selects "ChairRanks$Reader" ⟨"ChairRanks$Reader", "chair", "()V"⟩ ⟨"ChairRanks$Reader", "chair", "()V"⟩) ∈ lw_all := lw_g (lw_at lw_ms 12 rfl) rfl
theorem qs13 : (Cond.selects "ChairRanks$Reader" ⟨"ChairRanks$Reader", "begin", "(II)V"⟩ ⟨"ChairRanks$Reader", "begin", "(II)V"⟩) ∈ lw_all := lw_g (lw_at lw_ms 13 rfl) rfl
theorem qs14 : (Cond.selects "java/util/ArrayList" ⟨"java/util/ArrayList", "add", "(Ljava/lang/Object;[Ljava/lang/Object;I)V"⟩ ⟨"java/util/ArrayList", "add", "(Ljava/lang/Object;[Ljava/lang/Object;I)V"⟩) ∈ lw_all := lw_g (lw_at lw_ms 14 rfl) rfl
theorem qs15 : (Cond.selects "java/util/ArrayList" ⟨"java/util/ArrayList", "grow", "()[Ljava/lang/Object;"⟩ ⟨"java/util/ArrayList", "grow", "()[Ljava/lang/Object;"⟩) ∈ lw_all := lw_g (lw_at lw_ms 15 rfl) rfl
theorem qs16 : (Cond.selects "java/util/ArrayList" ⟨"java/util/ArrayList", "grow", "(I)[Ljava/lang/Object;"⟩ ⟨"java/util/ArrayList", "grow", "(I)[Ljava/lang/Object;"⟩) ∈ lw_all := lw_g (lw_at lw_ms 16 rfl) rfl
theorem qs17 : (Cond.selects "ChairRanks" ⟨"ChairRanks", "isMinistry", "()Z"⟩ ⟨"ChairRanks", "isMinistry", "()Z"⟩) ∈ lw_all := lw_g (lw_at lw_ms 17 rfl) rfl
theorem qs18 : (Cond.selects "ChairRanks" ⟨"ChairRanks", "keep", "()V"⟩ ⟨"ChairRanks", "keep", "()V"⟩) ∈ lw_all := lw_g (lw_at lw_ms 18 rfl) rfl
theorem qs19 : (Cond.selects "ChairRanks$Ministry" ⟨"ChairRanks$Ministry", "grudged", "(I)I"⟩ ⟨"ChairRanks$Ministry", "grudged", "(I)I"⟩) ∈ lw_all := lw_g (lw_at lw_ms 19 rfl) rfl
theorem qs20 : (Cond.selects "ChairRanks" ⟨"ChairRanks", "isChair", "(I)Z"⟩ ⟨"ChairRanks", "isChair", "(I)Z"⟩) ∈ lw_all := lw_g (lw_at lw_ms 20 rfl) rfl
theorem qs21 : (Cond.selects "ChairRanks" ⟨"ChairRanks", "puts", "([III)I"⟩ ⟨"ChairRanks", "puts", "([III)I"⟩) ∈ lw_all := lw_g (lw_at lw_ms 21 rfl) rfl
theorem qs22 : (Cond.selects "ChairRanks" ⟨"ChairRanks", "tried", "()LChairRanks$Ministry;"⟩ ⟨"ChairRanks", "tried", "()LChairRanks$Ministry;"⟩) ∈ lw_all := lw_g (lw_at lw_ms 22 rfl) rfl
theorem qs23 : (Cond.selects "ChairRanks" ⟨"ChairRanks", "goOn", "(I)LChairRanks$Ministry;"⟩ ⟨"ChairRanks", "goOn", "(I)LChairRanks$Ministry;"⟩) ∈ lw_all := lw_g (lw_at lw_ms 23 rfl) rfl
theorem qs24 : (Cond.selects "ChairRanks" ⟨"ChairRanks", "isHighIn", "(III)Z"⟩ ⟨"ChairRanks", "isHighIn", "(III)Z"⟩) ∈ lw_all := lw_g (lw_at lw_ms 24 rfl) rfl
theorem qs25 : (Cond.selects "ChairRanks" ⟨"ChairRanks", "orderOf", "(II)[I"⟩ ⟨"ChairRanks", "orderOf", "(II)[I"⟩) ∈ lw_all := lw_g (lw_at lw_ms 25 rfl) rfl
theorem qs26 : (Cond.selects "ChairRanks" ⟨"ChairRanks", "dustOf", "([I)I"⟩ ⟨"ChairRanks", "dustOf", "([I)I"⟩) ∈ lw_all := lw_g (lw_at lw_ms 26 rfl) rfl
theorem qs27 : (Cond.selects "ChairRanks" ⟨"ChairRanks", "cutBelow", "(II)I"⟩ ⟨"ChairRanks", "cutBelow", "(II)I"⟩) ∈ lw_all := lw_g (lw_at lw_ms 27 rfl) rfl
theorem qs28 : (Cond.selects "ChairRanks" ⟨"ChairRanks", "pileOf", "([I)I"⟩ ⟨"ChairRanks", "pileOf", "([I)I"⟩) ∈ lw_all := lw_g (lw_at lw_ms 28 rfl) rfl
theorem qs29 : (Cond.selects "ChairRanks" ⟨"ChairRanks", "pileAbove", "(II)I"⟩ ⟨"ChairRanks", "pileAbove", "(II)I"⟩) ∈ lw_all := lw_g (lw_at lw_ms 29 rfl) rfl
theorem qs30 : (Cond.selects "ChairRanks" ⟨"ChairRanks", "alters", "(III)V"⟩ ⟨"ChairRanks", "alters", "(III)V"⟩) ∈ lw_all := lw_g (lw_at lw_ms 30 rfl) rfl
theorem qs31 : (Cond.selects "ChairRanks" ⟨"ChairRanks", "isSeen", "(I[I)Z"⟩ ⟨"ChairRanks", "isSeen", "(I[I)Z"⟩) ∈ lw_all := lw_g (lw_at lw_ms 31 rfl) rfl
theorem qs32 : (Cond.selects "ChairRanksModel" ⟨"ChairRanksModel", "find", "(I)I"⟩ ⟨"ChairRanksModel", "find", "(I)I"⟩) ∈ lw_all := lw_g (lw_at lw_ms 32 rfl) rfl
theorem qs33 : (Cond.selects "ChairRanksModel" ⟨"ChairRanksModel", "well", "(I)I"⟩ ⟨"ChairRanksModel", "well", "(I)I"⟩) ∈ lw_all := lw_g (lw_at lw_ms 33 rfl) rfl
theorem qs34 : (Cond.selects "ChairRanksModel" ⟨"ChairRanksModel", "readMinistry", "()Z"⟩ ⟨"ChairRanksModel", "readMinistry", "()Z"⟩) ∈ lw_all := lw_g (lw_at lw_ms 34 rfl) rfl
theorem qs35 : (Cond.selects "ChairRanksModel" ⟨"ChairRanksModel", "nextToken", "()V"⟩ ⟨"ChairRanksModel", "nextToken", "()V"⟩) ∈ lw_all := lw_g (lw_at lw_ms 35 rfl) rfl
theorem qs36 : (Cond.selects "ChairRanksModel" ⟨"ChairRanksModel", "takes", "(I)Z"⟩ ⟨"ChairRanksModel", "takes", "(I)Z"⟩) ∈ lw_all := lw_g (lw_at lw_ms 36 rfl) rfl
theorem qs37 : (Cond.selects "ChairRanksModel" ⟨"ChairRanksModel", "isLetter", "(I)Z"⟩ ⟨"ChairRanksModel", "isLetter", "(I)Z"⟩) ∈ lw_all := lw_g (lw_at lw_ms 37 rfl) rfl
theorem qs38 : (Cond.selects "ChairRanksModel" ⟨"ChairRanksModel", "faults", "(I)Z"⟩ ⟨"ChairRanksModel", "faults", "(I)Z"⟩) ∈ lw_all := lw_g (lw_at lw_ms 38 rfl) rfl
theorem qs39 : (Cond.selects "ChairRanksModel" ⟨"ChairRanksModel", "takesNumber", "(IIII)Z"⟩ ⟨"ChairRanksModel", "takesNumber", "(IIII)Z"⟩) ∈ lw_all := lw_g (lw_at lw_ms 39 rfl) rfl
theorem qs40 : (Cond.selects "ChairRanksModel" ⟨"ChairRanksModel", "readChair", "()Z"⟩ ⟨"ChairRanksModel", "readChair", "()Z"⟩) ∈ lw_all := lw_g (lw_at lw_ms 40 rfl) rfl
theorem qs41 : (Cond.selects "ChairRanksModel" ⟨"ChairRanksModel", "note", "()V"⟩ ⟨"ChairRanksModel", "note", "()V"⟩) ∈ lw_all := lw_g (lw_at lw_ms 41 rfl) rfl
theorem qs42 : (Cond.selects "ChairRanksModel" ⟨"ChairRanksModel", "oneNight", "()V"⟩ ⟨"ChairRanksModel", "oneNight", "()V"⟩) ∈ lw_all := lw_g (lw_at lw_ms 42 rfl) rfl
theorem qs43 : (Cond.selects "ChairRanksModel" ⟨"ChairRanksModel", "targetOf", "(I)I"⟩ ⟨"ChairRanksModel", "targetOf", "(I)I"⟩) ∈ lw_all := lw_g (lw_at lw_ms 43 rfl) rfl
theorem qs44 : (Cond.selects "ChairRanksModel" ⟨"ChairRanksModel", "rankOf", "(I)I"⟩ ⟨"ChairRanksModel", "rankOf", "(I)I"⟩) ∈ lw_all := lw_g (lw_at lw_ms 44 rfl) rfl
theorem qs45 : (Cond.selects "ChairRanksModel" ⟨"ChairRanksModel", "highOf", "(I)I"⟩ ⟨"ChairRanksModel", "highOf", "(I)I"⟩) ∈ lw_all := lw_g (lw_at lw_ms 45 rfl) rfl
theorem qs46 : (Cond.selects "ChairRanksModel" ⟨"ChairRanksModel", "atRank", "(I)I"⟩ ⟨"ChairRanksModel", "atRank", "(I)I"⟩) ∈ lw_all := lw_g (lw_at lw_ms 46 rfl) rfl
theorem qs47 : (Cond.selects "ChairRanksModel" ⟨"ChairRanksModel", "sawnOff", "(II)I"⟩ ⟨"ChairRanksModel", "sawnOff", "(II)I"⟩) ∈ lw_all := lw_g (lw_at lw_ms 47 rfl) rfl
theorem qs48 : (Cond.selects "ChairRanksModel" ⟨"ChairRanksModel", "isChair", "(I)Z"⟩ ⟨"ChairRanksModel", "isChair", "(I)Z"⟩) ∈ lw_all := lw_g (lw_at lw_ms 48 rfl) rfl
theorem qs49 : (Cond.selects "ChairRanksModel" ⟨"ChairRanksModel", "glue", "(I)V"⟩ ⟨"ChairRanksModel", "glue", "(I)V"⟩) ∈ lw_all := lw_g (lw_at lw_ms 49 rfl) rfl
theorem qs50 : (Cond.selects "ChairRanksModel" ⟨"ChairRanksModel", "exchange", "(III)V"⟩ ⟨"ChairRanksModel", "exchange", "(III)V"⟩) ∈ lw_all := lw_g (lw_at lw_ms 50 rfl) rfl
theorem qs51 : (Cond.selects "ChairRanksModel" ⟨"ChairRanksModel", "putAside", "()V"⟩ ⟨"ChairRanksModel", "putAside", "()V"⟩) ∈ lw_all := lw_g (lw_at lw_ms 51 rfl) rfl
theorem qs52 : (Cond.selects "ChairRanksModel" ⟨"ChairRanksModel", "goOn", "(I)V"⟩ ⟨"ChairRanksModel", "goOn", "(I)V"⟩) ∈ lw_all := lw_g (lw_at lw_ms 52 rfl) rfl
theorem qs53 : (Cond.selects "ChairRanksModel" ⟨"ChairRanksModel", "takeBack", "()V"⟩ ⟨"ChairRanksModel", "takeBack", "()V"⟩) ∈ lw_all := lw_g (lw_at lw_ms 53 rfl) rfl
theorem qs54 : (Cond.selects "ChairRanksModel" ⟨"ChairRanksModel", "sumOf", "(I)I"⟩ ⟨"ChairRanksModel", "sumOf", "(I)I"⟩) ∈ lw_all := lw_g (lw_at lw_ms 54 rfl) rfl
theorem qs55 : (Cond.selects "ChairRanksModel" ⟨"ChairRanksModel", "rankBy", "(II)I"⟩ ⟨"ChairRanksModel", "rankBy", "(II)I"⟩) ∈ lw_all := lw_g (lw_at lw_ms 55 rfl) rfl
theorem qs56 : (Cond.selects "ChairRanksModel" ⟨"ChairRanksModel", "lacksOrder", "(II)I"⟩ ⟨"ChairRanksModel", "lacksOrder", "(II)I"⟩) ∈ lw_all := lw_g (lw_at lw_ms 56 rfl) rfl
theorem qs57 : (Cond.selects "ChairRanksModel" ⟨"ChairRanksModel", "lacks", "(III)I"⟩ ⟨"ChairRanksModel", "lacks", "(III)I"⟩) ∈ lw_all := lw_g (lw_at lw_ms 57 rfl) rfl
theorem qs58 : (Cond.selects "ChairRanksModel" ⟨"ChairRanksModel", "isSo", "(III)Z"⟩ ⟨"ChairRanksModel", "isSo", "(III)Z"⟩) ∈ lw_all := lw_g (lw_at lw_ms 58 rfl) rfl
theorem qs59 : (Cond.selects "ChairRanksModel" ⟨"ChairRanksModel", "sizeOf", "(I)I"⟩ ⟨"ChairRanksModel", "sizeOf", "(I)I"⟩) ∈ lw_all := lw_g (lw_at lw_ms 59 rfl) rfl
theorem qs60 : (Cond.selects "ChairRanksModel" ⟨"ChairRanksModel", "begin", "(I)V"⟩ ⟨"ChairRanksModel", "begin", "(I)V"⟩) ∈ lw_all := lw_g (lw_at lw_ms 60 rfl) rfl
theorem qs61 : (Cond.selects "ChairRanksModel" ⟨"ChairRanksModel", "plainSize", "(I)I"⟩ ⟨"ChairRanksModel", "plainSize", "(I)I"⟩) ∈ lw_all := lw_g (lw_at lw_ms 61 rfl) rfl
theorem qs62 : (Cond.selects "ChairRanksModel" ⟨"ChairRanksModel", "lent", "(II)I"⟩ ⟨"ChairRanksModel", "lent", "(II)I"⟩) ∈ lw_all := lw_g (lw_at lw_ms 62 rfl) rfl
theorem qs63 : (Cond.selects "ChairRanksModel" ⟨"ChairRanksModel", "markOf", "(I)I"⟩ ⟨"ChairRanksModel", "markOf", "(I)I"⟩) ∈ lw_all := lw_g (lw_at lw_ms 63 rfl) rfl
theorem qs64 : (Cond.selects "ChairRanksModel" ⟨"ChairRanksModel", "plainMark", "(I)I"⟩ ⟨"ChairRanksModel", "plainMark", "(I)I"⟩) ∈ lw_all := lw_g (lw_at lw_ms 64 rfl) rfl
theorem qs65 : (Cond.selects "ChairRanksModel" ⟨"ChairRanksModel", "sizeOfOak", "(I)I"⟩ ⟨"ChairRanksModel", "sizeOfOak", "(I)I"⟩) ∈ lw_all := lw_g (lw_at lw_ms 65 rfl) rfl
theorem qs66 : (Cond.selects "ChairRanksModel" ⟨"ChairRanksModel", "oakSize", "(I)I"⟩ ⟨"ChairRanksModel", "oakSize", "(I)I"⟩) ∈ lw_all := lw_g (lw_at lw_ms 66 rfl) rfl
