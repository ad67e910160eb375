-- ===== PART A: goes FIRST, ahead of the names: the tables' words, and 'selects' of the private methods out of them =====
/-- a private method of a class that the tables say can be made, by its rows of tables_1 -/
def lw_okq (q : MethodName × Nat) : Prop := (q.1.cls ≠ "java/lang/invoke/MethodHandle" ∧ q.1.cls ≠ "java/lang/invoke/VarHandle") ∧ Cond.instantiable q.1.cls q.2 ∈ tables_1 ∧ Cond.privateMethod q.1 ∈ tables_1 ∧ Cond.instanceMethod q.1 ∈ tables_1
set_option maxRecDepth 100000
theorem lw_t1 {w : Cond} (h : w ∈ tables_1_1) : w ∈ tables_1 := List.mem_append_left _ h
theorem lw_t2 {w : Cond} (h : w ∈ tables_1_2) : w ∈ tables_1 := List.mem_append_right _ (List.mem_append_left _ h)
theorem lw_t3 {w : Cond} (h : w ∈ tables_1_3) : w ∈ tables_1 := List.mem_append_right _ (List.mem_append_right _ (List.mem_append_left _ h))
theorem lw_t4 {w : Cond} (h : w ∈ tables_1_4) : w ∈ tables_1 := List.mem_append_right _ (List.mem_append_right _ (List.mem_append_right _ (List.mem_append_left _ h)))
theorem lw_t5 {w : Cond} (h : w ∈ tables_1_5) : w ∈ tables_1 := List.mem_append_right _ (List.mem_append_right _ (List.mem_append_right _ (List.mem_append_right _ (List.mem_append_left _ h))))
theorem lw_t6 {w : Cond} (h : w ∈ tables_1_6) : w ∈ tables_1 := List.mem_append_right _ (List.mem_append_right _ (List.mem_append_right _ (List.mem_append_right _ (List.mem_append_right _ (List.mem_append_left _ h)))))
theorem lw_t7 {w : Cond} (h : w ∈ tables_1_7) : w ∈ tables_1 := List.mem_append_right _ (List.mem_append_right _ (List.mem_append_right _ (List.mem_append_right _ (List.mem_append_right _ (List.mem_append_right _ h)))))
theorem lw_p0 : lw_okq (⟨"java/lang/Throwable", "fillInStackTrace", "(I)Ljava/lang/Throwable;"⟩, 6) := ⟨⟨by decide +kernel, by decide +kernel⟩, lw_t2 (List.mem_of_getElem? (i := 18) rfl), lw_t2 (List.mem_of_getElem? (i := 16) rfl), lw_t2 (List.mem_of_getElem? (i := 17) rfl)⟩
theorem lw_p1 : lw_okq (⟨"SlipWeeks", "placeOf", "(I)I"⟩, 19) := ⟨⟨by decide +kernel, by decide +kernel⟩, lw_t1 (List.mem_of_getElem? (i := 28) rfl), lw_t2 (List.mem_of_getElem? (i := 47) rfl), lw_t2 (List.mem_of_getElem? (i := 48) rfl)⟩
theorem lw_p2 : lw_okq (⟨"SlipWeeks", "finds", "(LSlipWeeks$Finding;)I"⟩, 19) := ⟨⟨by decide +kernel, by decide +kernel⟩, lw_t1 (List.mem_of_getElem? (i := 28) rfl), lw_t2 (List.mem_of_getElem? (i := 51) rfl), lw_t2 (List.mem_of_getElem? (i := 52) rfl)⟩
theorem lw_p3 : lw_okq (⟨"SlipWeeks", "peopleAt", "(I)LSlipWeeks$Cross;"⟩, 19) := ⟨⟨by decide +kernel, by decide +kernel⟩, lw_t1 (List.mem_of_getElem? (i := 28) rfl), lw_t2 (List.mem_of_getElem? (i := 162) rfl), lw_t2 (List.mem_of_getElem? (i := 163) rfl)⟩
theorem lw_p4 : lw_okq (⟨"SlipWeeks", "findCrossed", "()V"⟩, 19) := ⟨⟨by decide +kernel, by decide +kernel⟩, lw_t1 (List.mem_of_getElem? (i := 28) rfl), lw_t2 (List.mem_of_getElem? (i := 238) rfl), lw_t2 (List.mem_of_getElem? (i := 239) rfl)⟩
theorem lw_p5 : lw_okq (⟨"SlipWeeks", "findSays", "()V"⟩, 19) := ⟨⟨by decide +kernel, by decide +kernel⟩, lw_t1 (List.mem_of_getElem? (i := 28) rfl), lw_t3 (List.mem_of_getElem? (i := 2) rfl), lw_t3 (List.mem_of_getElem? (i := 3) rfl)⟩
theorem lw_p6 : lw_okq (⟨"SlipWeeks", "findLiked", "(LSlipWeeks$Cross;)I"⟩, 19) := ⟨⟨by decide +kernel, by decide +kernel⟩, lw_t1 (List.mem_of_getElem? (i := 28) rfl), lw_t3 (List.mem_of_getElem? (i := 78) rfl), lw_t3 (List.mem_of_getElem? (i := 79) rfl)⟩
theorem lw_p7 : lw_okq (⟨"SlipWeeks", "likesOf", "(LSlipWeeks$Cross;I)I"⟩, 19) := ⟨⟨by decide +kernel, by decide +kernel⟩, lw_t1 (List.mem_of_getElem? (i := 28) rfl), lw_t3 (List.mem_of_getElem? (i := 82) rfl), lw_t3 (List.mem_of_getElem? (i := 83) rfl)⟩
theorem lw_p8 : lw_okq (⟨"SlipWeeks$Reader", "sum", "()LSlipWeeks$Part;"⟩, 4) := ⟨⟨by decide +kernel, by decide +kernel⟩, lw_t3 (List.mem_of_getElem? (i := 154) rfl), lw_t3 (List.mem_of_getElem? (i := 177) rfl), lw_t3 (List.mem_of_getElem? (i := 178) rfl)⟩
theorem lw_p9 : lw_okq (⟨"SlipWeeks$Reader", "product", "()LSlipWeeks$Part;"⟩, 4) := ⟨⟨by decide +kernel, by decide +kernel⟩, lw_t3 (List.mem_of_getElem? (i := 154) rfl), lw_t3 (List.mem_of_getElem? (i := 181) rfl), lw_t3 (List.mem_of_getElem? (i := 182) rfl)⟩
theorem lw_p10 : lw_okq (⟨"SlipWeeks$Reader", "one", "()LSlipWeeks$Part;"⟩, 4) := ⟨⟨by decide +kernel, by decide +kernel⟩, lw_t3 (List.mem_of_getElem? (i := 154) rfl), lw_t3 (List.mem_of_getElem? (i := 185) rfl), lw_t3 (List.mem_of_getElem? (i := 186) rfl)⟩
theorem lw_p11 : lw_okq (⟨"SlipWeeks$Reader", "here", "()I"⟩, 4) := ⟨⟨by decide +kernel, by decide +kernel⟩, lw_t3 (List.mem_of_getElem? (i := 154) rfl), lw_t3 (List.mem_of_getElem? (i := 189) rfl), lw_t3 (List.mem_of_getElem? (i := 190) rfl)⟩
theorem lw_p12 : lw_okq (⟨"SlipWeeks$Reader", "number", "()LSlipWeeks$Part;"⟩, 4) := ⟨⟨by decide +kernel, by decide +kernel⟩, lw_t3 (List.mem_of_getElem? (i := 154) rfl), lw_t3 (List.mem_of_getElem? (i := 196) rfl), lw_t3 (List.mem_of_getElem? (i := 197) rfl)⟩
theorem lw_p13 : lw_okq (⟨"SlipWeeks$Reader", "must", "(Z)V"⟩, 4) := ⟨⟨by decide +kernel, by decide +kernel⟩, lw_t3 (List.mem_of_getElem? (i := 154) rfl), lw_t3 (List.mem_of_getElem? (i := 220) rfl), lw_t3 (List.mem_of_getElem? (i := 221) rfl)⟩
theorem lw_p14 : lw_okq (⟨"SlipWeeks$Reader", "takes", "(C)Z"⟩, 4) := ⟨⟨by decide +kernel, by decide +kernel⟩, lw_t3 (List.mem_of_getElem? (i := 154) rfl), lw_t4 (List.mem_of_getElem? (i := 3) rfl), lw_t4 (List.mem_of_getElem? (i := 4) rfl)⟩
theorem lw_p15 : lw_okq (⟨"SlipWeeks", "lot", "()I"⟩, 19) := ⟨⟨by decide +kernel, by decide +kernel⟩, lw_t1 (List.mem_of_getElem? (i := 28) rfl), lw_t4 (List.mem_of_getElem? (i := 63) rfl), lw_t4 (List.mem_of_getElem? (i := 64) rfl)⟩
def lw_privs_1 : List (MethodName × Nat) := [(⟨"java/lang/Throwable", "fillInStackTrace", "(I)Ljava/lang/Throwable;"⟩, 6), (⟨"SlipWeeks", "placeOf", "(I)I"⟩, 19), (⟨"SlipWeeks", "finds", "(LSlipWeeks$Finding;)I"⟩, 19), (⟨"SlipWeeks", "peopleAt", "(I)LSlipWeeks$Cross;"⟩, 19), (⟨"SlipWeeks", "findCrossed", "()V"⟩, 19), (⟨"SlipWeeks", "findSays", "()V"⟩, 19), (⟨"SlipWeeks", "findLiked", "(LSlipWeeks$Cross;)I"⟩, 19), (⟨"SlipWeeks", "likesOf", "(LSlipWeeks$Cross;I)I"⟩, 19), (⟨"SlipWeeks$Reader", "sum", "()LSlipWeeks$Part;"⟩, 4), (⟨"SlipWeeks$Reader", "product", "()LSlipWeeks$Part;"⟩, 4), (⟨"SlipWeeks$Reader", "one", "()LSlipWeeks$Part;"⟩, 4), (⟨"SlipWeeks$Reader", "here", "()I"⟩, 4), (⟨"SlipWeeks$Reader", "number", "()LSlipWeeks$Part;"⟩, 4), (⟨"SlipWeeks$Reader", "must", "(Z)V"⟩, 4), (⟨"SlipWeeks$Reader", "takes", "(C)Z"⟩, 4), (⟨"SlipWeeks", "lot", "()I"⟩, 19)]
theorem lw_r1 : ∀ q ∈ lw_privs_1, lw_okq q := List.forall_mem_cons.mpr ⟨lw_p0, List.forall_mem_cons.mpr ⟨lw_p1, List.forall_mem_cons.mpr ⟨lw_p2, List.forall_mem_cons.mpr ⟨lw_p3, List.forall_mem_cons.mpr ⟨lw_p4, List.forall_mem_cons.mpr ⟨lw_p5, List.forall_mem_cons.mpr ⟨lw_p6, List.forall_mem_cons.mpr ⟨lw_p7, List.forall_mem_cons.mpr ⟨lw_p8, List.forall_mem_cons.mpr ⟨lw_p9, List.forall_mem_cons.mpr ⟨lw_p10, List.forall_mem_cons.mpr ⟨lw_p11, List.forall_mem_cons.mpr ⟨lw_p12, List.forall_mem_cons.mpr ⟨lw_p13, List.forall_mem_cons.mpr ⟨lw_p14, List.forall_mem_cons.mpr ⟨lw_p15, fun _ h => absurd h List.not_mem_nil⟩⟩⟩⟩⟩⟩⟩⟩⟩⟩⟩⟩⟩⟩⟩⟩
theorem lw_p16 : lw_okq (⟨"SlipWeeks", "plays", "(I)I"⟩, 19) := ⟨⟨by decide +kernel, by decide +kernel⟩, lw_t1 (List.mem_of_getElem? (i := 28) rfl), lw_t4 (List.mem_of_getElem? (i := 68) rfl), lw_t4 (List.mem_of_getElem? (i := 69) rfl)⟩
theorem lw_p17 : lw_okq (⟨"SlipWeeks", "potWith", "(J)J"⟩, 19) := ⟨⟨by decide +kernel, by decide +kernel⟩, lw_t1 (List.mem_of_getElem? (i := 28) rfl), lw_t4 (List.mem_of_getElem? (i := 72) rfl), lw_t4 (List.mem_of_getElem? (i := 73) rfl)⟩
theorem lw_p18 : lw_okq (⟨"SlipWeeks", "winnersOf", "(II)I"⟩, 19) := ⟨⟨by decide +kernel, by decide +kernel⟩, lw_t1 (List.mem_of_getElem? (i := 28) rfl), lw_t4 (List.mem_of_getElem? (i := 76) rfl), lw_t4 (List.mem_of_getElem? (i := 77) rfl)⟩
theorem lw_p19 : lw_okq (⟨"SlipWeeks", "shareOf", "(JI)J"⟩, 19) := ⟨⟨by decide +kernel, by decide +kernel⟩, lw_t1 (List.mem_of_getElem? (i := 28) rfl), lw_t4 (List.mem_of_getElem? (i := 83) rfl), lw_t4 (List.mem_of_getElem? (i := 84) rfl)⟩
theorem lw_p20 : lw_okq (⟨"SlipWeeks", "findWinners", "()V"⟩, 19) := ⟨⟨by decide +kernel, by decide +kernel⟩, lw_t1 (List.mem_of_getElem? (i := 28) rfl), lw_t4 (List.mem_of_getElem? (i := 109) rfl), lw_t4 (List.mem_of_getElem? (i := 110) rfl)⟩
theorem lw_p21 : lw_okq (⟨"SlipWeeks", "worthOf", "(IJ)I"⟩, 19) := ⟨⟨by decide +kernel, by decide +kernel⟩, lw_t1 (List.mem_of_getElem? (i := 28) rfl), lw_t4 (List.mem_of_getElem? (i := 113) rfl), lw_t4 (List.mem_of_getElem? (i := 114) rfl)⟩
theorem lw_p22 : lw_okq (⟨"SlipWeeks", "taxed", "(J)J"⟩, 19) := ⟨⟨by decide +kernel, by decide +kernel⟩, lw_t1 (List.mem_of_getElem? (i := 28) rfl), lw_t4 (List.mem_of_getElem? (i := 117) rfl), lw_t4 (List.mem_of_getElem? (i := 118) rfl)⟩
theorem lw_p23 : lw_okq (⟨"SlipWeeks", "begins", "()V"⟩, 19) := ⟨⟨by decide +kernel, by decide +kernel⟩, lw_t1 (List.mem_of_getElem? (i := 28) rfl), lw_t4 (List.mem_of_getElem? (i := 142) rfl), lw_t4 (List.mem_of_getElem? (i := 143) rfl)⟩
theorem lw_p24 : lw_okq (⟨"SlipWeeks", "leastOf", "(Z)I"⟩, 19) := ⟨⟨by decide +kernel, by decide +kernel⟩, lw_t1 (List.mem_of_getElem? (i := 28) rfl), lw_t4 (List.mem_of_getElem? (i := 146) rfl), lw_t4 (List.mem_of_getElem? (i := 147) rfl)⟩
theorem lw_p25 : lw_okq (⟨"SlipWeeks", "cameOf", "(I)I"⟩, 19) := ⟨⟨by decide +kernel, by decide +kernel⟩, lw_t1 (List.mem_of_getElem? (i := 28) rfl), lw_t4 (List.mem_of_getElem? (i := 172) rfl), lw_t4 (List.mem_of_getElem? (i := 173) rfl)⟩
theorem lw_p26 : lw_okq (⟨"SlipWeeks", "there", "(I)Ljava/lang/Object;"⟩, 19) := ⟨⟨by decide +kernel, by decide +kernel⟩, lw_t1 (List.mem_of_getElem? (i := 28) rfl), lw_t4 (List.mem_of_getElem? (i := 192) rfl), lw_t4 (List.mem_of_getElem? (i := 193) rfl)⟩
theorem lw_p27 : lw_okq (⟨"SlipWeeks", "numberAt", "(II)Ljava/lang/Object;"⟩, 19) := ⟨⟨by decide +kernel, by decide +kernel⟩, lw_t1 (List.mem_of_getElem? (i := 28) rfl), lw_t4 (List.mem_of_getElem? (i := 222) rfl), lw_t4 (List.mem_of_getElem? (i := 223) rfl)⟩
theorem lw_p28 : lw_okq (⟨"SlipWeeks", "all", "()I"⟩, 19) := ⟨⟨by decide +kernel, by decide +kernel⟩, lw_t1 (List.mem_of_getElem? (i := 28) rfl), lw_t5 (List.mem_of_getElem? (i := 66) rfl), lw_t5 (List.mem_of_getElem? (i := 67) rfl)⟩
theorem lw_p29 : lw_okq (⟨"SlipWeeksModel", "looksAt", "(II)V"⟩, 30) := ⟨⟨by decide +kernel, by decide +kernel⟩, lw_t5 (List.mem_of_getElem? (i := 75) rfl), lw_t5 (List.mem_of_getElem? (i := 81) rfl), lw_t5 (List.mem_of_getElem? (i := 82) rfl)⟩
theorem lw_p30 : lw_okq (⟨"SlipWeeksModel", "finds", "(I)I"⟩, 30) := ⟨⟨by decide +kernel, by decide +kernel⟩, lw_t5 (List.mem_of_getElem? (i := 75) rfl), lw_t5 (List.mem_of_getElem? (i := 184) rfl), lw_t5 (List.mem_of_getElem? (i := 185) rfl)⟩
theorem lw_p31 : lw_okq (⟨"SlipWeeksModel", "isPeople", "(I)Z"⟩, 30) := ⟨⟨by decide +kernel, by decide +kernel⟩, lw_t5 (List.mem_of_getElem? (i := 75) rfl), lw_t5 (List.mem_of_getElem? (i := 209) rfl), lw_t5 (List.mem_of_getElem? (i := 210) rfl)⟩
def lw_privs_2 : List (MethodName × Nat) := [(⟨"SlipWeeks", "plays", "(I)I"⟩, 19), (⟨"SlipWeeks", "potWith", "(J)J"⟩, 19), (⟨"SlipWeeks", "winnersOf", "(II)I"⟩, 19), (⟨"SlipWeeks", "shareOf", "(JI)J"⟩, 19), (⟨"SlipWeeks", "findWinners", "()V"⟩, 19), (⟨"SlipWeeks", "worthOf", "(IJ)I"⟩, 19), (⟨"SlipWeeks", "taxed", "(J)J"⟩, 19), (⟨"SlipWeeks", "begins", "()V"⟩, 19), (⟨"SlipWeeks", "leastOf", "(Z)I"⟩, 19), (⟨"SlipWeeks", "cameOf", "(I)I"⟩, 19), (⟨"SlipWeeks", "there", "(I)Ljava/lang/Object;"⟩, 19), (⟨"SlipWeeks", "numberAt", "(II)Ljava/lang/Object;"⟩, 19), (⟨"SlipWeeks", "all", "()I"⟩, 19), (⟨"SlipWeeksModel", "looksAt", "(II)V"⟩, 30), (⟨"SlipWeeksModel", "finds", "(I)I"⟩, 30), (⟨"SlipWeeksModel", "isPeople", "(I)Z"⟩, 30)]
theorem lw_r2 : ∀ q ∈ lw_privs_2, lw_okq q := List.forall_mem_cons.mpr ⟨lw_p16, List.forall_mem_cons.mpr ⟨lw_p17, List.forall_mem_cons.mpr ⟨lw_p18, List.forall_mem_cons.mpr ⟨lw_p19, List.forall_mem_cons.mpr ⟨lw_p20, List.forall_mem_cons.mpr ⟨lw_p21, List.forall_mem_cons.mpr ⟨lw_p22, List.forall_mem_cons.mpr ⟨lw_p23, List.forall_mem_cons.mpr ⟨lw_p24, List.forall_mem_cons.mpr ⟨lw_p25, List.forall_mem_cons.mpr ⟨lw_p26, List.forall_mem_cons.mpr ⟨lw_p27, List.forall_mem_cons.mpr ⟨lw_p28, List.forall_mem_cons.mpr ⟨lw_p29, List.forall_mem_cons.mpr ⟨lw_p30, List.forall_mem_cons.mpr ⟨lw_p31, fun _ h => absurd h List.not_mem_nil⟩⟩⟩⟩⟩⟩⟩⟩⟩⟩⟩⟩⟩⟩⟩⟩
theorem lw_p32 : lw_okq (⟨"SlipWeeksModel", "says", "(I)I"⟩, 30) := ⟨⟨by decide +kernel, by decide +kernel⟩, lw_t5 (List.mem_of_getElem? (i := 75) rfl), lw_t5 (List.mem_of_getElem? (i := 238) rfl), lw_t5 (List.mem_of_getElem? (i := 239) rfl)⟩
theorem lw_p33 : lw_okq (⟨"SlipWeeksModel", "sum", "()I"⟩, 30) := ⟨⟨by decide +kernel, by decide +kernel⟩, lw_t5 (List.mem_of_getElem? (i := 75) rfl), lw_t6 (List.mem_of_getElem? (i := 2) rfl), lw_t6 (List.mem_of_getElem? (i := 3) rfl)⟩
theorem lw_p34 : lw_okq (⟨"SlipWeeksModel", "term", "()I"⟩, 30) := ⟨⟨by decide +kernel, by decide +kernel⟩, lw_t5 (List.mem_of_getElem? (i := 75) rfl), lw_t6 (List.mem_of_getElem? (i := 6) rfl), lw_t6 (List.mem_of_getElem? (i := 7) rfl)⟩
theorem lw_p35 : lw_okq (⟨"SlipWeeksModel", "factor", "()I"⟩, 30) := ⟨⟨by decide +kernel, by decide +kernel⟩, lw_t5 (List.mem_of_getElem? (i := 75) rfl), lw_t6 (List.mem_of_getElem? (i := 10) rfl), lw_t6 (List.mem_of_getElem? (i := 11) rfl)⟩
theorem lw_p36 : lw_okq (⟨"SlipWeeksModel", "byteHere", "()I"⟩, 30) := ⟨⟨by decide +kernel, by decide +kernel⟩, lw_t5 (List.mem_of_getElem? (i := 75) rfl), lw_t6 (List.mem_of_getElem? (i := 14) rfl), lw_t6 (List.mem_of_getElem? (i := 15) rfl)⟩
theorem lw_p37 : lw_okq (⟨"SlipWeeksModel", "end", "()I"⟩, 30) := ⟨⟨by decide +kernel, by decide +kernel⟩, lw_t5 (List.mem_of_getElem? (i := 75) rfl), lw_t6 (List.mem_of_getElem? (i := 18) rfl), lw_t6 (List.mem_of_getElem? (i := 19) rfl)⟩
theorem lw_p38 : lw_okq (⟨"SlipWeeksModel", "number", "()I"⟩, 30) := ⟨⟨by decide +kernel, by decide +kernel⟩, lw_t5 (List.mem_of_getElem? (i := 75) rfl), lw_t6 (List.mem_of_getElem? (i := 24) rfl), lw_t6 (List.mem_of_getElem? (i := 25) rfl)⟩
theorem lw_p39 : lw_okq (⟨"SlipWeeksModel", "choice", "()I"⟩, 30) := ⟨⟨by decide +kernel, by decide +kernel⟩, lw_t5 (List.mem_of_getElem? (i := 75) rfl), lw_t6 (List.mem_of_getElem? (i := 28) rfl), lw_t6 (List.mem_of_getElem? (i := 29) rfl)⟩
theorem lw_p40 : lw_okq (⟨"SlipWeeksModel", "takes", "(I)Z"⟩, 30) := ⟨⟨by decide +kernel, by decide +kernel⟩, lw_t5 (List.mem_of_getElem? (i := 75) rfl), lw_t6 (List.mem_of_getElem? (i := 32) rfl), lw_t6 (List.mem_of_getElem? (i := 33) rfl)⟩
theorem lw_p41 : lw_okq (⟨"SlipWeeksModel", "must", "(I)V"⟩, 30) := ⟨⟨by decide +kernel, by decide +kernel⟩, lw_t5 (List.mem_of_getElem? (i := 75) rfl), lw_t6 (List.mem_of_getElem? (i := 36) rfl), lw_t6 (List.mem_of_getElem? (i := 37) rfl)⟩
theorem lw_p42 : lw_okq (⟨"SlipWeeksModel", "named", "(I)I"⟩, 30) := ⟨⟨by decide +kernel, by decide +kernel⟩, lw_t5 (List.mem_of_getElem? (i := 75) rfl), lw_t6 (List.mem_of_getElem? (i := 40) rfl), lw_t6 (List.mem_of_getElem? (i := 41) rfl)⟩
theorem lw_p43 : lw_okq (⟨"SlipWeeksModel", "latest", "()I"⟩, 30) := ⟨⟨by decide +kernel, by decide +kernel⟩, lw_t5 (List.mem_of_getElem? (i := 75) rfl), lw_t6 (List.mem_of_getElem? (i := 44) rfl), lw_t6 (List.mem_of_getElem? (i := 45) rfl)⟩
theorem lw_p44 : lw_okq (⟨"SlipWeeksModel", "ones", "(I)I"⟩, 30) := ⟨⟨by decide +kernel, by decide +kernel⟩, lw_t5 (List.mem_of_getElem? (i := 75) rfl), lw_t6 (List.mem_of_getElem? (i := 48) rfl), lw_t6 (List.mem_of_getElem? (i := 49) rfl)⟩
theorem lw_p45 : lw_okq (⟨"SlipWeeksModel", "works", "()V"⟩, 30) := ⟨⟨by decide +kernel, by decide +kernel⟩, lw_t5 (List.mem_of_getElem? (i := 75) rfl), lw_t6 (List.mem_of_getElem? (i := 60) rfl), lw_t6 (List.mem_of_getElem? (i := 61) rfl)⟩
theorem lw_p46 : lw_okq (⟨"SlipWeeksModel", "likesBy", "(II)I"⟩, 30) := ⟨⟨by decide +kernel, by decide +kernel⟩, lw_t5 (List.mem_of_getElem? (i := 75) rfl), lw_t6 (List.mem_of_getElem? (i := 64) rfl), lw_t6 (List.mem_of_getElem? (i := 65) rfl)⟩
theorem lw_p47 : lw_okq (⟨"SlipWeeksModel", "fancied", "(IIII)I"⟩, 30) := ⟨⟨by decide +kernel, by decide +kernel⟩, lw_t5 (List.mem_of_getElem? (i := 75) rfl), lw_t6 (List.mem_of_getElem? (i := 68) rfl), lw_t6 (List.mem_of_getElem? (i := 69) rfl)⟩
def lw_privs_3 : List (MethodName × Nat) := [(⟨"SlipWeeksModel", "says", "(I)I"⟩, 30), (⟨"SlipWeeksModel", "sum", "()I"⟩, 30), (⟨"SlipWeeksModel", "term", "()I"⟩, 30), (⟨"SlipWeeksModel", "factor", "()I"⟩, 30), (⟨"SlipWeeksModel", "byteHere", "()I"⟩, 30), (⟨"SlipWeeksModel", "end", "()I"⟩, 30), (⟨"SlipWeeksModel", "number", "()I"⟩, 30), (⟨"SlipWeeksModel", "choice", "()I"⟩, 30), (⟨"SlipWeeksModel", "takes", "(I)Z"⟩, 30), (⟨"SlipWeeksModel", "must", "(I)V"⟩, 30), (⟨"SlipWeeksModel", "named", "(I)I"⟩, 30), (⟨"SlipWeeksModel", "latest", "()I"⟩, 30), (⟨"SlipWeeksModel", "ones", "(I)I"⟩, 30), (⟨"SlipWeeksModel", "works", "()V"⟩, 30), (⟨"SlipWeeksModel", "likesBy", "(II)I"⟩, 30), (⟨"SlipWeeksModel", "fancied", "(IIII)I"⟩, 30)]
theorem lw_r3 : ∀ q ∈ lw_privs_3, lw_okq q := List.forall_mem_cons.mpr ⟨lw_p32, List.forall_mem_cons.mpr ⟨lw_p33, List.forall_mem_cons.mpr ⟨lw_p34, List.forall_mem_cons.mpr ⟨lw_p35, List.forall_mem_cons.mpr ⟨lw_p36, List.forall_mem_cons.mpr ⟨lw_p37, List.forall_mem_cons.mpr ⟨lw_p38, List.forall_mem_cons.mpr ⟨lw_p39, List.forall_mem_cons.mpr ⟨lw_p40, List.forall_mem_cons.mpr ⟨lw_p41, List.forall_mem_cons.mpr ⟨lw_p42, List.forall_mem_cons.mpr ⟨lw_p43, List.forall_mem_cons.mpr ⟨lw_p44, List.forall_mem_cons.mpr ⟨lw_p45, List.forall_mem_cons.mpr ⟨lw_p46, List.forall_mem_cons.mpr ⟨lw_p47, fun _ h => absurd h List.not_mem_nil⟩⟩⟩⟩⟩⟩⟩⟩⟩⟩⟩⟩⟩⟩⟩⟩
theorem lw_p48 : lw_okq (⟨"SlipWeeksModel", "isThreeUp", "(I)Z"⟩, 30) := ⟨⟨by decide +kernel, by decide +kernel⟩, lw_t5 (List.mem_of_getElem? (i := 75) rfl), lw_t6 (List.mem_of_getElem? (i := 75) rfl), lw_t6 (List.mem_of_getElem? (i := 76) rfl)⟩
theorem lw_p49 : lw_okq (⟨"SlipWeeksModel", "crossedBy", "(II)I"⟩, 30) := ⟨⟨by decide +kernel, by decide +kernel⟩, lw_t5 (List.mem_of_getElem? (i := 75) rfl), lw_t6 (List.mem_of_getElem? (i := 79) rfl), lw_t6 (List.mem_of_getElem? (i := 80) rfl)⟩
theorem lw_p50 : lw_okq (⟨"SlipWeeksModel", "goes", "(I)V"⟩, 30) := ⟨⟨by decide +kernel, by decide +kernel⟩, lw_t5 (List.mem_of_getElem? (i := 75) rfl), lw_t6 (List.mem_of_getElem? (i := 112) rfl), lw_t6 (List.mem_of_getElem? (i := 113) rfl)⟩
theorem lw_p51 : lw_okq (⟨"SlipWeeksModel", "potWith", "(I)J"⟩, 30) := ⟨⟨by decide +kernel, by decide +kernel⟩, lw_t5 (List.mem_of_getElem? (i := 75) rfl), lw_t6 (List.mem_of_getElem? (i := 116) rfl), lw_t6 (List.mem_of_getElem? (i := 117) rfl)⟩
theorem lw_p52 : lw_okq (⟨"SlipWeeksModel", "shareOf", "(JI)J"⟩, 30) := ⟨⟨by decide +kernel, by decide +kernel⟩, lw_t5 (List.mem_of_getElem? (i := 75) rfl), lw_t6 (List.mem_of_getElem? (i := 121) rfl), lw_t6 (List.mem_of_getElem? (i := 122) rfl)⟩
theorem lw_p53 : lw_okq (⟨"SlipWeeksModel", "worthOf", "(IJ)I"⟩, 30) := ⟨⟨by decide +kernel, by decide +kernel⟩, lw_t5 (List.mem_of_getElem? (i := 75) rfl), lw_t6 (List.mem_of_getElem? (i := 142) rfl), lw_t6 (List.mem_of_getElem? (i := 143) rfl)⟩
theorem lw_p54 : lw_okq (⟨"SlipWeeksModel", "getsAll", "(IJ)J"⟩, 30) := ⟨⟨by decide +kernel, by decide +kernel⟩, lw_t5 (List.mem_of_getElem? (i := 75) rfl), lw_t6 (List.mem_of_getElem? (i := 146) rfl), lw_t6 (List.mem_of_getElem? (i := 147) rfl)⟩
theorem lw_p55 : lw_okq (⟨"SlipWeeksModel", "counts", "()V"⟩, 30) := ⟨⟨by decide +kernel, by decide +kernel⟩, lw_t5 (List.mem_of_getElem? (i := 75) rfl), lw_t6 (List.mem_of_getElem? (i := 150) rfl), lw_t6 (List.mem_of_getElem? (i := 151) rfl)⟩
theorem lw_p56 : lw_okq (⟨"SlipWeeksModel", "taxed", "(J)J"⟩, 30) := ⟨⟨by decide +kernel, by decide +kernel⟩, lw_t5 (List.mem_of_getElem? (i := 75) rfl), lw_t6 (List.mem_of_getElem? (i := 154) rfl), lw_t6 (List.mem_of_getElem? (i := 155) rfl)⟩
theorem lw_p57 : lw_okq (⟨"SlipWeeksModel", "begins", "()V"⟩, 30) := ⟨⟨by decide +kernel, by decide +kernel⟩, lw_t5 (List.mem_of_getElem? (i := 75) rfl), lw_t6 (List.mem_of_getElem? (i := 176) rfl), lw_t6 (List.mem_of_getElem? (i := 177) rfl)⟩
theorem lw_p58 : lw_okq (⟨"SlipWeeksModel", "rarest", "()I"⟩, 30) := ⟨⟨by decide +kernel, by decide +kernel⟩, lw_t5 (List.mem_of_getElem? (i := 75) rfl), lw_t6 (List.mem_of_getElem? (i := 180) rfl), lw_t6 (List.mem_of_getElem? (i := 181) rfl)⟩
theorem lw_p59 : lw_okq (⟨"SlipWeeksModel", "drawAt", "(I)I"⟩, 30) := ⟨⟨by decide +kernel, by decide +kernel⟩, lw_t5 (List.mem_of_getElem? (i := 75) rfl), lw_t6 (List.mem_of_getElem? (i := 198) rfl), lw_t6 (List.mem_of_getElem? (i := 199) rfl)⟩
theorem lw_p60 : lw_okq (⟨"SlipWeeksModel", "timesOf", "(I)I"⟩, 30) := ⟨⟨by decide +kernel, by decide +kernel⟩, lw_t5 (List.mem_of_getElem? (i := 75) rfl), lw_t6 (List.mem_of_getElem? (i := 206) rfl), lw_t6 (List.mem_of_getElem? (i := 207) rfl)⟩
def lw_privs_4 : List (MethodName × Nat) := [(⟨"SlipWeeksModel", "isThreeUp", "(I)Z"⟩, 30), (⟨"SlipWeeksModel", "crossedBy", "(II)I"⟩, 30), (⟨"SlipWeeksModel", "goes", "(I)V"⟩, 30), (⟨"SlipWeeksModel", "potWith", "(I)J"⟩, 30), (⟨"SlipWeeksModel", "shareOf", "(JI)J"⟩, 30), (⟨"SlipWeeksModel", "worthOf", "(IJ)I"⟩, 30), (⟨"SlipWeeksModel", "getsAll", "(IJ)J"⟩, 30), (⟨"SlipWeeksModel", "counts", "()V"⟩, 30), (⟨"SlipWeeksModel", "taxed", "(J)J"⟩, 30), (⟨"SlipWeeksModel", "begins", "()V"⟩, 30), (⟨"SlipWeeksModel", "rarest", "()I"⟩, 30), (⟨"SlipWeeksModel", "drawAt", "(I)I"⟩, 30), (⟨"SlipWeeksModel", "timesOf", "(I)I"⟩, 30)]
theorem lw_r4 : ∀ q ∈ lw_privs_4, lw_okq q := List.forall_mem_cons.mpr ⟨lw_p48, List.forall_mem_cons.mpr ⟨lw_p49, List.forall_mem_cons.mpr ⟨lw_p50, List.forall_mem_cons.mpr ⟨lw_p51, List.forall_mem_cons.mpr ⟨lw_p52, List.forall_mem_cons.mpr ⟨lw_p53, List.forall_mem_cons.mpr ⟨lw_p54, List.forall_mem_cons.mpr ⟨lw_p55, List.forall_mem_cons.mpr ⟨lw_p56, List.forall_mem_cons.mpr ⟨lw_p57, List.forall_mem_cons.mpr ⟨lw_p58, List.forall_mem_cons.mpr ⟨lw_p59, List.forall_mem_cons.mpr ⟨lw_p60, fun _ h => absurd h List.not_mem_nil⟩⟩⟩⟩⟩⟩⟩⟩⟩⟩⟩⟩⟩
def lw_privs : List (MethodName × Nat) := lw_privs_1 ++ (lw_privs_2 ++ (lw_privs_3 ++ (lw_privs_4)))
def lw_tbl : List Cond := k2_sels lw_privs ++ tables_1
theorem lw_privs_ok : ∀ q ∈ lw_privs, lw_okq q := by
  show ∀ q ∈ lw_privs_1 ++ (lw_privs_2 ++ (lw_privs_3 ++ (lw_privs_4))), lw_okq q
  exact List.forall_mem_append.mpr ⟨lw_r1, List.forall_mem_append.mpr ⟨lw_r2, List.forall_mem_append.mpr ⟨lw_r3, lw_r4⟩⟩⟩
-- ===== ONE list of words for every method: the tables' words that hold all through a run =====
def lw_all : List Cond := lw_tbl.filter goodWord
/-- a word of the tables by its place: claim/WORDS.tsv -/
theorem lw_w {w : Cond} (i : Nat) (h : lw_tbl[i]? = some w) (g : goodWord w = true) : w ∈ lw_all := List.mem_filter.mpr ⟨List.mem_of_getElem? h, g⟩
theorem lw_all_tbl {w : Cond} (h : w ∈ lw_all) : w ∈ lw_tbl := (List.mem_filter.mp h).1
theorem lw_self : GoodIn lw_all lw_all := fun w h => ⟨h, good_of_word (List.mem_filter.mp h).2⟩
/-- a class's field words, by their places -/
theorem lw_in (ws : List Cond) (ps : List Nat) (hp : ws = ps.filterMap (fun i => lw_tbl[i]?)) (hg : ws.all goodWord = true) : ∀ w ∈ ws, w ∈ lw_all := by
  intro w h
  have h1 := List.all_eq_true.mp hg w h
  rw [hp] at h
  obtain ⟨i, -, hi⟩ := List.mem_filterMap.mp h
  exact lw_w i hi h1
/-- the words of a contract for the method y with code b, L locals, answer r -/
abbrev ws_ (y : MethodName) (b : ByteArray) (L : Nat) (r : Option FieldType) : List Cond := Cond.code y b L r :: lw_all
theorem lw_meth {y : MethodName} {b : ByteArray} {L : Nat} {r : Option FieldType} (h : Cond.code y b L r ∈ lw_all) : GoodIn lw_all (ws_ y b L r) := by
  intro w hw
  rcases List.mem_cons.mp hw with e | e
  · rw [e]
    exact lw_self _ h
  · exact lw_self _ e
theorem lw_app {a c : List Cond} (ha : ∀ w ∈ a, w ∈ lw_all) (hc : GoodIn lw_all c) : GoodIn lw_all (a ++ c) := by
  intro w hw
  rcases List.mem_append.mp hw with e | e
  · exact lw_self w (ha w e)
  · exact hc w e
/-- what a call through an object asks: cwV n hts (lw_V ..) -/
theorem lw_V {own : String} {idx : Nat} {C : String} {y : MethodName} {b : ByteArray} {L : Nat} {r : Option FieldType} (h1 : Cond.methodLink own idx y ∈ lw_all) (h2 : Cond.instanceMethod y ∈ lw_all) (h3 : Cond.selects C y y ∈ lw_all) (h4 : Cond.initialized C ∈ lw_all) (h5 : Cond.code y b L r ∈ lw_all) : GoodIn lw_all (wsV own idx C y (ws_ y b L r)) := by
  refine lw_app ?_ (lw_meth h5)
  intro w hw
  simp only [List.mem_cons, List.not_mem_nil, or_false] at hw
  rcases hw with e | e | e | e
  · rw [e]; exact h1
  · rw [e]; exact h2
  · rw [e]; exact h3
  · rw [e]; exact h4
/-- what a static call asks: va_cwS n hts (lw_S ..) -/
theorem lw_S {own : String} {idx : Nat} {y : MethodName} {b : ByteArray} {L : Nat} {r : Option FieldType} (h1 : Cond.methodLink own idx y ∈ lw_all) (h2 : Cond.static y ∈ lw_all) (h3 : Cond.initialized y.cls ∈ lw_all) (h4 : Cond.code y b L r ∈ lw_all) : GoodIn lw_all (va_wsS own idx y (ws_ y b L r)) := by
  refine lw_app ?_ (lw_meth h4)
  intro w hw
  simp only [List.mem_cons, List.not_mem_nil, or_false] at hw
  rcases hw with e | e | e
  · rw [e]; exact h1
  · rw [e]; exact h2
  · rw [e]; exact h3
/-- the words of a contract for a method WITH HANDLERS (hh: its table) -/
abbrev wsW_ (y : MethodName) (b : ByteArray) (L : Nat) (r : Option FieldType) (hh : List (Nat × Nat × Nat × Nat)) : List Cond := Cond.codeWith y b L r hh :: lw_all
theorem lw_methW {y : MethodName} {b : ByteArray} {L : Nat} {r : Option FieldType} {hh : List (Nat × Nat × Nat × Nat)} (h : Cond.codeWith y b L r hh ∈ lw_all) : GoodIn lw_all (wsW_ y b L r hh) := by
  intro w hw
  rcases List.mem_cons.mp hw with e | e
  · rw [e]
    exact lw_self _ h
  · exact lw_self _ e
/-- any list of words by their places (lw_in), good -/
theorem lw_good {ws : List Cond} (h : ∀ w ∈ ws, w ∈ lw_all) : GoodIn lw_all ws := fun w hw => lw_self w (h w hw)
/-- what a call of a method with handlers asks: vx_cwVW n hts (lw_VW ..), vx_cwSW n hts (lw_SW ..) -/
theorem lw_VW {own : String} {idx : Nat} {C : String} {y : MethodName} {b : ByteArray} {L : Nat} {r : Option FieldType} {hh : List (Nat × Nat × Nat × Nat)} (h1 : Cond.methodLink own idx y ∈ lw_all) (h2 : Cond.instanceMethod y ∈ lw_all) (h3 : Cond.selects C y y ∈ lw_all) (h4 : Cond.initialized C ∈ lw_all) (h5 : Cond.codeWith y b L r hh ∈ lw_all) : GoodIn lw_all (wsV own idx C y (wsW_ y b L r hh)) := by
  refine lw_app ?_ (lw_methW h5)
  intro w hw
  simp only [List.mem_cons, List.not_mem_nil, or_false] at hw
  rcases hw with e | e | e | e
  · rw [e]; exact h1
  · rw [e]; exact h2
  · rw [e]; exact h3
  · rw [e]; exact h4
theorem lw_SW {own : String} {idx : Nat} {y : MethodName} {b : ByteArray} {L : Nat} {r : Option FieldType} {hh : List (Nat × Nat × Nat × Nat)} (h1 : Cond.methodLink own idx y ∈ lw_all) (h2 : Cond.static y ∈ lw_all) (h3 : Cond.initialized y.cls ∈ lw_all) (h4 : Cond.codeWith y b L r hh ∈ lw_all) : GoodIn lw_all (va_wsS own idx y (wsW_ y b L r hh)) := by
  refine lw_app ?_ (lw_methW h4)
  intro w hw
  simp only [List.mem_cons, List.not_mem_nil, or_false] at hw
  rcases hw with e | e | e
  · rw [e]; exact h1
  · rw [e]; exact h2
  · rw [e]; exact h3
/-- a word by its place in its run of the tables -/
theorem lw_at {r : List Cond} (hr : ∀ w ∈ r, w ∈ lw_tbl) {w : Cond} (i : Nat) (h : r[i]? = some w) : w ∈ lw_tbl := hr w (List.mem_of_getElem? h)
theorem lw_g {w : Cond} (h : w ∈ lw_tbl) (g : goodWord w = true) : w ∈ lw_all := List.mem_filter.mpr ⟨h, g⟩
theorem lw_ms : ∀ w ∈ k2_sels lw_privs, w ∈ lw_tbl := fun w h => show w ∈ k2_sels lw_privs ++ tables_1 from List.mem_append_left _ h
theorem lw_m1 : ∀ w ∈ tables_1_1, w ∈ lw_tbl := fun w h => show w ∈ k2_sels lw_privs ++ tables_1 from List.mem_append_right (k2_sels lw_privs) (show w ∈ tables_1 from List.mem_append_left _ h)
theorem lw_m2 : ∀ w ∈ tables_1_2, w ∈ lw_tbl := fun w h => show w ∈ k2_sels lw_privs ++ tables_1 from List.mem_append_right (k2_sels lw_privs) (show w ∈ tables_1 from List.mem_append_right _ (List.mem_append_left _ h))
theorem lw_m3 : ∀ w ∈ tables_1_3, w ∈ lw_tbl := fun w h => show w ∈ k2_sels lw_privs ++ tables_1 from List.mem_append_right (k2_sels lw_privs) (show w ∈ tables_1 from List.mem_append_right _ (List.mem_append_right _ (List.mem_append_left _ h)))
theorem lw_m4 : ∀ w ∈ tables_1_4, w ∈ lw_tbl := fun w h => show w ∈ k2_sels lw_privs ++ tables_1 from List.mem_append_right (k2_sels lw_privs) (show w ∈ tables_1 from List.mem_append_right _ (List.mem_append_right _ (List.mem_append_right _ (List.mem_append_left _ h))))
theorem lw_m5 : ∀ w ∈ tables_1_5, w ∈ lw_tbl := fun w h => show w ∈ k2_sels lw_privs ++ tables_1 from List.mem_append_right (k2_sels lw_privs) (show w ∈ tables_1 from List.mem_append_right _ (List.mem_append_right _ (List.mem_append_right _ (List.mem_append_right _ (List.mem_append_left _ h)))))
theorem lw_m6 : ∀ w ∈ tables_1_6, w ∈ lw_tbl := fun w h => show w ∈ k2_sels lw_privs ++ tables_1 from List.mem_append_right (k2_sels lw_privs) (show w ∈ tables_1 from List.mem_append_right _ (List.mem_append_right _ (List.mem_append_right _ (List.mem_append_right _ (List.mem_append_right _ (List.mem_append_left _ h))))))
theorem lw_m7 : ∀ w ∈ tables_1_7, w ∈ lw_tbl := fun w h => show w ∈ k2_sels lw_privs ++ tables_1 from List.mem_append_right (k2_sels lw_privs) (show w ∈ tables_1 from List.mem_append_right _ (List.mem_append_right _ (List.mem_append_right _ (List.mem_append_right _ (List.mem_append_right _ (List.mem_append_right _ h))))))
theorem qs0 : (Cond.selects "java/lang/Throwable" ⟨"java/lang/Throwable", "fillInStackTrace", "(I)Ljava/lang/Throwable;"⟩ ⟨"java/lang/Throwable", "fillInStackTrace", "(I)Ljava/lang/Throwable;"⟩) ∈ lw_all := lw_g (lw_at lw_ms 0 rfl) rfl
theorem qs1 : (Cond.selects "SlipWeeks" ⟨"SlipWeeks", "placeOf", "(I)I"⟩ ⟨"SlipWeeks", "placeOf", "(I)I"⟩) ∈ lw_all := lw_g (lw_at lw_ms 1 rfl) rfl
theorem qs2 : (Cond.selects "SlipWeeks" ⟨"SlipWeeks", "finds", "(LSlipWeeks$Finding;)I"⟩ ⟨"SlipWeeks", "finds", "(LSlipWeeks$Finding;)I"⟩) ∈ lw_all := lw_g (lw_at lw_ms 2 rfl) rfl
theorem qs3 : (Cond.selects "SlipWeeks" ⟨"SlipWeeks", "peopleAt", "(I)LSlipWeeks$Cross;"⟩ ⟨"SlipWeeks", "peopleAt", "(I)LSlipWeeks$Cross;"⟩) ∈ lw_all := lw_g (lw_at lw_ms 3 rfl) rfl
theorem qs4 : (Cond.selects "SlipWeeks" ⟨"SlipWeeks", "findCrossed", "()V"⟩ ⟨"SlipWeeks", "findCrossed", "()V"⟩) ∈ lw_all := lw_g (lw_at lw_ms 4 rfl) rfl
theorem qs5 : (Cond.selects "SlipWeeks" ⟨"SlipWeeks", "findSays", "()V"⟩ ⟨"SlipWeeks", "findSays", "()V"⟩) ∈ lw_all := lw_g (lw_at lw_ms 5 rfl) rfl
theorem qs6 : (Cond.selects "SlipWeeks" ⟨"SlipWeeks", "findLiked", "(LSlipWeeks$Cross;)I"⟩ ⟨"SlipWeeks", "findLiked", "(LSlipWeeks$Cross;)I"⟩) ∈ lw_all := lw_g (lw_at lw_ms 6 rfl) rfl
theorem qs7 : (Cond.selects "SlipWeeks" ⟨"SlipWeeks", "likesOf", "(LSlipWeeks$Cross;I)I"⟩ ⟨"SlipWeeks", "likesOf", "(LSlipWeeks$Cross;I)I"⟩) ∈ lw_all := lw_g (lw_at lw_ms 7 rfl) rfl
theorem qs8 : (Cond.selects "SlipWeeks$Reader" ⟨"SlipWeeks$Reader", "sum", "()LSlipWeeks$Part;"⟩ ⟨"SlipWeeks$Reader", "sum", "()LSlipWeeks$Part;"⟩) ∈ lw_all := lw_g (lw_at lw_ms 8 rfl) rfl
theorem qs9 : (Cond.selects "SlipWeeks$Reader" ⟨"SlipWeeks$Reader", "product", "()LSlipWeeks$Part;"⟩ ⟨"SlipWeeks$Reader", "product", "()LSlipWeeks$Part;"⟩) ∈ lw_all := lw_g (lw_at lw_ms 9 rfl) rfl
theorem qs10 : (Cond.selects "SlipWeeks$Reader" ⟨"SlipWeeks$Reader", "one", "()LSlipWeeks$Part;"⟩ ⟨"SlipWeeks$Reader", "one", "()LSlipWeeks$Part;"⟩) ∈ lw_all := lw_g (lw_at lw_ms 10 rfl) rfl
theorem qs11 : (Cond.selects "SlipWeeks$Reader" ⟨"SlipWeeks$Reader", "here", "()I"⟩ ⟨"SlipWeeks$Reader", "here", "()I"⟩) ∈ lw_all := lw_g (lw_at lw_ms 11 rfl) rfl
theorem qs12 : (Cond.selects "SlipWeeks$Reader" ⟨"SlipWeeks$Reader", "number", "()LSlipWeeks$Part;"⟩ ⟨"SlipWeeks$Reader", "number", "()LSlipWeeks$Part;"⟩) ∈ lw_all := lw_g (lw_at lw_ms 12 rfl) rfl
theorem qs13 : (Cond.selects "SlipWeeks$Reader" ⟨"SlipWeeks$Reader", "must", "(Z)V"⟩ ⟨"SlipWeeks$Reader", "must", "(Z)V"⟩) ∈ lw_all := lw_g (lw_at lw_ms 13 rfl) rfl
theorem qs14 : (Cond.selects "SlipWeeks$Reader" ⟨"SlipWeeks$Reader", "takes", "(C)Z"⟩ ⟨"SlipWeeks$Reader", "takes", "(C)Z"⟩) ∈ lw_all := lw_g (lw_at lw_ms 14 rfl) rfl
theorem qs15 : (Cond.selects "SlipWeeks" ⟨"SlipWeeks", "lot", "()I"⟩ ⟨"SlipWeeks", "lot", "()I"⟩) ∈ lw_all := lw_g (lw_at lw_ms 15 rfl) rfl
theorem qs16 : (Cond.selects "SlipWeeks" ⟨"SlipWeeks", "plays", "(I)I"⟩ ⟨"SlipWeeks", "plays", "(I)I"⟩) ∈ lw_all := lw_g (lw_at lw_ms 16 rfl) rfl
theorem qs17 : (Cond.selects "SlipWeeks" ⟨"SlipWeeks", "potWith", "(J)J"⟩ ⟨"SlipWeeks", "potWith", "(J)J"⟩) ∈ lw_all := lw_g (lw_at lw_ms 17 rfl) rfl
theorem qs18 : (Cond.selects "SlipWeeks" ⟨"SlipWeeks", "winnersOf", "(II)I"⟩ ⟨"SlipWeeks", "winnersOf", "(II)I"⟩) ∈ lw_all := lw_g (lw_at lw_ms 18 rfl) rfl
theorem qs19 : (Cond.selects "SlipWeeks" ⟨"SlipWeeks", "shareOf", "(JI)J"⟩ ⟨"SlipWeeks", "shareOf", "(JI)J"⟩) ∈ lw_all := lw_g (lw_at lw_ms 19 rfl) rfl
theorem qs20 : (Cond.selects "SlipWeeks" ⟨"SlipWeeks", "findWinners", "()V"⟩ ⟨"SlipWeeks", "findWinners", "()V"⟩) ∈ lw_all := lw_g (lw_at lw_ms 20 rfl) rfl
theorem qs21 : (Cond.selects "SlipWeeks" ⟨"SlipWeeks", "worthOf", "(IJ)I"⟩ ⟨"SlipWeeks", "worthOf", "(IJ)I"⟩) ∈ lw_all := lw_g (lw_at lw_ms 21 rfl) rfl
theorem qs22 : (Cond.selects "SlipWeeks" ⟨"SlipWeeks", "taxed", "(J)J"⟩ ⟨"SlipWeeks", "taxed", "(J)J"⟩) ∈ lw_all := lw_g (lw_at lw_ms 22 rfl) rfl
theorem qs23 : (Cond.selects "SlipWeeks" ⟨"SlipWeeks", "begins", "()V"⟩ ⟨"SlipWeeks", "begins", "()V"⟩) ∈ lw_all := lw_g (lw_at lw_ms 23 rfl) rfl
theorem qs24 : (Cond.selects "SlipWeeks" ⟨"SlipWeeks", "leastOf", "(Z)I"⟩ ⟨"SlipWeeks", "leastOf", "(Z)I"⟩) ∈ lw_all := lw_g (lw_at lw_ms 24 rfl) rfl
theorem qs25 : (Cond.selects "SlipWeeks" ⟨"SlipWeeks", "cameOf", "(I)I"⟩ ⟨"SlipWeeks", "cameOf", "(I)I"⟩) ∈ lw_all := lw_g (lw_at lw_ms 25 rfl) rfl
theorem qs26 : (Cond.selects "SlipWeeks" ⟨"SlipWeeks", "there", "(I)Ljava/lang/Object;"⟩ ⟨"SlipWeeks", "there", "(I)Ljava/lang/Object;"⟩) ∈ lw_all := lw_g (lw_at lw_ms 26 rfl) rfl
theorem qs27 : (Cond.selects "SlipWeeks" ⟨"SlipWeeks", "numberAt", "(II)Ljava/lang/Object;"⟩ ⟨"SlipWeeks", "numberAt", "(II)Ljava/lang/Object;"⟩) ∈ lw_all := lw_g (lw_at lw_ms 27 rfl) rfl
theorem qs28 : (Cond.selects "SlipWeeks" ⟨"SlipWeeks", "all", "()I"⟩ ⟨"SlipWeeks", "all", "()I"⟩) ∈ lw_all := lw_g (lw_at lw_ms 28 rfl) rfl
theorem qs29 : (Cond.selects "SlipWeeksModel" ⟨"SlipWeeksModel", "looksAt", "(II)V"⟩ ⟨"SlipWeeksModel", "looksAt", "(II)V"⟩) ∈ lw_all := lw_g (lw_at lw_ms 29 rfl) rfl
theorem qs30 : (Cond.selects "SlipWeeksModel" ⟨"SlipWeeksModel", "finds", "(I)I"⟩ ⟨"SlipWeeksModel", "finds", "(I)I"⟩) ∈ lw_all := lw_g (lw_at lw_ms 30 rfl) rfl
theorem qs31 : (Cond.selects "SlipWeeksModel" ⟨"SlipWeeksModel", "isPeople", "(I)Z"⟩ ⟨"SlipWeeksModel", "isPeople", "(I)Z"⟩) ∈ lw_all := lw_g (lw_at lw_ms 31 rfl) rfl
theorem qs32 : (Cond.selects "SlipWeeksModel" ⟨"SlipWeeksModel", "says", "(I)I"⟩ ⟨"SlipWeeksModel", "says", "(I)I"⟩) ∈ lw_all := lw_g (lw_at lw_ms 32 rfl) rfl
theorem qs33 : (Cond.selects "SlipWeeksModel" ⟨"SlipWeeksModel", "sum", "()I"⟩ ⟨"SlipWeeksModel", "sum", "()I"⟩) ∈ lw_all := lw_g (lw_at lw_ms 33 rfl) rfl
theorem qs34 : (Cond.selects "SlipWeeksModel" ⟨"SlipWeeksModel", "term", "()I"⟩ ⟨"SlipWeeksModel", "term", "()I"⟩) ∈ lw_all := lw_g (lw_at lw_ms 34 rfl) rfl
theorem qs35 : (Cond.selects "SlipWeeksModel" ⟨"SlipWeeksModel", "factor", "()I"⟩ ⟨"SlipWeeksModel", "factor", "()I"⟩) ∈ lw_all := lw_g (lw_at lw_ms 35 rfl) rfl
theorem qs36 : (Cond.selects "SlipWeeksModel" ⟨"SlipWeeksModel", "byteHere", "()I"⟩ ⟨"SlipWeeksModel", "byteHere", "()I"⟩) ∈ lw_all := lw_g (lw_at lw_ms 36 rfl) rfl
theorem qs37 : (Cond.selects "SlipWeeksModel" ⟨"SlipWeeksModel", "end", "()I"⟩ ⟨"SlipWeeksModel", "end", "()I"⟩) ∈ lw_all := lw_g (lw_at lw_ms 37 rfl) rfl
theorem qs38 : (Cond.selects "SlipWeeksModel" ⟨"SlipWeeksModel", "number", "()I"⟩ ⟨"SlipWeeksModel", "number", "()I"⟩) ∈ lw_all := lw_g (lw_at lw_ms 38 rfl) rfl
theorem qs39 : (Cond.selects "SlipWeeksModel" ⟨"SlipWeeksModel", "choice", "()I"⟩ ⟨"SlipWeeksModel", "choice", "()I"⟩) ∈ lw_all := lw_g (lw_at lw_ms 39 rfl) rfl
theorem qs40 : (Cond.selects "SlipWeeksModel" ⟨"SlipWeeksModel", "takes", "(I)Z"⟩ ⟨"SlipWeeksModel", "takes", "(I)Z"⟩) ∈ lw_all := lw_g (lw_at lw_ms 40 rfl) rfl
theorem qs41 : (Cond.selects "SlipWeeksModel" ⟨"SlipWeeksModel", "must", "(I)V"⟩ ⟨"SlipWeeksModel", "must", "(I)V"⟩) ∈ lw_all := lw_g (lw_at lw_ms 41 rfl) rfl
theorem qs42 : (Cond.selects "SlipWeeksModel" ⟨"SlipWeeksModel", "named", "(I)I"⟩ ⟨"SlipWeeksModel", "named", "(I)I"⟩) ∈ lw_all := lw_g (lw_at lw_ms 42 rfl) rfl
theorem qs43 : (Cond.selects "SlipWeeksModel" ⟨"SlipWeeksModel", "latest", "()I"⟩ ⟨"SlipWeeksModel", "latest", "()I"⟩) ∈ lw_all := lw_g (lw_at lw_ms 43 rfl) rfl
theorem qs44 : (Cond.selects "SlipWeeksModel" ⟨"SlipWeeksModel", "ones", "(I)I"⟩ ⟨"SlipWeeksModel", "ones", "(I)I"⟩) ∈ lw_all := lw_g (lw_at lw_ms 44 rfl) rfl
theorem qs45 : (Cond.selects "SlipWeeksModel" ⟨"SlipWeeksModel", "works", "()V"⟩ ⟨"SlipWeeksModel", "works", "()V"⟩) ∈ lw_all := lw_g (lw_at lw_ms 45 rfl) rfl
theorem qs46 : (Cond.selects "SlipWeeksModel" ⟨"SlipWeeksModel", "likesBy", "(II)I"⟩ ⟨"SlipWeeksModel", "likesBy", "(II)I"⟩) ∈ lw_all := lw_g (lw_at lw_ms 46 rfl) rfl
theorem qs47 : (Cond.selects "SlipWeeksModel" ⟨"SlipWeeksModel", "fancied", "(IIII)I"⟩ ⟨"SlipWeeksModel", "fancied", "(IIII)I"⟩) ∈ lw_all := lw_g (lw_at lw_ms 47 rfl) rfl
theorem qs48 : (Cond.selects "SlipWeeksModel" ⟨"SlipWeeksModel", "isThreeUp", "(I)Z"⟩ ⟨"SlipWeeksModel", "isThreeUp", "(I)Z"⟩) ∈ lw_all := lw_g (lw_at lw_ms 48 rfl) rfl
theorem qs49 : (Cond.selects "SlipWeeksModel" ⟨"SlipWeeksModel", "crossedBy", "(II)I"⟩ ⟨"SlipWeeksModel", "crossedBy", "(II)I"⟩) ∈ lw_all := lw_g (lw_at lw_ms 49 rfl) rfl
theorem qs50 : (Cond.selects "SlipWeeksModel" ⟨"SlipWeeksModel", "goes", "(I)V"⟩ ⟨"SlipWeeksModel", "goes", "(I)V"⟩) ∈ lw_all := lw_g (lw_at lw_ms 50 rfl) rfl
theorem qs51 : (Cond.selects "SlipWeeksModel" ⟨"SlipWeeksModel", "potWith", "(I)J"⟩ ⟨"SlipWeeksModel", "potWith", "(I)J"⟩) ∈ lw_all := lw_g (lw_at lw_ms 51 rfl) rfl
theorem qs52 : (Cond.selects "SlipWeeksModel" ⟨"SlipWeeksModel", "shareOf", "(JI)J"⟩ ⟨"SlipWeeksModel", "shareOf", "(JI)J"⟩) ∈ lw_all := lw_g (lw_at lw_ms 52 rfl) rfl
theorem qs53 : (Cond.selects "SlipWeeksModel" ⟨"SlipWeeksModel", "worthOf", "(IJ)I"⟩ ⟨"SlipWeeksModel", "worthOf", "(IJ)I"⟩) ∈ lw_all := lw_g (lw_at lw_ms 53 rfl) rfl
theorem qs54 : (Cond.selects "SlipWeeksModel" ⟨"SlipWeeksModel", "getsAll", "(IJ)J"⟩ ⟨"SlipWeeksModel", "getsAll", "(IJ)J"⟩) ∈ lw_all := lw_g (lw_at lw_ms 54 rfl) rfl
theorem qs55 : (Cond.selects "SlipWeeksModel" ⟨"SlipWeeksModel", "counts", "()V"⟩ ⟨"SlipWeeksModel", "counts", "()V"⟩) ∈ lw_all := lw_g (lw_at lw_ms 55 rfl) rfl
theorem qs56 : (Cond.selects "SlipWeeksModel" ⟨"SlipWeeksModel", "taxed", "(J)J"⟩ ⟨"SlipWeeksModel", "taxed", "(J)J"⟩) ∈ lw_all := lw_g (lw_at lw_ms 56 rfl) rfl
theorem qs57 : (Cond.selects "SlipWeeksModel" ⟨"SlipWeeksModel", "begins", "()V"⟩ ⟨"SlipWeeksModel", "begins", "()V"⟩) ∈ lw_all := lw_g (lw_at lw_ms 57 rfl) rfl
theorem qs58 : (Cond.selects "SlipWeeksModel" ⟨"SlipWeeksModel", "rarest", "()I"⟩ ⟨"SlipWeeksModel", "rarest", "()I"⟩) ∈ lw_all := lw_g (lw_at lw_ms 58 rfl) rfl
theorem qs59 : (Cond.selects "SlipWeeksModel" ⟨"SlipWeeksModel", "drawAt", "(I)I"⟩ ⟨"SlipWeeksModel", "drawAt", "(I)I"⟩) ∈ lw_all := lw_g (lw_at lw_ms 59 rfl) rfl
theorem qs60 : (Cond.selects "SlipWeeksModel" ⟨"SlipWeeksModel", "timesOf", "(I)I"⟩ ⟨"SlipWeeksModel", "timesOf", "(I)I"⟩) ∈ lw_all := lw_g (lw_at lw_ms 60 rfl) rfl
