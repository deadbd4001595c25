-- ===== PART A: goes FIRST, ahead of the names: the tables' words, and 'selects' of the private methods out of them =====
/-- a private method of a class that the tables say can be made, by its rows of tables_1 -/
def lw_okq (q : MethodName × Nat) : Prop := (q.1.cls ≠ "java/lang/invoke/MethodHandle" ∧ q.1.cls ≠ "java/lang/invoke/VarHandle") ∧ Cond.instantiable q.1.cls q.2 ∈ tables_1 ∧ Cond.privateMethod q.1 ∈ tables_1 ∧ Cond.instanceMethod q.1 ∈ tables_1
set_option maxRecDepth 100000
theorem lw_t1 {w : Cond} (h : w ∈ tables_1_1) : w ∈ tables_1 := List.mem_append_left _ h
theorem lw_t2 {w : Cond} (h : w ∈ tables_1_2) : w ∈ tables_1 := List.mem_append_right _ (List.mem_append_left _ h)
theorem lw_t3 {w : Cond} (h : w ∈ tables_1_3) : w ∈ tables_1 := List.mem_append_right _ (List.mem_append_right _ (List.mem_append_left _ h))
theorem lw_t4 {w : Cond} (h : w ∈ tables_1_4) : w ∈ tables_1 := List.mem_append_right _ (List.mem_append_right _ (List.mem_append_right _ (List.mem_append_left _ h)))
theorem lw_t5 {w : Cond} (h : w ∈ tables_1_5) : w ∈ tables_1 := List.mem_append_right _ (List.mem_append_right _ (List.mem_append_right _ (List.mem_append_right _ (List.mem_append_left _ h))))
theorem lw_t6 {w : Cond} (h : w ∈ tables_1_6) : w ∈ tables_1 := List.mem_append_right _ (List.mem_append_right _ (List.mem_append_right _ (List.mem_append_right _ (List.mem_append_right _ (List.mem_append_left _ h)))))
theorem lw_t7 {w : Cond} (h : w ∈ tables_1_7) : w ∈ tables_1 := List.mem_append_right _ (List.mem_append_right _ (List.mem_append_right _ (List.mem_append_right _ (List.mem_append_right _ (List.mem_append_right _ (List.mem_append_left _ h))))))
theorem lw_t8 {w : Cond} (h : w ∈ tables_1_8) : w ∈ tables_1 := List.mem_append_right _ (List.mem_append_right _ (List.mem_append_right _ (List.mem_append_right _ (List.mem_append_right _ (List.mem_append_right _ (List.mem_append_right _ (List.mem_append_left _ h)))))))
theorem lw_t9 {w : Cond} (h : w ∈ tables_1_9) : w ∈ tables_1 := List.mem_append_right _ (List.mem_append_right _ (List.mem_append_right _ (List.mem_append_right _ (List.mem_append_right _ (List.mem_append_right _ (List.mem_append_right _ (List.mem_append_right _ (List.mem_append_left _ h))))))))
theorem lw_t10 {w : Cond} (h : w ∈ tables_1_10) : w ∈ tables_1 := List.mem_append_right _ (List.mem_append_right _ (List.mem_append_right _ (List.mem_append_right _ (List.mem_append_right _ (List.mem_append_right _ (List.mem_append_right _ (List.mem_append_right _ (List.mem_append_right _ (List.mem_append_left _ h)))))))))
theorem lw_t11 {w : Cond} (h : w ∈ tables_1_11) : w ∈ tables_1 := List.mem_append_right _ (List.mem_append_right _ (List.mem_append_right _ (List.mem_append_right _ (List.mem_append_right _ (List.mem_append_right _ (List.mem_append_right _ (List.mem_append_right _ (List.mem_append_right _ (List.mem_append_right _ (List.mem_append_left _ h))))))))))
theorem lw_t12 {w : Cond} (h : w ∈ tables_1_12) : w ∈ tables_1 := List.mem_append_right _ (List.mem_append_right _ (List.mem_append_right _ (List.mem_append_right _ (List.mem_append_right _ (List.mem_append_right _ (List.mem_append_right _ (List.mem_append_right _ (List.mem_append_right _ (List.mem_append_right _ (List.mem_append_right _ (List.mem_append_left _ h)))))))))))
theorem lw_t13 {w : Cond} (h : w ∈ tables_1_13) : w ∈ tables_1 := List.mem_append_right _ (List.mem_append_right _ (List.mem_append_right _ (List.mem_append_right _ (List.mem_append_right _ (List.mem_append_right _ (List.mem_append_right _ (List.mem_append_right _ (List.mem_append_right _ (List.mem_append_right _ (List.mem_append_right _ (List.mem_append_right _ h)))))))))))
theorem lw_p0 : lw_okq (⟨"java/util/ArrayList", "add", "(Ljava/lang/Object;[Ljava/lang/Object;I)V"⟩, 3) := ⟨⟨by decide +kernel, by decide +kernel⟩, lw_t1 (List.mem_of_getElem? (i := 77) rfl), lw_t1 (List.mem_of_getElem? (i := 194) rfl), lw_t1 (List.mem_of_getElem? (i := 195) rfl)⟩
theorem lw_p1 : lw_okq (⟨"java/util/ArrayList", "grow", "()[Ljava/lang/Object;"⟩, 3) := ⟨⟨by decide +kernel, by decide +kernel⟩, lw_t1 (List.mem_of_getElem? (i := 77) rfl), lw_t1 (List.mem_of_getElem? (i := 198) rfl), lw_t1 (List.mem_of_getElem? (i := 199) rfl)⟩
theorem lw_p2 : lw_okq (⟨"java/util/ArrayList", "grow", "(I)[Ljava/lang/Object;"⟩, 3) := ⟨⟨by decide +kernel, by decide +kernel⟩, lw_t1 (List.mem_of_getElem? (i := 77) rfl), lw_t1 (List.mem_of_getElem? (i := 202) rfl), lw_t1 (List.mem_of_getElem? (i := 203) rfl)⟩
theorem lw_p3 : lw_okq (⟨"CueStack", "lambda$new$0", "(II)I"⟩, 9) := ⟨⟨by decide +kernel, by decide +kernel⟩, lw_t1 (List.mem_of_getElem? (i := 63) rfl), lw_t2 (List.mem_of_getElem? (i := 80) rfl), lw_t2 (List.mem_of_getElem? (i := 81) rfl)⟩
theorem lw_p4 : lw_okq (⟨"java/lang/Throwable", "fillInStackTrace", "(I)Ljava/lang/Throwable;"⟩, 6) := ⟨⟨by decide +kernel, by decide +kernel⟩, lw_t3 (List.mem_of_getElem? (i := 24) rfl), lw_t3 (List.mem_of_getElem? (i := 22) rfl), lw_t3 (List.mem_of_getElem? (i := 23) rfl)⟩
theorem lw_p5 : lw_okq (⟨"CueStack$Show", "beginsAnew", "(I)Z"⟩, 8) := ⟨⟨by decide +kernel, by decide +kernel⟩, lw_t1 (List.mem_of_getElem? (i := 71) rfl), lw_t5 (List.mem_of_getElem? (i := 57) rfl), lw_t5 (List.mem_of_getElem? (i := 58) rfl)⟩
theorem lw_p6 : lw_okq (⟨"CueStack", "lambda$new$1", "(II)I"⟩, 9) := ⟨⟨by decide +kernel, by decide +kernel⟩, lw_t1 (List.mem_of_getElem? (i := 63) rfl), lw_t5 (List.mem_of_getElem? (i := 61) rfl), lw_t5 (List.mem_of_getElem? (i := 62) rfl)⟩
theorem lw_p7 : lw_okq (⟨"CueStack", "sumOfFades", "(I)I"⟩, 9) := ⟨⟨by decide +kernel, by decide +kernel⟩, lw_t1 (List.mem_of_getElem? (i := 63) rfl), lw_t5 (List.mem_of_getElem? (i := 118) rfl), lw_t5 (List.mem_of_getElem? (i := 119) rfl)⟩
theorem lw_p8 : lw_okq (⟨"java/util/LinkedHashMap", "transferLinks", "(Ljava/util/LinkedHashMap$Entry;Ljava/util/LinkedHashMap$Entry;)V"⟩, 12) := ⟨⟨by decide +kernel, by decide +kernel⟩, lw_t1 (List.mem_of_getElem? (i := 106) rfl), lw_t6 (List.mem_of_getElem? (i := 70) rfl), lw_t6 (List.mem_of_getElem? (i := 71) rfl)⟩
theorem lw_p9 : lw_okq (⟨"java/util/LinkedHashMap", "linkNodeAtEnd", "(Ljava/util/LinkedHashMap$Entry;)V"⟩, 12) := ⟨⟨by decide +kernel, by decide +kernel⟩, lw_t1 (List.mem_of_getElem? (i := 106) rfl), lw_t7 (List.mem_of_getElem? (i := 71) rfl), lw_t7 (List.mem_of_getElem? (i := 72) rfl)⟩
theorem lw_p10 : lw_okq (⟨"java/util/ArrayList", "rangeCheckForAdd", "(I)V"⟩, 3) := ⟨⟨by decide +kernel, by decide +kernel⟩, lw_t1 (List.mem_of_getElem? (i := 77) rfl), lw_t7 (List.mem_of_getElem? (i := 207) rfl), lw_t7 (List.mem_of_getElem? (i := 208) rfl)⟩
theorem lw_p11 : lw_okq (⟨"java/util/ArrayList", "outOfBoundsMsg", "(I)Ljava/lang/String;"⟩, 3) := ⟨⟨by decide +kernel, by decide +kernel⟩, lw_t1 (List.mem_of_getElem? (i := 77) rfl), lw_t7 (List.mem_of_getElem? (i := 220) rfl), lw_t7 (List.mem_of_getElem? (i := 221) rfl)⟩
theorem lw_p12 : lw_okq (⟨"CueStack", "become", "(LCueStack$Show;)V"⟩, 9) := ⟨⟨by decide +kernel, by decide +kernel⟩, lw_t1 (List.mem_of_getElem? (i := 63) rfl), lw_t7 (List.mem_of_getElem? (i := 238) rfl), lw_t7 (List.mem_of_getElem? (i := 239) rfl)⟩
theorem lw_p13 : lw_okq (⟨"java/util/ArrayList", "fastRemove", "([Ljava/lang/Object;I)V"⟩, 3) := ⟨⟨by decide +kernel, by decide +kernel⟩, lw_t1 (List.mem_of_getElem? (i := 77) rfl), lw_t8 (List.mem_of_getElem? (i := 11) rfl), lw_t8 (List.mem_of_getElem? (i := 12) rfl)⟩
theorem lw_p14 : lw_okq (⟨"CueStack$Show", "removeInstructions", "(I)V"⟩, 8) := ⟨⟨by decide +kernel, by decide +kernel⟩, lw_t1 (List.mem_of_getElem? (i := 71) rfl), lw_t8 (List.mem_of_getElem? (i := 115) rfl), lw_t8 (List.mem_of_getElem? (i := 116) rfl)⟩
theorem lw_p15 : lw_okq (⟨"CueStack$Show", "holds", "(III)Z"⟩, 8) := ⟨⟨by decide +kernel, by decide +kernel⟩, lw_t1 (List.mem_of_getElem? (i := 71) rfl), lw_t8 (List.mem_of_getElem? (i := 178) rfl), lw_t8 (List.mem_of_getElem? (i := 179) rfl)⟩
def lw_privs_1 : List (MethodName × Nat) := [(⟨"java/util/ArrayList", "add", "(Ljava/lang/Object;[Ljava/lang/Object;I)V"⟩, 3), (⟨"java/util/ArrayList", "grow", "()[Ljava/lang/Object;"⟩, 3), (⟨"java/util/ArrayList", "grow", "(I)[Ljava/lang/Object;"⟩, 3), (⟨"CueStack", "lambda$new$0", "(II)I"⟩, 9), (⟨"java/lang/Throwable", "fillInStackTrace", "(I)Ljava/lang/Throwable;"⟩, 6), (⟨"CueStack$Show", "beginsAnew", "(I)Z"⟩, 8), (⟨"CueStack", "lambda$new$1", "(II)I"⟩, 9), (⟨"CueStack", "sumOfFades", "(I)I"⟩, 9), (⟨"java/util/LinkedHashMap", "transferLinks", "(Ljava/util/LinkedHashMap$Entry;Ljava/util/LinkedHashMap$Entry;)V"⟩, 12), (⟨"java/util/LinkedHashMap", "linkNodeAtEnd", "(Ljava/util/LinkedHashMap$Entry;)V"⟩, 12), (⟨"java/util/ArrayList", "rangeCheckForAdd", "(I)V"⟩, 3), (⟨"java/util/ArrayList", "outOfBoundsMsg", "(I)Ljava/lang/String;"⟩, 3), (⟨"CueStack", "become", "(LCueStack$Show;)V"⟩, 9), (⟨"java/util/ArrayList", "fastRemove", "([Ljava/lang/Object;I)V"⟩, 3), (⟨"CueStack$Show", "removeInstructions", "(I)V"⟩, 8), (⟨"CueStack$Show", "holds", "(III)Z"⟩, 8)]
theorem lw_r1 : ∀ q ∈ lw_privs_1, lw_okq q := List.forall_mem_cons.mpr ⟨lw_p0, List.forall_mem_cons.mpr ⟨lw_p1, List.forall_mem_cons.mpr ⟨lw_p2, List.forall_mem_cons.mpr ⟨lw_p3, List.forall_mem_cons.mpr ⟨lw_p4, List.forall_mem_cons.mpr ⟨lw_p5, List.forall_mem_cons.mpr ⟨lw_p6, List.forall_mem_cons.mpr ⟨lw_p7, List.forall_mem_cons.mpr ⟨lw_p8, List.forall_mem_cons.mpr ⟨lw_p9, List.forall_mem_cons.mpr ⟨lw_p10, List.forall_mem_cons.mpr ⟨lw_p11, List.forall_mem_cons.mpr ⟨lw_p12, List.forall_mem_cons.mpr ⟨lw_p13, List.forall_mem_cons.mpr ⟨lw_p14, List.forall_mem_cons.mpr ⟨lw_p15, fun _ h => absurd h List.not_mem_nil⟩⟩⟩⟩⟩⟩⟩⟩⟩⟩⟩⟩⟩⟩⟩⟩
theorem lw_p16 : lw_okq (⟨"CueStack", "kept", "(LCueStack$Refusal;)Ljava/lang/UnsupportedOperationException;"⟩, 9) := ⟨⟨by decide +kernel, by decide +kernel⟩, lw_t1 (List.mem_of_getElem? (i := 63) rfl), lw_t8 (List.mem_of_getElem? (i := 231) rfl), lw_t8 (List.mem_of_getElem? (i := 232) rfl)⟩
theorem lw_p17 : lw_okq (⟨"CueStack", "levelsIn", "(I)[I"⟩, 9) := ⟨⟨by decide +kernel, by decide +kernel⟩, lw_t1 (List.mem_of_getElem? (i := 63) rfl), lw_t9 (List.mem_of_getElem? (i := 44) rfl), lw_t9 (List.mem_of_getElem? (i := 45) rfl)⟩
theorem lw_p18 : lw_okq (⟨"CueStack", "lambda$setBlock$2", "(I[II)Z"⟩, 9) := ⟨⟨by decide +kernel, by decide +kernel⟩, lw_t1 (List.mem_of_getElem? (i := 63) rfl), lw_t9 (List.mem_of_getElem? (i := 47) rfl), lw_t9 (List.mem_of_getElem? (i := 48) rfl)⟩
theorem lw_p19 : lw_okq (⟨"CueStack", "lambda$cue$3", "(II)Z"⟩, 9) := ⟨⟨by decide +kernel, by decide +kernel⟩, lw_t1 (List.mem_of_getElem? (i := 63) rfl), lw_t9 (List.mem_of_getElem? (i := 92) rfl), lw_t9 (List.mem_of_getElem? (i := 93) rfl)⟩
theorem lw_p20 : lw_okq (⟨"CueStack", "lengthOf", "(I)I"⟩, 9) := ⟨⟨by decide +kernel, by decide +kernel⟩, lw_t1 (List.mem_of_getElem? (i := 63) rfl), lw_t9 (List.mem_of_getElem? (i := 100) rfl), lw_t9 (List.mem_of_getElem? (i := 101) rfl)⟩
theorem lw_p21 : lw_okq (⟨"CueStack", "edit", "(IILCueStack$Instruction;Z)I"⟩, 9) := ⟨⟨by decide +kernel, by decide +kernel⟩, lw_t1 (List.mem_of_getElem? (i := 63) rfl), lw_t9 (List.mem_of_getElem? (i := 136) rfl), lw_t9 (List.mem_of_getElem? (i := 137) rfl)⟩
theorem lw_p22 : lw_okq (⟨"CueStack", "keyAt", "(I)LCueStack$Key;"⟩, 9) := ⟨⟨by decide +kernel, by decide +kernel⟩, lw_t1 (List.mem_of_getElem? (i := 63) rfl), lw_t9 (List.mem_of_getElem? (i := 193) rfl), lw_t9 (List.mem_of_getElem? (i := 194) rfl)⟩
theorem lw_p23 : lw_okq (⟨"CueStack", "by", "(LCueStack$Levels;II)I"⟩, 9) := ⟨⟨by decide +kernel, by decide +kernel⟩, lw_t1 (List.mem_of_getElem? (i := 63) rfl), lw_t9 (List.mem_of_getElem? (i := 220) rfl), lw_t9 (List.mem_of_getElem? (i := 221) rfl)⟩
theorem lw_p24 : lw_okq (⟨"CueStack", "lambda$source$4", "(II)I"⟩, 9) := ⟨⟨by decide +kernel, by decide +kernel⟩, lw_t1 (List.mem_of_getElem? (i := 63) rfl), lw_t10 (List.mem_of_getElem? (i := 1) rfl), lw_t10 (List.mem_of_getElem? (i := 2) rfl)⟩
theorem lw_p25 : lw_okq (⟨"CueStack", "lambda$apart$5", "(III)Z"⟩, 9) := ⟨⟨by decide +kernel, by decide +kernel⟩, lw_t1 (List.mem_of_getElem? (i := 63) rfl), lw_t10 (List.mem_of_getElem? (i := 22) rfl), lw_t10 (List.mem_of_getElem? (i := 23) rfl)⟩
theorem lw_p26 : lw_okq (⟨"CueStack", "steps", "(Z)I"⟩, 9) := ⟨⟨by decide +kernel, by decide +kernel⟩, lw_t1 (List.mem_of_getElem? (i := 63) rfl), lw_t10 (List.mem_of_getElem? (i := 40) rfl), lw_t10 (List.mem_of_getElem? (i := 41) rfl)⟩
theorem lw_p27 : lw_okq (⟨"CueStack$Show", "isTenthDone", "()Z"⟩, 8) := ⟨⟨by decide +kernel, by decide +kernel⟩, lw_t1 (List.mem_of_getElem? (i := 71) rfl), lw_t10 (List.mem_of_getElem? (i := 95) rfl), lw_t10 (List.mem_of_getElem? (i := 96) rfl)⟩
theorem lw_p28 : lw_okq (⟨"CueStack", "fading", "()I"⟩, 9) := ⟨⟨by decide +kernel, by decide +kernel⟩, lw_t1 (List.mem_of_getElem? (i := 63) rfl), lw_t10 (List.mem_of_getElem? (i := 125) rfl), lw_t10 (List.mem_of_getElem? (i := 126) rfl)⟩
theorem lw_p29 : lw_okq (⟨"CueStack", "lambda$fading$6", "(I)Z"⟩, 9) := ⟨⟨by decide +kernel, by decide +kernel⟩, lw_t1 (List.mem_of_getElem? (i := 63) rfl), lw_t10 (List.mem_of_getElem? (i := 128) rfl), lw_t10 (List.mem_of_getElem? (i := 129) rfl)⟩
theorem lw_p30 : lw_okq (⟨"CueStack", "releases", "()I"⟩, 9) := ⟨⟨by decide +kernel, by decide +kernel⟩, lw_t1 (List.mem_of_getElem? (i := 63) rfl), lw_t10 (List.mem_of_getElem? (i := 151) rfl), lw_t10 (List.mem_of_getElem? (i := 152) rfl)⟩
theorem lw_p31 : lw_okq (⟨"CueStack", "sumOfCues", "(I)I"⟩, 9) := ⟨⟨by decide +kernel, by decide +kernel⟩, lw_t1 (List.mem_of_getElem? (i := 63) rfl), lw_t10 (List.mem_of_getElem? (i := 230) rfl), lw_t10 (List.mem_of_getElem? (i := 231) rfl)⟩
def lw_privs_2 : List (MethodName × Nat) := [(⟨"CueStack", "kept", "(LCueStack$Refusal;)Ljava/lang/UnsupportedOperationException;"⟩, 9), (⟨"CueStack", "levelsIn", "(I)[I"⟩, 9), (⟨"CueStack", "lambda$setBlock$2", "(I[II)Z"⟩, 9), (⟨"CueStack", "lambda$cue$3", "(II)Z"⟩, 9), (⟨"CueStack", "lengthOf", "(I)I"⟩, 9), (⟨"CueStack", "edit", "(IILCueStack$Instruction;Z)I"⟩, 9), (⟨"CueStack", "keyAt", "(I)LCueStack$Key;"⟩, 9), (⟨"CueStack", "by", "(LCueStack$Levels;II)I"⟩, 9), (⟨"CueStack", "lambda$source$4", "(II)I"⟩, 9), (⟨"CueStack", "lambda$apart$5", "(III)Z"⟩, 9), (⟨"CueStack", "steps", "(Z)I"⟩, 9), (⟨"CueStack$Show", "isTenthDone", "()Z"⟩, 8), (⟨"CueStack", "fading", "()I"⟩, 9), (⟨"CueStack", "lambda$fading$6", "(I)Z"⟩, 9), (⟨"CueStack", "releases", "()I"⟩, 9), (⟨"CueStack", "sumOfCues", "(I)I"⟩, 9)]
theorem lw_r2 : ∀ q ∈ lw_privs_2, lw_okq q := List.forall_mem_cons.mpr ⟨lw_p16, List.forall_mem_cons.mpr ⟨lw_p17, List.forall_mem_cons.mpr ⟨lw_p18, List.forall_mem_cons.mpr ⟨lw_p19, List.forall_mem_cons.mpr ⟨lw_p20, List.forall_mem_cons.mpr ⟨lw_p21, List.forall_mem_cons.mpr ⟨lw_p22, List.forall_mem_cons.mpr ⟨lw_p23, List.forall_mem_cons.mpr ⟨lw_p24, List.forall_mem_cons.mpr ⟨lw_p25, List.forall_mem_cons.mpr ⟨lw_p26, List.forall_mem_cons.mpr ⟨lw_p27, List.forall_mem_cons.mpr ⟨lw_p28, List.forall_mem_cons.mpr ⟨lw_p29, List.forall_mem_cons.mpr ⟨lw_p30, List.forall_mem_cons.mpr ⟨lw_p31, fun _ h => absurd h List.not_mem_nil⟩⟩⟩⟩⟩⟩⟩⟩⟩⟩⟩⟩⟩⟩⟩⟩
theorem lw_p32 : lw_okq (⟨"CueStack", "lambda$sumOfCues$7", "(II)Z"⟩, 9) := ⟨⟨by decide +kernel, by decide +kernel⟩, lw_t1 (List.mem_of_getElem? (i := 63) rfl), lw_t10 (List.mem_of_getElem? (i := 233) rfl), lw_t10 (List.mem_of_getElem? (i := 234) rfl)⟩
theorem lw_p33 : lw_okq (⟨"CueStack$Parser", "entry", "()V"⟩, 4) := ⟨⟨by decide +kernel, by decide +kernel⟩, lw_t11 (List.mem_of_getElem? (i := 12) rfl), lw_t11 (List.mem_of_getElem? (i := 39) rfl), lw_t11 (List.mem_of_getElem? (i := 40) rfl)⟩
theorem lw_p34 : lw_okq (⟨"CueStack$Parser", "peek", "()C"⟩, 4) := ⟨⟨by decide +kernel, by decide +kernel⟩, lw_t11 (List.mem_of_getElem? (i := 12) rfl), lw_t11 (List.mem_of_getElem? (i := 45) rfl), lw_t11 (List.mem_of_getElem? (i := 46) rfl)⟩
theorem lw_p35 : lw_okq (⟨"CueStack$Parser", "number", "(I)I"⟩, 4) := ⟨⟨by decide +kernel, by decide +kernel⟩, lw_t11 (List.mem_of_getElem? (i := 12) rfl), lw_t11 (List.mem_of_getElem? (i := 70) rfl), lw_t11 (List.mem_of_getElem? (i := 71) rfl)⟩
theorem lw_p36 : lw_okq (⟨"CueStack$Parser", "expect", "(C)V"⟩, 4) := ⟨⟨by decide +kernel, by decide +kernel⟩, lw_t11 (List.mem_of_getElem? (i := 12) rfl), lw_t11 (List.mem_of_getElem? (i := 94) rfl), lw_t11 (List.mem_of_getElem? (i := 95) rfl)⟩
theorem lw_p37 : lw_okq (⟨"CueStack", "applyTo", "(LCueStack$Show;LCueStack$Entry;)V"⟩, 9) := ⟨⟨by decide +kernel, by decide +kernel⟩, lw_t1 (List.mem_of_getElem? (i := 63) rfl), lw_t11 (List.mem_of_getElem? (i := 100) rfl), lw_t11 (List.mem_of_getElem? (i := 101) rfl)⟩
theorem lw_p38 : lw_okq (⟨"CueStackModel", "begin", "()V"⟩, 17) := ⟨⟨by decide +kernel, by decide +kernel⟩, lw_t11 (List.mem_of_getElem? (i := 151) rfl), lw_t11 (List.mem_of_getElem? (i := 157) rfl), lw_t11 (List.mem_of_getElem? (i := 158) rfl)⟩
theorem lw_p39 : lw_okq (⟨"CueStackModel", "keepState", "()V"⟩, 17) := ⟨⟨by decide +kernel, by decide +kernel⟩, lw_t11 (List.mem_of_getElem? (i := 151) rfl), lw_t11 (List.mem_of_getElem? (i := 225) rfl), lw_t11 (List.mem_of_getElem? (i := 226) rfl)⟩
theorem lw_p40 : lw_okq (⟨"CueStackModel", "doAdd", "(I)I"⟩, 17) := ⟨⟨by decide +kernel, by decide +kernel⟩, lw_t11 (List.mem_of_getElem? (i := 151) rfl), lw_t11 (List.mem_of_getElem? (i := 230) rfl), lw_t11 (List.mem_of_getElem? (i := 231) rfl)⟩
theorem lw_p41 : lw_okq (⟨"CueStackModel", "isCue", "(I)Z"⟩, 17) := ⟨⟨by decide +kernel, by decide +kernel⟩, lw_t11 (List.mem_of_getElem? (i := 151) rfl), lw_t11 (List.mem_of_getElem? (i := 237) rfl), lw_t11 (List.mem_of_getElem? (i := 238) rfl)⟩
theorem lw_p42 : lw_okq (⟨"CueStackModel", "placeOf", "(I)I"⟩, 17) := ⟨⟨by decide +kernel, by decide +kernel⟩, lw_t11 (List.mem_of_getElem? (i := 151) rfl), lw_t12 (List.mem_of_getElem? (i := 1) rfl), lw_t12 (List.mem_of_getElem? (i := 2) rfl)⟩
theorem lw_p43 : lw_okq (⟨"CueStackModel", "change", "()V"⟩, 17) := ⟨⟨by decide +kernel, by decide +kernel⟩, lw_t11 (List.mem_of_getElem? (i := 151) rfl), lw_t12 (List.mem_of_getElem? (i := 8) rfl), lw_t12 (List.mem_of_getElem? (i := 9) rfl)⟩
theorem lw_p44 : lw_okq (⟨"CueStackModel", "changes", "()V"⟩, 17) := ⟨⟨by decide +kernel, by decide +kernel⟩, lw_t11 (List.mem_of_getElem? (i := 151) rfl), lw_t12 (List.mem_of_getElem? (i := 20) rfl), lw_t12 (List.mem_of_getElem? (i := 21) rfl)⟩
theorem lw_p45 : lw_okq (⟨"CueStackModel", "keepLevels", "()V"⟩, 17) := ⟨⟨by decide +kernel, by decide +kernel⟩, lw_t11 (List.mem_of_getElem? (i := 151) rfl), lw_t12 (List.mem_of_getElem? (i := 28) rfl), lw_t12 (List.mem_of_getElem? (i := 29) rfl)⟩
theorem lw_p46 : lw_okq (⟨"CueStackModel", "levelIn", "(II)I"⟩, 17) := ⟨⟨by decide +kernel, by decide +kernel⟩, lw_t11 (List.mem_of_getElem? (i := 151) rfl), lw_t12 (List.mem_of_getElem? (i := 32) rfl), lw_t12 (List.mem_of_getElem? (i := 33) rfl)⟩
theorem lw_p47 : lw_okq (⟨"CueStackModel", "given", "(II)I"⟩, 17) := ⟨⟨by decide +kernel, by decide +kernel⟩, lw_t11 (List.mem_of_getElem? (i := 151) rfl), lw_t12 (List.mem_of_getElem? (i := 36) rfl), lw_t12 (List.mem_of_getElem? (i := 37) rfl)⟩
def lw_privs_3 : List (MethodName × Nat) := [(⟨"CueStack", "lambda$sumOfCues$7", "(II)Z"⟩, 9), (⟨"CueStack$Parser", "entry", "()V"⟩, 4), (⟨"CueStack$Parser", "peek", "()C"⟩, 4), (⟨"CueStack$Parser", "number", "(I)I"⟩, 4), (⟨"CueStack$Parser", "expect", "(C)V"⟩, 4), (⟨"CueStack", "applyTo", "(LCueStack$Show;LCueStack$Entry;)V"⟩, 9), (⟨"CueStackModel", "begin", "()V"⟩, 17), (⟨"CueStackModel", "keepState", "()V"⟩, 17), (⟨"CueStackModel", "doAdd", "(I)I"⟩, 17), (⟨"CueStackModel", "isCue", "(I)Z"⟩, 17), (⟨"CueStackModel", "placeOf", "(I)I"⟩, 17), (⟨"CueStackModel", "change", "()V"⟩, 17), (⟨"CueStackModel", "changes", "()V"⟩, 17), (⟨"CueStackModel", "keepLevels", "()V"⟩, 17), (⟨"CueStackModel", "levelIn", "(II)I"⟩, 17), (⟨"CueStackModel", "given", "(II)I"⟩, 17)]
theorem lw_r3 : ∀ q ∈ lw_privs_3, lw_okq q := List.forall_mem_cons.mpr ⟨lw_p32, List.forall_mem_cons.mpr ⟨lw_p33, List.forall_mem_cons.mpr ⟨lw_p34, List.forall_mem_cons.mpr ⟨lw_p35, List.forall_mem_cons.mpr ⟨lw_p36, List.forall_mem_cons.mpr ⟨lw_p37, List.forall_mem_cons.mpr ⟨lw_p38, List.forall_mem_cons.mpr ⟨lw_p39, List.forall_mem_cons.mpr ⟨lw_p40, List.forall_mem_cons.mpr ⟨lw_p41, List.forall_mem_cons.mpr ⟨lw_p42, List.forall_mem_cons.mpr ⟨lw_p43, List.forall_mem_cons.mpr ⟨lw_p44, List.forall_mem_cons.mpr ⟨lw_p45, List.forall_mem_cons.mpr ⟨lw_p46, List.forall_mem_cons.mpr ⟨lw_p47, fun _ h => absurd h List.not_mem_nil⟩⟩⟩⟩⟩⟩⟩⟩⟩⟩⟩⟩⟩⟩⟩⟩
theorem lw_p48 : lw_okq (⟨"CueStackModel", "isBlock", "(I)Z"⟩, 17) := ⟨⟨by decide +kernel, by decide +kernel⟩, lw_t11 (List.mem_of_getElem? (i := 151) rfl), lw_t12 (List.mem_of_getElem? (i := 40) rfl), lw_t12 (List.mem_of_getElem? (i := 41) rfl)⟩
theorem lw_p49 : lw_okq (⟨"CueStackModel", "partAt", "(IIZ)I"⟩, 17) := ⟨⟨by decide +kernel, by decide +kernel⟩, lw_t11 (List.mem_of_getElem? (i := 151) rfl), lw_t12 (List.mem_of_getElem? (i := 55) rfl), lw_t12 (List.mem_of_getElem? (i := 56) rfl)⟩
theorem lw_p50 : lw_okq (⟨"CueStackModel", "countOf", "(I)I"⟩, 17) := ⟨⟨by decide +kernel, by decide +kernel⟩, lw_t11 (List.mem_of_getElem? (i := 151) rfl), lw_t12 (List.mem_of_getElem? (i := 67) rfl), lw_t12 (List.mem_of_getElem? (i := 68) rfl)⟩
theorem lw_p51 : lw_okq (⟨"CueStackModel", "moves", "(II)Z"⟩, 17) := ⟨⟨by decide +kernel, by decide +kernel⟩, lw_t11 (List.mem_of_getElem? (i := 151) rfl), lw_t12 (List.mem_of_getElem? (i := 71) rfl), lw_t12 (List.mem_of_getElem? (i := 72) rfl)⟩
theorem lw_p52 : lw_okq (⟨"CueStackModel", "lengthOf", "(II)I"⟩, 17) := ⟨⟨by decide +kernel, by decide +kernel⟩, lw_t11 (List.mem_of_getElem? (i := 151) rfl), lw_t12 (List.mem_of_getElem? (i := 75) rfl), lw_t12 (List.mem_of_getElem? (i := 76) rfl)⟩
theorem lw_p53 : lw_okq (⟨"CueStackModel", "partOf", "(II)I"⟩, 17) := ⟨⟨by decide +kernel, by decide +kernel⟩, lw_t11 (List.mem_of_getElem? (i := 151) rfl), lw_t12 (List.mem_of_getElem? (i := 79) rfl), lw_t12 (List.mem_of_getElem? (i := 80) rfl)⟩
theorem lw_p54 : lw_okq (⟨"CueStackModel", "doGive", "(IIIIZ)I"⟩, 17) := ⟨⟨by decide +kernel, by decide +kernel⟩, lw_t11 (List.mem_of_getElem? (i := 151) rfl), lw_t12 (List.mem_of_getElem? (i := 95) rfl), lw_t12 (List.mem_of_getElem? (i := 96) rfl)⟩
theorem lw_p55 : lw_okq (⟨"CueStackModel", "giveHeld", "(IIIIZ)I"⟩, 17) := ⟨⟨by decide +kernel, by decide +kernel⟩, lw_t11 (List.mem_of_getElem? (i := 151) rfl), lw_t12 (List.mem_of_getElem? (i := 99) rfl), lw_t12 (List.mem_of_getElem? (i := 100) rfl)⟩
theorem lw_p56 : lw_okq (⟨"CueStackModel", "wouldHoldProtected", "(III)Z"⟩, 17) := ⟨⟨by decide +kernel, by decide +kernel⟩, lw_t11 (List.mem_of_getElem? (i := 151) rfl), lw_t12 (List.mem_of_getElem? (i := 103) rfl), lw_t12 (List.mem_of_getElem? (i := 104) rfl)⟩
theorem lw_p57 : lw_okq (⟨"CueStackModel", "give", "(IIII)V"⟩, 17) := ⟨⟨by decide +kernel, by decide +kernel⟩, lw_t11 (List.mem_of_getElem? (i := 151) rfl), lw_t12 (List.mem_of_getElem? (i := 107) rfl), lw_t12 (List.mem_of_getElem? (i := 108) rfl)⟩
theorem lw_p58 : lw_okq (⟨"CueStackModel", "hold", "(II)I"⟩, 17) := ⟨⟨by decide +kernel, by decide +kernel⟩, lw_t11 (List.mem_of_getElem? (i := 151) rfl), lw_t12 (List.mem_of_getElem? (i := 111) rfl), lw_t12 (List.mem_of_getElem? (i := 112) rfl)⟩
theorem lw_p59 : lw_okq (⟨"CueStackModel", "refuse", "(I)I"⟩, 17) := ⟨⟨by decide +kernel, by decide +kernel⟩, lw_t11 (List.mem_of_getElem? (i := 151) rfl), lw_t12 (List.mem_of_getElem? (i := 115) rfl), lw_t12 (List.mem_of_getElem? (i := 116) rfl)⟩
theorem lw_p60 : lw_okq (⟨"CueStackModel", "changed", "(I)I"⟩, 17) := ⟨⟨by decide +kernel, by decide +kernel⟩, lw_t11 (List.mem_of_getElem? (i := 151) rfl), lw_t12 (List.mem_of_getElem? (i := 119) rfl), lw_t12 (List.mem_of_getElem? (i := 120) rfl)⟩
theorem lw_p61 : lw_okq (⟨"CueStackModel", "takeHeld", "(IIZ)I"⟩, 17) := ⟨⟨by decide +kernel, by decide +kernel⟩, lw_t11 (List.mem_of_getElem? (i := 151) rfl), lw_t12 (List.mem_of_getElem? (i := 131) rfl), lw_t12 (List.mem_of_getElem? (i := 132) rfl)⟩
theorem lw_p62 : lw_okq (⟨"CueStackModel", "takeAway", "(I)V"⟩, 17) := ⟨⟨by decide +kernel, by decide +kernel⟩, lw_t11 (List.mem_of_getElem? (i := 151) rfl), lw_t12 (List.mem_of_getElem? (i := 135) rfl), lw_t12 (List.mem_of_getElem? (i := 136) rfl)⟩
theorem lw_p63 : lw_okq (⟨"CueStackModel", "doRemove", "(IZ)I"⟩, 17) := ⟨⟨by decide +kernel, by decide +kernel⟩, lw_t11 (List.mem_of_getElem? (i := 151) rfl), lw_t12 (List.mem_of_getElem? (i := 143) rfl), lw_t12 (List.mem_of_getElem? (i := 144) rfl)⟩
def lw_privs_4 : List (MethodName × Nat) := [(⟨"CueStackModel", "isBlock", "(I)Z"⟩, 17), (⟨"CueStackModel", "partAt", "(IIZ)I"⟩, 17), (⟨"CueStackModel", "countOf", "(I)I"⟩, 17), (⟨"CueStackModel", "moves", "(II)Z"⟩, 17), (⟨"CueStackModel", "lengthOf", "(II)I"⟩, 17), (⟨"CueStackModel", "partOf", "(II)I"⟩, 17), (⟨"CueStackModel", "doGive", "(IIIIZ)I"⟩, 17), (⟨"CueStackModel", "giveHeld", "(IIIIZ)I"⟩, 17), (⟨"CueStackModel", "wouldHoldProtected", "(III)Z"⟩, 17), (⟨"CueStackModel", "give", "(IIII)V"⟩, 17), (⟨"CueStackModel", "hold", "(II)I"⟩, 17), (⟨"CueStackModel", "refuse", "(I)I"⟩, 17), (⟨"CueStackModel", "changed", "(I)I"⟩, 17), (⟨"CueStackModel", "takeHeld", "(IIZ)I"⟩, 17), (⟨"CueStackModel", "takeAway", "(I)V"⟩, 17), (⟨"CueStackModel", "doRemove", "(IZ)I"⟩, 17)]
theorem lw_r4 : ∀ q ∈ lw_privs_4, lw_okq q := List.forall_mem_cons.mpr ⟨lw_p48, List.forall_mem_cons.mpr ⟨lw_p49, List.forall_mem_cons.mpr ⟨lw_p50, List.forall_mem_cons.mpr ⟨lw_p51, List.forall_mem_cons.mpr ⟨lw_p52, List.forall_mem_cons.mpr ⟨lw_p53, List.forall_mem_cons.mpr ⟨lw_p54, List.forall_mem_cons.mpr ⟨lw_p55, List.forall_mem_cons.mpr ⟨lw_p56, List.forall_mem_cons.mpr ⟨lw_p57, List.forall_mem_cons.mpr ⟨lw_p58, List.forall_mem_cons.mpr ⟨lw_p59, List.forall_mem_cons.mpr ⟨lw_p60, List.forall_mem_cons.mpr ⟨lw_p61, List.forall_mem_cons.mpr ⟨lw_p62, List.forall_mem_cons.mpr ⟨lw_p63, fun _ h => absurd h List.not_mem_nil⟩⟩⟩⟩⟩⟩⟩⟩⟩⟩⟩⟩⟩⟩⟩⟩
theorem lw_p64 : lw_okq (⟨"CueStackModel", "steps", "(Z)I"⟩, 17) := ⟨⟨by decide +kernel, by decide +kernel⟩, lw_t11 (List.mem_of_getElem? (i := 151) rfl), lw_t12 (List.mem_of_getElem? (i := 180) rfl), lw_t12 (List.mem_of_getElem? (i := 181) rfl)⟩
theorem lw_p65 : lw_okq (⟨"CueStackModel", "doGo", "(Z)I"⟩, 17) := ⟨⟨by decide +kernel, by decide +kernel⟩, lw_t11 (List.mem_of_getElem? (i := 151) rfl), lw_t12 (List.mem_of_getElem? (i := 184) rfl), lw_t12 (List.mem_of_getElem? (i := 185) rfl)⟩
theorem lw_p66 : lw_okq (⟨"CueStackModel", "cueAhead", "(I)I"⟩, 17) := ⟨⟨by decide +kernel, by decide +kernel⟩, lw_t11 (List.mem_of_getElem? (i := 151) rfl), lw_t12 (List.mem_of_getElem? (i := 188) rfl), lw_t12 (List.mem_of_getElem? (i := 189) rfl)⟩
theorem lw_p67 : lw_okq (⟨"CueStackModel", "nextCue", "(I)I"⟩, 17) := ⟨⟨by decide +kernel, by decide +kernel⟩, lw_t11 (List.mem_of_getElem? (i := 151) rfl), lw_t12 (List.mem_of_getElem? (i := 192) rfl), lw_t12 (List.mem_of_getElem? (i := 193) rfl)⟩
theorem lw_p68 : lw_okq (⟨"CueStackModel", "goes", "(I)I"⟩, 17) := ⟨⟨by decide +kernel, by decide +kernel⟩, lw_t11 (List.mem_of_getElem? (i := 151) rfl), lw_t12 (List.mem_of_getElem? (i := 196) rfl), lw_t12 (List.mem_of_getElem? (i := 197) rfl)⟩
theorem lw_p69 : lw_okq (⟨"CueStackModel", "nowOf", "(I)I"⟩, 17) := ⟨⟨by decide +kernel, by decide +kernel⟩, lw_t11 (List.mem_of_getElem? (i := 151) rfl), lw_t12 (List.mem_of_getElem? (i := 203) rfl), lw_t12 (List.mem_of_getElem? (i := 204) rfl)⟩
theorem lw_p70 : lw_okq (⟨"CueStackModel", "doPass", "(I)I"⟩, 17) := ⟨⟨by decide +kernel, by decide +kernel⟩, lw_t11 (List.mem_of_getElem? (i := 151) rfl), lw_t12 (List.mem_of_getElem? (i := 219) rfl), lw_t12 (List.mem_of_getElem? (i := 220) rfl)⟩
theorem lw_p71 : lw_okq (⟨"CueStackModel", "follows", "()Z"⟩, 17) := ⟨⟨by decide +kernel, by decide +kernel⟩, lw_t11 (List.mem_of_getElem? (i := 151) rfl), lw_t12 (List.mem_of_getElem? (i := 224) rfl), lw_t12 (List.mem_of_getElem? (i := 225) rfl)⟩
theorem lw_p72 : lw_okq (⟨"CueStackModel", "fading", "()I"⟩, 17) := ⟨⟨by decide +kernel, by decide +kernel⟩, lw_t11 (List.mem_of_getElem? (i := 151) rfl), lw_t13 (List.mem_of_getElem? (i := 0) rfl), lw_t13 (List.mem_of_getElem? (i := 1) rfl)⟩
theorem lw_p73 : lw_okq (⟨"CueStackModel", "isFading", "(I)Z"⟩, 17) := ⟨⟨by decide +kernel, by decide +kernel⟩, lw_t11 (List.mem_of_getElem? (i := 151) rfl), lw_t13 (List.mem_of_getElem? (i := 4) rfl), lw_t13 (List.mem_of_getElem? (i := 5) rfl)⟩
theorem lw_p74 : lw_okq (⟨"CueStackModel", "overChannels", "(I)I"⟩, 17) := ⟨⟨by decide +kernel, by decide +kernel⟩, lw_t11 (List.mem_of_getElem? (i := 151) rfl), lw_t13 (List.mem_of_getElem? (i := 16) rfl), lw_t13 (List.mem_of_getElem? (i := 17) rfl)⟩
theorem lw_p75 : lw_okq (⟨"CueStackModel", "overCues", "(I)I"⟩, 17) := ⟨⟨by decide +kernel, by decide +kernel⟩, lw_t11 (List.mem_of_getElem? (i := 151) rfl), lw_t13 (List.mem_of_getElem? (i := 20) rfl), lw_t13 (List.mem_of_getElem? (i := 21) rfl)⟩
theorem lw_p76 : lw_okq (⟨"CueStackModel", "readEntry", "()V"⟩, 17) := ⟨⟨by decide +kernel, by decide +kernel⟩, lw_t11 (List.mem_of_getElem? (i := 151) rfl), lw_t13 (List.mem_of_getElem? (i := 37) rfl), lw_t13 (List.mem_of_getElem? (i := 38) rfl)⟩
theorem lw_p77 : lw_okq (⟨"CueStackModel", "number", "(I)I"⟩, 17) := ⟨⟨by decide +kernel, by decide +kernel⟩, lw_t11 (List.mem_of_getElem? (i := 151) rfl), lw_t13 (List.mem_of_getElem? (i := 86) rfl), lw_t13 (List.mem_of_getElem? (i := 87) rfl)⟩
theorem lw_p78 : lw_okq (⟨"CueStackModel", "isHere", "(CC)Z"⟩, 17) := ⟨⟨by decide +kernel, by decide +kernel⟩, lw_t11 (List.mem_of_getElem? (i := 151) rfl), lw_t13 (List.mem_of_getElem? (i := 90) rfl), lw_t13 (List.mem_of_getElem? (i := 91) rfl)⟩
theorem lw_p79 : lw_okq (⟨"CueStackModel", "behind", "(CI)I"⟩, 17) := ⟨⟨by decide +kernel, by decide +kernel⟩, lw_t11 (List.mem_of_getElem? (i := 151) rfl), lw_t13 (List.mem_of_getElem? (i := 94) rfl), lw_t13 (List.mem_of_getElem? (i := 95) rfl)⟩
def lw_privs_5 : List (MethodName × Nat) := [(⟨"CueStackModel", "steps", "(Z)I"⟩, 17), (⟨"CueStackModel", "doGo", "(Z)I"⟩, 17), (⟨"CueStackModel", "cueAhead", "(I)I"⟩, 17), (⟨"CueStackModel", "nextCue", "(I)I"⟩, 17), (⟨"CueStackModel", "goes", "(I)I"⟩, 17), (⟨"CueStackModel", "nowOf", "(I)I"⟩, 17), (⟨"CueStackModel", "doPass", "(I)I"⟩, 17), (⟨"CueStackModel", "follows", "()Z"⟩, 17), (⟨"CueStackModel", "fading", "()I"⟩, 17), (⟨"CueStackModel", "isFading", "(I)Z"⟩, 17), (⟨"CueStackModel", "overChannels", "(I)I"⟩, 17), (⟨"CueStackModel", "overCues", "(I)I"⟩, 17), (⟨"CueStackModel", "readEntry", "()V"⟩, 17), (⟨"CueStackModel", "number", "(I)I"⟩, 17), (⟨"CueStackModel", "isHere", "(CC)Z"⟩, 17), (⟨"CueStackModel", "behind", "(CI)I"⟩, 17)]
theorem lw_r5 : ∀ q ∈ lw_privs_5, lw_okq q := List.forall_mem_cons.mpr ⟨lw_p64, List.forall_mem_cons.mpr ⟨lw_p65, List.forall_mem_cons.mpr ⟨lw_p66, List.forall_mem_cons.mpr ⟨lw_p67, List.forall_mem_cons.mpr ⟨lw_p68, List.forall_mem_cons.mpr ⟨lw_p69, List.forall_mem_cons.mpr ⟨lw_p70, List.forall_mem_cons.mpr ⟨lw_p71, List.forall_mem_cons.mpr ⟨lw_p72, List.forall_mem_cons.mpr ⟨lw_p73, List.forall_mem_cons.mpr ⟨lw_p74, List.forall_mem_cons.mpr ⟨lw_p75, List.forall_mem_cons.mpr ⟨lw_p76, List.forall_mem_cons.mpr ⟨lw_p77, List.forall_mem_cons.mpr ⟨lw_p78, List.forall_mem_cons.mpr ⟨lw_p79, fun _ h => absurd h List.not_mem_nil⟩⟩⟩⟩⟩⟩⟩⟩⟩⟩⟩⟩⟩⟩⟩⟩
theorem lw_p80 : lw_okq (⟨"CueStackModel", "sign", "(C)V"⟩, 17) := ⟨⟨by decide +kernel, by decide +kernel⟩, lw_t11 (List.mem_of_getElem? (i := 151) rfl), lw_t13 (List.mem_of_getElem? (i := 98) rfl), lw_t13 (List.mem_of_getElem? (i := 99) rfl)⟩
theorem lw_p81 : lw_okq (⟨"CueStackModel", "fails", "(I)Z"⟩, 17) := ⟨⟨by decide +kernel, by decide +kernel⟩, lw_t11 (List.mem_of_getElem? (i := 151) rfl), lw_t13 (List.mem_of_getElem? (i := 102) rfl), lw_t13 (List.mem_of_getElem? (i := 103) rfl)⟩
theorem lw_p82 : lw_okq (⟨"CueStackModel", "isTold", "(I)Z"⟩, 17) := ⟨⟨by decide +kernel, by decide +kernel⟩, lw_t11 (List.mem_of_getElem? (i := 151) rfl), lw_t13 (List.mem_of_getElem? (i := 106) rfl), lw_t13 (List.mem_of_getElem? (i := 107) rfl)⟩
def lw_privs_6 : List (MethodName × Nat) := [(⟨"CueStackModel", "sign", "(C)V"⟩, 17), (⟨"CueStackModel", "fails", "(I)Z"⟩, 17), (⟨"CueStackModel", "isTold", "(I)Z"⟩, 17)]
theorem lw_r6 : ∀ q ∈ lw_privs_6, lw_okq q := List.forall_mem_cons.mpr ⟨lw_p80, List.forall_mem_cons.mpr ⟨lw_p81, List.forall_mem_cons.mpr ⟨lw_p82, fun _ h => absurd h List.not_mem_nil⟩⟩⟩
def lw_privs : List (MethodName × Nat) := lw_privs_1 ++ (lw_privs_2 ++ (lw_privs_3 ++ (lw_privs_4 ++ (lw_privs_5 ++ (lw_privs_6)))))
def lw_tbl : List Cond := k2_sels lw_privs ++ tables_1
theorem lw_privs_ok : ∀ q ∈ lw_privs, lw_okq q := by
  show ∀ q ∈ lw_privs_1 ++ (lw_privs_2 ++ (lw_privs_3 ++ (lw_privs_4 ++ (lw_privs_5 ++ (lw_privs_6))))), lw_okq q
  exact List.forall_mem_append.mpr ⟨lw_r1, List.forall_mem_append.mpr ⟨lw_r2, List.forall_mem_append.mpr ⟨lw_r3, List.forall_mem_append.mpr ⟨lw_r4, List.forall_mem_append.mpr ⟨lw_r5, lw_r6⟩⟩⟩⟩⟩
-- ===== ONE list of words for every method: the tables' words that hold all through a run =====
def lw_all : List Cond := lw_tbl.filter goodWord
/-- a word of the tables by its place: claim/WORDS.tsv -/
theorem lw_w {w : Cond} (i : Nat) (h : lw_tbl[i]? = some w) (g : goodWord w = true) : w ∈ lw_all := List.mem_filter.mpr ⟨List.mem_of_getElem? h, g⟩
theorem lw_all_tbl {w : Cond} (h : w ∈ lw_all) : w ∈ lw_tbl := (List.mem_filter.mp h).1
theorem lw_self : GoodIn lw_all lw_all := fun w h => ⟨h, good_of_word (List.mem_filter.mp h).2⟩
/-- a class's field words, by their places -/
theorem lw_in (ws : List Cond) (ps : List Nat) (hp : ws = ps.filterMap (fun i => lw_tbl[i]?)) (hg : ws.all goodWord = true) : ∀ w ∈ ws, w ∈ lw_all := by
  intro w h
  have h1 := List.all_eq_true.mp hg w h
  rw [hp] at h
  obtain ⟨i, -, hi⟩ := List.mem_filterMap.mp h
  exact lw_w i hi h1
/-- the words of a contract for the method y with code b, L locals, answer r -/
abbrev ws_ (y : MethodName) (b : ByteArray) (L : Nat) (r : Option FieldType) : List Cond := Cond.code y b L r :: lw_all
theorem lw_meth {y : MethodName} {b : ByteArray} {L : Nat} {r : Option FieldType} (h : Cond.code y b L r ∈ lw_all) : GoodIn lw_all (ws_ y b L r) := by
  intro w hw
  rcases List.mem_cons.mp hw with e | e
  · rw [e]
    exact lw_self _ h
  · exact lw_self _ e
theorem lw_app {a c : List Cond} (ha : ∀ w ∈ a, w ∈ lw_all) (hc : GoodIn lw_all c) : GoodIn lw_all (a ++ c) := by
  intro w hw
  rcases List.mem_append.mp hw with e | e
  · exact lw_self w (ha w e)
  · exact hc w e
/-- what a call through an object asks: cwV n hts (lw_V ..) -/
theorem lw_V {own : String} {idx : Nat} {C : String} {y : MethodName} {b : ByteArray} {L : Nat} {r : Option FieldType} (h1 : Cond.methodLink own idx y ∈ lw_all) (h2 : Cond.instanceMethod y ∈ lw_all) (h3 : Cond.selects C y y ∈ lw_all) (h4 : Cond.initialized C ∈ lw_all) (h5 : Cond.code y b L r ∈ lw_all) : GoodIn lw_all (wsV own idx C y (ws_ y b L r)) := by
  refine lw_app ?_ (lw_meth h5)
  intro w hw
  simp only [List.mem_cons, List.not_mem_nil, or_false] at hw
  rcases hw with e | e | e | e
  · rw [e]; exact h1
  · rw [e]; exact h2
  · rw [e]; exact h3
  · rw [e]; exact h4
/-- what a static call asks: va_cwS n hts (lw_S ..) -/
theorem lw_S {own : String} {idx : Nat} {y : MethodName} {b : ByteArray} {L : Nat} {r : Option FieldType} (h1 : Cond.methodLink own idx y ∈ lw_all) (h2 : Cond.static y ∈ lw_all) (h3 : Cond.initialized y.cls ∈ lw_all) (h4 : Cond.code y b L r ∈ lw_all) : GoodIn lw_all (va_wsS own idx y (ws_ y b L r)) := by
  refine lw_app ?_ (lw_meth h4)
  intro w hw
  simp only [List.mem_cons, List.not_mem_nil, or_false] at hw
  rcases hw with e | e | e
  · rw [e]; exact h1
  · rw [e]; exact h2
  · rw [e]; exact h3
/-- the words of a contract for a method WITH HANDLERS (hh: its table) -/
abbrev wsW_ (y : MethodName) (b : ByteArray) (L : Nat) (r : Option FieldType) (hh : List (Nat × Nat × Nat × Nat)) : List Cond := Cond.codeWith y b L r hh :: lw_all
theorem lw_methW {y : MethodName} {b : ByteArray} {L : Nat} {r : Option FieldType} {hh : List (Nat × Nat × Nat × Nat)} (h : Cond.codeWith y b L r hh ∈ lw_all) : GoodIn lw_all (wsW_ y b L r hh) := by
  intro w hw
  rcases List.mem_cons.mp hw with e | e
  · rw [e]
    exact lw_self _ h
  · exact lw_self _ e
/-- any list of words by their places (lw_in), good -/
theorem lw_good {ws : List Cond} (h : ∀ w ∈ ws, w ∈ lw_all) : GoodIn lw_all ws := fun w hw => lw_self w (h w hw)
/-- what a call of a method with handlers asks: vx_cwVW n hts (lw_VW ..), vx_cwSW n hts (lw_SW ..) -/
theorem lw_VW {own : String} {idx : Nat} {C : String} {y : MethodName} {b : ByteArray} {L : Nat} {r : Option FieldType} {hh : List (Nat × Nat × Nat × Nat)} (h1 : Cond.methodLink own idx y ∈ lw_all) (h2 : Cond.instanceMethod y ∈ lw_all) (h3 : Cond.selects C y y ∈ lw_all) (h4 : Cond.initialized C ∈ lw_all) (h5 : Cond.codeWith y b L r hh ∈ lw_all) : GoodIn lw_all (wsV own idx C y (wsW_ y b L r hh)) := by
  refine lw_app ?_ (lw_methW h5)
  intro w hw
  simp only [List.mem_cons, List.not_mem_nil, or_false] at hw
  rcases hw with e | e | e | e
  · rw [e]; exact h1
  · rw [e]; exact h2
  · rw [e]; exact h3
  · rw [e]; exact h4
theorem lw_SW {own : String} {idx : Nat} {y : MethodName} {b : ByteArray} {L : Nat} {r : Option FieldType} {hh : List (Nat × Nat × Nat × Nat)} (h1 : Cond.methodLink own idx y ∈ lw_all) (h2 : Cond.static y ∈ lw_all) (h3 : Cond.initialized y.cls ∈ lw_all) (h4 : Cond.codeWith y b L r hh ∈ lw_all) : GoodIn lw_all (va_wsS own idx y (wsW_ y b L r hh)) := by
  refine lw_app ?_ (lw_methW h4)
  intro w hw
  simp only [List.mem_cons, List.not_mem_nil, or_false] at hw
  rcases hw with e | e | e
  · rw [e]; exact h1
  · rw [e]; exact h2
  · rw [e]; exact h3
/-- a word by its place in its run of the tables -/
theorem lw_at {r : List Cond} (hr : ∀ w ∈ r, w ∈ lw_tbl) {w : Cond} (i : Nat) (h : r[i]? = some w) : w ∈ lw_tbl := hr w (List.mem_of_getElem? h)
theorem lw_g {w : Cond} (h : w ∈ lw_tbl) (g : goodWord w = true) : w ∈ lw_all := List.mem_filter.mpr ⟨h, g⟩
theorem lw_ms : ∀ w ∈ k2_sels lw_privs, w ∈ lw_tbl := fun w h => show w ∈ k2_sels lw_privs ++ tables_1 from List.mem_append_left _ h
theorem lw_m1 : ∀ w ∈ tables_1_1, w ∈ lw_tbl := fun w h => show w ∈ k2_sels lw_privs ++ tables_1 from List.mem_append_right (k2_sels lw_privs) (show w ∈ tables_1 from List.mem_append_left _ h)
theorem lw_m2 : ∀ w ∈ tables_1_2, w ∈ lw_tbl := fun w h => show w ∈ k2_sels lw_privs ++ tables_1 from List.mem_append_right (k2_sels lw_privs) (show w ∈ tables_1 from List.mem_append_right _ (List.mem_append_left _ h))
theorem lw_m3 : ∀ w ∈ tables_1_3, w ∈ lw_tbl := fun w h => show w ∈ k2_sels lw_privs ++ tables_1 from List.mem_append_right (k2_sels lw_privs) (show w ∈ tables_1 from List.mem_append_right _ (List.mem_append_right _ (List.mem_append_left _ h)))
theorem lw_m4 : ∀ w ∈ tables_1_4, w ∈ lw_tbl := fun w h => show w ∈ k2_sels lw_privs ++ tables_1 from List.mem_append_right (k2_sels lw_privs) (show w ∈ tables_1 from List.mem_append_right _ (List.mem_append_right _ (List.mem_append_right _ (List.mem_append_left _ h))))
theorem lw_m5 : ∀ w ∈ tables_1_5, w ∈ lw_tbl := fun w h => show w ∈ k2_sels lw_privs ++ tables_1 from List.mem_append_right (k2_sels lw_privs) (show w ∈ tables_1 from List.mem_append_right _ (List.mem_append_right _ (List.mem_append_right _ (List.mem_append_right _ (List.mem_append_left _ h)))))
theorem lw_m6 : ∀ w ∈ tables_1_6, w ∈ lw_tbl := fun w h => show w ∈ k2_sels lw_privs ++ tables_1 from List.mem_append_right (k2_sels lw_privs) (show w ∈ tables_1 from List.mem_append_right _ (List.mem_append_right _ (List.mem_append_right _ (List.mem_append_right _ (List.mem_append_right _ (List.mem_append_left _ h))))))
theorem lw_m7 : ∀ w ∈ tables_1_7, w ∈ lw_tbl := fun w h => show w ∈ k2_sels lw_privs ++ tables_1 from List.mem_append_right (k2_sels lw_privs) (show w ∈ tables_1 from List.mem_append_right _ (List.mem_append_right _ (List.mem_append_right _ (List.mem_append_right _ (List.mem_append_right _ (List.mem_append_right _ (List.mem_append_left _ h)))))))
theorem lw_m8 : ∀ w ∈ tables_1_8, w ∈ lw_tbl := fun w h => show w ∈ k2_sels lw_privs ++ tables_1 from List.mem_append_right (k2_sels lw_privs) (show w ∈ tables_1 from List.mem_append_right _ (List.mem_append_right _ (List.mem_append_right _ (List.mem_append_right _ (List.mem_append_right _ (List.mem_append_right _ (List.mem_append_right _ (List.mem_append_left _ h))))))))
theorem lw_m9 : ∀ w ∈ tables_1_9, w ∈ lw_tbl := fun w h => show w ∈ k2_sels lw_privs ++ tables_1 from List.mem_append_right (k2_sels lw_privs) (show w ∈ tables_1 from List.mem_append_right _ (List.mem_append_right _ (List.mem_append_right _ (List.mem_append_right _ (List.mem_append_right _ (List.mem_append_right _ (List.mem_append_right _ (List.mem_append_right _ (List.mem_append_left _ h)))))))))
theorem lw_m10 : ∀ w ∈ tables_1_10, w ∈ lw_tbl := fun w h => show w ∈ k2_sels lw_privs ++ tables_1 from List.mem_append_right (k2_sels lw_privs) (show w ∈ tables_1 from List.mem_append_right _ (List.mem_append_right _ (List.mem_append_right _ (List.mem_append_right _ (List.mem_append_right _ (List.mem_append_right _ (List.mem_append_right _ (List.mem_append_right _ (List.mem_append_right _ (List.mem_append_left _ h))))))))))
theorem lw_m11 : ∀ w ∈ tables_1_11, w ∈ lw_tbl := fun w h => show w ∈ k2_sels lw_privs ++ tables_1 from List.mem_append_right (k2_sels lw_privs) (show w ∈ tables_1 from List.mem_append_right _ (List.mem_append_right _ (List.mem_append_right _ (List.mem_append_right _ (List.mem_append_right _ (List.mem_append_right _ (List.mem_append_right _ (List.mem_append_right _ (List.mem_append_right _ (List.mem_append_right _ (List.mem_append_left _ h)))))))))))
theorem lw_m12 : ∀ w ∈ tables_1_12, w ∈ lw_tbl := fun w h => show w ∈ k2_sels lw_privs ++ tables_1 from List.mem_append_right (k2_sels lw_privs) (show w ∈ tables_1 from List.mem_append_right _ (List.mem_append_right _ (List.mem_append_right _ (List.mem_append_right _ (List.mem_append_right _ (List.mem_append_right _ (List.mem_append_right _ (List.mem_append_right _ (List.mem_append_right _ (List.mem_append_right _ (List.mem_append_right _ (List.mem_append_left _ h))))))))))))
theorem lw_m13 : ∀ w ∈ tables_1_13, w ∈ lw_tbl := fun w h => show w ∈ k2_sels lw_privs ++ tables_1 from List.mem_append_right (k2_sels lw_privs) (show w ∈ tables_1 from List.mem_append_right _ (List.mem_append_right _ (List.mem_append_right _ (List.mem_append_right _ (List.mem_append_right _ (List.mem_append_right _ (List.mem_append_right _ (List.mem_append_right _ (List.mem_append_right _ (List.mem_append_right _ (List.mem_append_right _ (List.mem_append_right _ h))))))))))))
theorem qs0 : (Cond.selects "java/util/ArrayList" ⟨"java/util/ArrayList", "add", "(Ljava/lang/Object;[Ljava/lang/Object;I)V"⟩ ⟨"java/util/ArrayList", "add", "(Ljava/lang/Object;[Ljava/lang/Object;I)V"⟩) ∈ lw_all := lw_g (lw_at lw_ms 0 rfl) rfl
theorem qs1 : (Cond.selects "java/util/ArrayList" ⟨"java/util/ArrayList", "grow", "()[Ljava/lang/Object;"⟩ ⟨"java/util/ArrayList", "grow", "()[Ljava/lang/Object;"⟩) ∈ lw_all := lw_g (lw_at lw_ms 1 rfl) rfl
theorem qs2 : (Cond.selects "java/util/ArrayList" ⟨"java/util/ArrayList", "grow", "(I)[Ljava/lang/Object;"⟩ ⟨"java/util/ArrayList", "grow", "(I)[Ljava/lang/Object;"⟩) ∈ lw_all := lw_g (lw_at lw_ms 2 rfl) rfl
theorem qs3 : (Cond.selects "CueStack" ⟨"CueStack", "lambda$new$0", "(II)I"⟩ ⟨"CueStack", "lambda$new$0", "(II)I"⟩) ∈ lw_all := lw_g (lw_at lw_ms 3 rfl) rfl
theorem qs4 : (Cond.selects "java/lang/Throwable" ⟨"java/lang/Throwable", "fillInStackTrace", "(I)Ljava/lang/Throwable;"⟩ ⟨"java/lang/Throwable", "fillInStackTrace", "(I)Ljava/lang/Throwable;"⟩) ∈ lw_all := lw_g (lw_at lw_ms 4 rfl) rfl
theorem qs5 : (Cond.selects "CueStack$Show" ⟨"CueStack$Show", "beginsAnew", "(I)Z"⟩ ⟨"CueStack$Show", "beginsAnew", "(I)Z"⟩) ∈ lw_all := lw_g (lw_at lw_ms 5 rfl) rfl
theorem qs6 : (Cond.selects "CueStack" ⟨"CueStack", "lambda$new$1", "(II)I"⟩ ⟨"CueStack", "lambda$new$1", "(II)I"⟩) ∈ lw_all := lw_g (lw_at lw_ms 6 rfl) rfl
theorem qs7 : (Cond.selects "CueStack" ⟨"CueStack", "sumOfFades", "(I)I"⟩ ⟨"CueStack", "sumOfFades", "(I)I"⟩) ∈ lw_all := lw_g (lw_at lw_ms 7 rfl) rfl
theorem qs8 : (Cond.selects "java/util/LinkedHashMap" ⟨"java/util/LinkedHashMap", "transferLinks", "(Ljava/util/LinkedHashMap$Entry;Ljava/util/LinkedHashMap$Entry;)V"⟩ ⟨"java/util/LinkedHashMap", "transferLinks", "(Ljava/util/LinkedHashMap$Entry;Ljava/util/LinkedHashMap$Entry;)V"⟩) ∈ lw_all := lw_g (lw_at lw_ms 8 rfl) rfl
theorem qs9 : (Cond.selects "java/util/LinkedHashMap" ⟨"java/util/LinkedHashMap", "linkNodeAtEnd", "(Ljava/util/LinkedHashMap$Entry;)V"⟩ ⟨"java/util/LinkedHashMap", "linkNodeAtEnd", "(Ljava/util/LinkedHashMap$Entry;)V"⟩) ∈ lw_all := lw_g (lw_at lw_ms 9 rfl) rfl
theorem qs10 : (Cond.selects "java/util/ArrayList" ⟨"java/util/ArrayList", "rangeCheckForAdd", "(I)V"⟩ ⟨"java/util/ArrayList", "rangeCheckForAdd", "(I)V"⟩) ∈ lw_all := lw_g (lw_at lw_ms 10 rfl) rfl
theorem qs11 : (Cond.selects "java/util/ArrayList" ⟨"java/util/ArrayList", "outOfBoundsMsg", "(I)Ljava/lang/String;"⟩ ⟨"java/util/ArrayList", "outOfBoundsMsg", "(I)Ljava/lang/String;"⟩) ∈ lw_all := lw_g (lw_at lw_ms 11 rfl) rfl
theorem qs12 : (Cond.selects "CueStack" ⟨"CueStack", "become", "(LCueStack$Show;)V"⟩ ⟨"CueStack", "become", "(LCueStack$Show;)V"⟩) ∈ lw_all := lw_g (lw_at lw_ms 12 rfl) rfl
theorem qs13 : (Cond.selects "java/util/ArrayList" ⟨"java/util/ArrayList", "fastRemove", "([Ljava/lang/Object;I)V"⟩ ⟨"java/util/ArrayList", "fastRemove", "([Ljava/lang/Object;I)V"⟩) ∈ lw_all := lw_g (lw_at lw_ms 13 rfl) rfl
theorem qs14 : (Cond.selects "CueStack$Show" ⟨"CueStack$Show", "removeInstructions", "(I)V"⟩ ⟨"CueStack$Show", "removeInstructions", "(I)V"⟩) ∈ lw_all := lw_g (lw_at lw_ms 14 rfl) rfl
theorem qs15 : (Cond.selects "CueStack$Show" ⟨"CueStack$Show", "holds", "(III)Z"⟩ ⟨"CueStack$Show", "holds", "(III)Z"⟩) ∈ lw_all := lw_g (lw_at lw_ms 15 rfl) rfl
theorem qs16 : (Cond.selects "CueStack" ⟨"CueStack", "kept", "(LCueStack$Refusal;)Ljava/lang/UnsupportedOperationException;"⟩ ⟨"CueStack", "kept", "(LCueStack$Refusal;)Ljava/lang/UnsupportedOperationException;"⟩) ∈ lw_all := lw_g (lw_at lw_ms 16 rfl) rfl
theorem qs17 : (Cond.selects "CueStack" ⟨"CueStack", "levelsIn", "(I)[I"⟩ ⟨"CueStack", "levelsIn", "(I)[I"⟩) ∈ lw_all := lw_g (lw_at lw_ms 17 rfl) rfl
theorem qs18 : (Cond.selects "CueStack" ⟨"CueStack", "lambda$setBlock$2", "(I[II)Z"⟩ ⟨"CueStack", "lambda$setBlock$2", "(I[II)Z"⟩) ∈ lw_all := lw_g (lw_at lw_ms 18 rfl) rfl
theorem qs19 : (Cond.selects "CueStack" ⟨"CueStack", "lambda$cue$3", "(II)Z"⟩ ⟨"CueStack", "lambda$cue$3", "(II)Z"⟩) ∈ lw_all := lw_g (lw_at lw_ms 19 rfl) rfl
theorem qs20 : (Cond.selects "CueStack" ⟨"CueStack", "lengthOf", "(I)I"⟩ ⟨"CueStack", "lengthOf", "(I)I"⟩) ∈ lw_all := lw_g (lw_at lw_ms 20 rfl) rfl
theorem qs21 : (Cond.selects "CueStack" ⟨"CueStack", "edit", "(IILCueStack$Instruction;Z)I"⟩ ⟨"CueStack", "edit", "(IILCueStack$Instruction;Z)I"⟩) ∈ lw_all := lw_g (lw_at lw_ms 21 rfl) rfl
theorem qs22 : (Cond.selects "CueStack" ⟨"CueStack", "keyAt", "(I)LCueStack$Key;"⟩ ⟨"CueStack", "keyAt", "(I)LCueStack$Key;"⟩) ∈ lw_all := lw_g (lw_at lw_ms 22 rfl) rfl
theorem qs23 : (Cond.selects "CueStack" ⟨"CueStack", "by", "(LCueStack$Levels;II)I"⟩ ⟨"CueStack", "by", "(LCueStack$Levels;II)I"⟩) ∈ lw_all := lw_g (lw_at lw_ms 23 rfl) rfl
theorem qs24 : (Cond.selects "CueStack" ⟨"CueStack", "lambda$source$4", "(II)I"⟩ ⟨"CueStack", "lambda$source$4", "(II)I"⟩) ∈ lw_all := lw_g (lw_at lw_ms 24 rfl) rfl
theorem qs25 : (Cond.selects "CueStack" ⟨"CueStack", "lambda$apart$5", "(III)Z"⟩ ⟨"CueStack", "lambda$apart$5", "(III)Z"⟩) ∈ lw_all := lw_g (lw_at lw_ms 25 rfl) rfl
theorem qs26 : (Cond.selects "CueStack" ⟨"CueStack", "steps", "(Z)I"⟩ ⟨"CueStack", "steps", "(Z)I"⟩) ∈ lw_all := lw_g (lw_at lw_ms 26 rfl) rfl
theorem qs27 : (Cond.selects "CueStack$Show" ⟨"CueStack$Show", "isTenthDone", "()Z"⟩ ⟨"CueStack$Show", "isTenthDone", "()Z"⟩) ∈ lw_all := lw_g (lw_at lw_ms 27 rfl) rfl
theorem qs28 : (Cond.selects "CueStack" ⟨"CueStack", "fading", "()I"⟩ ⟨"CueStack", "fading", "()I"⟩) ∈ lw_all := lw_g (lw_at lw_ms 28 rfl) rfl
theorem qs29 : (Cond.selects "CueStack" ⟨"CueStack", "lambda$fading$6", "(I)Z"⟩ ⟨"CueStack", "lambda$fading$6", "(I)Z"⟩) ∈ lw_all := lw_g (lw_at lw_ms 29 rfl) rfl
theorem qs30 : (Cond.selects "CueStack" ⟨"CueStack", "releases", "()I"⟩ ⟨"CueStack", "releases", "()I"⟩) ∈ lw_all := lw_g (lw_at lw_ms 30 rfl) rfl
theorem qs31 : (Cond.selects "CueStack" ⟨"CueStack", "sumOfCues", "(I)I"⟩ ⟨"CueStack", "sumOfCues", "(I)I"⟩) ∈ lw_all := lw_g (lw_at lw_ms 31 rfl) rfl
theorem qs32 : (Cond.selects "CueStack" ⟨"CueStack", "lambda$sumOfCues$7", "(II)Z"⟩ ⟨"CueStack", "lambda$sumOfCues$7", "(II)Z"⟩) ∈ lw_all := lw_g (lw_at lw_ms 32 rfl) rfl
theorem qs33 : (Cond.selects "CueStack$Parser" ⟨"CueStack$Parser", "entry", "()V"⟩ ⟨"CueStack$Parser", "entry", "()V"⟩) ∈ lw_all := lw_g (lw_at lw_ms 33 rfl) rfl
theorem qs34 : (Cond.selects "CueStack$Parser" ⟨"CueStack$Parser", "peek", "()C"⟩ ⟨"CueStack$Parser", "peek", "()C"⟩) ∈ lw_all := lw_g (lw_at lw_ms 34 rfl) rfl
theorem qs35 : (Cond.selects "CueStack$Parser" ⟨"CueStack$Parser", "number", "(I)I"⟩ ⟨"CueStack$Parser", "number", "(I)I"⟩) ∈ lw_all := lw_g (lw_at lw_ms 35 rfl) rfl
theorem qs36 : (Cond.selects "CueStack$Parser" ⟨"CueStack$Parser", "expect", "(C)V"⟩ ⟨"CueStack$Parser", "expect", "(C)V"⟩) ∈ lw_all := lw_g (lw_at lw_ms 36 rfl) rfl
theorem qs37 : (Cond.selects "CueStack" ⟨"CueStack", "applyTo", "(LCueStack$Show;LCueStack$Entry;)V"⟩ ⟨"CueStack", "applyTo", "(LCueStack$Show;LCueStack$Entry;)V"⟩) ∈ lw_all := lw_g (lw_at lw_ms 37 rfl) rfl
theorem qs38 : (Cond.selects "CueStackModel" ⟨"CueStackModel", "begin", "()V"⟩ ⟨"CueStackModel", "begin", "()V"⟩) ∈ lw_all := lw_g (lw_at lw_ms 38 rfl) rfl
theorem qs39 : (Cond.selects "CueStackModel" ⟨"CueStackModel", "keepState", "()V"⟩ ⟨"CueStackModel", "keepState", "()V"⟩) ∈ lw_all := lw_g (lw_at lw_ms 39 rfl) rfl
theorem qs40 : (Cond.selects "CueStackModel" ⟨"CueStackModel", "doAdd", "(I)I"⟩ ⟨"CueStackModel", "doAdd", "(I)I"⟩) ∈ lw_all := lw_g (lw_at lw_ms 40 rfl) rfl
theorem qs41 : (Cond.selects "CueStackModel" ⟨"CueStackModel", "isCue", "(I)Z"⟩ ⟨"CueStackModel", "isCue", "(I)Z"⟩) ∈ lw_all := lw_g (lw_at lw_ms 41 rfl) rfl
theorem qs42 : (Cond.selects "CueStackModel" ⟨"CueStackModel", "placeOf", "(I)I"⟩ ⟨"CueStackModel", "placeOf", "(I)I"⟩) ∈ lw_all := lw_g (lw_at lw_ms 42 rfl) rfl
theorem qs43 : (Cond.selects "CueStackModel" ⟨"CueStackModel", "change", "()V"⟩ ⟨"CueStackModel", "change", "()V"⟩) ∈ lw_all := lw_g (lw_at lw_ms 43 rfl) rfl
theorem qs44 : (Cond.selects "CueStackModel" ⟨"CueStackModel", "changes", "()V"⟩ ⟨"CueStackModel", "changes", "()V"⟩) ∈ lw_all := lw_g (lw_at lw_ms 44 rfl) rfl
theorem qs45 : (Cond.selects "CueStackModel" ⟨"CueStackModel", "keepLevels", "()V"⟩ ⟨"CueStackModel", "keepLevels", "()V"⟩) ∈ lw_all := lw_g (lw_at lw_ms 45 rfl) rfl
theorem qs46 : (Cond.selects "CueStackModel" ⟨"CueStackModel", "levelIn", "(II)I"⟩ ⟨"CueStackModel", "levelIn", "(II)I"⟩) ∈ lw_all := lw_g (lw_at lw_ms 46 rfl) rfl
theorem qs47 : (Cond.selects "CueStackModel" ⟨"CueStackModel", "given", "(II)I"⟩ ⟨"CueStackModel", "given", "(II)I"⟩) ∈ lw_all := lw_g (lw_at lw_ms 47 rfl) rfl
theorem qs48 : (Cond.selects "CueStackModel" ⟨"CueStackModel", "isBlock", "(I)Z"⟩ ⟨"CueStackModel", "isBlock", "(I)Z"⟩) ∈ lw_all := lw_g (lw_at lw_ms 48 rfl) rfl
theorem qs49 : (Cond.selects "CueStackModel" ⟨"CueStackModel", "partAt", "(IIZ)I"⟩ ⟨"CueStackModel", "partAt", "(IIZ)I"⟩) ∈ lw_all := lw_g (lw_at lw_ms 49 rfl) rfl
theorem qs50 : (Cond.selects "CueStackModel" ⟨"CueStackModel", "countOf", "(I)I"⟩ ⟨"CueStackModel", "countOf", "(I)I"⟩) ∈ lw_all := lw_g (lw_at lw_ms 50 rfl) rfl
theorem qs51 : (Cond.selects "CueStackModel" ⟨"CueStackModel", "moves", "(II)Z"⟩ ⟨"CueStackModel", "moves", "(II)Z"⟩) ∈ lw_all := lw_g (lw_at lw_ms 51 rfl) rfl
theorem qs52 : (Cond.selects "CueStackModel" ⟨"CueStackModel", "lengthOf", "(II)I"⟩ ⟨"CueStackModel", "lengthOf", "(II)I"⟩) ∈ lw_all := lw_g (lw_at lw_ms 52 rfl) rfl
theorem qs53 : (Cond.selects "CueStackModel" ⟨"CueStackModel", "partOf", "(II)I"⟩ ⟨"CueStackModel", "partOf", "(II)I"⟩) ∈ lw_all := lw_g (lw_at lw_ms 53 rfl) rfl
theorem qs54 : (Cond.selects "CueStackModel" ⟨"CueStackModel", "doGive", "(IIIIZ)I"⟩ ⟨"CueStackModel", "doGive", "(IIIIZ)I"⟩) ∈ lw_all := lw_g (lw_at lw_ms 54 rfl) rfl
theorem qs55 : (Cond.selects "CueStackModel" ⟨"CueStackModel", "giveHeld", "(IIIIZ)I"⟩ ⟨"CueStackModel", "giveHeld", "(IIIIZ)I"⟩) ∈ lw_all := lw_g (lw_at lw_ms 55 rfl) rfl
theorem qs56 : (Cond.selects "CueStackModel" ⟨"CueStackModel", "wouldHoldProtected", "(III)Z"⟩ ⟨"CueStackModel", "wouldHoldProtected", "(III)Z"⟩) ∈ lw_all := lw_g (lw_at lw_ms 56 rfl) rfl
theorem qs57 : (Cond.selects "CueStackModel" ⟨"CueStackModel", "give", "(IIII)V"⟩ ⟨"CueStackModel", "give", "(IIII)V"⟩) ∈ lw_all := lw_g (lw_at lw_ms 57 rfl) rfl
theorem qs58 : (Cond.selects "CueStackModel" ⟨"CueStackModel", "hold", "(II)I"⟩ ⟨"CueStackModel", "hold", "(II)I"⟩) ∈ lw_all := lw_g (lw_at lw_ms 58 rfl) rfl
theorem qs59 : (Cond.selects "CueStackModel" ⟨"CueStackModel", "refuse", "(I)I"⟩ ⟨"CueStackModel", "refuse", "(I)I"⟩) ∈ lw_all := lw_g (lw_at lw_ms 59 rfl) rfl
theorem qs60 : (Cond.selects "CueStackModel" ⟨"CueStackModel", "changed", "(I)I"⟩ ⟨"CueStackModel", "changed", "(I)I"⟩) ∈ lw_all := lw_g (lw_at lw_ms 60 rfl) rfl
theorem qs61 : (Cond.selects "CueStackModel" ⟨"CueStackModel", "takeHeld", "(IIZ)I"⟩ ⟨"CueStackModel", "takeHeld", "(IIZ)I"⟩) ∈ lw_all := lw_g (lw_at lw_ms 61 rfl) rfl
theorem qs62 : (Cond.selects "CueStackModel" ⟨"CueStackModel", "takeAway", "(I)V"⟩ ⟨"CueStackModel", "takeAway", "(I)V"⟩) ∈ lw_all := lw_g (lw_at lw_ms 62 rfl) rfl
theorem qs63 : (Cond.selects "CueStackModel" ⟨"CueStackModel", "doRemove", "(IZ)I"⟩ ⟨"CueStackModel", "doRemove", "(IZ)I"⟩) ∈ lw_all := lw_g (lw_at lw_ms 63 rfl) rfl
theorem qs64 : (Cond.selects "CueStackModel" ⟨"CueStackModel", "steps", "(Z)I"⟩ ⟨"CueStackModel", "steps", "(Z)I"⟩) ∈ lw_all := lw_g (lw_at lw_ms 64 rfl) rfl
theorem qs65 : (Cond.selects "CueStackModel" ⟨"CueStackModel", "doGo", "(Z)I"⟩ ⟨"CueStackModel", "doGo", "(Z)I"⟩) ∈ lw_all := lw_g (lw_at lw_ms 65 rfl) rfl
theorem qs66 : (Cond.selects "CueStackModel" ⟨"CueStackModel", "cueAhead", "(I)I"⟩ ⟨"CueStackModel", "cueAhead", "(I)I"⟩) ∈ lw_all := lw_g (lw_at lw_ms 66 rfl) rfl
theorem qs67 : (Cond.selects "CueStackModel" ⟨"CueStackModel", "nextCue", "(I)I"⟩ ⟨"CueStackModel", "nextCue", "(I)I"⟩) ∈ lw_all := lw_g (lw_at lw_ms 67 rfl) rfl
theorem qs68 : (Cond.selects "CueStackModel" ⟨"CueStackModel", "goes", "(I)I"⟩ ⟨"CueStackModel", "goes", "(I)I"⟩) ∈ lw_all := lw_g (lw_at lw_ms 68 rfl) rfl
theorem qs69 : (Cond.selects "CueStackModel" ⟨"CueStackModel", "nowOf", "(I)I"⟩ ⟨"CueStackModel", "nowOf", "(I)I"⟩) ∈ lw_all := lw_g (lw_at lw_ms 69 rfl) rfl
theorem qs70 : (Cond.selects "CueStackModel" ⟨"CueStackModel", "doPass", "(I)I"⟩ ⟨"CueStackModel", "doPass", "(I)I"⟩) ∈ lw_all := lw_g (lw_at lw_ms 70 rfl) rfl
theorem qs71 : (Cond.selects "CueStackModel" ⟨"CueStackModel", "follows", "()Z"⟩ ⟨"CueStackModel", "follows", "()Z"⟩) ∈ lw_all := lw_g (lw_at lw_ms 71 rfl) rfl
theorem qs72 : (Cond.selects "CueStackModel" ⟨"CueStackModel", "fading", "()I"⟩ ⟨"CueStackModel", "fading", "()I"⟩) ∈ lw_all := lw_g (lw_at lw_ms 72 rfl) rfl
theorem qs73 : (Cond.selects "CueStackModel" ⟨"CueStackModel", "isFading", "(I)Z"⟩ ⟨"CueStackModel", "isFading", "(I)Z"⟩) ∈ lw_all := lw_g (lw_at lw_ms 73 rfl) rfl
theorem qs74 : (Cond.selects "CueStackModel" ⟨"CueStackModel", "overChannels", "(I)I"⟩ ⟨"CueStackModel", "overChannels", "(I)I"⟩) ∈ lw_all := lw_g (lw_at lw_ms 74 rfl) rfl
theorem qs75 : (Cond.selects "CueStackModel" ⟨"CueStackModel", "overCues", "(I)I"⟩ ⟨"CueStackModel", "overCues", "(I)I"⟩) ∈ lw_all := lw_g (lw_at lw_ms 75 rfl) rfl
theorem qs76 : (Cond.selects "CueStackModel" ⟨"CueStackModel", "readEntry", "()V"⟩ ⟨"CueStackModel", "readEntry", "()V"⟩) ∈ lw_all := lw_g (lw_at lw_ms 76 rfl) rfl
theorem qs77 : (Cond.selects "CueStackModel" ⟨"CueStackModel", "number", "(I)I"⟩ ⟨"CueStackModel", "number", "(I)I"⟩) ∈ lw_all := lw_g (lw_at lw_ms 77 rfl) rfl
theorem qs78 : (Cond.selects "CueStackModel" ⟨"CueStackModel", "isHere", "(CC)Z"⟩ ⟨"CueStackModel", "isHere", "(CC)Z"⟩) ∈ lw_all := lw_g (lw_at lw_ms 78 rfl) rfl
theorem qs79 : (Cond.selects "CueStackModel" ⟨"CueStackModel", "behind", "(CI)I"⟩ ⟨"CueStackModel", "behind", "(CI)I"⟩) ∈ lw_all := lw_g (lw_at lw_ms 79 rfl) rfl
theorem qs80 : (Cond.selects "CueStackModel" ⟨"CueStackModel", "sign", "(C)V"⟩ ⟨"CueStackModel", "sign", "(C)V"⟩) ∈ lw_all := lw_g (lw_at lw_ms 80 rfl) rfl
theorem qs81 : (Cond.selects "CueStackModel" ⟨"CueStackModel", "fails", "(I)Z"⟩ ⟨"CueStackModel", "fails", "(I)Z"⟩) ∈ lw_all := lw_g (lw_at lw_ms 81 rfl) rfl
theorem qs82 : (Cond.selects "CueStackModel" ⟨"CueStackModel", "isTold", "(I)Z"⟩ ⟨"CueStackModel", "isTold", "(I)Z"⟩) ∈ lw_all := lw_g (lw_at lw_ms 82 rfl) rfl
-- ===== end of PART A; then your names; then what follows =====
