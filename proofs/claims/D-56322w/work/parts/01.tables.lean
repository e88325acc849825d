-- ===== PART A: goes FIRST, ahead of the names: the tables' words, and 'selects' of the private methods out of them =====
/-- a private method of a class that the tables say can be made, by its rows of tables_1 -/
def lw_okq (q : MethodName × Nat) : Prop := (q.1.cls ≠ "java/lang/invoke/MethodHandle" ∧ q.1.cls ≠ "java/lang/invoke/VarHandle") ∧ Cond.instantiable q.1.cls q.2 ∈ tables_1 ∧ Cond.privateMethod q.1 ∈ tables_1 ∧ Cond.instanceMethod q.1 ∈ tables_1
set_option maxRecDepth 100000
theorem lw_t1 {w : Cond} (h : w ∈ tables_1_1) : w ∈ tables_1 := List.mem_append_left _ h
theorem lw_t2 {w : Cond} (h : w ∈ tables_1_2) : w ∈ tables_1 := List.mem_append_right _ (List.mem_append_left _ h)
theorem lw_t3 {w : Cond} (h : w ∈ tables_1_3) : w ∈ tables_1 := List.mem_append_right _ (List.mem_append_right _ (List.mem_append_left _ h))
theorem lw_t4 {w : Cond} (h : w ∈ tables_1_4) : w ∈ tables_1 := List.mem_append_right _ (List.mem_append_right _ (List.mem_append_right _ (List.mem_append_left _ h)))
theorem lw_t5 {w : Cond} (h : w ∈ tables_1_5) : w ∈ tables_1 := List.mem_append_right _ (List.mem_append_right _ (List.mem_append_right _ (List.mem_append_right _ (List.mem_append_left _ h))))
theorem lw_t6 {w : Cond} (h : w ∈ tables_1_6) : w ∈ tables_1 := List.mem_append_right _ (List.mem_append_right _ (List.mem_append_right _ (List.mem_append_right _ (List.mem_append_right _ (List.mem_append_left _ h)))))
theorem lw_t7 {w : Cond} (h : w ∈ tables_1_7) : w ∈ tables_1 := List.mem_append_right _ (List.mem_append_right _ (List.mem_append_right _ (List.mem_append_right _ (List.mem_append_right _ (List.mem_append_right _ (List.mem_append_left _ h))))))
theorem lw_t8 {w : Cond} (h : w ∈ tables_1_8) : w ∈ tables_1 := List.mem_append_right _ (List.mem_append_right _ (List.mem_append_right _ (List.mem_append_right _ (List.mem_append_right _ (List.mem_append_right _ (List.mem_append_right _ (List.mem_append_left _ h)))))))
theorem lw_t9 {w : Cond} (h : w ∈ tables_1_9) : w ∈ tables_1 := List.mem_append_right _ (List.mem_append_right _ (List.mem_append_right _ (List.mem_append_right _ (List.mem_append_right _ (List.mem_append_right _ (List.mem_append_right _ (List.mem_append_right _ (List.mem_append_left _ h))))))))
theorem lw_t10 {w : Cond} (h : w ∈ tables_1_10) : w ∈ tables_1 := List.mem_append_right _ (List.mem_append_right _ (List.mem_append_right _ (List.mem_append_right _ (List.mem_append_right _ (List.mem_append_right _ (List.mem_append_right _ (List.mem_append_right _ (List.mem_append_right _ (List.mem_append_left _ h)))))))))
theorem lw_t11 {w : Cond} (h : w ∈ tables_1_11) : w ∈ tables_1 := List.mem_append_right _ (List.mem_append_right _ (List.mem_append_right _ (List.mem_append_right _ (List.mem_append_right _ (List.mem_append_right _ (List.mem_append_right _ (List.mem_append_right _ (List.mem_append_right _ (List.mem_append_right _ (List.mem_append_left _ h))))))))))
theorem lw_t12 {w : Cond} (h : w ∈ tables_1_12) : w ∈ tables_1 := List.mem_append_right _ (List.mem_append_right _ (List.mem_append_right _ (List.mem_append_right _ (List.mem_append_right _ (List.mem_append_right _ (List.mem_append_right _ (List.mem_append_right _ (List.mem_append_right _ (List.mem_append_right _ (List.mem_append_right _ h))))))))))
theorem lw_p0 : lw_okq (⟨"RainbowOperators", "commit", "(Ljava/lang/String;Ljava/lang/String;I)I"⟩, 7) := ⟨⟨by decide +kernel, by decide +kernel⟩, lw_t1 (List.mem_of_getElem? (i := 50) rfl), lw_t1 (List.mem_of_getElem? (i := 190) rfl), lw_t1 (List.mem_of_getElem? (i := 191) rfl)⟩
theorem lw_p1 : lw_okq (⟨"java/lang/Throwable", "fillInStackTrace", "(I)Ljava/lang/Throwable;"⟩, 6) := ⟨⟨by decide +kernel, by decide +kernel⟩, lw_t3 (List.mem_of_getElem? (i := 88) rfl), lw_t3 (List.mem_of_getElem? (i := 86) rfl), lw_t3 (List.mem_of_getElem? (i := 87) rfl)⟩
theorem lw_p2 : lw_okq (⟨"RainbowOperators$Grower", "core", "()LRainbowOperators$Part;"⟩, 3) := ⟨⟨by decide +kernel, by decide +kernel⟩, lw_t5 (List.mem_of_getElem? (i := 37) rfl), lw_t5 (List.mem_of_getElem? (i := 58) rfl), lw_t5 (List.mem_of_getElem? (i := 59) rfl)⟩
theorem lw_p3 : lw_okq (⟨"RainbowOperators$Grower", "take", "()C"⟩, 3) := ⟨⟨by decide +kernel, by decide +kernel⟩, lw_t5 (List.mem_of_getElem? (i := 37) rfl), lw_t5 (List.mem_of_getElem? (i := 62) rfl), lw_t5 (List.mem_of_getElem? (i := 63) rfl)⟩
theorem lw_p4 : lw_okq (⟨"RainbowOperators$Grower", "isOperatorFrom", "(I)Z"⟩, 3) := ⟨⟨by decide +kernel, by decide +kernel⟩, lw_t5 (List.mem_of_getElem? (i := 37) rfl), lw_t5 (List.mem_of_getElem? (i := 102) rfl), lw_t5 (List.mem_of_getElem? (i := 103) rfl)⟩
theorem lw_p5 : lw_okq (⟨"RainbowOperators", "replaceBy", "(LRainbowOperators$Sheet;I)I"⟩, 7) := ⟨⟨by decide +kernel, by decide +kernel⟩, lw_t1 (List.mem_of_getElem? (i := 50) rfl), lw_t5 (List.mem_of_getElem? (i := 174) rfl), lw_t5 (List.mem_of_getElem? (i := 175) rfl)⟩
theorem lw_p6 : lw_okq (⟨"java/util/ArrayDeque", "grow", "(I)V"⟩, 3) := ⟨⟨by decide +kernel, by decide +kernel⟩, lw_t1 (List.mem_of_getElem? (i := 137) rfl), lw_t5 (List.mem_of_getElem? (i := 222) rfl), lw_t5 (List.mem_of_getElem? (i := 223) rfl)⟩
theorem lw_p7 : lw_okq (⟨"java/util/ArrayDeque", "newCapacity", "(II)I"⟩, 3) := ⟨⟨by decide +kernel, by decide +kernel⟩, lw_t1 (List.mem_of_getElem? (i := 137) rfl), lw_t5 (List.mem_of_getElem? (i := 227) rfl), lw_t5 (List.mem_of_getElem? (i := 228) rfl)⟩
theorem lw_p8 : lw_okq (⟨"RainbowOperators", "deny", "(LRainbowOperators$Denial;)Ljava/lang/UnsupportedOperationException;"⟩, 7) := ⟨⟨by decide +kernel, by decide +kernel⟩, lw_t1 (List.mem_of_getElem? (i := 50) rfl), lw_t6 (List.mem_of_getElem? (i := 57) rfl), lw_t6 (List.mem_of_getElem? (i := 58) rfl)⟩
theorem lw_p9 : lw_okq (⟨"RainbowOperators", "tree", "()LRainbowOperators$Part;"⟩, 7) := ⟨⟨by decide +kernel, by decide +kernel⟩, lw_t1 (List.mem_of_getElem? (i := 50) rfl), lw_t6 (List.mem_of_getElem? (i := 232) rfl), lw_t6 (List.mem_of_getElem? (i := 233) rfl)⟩
theorem lw_p10 : lw_okq (⟨"RainbowOperators$Computer", "read", "(C)V"⟩, 4) := ⟨⟨by decide +kernel, by decide +kernel⟩, lw_t7 (List.mem_of_getElem? (i := 5) rfl), lw_t7 (List.mem_of_getElem? (i := 32) rfl), lw_t7 (List.mem_of_getElem? (i := 33) rfl)⟩
theorem lw_p11 : lw_okq (⟨"RainbowOperators$Computer", "applyToSun", "()V"⟩, 4) := ⟨⟨by decide +kernel, by decide +kernel⟩, lw_t7 (List.mem_of_getElem? (i := 5) rfl), lw_t7 (List.mem_of_getElem? (i := 59) rfl), lw_t7 (List.mem_of_getElem? (i := 60) rfl)⟩
theorem lw_p12 : lw_okq (⟨"RainbowOperators$Computer", "applyLast", "()V"⟩, 4) := ⟨⟨by decide +kernel, by decide +kernel⟩, lw_t7 (List.mem_of_getElem? (i := 5) rfl), lw_t7 (List.mem_of_getElem? (i := 80) rfl), lw_t7 (List.mem_of_getElem? (i := 81) rfl)⟩
theorem lw_p13 : lw_okq (⟨"RainbowOperators$Computer", "isAppliedAheadOf", "(C)Z"⟩, 4) := ⟨⟨by decide +kernel, by decide +kernel⟩, lw_t7 (List.mem_of_getElem? (i := 5) rfl), lw_t7 (List.mem_of_getElem? (i := 108) rfl), lw_t7 (List.mem_of_getElem? (i := 109) rfl)⟩
theorem lw_p14 : lw_okq (⟨"RainbowOperators", "fullTextOf", "(Ljava/lang/String;)Ljava/lang/String;"⟩, 7) := ⟨⟨by decide +kernel, by decide +kernel⟩, lw_t1 (List.mem_of_getElem? (i := 50) rfl), lw_t8 (List.mem_of_getElem? (i := 4) rfl), lw_t8 (List.mem_of_getElem? (i := 5) rfl)⟩
theorem lw_p15 : lw_okq (⟨"RainbowOperators$Row", "make", "(II)V"⟩, 7) := ⟨⟨by decide +kernel, by decide +kernel⟩, lw_t8 (List.mem_of_getElem? (i := 19) rfl), lw_t8 (List.mem_of_getElem? (i := 80) rfl), lw_t8 (List.mem_of_getElem? (i := 81) rfl)⟩
def lw_privs_1 : List (MethodName × Nat) := [(⟨"RainbowOperators", "commit", "(Ljava/lang/String;Ljava/lang/String;I)I"⟩, 7), (⟨"java/lang/Throwable", "fillInStackTrace", "(I)Ljava/lang/Throwable;"⟩, 6), (⟨"RainbowOperators$Grower", "core", "()LRainbowOperators$Part;"⟩, 3), (⟨"RainbowOperators$Grower", "take", "()C"⟩, 3), (⟨"RainbowOperators$Grower", "isOperatorFrom", "(I)Z"⟩, 3), (⟨"RainbowOperators", "replaceBy", "(LRainbowOperators$Sheet;I)I"⟩, 7), (⟨"java/util/ArrayDeque", "grow", "(I)V"⟩, 3), (⟨"java/util/ArrayDeque", "newCapacity", "(II)I"⟩, 3), (⟨"RainbowOperators", "deny", "(LRainbowOperators$Denial;)Ljava/lang/UnsupportedOperationException;"⟩, 7), (⟨"RainbowOperators", "tree", "()LRainbowOperators$Part;"⟩, 7), (⟨"RainbowOperators$Computer", "read", "(C)V"⟩, 4), (⟨"RainbowOperators$Computer", "applyToSun", "()V"⟩, 4), (⟨"RainbowOperators$Computer", "applyLast", "()V"⟩, 4), (⟨"RainbowOperators$Computer", "isAppliedAheadOf", "(C)Z"⟩, 4), (⟨"RainbowOperators", "fullTextOf", "(Ljava/lang/String;)Ljava/lang/String;"⟩, 7), (⟨"RainbowOperators$Row", "make", "(II)V"⟩, 7)]
theorem lw_r1 : ∀ q ∈ lw_privs_1, lw_okq q := List.forall_mem_cons.mpr ⟨lw_p0, List.forall_mem_cons.mpr ⟨lw_p1, List.forall_mem_cons.mpr ⟨lw_p2, List.forall_mem_cons.mpr ⟨lw_p3, List.forall_mem_cons.mpr ⟨lw_p4, List.forall_mem_cons.mpr ⟨lw_p5, List.forall_mem_cons.mpr ⟨lw_p6, List.forall_mem_cons.mpr ⟨lw_p7, List.forall_mem_cons.mpr ⟨lw_p8, List.forall_mem_cons.mpr ⟨lw_p9, List.forall_mem_cons.mpr ⟨lw_p10, List.forall_mem_cons.mpr ⟨lw_p11, List.forall_mem_cons.mpr ⟨lw_p12, List.forall_mem_cons.mpr ⟨lw_p13, List.forall_mem_cons.mpr ⟨lw_p14, List.forall_mem_cons.mpr ⟨lw_p15, fun _ h => absurd h List.not_mem_nil⟩⟩⟩⟩⟩⟩⟩⟩⟩⟩⟩⟩⟩⟩⟩⟩
theorem lw_p16 : lw_okq (⟨"RainbowOperators$Row", "find", "([Z[[III)V"⟩, 7) := ⟨⟨by decide +kernel, by decide +kernel⟩, lw_t8 (List.mem_of_getElem? (i := 19) rfl), lw_t8 (List.mem_of_getElem? (i := 99) rfl), lw_t8 (List.mem_of_getElem? (i := 100) rfl)⟩
theorem lw_p17 : lw_okq (⟨"RainbowOperators", "parse", "()Ljava/util/Optional;"⟩, 7) := ⟨⟨by decide +kernel, by decide +kernel⟩, lw_t1 (List.mem_of_getElem? (i := 50) rfl), lw_t8 (List.mem_of_getElem? (i := 170) rfl), lw_t8 (List.mem_of_getElem? (i := 171) rfl)⟩
theorem lw_p18 : lw_okq (⟨"RainbowOperators$Parser", "command", "()LRainbowOperators$Change;"⟩, 2) := ⟨⟨by decide +kernel, by decide +kernel⟩, lw_t8 (List.mem_of_getElem? (i := 175) rfl), lw_t8 (List.mem_of_getElem? (i := 218) rfl), lw_t8 (List.mem_of_getElem? (i := 219) rfl)⟩
theorem lw_p19 : lw_okq (⟨"RainbowOperators$Parser", "word", "()Ljava/lang/String;"⟩, 2) := ⟨⟨by decide +kernel, by decide +kernel⟩, lw_t8 (List.mem_of_getElem? (i := 175) rfl), lw_t8 (List.mem_of_getElem? (i := 222) rfl), lw_t8 (List.mem_of_getElem? (i := 223) rfl)⟩
theorem lw_p20 : lw_okq (⟨"RainbowOperators$Parser", "take", "(Ljava/lang/String;)C"⟩, 2) := ⟨⟨by decide +kernel, by decide +kernel⟩, lw_t8 (List.mem_of_getElem? (i := 175) rfl), lw_t9 (List.mem_of_getElem? (i := 44) rfl), lw_t9 (List.mem_of_getElem? (i := 45) rfl)⟩
theorem lw_p21 : lw_okq (⟨"RainbowOperators$Parser", "isAt", "(Ljava/lang/String;)Z"⟩, 2) := ⟨⟨by decide +kernel, by decide +kernel⟩, lw_t8 (List.mem_of_getElem? (i := 175) rfl), lw_t9 (List.mem_of_getElem? (i := 48) rfl), lw_t9 (List.mem_of_getElem? (i := 49) rfl)⟩
theorem lw_p22 : lw_okq (⟨"RainbowOperators$Parser", "digit", "()I"⟩, 2) := ⟨⟨by decide +kernel, by decide +kernel⟩, lw_t8 (List.mem_of_getElem? (i := 175) rfl), lw_t9 (List.mem_of_getElem? (i := 60) rfl), lw_t9 (List.mem_of_getElem? (i := 61) rfl)⟩
theorem lw_p23 : lw_okq (⟨"java/util/ArrayList", "add", "(Ljava/lang/Object;[Ljava/lang/Object;I)V"⟩, 3) := ⟨⟨by decide +kernel, by decide +kernel⟩, lw_t8 (List.mem_of_getElem? (i := 192) rfl), lw_t9 (List.mem_of_getElem? (i := 78) rfl), lw_t9 (List.mem_of_getElem? (i := 79) rfl)⟩
theorem lw_p24 : lw_okq (⟨"java/util/ArrayList", "grow", "()[Ljava/lang/Object;"⟩, 3) := ⟨⟨by decide +kernel, by decide +kernel⟩, lw_t8 (List.mem_of_getElem? (i := 192) rfl), lw_t9 (List.mem_of_getElem? (i := 82) rfl), lw_t9 (List.mem_of_getElem? (i := 83) rfl)⟩
theorem lw_p25 : lw_okq (⟨"java/util/ArrayList", "grow", "(I)[Ljava/lang/Object;"⟩, 3) := ⟨⟨by decide +kernel, by decide +kernel⟩, lw_t8 (List.mem_of_getElem? (i := 192) rfl), lw_t9 (List.mem_of_getElem? (i := 86) rfl), lw_t9 (List.mem_of_getElem? (i := 87) rfl)⟩
theorem lw_p26 : lw_okq (⟨"RainbowOperators", "latestDenial", "()LRainbowOperators$Denial;"⟩, 7) := ⟨⟨by decide +kernel, by decide +kernel⟩, lw_t1 (List.mem_of_getElem? (i := 50) rfl), lw_t9 (List.mem_of_getElem? (i := 236) rfl), lw_t9 (List.mem_of_getElem? (i := 237) rfl)⟩
theorem lw_p27 : lw_okq (⟨"RainbowOperatorsModel", "fails", "(I)Z"⟩, 34) := ⟨⟨by decide +kernel, by decide +kernel⟩, lw_t10 (List.mem_of_getElem? (i := 50) rfl), lw_t10 (List.mem_of_getElem? (i := 186) rfl), lw_t10 (List.mem_of_getElem? (i := 187) rfl)⟩
theorem lw_p28 : lw_okq (⟨"RainbowOperatorsModel", "denies", "(III)I"⟩, 34) := ⟨⟨by decide +kernel, by decide +kernel⟩, lw_t10 (List.mem_of_getElem? (i := 50) rfl), lw_t10 (List.mem_of_getElem? (i := 190) rfl), lw_t10 (List.mem_of_getElem? (i := 191) rfl)⟩
theorem lw_p29 : lw_okq (⟨"RainbowOperatorsModel", "operandMany", "()I"⟩, 34) := ⟨⟨by decide +kernel, by decide +kernel⟩, lw_t10 (List.mem_of_getElem? (i := 50) rfl), lw_t10 (List.mem_of_getElem? (i := 194) rfl), lw_t10 (List.mem_of_getElem? (i := 195) rfl)⟩
theorem lw_p30 : lw_okq (⟨"RainbowOperatorsModel", "draft", "(I)I"⟩, 34) := ⟨⟨by decide +kernel, by decide +kernel⟩, lw_t10 (List.mem_of_getElem? (i := 50) rfl), lw_t10 (List.mem_of_getElem? (i := 198) rfl), lw_t10 (List.mem_of_getElem? (i := 199) rfl)⟩
theorem lw_p31 : lw_okq (⟨"RainbowOperatorsModel", "keeps", "([I)V"⟩, 34) := ⟨⟨by decide +kernel, by decide +kernel⟩, lw_t10 (List.mem_of_getElem? (i := 50) rfl), lw_t10 (List.mem_of_getElem? (i := 202) rfl), lw_t10 (List.mem_of_getElem? (i := 203) rfl)⟩
def lw_privs_2 : List (MethodName × Nat) := [(⟨"RainbowOperators$Row", "find", "([Z[[III)V"⟩, 7), (⟨"RainbowOperators", "parse", "()Ljava/util/Optional;"⟩, 7), (⟨"RainbowOperators$Parser", "command", "()LRainbowOperators$Change;"⟩, 2), (⟨"RainbowOperators$Parser", "word", "()Ljava/lang/String;"⟩, 2), (⟨"RainbowOperators$Parser", "take", "(Ljava/lang/String;)C"⟩, 2), (⟨"RainbowOperators$Parser", "isAt", "(Ljava/lang/String;)Z"⟩, 2), (⟨"RainbowOperators$Parser", "digit", "()I"⟩, 2), (⟨"java/util/ArrayList", "add", "(Ljava/lang/Object;[Ljava/lang/Object;I)V"⟩, 3), (⟨"java/util/ArrayList", "grow", "()[Ljava/lang/Object;"⟩, 3), (⟨"java/util/ArrayList", "grow", "(I)[Ljava/lang/Object;"⟩, 3), (⟨"RainbowOperators", "latestDenial", "()LRainbowOperators$Denial;"⟩, 7), (⟨"RainbowOperatorsModel", "fails", "(I)Z"⟩, 34), (⟨"RainbowOperatorsModel", "denies", "(III)I"⟩, 34), (⟨"RainbowOperatorsModel", "operandMany", "()I"⟩, 34), (⟨"RainbowOperatorsModel", "draft", "(I)I"⟩, 34), (⟨"RainbowOperatorsModel", "keeps", "([I)V"⟩, 34)]
theorem lw_r2 : ∀ q ∈ lw_privs_2, lw_okq q := List.forall_mem_cons.mpr ⟨lw_p16, List.forall_mem_cons.mpr ⟨lw_p17, List.forall_mem_cons.mpr ⟨lw_p18, List.forall_mem_cons.mpr ⟨lw_p19, List.forall_mem_cons.mpr ⟨lw_p20, List.forall_mem_cons.mpr ⟨lw_p21, List.forall_mem_cons.mpr ⟨lw_p22, List.forall_mem_cons.mpr ⟨lw_p23, List.forall_mem_cons.mpr ⟨lw_p24, List.forall_mem_cons.mpr ⟨lw_p25, List.forall_mem_cons.mpr ⟨lw_p26, List.forall_mem_cons.mpr ⟨lw_p27, List.forall_mem_cons.mpr ⟨lw_p28, List.forall_mem_cons.mpr ⟨lw_p29, List.forall_mem_cons.mpr ⟨lw_p30, List.forall_mem_cons.mpr ⟨lw_p31, fun _ h => absurd h List.not_mem_nil⟩⟩⟩⟩⟩⟩⟩⟩⟩⟩⟩⟩⟩⟩⟩⟩
theorem lw_p32 : lw_okq (⟨"RainbowOperatorsModel", "broken", "()I"⟩, 34) := ⟨⟨by decide +kernel, by decide +kernel⟩, lw_t10 (List.mem_of_getElem? (i := 50) rfl), lw_t10 (List.mem_of_getElem? (i := 233) rfl), lw_t10 (List.mem_of_getElem? (i := 234) rfl)⟩
theorem lw_p33 : lw_okq (⟨"RainbowOperatorsModel", "isRight", "(I)Z"⟩, 34) := ⟨⟨by decide +kernel, by decide +kernel⟩, lw_t10 (List.mem_of_getElem? (i := 50) rfl), lw_t11 (List.mem_of_getElem? (i := 19) rfl), lw_t11 (List.mem_of_getElem? (i := 20) rfl)⟩
theorem lw_p34 : lw_okq (⟨"RainbowOperatorsModel", "worthAll", "()I"⟩, 34) := ⟨⟨by decide +kernel, by decide +kernel⟩, lw_t10 (List.mem_of_getElem? (i := 50) rfl), lw_t11 (List.mem_of_getElem? (i := 56) rfl), lw_t11 (List.mem_of_getElem? (i := 57) rfl)⟩
theorem lw_p35 : lw_okq (⟨"RainbowOperatorsModel", "isDraft", "()Z"⟩, 34) := ⟨⟨by decide +kernel, by decide +kernel⟩, lw_t10 (List.mem_of_getElem? (i := 50) rfl), lw_t11 (List.mem_of_getElem? (i := 60) rfl), lw_t11 (List.mem_of_getElem? (i := 61) rfl)⟩
theorem lw_p36 : lw_okq (⟨"RainbowOperatorsModel", "worth", "(II)I"⟩, 34) := ⟨⟨by decide +kernel, by decide +kernel⟩, lw_t10 (List.mem_of_getElem? (i := 50) rfl), lw_t11 (List.mem_of_getElem? (i := 64) rfl), lw_t11 (List.mem_of_getElem? (i := 65) rfl)⟩
theorem lw_p37 : lw_okq (⟨"RainbowOperatorsModel", "split", "(II)I"⟩, 34) := ⟨⟨by decide +kernel, by decide +kernel⟩, lw_t10 (List.mem_of_getElem? (i := 50) rfl), lw_t11 (List.mem_of_getElem? (i := 68) rfl), lw_t11 (List.mem_of_getElem? (i := 69) rfl)⟩
theorem lw_p38 : lw_okq (⟨"RainbowOperatorsModel", "behind", "(I)I"⟩, 34) := ⟨⟨by decide +kernel, by decide +kernel⟩, lw_t10 (List.mem_of_getElem? (i := 50) rfl), lw_t11 (List.mem_of_getElem? (i := 72) rfl), lw_t11 (List.mem_of_getElem? (i := 73) rfl)⟩
theorem lw_p39 : lw_okq (⟨"RainbowOperatorsModel", "closing", "(I)I"⟩, 34) := ⟨⟨by decide +kernel, by decide +kernel⟩, lw_t10 (List.mem_of_getElem? (i := 50) rfl), lw_t11 (List.mem_of_getElem? (i := 76) rfl), lw_t11 (List.mem_of_getElem? (i := 77) rfl)⟩
theorem lw_p40 : lw_okq (⟨"RainbowOperatorsModel", "shade", "(I)I"⟩, 34) := ⟨⟨by decide +kernel, by decide +kernel⟩, lw_t10 (List.mem_of_getElem? (i := 50) rfl), lw_t11 (List.mem_of_getElem? (i := 80) rfl), lw_t11 (List.mem_of_getElem? (i := 81) rfl)⟩
theorem lw_p41 : lw_okq (⟨"RainbowOperatorsModel", "operandValue", "(I)I"⟩, 34) := ⟨⟨by decide +kernel, by decide +kernel⟩, lw_t10 (List.mem_of_getElem? (i := 50) rfl), lw_t11 (List.mem_of_getElem? (i := 84) rfl), lw_t11 (List.mem_of_getElem? (i := 85) rfl)⟩
theorem lw_p42 : lw_okq (⟨"RainbowOperatorsModel", "tall", "(II)I"⟩, 34) := ⟨⟨by decide +kernel, by decide +kernel⟩, lw_t10 (List.mem_of_getElem? (i := 50) rfl), lw_t11 (List.mem_of_getElem? (i := 100) rfl), lw_t11 (List.mem_of_getElem? (i := 101) rfl)⟩
theorem lw_p43 : lw_okq (⟨"RainbowOperatorsModel", "remembers", "()V"⟩, 34) := ⟨⟨by decide +kernel, by decide +kernel⟩, lw_t10 (List.mem_of_getElem? (i := 50) rfl), lw_t11 (List.mem_of_getElem? (i := 120) rfl), lw_t11 (List.mem_of_getElem? (i := 121) rfl)⟩
theorem lw_p44 : lw_okq (⟨"RainbowOperatorsModel", "appliesAll", "()V"⟩, 34) := ⟨⟨by decide +kernel, by decide +kernel⟩, lw_t10 (List.mem_of_getElem? (i := 50) rfl), lw_t11 (List.mem_of_getElem? (i := 124) rfl), lw_t11 (List.mem_of_getElem? (i := 125) rfl)⟩
theorem lw_p45 : lw_okq (⟨"RainbowOperatorsModel", "applies", "(II)V"⟩, 34) := ⟨⟨by decide +kernel, by decide +kernel⟩, lw_t10 (List.mem_of_getElem? (i := 50) rfl), lw_t11 (List.mem_of_getElem? (i := 128) rfl), lw_t11 (List.mem_of_getElem? (i := 129) rfl)⟩
theorem lw_p46 : lw_okq (⟨"RainbowOperatorsModel", "placesOf", "(II)I"⟩, 34) := ⟨⟨by decide +kernel, by decide +kernel⟩, lw_t10 (List.mem_of_getElem? (i := 50) rfl), lw_t11 (List.mem_of_getElem? (i := 132) rfl), lw_t11 (List.mem_of_getElem? (i := 133) rfl)⟩
theorem lw_p47 : lw_okq (⟨"RainbowOperatorsModel", "isIdle", "(IZ)Z"⟩, 34) := ⟨⟨by decide +kernel, by decide +kernel⟩, lw_t10 (List.mem_of_getElem? (i := 50) rfl), lw_t11 (List.mem_of_getElem? (i := 136) rfl), lw_t11 (List.mem_of_getElem? (i := 137) rfl)⟩
def lw_privs_3 : List (MethodName × Nat) := [(⟨"RainbowOperatorsModel", "broken", "()I"⟩, 34), (⟨"RainbowOperatorsModel", "isRight", "(I)Z"⟩, 34), (⟨"RainbowOperatorsModel", "worthAll", "()I"⟩, 34), (⟨"RainbowOperatorsModel", "isDraft", "()Z"⟩, 34), (⟨"RainbowOperatorsModel", "worth", "(II)I"⟩, 34), (⟨"RainbowOperatorsModel", "split", "(II)I"⟩, 34), (⟨"RainbowOperatorsModel", "behind", "(I)I"⟩, 34), (⟨"RainbowOperatorsModel", "closing", "(I)I"⟩, 34), (⟨"RainbowOperatorsModel", "shade", "(I)I"⟩, 34), (⟨"RainbowOperatorsModel", "operandValue", "(I)I"⟩, 34), (⟨"RainbowOperatorsModel", "tall", "(II)I"⟩, 34), (⟨"RainbowOperatorsModel", "remembers", "()V"⟩, 34), (⟨"RainbowOperatorsModel", "appliesAll", "()V"⟩, 34), (⟨"RainbowOperatorsModel", "applies", "(II)V"⟩, 34), (⟨"RainbowOperatorsModel", "placesOf", "(II)I"⟩, 34), (⟨"RainbowOperatorsModel", "isIdle", "(IZ)Z"⟩, 34)]
theorem lw_r3 : ∀ q ∈ lw_privs_3, lw_okq q := List.forall_mem_cons.mpr ⟨lw_p32, List.forall_mem_cons.mpr ⟨lw_p33, List.forall_mem_cons.mpr ⟨lw_p34, List.forall_mem_cons.mpr ⟨lw_p35, List.forall_mem_cons.mpr ⟨lw_p36, List.forall_mem_cons.mpr ⟨lw_p37, List.forall_mem_cons.mpr ⟨lw_p38, List.forall_mem_cons.mpr ⟨lw_p39, List.forall_mem_cons.mpr ⟨lw_p40, List.forall_mem_cons.mpr ⟨lw_p41, List.forall_mem_cons.mpr ⟨lw_p42, List.forall_mem_cons.mpr ⟨lw_p43, List.forall_mem_cons.mpr ⟨lw_p44, List.forall_mem_cons.mpr ⟨lw_p45, List.forall_mem_cons.mpr ⟨lw_p46, List.forall_mem_cons.mpr ⟨lw_p47, fun _ h => absurd h List.not_mem_nil⟩⟩⟩⟩⟩⟩⟩⟩⟩⟩⟩⟩⟩⟩⟩⟩
theorem lw_p48 : lw_okq (⟨"RainbowOperatorsModel", "takes", "(I)V"⟩, 34) := ⟨⟨by decide +kernel, by decide +kernel⟩, lw_t10 (List.mem_of_getElem? (i := 50) rfl), lw_t11 (List.mem_of_getElem? (i := 140) rfl), lw_t11 (List.mem_of_getElem? (i := 141) rfl)⟩
theorem lw_p49 : lw_okq (⟨"RainbowOperatorsModel", "isSame", "()Z"⟩, 34) := ⟨⟨by decide +kernel, by decide +kernel⟩, lw_t10 (List.mem_of_getElem? (i := 50) rfl), lw_t11 (List.mem_of_getElem? (i := 144) rfl), lw_t11 (List.mem_of_getElem? (i := 145) rfl)⟩
theorem lw_p50 : lw_okq (⟨"RainbowOperatorsModel", "inserts", "(III)V"⟩, 34) := ⟨⟨by decide +kernel, by decide +kernel⟩, lw_t10 (List.mem_of_getElem? (i := 50) rfl), lw_t11 (List.mem_of_getElem? (i := 148) rfl), lw_t11 (List.mem_of_getElem? (i := 149) rfl)⟩
theorem lw_p51 : lw_okq (⟨"RainbowOperatorsModel", "bracketMany", "()J"⟩, 34) := ⟨⟨by decide +kernel, by decide +kernel⟩, lw_t10 (List.mem_of_getElem? (i := 50) rfl), lw_t11 (List.mem_of_getElem? (i := 156) rfl), lw_t11 (List.mem_of_getElem? (i := 157) rfl)⟩
theorem lw_p52 : lw_okq (⟨"RainbowOperatorsModel", "brackets", "()I"⟩, 34) := ⟨⟨by decide +kernel, by decide +kernel⟩, lw_t10 (List.mem_of_getElem? (i := 50) rfl), lw_t11 (List.mem_of_getElem? (i := 160) rfl), lw_t11 (List.mem_of_getElem? (i := 161) rfl)⟩
theorem lw_p53 : lw_okq (⟨"RainbowOperatorsModel", "rows", "()V"⟩, 34) := ⟨⟨by decide +kernel, by decide +kernel⟩, lw_t10 (List.mem_of_getElem? (i := 50) rfl), lw_t11 (List.mem_of_getElem? (i := 164) rfl), lw_t11 (List.mem_of_getElem? (i := 165) rfl)⟩
theorem lw_p54 : lw_okq (⟨"RainbowOperatorsModel", "joins", "(IIII)I"⟩, 34) := ⟨⟨by decide +kernel, by decide +kernel⟩, lw_t10 (List.mem_of_getElem? (i := 50) rfl), lw_t11 (List.mem_of_getElem? (i := 168) rfl), lw_t11 (List.mem_of_getElem? (i := 169) rfl)⟩
theorem lw_p55 : lw_okq (⟨"RainbowOperatorsModel", "best", "()I"⟩, 34) := ⟨⟨by decide +kernel, by decide +kernel⟩, lw_t10 (List.mem_of_getElem? (i := 50) rfl), lw_t11 (List.mem_of_getElem? (i := 180) rfl), lw_t11 (List.mem_of_getElem? (i := 181) rfl)⟩
theorem lw_p56 : lw_okq (⟨"RainbowOperatorsModel", "isText", "()Z"⟩, 34) := ⟨⟨by decide +kernel, by decide +kernel⟩, lw_t10 (List.mem_of_getElem? (i := 50) rfl), lw_t11 (List.mem_of_getElem? (i := 209) rfl), lw_t11 (List.mem_of_getElem? (i := 210) rfl)⟩
theorem lw_p57 : lw_okq (⟨"RainbowOperatorsModel", "commandHere", "()Z"⟩, 34) := ⟨⟨by decide +kernel, by decide +kernel⟩, lw_t10 (List.mem_of_getElem? (i := 50) rfl), lw_t11 (List.mem_of_getElem? (i := 213) rfl), lw_t11 (List.mem_of_getElem? (i := 214) rfl)⟩
theorem lw_p58 : lw_okq (⟨"RainbowOperatorsModel", "skips", "(I)Z"⟩, 34) := ⟨⟨by decide +kernel, by decide +kernel⟩, lw_t10 (List.mem_of_getElem? (i := 50) rfl), lw_t11 (List.mem_of_getElem? (i := 217) rfl), lw_t11 (List.mem_of_getElem? (i := 218) rfl)⟩
theorem lw_p59 : lw_okq (⟨"RainbowOperatorsModel", "here", "()I"⟩, 34) := ⟨⟨by decide +kernel, by decide +kernel⟩, lw_t10 (List.mem_of_getElem? (i := 50) rfl), lw_t11 (List.mem_of_getElem? (i := 221) rfl), lw_t11 (List.mem_of_getElem? (i := 222) rfl)⟩
theorem lw_p60 : lw_okq (⟨"RainbowOperatorsModel", "isWord", "(ILjava/lang/String;)Z"⟩, 34) := ⟨⟨by decide +kernel, by decide +kernel⟩, lw_t10 (List.mem_of_getElem? (i := 50) rfl), lw_t11 (List.mem_of_getElem? (i := 226) rfl), lw_t11 (List.mem_of_getElem? (i := 227) rfl)⟩
theorem lw_p61 : lw_okq (⟨"RainbowOperatorsModel", "charactersHere", "(I)Z"⟩, 34) := ⟨⟨by decide +kernel, by decide +kernel⟩, lw_t10 (List.mem_of_getElem? (i := 50) rfl), lw_t11 (List.mem_of_getElem? (i := 232) rfl), lw_t11 (List.mem_of_getElem? (i := 233) rfl)⟩
theorem lw_p62 : lw_okq (⟨"RainbowOperatorsModel", "one", "(II)Z"⟩, 34) := ⟨⟨by decide +kernel, by decide +kernel⟩, lw_t10 (List.mem_of_getElem? (i := 50) rfl), lw_t11 (List.mem_of_getElem? (i := 239) rfl), lw_t12 (List.mem_of_getElem? (i := 0) rfl)⟩
theorem lw_p63 : lw_okq (⟨"RainbowOperatorsModel", "carries", "(I)I"⟩, 34) := ⟨⟨by decide +kernel, by decide +kernel⟩, lw_t10 (List.mem_of_getElem? (i := 50) rfl), lw_t12 (List.mem_of_getElem? (i := 6) rfl), lw_t12 (List.mem_of_getElem? (i := 7) rfl)⟩
def lw_privs_4 : List (MethodName × Nat) := [(⟨"RainbowOperatorsModel", "takes", "(I)V"⟩, 34), (⟨"RainbowOperatorsModel", "isSame", "()Z"⟩, 34), (⟨"RainbowOperatorsModel", "inserts", "(III)V"⟩, 34), (⟨"RainbowOperatorsModel", "bracketMany", "()J"⟩, 34), (⟨"RainbowOperatorsModel", "brackets", "()I"⟩, 34), (⟨"RainbowOperatorsModel", "rows", "()V"⟩, 34), (⟨"RainbowOperatorsModel", "joins", "(IIII)I"⟩, 34), (⟨"RainbowOperatorsModel", "best", "()I"⟩, 34), (⟨"RainbowOperatorsModel", "isText", "()Z"⟩, 34), (⟨"RainbowOperatorsModel", "commandHere", "()Z"⟩, 34), (⟨"RainbowOperatorsModel", "skips", "(I)Z"⟩, 34), (⟨"RainbowOperatorsModel", "here", "()I"⟩, 34), (⟨"RainbowOperatorsModel", "isWord", "(ILjava/lang/String;)Z"⟩, 34), (⟨"RainbowOperatorsModel", "charactersHere", "(I)Z"⟩, 34), (⟨"RainbowOperatorsModel", "one", "(II)Z"⟩, 34), (⟨"RainbowOperatorsModel", "carries", "(I)I"⟩, 34)]
theorem lw_r4 : ∀ q ∈ lw_privs_4, lw_okq q := List.forall_mem_cons.mpr ⟨lw_p48, List.forall_mem_cons.mpr ⟨lw_p49, List.forall_mem_cons.mpr ⟨lw_p50, List.forall_mem_cons.mpr ⟨lw_p51, List.forall_mem_cons.mpr ⟨lw_p52, List.forall_mem_cons.mpr ⟨lw_p53, List.forall_mem_cons.mpr ⟨lw_p54, List.forall_mem_cons.mpr ⟨lw_p55, List.forall_mem_cons.mpr ⟨lw_p56, List.forall_mem_cons.mpr ⟨lw_p57, List.forall_mem_cons.mpr ⟨lw_p58, List.forall_mem_cons.mpr ⟨lw_p59, List.forall_mem_cons.mpr ⟨lw_p60, List.forall_mem_cons.mpr ⟨lw_p61, List.forall_mem_cons.mpr ⟨lw_p62, List.forall_mem_cons.mpr ⟨lw_p63, fun _ h => absurd h List.not_mem_nil⟩⟩⟩⟩⟩⟩⟩⟩⟩⟩⟩⟩⟩⟩⟩⟩
theorem lw_p64 : lw_okq (⟨"RainbowOperatorsModel", "puts", "(II)I"⟩, 34) := ⟨⟨by decide +kernel, by decide +kernel⟩, lw_t10 (List.mem_of_getElem? (i := 50) rfl), lw_t12 (List.mem_of_getElem? (i := 10) rfl), lw_t12 (List.mem_of_getElem? (i := 11) rfl)⟩
theorem lw_p65 : lw_okq (⟨"RainbowOperatorsModel", "deniesText", "(I)I"⟩, 34) := ⟨⟨by decide +kernel, by decide +kernel⟩, lw_t10 (List.mem_of_getElem? (i := 50) rfl), lw_t12 (List.mem_of_getElem? (i := 21) rfl), lw_t12 (List.mem_of_getElem? (i := 22) rfl)⟩
theorem lw_p66 : lw_okq (⟨"RainbowOperatorsModel", "writesFull", "(II)V"⟩, 34) := ⟨⟨by decide +kernel, by decide +kernel⟩, lw_t10 (List.mem_of_getElem? (i := 50) rfl), lw_t12 (List.mem_of_getElem? (i := 33) rfl), lw_t12 (List.mem_of_getElem? (i := 34) rfl)⟩
theorem lw_p67 : lw_okq (⟨"RainbowOperatorsModel", "writes", "(I)V"⟩, 34) := ⟨⟨by decide +kernel, by decide +kernel⟩, lw_t10 (List.mem_of_getElem? (i := 50) rfl), lw_t12 (List.mem_of_getElem? (i := 37) rfl), lw_t12 (List.mem_of_getElem? (i := 38) rfl)⟩
def lw_privs_5 : List (MethodName × Nat) := [(⟨"RainbowOperatorsModel", "puts", "(II)I"⟩, 34), (⟨"RainbowOperatorsModel", "deniesText", "(I)I"⟩, 34), (⟨"RainbowOperatorsModel", "writesFull", "(II)V"⟩, 34), (⟨"RainbowOperatorsModel", "writes", "(I)V"⟩, 34)]
theorem lw_r5 : ∀ q ∈ lw_privs_5, lw_okq q := List.forall_mem_cons.mpr ⟨lw_p64, List.forall_mem_cons.mpr ⟨lw_p65, List.forall_mem_cons.mpr ⟨lw_p66, List.forall_mem_cons.mpr ⟨lw_p67, fun _ h => absurd h List.not_mem_nil⟩⟩⟩⟩
def lw_privs : List (MethodName × Nat) := lw_privs_1 ++ (lw_privs_2 ++ (lw_privs_3 ++ (lw_privs_4 ++ (lw_privs_5))))
def lw_tbl : List Cond := k2_sels lw_privs ++ tables_1
theorem lw_privs_ok : ∀ q ∈ lw_privs, lw_okq q := by
  show ∀ q ∈ lw_privs_1 ++ (lw_privs_2 ++ (lw_privs_3 ++ (lw_privs_4 ++ (lw_privs_5)))), lw_okq q
  exact List.forall_mem_append.mpr ⟨lw_r1, List.forall_mem_append.mpr ⟨lw_r2, List.forall_mem_append.mpr ⟨lw_r3, List.forall_mem_append.mpr ⟨lw_r4, lw_r5⟩⟩⟩⟩
-- ===== ONE list of words for every method: the tables' words that hold all through a run =====
def lw_all : List Cond := lw_tbl.filter goodWord
/-- a word of the tables by its place: claim/WORDS.tsv -/
theorem lw_w {w : Cond} (i : Nat) (h : lw_tbl[i]? = some w) (g : goodWord w = true) : w ∈ lw_all := List.mem_filter.mpr ⟨List.mem_of_getElem? h, g⟩
theorem lw_all_tbl {w : Cond} (h : w ∈ lw_all) : w ∈ lw_tbl := (List.mem_filter.mp h).1
theorem lw_self : GoodIn lw_all lw_all := fun w h => ⟨h, good_of_word (List.mem_filter.mp h).2⟩
/-- a class's field words, by their places -/
theorem lw_in (ws : List Cond) (ps : List Nat) (hp : ws = ps.filterMap (fun i => lw_tbl[i]?)) (hg : ws.all goodWord = true) : ∀ w ∈ ws, w ∈ lw_all := by
  intro w h
  have h1 := List.all_eq_true.mp hg w h
  rw [hp] at h
  obtain ⟨i, -, hi⟩ := List.mem_filterMap.mp h
  exact lw_w i hi h1
/-- the words of a contract for the method y with code b, L locals, answer r -/
abbrev ws_ (y : MethodName) (b : ByteArray) (L : Nat) (r : Option FieldType) : List Cond := Cond.code y b L r :: lw_all
theorem lw_meth {y : MethodName} {b : ByteArray} {L : Nat} {r : Option FieldType} (h : Cond.code y b L r ∈ lw_all) : GoodIn lw_all (ws_ y b L r) := by
  intro w hw
  rcases List.mem_cons.mp hw with e | e
  · rw [e]
    exact lw_self _ h
  · exact lw_self _ e
theorem lw_app {a c : List Cond} (ha : ∀ w ∈ a, w ∈ lw_all) (hc : GoodIn lw_all c) : GoodIn lw_all (a ++ c) := by
  intro w hw
  rcases List.mem_append.mp hw with e | e
  · exact lw_self w (ha w e)
  · exact hc w e
/-- what a call through an object asks: cwV n hts (lw_V ..) -/
theorem lw_V {own : String} {idx : Nat} {C : String} {y : MethodName} {b : ByteArray} {L : Nat} {r : Option FieldType} (h1 : Cond.methodLink own idx y ∈ lw_all) (h2 : Cond.instanceMethod y ∈ lw_all) (h3 : Cond.selects C y y ∈ lw_all) (h4 : Cond.initialized C ∈ lw_all) (h5 : Cond.code y b L r ∈ lw_all) : GoodIn lw_all (wsV own idx C y (ws_ y b L r)) := by
  refine lw_app ?_ (lw_meth h5)
  intro w hw
  simp only [List.mem_cons, List.not_mem_nil, or_false] at hw
  rcases hw with e | e | e | e
  · rw [e]; exact h1
  · rw [e]; exact h2
  · rw [e]; exact h3
  · rw [e]; exact h4
/-- what a static call asks: va_cwS n hts (lw_S ..) -/
theorem lw_S {own : String} {idx : Nat} {y : MethodName} {b : ByteArray} {L : Nat} {r : Option FieldType} (h1 : Cond.methodLink own idx y ∈ lw_all) (h2 : Cond.static y ∈ lw_all) (h3 : Cond.initialized y.cls ∈ lw_all) (h4 : Cond.code y b L r ∈ lw_all) : GoodIn lw_all (va_wsS own idx y (ws_ y b L r)) := by
  refine lw_app ?_ (lw_meth h4)
  intro w hw
  simp only [List.mem_cons, List.not_mem_nil, or_false] at hw
  rcases hw with e | e | e
  · rw [e]; exact h1
  · rw [e]; exact h2
  · rw [e]; exact h3
/-- the words of a contract for a method WITH HANDLERS (hh: its table) -/
abbrev wsW_ (y : MethodName) (b : ByteArray) (L : Nat) (r : Option FieldType) (hh : List (Nat × Nat × Nat × Nat)) : List Cond := Cond.codeWith y b L r hh :: lw_all
theorem lw_methW {y : MethodName} {b : ByteArray} {L : Nat} {r : Option FieldType} {hh : List (Nat × Nat × Nat × Nat)} (h : Cond.codeWith y b L r hh ∈ lw_all) : GoodIn lw_all (wsW_ y b L r hh) := by
  intro w hw
  rcases List.mem_cons.mp hw with e | e
  · rw [e]
    exact lw_self _ h
  · exact lw_self _ e
/-- any list of words by their places (lw_in), good -/
theorem lw_good {ws : List Cond} (h : ∀ w ∈ ws, w ∈ lw_all) : GoodIn lw_all ws := fun w hw => lw_self w (h w hw)
/-- what a call of a method with handlers asks: vx_cwVW n hts (lw_VW ..), vx_cwSW n hts (lw_SW ..) -/
theorem lw_VW {own : String} {idx : Nat} {C : String} {y : MethodName} {b : ByteArray} {L : Nat} {r : Option FieldType} {hh : List (Nat × Nat × Nat × Nat)} (h1 : Cond.methodLink own idx y ∈ lw_all) (h2 : Cond.instanceMethod y ∈ lw_all) (h3 : Cond.selects C y y ∈ lw_all) (h4 : Cond.initialized C ∈ lw_all) (h5 : Cond.codeWith y b L r hh ∈ lw_all) : GoodIn lw_all (wsV own idx C y (wsW_ y b L r hh)) := by
  refine lw_app ?_ (lw_methW h5)
  intro w hw
  simp only [List.mem_cons, List.not_mem_nil, or_false] at hw
  rcases hw with e | e | e | e
  · rw [e]; exact h1
  · rw [e]; exact h2
  · rw [e]; exact h3
  · rw [e]; exact h4
theorem lw_SW {own : String} {idx : Nat} {y : MethodName} {b : ByteArray} {L : Nat} {r : Option FieldType} {hh : List (Nat × Nat × Nat × Nat)} (h1 : Cond.methodLink own idx y ∈ lw_all) (h2 : Cond.static y ∈ lw_all) (h3 : Cond.initialized y.cls ∈ lw_all) (h4 : Cond.codeWith y b L r hh ∈ lw_all) : GoodIn lw_all (va_wsS own idx y (wsW_ y b L r hh)) := by
  refine lw_app ?_ (lw_methW h4)
  intro w hw
  simp only [List.mem_cons, List.not_mem_nil, or_false] at hw
  rcases hw with e | e | e
  · rw [e]; exact h1
  · rw [e]; exact h2
  · rw [e]; exact h3
/-- a word by its place in its run of the tables -/
theorem lw_at {r : List Cond} (hr : ∀ w ∈ r, w ∈ lw_tbl) {w : Cond} (i : Nat) (h : r[i]? = some w) : w ∈ lw_tbl := hr w (List.mem_of_getElem? h)
theorem lw_g {w : Cond} (h : w ∈ lw_tbl) (g : goodWord w = true) : w ∈ lw_all := List.mem_filter.mpr ⟨h, g⟩
theorem lw_ms : ∀ w ∈ k2_sels lw_privs, w ∈ lw_tbl := fun w h => show w ∈ k2_sels lw_privs ++ tables_1 from List.mem_append_left _ h
theorem lw_m1 : ∀ w ∈ tables_1_1, w ∈ lw_tbl := fun w h => show w ∈ k2_sels lw_privs ++ tables_1 from List.mem_append_right (k2_sels lw_privs) (show w ∈ tables_1 from List.mem_append_left _ h)
theorem lw_m2 : ∀ w ∈ tables_1_2, w ∈ lw_tbl := fun w h => show w ∈ k2_sels lw_privs ++ tables_1 from List.mem_append_right (k2_sels lw_privs) (show w ∈ tables_1 from List.mem_append_right _ (List.mem_append_left _ h))
theorem lw_m3 : ∀ w ∈ tables_1_3, w ∈ lw_tbl := fun w h => show w ∈ k2_sels lw_privs ++ tables_1 from List.mem_append_right (k2_sels lw_privs) (show w ∈ tables_1 from List.mem_append_right _ (List.mem_append_right _ (List.mem_append_left _ h)))
theorem lw_m4 : ∀ w ∈ tables_1_4, w ∈ lw_tbl := fun w h => show w ∈ k2_sels lw_privs ++ tables_1 from List.mem_append_right (k2_sels lw_privs) (show w ∈ tables_1 from List.mem_append_right _ (List.mem_append_right _ (List.mem_append_right _ (List.mem_append_left _ h))))
theorem lw_m5 : ∀ w ∈ tables_1_5, w ∈ lw_tbl := fun w h => show w ∈ k2_sels lw_privs ++ tables_1 from List.mem_append_right (k2_sels lw_privs) (show w ∈ tables_1 from List.mem_append_right _ (List.mem_append_right _ (List.mem_append_right _ (List.mem_append_right _ (List.mem_append_left _ h)))))
theorem lw_m6 : ∀ w ∈ tables_1_6, w ∈ lw_tbl := fun w h => show w ∈ k2_sels lw_privs ++ tables_1 from List.mem_append_right (k2_sels lw_privs) (show w ∈ tables_1 from List.mem_append_right _ (List.mem_append_right _ (List.mem_append_right _ (List.mem_append_right _ (List.mem_append_right _ (List.mem_append_left _ h))))))
theorem lw_m7 : ∀ w ∈ tables_1_7, w ∈ lw_tbl := fun w h => show w ∈ k2_sels lw_privs ++ tables_1 from List.mem_append_right (k2_sels lw_privs) (show w ∈ tables_1 from List.mem_append_right _ (List.mem_append_right _ (List.mem_append_right _ (List.mem_append_right _ (List.mem_append_right _ (List.mem_append_right _ (List.mem_append_left _ h)))))))
theorem lw_m8 : ∀ w ∈ tables_1_8, w ∈ lw_tbl := fun w h => show w ∈ k2_sels lw_privs ++ tables_1 from List.mem_append_right (k2_sels lw_privs) (show w ∈ tables_1 from List.mem_append_right _ (List.mem_append_right _ (List.mem_append_right _ (List.mem_append_right _ (List.mem_append_right _ (List.mem_append_right _ (List.mem_append_right _ (List.mem_append_left _ h))))))))
theorem lw_m9 : ∀ w ∈ tables_1_9, w ∈ lw_tbl := fun w h => show w ∈ k2_sels lw_privs ++ tables_1 from List.mem_append_right (k2_sels lw_privs) (show w ∈ tables_1 from List.mem_append_right _ (List.mem_append_right _ (List.mem_append_right _ (List.mem_append_right _ (List.mem_append_right _ (List.mem_append_right _ (List.mem_append_right _ (List.mem_append_right _ (List.mem_append_left _ h)))))))))
theorem lw_m10 : ∀ w ∈ tables_1_10, w ∈ lw_tbl := fun w h => show w ∈ k2_sels lw_privs ++ tables_1 from List.mem_append_right (k2_sels lw_privs) (show w ∈ tables_1 from List.mem_append_right _ (List.mem_append_right _ (List.mem_append_right _ (List.mem_append_right _ (List.mem_append_right _ (List.mem_append_right _ (List.mem_append_right _ (List.mem_append_right _ (List.mem_append_right _ (List.mem_append_left _ h))))))))))
theorem lw_m11 : ∀ w ∈ tables_1_11, w ∈ lw_tbl := fun w h => show w ∈ k2_sels lw_privs ++ tables_1 from List.mem_append_right (k2_sels lw_privs) (show w ∈ tables_1 from List.mem_append_right _ (List.mem_append_right _ (List.mem_append_right _ (List.mem_append_right _ (List.mem_append_right _ (List.mem_append_right _ (List.mem_append_right _ (List.mem_append_right _ (List.mem_append_right _ (List.mem_append_right _ (List.mem_append_left _ h)))))))))))
theorem lw_m12 : ∀ w ∈ tables_1_12, w ∈ lw_tbl := fun w h => show w ∈ k2_sels lw_privs ++ tables_1 from List.mem_append_right (k2_sels lw_privs) (show w ∈ tables_1 from List.mem_append_right _ (List.mem_append_right _ (List.mem_append_right _ (List.mem_append_right _ (List.mem_append_right _ (List.mem_append_right _ (List.mem_append_right _ (List.mem_append_right _ (List.mem_append_right _ (List.mem_append_right _ (List.mem_append_right _ h)))))))))))
theorem qs0 : (Cond.selects "RainbowOperators" ⟨"RainbowOperators", "commit", "(Ljava/lang/String;Ljava/lang/String;I)I"⟩ ⟨"RainbowOperators", "commit", "(Ljava/lang/String;Ljava/lang/String;I)I"⟩) ∈ lw_all := lw_g (lw_at lw_ms 0 rfl) rfl
theorem qs1 : (Cond.selects "java/lang/Throwable" ⟨"java/lang/Throwable", "fillInStackTrace", "(I)Ljava/lang/Throwable;"⟩ ⟨"java/lang/Throwable", "fillInStackTrace", "(I)Ljava/lang/Throwable;"⟩) ∈ lw_all := lw_g (lw_at lw_ms 1 rfl) rfl
theorem qs2 : (Cond.selects "RainbowOperators$Grower" ⟨"RainbowOperators$Grower", "core", "()LRainbowOperators$Part;"⟩ ⟨"RainbowOperators$Grower", "core", "()LRainbowOperators$Part;"⟩) ∈ lw_all := lw_g (lw_at lw_ms 2 rfl) rfl
theorem qs3 : (Cond.selects "RainbowOperators$Grower" ⟨"RainbowOperators$Grower", "take", "()C"⟩ ⟨"RainbowOperators$Grower", "take", "()C"⟩) ∈ lw_all := lw_g (lw_at lw_ms 3 rfl) rfl
theorem qs4 : (Cond.selects "RainbowOperators$Grower" ⟨"RainbowOperators$Grower", "isOperatorFrom", "(I)Z"⟩ ⟨"RainbowOperators$Grower", "isOperatorFrom", "(I)Z"⟩) ∈ lw_all := lw_g (lw_at lw_ms 4 rfl) rfl
theorem qs5 : (Cond.selects "RainbowOperators" ⟨"RainbowOperators", "replaceBy", "(LRainbowOperators$Sheet;I)I"⟩ ⟨"RainbowOperators", "replaceBy", "(LRainbowOperators$Sheet;I)I"⟩) ∈ lw_all := lw_g (lw_at lw_ms 5 rfl) rfl
theorem qs6 : (Cond.selects "java/util/ArrayDeque" ⟨"java/util/ArrayDeque", "grow", "(I)V"⟩ ⟨"java/util/ArrayDeque", "grow", "(I)V"⟩) ∈ lw_all := lw_g (lw_at lw_ms 6 rfl) rfl
theorem qs7 : (Cond.selects "java/util/ArrayDeque" ⟨"java/util/ArrayDeque", "newCapacity", "(II)I"⟩ ⟨"java/util/ArrayDeque", "newCapacity", "(II)I"⟩) ∈ lw_all := lw_g (lw_at lw_ms 7 rfl) rfl
theorem qs8 : (Cond.selects "RainbowOperators" ⟨"RainbowOperators", "deny", "(LRainbowOperators$Denial;)Ljava/lang/UnsupportedOperationException;"⟩ ⟨"RainbowOperators", "deny", "(LRainbowOperators$Denial;)Ljava/lang/UnsupportedOperationException;"⟩) ∈ lw_all := lw_g (lw_at lw_ms 8 rfl) rfl
theorem qs9 : (Cond.selects "RainbowOperators" ⟨"RainbowOperators", "tree", "()LRainbowOperators$Part;"⟩ ⟨"RainbowOperators", "tree", "()LRainbowOperators$Part;"⟩) ∈ lw_all := lw_g (lw_at lw_ms 9 rfl) rfl
theorem qs10 : (Cond.selects "RainbowOperators$Computer" ⟨"RainbowOperators$Computer", "read", "(C)V"⟩ ⟨"RainbowOperators$Computer", "read", "(C)V"⟩) ∈ lw_all := lw_g (lw_at lw_ms 10 rfl) rfl
theorem qs11 : (Cond.selects "RainbowOperators$Computer" ⟨"RainbowOperators$Computer", "applyToSun", "()V"⟩ ⟨"RainbowOperators$Computer", "applyToSun", "()V"⟩) ∈ lw_all := lw_g (lw_at lw_ms 11 rfl) rfl
theorem qs12 : (Cond.selects "RainbowOperators$Computer" ⟨"RainbowOperators$Computer", "applyLast", "()V"⟩ ⟨"RainbowOperators$Computer", "applyLast", "()V"⟩) ∈ lw_all := lw_g (lw_at lw_ms 12 rfl) rfl
theorem qs13 : (Cond.selects "RainbowOperators$Computer" ⟨"RainbowOperators$Computer", "isAppliedAheadOf", "(C)Z"⟩ ⟨"RainbowOperators$Computer", "isAppliedAheadOf", "(C)Z"⟩) ∈ lw_all := lw_g (lw_at lw_ms 13 rfl) rfl
theorem qs14 : (Cond.selects "RainbowOperators" ⟨"RainbowOperators", "fullTextOf", "(Ljava/lang/String;)Ljava/lang/String;"⟩ ⟨"RainbowOperators", "fullTextOf", "(Ljava/lang/String;)Ljava/lang/String;"⟩) ∈ lw_all := lw_g (lw_at lw_ms 14 rfl) rfl
theorem qs15 : (Cond.selects "RainbowOperators$Row" ⟨"RainbowOperators$Row", "make", "(II)V"⟩ ⟨"RainbowOperators$Row", "make", "(II)V"⟩) ∈ lw_all := lw_g (lw_at lw_ms 15 rfl) rfl
theorem qs16 : (Cond.selects "RainbowOperators$Row" ⟨"RainbowOperators$Row", "find", "([Z[[III)V"⟩ ⟨"RainbowOperators$Row", "find", "([Z[[III)V"⟩) ∈ lw_all := lw_g (lw_at lw_ms 16 rfl) rfl
theorem qs17 : (Cond.selects "RainbowOperators" ⟨"RainbowOperators", "parse", "()Ljava/util/Optional;"⟩ ⟨"RainbowOperators", "parse", "()Ljava/util/Optional;"⟩) ∈ lw_all := lw_g (lw_at lw_ms 17 rfl) rfl
theorem qs18 : (Cond.selects "RainbowOperators$Parser" ⟨"RainbowOperators$Parser", "command", "()LRainbowOperators$Change;"⟩ ⟨"RainbowOperators$Parser", "command", "()LRainbowOperators$Change;"⟩) ∈ lw_all := lw_g (lw_at lw_ms 18 rfl) rfl
theorem qs19 : (Cond.selects "RainbowOperators$Parser" ⟨"RainbowOperators$Parser", "word", "()Ljava/lang/String;"⟩ ⟨"RainbowOperators$Parser", "word", "()Ljava/lang/String;"⟩) ∈ lw_all := lw_g (lw_at lw_ms 19 rfl) rfl
theorem qs20 : (Cond.selects "RainbowOperators$Parser" ⟨"RainbowOperators$Parser", "take", "(Ljava/lang/String;)C"⟩ ⟨"RainbowOperators$Parser", "take", "(Ljava/lang/String;)C"⟩) ∈ lw_all := lw_g (lw_at lw_ms 20 rfl) rfl
theorem qs21 : (Cond.selects "RainbowOperators$Parser" ⟨"RainbowOperators$Parser", "isAt", "(Ljava/lang/String;)Z"⟩ ⟨"RainbowOperators$Parser", "isAt", "(Ljava/lang/String;)Z"⟩) ∈ lw_all := lw_g (lw_at lw_ms 21 rfl) rfl
theorem qs22 : (Cond.selects "RainbowOperators$Parser" ⟨"RainbowOperators$Parser", "digit", "()I"⟩ ⟨"RainbowOperators$Parser", "digit", "()I"⟩) ∈ lw_all := lw_g (lw_at lw_ms 22 rfl) rfl
theorem qs23 : (Cond.selects "java/util/ArrayList" ⟨"java/util/ArrayList", "add", "(Ljava/lang/Object;[Ljava/lang/Object;I)V"⟩ ⟨"java/util/ArrayList", "add", "(Ljava/lang/Object;[Ljava/lang/Object;I)V"⟩) ∈ lw_all := lw_g (lw_at lw_ms 23 rfl) rfl
theorem qs24 : (Cond.selects "java/util/ArrayList" ⟨"java/util/ArrayList", "grow", "()[Ljava/lang/Object;"⟩ ⟨"java/util/ArrayList", "grow", "()[Ljava/lang/Object;"⟩) ∈ lw_all := lw_g (lw_at lw_ms 24 rfl) rfl
theorem qs25 : (Cond.selects "java/util/ArrayList" ⟨"java/util/ArrayList", "grow", "(I)[Ljava/lang/Object;"⟩ ⟨"java/util/ArrayList", "grow", "(I)[Ljava/lang/Object;"⟩) ∈ lw_all := lw_g (lw_at lw_ms 25 rfl) rfl
theorem qs26 : (Cond.selects "RainbowOperators" ⟨"RainbowOperators", "latestDenial", "()LRainbowOperators$Denial;"⟩ ⟨"RainbowOperators", "latestDenial", "()LRainbowOperators$Denial;"⟩) ∈ lw_all := lw_g (lw_at lw_ms 26 rfl) rfl
theorem qs27 : (Cond.selects "RainbowOperatorsModel" ⟨"RainbowOperatorsModel", "fails", "(I)Z"⟩ ⟨"RainbowOperatorsModel", "fails", "(I)Z"⟩) ∈ lw_all := lw_g (lw_at lw_ms 27 rfl) rfl
theorem qs28 : (Cond.selects "RainbowOperatorsModel" ⟨"RainbowOperatorsModel", "denies", "(III)I"⟩ ⟨"RainbowOperatorsModel", "denies", "(III)I"⟩) ∈ lw_all := lw_g (lw_at lw_ms 28 rfl) rfl
theorem qs29 : (Cond.selects "RainbowOperatorsModel" ⟨"RainbowOperatorsModel", "operandMany", "()I"⟩ ⟨"RainbowOperatorsModel", "operandMany", "()I"⟩) ∈ lw_all := lw_g (lw_at lw_ms 29 rfl) rfl
theorem qs30 : (Cond.selects "RainbowOperatorsModel" ⟨"RainbowOperatorsModel", "draft", "(I)I"⟩ ⟨"RainbowOperatorsModel", "draft", "(I)I"⟩) ∈ lw_all := lw_g (lw_at lw_ms 30 rfl) rfl
theorem qs31 : (Cond.selects "RainbowOperatorsModel" ⟨"RainbowOperatorsModel", "keeps", "([I)V"⟩ ⟨"RainbowOperatorsModel", "keeps", "([I)V"⟩) ∈ lw_all := lw_g (lw_at lw_ms 31 rfl) rfl
theorem qs32 : (Cond.selects "RainbowOperatorsModel" ⟨"RainbowOperatorsModel", "broken", "()I"⟩ ⟨"RainbowOperatorsModel", "broken", "()I"⟩) ∈ lw_all := lw_g (lw_at lw_ms 32 rfl) rfl
theorem qs33 : (Cond.selects "RainbowOperatorsModel" ⟨"RainbowOperatorsModel", "isRight", "(I)Z"⟩ ⟨"RainbowOperatorsModel", "isRight", "(I)Z"⟩) ∈ lw_all := lw_g (lw_at lw_ms 33 rfl) rfl
theorem qs34 : (Cond.selects "RainbowOperatorsModel" ⟨"RainbowOperatorsModel", "worthAll", "()I"⟩ ⟨"RainbowOperatorsModel", "worthAll", "()I"⟩) ∈ lw_all := lw_g (lw_at lw_ms 34 rfl) rfl
theorem qs35 : (Cond.selects "RainbowOperatorsModel" ⟨"RainbowOperatorsModel", "isDraft", "()Z"⟩ ⟨"RainbowOperatorsModel", "isDraft", "()Z"⟩) ∈ lw_all := lw_g (lw_at lw_ms 35 rfl) rfl
theorem qs36 : (Cond.selects "RainbowOperatorsModel" ⟨"RainbowOperatorsModel", "worth", "(II)I"⟩ ⟨"RainbowOperatorsModel", "worth", "(II)I"⟩) ∈ lw_all := lw_g (lw_at lw_ms 36 rfl) rfl
theorem qs37 : (Cond.selects "RainbowOperatorsModel" ⟨"RainbowOperatorsModel", "split", "(II)I"⟩ ⟨"RainbowOperatorsModel", "split", "(II)I"⟩) ∈ lw_all := lw_g (lw_at lw_ms 37 rfl) rfl
theorem qs38 : (Cond.selects "RainbowOperatorsModel" ⟨"RainbowOperatorsModel", "behind", "(I)I"⟩ ⟨"RainbowOperatorsModel", "behind", "(I)I"⟩) ∈ lw_all := lw_g (lw_at lw_ms 38 rfl) rfl
theorem qs39 : (Cond.selects "RainbowOperatorsModel" ⟨"RainbowOperatorsModel", "closing", "(I)I"⟩ ⟨"RainbowOperatorsModel", "closing", "(I)I"⟩) ∈ lw_all := lw_g (lw_at lw_ms 39 rfl) rfl
theorem qs40 : (Cond.selects "RainbowOperatorsModel" ⟨"RainbowOperatorsModel", "shade", "(I)I"⟩ ⟨"RainbowOperatorsModel", "shade", "(I)I"⟩) ∈ lw_all := lw_g (lw_at lw_ms 40 rfl) rfl
theorem qs41 : (Cond.selects "RainbowOperatorsModel" ⟨"RainbowOperatorsModel", "operandValue", "(I)I"⟩ ⟨"RainbowOperatorsModel", "operandValue", "(I)I"⟩) ∈ lw_all := lw_g (lw_at lw_ms 41 rfl) rfl
theorem qs42 : (Cond.selects "RainbowOperatorsModel" ⟨"RainbowOperatorsModel", "tall", "(II)I"⟩ ⟨"RainbowOperatorsModel", "tall", "(II)I"⟩) ∈ lw_all := lw_g (lw_at lw_ms 42 rfl) rfl
theorem qs43 : (Cond.selects "RainbowOperatorsModel" ⟨"RainbowOperatorsModel", "remembers", "()V"⟩ ⟨"RainbowOperatorsModel", "remembers", "()V"⟩) ∈ lw_all := lw_g (lw_at lw_ms 43 rfl) rfl
theorem qs44 : (Cond.selects "RainbowOperatorsModel" ⟨"RainbowOperatorsModel", "appliesAll", "()V"⟩ ⟨"RainbowOperatorsModel", "appliesAll", "()V"⟩) ∈ lw_all := lw_g (lw_at lw_ms 44 rfl) rfl
theorem qs45 : (Cond.selects "RainbowOperatorsModel" ⟨"RainbowOperatorsModel", "applies", "(II)V"⟩ ⟨"RainbowOperatorsModel", "applies", "(II)V"⟩) ∈ lw_all := lw_g (lw_at lw_ms 45 rfl) rfl
theorem qs46 : (Cond.selects "RainbowOperatorsModel" ⟨"RainbowOperatorsModel", "placesOf", "(II)I"⟩ ⟨"RainbowOperatorsModel", "placesOf", "(II)I"⟩) ∈ lw_all := lw_g (lw_at lw_ms 46 rfl) rfl
theorem qs47 : (Cond.selects "RainbowOperatorsModel" ⟨"RainbowOperatorsModel", "isIdle", "(IZ)Z"⟩ ⟨"RainbowOperatorsModel", "isIdle", "(IZ)Z"⟩) ∈ lw_all := lw_g (lw_at lw_ms 47 rfl) rfl
theorem qs48 : (Cond.selects "RainbowOperatorsModel" ⟨"RainbowOperatorsModel", "takes", "(I)V"⟩ ⟨"RainbowOperatorsModel", "takes", "(I)V"⟩) ∈ lw_all := lw_g (lw_at lw_ms 48 rfl) rfl
theorem qs49 : (Cond.selects "RainbowOperatorsModel" ⟨"RainbowOperatorsModel", "isSame", "()Z"⟩ ⟨"RainbowOperatorsModel", "isSame", "()Z"⟩) ∈ lw_all := lw_g (lw_at lw_ms 49 rfl) rfl
theorem qs50 : (Cond.selects "RainbowOperatorsModel" ⟨"RainbowOperatorsModel", "inserts", "(III)V"⟩ ⟨"RainbowOperatorsModel", "inserts", "(III)V"⟩) ∈ lw_all := lw_g (lw_at lw_ms 50 rfl) rfl
theorem qs51 : (Cond.selects "RainbowOperatorsModel" ⟨"RainbowOperatorsModel", "bracketMany", "()J"⟩ ⟨"RainbowOperatorsModel", "bracketMany", "()J"⟩) ∈ lw_all := lw_g (lw_at lw_ms 51 rfl) rfl
theorem qs52 : (Cond.selects "RainbowOperatorsModel" ⟨"RainbowOperatorsModel", "brackets", "()I"⟩ ⟨"RainbowOperatorsModel", "brackets", "()I"⟩) ∈ lw_all := lw_g (lw_at lw_ms 52 rfl) rfl
theorem qs53 : (Cond.selects "RainbowOperatorsModel" ⟨"RainbowOperatorsModel", "rows", "()V"⟩ ⟨"RainbowOperatorsModel", "rows", "()V"⟩) ∈ lw_all := lw_g (lw_at lw_ms 53 rfl) rfl
theorem qs54 : (Cond.selects "RainbowOperatorsModel" ⟨"RainbowOperatorsModel", "joins", "(IIII)I"⟩ ⟨"RainbowOperatorsModel", "joins", "(IIII)I"⟩) ∈ lw_all := lw_g (lw_at lw_ms 54 rfl) rfl
theorem qs55 : (Cond.selects "RainbowOperatorsModel" ⟨"RainbowOperatorsModel", "best", "()I"⟩ ⟨"RainbowOperatorsModel", "best", "()I"⟩) ∈ lw_all := lw_g (lw_at lw_ms 55 rfl) rfl
theorem qs56 : (Cond.selects "RainbowOperatorsModel" ⟨"RainbowOperatorsModel", "isText", "()Z"⟩ ⟨"RainbowOperatorsModel", "isText", "()Z"⟩) ∈ lw_all := lw_g (lw_at lw_ms 56 rfl) rfl
theorem qs57 : (Cond.selects "RainbowOperatorsModel" ⟨"RainbowOperatorsModel", "commandHere", "()Z"⟩ ⟨"RainbowOperatorsModel", "commandHere", "()Z"⟩) ∈ lw_all := lw_g (lw_at lw_ms 57 rfl) rfl
theorem qs58 : (Cond.selects "RainbowOperatorsModel" ⟨"RainbowOperatorsModel", "skips", "(I)Z"⟩ ⟨"RainbowOperatorsModel", "skips", "(I)Z"⟩) ∈ lw_all := lw_g (lw_at lw_ms 58 rfl) rfl
theorem qs59 : (Cond.selects "RainbowOperatorsModel" ⟨"RainbowOperatorsModel", "here", "()I"⟩ ⟨"RainbowOperatorsModel", "here", "()I"⟩) ∈ lw_all := lw_g (lw_at lw_ms 59 rfl) rfl
theorem qs60 : (Cond.selects "RainbowOperatorsModel" ⟨"RainbowOperatorsModel", "isWord", "(ILjava/lang/String;)Z"⟩ ⟨"RainbowOperatorsModel", "isWord", "(ILjava/lang/String;)Z"⟩) ∈ lw_all := lw_g (lw_at lw_ms 60 rfl) rfl
theorem qs61 : (Cond.selects "RainbowOperatorsModel" ⟨"RainbowOperatorsModel", "charactersHere", "(I)Z"⟩ ⟨"RainbowOperatorsModel", "charactersHere", "(I)Z"⟩) ∈ lw_all := lw_g (lw_at lw_ms 61 rfl) rfl
theorem qs62 : (Cond.selects "RainbowOperatorsModel" ⟨"RainbowOperatorsModel", "one", "(II)Z"⟩ ⟨"RainbowOperatorsModel", "one", "(II)Z"⟩) ∈ lw_all := lw_g (lw_at lw_ms 62 rfl) rfl
theorem qs63 : (Cond.selects "RainbowOperatorsModel" ⟨"RainbowOperatorsModel", "carries", "(I)I"⟩ ⟨"RainbowOperatorsModel", "carries", "(I)I"⟩) ∈ lw_all := lw_g (lw_at lw_ms 63 rfl) rfl
theorem qs64 : (Cond.selects "RainbowOperatorsModel" ⟨"RainbowOperatorsModel", "puts", "(II)I"⟩ ⟨"RainbowOperatorsModel", "puts", "(II)I"⟩) ∈ lw_all := lw_g (lw_at lw_ms 64 rfl) rfl
theorem qs65 : (Cond.selects "RainbowOperatorsModel" ⟨"RainbowOperatorsModel", "deniesText", "(I)I"⟩ ⟨"RainbowOperatorsModel", "deniesText", "(I)I"⟩) ∈ lw_all := lw_g (lw_at lw_ms 65 rfl) rfl
theorem qs66 : (Cond.selects "RainbowOperatorsModel" ⟨"RainbowOperatorsModel", "writesFull", "(II)V"⟩ ⟨"RainbowOperatorsModel", "writesFull", "(II)V"⟩) ∈ lw_all := lw_g (lw_at lw_ms 66 rfl) rfl
theorem qs67 : (Cond.selects "RainbowOperatorsModel" ⟨"RainbowOperatorsModel", "writes", "(I)V"⟩ ⟨"RainbowOperatorsModel", "writes", "(I)V"⟩) ∈ lw_all := lw_g (lw_at lw_ms 67 rfl) rfl
