-- ===== PART A: goes FIRST, ahead of the names: the tables' words, and 'selects' of the private methods out of them =====
/-- a private method of a class that the tables say can be made, by its rows of tables_1 -/
def lw_okq (q : MethodName × Nat) : Prop := (q.1.cls ≠ "java/lang/invoke/MethodHandle" ∧ q.1.cls ≠ "java/lang/invoke/VarHandle") ∧ Cond.instantiable q.1.cls q.2 ∈ tables_1 ∧ Cond.privateMethod q.1 ∈ tables_1 ∧ Cond.instanceMethod q.1 ∈ tables_1
set_option maxRecDepth 100000
theorem lw_t1 {w : Cond} (h : w ∈ tables_1_1) : w ∈ tables_1 := List.mem_append_left _ h
theorem lw_t2 {w : Cond} (h : w ∈ tables_1_2) : w ∈ tables_1 := List.mem_append_right _ (List.mem_append_left _ h)
theorem lw_t3 {w : Cond} (h : w ∈ tables_1_3) : w ∈ tables_1 := List.mem_append_right _ (List.mem_append_right _ (List.mem_append_left _ h))
theorem lw_t4 {w : Cond} (h : w ∈ tables_1_4) : w ∈ tables_1 := List.mem_append_right _ (List.mem_append_right _ (List.mem_append_right _ (List.mem_append_left _ h)))
theorem lw_t5 {w : Cond} (h : w ∈ tables_1_5) : w ∈ tables_1 := List.mem_append_right _ (List.mem_append_right _ (List.mem_append_right _ (List.mem_append_right _ (List.mem_append_left _ h))))
theorem lw_t6 {w : Cond} (h : w ∈ tables_1_6) : w ∈ tables_1 := List.mem_append_right _ (List.mem_append_right _ (List.mem_append_right _ (List.mem_append_right _ (List.mem_append_right _ (List.mem_append_left _ h)))))
theorem lw_t7 {w : Cond} (h : w ∈ tables_1_7) : w ∈ tables_1 := List.mem_append_right _ (List.mem_append_right _ (List.mem_append_right _ (List.mem_append_right _ (List.mem_append_right _ (List.mem_append_right _ (List.mem_append_left _ h))))))
theorem lw_t8 {w : Cond} (h : w ∈ tables_1_8) : w ∈ tables_1 := List.mem_append_right _ (List.mem_append_right _ (List.mem_append_right _ (List.mem_append_right _ (List.mem_append_right _ (List.mem_append_right _ (List.mem_append_right _ (List.mem_append_left _ h)))))))
theorem lw_t9 {w : Cond} (h : w ∈ tables_1_9) : w ∈ tables_1 := List.mem_append_right _ (List.mem_append_right _ (List.mem_append_right _ (List.mem_append_right _ (List.mem_append_right _ (List.mem_append_right _ (List.mem_append_right _ (List.mem_append_right _ (List.mem_append_left _ h))))))))
theorem lw_t10 {w : Cond} (h : w ∈ tables_1_10) : w ∈ tables_1 := List.mem_append_right _ (List.mem_append_right _ (List.mem_append_right _ (List.mem_append_right _ (List.mem_append_right _ (List.mem_append_right _ (List.mem_append_right _ (List.mem_append_right _ (List.mem_append_right _ (List.mem_append_left _ h)))))))))
theorem lw_t11 {w : Cond} (h : w ∈ tables_1_11) : w ∈ tables_1 := List.mem_append_right _ (List.mem_append_right _ (List.mem_append_right _ (List.mem_append_right _ (List.mem_append_right _ (List.mem_append_right _ (List.mem_append_right _ (List.mem_append_right _ (List.mem_append_right _ (List.mem_append_right _ (List.mem_append_left _ h))))))))))
theorem lw_t12 {w : Cond} (h : w ∈ tables_1_12) : w ∈ tables_1 := List.mem_append_right _ (List.mem_append_right _ (List.mem_append_right _ (List.mem_append_right _ (List.mem_append_right _ (List.mem_append_right _ (List.mem_append_right _ (List.mem_append_right _ (List.mem_append_right _ (List.mem_append_right _ (List.mem_append_right _ h))))))))))
theorem lw_p0 : lw_okq (⟨"java/lang/NullPointerException", "getExtendedNPEMessage", "()Ljava/lang/String;"⟩, 8) := ⟨⟨by decide +kernel, by decide +kernel⟩, lw_t2 (List.mem_of_getElem? (i := 3) rfl), lw_t2 (List.mem_of_getElem? (i := 1) rfl), lw_t2 (List.mem_of_getElem? (i := 2) rfl)⟩
theorem lw_p1 : lw_okq (⟨"java/lang/Throwable", "fillInStackTrace", "(I)Ljava/lang/Throwable;"⟩, 6) := ⟨⟨by decide +kernel, by decide +kernel⟩, lw_t2 (List.mem_of_getElem? (i := 15) rfl), lw_t2 (List.mem_of_getElem? (i := 13) rfl), lw_t2 (List.mem_of_getElem? (i := 14) rfl)⟩
theorem lw_p2 : lw_okq (⟨"java/util/ArrayDeque", "grow", "(I)V"⟩, 3) := ⟨⟨by decide +kernel, by decide +kernel⟩, lw_t1 (List.mem_of_getElem? (i := 159) rfl), lw_t2 (List.mem_of_getElem? (i := 134) rfl), lw_t2 (List.mem_of_getElem? (i := 135) rfl)⟩
theorem lw_p3 : lw_okq (⟨"java/util/ArrayDeque", "newCapacity", "(II)I"⟩, 3) := ⟨⟨by decide +kernel, by decide +kernel⟩, lw_t1 (List.mem_of_getElem? (i := 159) rfl), lw_t2 (List.mem_of_getElem? (i := 139) rfl), lw_t2 (List.mem_of_getElem? (i := 140) rfl)⟩
theorem lw_p4 : lw_okq (⟨"InkPrintery", "begin", "()LInkPrintery$State;"⟩, 11) := ⟨⟨by decide +kernel, by decide +kernel⟩, lw_t1 (List.mem_of_getElem? (i := 58) rfl), lw_t3 (List.mem_of_getElem? (i := 27) rfl), lw_t3 (List.mem_of_getElem? (i := 28) rfl)⟩
theorem lw_p5 : lw_okq (⟨"InkPrintery$State$OrderSearch", "colour", "(I)I"⟩, 4) := ⟨⟨by decide +kernel, by decide +kernel⟩, lw_t3 (List.mem_of_getElem? (i := 69) rfl), lw_t3 (List.mem_of_getElem? (i := 84) rfl), lw_t3 (List.mem_of_getElem? (i := 85) rfl)⟩
theorem lw_p6 : lw_okq (⟨"InkPrintery$State$OrderSearch", "fewest", "(II)I"⟩, 4) := ⟨⟨by decide +kernel, by decide +kernel⟩, lw_t3 (List.mem_of_getElem? (i := 69) rfl), lw_t3 (List.mem_of_getElem? (i := 88) rfl), lw_t3 (List.mem_of_getElem? (i := 89) rfl)⟩
theorem lw_p7 : lw_okq (⟨"InkPrintery$State$OrderSearch", "with", "(III)I"⟩, 4) := ⟨⟨by decide +kernel, by decide +kernel⟩, lw_t3 (List.mem_of_getElem? (i := 69) rfl), lw_t3 (List.mem_of_getElem? (i := 93) rfl), lw_t3 (List.mem_of_getElem? (i := 94) rfl)⟩
theorem lw_p8 : lw_okq (⟨"InkPrintery$State", "nextToGet", "([I)I"⟩, 15) := ⟨⟨by decide +kernel, by decide +kernel⟩, lw_t1 (List.mem_of_getElem? (i := 66) rfl), lw_t3 (List.mem_of_getElem? (i := 129) rfl), lw_t3 (List.mem_of_getElem? (i := 130) rfl)⟩
theorem lw_p9 : lw_okq (⟨"InkPrintery$State", "printCopies", "(LInkPrintery$Edition;I)V"⟩, 15) := ⟨⟨by decide +kernel, by decide +kernel⟩, lw_t1 (List.mem_of_getElem? (i := 66) rfl), lw_t3 (List.mem_of_getElem? (i := 138) rfl), lw_t3 (List.mem_of_getElem? (i := 139) rfl)⟩
theorem lw_p10 : lw_okq (⟨"InkPrintery", "commit", "(I)I"⟩, 11) := ⟨⟨by decide +kernel, by decide +kernel⟩, lw_t1 (List.mem_of_getElem? (i := 58) rfl), lw_t3 (List.mem_of_getElem? (i := 144) rfl), lw_t3 (List.mem_of_getElem? (i := 145) rfl)⟩
theorem lw_p11 : lw_okq (⟨"InkPrintery", "search", "()LInkPrintery$State$OrderSearch;"⟩, 11) := ⟨⟨by decide +kernel, by decide +kernel⟩, lw_t1 (List.mem_of_getElem? (i := 58) rfl), lw_t3 (List.mem_of_getElem? (i := 171) rfl), lw_t3 (List.mem_of_getElem? (i := 172) rfl)⟩
theorem lw_p12 : lw_okq (⟨"InkPrintery$State$OrderSearch", "leastFrom", "(II[I)I"⟩, 4) := ⟨⟨by decide +kernel, by decide +kernel⟩, lw_t3 (List.mem_of_getElem? (i := 69) rfl), lw_t3 (List.mem_of_getElem? (i := 194) rfl), lw_t3 (List.mem_of_getElem? (i := 195) rfl)⟩
theorem lw_p13 : lw_okq (⟨"InkPrintery$State", "lengths", "()[I"⟩, 15) := ⟨⟨by decide +kernel, by decide +kernel⟩, lw_t1 (List.mem_of_getElem? (i := 66) rfl), lw_t3 (List.mem_of_getElem? (i := 220) rfl), lw_t3 (List.mem_of_getElem? (i := 221) rfl)⟩
theorem lw_p14 : lw_okq (⟨"InkPrintery$State", "isInkConsistent", "()Z"⟩, 15) := ⟨⟨by decide +kernel, by decide +kernel⟩, lw_t1 (List.mem_of_getElem? (i := 66) rfl), lw_t5 (List.mem_of_getElem? (i := 197) rfl), lw_t5 (List.mem_of_getElem? (i := 198) rfl)⟩
theorem lw_p15 : lw_okq (⟨"InkPrintery$State", "areSharesConsistent", "()Z"⟩, 15) := ⟨⟨by decide +kernel, by decide +kernel⟩, lw_t1 (List.mem_of_getElem? (i := 66) rfl), lw_t5 (List.mem_of_getElem? (i := 218) rfl), lw_t5 (List.mem_of_getElem? (i := 219) rfl)⟩
def lw_privs_1 : List (MethodName × Nat) := [(⟨"java/lang/NullPointerException", "getExtendedNPEMessage", "()Ljava/lang/String;"⟩, 8), (⟨"java/lang/Throwable", "fillInStackTrace", "(I)Ljava/lang/Throwable;"⟩, 6), (⟨"java/util/ArrayDeque", "grow", "(I)V"⟩, 3), (⟨"java/util/ArrayDeque", "newCapacity", "(II)I"⟩, 3), (⟨"InkPrintery", "begin", "()LInkPrintery$State;"⟩, 11), (⟨"InkPrintery$State$OrderSearch", "colour", "(I)I"⟩, 4), (⟨"InkPrintery$State$OrderSearch", "fewest", "(II)I"⟩, 4), (⟨"InkPrintery$State$OrderSearch", "with", "(III)I"⟩, 4), (⟨"InkPrintery$State", "nextToGet", "([I)I"⟩, 15), (⟨"InkPrintery$State", "printCopies", "(LInkPrintery$Edition;I)V"⟩, 15), (⟨"InkPrintery", "commit", "(I)I"⟩, 11), (⟨"InkPrintery", "search", "()LInkPrintery$State$OrderSearch;"⟩, 11), (⟨"InkPrintery$State$OrderSearch", "leastFrom", "(II[I)I"⟩, 4), (⟨"InkPrintery$State", "lengths", "()[I"⟩, 15), (⟨"InkPrintery$State", "isInkConsistent", "()Z"⟩, 15), (⟨"InkPrintery$State", "areSharesConsistent", "()Z"⟩, 15)]
theorem lw_r1 : ∀ q ∈ lw_privs_1, lw_okq q := List.forall_mem_cons.mpr ⟨lw_p0, List.forall_mem_cons.mpr ⟨lw_p1, List.forall_mem_cons.mpr ⟨lw_p2, List.forall_mem_cons.mpr ⟨lw_p3, List.forall_mem_cons.mpr ⟨lw_p4, List.forall_mem_cons.mpr ⟨lw_p5, List.forall_mem_cons.mpr ⟨lw_p6, List.forall_mem_cons.mpr ⟨lw_p7, List.forall_mem_cons.mpr ⟨lw_p8, List.forall_mem_cons.mpr ⟨lw_p9, List.forall_mem_cons.mpr ⟨lw_p10, List.forall_mem_cons.mpr ⟨lw_p11, List.forall_mem_cons.mpr ⟨lw_p12, List.forall_mem_cons.mpr ⟨lw_p13, List.forall_mem_cons.mpr ⟨lw_p14, List.forall_mem_cons.mpr ⟨lw_p15, fun _ h => absurd h List.not_mem_nil⟩⟩⟩⟩⟩⟩⟩⟩⟩⟩⟩⟩⟩⟩⟩⟩
theorem lw_p16 : lw_okq (⟨"InkPrintery$State", "level", "()I"⟩, 15) := ⟨⟨by decide +kernel, by decide +kernel⟩, lw_t1 (List.mem_of_getElem? (i := 66) rfl), lw_t5 (List.mem_of_getElem? (i := 226) rfl), lw_t5 (List.mem_of_getElem? (i := 227) rfl)⟩
theorem lw_p17 : lw_okq (⟨"InkPrintery$State", "sheetsFor", "(I)I"⟩, 15) := ⟨⟨by decide +kernel, by decide +kernel⟩, lw_t1 (List.mem_of_getElem? (i := 66) rfl), lw_t5 (List.mem_of_getElem? (i := 230) rfl), lw_t5 (List.mem_of_getElem? (i := 231) rfl)⟩
theorem lw_p18 : lw_okq (⟨"InkPrintery$State", "passHour", "()I"⟩, 15) := ⟨⟨by decide +kernel, by decide +kernel⟩, lw_t1 (List.mem_of_getElem? (i := 66) rfl), lw_t6 (List.mem_of_getElem? (i := 57) rfl), lw_t6 (List.mem_of_getElem? (i := 58) rfl)⟩
theorem lw_p19 : lw_okq (⟨"InkPrintery", "parse", "()V"⟩, 11) := ⟨⟨by decide +kernel, by decide +kernel⟩, lw_t1 (List.mem_of_getElem? (i := 58) rfl), lw_t7 (List.mem_of_getElem? (i := 214) rfl), lw_t7 (List.mem_of_getElem? (i := 215) rfl)⟩
theorem lw_p20 : lw_okq (⟨"InkPrintery$Parser", "command", "()LInkPrintery$Command;"⟩, 3) := ⟨⟨by decide +kernel, by decide +kernel⟩, lw_t2 (List.mem_of_getElem? (i := 61) rfl), lw_t7 (List.mem_of_getElem? (i := 227) rfl), lw_t7 (List.mem_of_getElem? (i := 228) rfl)⟩
theorem lw_p21 : lw_okq (⟨"InkPrintery$Parser", "current", "()I"⟩, 3) := ⟨⟨by decide +kernel, by decide +kernel⟩, lw_t2 (List.mem_of_getElem? (i := 61) rfl), lw_t7 (List.mem_of_getElem? (i := 231) rfl), lw_t7 (List.mem_of_getElem? (i := 232) rfl)⟩
theorem lw_p22 : lw_okq (⟨"InkPrintery$Parser", "at", "(I)I"⟩, 3) := ⟨⟨by decide +kernel, by decide +kernel⟩, lw_t2 (List.mem_of_getElem? (i := 61) rfl), lw_t7 (List.mem_of_getElem? (i := 235) rfl), lw_t7 (List.mem_of_getElem? (i := 236) rfl)⟩
theorem lw_p23 : lw_okq (⟨"InkPrintery$Parser", "word", "(Ljava/lang/String;)LInkPrintery$Command;"⟩, 3) := ⟨⟨by decide +kernel, by decide +kernel⟩, lw_t2 (List.mem_of_getElem? (i := 61) rfl), lw_t8 (List.mem_of_getElem? (i := 2) rfl), lw_t8 (List.mem_of_getElem? (i := 3) rfl)⟩
theorem lw_p24 : lw_okq (⟨"InkPrintery$Parser", "accept", "(C)Z"⟩, 3) := ⟨⟨by decide +kernel, by decide +kernel⟩, lw_t2 (List.mem_of_getElem? (i := 61) rfl), lw_t8 (List.mem_of_getElem? (i := 22) rfl), lw_t8 (List.mem_of_getElem? (i := 23) rfl)⟩
theorem lw_p25 : lw_okq (⟨"InkPrintery$Parser", "expect", "(Z)V"⟩, 3) := ⟨⟨by decide +kernel, by decide +kernel⟩, lw_t2 (List.mem_of_getElem? (i := 61) rfl), lw_t8 (List.mem_of_getElem? (i := 26) rfl), lw_t8 (List.mem_of_getElem? (i := 27) rfl)⟩
theorem lw_p26 : lw_okq (⟨"InkPrintery$Parser", "number", "(I)I"⟩, 3) := ⟨⟨by decide +kernel, by decide +kernel⟩, lw_t2 (List.mem_of_getElem? (i := 61) rfl), lw_t8 (List.mem_of_getElem? (i := 65) rfl), lw_t8 (List.mem_of_getElem? (i := 66) rfl)⟩
theorem lw_p27 : lw_okq (⟨"InkPrintery$Parser", "isDigit", "()Z"⟩, 3) := ⟨⟨by decide +kernel, by decide +kernel⟩, lw_t2 (List.mem_of_getElem? (i := 61) rfl), lw_t8 (List.mem_of_getElem? (i := 69) rfl), lw_t8 (List.mem_of_getElem? (i := 70) rfl)⟩
theorem lw_p28 : lw_okq (⟨"InkPrintery$Parser", "commandWithP", "()LInkPrintery$Command;"⟩, 3) := ⟨⟨by decide +kernel, by decide +kernel⟩, lw_t2 (List.mem_of_getElem? (i := 61) rfl), lw_t8 (List.mem_of_getElem? (i := 78) rfl), lw_t8 (List.mem_of_getElem? (i := 79) rfl)⟩
theorem lw_p29 : lw_okq (⟨"java/util/LinkedList", "checkPositionIndex", "(I)V"⟩, 4) := ⟨⟨by decide +kernel, by decide +kernel⟩, lw_t2 (List.mem_of_getElem? (i := 67) rfl), lw_t8 (List.mem_of_getElem? (i := 137) rfl), lw_t8 (List.mem_of_getElem? (i := 138) rfl)⟩
theorem lw_p30 : lw_okq (⟨"java/util/LinkedList", "isPositionIndex", "(I)Z"⟩, 4) := ⟨⟨by decide +kernel, by decide +kernel⟩, lw_t2 (List.mem_of_getElem? (i := 67) rfl), lw_t8 (List.mem_of_getElem? (i := 141) rfl), lw_t8 (List.mem_of_getElem? (i := 142) rfl)⟩
theorem lw_p31 : lw_okq (⟨"java/util/LinkedList", "outOfBoundsMsg", "(I)Ljava/lang/String;"⟩, 4) := ⟨⟨by decide +kernel, by decide +kernel⟩, lw_t2 (List.mem_of_getElem? (i := 67) rfl), lw_t8 (List.mem_of_getElem? (i := 146) rfl), lw_t8 (List.mem_of_getElem? (i := 147) rfl)⟩
def lw_privs_2 : List (MethodName × Nat) := [(⟨"InkPrintery$State", "level", "()I"⟩, 15), (⟨"InkPrintery$State", "sheetsFor", "(I)I"⟩, 15), (⟨"InkPrintery$State", "passHour", "()I"⟩, 15), (⟨"InkPrintery", "parse", "()V"⟩, 11), (⟨"InkPrintery$Parser", "command", "()LInkPrintery$Command;"⟩, 3), (⟨"InkPrintery$Parser", "current", "()I"⟩, 3), (⟨"InkPrintery$Parser", "at", "(I)I"⟩, 3), (⟨"InkPrintery$Parser", "word", "(Ljava/lang/String;)LInkPrintery$Command;"⟩, 3), (⟨"InkPrintery$Parser", "accept", "(C)Z"⟩, 3), (⟨"InkPrintery$Parser", "expect", "(Z)V"⟩, 3), (⟨"InkPrintery$Parser", "number", "(I)I"⟩, 3), (⟨"InkPrintery$Parser", "isDigit", "()Z"⟩, 3), (⟨"InkPrintery$Parser", "commandWithP", "()LInkPrintery$Command;"⟩, 3), (⟨"java/util/LinkedList", "checkPositionIndex", "(I)V"⟩, 4), (⟨"java/util/LinkedList", "isPositionIndex", "(I)Z"⟩, 4), (⟨"java/util/LinkedList", "outOfBoundsMsg", "(I)Ljava/lang/String;"⟩, 4)]
theorem lw_r2 : ∀ q ∈ lw_privs_2, lw_okq q := List.forall_mem_cons.mpr ⟨lw_p16, List.forall_mem_cons.mpr ⟨lw_p17, List.forall_mem_cons.mpr ⟨lw_p18, List.forall_mem_cons.mpr ⟨lw_p19, List.forall_mem_cons.mpr ⟨lw_p20, List.forall_mem_cons.mpr ⟨lw_p21, List.forall_mem_cons.mpr ⟨lw_p22, List.forall_mem_cons.mpr ⟨lw_p23, List.forall_mem_cons.mpr ⟨lw_p24, List.forall_mem_cons.mpr ⟨lw_p25, List.forall_mem_cons.mpr ⟨lw_p26, List.forall_mem_cons.mpr ⟨lw_p27, List.forall_mem_cons.mpr ⟨lw_p28, List.forall_mem_cons.mpr ⟨lw_p29, List.forall_mem_cons.mpr ⟨lw_p30, List.forall_mem_cons.mpr ⟨lw_p31, fun _ h => absurd h List.not_mem_nil⟩⟩⟩⟩⟩⟩⟩⟩⟩⟩⟩⟩⟩⟩⟩⟩
theorem lw_p32 : lw_okq (⟨"java/util/LinkedList", "checkElementIndex", "(I)V"⟩, 4) := ⟨⟨by decide +kernel, by decide +kernel⟩, lw_t2 (List.mem_of_getElem? (i := 67) rfl), lw_t9 (List.mem_of_getElem? (i := 2) rfl), lw_t9 (List.mem_of_getElem? (i := 3) rfl)⟩
theorem lw_p33 : lw_okq (⟨"java/util/LinkedList", "isElementIndex", "(I)Z"⟩, 4) := ⟨⟨by decide +kernel, by decide +kernel⟩, lw_t2 (List.mem_of_getElem? (i := 67) rfl), lw_t9 (List.mem_of_getElem? (i := 6) rfl), lw_t9 (List.mem_of_getElem? (i := 7) rfl)⟩
theorem lw_p34 : lw_okq (⟨"InkPrinteryModel", "begin", "()V"⟩, 25) := ⟨⟨by decide +kernel, by decide +kernel⟩, lw_t9 (List.mem_of_getElem? (i := 233) rfl), lw_t10 (List.mem_of_getElem? (i := 83) rfl), lw_t10 (List.mem_of_getElem? (i := 84) rfl)⟩
theorem lw_p35 : lw_okq (⟨"InkPrinteryModel", "cannotPour", "(II)I"⟩, 25) := ⟨⟨by decide +kernel, by decide +kernel⟩, lw_t9 (List.mem_of_getElem? (i := 233) rfl), lw_t10 (List.mem_of_getElem? (i := 90) rfl), lw_t10 (List.mem_of_getElem? (i := 91) rfl)⟩
theorem lw_p36 : lw_okq (⟨"InkPrinteryModel", "fail", "(I)I"⟩, 25) := ⟨⟨by decide +kernel, by decide +kernel⟩, lw_t9 (List.mem_of_getElem? (i := 233) rfl), lw_t10 (List.mem_of_getElem? (i := 100) rfl), lw_t10 (List.mem_of_getElem? (i := 101) rfl)⟩
theorem lw_p37 : lw_okq (⟨"InkPrinteryModel", "pours", "(II)I"⟩, 25) := ⟨⟨by decide +kernel, by decide +kernel⟩, lw_t9 (List.mem_of_getElem? (i := 233) rfl), lw_t10 (List.mem_of_getElem? (i := 104) rfl), lw_t10 (List.mem_of_getElem? (i := 105) rfl)⟩
theorem lw_p38 : lw_okq (⟨"InkPrinteryModel", "commit", "(I)I"⟩, 25) := ⟨⟨by decide +kernel, by decide +kernel⟩, lw_t9 (List.mem_of_getElem? (i := 233) rfl), lw_t10 (List.mem_of_getElem? (i := 108) rfl), lw_t10 (List.mem_of_getElem? (i := 109) rfl)⟩
theorem lw_p39 : lw_okq (⟨"InkPrinteryModel", "cannotBuy", "(I)I"⟩, 25) := ⟨⟨by decide +kernel, by decide +kernel⟩, lw_t9 (List.mem_of_getElem? (i := 233) rfl), lw_t10 (List.mem_of_getElem? (i := 116) rfl), lw_t10 (List.mem_of_getElem? (i := 117) rfl)⟩
theorem lw_p40 : lw_okq (⟨"InkPrinteryModel", "buys", "(I)I"⟩, 25) := ⟨⟨by decide +kernel, by decide +kernel⟩, lw_t9 (List.mem_of_getElem? (i := 233) rfl), lw_t10 (List.mem_of_getElem? (i := 120) rfl), lw_t10 (List.mem_of_getElem? (i := 121) rfl)⟩
theorem lw_p41 : lw_okq (⟨"InkPrinteryModel", "passes", "(I)I"⟩, 25) := ⟨⟨by decide +kernel, by decide +kernel⟩, lw_t9 (List.mem_of_getElem? (i := 233) rfl), lw_t10 (List.mem_of_getElem? (i := 128) rfl), lw_t10 (List.mem_of_getElem? (i := 129) rfl)⟩
theorem lw_p42 : lw_okq (⟨"InkPrinteryModel", "checked", "(Z)I"⟩, 25) := ⟨⟨by decide +kernel, by decide +kernel⟩, lw_t9 (List.mem_of_getElem? (i := 233) rfl), lw_t10 (List.mem_of_getElem? (i := 136) rfl), lw_t10 (List.mem_of_getElem? (i := 137) rfl)⟩
theorem lw_p43 : lw_okq (⟨"InkPrinteryModel", "plain", "(I)I"⟩, 25) := ⟨⟨by decide +kernel, by decide +kernel⟩, lw_t9 (List.mem_of_getElem? (i := 233) rfl), lw_t10 (List.mem_of_getElem? (i := 144) rfl), lw_t10 (List.mem_of_getElem? (i := 145) rfl)⟩
theorem lw_p44 : lw_okq (⟨"InkPrinteryModel", "after", "(II)I"⟩, 25) := ⟨⟨by decide +kernel, by decide +kernel⟩, lw_t9 (List.mem_of_getElem? (i := 233) rfl), lw_t10 (List.mem_of_getElem? (i := 156) rfl), lw_t10 (List.mem_of_getElem? (i := 157) rfl)⟩
theorem lw_p45 : lw_okq (⟨"InkPrinteryModel", "leftAfter", "(II)I"⟩, 25) := ⟨⟨by decide +kernel, by decide +kernel⟩, lw_t9 (List.mem_of_getElem? (i := 233) rfl), lw_t10 (List.mem_of_getElem? (i := 160) rfl), lw_t10 (List.mem_of_getElem? (i := 161) rfl)⟩
theorem lw_p46 : lw_okq (⟨"InkPrinteryModel", "cannotAdd", "(II)I"⟩, 25) := ⟨⟨by decide +kernel, by decide +kernel⟩, lw_t9 (List.mem_of_getElem? (i := 233) rfl), lw_t10 (List.mem_of_getElem? (i := 176) rfl), lw_t10 (List.mem_of_getElem? (i := 177) rfl)⟩
theorem lw_p47 : lw_okq (⟨"InkPrinteryModel", "adds", "(II)I"⟩, 25) := ⟨⟨by decide +kernel, by decide +kernel⟩, lw_t9 (List.mem_of_getElem? (i := 233) rfl), lw_t10 (List.mem_of_getElem? (i := 180) rfl), lw_t10 (List.mem_of_getElem? (i := 181) rfl)⟩
def lw_privs_3 : List (MethodName × Nat) := [(⟨"java/util/LinkedList", "checkElementIndex", "(I)V"⟩, 4), (⟨"java/util/LinkedList", "isElementIndex", "(I)Z"⟩, 4), (⟨"InkPrinteryModel", "begin", "()V"⟩, 25), (⟨"InkPrinteryModel", "cannotPour", "(II)I"⟩, 25), (⟨"InkPrinteryModel", "fail", "(I)I"⟩, 25), (⟨"InkPrinteryModel", "pours", "(II)I"⟩, 25), (⟨"InkPrinteryModel", "commit", "(I)I"⟩, 25), (⟨"InkPrinteryModel", "cannotBuy", "(I)I"⟩, 25), (⟨"InkPrinteryModel", "buys", "(I)I"⟩, 25), (⟨"InkPrinteryModel", "passes", "(I)I"⟩, 25), (⟨"InkPrinteryModel", "checked", "(Z)I"⟩, 25), (⟨"InkPrinteryModel", "plain", "(I)I"⟩, 25), (⟨"InkPrinteryModel", "after", "(II)I"⟩, 25), (⟨"InkPrinteryModel", "leftAfter", "(II)I"⟩, 25), (⟨"InkPrinteryModel", "cannotAdd", "(II)I"⟩, 25), (⟨"InkPrinteryModel", "adds", "(II)I"⟩, 25)]
theorem lw_r3 : ∀ q ∈ lw_privs_3, lw_okq q := List.forall_mem_cons.mpr ⟨lw_p32, List.forall_mem_cons.mpr ⟨lw_p33, List.forall_mem_cons.mpr ⟨lw_p34, List.forall_mem_cons.mpr ⟨lw_p35, List.forall_mem_cons.mpr ⟨lw_p36, List.forall_mem_cons.mpr ⟨lw_p37, List.forall_mem_cons.mpr ⟨lw_p38, List.forall_mem_cons.mpr ⟨lw_p39, List.forall_mem_cons.mpr ⟨lw_p40, List.forall_mem_cons.mpr ⟨lw_p41, List.forall_mem_cons.mpr ⟨lw_p42, List.forall_mem_cons.mpr ⟨lw_p43, List.forall_mem_cons.mpr ⟨lw_p44, List.forall_mem_cons.mpr ⟨lw_p45, List.forall_mem_cons.mpr ⟨lw_p46, List.forall_mem_cons.mpr ⟨lw_p47, fun _ h => absurd h List.not_mem_nil⟩⟩⟩⟩⟩⟩⟩⟩⟩⟩⟩⟩⟩⟩⟩⟩
theorem lw_p48 : lw_okq (⟨"InkPrinteryModel", "isEdition", "(I)Z"⟩, 25) := ⟨⟨by decide +kernel, by decide +kernel⟩, lw_t9 (List.mem_of_getElem? (i := 233) rfl), lw_t10 (List.mem_of_getElem? (i := 188) rfl), lw_t10 (List.mem_of_getElem? (i := 189) rfl)⟩
theorem lw_p49 : lw_okq (⟨"InkPrinteryModel", "removes", "(I)I"⟩, 25) := ⟨⟨by decide +kernel, by decide +kernel⟩, lw_t9 (List.mem_of_getElem? (i := 233) rfl), lw_t10 (List.mem_of_getElem? (i := 192) rfl), lw_t10 (List.mem_of_getElem? (i := 193) rfl)⟩
theorem lw_p50 : lw_okq (⟨"InkPrinteryModel", "cannotPrint", "(I)I"⟩, 25) := ⟨⟨by decide +kernel, by decide +kernel⟩, lw_t9 (List.mem_of_getElem? (i := 233) rfl), lw_t10 (List.mem_of_getElem? (i := 200) rfl), lw_t10 (List.mem_of_getElem? (i := 201) rfl)⟩
theorem lw_p51 : lw_okq (⟨"InkPrinteryModel", "missing", "(I)I"⟩, 25) := ⟨⟨by decide +kernel, by decide +kernel⟩, lw_t9 (List.mem_of_getElem? (i := 233) rfl), lw_t10 (List.mem_of_getElem? (i := 204) rfl), lw_t10 (List.mem_of_getElem? (i := 205) rfl)⟩
theorem lw_p52 : lw_okq (⟨"InkPrinteryModel", "e", "(II)I"⟩, 25) := ⟨⟨by decide +kernel, by decide +kernel⟩, lw_t9 (List.mem_of_getElem? (i := 233) rfl), lw_t10 (List.mem_of_getElem? (i := 208) rfl), lw_t10 (List.mem_of_getElem? (i := 209) rfl)⟩
theorem lw_p53 : lw_okq (⟨"InkPrinteryModel", "ofWell", "(I)I"⟩, 25) := ⟨⟨by decide +kernel, by decide +kernel⟩, lw_t9 (List.mem_of_getElem? (i := 233) rfl), lw_t10 (List.mem_of_getElem? (i := 212) rfl), lw_t10 (List.mem_of_getElem? (i := 213) rfl)⟩
theorem lw_p54 : lw_okq (⟨"InkPrinteryModel", "printsOne", "(I)I"⟩, 25) := ⟨⟨by decide +kernel, by decide +kernel⟩, lw_t9 (List.mem_of_getElem? (i := 233) rfl), lw_t10 (List.mem_of_getElem? (i := 216) rfl), lw_t10 (List.mem_of_getElem? (i := 217) rfl)⟩
theorem lw_p55 : lw_okq (⟨"InkPrinteryModel", "prints", "(II)I"⟩, 25) := ⟨⟨by decide +kernel, by decide +kernel⟩, lw_t9 (List.mem_of_getElem? (i := 233) rfl), lw_t10 (List.mem_of_getElem? (i := 223) rfl), lw_t10 (List.mem_of_getElem? (i := 224) rfl)⟩
theorem lw_p56 : lw_okq (⟨"InkPrinteryModel", "minutesOfBest", "()I"⟩, 25) := ⟨⟨by decide +kernel, by decide +kernel⟩, lw_t9 (List.mem_of_getElem? (i := 233) rfl), lw_t11 (List.mem_of_getElem? (i := 2) rfl), lw_t11 (List.mem_of_getElem? (i := 3) rfl)⟩
theorem lw_p57 : lw_okq (⟨"InkPrinteryModel", "lay", "()V"⟩, 25) := ⟨⟨by decide +kernel, by decide +kernel⟩, lw_t9 (List.mem_of_getElem? (i := 233) rfl), lw_t11 (List.mem_of_getElem? (i := 6) rfl), lw_t11 (List.mem_of_getElem? (i := 7) rfl)⟩
theorem lw_p58 : lw_okq (⟨"InkPrinteryModel", "with", "(III)I"⟩, 25) := ⟨⟨by decide +kernel, by decide +kernel⟩, lw_t9 (List.mem_of_getElem? (i := 233) rfl), lw_t11 (List.mem_of_getElem? (i := 11) rfl), lw_t11 (List.mem_of_getElem? (i := 12) rfl)⟩
theorem lw_p59 : lw_okq (⟨"InkPrinteryModel", "changeTo", "(II)I"⟩, 25) := ⟨⟨by decide +kernel, by decide +kernel⟩, lw_t9 (List.mem_of_getElem? (i := 233) rfl), lw_t11 (List.mem_of_getElem? (i := 15) rfl), lw_t11 (List.mem_of_getElem? (i := 16) rfl)⟩
theorem lw_p60 : lw_okq (⟨"InkPrinteryModel", "open", "()I"⟩, 25) := ⟨⟨by decide +kernel, by decide +kernel⟩, lw_t9 (List.mem_of_getElem? (i := 233) rfl), lw_t11 (List.mem_of_getElem? (i := 19) rfl), lw_t11 (List.mem_of_getElem? (i := 20) rfl)⟩
theorem lw_p61 : lw_okq (⟨"InkPrinteryModel", "laysOrder", "()I"⟩, 25) := ⟨⟨by decide +kernel, by decide +kernel⟩, lw_t9 (List.mem_of_getElem? (i := 233) rfl), lw_t11 (List.mem_of_getElem? (i := 31) rfl), lw_t11 (List.mem_of_getElem? (i := 32) rfl)⟩
theorem lw_p62 : lw_okq (⟨"InkPrinteryModel", "sharing", "(I)I"⟩, 25) := ⟨⟨by decide +kernel, by decide +kernel⟩, lw_t9 (List.mem_of_getElem? (i := 233) rfl), lw_t11 (List.mem_of_getElem? (i := 39) rfl), lw_t11 (List.mem_of_getElem? (i := 40) rfl)⟩
theorem lw_p63 : lw_okq (⟨"InkPrinteryModel", "share", "()V"⟩, 25) := ⟨⟨by decide +kernel, by decide +kernel⟩, lw_t9 (List.mem_of_getElem? (i := 233) rfl), lw_t11 (List.mem_of_getElem? (i := 43) rfl), lw_t11 (List.mem_of_getElem? (i := 44) rfl)⟩
def lw_privs_4 : List (MethodName × Nat) := [(⟨"InkPrinteryModel", "isEdition", "(I)Z"⟩, 25), (⟨"InkPrinteryModel", "removes", "(I)I"⟩, 25), (⟨"InkPrinteryModel", "cannotPrint", "(I)I"⟩, 25), (⟨"InkPrinteryModel", "missing", "(I)I"⟩, 25), (⟨"InkPrinteryModel", "e", "(II)I"⟩, 25), (⟨"InkPrinteryModel", "ofWell", "(I)I"⟩, 25), (⟨"InkPrinteryModel", "printsOne", "(I)I"⟩, 25), (⟨"InkPrinteryModel", "prints", "(II)I"⟩, 25), (⟨"InkPrinteryModel", "minutesOfBest", "()I"⟩, 25), (⟨"InkPrinteryModel", "lay", "()V"⟩, 25), (⟨"InkPrinteryModel", "with", "(III)I"⟩, 25), (⟨"InkPrinteryModel", "changeTo", "(II)I"⟩, 25), (⟨"InkPrinteryModel", "open", "()I"⟩, 25), (⟨"InkPrinteryModel", "laysOrder", "()I"⟩, 25), (⟨"InkPrinteryModel", "sharing", "(I)I"⟩, 25), (⟨"InkPrinteryModel", "share", "()V"⟩, 25)]
theorem lw_r4 : ∀ q ∈ lw_privs_4, lw_okq q := List.forall_mem_cons.mpr ⟨lw_p48, List.forall_mem_cons.mpr ⟨lw_p49, List.forall_mem_cons.mpr ⟨lw_p50, List.forall_mem_cons.mpr ⟨lw_p51, List.forall_mem_cons.mpr ⟨lw_p52, List.forall_mem_cons.mpr ⟨lw_p53, List.forall_mem_cons.mpr ⟨lw_p54, List.forall_mem_cons.mpr ⟨lw_p55, List.forall_mem_cons.mpr ⟨lw_p56, List.forall_mem_cons.mpr ⟨lw_p57, List.forall_mem_cons.mpr ⟨lw_p58, List.forall_mem_cons.mpr ⟨lw_p59, List.forall_mem_cons.mpr ⟨lw_p60, List.forall_mem_cons.mpr ⟨lw_p61, List.forall_mem_cons.mpr ⟨lw_p62, List.forall_mem_cons.mpr ⟨lw_p63, fun _ h => absurd h List.not_mem_nil⟩⟩⟩⟩⟩⟩⟩⟩⟩⟩⟩⟩⟩⟩⟩⟩
theorem lw_p64 : lw_okq (⟨"InkPrinteryModel", "nextShare", "()I"⟩, 25) := ⟨⟨by decide +kernel, by decide +kernel⟩, lw_t9 (List.mem_of_getElem? (i := 233) rfl), lw_t11 (List.mem_of_getElem? (i := 47) rfl), lw_t11 (List.mem_of_getElem? (i := 48) rfl)⟩
theorem lw_p65 : lw_okq (⟨"InkPrinteryModel", "printsAll", "()I"⟩, 25) := ⟨⟨by decide +kernel, by decide +kernel⟩, lw_t9 (List.mem_of_getElem? (i := 233) rfl), lw_t11 (List.mem_of_getElem? (i := 59) rfl), lw_t11 (List.mem_of_getElem? (i := 60) rfl)⟩
theorem lw_p66 : lw_okq (⟨"InkPrinteryModel", "of", "(II)I"⟩, 25) := ⟨⟨by decide +kernel, by decide +kernel⟩, lw_t9 (List.mem_of_getElem? (i := 233) rfl), lw_t11 (List.mem_of_getElem? (i := 71) rfl), lw_t11 (List.mem_of_getElem? (i := 72) rfl)⟩
theorem lw_p67 : lw_okq (⟨"InkPrinteryModel", "cannotProve", "(I)I"⟩, 25) := ⟨⟨by decide +kernel, by decide +kernel⟩, lw_t9 (List.mem_of_getElem? (i := 233) rfl), lw_t11 (List.mem_of_getElem? (i := 95) rfl), lw_t11 (List.mem_of_getElem? (i := 96) rfl)⟩
theorem lw_p68 : lw_okq (⟨"InkPrinteryModel", "proves", "(I)I"⟩, 25) := ⟨⟨by decide +kernel, by decide +kernel⟩, lw_t9 (List.mem_of_getElem? (i := 233) rfl), lw_t11 (List.mem_of_getElem? (i := 99) rfl), lw_t11 (List.mem_of_getElem? (i := 100) rfl)⟩
theorem lw_p69 : lw_okq (⟨"InkPrinteryModel", "isProof", "(I)Z"⟩, 25) := ⟨⟨by decide +kernel, by decide +kernel⟩, lw_t9 (List.mem_of_getElem? (i := 233) rfl), lw_t11 (List.mem_of_getElem? (i := 107) rfl), lw_t11 (List.mem_of_getElem? (i := 108) rfl)⟩
theorem lw_p70 : lw_okq (⟨"InkPrinteryModel", "drops", "(I)I"⟩, 25) := ⟨⟨by decide +kernel, by decide +kernel⟩, lw_t9 (List.mem_of_getElem? (i := 233) rfl), lw_t11 (List.mem_of_getElem? (i := 111) rfl), lw_t11 (List.mem_of_getElem? (i := 112) rfl)⟩
theorem lw_p71 : lw_okq (⟨"InkPrinteryModel", "p", "(II)I"⟩, 25) := ⟨⟨by decide +kernel, by decide +kernel⟩, lw_t9 (List.mem_of_getElem? (i := 233) rfl), lw_t11 (List.mem_of_getElem? (i := 123) rfl), lw_t11 (List.mem_of_getElem? (i := 124) rfl)⟩
theorem lw_p72 : lw_okq (⟨"InkPrinteryModel", "rises", "()I"⟩, 25) := ⟨⟨by decide +kernel, by decide +kernel⟩, lw_t9 (List.mem_of_getElem? (i := 233) rfl), lw_t11 (List.mem_of_getElem? (i := 135) rfl), lw_t11 (List.mem_of_getElem? (i := 136) rfl)⟩
theorem lw_p73 : lw_okq (⟨"InkPrinteryModel", "writeNumber", "(I)V"⟩, 25) := ⟨⟨by decide +kernel, by decide +kernel⟩, lw_t9 (List.mem_of_getElem? (i := 233) rfl), lw_t11 (List.mem_of_getElem? (i := 183) rfl), lw_t11 (List.mem_of_getElem? (i := 184) rfl)⟩
theorem lw_p74 : lw_okq (⟨"InkPrinteryModel", "write", "(I)V"⟩, 25) := ⟨⟨by decide +kernel, by decide +kernel⟩, lw_t9 (List.mem_of_getElem? (i := 233) rfl), lw_t11 (List.mem_of_getElem? (i := 187) rfl), lw_t11 (List.mem_of_getElem? (i := 188) rfl)⟩
theorem lw_p75 : lw_okq (⟨"InkPrinteryModel", "parse", "()V"⟩, 25) := ⟨⟨by decide +kernel, by decide +kernel⟩, lw_t9 (List.mem_of_getElem? (i := 233) rfl), lw_t11 (List.mem_of_getElem? (i := 207) rfl), lw_t11 (List.mem_of_getElem? (i := 208) rfl)⟩
theorem lw_p76 : lw_okq (⟨"InkPrinteryModel", "command", "()V"⟩, 25) := ⟨⟨by decide +kernel, by decide +kernel⟩, lw_t9 (List.mem_of_getElem? (i := 233) rfl), lw_t11 (List.mem_of_getElem? (i := 211) rfl), lw_t11 (List.mem_of_getElem? (i := 212) rfl)⟩
theorem lw_p77 : lw_okq (⟨"InkPrinteryModel", "word", "()I"⟩, 25) := ⟨⟨by decide +kernel, by decide +kernel⟩, lw_t9 (List.mem_of_getElem? (i := 233) rfl), lw_t11 (List.mem_of_getElem? (i := 215) rfl), lw_t11 (List.mem_of_getElem? (i := 216) rfl)⟩
theorem lw_p78 : lw_okq (⟨"InkPrinteryModel", "number", "(I)I"⟩, 25) := ⟨⟨by decide +kernel, by decide +kernel⟩, lw_t9 (List.mem_of_getElem? (i := 233) rfl), lw_t11 (List.mem_of_getElem? (i := 228) rfl), lw_t11 (List.mem_of_getElem? (i := 229) rfl)⟩
theorem lw_p79 : lw_okq (⟨"InkPrinteryModel", "mark", "()I"⟩, 25) := ⟨⟨by decide +kernel, by decide +kernel⟩, lw_t9 (List.mem_of_getElem? (i := 233) rfl), lw_t11 (List.mem_of_getElem? (i := 232) rfl), lw_t11 (List.mem_of_getElem? (i := 233) rfl)⟩
def lw_privs_5 : List (MethodName × Nat) := [(⟨"InkPrinteryModel", "nextShare", "()I"⟩, 25), (⟨"InkPrinteryModel", "printsAll", "()I"⟩, 25), (⟨"InkPrinteryModel", "of", "(II)I"⟩, 25), (⟨"InkPrinteryModel", "cannotProve", "(I)I"⟩, 25), (⟨"InkPrinteryModel", "proves", "(I)I"⟩, 25), (⟨"InkPrinteryModel", "isProof", "(I)Z"⟩, 25), (⟨"InkPrinteryModel", "drops", "(I)I"⟩, 25), (⟨"InkPrinteryModel", "p", "(II)I"⟩, 25), (⟨"InkPrinteryModel", "rises", "()I"⟩, 25), (⟨"InkPrinteryModel", "writeNumber", "(I)V"⟩, 25), (⟨"InkPrinteryModel", "write", "(I)V"⟩, 25), (⟨"InkPrinteryModel", "parse", "()V"⟩, 25), (⟨"InkPrinteryModel", "command", "()V"⟩, 25), (⟨"InkPrinteryModel", "word", "()I"⟩, 25), (⟨"InkPrinteryModel", "number", "(I)I"⟩, 25), (⟨"InkPrinteryModel", "mark", "()I"⟩, 25)]
theorem lw_r5 : ∀ q ∈ lw_privs_5, lw_okq q := List.forall_mem_cons.mpr ⟨lw_p64, List.forall_mem_cons.mpr ⟨lw_p65, List.forall_mem_cons.mpr ⟨lw_p66, List.forall_mem_cons.mpr ⟨lw_p67, List.forall_mem_cons.mpr ⟨lw_p68, List.forall_mem_cons.mpr ⟨lw_p69, List.forall_mem_cons.mpr ⟨lw_p70, List.forall_mem_cons.mpr ⟨lw_p71, List.forall_mem_cons.mpr ⟨lw_p72, List.forall_mem_cons.mpr ⟨lw_p73, List.forall_mem_cons.mpr ⟨lw_p74, List.forall_mem_cons.mpr ⟨lw_p75, List.forall_mem_cons.mpr ⟨lw_p76, List.forall_mem_cons.mpr ⟨lw_p77, List.forall_mem_cons.mpr ⟨lw_p78, List.forall_mem_cons.mpr ⟨lw_p79, fun _ h => absurd h List.not_mem_nil⟩⟩⟩⟩⟩⟩⟩⟩⟩⟩⟩⟩⟩⟩⟩⟩
theorem lw_p80 : lw_okq (⟨"InkPrinteryModel", "why", "(III)I"⟩, 25) := ⟨⟨by decide +kernel, by decide +kernel⟩, lw_t9 (List.mem_of_getElem? (i := 233) rfl), lw_t11 (List.mem_of_getElem? (i := 236) rfl), lw_t11 (List.mem_of_getElem? (i := 237) rfl)⟩
theorem lw_p81 : lw_okq (⟨"InkPrinteryModel", "does", "(III)I"⟩, 25) := ⟨⟨by decide +kernel, by decide +kernel⟩, lw_t9 (List.mem_of_getElem? (i := 233) rfl), lw_t12 (List.mem_of_getElem? (i := 0) rfl), lw_t12 (List.mem_of_getElem? (i := 1) rfl)⟩
theorem lw_p82 : lw_okq (⟨"InkPrinteryModel", "present", "(I)I"⟩, 25) := ⟨⟨by decide +kernel, by decide +kernel⟩, lw_t9 (List.mem_of_getElem? (i := 233) rfl), lw_t12 (List.mem_of_getElem? (i := 8) rfl), lw_t12 (List.mem_of_getElem? (i := 9) rfl)⟩
def lw_privs_6 : List (MethodName × Nat) := [(⟨"InkPrinteryModel", "why", "(III)I"⟩, 25), (⟨"InkPrinteryModel", "does", "(III)I"⟩, 25), (⟨"InkPrinteryModel", "present", "(I)I"⟩, 25)]
theorem lw_r6 : ∀ q ∈ lw_privs_6, lw_okq q := List.forall_mem_cons.mpr ⟨lw_p80, List.forall_mem_cons.mpr ⟨lw_p81, List.forall_mem_cons.mpr ⟨lw_p82, fun _ h => absurd h List.not_mem_nil⟩⟩⟩
def lw_privs : List (MethodName × Nat) := lw_privs_1 ++ (lw_privs_2 ++ (lw_privs_3 ++ (lw_privs_4 ++ (lw_privs_5 ++ (lw_privs_6)))))
def lw_tbl : List Cond := k2_sels lw_privs ++ tables_1
theorem lw_privs_ok : ∀ q ∈ lw_privs, lw_okq q := by
  show ∀ q ∈ lw_privs_1 ++ (lw_privs_2 ++ (lw_privs_3 ++ (lw_privs_4 ++ (lw_privs_5 ++ (lw_privs_6))))), lw_okq q
  exact List.forall_mem_append.mpr ⟨lw_r1, List.forall_mem_append.mpr ⟨lw_r2, List.forall_mem_append.mpr ⟨lw_r3, List.forall_mem_append.mpr ⟨lw_r4, List.forall_mem_append.mpr ⟨lw_r5, lw_r6⟩⟩⟩⟩⟩
-- ===== ONE list of words for every method: the tables' words that hold all through a run =====
def lw_all : List Cond := lw_tbl.filter goodWord
/-- a word of the tables by its place: claim/WORDS.tsv -/
theorem lw_w {w : Cond} (i : Nat) (h : lw_tbl[i]? = some w) (g : goodWord w = true) : w ∈ lw_all := List.mem_filter.mpr ⟨List.mem_of_getElem? h, g⟩
theorem lw_all_tbl {w : Cond} (h : w ∈ lw_all) : w ∈ lw_tbl := (List.mem_filter.mp h).1
theorem lw_self : GoodIn lw_all lw_all := fun w h => ⟨h, good_of_word (List.mem_filter.mp h).2⟩
/-- a class's field words, by their places -/
theorem lw_in (ws : List Cond) (ps : List Nat) (hp : ws = ps.filterMap (fun i => lw_tbl[i]?)) (hg : ws.all goodWord = true) : ∀ w ∈ ws, w ∈ lw_all := by
  intro w h
  have h1 := List.all_eq_true.mp hg w h
  rw [hp] at h
  obtain ⟨i, -, hi⟩ := List.mem_filterMap.mp h
  exact lw_w i hi h1
/-- the words of a contract for the method y with code b, L locals, answer r -/
abbrev ws_ (y : MethodName) (b : ByteArray) (L : Nat) (r : Option FieldType) : List Cond := Cond.code y b L r :: lw_all
theorem lw_meth {y : MethodName} {b : ByteArray} {L : Nat} {r : Option FieldType} (h : Cond.code y b L r ∈ lw_all) : GoodIn lw_all (ws_ y b L r) := by
  intro w hw
  rcases List.mem_cons.mp hw with e | e
  · rw [e]
    exact lw_self _ h
  · exact lw_self _ e
theorem lw_app {a c : List Cond} (ha : ∀ w ∈ a, w ∈ lw_all) (hc : GoodIn lw_all c) : GoodIn lw_all (a ++ c) := by
  intro w hw
  rcases List.mem_append.mp hw with e | e
  · exact lw_self w (ha w e)
  · exact hc w e
/-- what a call through an object asks: cwV n hts (lw_V ..) -/
theorem lw_V {own : String} {idx : Nat} {C : String} {y : MethodName} {b : ByteArray} {L : Nat} {r : Option FieldType} (h1 : Cond.methodLink own idx y ∈ lw_all) (h2 : Cond.instanceMethod y ∈ lw_all) (h3 : Cond.selects C y y ∈ lw_all) (h4 : Cond.initialized C ∈ lw_all) (h5 : Cond.code y b L r ∈ lw_all) : GoodIn lw_all (wsV own idx C y (ws_ y b L r)) := by
  refine lw_app ?_ (lw_meth h5)
  intro w hw
  simp only [List.mem_cons, List.not_mem_nil, or_false] at hw
  rcases hw with e | e | e | e
  · rw [e]; exact h1
  · rw [e]; exact h2
  · rw [e]; exact h3
  · rw [e]; exact h4
/-- what a static call asks: va_cwS n hts (lw_S ..) -/
theorem lw_S {own : String} {idx : Nat} {y : MethodName} {b : ByteArray} {L : Nat} {r : Option FieldType} (h1 : Cond.methodLink own idx y ∈ lw_all) (h2 : Cond.static y ∈ lw_all) (h3 : Cond.initialized y.cls ∈ lw_all) (h4 : Cond.code y b L r ∈ lw_all) : GoodIn lw_all (va_wsS own idx y (ws_ y b L r)) := by
  refine lw_app ?_ (lw_meth h4)
  intro w hw
  simp only [List.mem_cons, List.not_mem_nil, or_false] at hw
  rcases hw with e | e | e
  · rw [e]; exact h1
  · rw [e]; exact h2
  · rw [e]; exact h3
/-- the words of a contract for a method WITH HANDLERS (hh: its table) -/
abbrev wsW_ (y : MethodName) (b : ByteArray) (L : Nat) (r : Option FieldType) (hh : List (Nat × Nat × Nat × Nat)) : List Cond := Cond.codeWith y b L r hh :: lw_all
theorem lw_methW {y : MethodName} {b : ByteArray} {L : Nat} {r : Option FieldType} {hh : List (Nat × Nat × Nat × Nat)} (h : Cond.codeWith y b L r hh ∈ lw_all) : GoodIn lw_all (wsW_ y b L r hh) := by
  intro w hw
  rcases List.mem_cons.mp hw with e | e
  · rw [e]
    exact lw_self _ h
  · exact lw_self _ e
/-- any list of words by their places (lw_in), good -/
theorem lw_good {ws : List Cond} (h : ∀ w ∈ ws, w ∈ lw_all) : GoodIn lw_all ws := fun w hw => lw_self w (h w hw)
/-- what a call of a method with handlers asks: vx_cwVW n hts (lw_VW ..), vx_cwSW n hts (lw_SW ..) -/
theorem lw_VW {own : String} {idx : Nat} {C : String} {y : MethodName} {b : ByteArray} {L : Nat} {r : Option FieldType} {hh : List (Nat × Nat × Nat × Nat)} (h1 : Cond.methodLink own idx y ∈ lw_all) (h2 : Cond.instanceMethod y ∈ lw_all) (h3 : Cond.selects C y y ∈ lw_all) (h4 : Cond.initialized C ∈ lw_all) (h5 : Cond.codeWith y b L r hh ∈ lw_all) : GoodIn lw_all (wsV own idx C y (wsW_ y b L r hh)) := by
  refine lw_app ?_ (lw_methW h5)
  intro w hw
  simp only [List.mem_cons, List.not_mem_nil, or_false] at hw
  rcases hw with e | e | e | e
  · rw [e]; exact h1
  · rw [e]; exact h2
  · rw [e]; exact h3
  · rw [e]; exact h4
theorem lw_SW {own : String} {idx : Nat} {y : MethodName} {b : ByteArray} {L : Nat} {r : Option FieldType} {hh : List (Nat × Nat × Nat × Nat)} (h1 : Cond.methodLink own idx y ∈ lw_all) (h2 : Cond.static y ∈ lw_all) (h3 : Cond.initialized y.cls ∈ lw_all) (h4 : Cond.codeWith y b L r hh ∈ lw_all) : GoodIn lw_all (va_wsS own idx y (wsW_ y b L r hh)) := by
  refine lw_app ?_ (lw_methW h4)
  intro w hw
  simp only [List.mem_cons, List.not_mem_nil, or_false] at hw
  rcases hw with e | e | e
  · rw [e]; exact h1
  · rw [e]; exact h2
  · rw [e]; exact h3
/-- a word by its place in its run of the tables -/
theorem lw_at {r : List Cond} (hr : ∀ w ∈ r, w ∈ lw_tbl) {w : Cond} (i : Nat) (h : r[i]? = some w) : w ∈ lw_tbl := hr w (List.mem_of_getElem? h)
theorem lw_g {w : Cond} (h : w ∈ lw_tbl) (g : goodWord w = true) : w ∈ lw_all := List.mem_filter.mpr ⟨h, g⟩
theorem lw_ms : ∀ w ∈ k2_sels lw_privs, w ∈ lw_tbl := fun w h => show w ∈ k2_sels lw_privs ++ tables_1 from List.mem_append_left _ h
theorem lw_m1 : ∀ w ∈ tables_1_1, w ∈ lw_tbl := fun w h => show w ∈ k2_sels lw_privs ++ tables_1 from List.mem_append_right (k2_sels lw_privs) (show w ∈ tables_1 from List.mem_append_left _ h)
theorem lw_m2 : ∀ w ∈ tables_1_2, w ∈ lw_tbl := fun w h => show w ∈ k2_sels lw_privs ++ tables_1 from List.mem_append_right (k2_sels lw_privs) (show w ∈ tables_1 from List.mem_append_right _ (List.mem_append_left _ h))
theorem lw_m3 : ∀ w ∈ tables_1_3, w ∈ lw_tbl := fun w h => show w ∈ k2_sels lw_privs ++ tables_1 from List.mem_append_right (k2_sels lw_privs) (show w ∈ tables_1 from List.mem_append_right _ (List.mem_append_right _ (List.mem_append_left _ h)))
theorem lw_m4 : ∀ w ∈ tables_1_4, w ∈ lw_tbl := fun w h => show w ∈ k2_sels lw_privs ++ tables_1 from List.mem_append_right (k2_sels lw_privs) (show w ∈ tables_1 from List.mem_append_right _ (List.mem_append_right _ (List.mem_append_right _ (List.mem_append_left _ h))))
theorem lw_m5 : ∀ w ∈ tables_1_5, w ∈ lw_tbl := fun w h => show w ∈ k2_sels lw_privs ++ tables_1 from List.mem_append_right (k2_sels lw_privs) (show w ∈ tables_1 from List.mem_append_right _ (List.mem_append_right _ (List.mem_append_right _ (List.mem_append_right _ (List.mem_append_left _ h)))))
theorem lw_m6 : ∀ w ∈ tables_1_6, w ∈ lw_tbl := fun w h => show w ∈ k2_sels lw_privs ++ tables_1 from List.mem_append_right (k2_sels lw_privs) (show w ∈ tables_1 from List.mem_append_right _ (List.mem_append_right _ (List.mem_append_right _ (List.mem_append_right _ (List.mem_append_right _ (List.mem_append_left _ h))))))
theorem lw_m7 : ∀ w ∈ tables_1_7, w ∈ lw_tbl := fun w h => show w ∈ k2_sels lw_privs ++ tables_1 from List.mem_append_right (k2_sels lw_privs) (show w ∈ tables_1 from List.mem_append_right _ (List.mem_append_right _ (List.mem_append_right _ (List.mem_append_right _ (List.mem_append_right _ (List.mem_append_right _ (List.mem_append_left _ h)))))))
theorem lw_m8 : ∀ w ∈ tables_1_8, w ∈ lw_tbl := fun w h => show w ∈ k2_sels lw_privs ++ tables_1 from List.mem_append_right (k2_sels lw_privs) (show w ∈ tables_1 from List.mem_append_right _ (List.mem_append_right _ (List.mem_append_right _ (List.mem_append_right _ (List.mem_append_right _ (List.mem_append_right _ (List.mem_append_right _ (List.mem_append_left _ h))))))))
theorem lw_m9 : ∀ w ∈ tables_1_9, w ∈ lw_tbl := fun w h => show w ∈ k2_sels lw_privs ++ tables_1 from List.mem_append_right (k2_sels lw_privs) (show w ∈ tables_1 from List.mem_append_right _ (List.mem_append_right _ (List.mem_append_right _ (List.mem_append_right _ (List.mem_append_right _ (List.mem_append_right _ (List.mem_append_right _ (List.mem_append_right _ (List.mem_append_left _ h)))))))))
theorem lw_m10 : ∀ w ∈ tables_1_10, w ∈ lw_tbl := fun w h => show w ∈ k2_sels lw_privs ++ tables_1 from List.mem_append_right (k2_sels lw_privs) (show w ∈ tables_1 from List.mem_append_right _ (List.mem_append_right _ (List.mem_append_right _ (List.mem_append_right _ (List.mem_append_right _ (List.mem_append_right _ (List.mem_append_right _ (List.mem_append_right _ (List.mem_append_right _ (List.mem_append_left _ h))))))))))
theorem lw_m11 : ∀ w ∈ tables_1_11, w ∈ lw_tbl := fun w h => show w ∈ k2_sels lw_privs ++ tables_1 from List.mem_append_right (k2_sels lw_privs) (show w ∈ tables_1 from List.mem_append_right _ (List.mem_append_right _ (List.mem_append_right _ (List.mem_append_right _ (List.mem_append_right _ (List.mem_append_right _ (List.mem_append_right _ (List.mem_append_right _ (List.mem_append_right _ (List.mem_append_right _ (List.mem_append_left _ h)))))))))))
theorem lw_m12 : ∀ w ∈ tables_1_12, w ∈ lw_tbl := fun w h => show w ∈ k2_sels lw_privs ++ tables_1 from List.mem_append_right (k2_sels lw_privs) (show w ∈ tables_1 from List.mem_append_right _ (List.mem_append_right _ (List.mem_append_right _ (List.mem_append_right _ (List.mem_append_right _ (List.mem_append_right _ (List.mem_append_right _ (List.mem_append_right _ (List.mem_append_right _ (List.mem_append_right _ (List.mem_append_right _ h)))))))))))
theorem qs0 : (Cond.selects "java/lang/NullPointerException" ⟨"java/lang/NullPointerException", "getExtendedNPEMessage", "()Ljava/lang/String;"⟩ ⟨"java/lang/NullPointerException", "getExtendedNPEMessage", "()Ljava/lang/String;"⟩) ∈ lw_all := lw_g (lw_at lw_ms 0 rfl) rfl
theorem qs1 : (Cond.selects "java/lang/Throwable" ⟨"java/lang/Throwable", "fillInStackTrace", "(I)Ljava/lang/Throwable;"⟩ ⟨"java/lang/Throwable", "fillInStackTrace", "(I)Ljava/lang/Throwable;"⟩) ∈ lw_all := lw_g (lw_at lw_ms 1 rfl) rfl
theorem qs2 : (Cond.selects "java/util/ArrayDeque" ⟨"java/util/ArrayDeque", "grow", "(I)V"⟩ ⟨"java/util/ArrayDeque", "grow", "(I)V"⟩) ∈ lw_all := lw_g (lw_at lw_ms 2 rfl) rfl
theorem qs3 : (Cond.selects "java/util/ArrayDeque" ⟨"java/util/ArrayDeque", "newCapacity", "(II)I"⟩ ⟨"java/util/ArrayDeque", "newCapacity", "(II)I"⟩) ∈ lw_all := lw_g (lw_at lw_ms 3 rfl) rfl
theorem qs4 : (Cond.selects "InkPrintery" ⟨"InkPrintery", "begin", "()LInkPrintery$State;"⟩ ⟨"InkPrintery", "begin", "()LInkPrintery$State;"⟩) ∈ lw_all := lw_g (lw_at lw_ms 4 rfl) rfl
theorem qs5 : (Cond.selects "InkPrintery$State$OrderSearch" ⟨"InkPrintery$State$OrderSearch", "colour", "(I)I"⟩ ⟨"InkPrintery$State$OrderSearch", "colour", "(I)I"⟩) ∈ lw_all := lw_g (lw_at lw_ms 5 rfl) rfl
theorem qs6 : (Cond.selects "InkPrintery$State$OrderSearch" ⟨"InkPrintery$State$OrderSearch", "fewest", "(II)I"⟩ ⟨"InkPrintery$State$OrderSearch", "fewest", "(II)I"⟩) ∈ lw_all := lw_g (lw_at lw_ms 6 rfl) rfl
theorem qs7 : (Cond.selects "InkPrintery$State$OrderSearch" ⟨"InkPrintery$State$OrderSearch", "with", "(III)I"⟩ ⟨"InkPrintery$State$OrderSearch", "with", "(III)I"⟩) ∈ lw_all := lw_g (lw_at lw_ms 7 rfl) rfl
theorem qs8 : (Cond.selects "InkPrintery$State" ⟨"InkPrintery$State", "nextToGet", "([I)I"⟩ ⟨"InkPrintery$State", "nextToGet", "([I)I"⟩) ∈ lw_all := lw_g (lw_at lw_ms 8 rfl) rfl
theorem qs9 : (Cond.selects "InkPrintery$State" ⟨"InkPrintery$State", "printCopies", "(LInkPrintery$Edition;I)V"⟩ ⟨"InkPrintery$State", "printCopies", "(LInkPrintery$Edition;I)V"⟩) ∈ lw_all := lw_g (lw_at lw_ms 9 rfl) rfl
theorem qs10 : (Cond.selects "InkPrintery" ⟨"InkPrintery", "commit", "(I)I"⟩ ⟨"InkPrintery", "commit", "(I)I"⟩) ∈ lw_all := lw_g (lw_at lw_ms 10 rfl) rfl
theorem qs11 : (Cond.selects "InkPrintery" ⟨"InkPrintery", "search", "()LInkPrintery$State$OrderSearch;"⟩ ⟨"InkPrintery", "search", "()LInkPrintery$State$OrderSearch;"⟩) ∈ lw_all := lw_g (lw_at lw_ms 11 rfl) rfl
theorem qs12 : (Cond.selects "InkPrintery$State$OrderSearch" ⟨"InkPrintery$State$OrderSearch", "leastFrom", "(II[I)I"⟩ ⟨"InkPrintery$State$OrderSearch", "leastFrom", "(II[I)I"⟩) ∈ lw_all := lw_g (lw_at lw_ms 12 rfl) rfl
theorem qs13 : (Cond.selects "InkPrintery$State" ⟨"InkPrintery$State", "lengths", "()[I"⟩ ⟨"InkPrintery$State", "lengths", "()[I"⟩) ∈ lw_all := lw_g (lw_at lw_ms 13 rfl) rfl
theorem qs14 : (Cond.selects "InkPrintery$State" ⟨"InkPrintery$State", "isInkConsistent", "()Z"⟩ ⟨"InkPrintery$State", "isInkConsistent", "()Z"⟩) ∈ lw_all := lw_g (lw_at lw_ms 14 rfl) rfl
theorem qs15 : (Cond.selects "InkPrintery$State" ⟨"InkPrintery$State", "areSharesConsistent", "()Z"⟩ ⟨"InkPrintery$State", "areSharesConsistent", "()Z"⟩) ∈ lw_all := lw_g (lw_at lw_ms 15 rfl) rfl
theorem qs16 : (Cond.selects "InkPrintery$State" ⟨"InkPrintery$State", "level", "()I"⟩ ⟨"InkPrintery$State", "level", "()I"⟩) ∈ lw_all := lw_g (lw_at lw_ms 16 rfl) rfl
theorem qs17 : (Cond.selects "InkPrintery$State" ⟨"InkPrintery$State", "sheetsFor", "(I)I"⟩ ⟨"InkPrintery$State", "sheetsFor", "(I)I"⟩) ∈ lw_all := lw_g (lw_at lw_ms 17 rfl) rfl
theorem qs18 : (Cond.selects "InkPrintery$State" ⟨"InkPrintery$State", "passHour", "()I"⟩ ⟨"InkPrintery$State", "passHour", "()I"⟩) ∈ lw_all := lw_g (lw_at lw_ms 18 rfl) rfl
theorem qs19 : (Cond.selects "InkPrintery" ⟨"InkPrintery", "parse", "()V"⟩ ⟨"InkPrintery", "parse", "()V"⟩) ∈ lw_all := lw_g (lw_at lw_ms 19 rfl) rfl
theorem qs20 : (Cond.selects "InkPrintery$Parser" ⟨"InkPrintery$Parser", "command", "()LInkPrintery$Command;"⟩ ⟨"InkPrintery$Parser", "command", "()LInkPrintery$Command;"⟩) ∈ lw_all := lw_g (lw_at lw_ms 20 rfl) rfl
theorem qs21 : (Cond.selects "InkPrintery$Parser" ⟨"InkPrintery$Parser", "current", "()I"⟩ ⟨"InkPrintery$Parser", "current", "()I"⟩) ∈ lw_all := lw_g (lw_at lw_ms 21 rfl) rfl
theorem qs22 : (Cond.selects "InkPrintery$Parser" ⟨"InkPrintery$Parser", "at", "(I)I"⟩ ⟨"InkPrintery$Parser", "at", "(I)I"⟩) ∈ lw_all := lw_g (lw_at lw_ms 22 rfl) rfl
theorem qs23 : (Cond.selects "InkPrintery$Parser" ⟨"InkPrintery$Parser", "word", "(Ljava/lang/String;)LInkPrintery$Command;"⟩ ⟨"InkPrintery$Parser", "word", "(Ljava/lang/String;)LInkPrintery$Command;"⟩) ∈ lw_all := lw_g (lw_at lw_ms 23 rfl) rfl
theorem qs24 : (Cond.selects "InkPrintery$Parser" ⟨"InkPrintery$Parser", "accept", "(C)Z"⟩ ⟨"InkPrintery$Parser", "accept", "(C)Z"⟩) ∈ lw_all := lw_g (lw_at lw_ms 24 rfl) rfl
theorem qs25 : (Cond.selects "InkPrintery$Parser" ⟨"InkPrintery$Parser", "expect", "(Z)V"⟩ ⟨"InkPrintery$Parser", "expect", "(Z)V"⟩) ∈ lw_all := lw_g (lw_at lw_ms 25 rfl) rfl
theorem qs26 : (Cond.selects "InkPrintery$Parser" ⟨"InkPrintery$Parser", "number", "(I)I"⟩ ⟨"InkPrintery$Parser", "number", "(I)I"⟩) ∈ lw_all := lw_g (lw_at lw_ms 26 rfl) rfl
theorem qs27 : (Cond.selects "InkPrintery$Parser" ⟨"InkPrintery$Parser", "isDigit", "()Z"⟩ ⟨"InkPrintery$Parser", "isDigit", "()Z"⟩) ∈ lw_all := lw_g (lw_at lw_ms 27 rfl) rfl
theorem qs28 : (Cond.selects "InkPrintery$Parser" ⟨"InkPrintery$Parser", "commandWithP", "()LInkPrintery$Command;"⟩ ⟨"InkPrintery$Parser", "commandWithP", "()LInkPrintery$Command;"⟩) ∈ lw_all := lw_g (lw_at lw_ms 28 rfl) rfl
theorem qs29 : (Cond.selects "java/util/LinkedList" ⟨"java/util/LinkedList", "checkPositionIndex", "(I)V"⟩ ⟨"java/util/LinkedList", "checkPositionIndex", "(I)V"⟩) ∈ lw_all := lw_g (lw_at lw_ms 29 rfl) rfl
theorem qs30 : (Cond.selects "java/util/LinkedList" ⟨"java/util/LinkedList", "isPositionIndex", "(I)Z"⟩ ⟨"java/util/LinkedList", "isPositionIndex", "(I)Z"⟩) ∈ lw_all := lw_g (lw_at lw_ms 30 rfl) rfl
theorem qs31 : (Cond.selects "java/util/LinkedList" ⟨"java/util/LinkedList", "outOfBoundsMsg", "(I)Ljava/lang/String;"⟩ ⟨"java/util/LinkedList", "outOfBoundsMsg", "(I)Ljava/lang/String;"⟩) ∈ lw_all := lw_g (lw_at lw_ms 31 rfl) rfl
theorem qs32 : (Cond.selects "java/util/LinkedList" ⟨"java/util/LinkedList", "checkElementIndex", "(I)V"⟩ ⟨"java/util/LinkedList", "checkElementIndex", "(I)V"⟩) ∈ lw_all := lw_g (lw_at lw_ms 32 rfl) rfl
theorem qs33 : (Cond.selects "java/util/LinkedList" ⟨"java/util/LinkedList", "isElementIndex", "(I)Z"⟩ ⟨"java/util/LinkedList", "isElementIndex", "(I)Z"⟩) ∈ lw_all := lw_g (lw_at lw_ms 33 rfl) rfl
theorem qs34 : (Cond.selects "InkPrinteryModel" ⟨"InkPrinteryModel", "begin", "()V"⟩ ⟨"InkPrinteryModel", "begin", "()V"⟩) ∈ lw_all := lw_g (lw_at lw_ms 34 rfl) rfl
theorem qs35 : (Cond.selects "InkPrinteryModel" ⟨"InkPrinteryModel", "cannotPour", "(II)I"⟩ ⟨"InkPrinteryModel", "cannotPour", "(II)I"⟩) ∈ lw_all := lw_g (lw_at lw_ms 35 rfl) rfl
theorem qs36 : (Cond.selects "InkPrinteryModel" ⟨"InkPrinteryModel", "fail", "(I)I"⟩ ⟨"InkPrinteryModel", "fail", "(I)I"⟩) ∈ lw_all := lw_g (lw_at lw_ms 36 rfl) rfl
theorem qs37 : (Cond.selects "InkPrinteryModel" ⟨"InkPrinteryModel", "pours", "(II)I"⟩ ⟨"InkPrinteryModel", "pours", "(II)I"⟩) ∈ lw_all := lw_g (lw_at lw_ms 37 rfl) rfl
theorem qs38 : (Cond.selects "InkPrinteryModel" ⟨"InkPrinteryModel", "commit", "(I)I"⟩ ⟨"InkPrinteryModel", "commit", "(I)I"⟩) ∈ lw_all := lw_g (lw_at lw_ms 38 rfl) rfl
theorem qs39 : (Cond.selects "InkPrinteryModel" ⟨"InkPrinteryModel", "cannotBuy", "(I)I"⟩ ⟨"InkPrinteryModel", "cannotBuy", "(I)I"⟩) ∈ lw_all := lw_g (lw_at lw_ms 39 rfl) rfl
theorem qs40 : (Cond.selects "InkPrinteryModel" ⟨"InkPrinteryModel", "buys", "(I)I"⟩ ⟨"InkPrinteryModel", "buys", "(I)I"⟩) ∈ lw_all := lw_g (lw_at lw_ms 40 rfl) rfl
theorem qs41 : (Cond.selects "InkPrinteryModel" ⟨"InkPrinteryModel", "passes", "(I)I"⟩ ⟨"InkPrinteryModel", "passes", "(I)I"⟩) ∈ lw_all := lw_g (lw_at lw_ms 41 rfl) rfl
theorem qs42 : (Cond.selects "InkPrinteryModel" ⟨"InkPrinteryModel", "checked", "(Z)I"⟩ ⟨"InkPrinteryModel", "checked", "(Z)I"⟩) ∈ lw_all := lw_g (lw_at lw_ms 42 rfl) rfl
theorem qs43 : (Cond.selects "InkPrinteryModel" ⟨"InkPrinteryModel", "plain", "(I)I"⟩ ⟨"InkPrinteryModel", "plain", "(I)I"⟩) ∈ lw_all := lw_g (lw_at lw_ms 43 rfl) rfl
theorem qs44 : (Cond.selects "InkPrinteryModel" ⟨"InkPrinteryModel", "after", "(II)I"⟩ ⟨"InkPrinteryModel", "after", "(II)I"⟩) ∈ lw_all := lw_g (lw_at lw_ms 44 rfl) rfl
theorem qs45 : (Cond.selects "InkPrinteryModel" ⟨"InkPrinteryModel", "leftAfter", "(II)I"⟩ ⟨"InkPrinteryModel", "leftAfter", "(II)I"⟩) ∈ lw_all := lw_g (lw_at lw_ms 45 rfl) rfl
theorem qs46 : (Cond.selects "InkPrinteryModel" ⟨"InkPrinteryModel", "cannotAdd", "(II)I"⟩ ⟨"InkPrinteryModel", "cannotAdd", "(II)I"⟩) ∈ lw_all := lw_g (lw_at lw_ms 46 rfl) rfl
theorem qs47 : (Cond.selects "InkPrinteryModel" ⟨"InkPrinteryModel", "adds", "(II)I"⟩ ⟨"InkPrinteryModel", "adds", "(II)I"⟩) ∈ lw_all := lw_g (lw_at lw_ms 47 rfl) rfl
theorem qs48 : (Cond.selects "InkPrinteryModel" ⟨"InkPrinteryModel", "isEdition", "(I)Z"⟩ ⟨"InkPrinteryModel", "isEdition", "(I)Z"⟩) ∈ lw_all := lw_g (lw_at lw_ms 48 rfl) rfl
theorem qs49 : (Cond.selects "InkPrinteryModel" ⟨"InkPrinteryModel", "removes", "(I)I"⟩ ⟨"InkPrinteryModel", "removes", "(I)I"⟩) ∈ lw_all := lw_g (lw_at lw_ms 49 rfl) rfl
theorem qs50 : (Cond.selects "InkPrinteryModel" ⟨"InkPrinteryModel", "cannotPrint", "(I)I"⟩ ⟨"InkPrinteryModel", "cannotPrint", "(I)I"⟩) ∈ lw_all := lw_g (lw_at lw_ms 50 rfl) rfl
theorem qs51 : (Cond.selects "InkPrinteryModel" ⟨"InkPrinteryModel", "missing", "(I)I"⟩ ⟨"InkPrinteryModel", "missing", "(I)I"⟩) ∈ lw_all := lw_g (lw_at lw_ms 51 rfl) rfl
theorem qs52 : (Cond.selects "InkPrinteryModel" ⟨"InkPrinteryModel", "e", "(II)I"⟩ ⟨"InkPrinteryModel", "e", "(II)I"⟩) ∈ lw_all := lw_g (lw_at lw_ms 52 rfl) rfl
theorem qs53 : (Cond.selects "InkPrinteryModel" ⟨"InkPrinteryModel", "ofWell", "(I)I"⟩ ⟨"InkPrinteryModel", "ofWell", "(I)I"⟩) ∈ lw_all := lw_g (lw_at lw_ms 53 rfl) rfl
theorem qs54 : (Cond.selects "InkPrinteryModel" ⟨"InkPrinteryModel", "printsOne", "(I)I"⟩ ⟨"InkPrinteryModel", "printsOne", "(I)I"⟩) ∈ lw_all := lw_g (lw_at lw_ms 54 rfl) rfl
theorem qs55 : (Cond.selects "InkPrinteryModel" ⟨"InkPrinteryModel", "prints", "(II)I"⟩ ⟨"InkPrinteryModel", "prints", "(II)I"⟩) ∈ lw_all := lw_g (lw_at lw_ms 55 rfl) rfl
theorem qs56 : (Cond.selects "InkPrinteryModel" ⟨"InkPrinteryModel", "minutesOfBest", "()I"⟩ ⟨"InkPrinteryModel", "minutesOfBest", "()I"⟩) ∈ lw_all := lw_g (lw_at lw_ms 56 rfl) rfl
theorem qs57 : (Cond.selects "InkPrinteryModel" ⟨"InkPrinteryModel", "lay", "()V"⟩ ⟨"InkPrinteryModel", "lay", "()V"⟩) ∈ lw_all := lw_g (lw_at lw_ms 57 rfl) rfl
theorem qs58 : (Cond.selects "InkPrinteryModel" ⟨"InkPrinteryModel", "with", "(III)I"⟩ ⟨"InkPrinteryModel", "with", "(III)I"⟩) ∈ lw_all := lw_g (lw_at lw_ms 58 rfl) rfl
theorem qs59 : (Cond.selects "InkPrinteryModel" ⟨"InkPrinteryModel", "changeTo", "(II)I"⟩ ⟨"InkPrinteryModel", "changeTo", "(II)I"⟩) ∈ lw_all := lw_g (lw_at lw_ms 59 rfl) rfl
theorem qs60 : (Cond.selects "InkPrinteryModel" ⟨"InkPrinteryModel", "open", "()I"⟩ ⟨"InkPrinteryModel", "open", "()I"⟩) ∈ lw_all := lw_g (lw_at lw_ms 60 rfl) rfl
theorem qs61 : (Cond.selects "InkPrinteryModel" ⟨"InkPrinteryModel", "laysOrder", "()I"⟩ ⟨"InkPrinteryModel", "laysOrder", "()I"⟩) ∈ lw_all := lw_g (lw_at lw_ms 61 rfl) rfl
theorem qs62 : (Cond.selects "InkPrinteryModel" ⟨"InkPrinteryModel", "sharing", "(I)I"⟩ ⟨"InkPrinteryModel", "sharing", "(I)I"⟩) ∈ lw_all := lw_g (lw_at lw_ms 62 rfl) rfl
theorem qs63 : (Cond.selects "InkPrinteryModel" ⟨"InkPrinteryModel", "share", "()V"⟩ ⟨"InkPrinteryModel", "share", "()V"⟩) ∈ lw_all := lw_g (lw_at lw_ms 63 rfl) rfl
theorem qs64 : (Cond.selects "InkPrinteryModel" ⟨"InkPrinteryModel", "nextShare", "()I"⟩ ⟨"InkPrinteryModel", "nextShare", "()I"⟩) ∈ lw_all := lw_g (lw_at lw_ms 64 rfl) rfl
theorem qs65 : (Cond.selects "InkPrinteryModel" ⟨"InkPrinteryModel", "printsAll", "()I"⟩ ⟨"InkPrinteryModel", "printsAll", "()I"⟩) ∈ lw_all := lw_g (lw_at lw_ms 65 rfl) rfl
theorem qs66 : (Cond.selects "InkPrinteryModel" ⟨"InkPrinteryModel", "of", "(II)I"⟩ ⟨"InkPrinteryModel", "of", "(II)I"⟩) ∈ lw_all := lw_g (lw_at lw_ms 66 rfl) rfl
theorem qs67 : (Cond.selects "InkPrinteryModel" ⟨"InkPrinteryModel", "cannotProve", "(I)I"⟩ ⟨"InkPrinteryModel", "cannotProve", "(I)I"⟩) ∈ lw_all := lw_g (lw_at lw_ms 67 rfl) rfl
theorem qs68 : (Cond.selects "InkPrinteryModel" ⟨"InkPrinteryModel", "proves", "(I)I"⟩ ⟨"InkPrinteryModel", "proves", "(I)I"⟩) ∈ lw_all := lw_g (lw_at lw_ms 68 rfl) rfl
theorem qs69 : (Cond.selects "InkPrinteryModel" ⟨"InkPrinteryModel", "isProof", "(I)Z"⟩ ⟨"InkPrinteryModel", "isProof", "(I)Z"⟩) ∈ lw_all := lw_g (lw_at lw_ms 69 rfl) rfl
theorem qs70 : (Cond.selects "InkPrinteryModel" ⟨"InkPrinteryModel", "drops", "(I)I"⟩ ⟨"InkPrinteryModel", "drops", "(I)I"⟩) ∈ lw_all := lw_g (lw_at lw_ms 70 rfl) rfl
theorem qs71 : (Cond.selects "InkPrinteryModel" ⟨"InkPrinteryModel", "p", "(II)I"⟩ ⟨"InkPrinteryModel", "p", "(II)I"⟩) ∈ lw_all := lw_g (lw_at lw_ms 71 rfl) rfl
theorem qs72 : (Cond.selects "InkPrinteryModel" ⟨"InkPrinteryModel", "rises", "()I"⟩ ⟨"InkPrinteryModel", "rises", "()I"⟩) ∈ lw_all := lw_g (lw_at lw_ms 72 rfl) rfl
theorem qs73 : (Cond.selects "InkPrinteryModel" ⟨"InkPrinteryModel", "writeNumber", "(I)V"⟩ ⟨"InkPrinteryModel", "writeNumber", "(I)V"⟩) ∈ lw_all := lw_g (lw_at lw_ms 73 rfl) rfl
theorem qs74 : (Cond.selects "InkPrinteryModel" ⟨"InkPrinteryModel", "write", "(I)V"⟩ ⟨"InkPrinteryModel", "write", "(I)V"⟩) ∈ lw_all := lw_g (lw_at lw_ms 74 rfl) rfl
theorem qs75 : (Cond.selects "InkPrinteryModel" ⟨"InkPrinteryModel", "parse", "()V"⟩ ⟨"InkPrinteryModel", "parse", "()V"⟩) ∈ lw_all := lw_g (lw_at lw_ms 75 rfl) rfl
theorem qs76 : (Cond.selects "InkPrinteryModel" ⟨"InkPrinteryModel", "command", "()V"⟩ ⟨"InkPrinteryModel", "command", "()V"⟩) ∈ lw_all := lw_g (lw_at lw_ms 76 rfl) rfl
theorem qs77 : (Cond.selects "InkPrinteryModel" ⟨"InkPrinteryModel", "word", "()I"⟩ ⟨"InkPrinteryModel", "word", "()I"⟩) ∈ lw_all := lw_g (lw_at lw_ms 77 rfl) rfl
theorem qs78 : (Cond.selects "InkPrinteryModel" ⟨"InkPrinteryModel", "number", "(I)I"⟩ ⟨"InkPrinteryModel", "number", "(I)I"⟩) ∈ lw_all := lw_g (lw_at lw_ms 78 rfl) rfl
theorem qs79 : (Cond.selects "InkPrinteryModel" ⟨"InkPrinteryModel", "mark", "()I"⟩ ⟨"InkPrinteryModel", "mark", "()I"⟩) ∈ lw_all := lw_g (lw_at lw_ms 79 rfl) rfl
theorem qs80 : (Cond.selects "InkPrinteryModel" ⟨"InkPrinteryModel", "why", "(III)I"⟩ ⟨"InkPrinteryModel", "why", "(III)I"⟩) ∈ lw_all := lw_g (lw_at lw_ms 80 rfl) rfl
theorem qs81 : (Cond.selects "InkPrinteryModel" ⟨"InkPrinteryModel", "does", "(III)I"⟩ ⟨"InkPrinteryModel", "does", "(III)I"⟩) ∈ lw_all := lw_g (lw_at lw_ms 81 rfl) rfl
theorem qs82 : (Cond.selects "InkPrinteryModel" ⟨"InkPrinteryModel", "present", "(I)I"⟩ ⟨"InkPrinteryModel", "present", "(I)I"⟩) ∈ lw_all := lw_g (lw_at lw_ms 82 rfl) rfl
