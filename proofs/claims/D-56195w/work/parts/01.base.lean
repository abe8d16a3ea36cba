-- ===== PART A: goes FIRST, ahead of the names: the tables' words, and 'selects' of the private methods out of them =====
/-- a private method of a class that the tables say can be made, by its rows of tables_1 -/
def lw_okq (q : MethodName × Nat) : Prop := (q.1.cls ≠ "java/lang/invoke/MethodHandle" ∧ q.1.cls ≠ "java/lang/invoke/VarHandle") ∧ Cond.instantiable q.1.cls q.2 ∈ tables_1 ∧ Cond.privateMethod q.1 ∈ tables_1 ∧ Cond.instanceMethod q.1 ∈ tables_1
set_option maxRecDepth 100000
theorem lw_t1 {w : Cond} (h : w ∈ tables_1_1) : w ∈ tables_1 := List.mem_append_left _ h
theorem lw_t2 {w : Cond} (h : w ∈ tables_1_2) : w ∈ tables_1 := List.mem_append_right _ (List.mem_append_left _ h)
theorem lw_t3 {w : Cond} (h : w ∈ tables_1_3) : w ∈ tables_1 := List.mem_append_right _ (List.mem_append_right _ (List.mem_append_left _ h))
theorem lw_t4 {w : Cond} (h : w ∈ tables_1_4) : w ∈ tables_1 := List.mem_append_right _ (List.mem_append_right _ (List.mem_append_right _ (List.mem_append_left _ h)))
theorem lw_t5 {w : Cond} (h : w ∈ tables_1_5) : w ∈ tables_1 := List.mem_append_right _ (List.mem_append_right _ (List.mem_append_right _ (List.mem_append_right _ (List.mem_append_left _ h))))
theorem lw_t6 {w : Cond} (h : w ∈ tables_1_6) : w ∈ tables_1 := List.mem_append_right _ (List.mem_append_right _ (List.mem_append_right _ (List.mem_append_right _ (List.mem_append_right _ (List.mem_append_left _ h)))))
theorem lw_t7 {w : Cond} (h : w ∈ tables_1_7) : w ∈ tables_1 := List.mem_append_right _ (List.mem_append_right _ (List.mem_append_right _ (List.mem_append_right _ (List.mem_append_right _ (List.mem_append_right _ (List.mem_append_left _ h))))))
theorem lw_t8 {w : Cond} (h : w ∈ tables_1_8) : w ∈ tables_1 := List.mem_append_right _ (List.mem_append_right _ (List.mem_append_right _ (List.mem_append_right _ (List.mem_append_right _ (List.mem_append_right _ (List.mem_append_right _ (List.mem_append_left _ h)))))))
theorem lw_t9 {w : Cond} (h : w ∈ tables_1_9) : w ∈ tables_1 := List.mem_append_right _ (List.mem_append_right _ (List.mem_append_right _ (List.mem_append_right _ (List.mem_append_right _ (List.mem_append_right _ (List.mem_append_right _ (List.mem_append_right _ (List.mem_append_left _ h))))))))
theorem lw_t10 {w : Cond} (h : w ∈ tables_1_10) : w ∈ tables_1 := List.mem_append_right _ (List.mem_append_right _ (List.mem_append_right _ (List.mem_append_right _ (List.mem_append_right _ (List.mem_append_right _ (List.mem_append_right _ (List.mem_append_right _ (List.mem_append_right _ (List.mem_append_left _ h)))))))))
theorem lw_t11 {w : Cond} (h : w ∈ tables_1_11) : w ∈ tables_1 := List.mem_append_right _ (List.mem_append_right _ (List.mem_append_right _ (List.mem_append_right _ (List.mem_append_right _ (List.mem_append_right _ (List.mem_append_right _ (List.mem_append_right _ (List.mem_append_right _ (List.mem_append_right _ (List.mem_append_left _ h))))))))))
theorem lw_t12 {w : Cond} (h : w ∈ tables_1_12) : w ∈ tables_1 := List.mem_append_right _ (List.mem_append_right _ (List.mem_append_right _ (List.mem_append_right _ (List.mem_append_right _ (List.mem_append_right _ (List.mem_append_right _ (List.mem_append_right _ (List.mem_append_right _ (List.mem_append_right _ (List.mem_append_right _ h))))))))))
theorem lw_p0 : lw_okq (⟨"java/util/LinkedList", "checkElementIndex", "(I)V"⟩, 4) := ⟨⟨by decide +kernel, by decide +kernel⟩, lw_t1 (List.mem_of_getElem? (i := 121) rfl), lw_t2 (List.mem_of_getElem? (i := 42) rfl), lw_t2 (List.mem_of_getElem? (i := 43) rfl)⟩
theorem lw_p1 : lw_okq (⟨"java/util/LinkedList", "isElementIndex", "(I)Z"⟩, 4) := ⟨⟨by decide +kernel, by decide +kernel⟩, lw_t1 (List.mem_of_getElem? (i := 121) rfl), lw_t2 (List.mem_of_getElem? (i := 46) rfl), lw_t2 (List.mem_of_getElem? (i := 47) rfl)⟩
theorem lw_p2 : lw_okq (⟨"java/lang/Throwable", "fillInStackTrace", "(I)Ljava/lang/Throwable;"⟩, 6) := ⟨⟨by decide +kernel, by decide +kernel⟩, lw_t2 (List.mem_of_getElem? (i := 96) rfl), lw_t2 (List.mem_of_getElem? (i := 94) rfl), lw_t2 (List.mem_of_getElem? (i := 95) rfl)⟩
theorem lw_p3 : lw_okq (⟨"java/util/LinkedList", "outOfBoundsMsg", "(I)Ljava/lang/String;"⟩, 4) := ⟨⟨by decide +kernel, by decide +kernel⟩, lw_t1 (List.mem_of_getElem? (i := 121) rfl), lw_t2 (List.mem_of_getElem? (i := 99) rfl), lw_t2 (List.mem_of_getElem? (i := 100) rfl)⟩
theorem lw_p4 : lw_okq (⟨"FilterWaterworks$Works$Numbering", "follow", "(II)V"⟩, 5) := ⟨⟨by decide +kernel, by decide +kernel⟩, lw_t3 (List.mem_of_getElem? (i := 162) rfl), lw_t3 (List.mem_of_getElem? (i := 197) rfl), lw_t3 (List.mem_of_getElem? (i := 198) rfl)⟩
theorem lw_p5 : lw_okq (⟨"FilterWaterworks$Works", "areConnected", "(IIII)Z"⟩, 6) := ⟨⟨by decide +kernel, by decide +kernel⟩, lw_t1 (List.mem_of_getElem? (i := 59) rfl), lw_t3 (List.mem_of_getElem? (i := 216) rfl), lw_t3 (List.mem_of_getElem? (i := 217) rfl)⟩
theorem lw_p6 : lw_okq (⟨"FilterWaterworks$Works", "areWaysAlike", "(I)Z"⟩, 6) := ⟨⟨by decide +kernel, by decide +kernel⟩, lw_t1 (List.mem_of_getElem? (i := 59) rfl), lw_t4 (List.mem_of_getElem? (i := 51) rfl), lw_t4 (List.mem_of_getElem? (i := 52) rfl)⟩
theorem lw_p7 : lw_okq (⟨"FilterWaterworks", "change", "(Ljava/lang/String;[I)I"⟩, 7) := ⟨⟨by decide +kernel, by decide +kernel⟩, lw_t1 (List.mem_of_getElem? (i := 51) rfl), lw_t4 (List.mem_of_getElem? (i := 141) rfl), lw_t4 (List.mem_of_getElem? (i := 142) rfl)⟩
theorem lw_p8 : lw_okq (⟨"java/util/ArrayList", "add", "(Ljava/lang/Object;[Ljava/lang/Object;I)V"⟩, 3) := ⟨⟨by decide +kernel, by decide +kernel⟩, lw_t1 (List.mem_of_getElem? (i := 65) rfl), lw_t4 (List.mem_of_getElem? (i := 186) rfl), lw_t4 (List.mem_of_getElem? (i := 187) rfl)⟩
theorem lw_p9 : lw_okq (⟨"java/util/ArrayList", "grow", "()[Ljava/lang/Object;"⟩, 3) := ⟨⟨by decide +kernel, by decide +kernel⟩, lw_t1 (List.mem_of_getElem? (i := 65) rfl), lw_t4 (List.mem_of_getElem? (i := 190) rfl), lw_t4 (List.mem_of_getElem? (i := 191) rfl)⟩
theorem lw_p10 : lw_okq (⟨"java/util/ArrayList", "grow", "(I)[Ljava/lang/Object;"⟩, 3) := ⟨⟨by decide +kernel, by decide +kernel⟩, lw_t1 (List.mem_of_getElem? (i := 65) rfl), lw_t4 (List.mem_of_getElem? (i := 194) rfl), lw_t4 (List.mem_of_getElem? (i := 195) rfl)⟩
theorem lw_p11 : lw_okq (⟨"FilterWaterworks$Command", "at", "(I)I"⟩, 2) := ⟨⟨by decide +kernel, by decide +kernel⟩, lw_t5 (List.mem_of_getElem? (i := 79) rfl), lw_t5 (List.mem_of_getElem? (i := 172) rfl), lw_t5 (List.mem_of_getElem? (i := 173) rfl)⟩
theorem lw_p12 : lw_okq (⟨"FilterWaterworks$Works", "passMinute", "()V"⟩, 6) := ⟨⟨by decide +kernel, by decide +kernel⟩, lw_t1 (List.mem_of_getElem? (i := 59) rfl), lw_t6 (List.mem_of_getElem? (i := 28) rfl), lw_t6 (List.mem_of_getElem? (i := 29) rfl)⟩
theorem lw_p13 : lw_okq (⟨"FilterWaterworks$Works", "direction", "(LFilterWaterworks$Pipe;)LFilterWaterworks$Direction;"⟩, 6) := ⟨⟨by decide +kernel, by decide +kernel⟩, lw_t1 (List.mem_of_getElem? (i := 59) rfl), lw_t6 (List.mem_of_getElem? (i := 36) rfl), lw_t6 (List.mem_of_getElem? (i := 37) rfl)⟩
theorem lw_p14 : lw_okq (⟨"FilterWaterworks$Works", "flow", "(LFilterWaterworks$Pipe;I)V"⟩, 6) := ⟨⟨by decide +kernel, by decide +kernel⟩, lw_t1 (List.mem_of_getElem? (i := 59) rfl), lw_t6 (List.mem_of_getElem? (i := 53) rfl), lw_t6 (List.mem_of_getElem? (i := 54) rfl)⟩
theorem lw_p15 : lw_okq (⟨"FilterWaterworks", "commit", "(LFilterWaterworks$Works;I)I"⟩, 7) := ⟨⟨by decide +kernel, by decide +kernel⟩, lw_t1 (List.mem_of_getElem? (i := 51) rfl), lw_t6 (List.mem_of_getElem? (i := 63) rfl), lw_t6 (List.mem_of_getElem? (i := 64) rfl)⟩
def lw_privs_1 : List (MethodName × Nat) := [(⟨"java/util/LinkedList", "checkElementIndex", "(I)V"⟩, 4), (⟨"java/util/LinkedList", "isElementIndex", "(I)Z"⟩, 4), (⟨"java/lang/Throwable", "fillInStackTrace", "(I)Ljava/lang/Throwable;"⟩, 6), (⟨"java/util/LinkedList", "outOfBoundsMsg", "(I)Ljava/lang/String;"⟩, 4), (⟨"FilterWaterworks$Works$Numbering", "follow", "(II)V"⟩, 5), (⟨"FilterWaterworks$Works", "areConnected", "(IIII)Z"⟩, 6), (⟨"FilterWaterworks$Works", "areWaysAlike", "(I)Z"⟩, 6), (⟨"FilterWaterworks", "change", "(Ljava/lang/String;[I)I"⟩, 7), (⟨"java/util/ArrayList", "add", "(Ljava/lang/Object;[Ljava/lang/Object;I)V"⟩, 3), (⟨"java/util/ArrayList", "grow", "()[Ljava/lang/Object;"⟩, 3), (⟨"java/util/ArrayList", "grow", "(I)[Ljava/lang/Object;"⟩, 3), (⟨"FilterWaterworks$Command", "at", "(I)I"⟩, 2), (⟨"FilterWaterworks$Works", "passMinute", "()V"⟩, 6), (⟨"FilterWaterworks$Works", "direction", "(LFilterWaterworks$Pipe;)LFilterWaterworks$Direction;"⟩, 6), (⟨"FilterWaterworks$Works", "flow", "(LFilterWaterworks$Pipe;I)V"⟩, 6), (⟨"FilterWaterworks", "commit", "(LFilterWaterworks$Works;I)I"⟩, 7)]
theorem lw_r1 : ∀ q ∈ lw_privs_1, lw_okq q := List.forall_mem_cons.mpr ⟨lw_p0, List.forall_mem_cons.mpr ⟨lw_p1, List.forall_mem_cons.mpr ⟨lw_p2, List.forall_mem_cons.mpr ⟨lw_p3, List.forall_mem_cons.mpr ⟨lw_p4, List.forall_mem_cons.mpr ⟨lw_p5, List.forall_mem_cons.mpr ⟨lw_p6, List.forall_mem_cons.mpr ⟨lw_p7, List.forall_mem_cons.mpr ⟨lw_p8, List.forall_mem_cons.mpr ⟨lw_p9, List.forall_mem_cons.mpr ⟨lw_p10, List.forall_mem_cons.mpr ⟨lw_p11, List.forall_mem_cons.mpr ⟨lw_p12, List.forall_mem_cons.mpr ⟨lw_p13, List.forall_mem_cons.mpr ⟨lw_p14, List.forall_mem_cons.mpr ⟨lw_p15, fun _ h => absurd h List.not_mem_nil⟩⟩⟩⟩⟩⟩⟩⟩⟩⟩⟩⟩⟩⟩⟩⟩
theorem lw_p16 : lw_okq (⟨"java/util/LinkedList", "unlinkFirst", "(Ljava/util/LinkedList$Node;)Ljava/lang/Object;"⟩, 4) := ⟨⟨by decide +kernel, by decide +kernel⟩, lw_t1 (List.mem_of_getElem? (i := 121) rfl), lw_t6 (List.mem_of_getElem? (i := 93) rfl), lw_t6 (List.mem_of_getElem? (i := 94) rfl)⟩
theorem lw_p17 : lw_okq (⟨"FilterWaterworks", "tankAt", "(I)LFilterWaterworks$Tank;"⟩, 7) := ⟨⟨by decide +kernel, by decide +kernel⟩, lw_t1 (List.mem_of_getElem? (i := 51) rfl), lw_t7 (List.mem_of_getElem? (i := 2) rfl), lw_t7 (List.mem_of_getElem? (i := 3) rfl)⟩
theorem lw_p18 : lw_okq (⟨"FilterWaterworks", "pipeAt", "(I)LFilterWaterworks$Pipe;"⟩, 7) := ⟨⟨by decide +kernel, by decide +kernel⟩, lw_t1 (List.mem_of_getElem? (i := 51) rfl), lw_t7 (List.mem_of_getElem? (i := 102) rfl), lw_t7 (List.mem_of_getElem? (i := 103) rfl)⟩
theorem lw_p19 : lw_okq (⟨"FilterWaterworks", "checkTanks", "(II)V"⟩, 7) := ⟨⟨by decide +kernel, by decide +kernel⟩, lw_t1 (List.mem_of_getElem? (i := 51) rfl), lw_t7 (List.mem_of_getElem? (i := 196) rfl), lw_t7 (List.mem_of_getElem? (i := 197) rfl)⟩
theorem lw_p20 : lw_okq (⟨"FilterWaterworks", "write", "(Ljava/lang/String;)I"⟩, 7) := ⟨⟨by decide +kernel, by decide +kernel⟩, lw_t1 (List.mem_of_getElem? (i := 51) rfl), lw_t8 (List.mem_of_getElem? (i := 111) rfl), lw_t8 (List.mem_of_getElem? (i := 112) rfl)⟩
theorem lw_p21 : lw_okq (⟨"FilterWaterworks$Parser", "command", "()LFilterWaterworks$Command;"⟩, 2) := ⟨⟨by decide +kernel, by decide +kernel⟩, lw_t8 (List.mem_of_getElem? (i := 227) rfl), lw_t9 (List.mem_of_getElem? (i := 6) rfl), lw_t9 (List.mem_of_getElem? (i := 7) rfl)⟩
theorem lw_p22 : lw_okq (⟨"FilterWaterworks$Parser", "word", "()Ljava/lang/String;"⟩, 2) := ⟨⟨by decide +kernel, by decide +kernel⟩, lw_t8 (List.mem_of_getElem? (i := 227) rfl), lw_t9 (List.mem_of_getElem? (i := 10) rfl), lw_t9 (List.mem_of_getElem? (i := 11) rfl)⟩
theorem lw_p23 : lw_okq (⟨"FilterWaterworks$Parser", "current", "()C"⟩, 2) := ⟨⟨by decide +kernel, by decide +kernel⟩, lw_t8 (List.mem_of_getElem? (i := 227) rfl), lw_t9 (List.mem_of_getElem? (i := 16) rfl), lw_t9 (List.mem_of_getElem? (i := 17) rfl)⟩
theorem lw_p24 : lw_okq (⟨"FilterWaterworks$Parser", "require", "(Z)V"⟩, 2) := ⟨⟨by decide +kernel, by decide +kernel⟩, lw_t8 (List.mem_of_getElem? (i := 227) rfl), lw_t9 (List.mem_of_getElem? (i := 145) rfl), lw_t9 (List.mem_of_getElem? (i := 146) rfl)⟩
theorem lw_p25 : lw_okq (⟨"FilterWaterworks$Parser", "spaceAndDigit", "()I"⟩, 2) := ⟨⟨by decide +kernel, by decide +kernel⟩, lw_t8 (List.mem_of_getElem? (i := 227) rfl), lw_t9 (List.mem_of_getElem? (i := 176) rfl), lw_t9 (List.mem_of_getElem? (i := 177) rfl)⟩
theorem lw_p26 : lw_okq (⟨"FilterWaterworks$Parser", "take", "(C)V"⟩, 2) := ⟨⟨by decide +kernel, by decide +kernel⟩, lw_t8 (List.mem_of_getElem? (i := 227) rfl), lw_t9 (List.mem_of_getElem? (i := 180) rfl), lw_t9 (List.mem_of_getElem? (i := 181) rfl)⟩
theorem lw_p27 : lw_okq (⟨"FilterWaterworks$Parser", "digit", "()I"⟩, 2) := ⟨⟨by decide +kernel, by decide +kernel⟩, lw_t8 (List.mem_of_getElem? (i := 227) rfl), lw_t9 (List.mem_of_getElem? (i := 184) rfl), lw_t9 (List.mem_of_getElem? (i := 185) rfl)⟩
theorem lw_p28 : lw_okq (⟨"FilterWaterworks$Parser", "isAtDigit", "()Z"⟩, 2) := ⟨⟨by decide +kernel, by decide +kernel⟩, lw_t8 (List.mem_of_getElem? (i := 227) rfl), lw_t9 (List.mem_of_getElem? (i := 188) rfl), lw_t9 (List.mem_of_getElem? (i := 189) rfl)⟩
theorem lw_p29 : lw_okq (⟨"FilterWaterworks$Parser", "set", "()I"⟩, 2) := ⟨⟨by decide +kernel, by decide +kernel⟩, lw_t8 (List.mem_of_getElem? (i := 227) rfl), lw_t9 (List.mem_of_getElem? (i := 193) rfl), lw_t9 (List.mem_of_getElem? (i := 194) rfl)⟩
theorem lw_p30 : lw_okq (⟨"FilterWaterworks$Parser", "spaceAndNumber", "()I"⟩, 2) := ⟨⟨by decide +kernel, by decide +kernel⟩, lw_t8 (List.mem_of_getElem? (i := 227) rfl), lw_t9 (List.mem_of_getElem? (i := 198) rfl), lw_t9 (List.mem_of_getElem? (i := 199) rfl)⟩
theorem lw_p31 : lw_okq (⟨"FilterWaterworks", "execute", "(Ljava/util/List;)I"⟩, 7) := ⟨⟨by decide +kernel, by decide +kernel⟩, lw_t1 (List.mem_of_getElem? (i := 51) rfl), lw_t9 (List.mem_of_getElem? (i := 204) rfl), lw_t9 (List.mem_of_getElem? (i := 205) rfl)⟩
def lw_privs_2 : List (MethodName × Nat) := [(⟨"java/util/LinkedList", "unlinkFirst", "(Ljava/util/LinkedList$Node;)Ljava/lang/Object;"⟩, 4), (⟨"FilterWaterworks", "tankAt", "(I)LFilterWaterworks$Tank;"⟩, 7), (⟨"FilterWaterworks", "pipeAt", "(I)LFilterWaterworks$Pipe;"⟩, 7), (⟨"FilterWaterworks", "checkTanks", "(II)V"⟩, 7), (⟨"FilterWaterworks", "write", "(Ljava/lang/String;)I"⟩, 7), (⟨"FilterWaterworks$Parser", "command", "()LFilterWaterworks$Command;"⟩, 2), (⟨"FilterWaterworks$Parser", "word", "()Ljava/lang/String;"⟩, 2), (⟨"FilterWaterworks$Parser", "current", "()C"⟩, 2), (⟨"FilterWaterworks$Parser", "require", "(Z)V"⟩, 2), (⟨"FilterWaterworks$Parser", "spaceAndDigit", "()I"⟩, 2), (⟨"FilterWaterworks$Parser", "take", "(C)V"⟩, 2), (⟨"FilterWaterworks$Parser", "digit", "()I"⟩, 2), (⟨"FilterWaterworks$Parser", "isAtDigit", "()Z"⟩, 2), (⟨"FilterWaterworks$Parser", "set", "()I"⟩, 2), (⟨"FilterWaterworks$Parser", "spaceAndNumber", "()I"⟩, 2), (⟨"FilterWaterworks", "execute", "(Ljava/util/List;)I"⟩, 7)]
theorem lw_r2 : ∀ q ∈ lw_privs_2, lw_okq q := List.forall_mem_cons.mpr ⟨lw_p16, List.forall_mem_cons.mpr ⟨lw_p17, List.forall_mem_cons.mpr ⟨lw_p18, List.forall_mem_cons.mpr ⟨lw_p19, List.forall_mem_cons.mpr ⟨lw_p20, List.forall_mem_cons.mpr ⟨lw_p21, List.forall_mem_cons.mpr ⟨lw_p22, List.forall_mem_cons.mpr ⟨lw_p23, List.forall_mem_cons.mpr ⟨lw_p24, List.forall_mem_cons.mpr ⟨lw_p25, List.forall_mem_cons.mpr ⟨lw_p26, List.forall_mem_cons.mpr ⟨lw_p27, List.forall_mem_cons.mpr ⟨lw_p28, List.forall_mem_cons.mpr ⟨lw_p29, List.forall_mem_cons.mpr ⟨lw_p30, List.forall_mem_cons.mpr ⟨lw_p31, fun _ h => absurd h List.not_mem_nil⟩⟩⟩⟩⟩⟩⟩⟩⟩⟩⟩⟩⟩⟩⟩⟩
theorem lw_p32 : lw_okq (⟨"java/util/LinkedList", "unlinkLast", "(Ljava/util/LinkedList$Node;)Ljava/lang/Object;"⟩, 4) := ⟨⟨by decide +kernel, by decide +kernel⟩, lw_t1 (List.mem_of_getElem? (i := 121) rfl), lw_t10 (List.mem_of_getElem? (i := 31) rfl), lw_t10 (List.mem_of_getElem? (i := 32) rfl)⟩
theorem lw_p33 : lw_okq (⟨"FilterWaterworksModel", "tries", "()V"⟩, 18) := ⟨⟨by decide +kernel, by decide +kernel⟩, lw_t10 (List.mem_of_getElem? (i := 46) rfl), lw_t10 (List.mem_of_getElem? (i := 117) rfl), lw_t10 (List.mem_of_getElem? (i := 118) rfl)⟩
theorem lw_p34 : lw_okq (⟨"FilterWaterworksModel", "tanks", "(I)I"⟩, 18) := ⟨⟨by decide +kernel, by decide +kernel⟩, lw_t10 (List.mem_of_getElem? (i := 46) rfl), lw_t10 (List.mem_of_getElem? (i := 121) rfl), lw_t10 (List.mem_of_getElem? (i := 122) rfl)⟩
theorem lw_p35 : lw_okq (⟨"FilterWaterworksModel", "does", "(I)I"⟩, 18) := ⟨⟨by decide +kernel, by decide +kernel⟩, lw_t10 (List.mem_of_getElem? (i := 46) rfl), lw_t10 (List.mem_of_getElem? (i := 128) rfl), lw_t10 (List.mem_of_getElem? (i := 129) rfl)⟩
theorem lw_p36 : lw_okq (⟨"FilterWaterworksModel", "ends", "(I)I"⟩, 18) := ⟨⟨by decide +kernel, by decide +kernel⟩, lw_t10 (List.mem_of_getElem? (i := 46) rfl), lw_t10 (List.mem_of_getElem? (i := 132) rfl), lw_t10 (List.mem_of_getElem? (i := 133) rfl)⟩
theorem lw_p37 : lw_okq (⟨"FilterWaterworksModel", "raises", "(I)I"⟩, 18) := ⟨⟨by decide +kernel, by decide +kernel⟩, lw_t10 (List.mem_of_getElem? (i := 46) rfl), lw_t10 (List.mem_of_getElem? (i := 136) rfl), lw_t10 (List.mem_of_getElem? (i := 137) rfl)⟩
theorem lw_p38 : lw_okq (⟨"FilterWaterworksModel", "pipes", "(III)I"⟩, 18) := ⟨⟨by decide +kernel, by decide +kernel⟩, lw_t10 (List.mem_of_getElem? (i := 46) rfl), lw_t10 (List.mem_of_getElem? (i := 144) rfl), lw_t10 (List.mem_of_getElem? (i := 145) rfl)⟩
theorem lw_p39 : lw_okq (⟨"FilterWaterworksModel", "isTank", "(I)Z"⟩, 18) := ⟨⟨by decide +kernel, by decide +kernel⟩, lw_t10 (List.mem_of_getElem? (i := 46) rfl), lw_t10 (List.mem_of_getElem? (i := 148) rfl), lw_t10 (List.mem_of_getElem? (i := 149) rfl)⟩
theorem lw_p40 : lw_okq (⟨"FilterWaterworksModel", "pours", "(III)I"⟩, 18) := ⟨⟨by decide +kernel, by decide +kernel⟩, lw_t10 (List.mem_of_getElem? (i := 46) rfl), lw_t10 (List.mem_of_getElem? (i := 156) rfl), lw_t10 (List.mem_of_getElem? (i := 157) rfl)⟩
theorem lw_p41 : lw_okq (⟨"FilterWaterworksModel", "draws", "(II)I"⟩, 18) := ⟨⟨by decide +kernel, by decide +kernel⟩, lw_t10 (List.mem_of_getElem? (i := 46) rfl), lw_t10 (List.mem_of_getElem? (i := 164) rfl), lw_t10 (List.mem_of_getElem? (i := 165) rfl)⟩
theorem lw_p42 : lw_okq (⟨"FilterWaterworksModel", "sets", "(IIII)I"⟩, 18) := ⟨⟨by decide +kernel, by decide +kernel⟩, lw_t10 (List.mem_of_getElem? (i := 46) rfl), lw_t10 (List.mem_of_getElem? (i := 172) rfl), lw_t10 (List.mem_of_getElem? (i := 173) rfl)⟩
theorem lw_p43 : lw_okq (⟨"FilterWaterworksModel", "isPipe", "(I)Z"⟩, 18) := ⟨⟨by decide +kernel, by decide +kernel⟩, lw_t10 (List.mem_of_getElem? (i := 46) rfl), lw_t10 (List.mem_of_getElem? (i := 176) rfl), lw_t10 (List.mem_of_getElem? (i := 177) rfl)⟩
theorem lw_p44 : lw_okq (⟨"FilterWaterworksModel", "pipe", "(II)I"⟩, 18) := ⟨⟨by decide +kernel, by decide +kernel⟩, lw_t10 (List.mem_of_getElem? (i := 46) rfl), lw_t10 (List.mem_of_getElem? (i := 180) rfl), lw_t10 (List.mem_of_getElem? (i := 181) rfl)⟩
theorem lw_p45 : lw_okq (⟨"FilterWaterworksModel", "passes", "(I)I"⟩, 18) := ⟨⟨by decide +kernel, by decide +kernel⟩, lw_t10 (List.mem_of_getElem? (i := 46) rfl), lw_t10 (List.mem_of_getElem? (i := 196) rfl), lw_t10 (List.mem_of_getElem? (i := 197) rfl)⟩
theorem lw_p46 : lw_okq (⟨"FilterWaterworksModel", "minute", "()I"⟩, 18) := ⟨⟨by decide +kernel, by decide +kernel⟩, lw_t10 (List.mem_of_getElem? (i := 46) rfl), lw_t10 (List.mem_of_getElem? (i := 200) rfl), lw_t10 (List.mem_of_getElem? (i := 201) rfl)⟩
theorem lw_p47 : lw_okq (⟨"FilterWaterworksModel", "flows", "(I)I"⟩, 18) := ⟨⟨by decide +kernel, by decide +kernel⟩, lw_t10 (List.mem_of_getElem? (i := 46) rfl), lw_t10 (List.mem_of_getElem? (i := 204) rfl), lw_t10 (List.mem_of_getElem? (i := 205) rfl)⟩
def lw_privs_3 : List (MethodName × Nat) := [(⟨"java/util/LinkedList", "unlinkLast", "(Ljava/util/LinkedList$Node;)Ljava/lang/Object;"⟩, 4), (⟨"FilterWaterworksModel", "tries", "()V"⟩, 18), (⟨"FilterWaterworksModel", "tanks", "(I)I"⟩, 18), (⟨"FilterWaterworksModel", "does", "(I)I"⟩, 18), (⟨"FilterWaterworksModel", "ends", "(I)I"⟩, 18), (⟨"FilterWaterworksModel", "raises", "(I)I"⟩, 18), (⟨"FilterWaterworksModel", "pipes", "(III)I"⟩, 18), (⟨"FilterWaterworksModel", "isTank", "(I)Z"⟩, 18), (⟨"FilterWaterworksModel", "pours", "(III)I"⟩, 18), (⟨"FilterWaterworksModel", "draws", "(II)I"⟩, 18), (⟨"FilterWaterworksModel", "sets", "(IIII)I"⟩, 18), (⟨"FilterWaterworksModel", "isPipe", "(I)Z"⟩, 18), (⟨"FilterWaterworksModel", "pipe", "(II)I"⟩, 18), (⟨"FilterWaterworksModel", "passes", "(I)I"⟩, 18), (⟨"FilterWaterworksModel", "minute", "()I"⟩, 18), (⟨"FilterWaterworksModel", "flows", "(I)I"⟩, 18)]
theorem lw_r3 : ∀ q ∈ lw_privs_3, lw_okq q := List.forall_mem_cons.mpr ⟨lw_p32, List.forall_mem_cons.mpr ⟨lw_p33, List.forall_mem_cons.mpr ⟨lw_p34, List.forall_mem_cons.mpr ⟨lw_p35, List.forall_mem_cons.mpr ⟨lw_p36, List.forall_mem_cons.mpr ⟨lw_p37, List.forall_mem_cons.mpr ⟨lw_p38, List.forall_mem_cons.mpr ⟨lw_p39, List.forall_mem_cons.mpr ⟨lw_p40, List.forall_mem_cons.mpr ⟨lw_p41, List.forall_mem_cons.mpr ⟨lw_p42, List.forall_mem_cons.mpr ⟨lw_p43, List.forall_mem_cons.mpr ⟨lw_p44, List.forall_mem_cons.mpr ⟨lw_p45, List.forall_mem_cons.mpr ⟨lw_p46, List.forall_mem_cons.mpr ⟨lw_p47, fun _ h => absurd h List.not_mem_nil⟩⟩⟩⟩⟩⟩⟩⟩⟩⟩⟩⟩⟩⟩⟩⟩
theorem lw_p48 : lw_okq (⟨"FilterWaterworksModel", "goes", "(I)Z"⟩, 18) := ⟨⟨by decide +kernel, by decide +kernel⟩, lw_t10 (List.mem_of_getElem? (i := 46) rfl), lw_t10 (List.mem_of_getElem? (i := 208) rfl), lw_t10 (List.mem_of_getElem? (i := 209) rfl)⟩
theorem lw_p49 : lw_okq (⟨"FilterWaterworksModel", "tank", "(II)I"⟩, 18) := ⟨⟨by decide +kernel, by decide +kernel⟩, lw_t10 (List.mem_of_getElem? (i := 46) rfl), lw_t10 (List.mem_of_getElem? (i := 212) rfl), lw_t10 (List.mem_of_getElem? (i := 213) rfl)⟩
theorem lw_p50 : lw_okq (⟨"FilterWaterworksModel", "ofTank", "(II)I"⟩, 18) := ⟨⟨by decide +kernel, by decide +kernel⟩, lw_t10 (List.mem_of_getElem? (i := 46) rfl), lw_t10 (List.mem_of_getElem? (i := 234) rfl), lw_t10 (List.mem_of_getElem? (i := 235) rfl)⟩
theorem lw_p51 : lw_okq (⟨"FilterWaterworksModel", "ofPipe", "(II)I"⟩, 18) := ⟨⟨by decide +kernel, by decide +kernel⟩, lw_t10 (List.mem_of_getElem? (i := 46) rfl), lw_t11 (List.mem_of_getElem? (i := 32) rfl), lw_t11 (List.mem_of_getElem? (i := 33) rfl)⟩
theorem lw_p52 : lw_okq (⟨"FilterWaterworksModel", "areTanks", "(II)Z"⟩, 18) := ⟨⟨by decide +kernel, by decide +kernel⟩, lw_t10 (List.mem_of_getElem? (i := 46) rfl), lw_t11 (List.mem_of_getElem? (i := 76) rfl), lw_t11 (List.mem_of_getElem? (i := 77) rfl)⟩
theorem lw_p53 : lw_okq (⟨"FilterWaterworksModel", "joins", "(III)Z"⟩, 18) := ⟨⟨by decide +kernel, by decide +kernel⟩, lw_t10 (List.mem_of_getElem? (i := 46) rfl), lw_t11 (List.mem_of_getElem? (i := 80) rfl), lw_t11 (List.mem_of_getElem? (i := 81) rfl)⟩
theorem lw_p54 : lw_okq (⟨"FilterWaterworksModel", "joined", "(III)I"⟩, 18) := ⟨⟨by decide +kernel, by decide +kernel⟩, lw_t10 (List.mem_of_getElem? (i := 46) rfl), lw_t11 (List.mem_of_getElem? (i := 84) rfl), lw_t11 (List.mem_of_getElem? (i := 85) rfl)⟩
theorem lw_p55 : lw_okq (⟨"FilterWaterworksModel", "bridges", "(I)Z"⟩, 18) := ⟨⟨by decide +kernel, by decide +kernel⟩, lw_t10 (List.mem_of_getElem? (i := 46) rfl), lw_t11 (List.mem_of_getElem? (i := 101) rfl), lw_t11 (List.mem_of_getElem? (i := 102) rfl)⟩
theorem lw_p56 : lw_okq (⟨"FilterWaterworksModel", "reaches", "(I)V"⟩, 18) := ⟨⟨by decide +kernel, by decide +kernel⟩, lw_t10 (List.mem_of_getElem? (i := 46) rfl), lw_t11 (List.mem_of_getElem? (i := 127) rfl), lw_t11 (List.mem_of_getElem? (i := 128) rfl)⟩
theorem lw_p57 : lw_okq (⟨"FilterWaterworksModel", "forgets", "()V"⟩, 18) := ⟨⟨by decide +kernel, by decide +kernel⟩, lw_t10 (List.mem_of_getElem? (i := 46) rfl), lw_t11 (List.mem_of_getElem? (i := 140) rfl), lw_t11 (List.mem_of_getElem? (i := 141) rfl)⟩
theorem lw_p58 : lw_okq (⟨"FilterWaterworksModel", "writes", "(I)V"⟩, 18) := ⟨⟨by decide +kernel, by decide +kernel⟩, lw_t10 (List.mem_of_getElem? (i := 46) rfl), lw_t11 (List.mem_of_getElem? (i := 196) rfl), lw_t11 (List.mem_of_getElem? (i := 197) rfl)⟩
theorem lw_p59 : lw_okq (⟨"FilterWaterworksModel", "signs", "(C)V"⟩, 18) := ⟨⟨by decide +kernel, by decide +kernel⟩, lw_t10 (List.mem_of_getElem? (i := 46) rfl), lw_t11 (List.mem_of_getElem? (i := 200) rfl), lw_t11 (List.mem_of_getElem? (i := 201) rfl)⟩
theorem lw_p60 : lw_okq (⟨"FilterWaterworksModel", "writes", "(CI)V"⟩, 18) := ⟨⟨by decide +kernel, by decide +kernel⟩, lw_t10 (List.mem_of_getElem? (i := 46) rfl), lw_t11 (List.mem_of_getElem? (i := 204) rfl), lw_t11 (List.mem_of_getElem? (i := 205) rfl)⟩
theorem lw_p61 : lw_okq (⟨"FilterWaterworksModel", "isCommand", "()Z"⟩, 18) := ⟨⟨by decide +kernel, by decide +kernel⟩, lw_t10 (List.mem_of_getElem? (i := 46) rfl), lw_t11 (List.mem_of_getElem? (i := 224) rfl), lw_t11 (List.mem_of_getElem? (i := 225) rfl)⟩
theorem lw_p62 : lw_okq (⟨"FilterWaterworksModel", "isOneOf", "(Ljava/lang/String;)Z"⟩, 18) := ⟨⟨by decide +kernel, by decide +kernel⟩, lw_t10 (List.mem_of_getElem? (i := 46) rfl), lw_t11 (List.mem_of_getElem? (i := 229) rfl), lw_t11 (List.mem_of_getElem? (i := 230) rfl)⟩
theorem lw_p63 : lw_okq (⟨"FilterWaterworksModel", "digits", "(II)Z"⟩, 18) := ⟨⟨by decide +kernel, by decide +kernel⟩, lw_t10 (List.mem_of_getElem? (i := 46) rfl), lw_t12 (List.mem_of_getElem? (i := 69) rfl), lw_t12 (List.mem_of_getElem? (i := 70) rfl)⟩
def lw_privs_4 : List (MethodName × Nat) := [(⟨"FilterWaterworksModel", "goes", "(I)Z"⟩, 18), (⟨"FilterWaterworksModel", "tank", "(II)I"⟩, 18), (⟨"FilterWaterworksModel", "ofTank", "(II)I"⟩, 18), (⟨"FilterWaterworksModel", "ofPipe", "(II)I"⟩, 18), (⟨"FilterWaterworksModel", "areTanks", "(II)Z"⟩, 18), (⟨"FilterWaterworksModel", "joins", "(III)Z"⟩, 18), (⟨"FilterWaterworksModel", "joined", "(III)I"⟩, 18), (⟨"FilterWaterworksModel", "bridges", "(I)Z"⟩, 18), (⟨"FilterWaterworksModel", "reaches", "(I)V"⟩, 18), (⟨"FilterWaterworksModel", "forgets", "()V"⟩, 18), (⟨"FilterWaterworksModel", "writes", "(I)V"⟩, 18), (⟨"FilterWaterworksModel", "signs", "(C)V"⟩, 18), (⟨"FilterWaterworksModel", "writes", "(CI)V"⟩, 18), (⟨"FilterWaterworksModel", "isCommand", "()Z"⟩, 18), (⟨"FilterWaterworksModel", "isOneOf", "(Ljava/lang/String;)Z"⟩, 18), (⟨"FilterWaterworksModel", "digits", "(II)Z"⟩, 18)]
theorem lw_r4 : ∀ q ∈ lw_privs_4, lw_okq q := List.forall_mem_cons.mpr ⟨lw_p48, List.forall_mem_cons.mpr ⟨lw_p49, List.forall_mem_cons.mpr ⟨lw_p50, List.forall_mem_cons.mpr ⟨lw_p51, List.forall_mem_cons.mpr ⟨lw_p52, List.forall_mem_cons.mpr ⟨lw_p53, List.forall_mem_cons.mpr ⟨lw_p54, List.forall_mem_cons.mpr ⟨lw_p55, List.forall_mem_cons.mpr ⟨lw_p56, List.forall_mem_cons.mpr ⟨lw_p57, List.forall_mem_cons.mpr ⟨lw_p58, List.forall_mem_cons.mpr ⟨lw_p59, List.forall_mem_cons.mpr ⟨lw_p60, List.forall_mem_cons.mpr ⟨lw_p61, List.forall_mem_cons.mpr ⟨lw_p62, List.forall_mem_cons.mpr ⟨lw_p63, fun _ h => absurd h List.not_mem_nil⟩⟩⟩⟩⟩⟩⟩⟩⟩⟩⟩⟩⟩⟩⟩⟩
theorem lw_p64 : lw_okq (⟨"FilterWaterworksModel", "isSet", "()Z"⟩, 18) := ⟨⟨by decide +kernel, by decide +kernel⟩, lw_t10 (List.mem_of_getElem? (i := 46) rfl), lw_t12 (List.mem_of_getElem? (i := 73) rfl), lw_t12 (List.mem_of_getElem? (i := 74) rfl)⟩
theorem lw_p65 : lw_okq (⟨"FilterWaterworksModel", "takes", "(C)Z"⟩, 18) := ⟨⟨by decide +kernel, by decide +kernel⟩, lw_t10 (List.mem_of_getElem? (i := 46) rfl), lw_t12 (List.mem_of_getElem? (i := 77) rfl), lw_t12 (List.mem_of_getElem? (i := 78) rfl)⟩
theorem lw_p66 : lw_okq (⟨"FilterWaterworksModel", "carries", "()I"⟩, 18) := ⟨⟨by decide +kernel, by decide +kernel⟩, lw_t10 (List.mem_of_getElem? (i := 46) rfl), lw_t12 (List.mem_of_getElem? (i := 81) rfl), lw_t12 (List.mem_of_getElem? (i := 82) rfl)⟩
def lw_privs_5 : List (MethodName × Nat) := [(⟨"FilterWaterworksModel", "isSet", "()Z"⟩, 18), (⟨"FilterWaterworksModel", "takes", "(C)Z"⟩, 18), (⟨"FilterWaterworksModel", "carries", "()I"⟩, 18)]
theorem lw_r5 : ∀ q ∈ lw_privs_5, lw_okq q := List.forall_mem_cons.mpr ⟨lw_p64, List.forall_mem_cons.mpr ⟨lw_p65, List.forall_mem_cons.mpr ⟨lw_p66, fun _ h => absurd h List.not_mem_nil⟩⟩⟩
def lw_privs : List (MethodName × Nat) := lw_privs_1 ++ (lw_privs_2 ++ (lw_privs_3 ++ (lw_privs_4 ++ (lw_privs_5))))
def lw_tbl : List Cond := k2_sels lw_privs ++ tables_1
theorem lw_privs_ok : ∀ q ∈ lw_privs, lw_okq q := by
  show ∀ q ∈ lw_privs_1 ++ (lw_privs_2 ++ (lw_privs_3 ++ (lw_privs_4 ++ (lw_privs_5)))), lw_okq q
  exact List.forall_mem_append.mpr ⟨lw_r1, List.forall_mem_append.mpr ⟨lw_r2, List.forall_mem_append.mpr ⟨lw_r3, List.forall_mem_append.mpr ⟨lw_r4, lw_r5⟩⟩⟩⟩
-- ===== ONE list of words for every method: the tables' words that hold all through a run =====
def lw_all : List Cond := lw_tbl.filter goodWord
/-- a word of the tables by its place: claim/WORDS.tsv -/
theorem lw_w {w : Cond} (i : Nat) (h : lw_tbl[i]? = some w) (g : goodWord w = true) : w ∈ lw_all := List.mem_filter.mpr ⟨List.mem_of_getElem? h, g⟩
theorem lw_all_tbl {w : Cond} (h : w ∈ lw_all) : w ∈ lw_tbl := (List.mem_filter.mp h).1
theorem lw_self : GoodIn lw_all lw_all := fun w h => ⟨h, good_of_word (List.mem_filter.mp h).2⟩
/-- a class's field words, by their places -/
theorem lw_in (ws : List Cond) (ps : List Nat) (hp : ws = ps.filterMap (fun i => lw_tbl[i]?)) (hg : ws.all goodWord = true) : ∀ w ∈ ws, w ∈ lw_all := by
  intro w h
  have h1 := List.all_eq_true.mp hg w h
  rw [hp] at h
  obtain ⟨i, -, hi⟩ := List.mem_filterMap.mp h
  exact lw_w i hi h1
/-- the words of a contract for the method y with code b, L locals, answer r -/
abbrev ws_ (y : MethodName) (b : ByteArray) (L : Nat) (r : Option FieldType) : List Cond := Cond.code y b L r :: lw_all
theorem lw_meth {y : MethodName} {b : ByteArray} {L : Nat} {r : Option FieldType} (h : Cond.code y b L r ∈ lw_all) : GoodIn lw_all (ws_ y b L r) := by
  intro w hw
  rcases List.mem_cons.mp hw with e | e
  · rw [e]
    exact lw_self _ h
  · exact lw_self _ e
theorem lw_app {a c : List Cond} (ha : ∀ w ∈ a, w ∈ lw_all) (hc : GoodIn lw_all c) : GoodIn lw_all (a ++ c) := by
  intro w hw
  rcases List.mem_append.mp hw with e | e
  · exact lw_self w (ha w e)
  · exact hc w e
/-- what a call through an object asks: cwV n hts (lw_V ..) -/
theorem lw_V {own : String} {idx : Nat} {C : String} {y : MethodName} {b : ByteArray} {L : Nat} {r : Option FieldType} (h1 : Cond.methodLink own idx y ∈ lw_all) (h2 : Cond.instanceMethod y ∈ lw_all) (h3 : Cond.selects C y y ∈ lw_all) (h4 : Cond.initialized C ∈ lw_all) (h5 : Cond.code y b L r ∈ lw_all) : GoodIn lw_all (wsV own idx C y (ws_ y b L r)) := by
  refine lw_app ?_ (lw_meth h5)
  intro w hw
  simp only [List.mem_cons, List.not_mem_nil, or_false] at hw
  rcases hw with e | e | e | e
  · rw [e]; exact h1
  · rw [e]; exact h2
  · rw [e]; exact h3
  · rw [e]; exact h4
/-- what a static call asks: va_cwS n hts (lw_S ..) -/
theorem lw_S {own : String} {idx : Nat} {y : MethodName} {b : ByteArray} {L : Nat} {r : Option FieldType} (h1 : Cond.methodLink own idx y ∈ lw_all) (h2 : Cond.static y ∈ lw_all) (h3 : Cond.initialized y.cls ∈ lw_all) (h4 : Cond.code y b L r ∈ lw_all) : GoodIn lw_all (va_wsS own idx y (ws_ y b L r)) := by
  refine lw_app ?_ (lw_meth h4)
  intro w hw
  simp only [List.mem_cons, List.not_mem_nil, or_false] at hw
  rcases hw with e | e | e
  · rw [e]; exact h1
  · rw [e]; exact h2
  · rw [e]; exact h3
/-- the words of a contract for a method WITH HANDLERS (hh: its table) -/
abbrev wsW_ (y : MethodName) (b : ByteArray) (L : Nat) (r : Option FieldType) (hh : List (Nat × Nat × Nat × Nat)) : List Cond := Cond.codeWith y b L r hh :: lw_all
theorem lw_methW {y : MethodName} {b : ByteArray} {L : Nat} {r : Option FieldType} {hh : List (Nat × Nat × Nat × Nat)} (h : Cond.codeWith y b L r hh ∈ lw_all) : GoodIn lw_all (wsW_ y b L r hh) := by
  intro w hw
  rcases List.mem_cons.mp hw with e | e
  · rw [e]
    exact lw_self _ h
  · exact lw_self _ e
/-- any list of words by their places (lw_in), good -/
theorem lw_good {ws : List Cond} (h : ∀ w ∈ ws, w ∈ lw_all) : GoodIn lw_all ws := fun w hw => lw_self w (h w hw)
/-- what a call of a method with handlers asks: vx_cwVW n hts (lw_VW ..), vx_cwSW n hts (lw_SW ..) -/
theorem lw_VW {own : String} {idx : Nat} {C : String} {y : MethodName} {b : ByteArray} {L : Nat} {r : Option FieldType} {hh : List (Nat × Nat × Nat × Nat)} (h1 : Cond.methodLink own idx y ∈ lw_all) (h2 : Cond.instanceMethod y ∈ lw_all) (h3 : Cond.selects C y y ∈ lw_all) (h4 : Cond.initialized C ∈ lw_all) (h5 : Cond.codeWith y b L r hh ∈ lw_all) : GoodIn lw_all (wsV own idx C y (wsW_ y b L r hh)) := by
  refine lw_app ?_ (lw_methW h5)
  intro w hw
  simp only [List.mem_cons, List.not_mem_nil, or_false] at hw
  rcases hw with e | e | e | e
  · rw [e]; exact h1
  · rw [e]; exact h2
  · rw [e]; exact h3
  · rw [e]; exact h4
theorem lw_SW {own : String} {idx : Nat} {y : MethodName} {b : ByteArray} {L : Nat} {r : Option FieldType} {hh : List (Nat × Nat × Nat × Nat)} (h1 : Cond.methodLink own idx y ∈ lw_all) (h2 : Cond.static y ∈ lw_all) (h3 : Cond.initialized y.cls ∈ lw_all) (h4 : Cond.codeWith y b L r hh ∈ lw_all) : GoodIn lw_all (va_wsS own idx y (wsW_ y b L r hh)) := by
  refine lw_app ?_ (lw_methW h4)
  intro w hw
  simp only [List.mem_cons, List.not_mem_nil, or_false] at hw
  rcases hw with e | e | e
  · rw [e]; exact h1
  · rw [e]; exact h2
  · rw [e]; exact h3
/-- a word by its place in its run of the tables -/
theorem lw_at {r : List Cond} (hr : ∀ w ∈ r, w ∈ lw_tbl) {w : Cond} (i : Nat) (h : r[i]? = some w) : w ∈ lw_tbl := hr w (List.mem_of_getElem? h)
theorem lw_g {w : Cond} (h : w ∈ lw_tbl) (g : goodWord w = true) : w ∈ lw_all := List.mem_filter.mpr ⟨h, g⟩
theorem lw_ms : ∀ w ∈ k2_sels lw_privs, w ∈ lw_tbl := fun w h => show w ∈ k2_sels lw_privs ++ tables_1 from List.mem_append_left _ h
theorem lw_m1 : ∀ w ∈ tables_1_1, w ∈ lw_tbl := fun w h => show w ∈ k2_sels lw_privs ++ tables_1 from List.mem_append_right (k2_sels lw_privs) (show w ∈ tables_1 from List.mem_append_left _ h)
theorem lw_m2 : ∀ w ∈ tables_1_2, w ∈ lw_tbl := fun w h => show w ∈ k2_sels lw_privs ++ tables_1 from List.mem_append_right (k2_sels lw_privs) (show w ∈ tables_1 from List.mem_append_right _ (List.mem_append_left _ h))
theorem lw_m3 : ∀ w ∈ tables_1_3, w ∈ lw_tbl := fun w h => show w ∈ k2_sels lw_privs ++ tables_1 from List.mem_append_right (k2_sels lw_privs) (show w ∈ tables_1 from List.mem_append_right _ (List.mem_append_right _ (List.mem_append_left _ h)))
theorem lw_m4 : ∀ w ∈ tables_1_4, w ∈ lw_tbl := fun w h => show w ∈ k2_sels lw_privs ++ tables_1 from List.mem_append_right (k2_sels lw_privs) (show w ∈ tables_1 from List.mem_append_right _ (List.mem_append_right _ (List.mem_append_right _ (List.mem_append_left _ h))))
theorem lw_m5 : ∀ w ∈ tables_1_5, w ∈ lw_tbl := fun w h => show w ∈ k2_sels lw_privs ++ tables_1 from List.mem_append_right (k2_sels lw_privs) (show w ∈ tables_1 from List.mem_append_right _ (List.mem_append_right _ (List.mem_append_right _ (List.mem_append_right _ (List.mem_append_left _ h)))))
theorem lw_m6 : ∀ w ∈ tables_1_6, w ∈ lw_tbl := fun w h => show w ∈ k2_sels lw_privs ++ tables_1 from List.mem_append_right (k2_sels lw_privs) (show w ∈ tables_1 from List.mem_append_right _ (List.mem_append_right _ (List.mem_append_right _ (List.mem_append_right _ (List.mem_append_right _ (List.mem_append_left _ h))))))
theorem lw_m7 : ∀ w ∈ tables_1_7, w ∈ lw_tbl := fun w h => show w ∈ k2_sels lw_privs ++ tables_1 from List.mem_append_right (k2_sels lw_privs) (show w ∈ tables_1 from List.mem_append_right _ (List.mem_append_right _ (List.mem_append_right _ (List.mem_append_right _ (List.mem_append_right _ (List.mem_append_right _ (List.mem_append_left _ h)))))))
theorem lw_m8 : ∀ w ∈ tables_1_8, w ∈ lw_tbl := fun w h => show w ∈ k2_sels lw_privs ++ tables_1 from List.mem_append_right (k2_sels lw_privs) (show w ∈ tables_1 from List.mem_append_right _ (List.mem_append_right _ (List.mem_append_right _ (List.mem_append_right _ (List.mem_append_right _ (List.mem_append_right _ (List.mem_append_right _ (List.mem_append_left _ h))))))))
theorem lw_m9 : ∀ w ∈ tables_1_9, w ∈ lw_tbl := fun w h => show w ∈ k2_sels lw_privs ++ tables_1 from List.mem_append_right (k2_sels lw_privs) (show w ∈ tables_1 from List.mem_append_right _ (List.mem_append_right _ (List.mem_append_right _ (List.mem_append_right _ (List.mem_append_right _ (List.mem_append_right _ (List.mem_append_right _ (List.mem_append_right _ (List.mem_append_left _ h)))))))))
theorem lw_m10 : ∀ w ∈ tables_1_10, w ∈ lw_tbl := fun w h => show w ∈ k2_sels lw_privs ++ tables_1 from List.mem_append_right (k2_sels lw_privs) (show w ∈ tables_1 from List.mem_append_right _ (List.mem_append_right _ (List.mem_append_right _ (List.mem_append_right _ (List.mem_append_right _ (List.mem_append_right _ (List.mem_append_right _ (List.mem_append_right _ (List.mem_append_right _ (List.mem_append_left _ h))))))))))
theorem lw_m11 : ∀ w ∈ tables_1_11, w ∈ lw_tbl := fun w h => show w ∈ k2_sels lw_privs ++ tables_1 from List.mem_append_right (k2_sels lw_privs) (show w ∈ tables_1 from List.mem_append_right _ (List.mem_append_right _ (List.mem_append_right _ (List.mem_append_right _ (List.mem_append_right _ (List.mem_append_right _ (List.mem_append_right _ (List.mem_append_right _ (List.mem_append_right _ (List.mem_append_right _ (List.mem_append_left _ h)))))))))))
theorem lw_m12 : ∀ w ∈ tables_1_12, w ∈ lw_tbl := fun w h => show w ∈ k2_sels lw_privs ++ tables_1 from List.mem_append_right (k2_sels lw_privs) (show w ∈ tables_1 from List.mem_append_right _ (List.mem_append_right _ (List.mem_append_right _ (List.mem_append_right _ (List.mem_append_right _ (List.mem_append_right _ (List.mem_append_right _ (List.mem_append_right _ (List.mem_append_right _ (List.mem_append_right _ (List.mem_append_right _ h)))))))))))
theorem qs0 : (Cond.selects "java/util/LinkedList" ⟨"java/util/LinkedList", "checkElementIndex", "(I)V"⟩ ⟨"java/util/LinkedList", "checkElementIndex", "(I)V"⟩) ∈ lw_all := lw_g (lw_at lw_ms 0 rfl) rfl
theorem qs1 : (Cond.selects "java/util/LinkedList" ⟨"java/util/LinkedList", "isElementIndex", "(I)Z"⟩ ⟨"java/util/LinkedList", "isElementIndex", "(I)Z"⟩) ∈ lw_all := lw_g (lw_at lw_ms 1 rfl) rfl
theorem qs2 : (Cond.selects "java/lang/Throwable" ⟨"java/lang/Throwable", "fillInStackTrace", "(I)Ljava/lang/Throwable;"⟩ ⟨"java/lang/Throwable", "fillInStackTrace", "(I)Ljava/lang/Throwable;"⟩) ∈ lw_all := lw_g (lw_at lw_ms 2 rfl) rfl
theorem qs3 : (Cond.selects "java/util/LinkedList" ⟨"java/util/LinkedList", "outOfBoundsMsg", "(I)Ljava/lang/String;"⟩ ⟨"java/util/LinkedList", "outOfBoundsMsg", "(I)Ljava/lang/String;"⟩) ∈ lw_all := lw_g (lw_at lw_ms 3 rfl) rfl
theorem qs4 : (Cond.selects "FilterWaterworks$Works$Numbering" ⟨"FilterWaterworks$Works$Numbering", "follow", "(II)V"⟩ ⟨"FilterWaterworks$Works$Numbering", "follow", "(II)V"⟩) ∈ lw_all := lw_g (lw_at lw_ms 4 rfl) rfl
theorem qs5 : (Cond.selects "FilterWaterworks$Works" ⟨"FilterWaterworks$Works", "areConnected", "(IIII)Z"⟩ ⟨"FilterWaterworks$Works", "areConnected", "(IIII)Z"⟩) ∈ lw_all := lw_g (lw_at lw_ms 5 rfl) rfl
theorem qs6 : (Cond.selects "FilterWaterworks$Works" ⟨"FilterWaterworks$Works", "areWaysAlike", "(I)Z"⟩ ⟨"FilterWaterworks$Works", "areWaysAlike", "(I)Z"⟩) ∈ lw_all := lw_g (lw_at lw_ms 6 rfl) rfl
theorem qs7 : (Cond.selects "FilterWaterworks" ⟨"FilterWaterworks", "change", "(Ljava/lang/String;[I)I"⟩ ⟨"FilterWaterworks", "change", "(Ljava/lang/String;[I)I"⟩) ∈ lw_all := lw_g (lw_at lw_ms 7 rfl) rfl
theorem qs8 : (Cond.selects "java/util/ArrayList" ⟨"java/util/ArrayList", "add", "(Ljava/lang/Object;[Ljava/lang/Object;I)V"⟩ ⟨"java/util/ArrayList", "add", "(Ljava/lang/Object;[Ljava/lang/Object;I)V"⟩) ∈ lw_all := lw_g (lw_at lw_ms 8 rfl) rfl
theorem qs9 : (Cond.selects "java/util/ArrayList" ⟨"java/util/ArrayList", "grow", "()[Ljava/lang/Object;"⟩ ⟨"java/util/ArrayList", "grow", "()[Ljava/lang/Object;"⟩) ∈ lw_all := lw_g (lw_at lw_ms 9 rfl) rfl
theorem qs10 : (Cond.selects "java/util/ArrayList" ⟨"java/util/ArrayList", "grow", "(I)[Ljava/lang/Object;"⟩ ⟨"java/util/ArrayList", "grow", "(I)[Ljava/lang/Object;"⟩) ∈ lw_all := lw_g (lw_at lw_ms 10 rfl) rfl
theorem qs11 : (Cond.selects "FilterWaterworks$Command" ⟨"FilterWaterworks$Command", "at", "(I)I"⟩ ⟨"FilterWaterworks$Command", "at", "(I)I"⟩) ∈ lw_all := lw_g (lw_at lw_ms 11 rfl) rfl
theorem qs12 : (Cond.selects "FilterWaterworks$Works" ⟨"FilterWaterworks$Works", "passMinute", "()V"⟩ ⟨"FilterWaterworks$Works", "passMinute", "()V"⟩) ∈ lw_all := lw_g (lw_at lw_ms 12 rfl) rfl
theorem qs13 : (Cond.selects "FilterWaterworks$Works" ⟨"FilterWaterworks$Works", "direction", "(LFilterWaterworks$Pipe;)LFilterWaterworks$Direction;"⟩ ⟨"FilterWaterworks$Works", "direction", "(LFilterWaterworks$Pipe;)LFilterWaterworks$Direction;"⟩) ∈ lw_all := lw_g (lw_at lw_ms 13 rfl) rfl
theorem qs14 : (Cond.selects "FilterWaterworks$Works" ⟨"FilterWaterworks$Works", "flow", "(LFilterWaterworks$Pipe;I)V"⟩ ⟨"FilterWaterworks$Works", "flow", "(LFilterWaterworks$Pipe;I)V"⟩) ∈ lw_all := lw_g (lw_at lw_ms 14 rfl) rfl
theorem qs15 : (Cond.selects "FilterWaterworks" ⟨"FilterWaterworks", "commit", "(LFilterWaterworks$Works;I)I"⟩ ⟨"FilterWaterworks", "commit", "(LFilterWaterworks$Works;I)I"⟩) ∈ lw_all := lw_g (lw_at lw_ms 15 rfl) rfl
theorem qs16 : (Cond.selects "java/util/LinkedList" ⟨"java/util/LinkedList", "unlinkFirst", "(Ljava/util/LinkedList$Node;)Ljava/lang/Object;"⟩ ⟨"java/util/LinkedList", "unlinkFirst", "(Ljava/util/LinkedList$Node;)Ljava/lang/Object;"⟩) ∈ lw_all := lw_g (lw_at lw_ms 16 rfl) rfl
theorem qs17 : (Cond.selects "FilterWaterworks" ⟨"FilterWaterworks", "tankAt", "(I)LFilterWaterworks$Tank;"⟩ ⟨"FilterWaterworks", "tankAt", "(I)LFilterWaterworks$Tank;"⟩) ∈ lw_all := lw_g (lw_at lw_ms 17 rfl) rfl
theorem qs18 : (Cond.selects "FilterWaterworks" ⟨"FilterWaterworks", "pipeAt", "(I)LFilterWaterworks$Pipe;"⟩ ⟨"FilterWaterworks", "pipeAt", "(I)LFilterWaterworks$Pipe;"⟩) ∈ lw_all := lw_g (lw_at lw_ms 18 rfl) rfl
theorem qs19 : (Cond.selects "FilterWaterworks" ⟨"FilterWaterworks", "checkTanks", "(II)V"⟩ ⟨"FilterWaterworks", "checkTanks", "(II)V"⟩) ∈ lw_all := lw_g (lw_at lw_ms 19 rfl) rfl
theorem qs20 : (Cond.selects "FilterWaterworks" ⟨"FilterWaterworks", "write", "(Ljava/lang/String;)I"⟩ ⟨"FilterWaterworks", "write", "(Ljava/lang/String;)I"⟩) ∈ lw_all := lw_g (lw_at lw_ms 20 rfl) rfl
theorem qs21 : (Cond.selects "FilterWaterworks$Parser" ⟨"FilterWaterworks$Parser", "command", "()LFilterWaterworks$Command;"⟩ ⟨"FilterWaterworks$Parser", "command", "()LFilterWaterworks$Command;"⟩) ∈ lw_all := lw_g (lw_at lw_ms 21 rfl) rfl
theorem qs22 : (Cond.selects "FilterWaterworks$Parser" ⟨"FilterWaterworks$Parser", "word", "()Ljava/lang/String;"⟩ ⟨"FilterWaterworks$Parser", "word", "()Ljava/lang/String;"⟩) ∈ lw_all := lw_g (lw_at lw_ms 22 rfl) rfl
theorem qs23 : (Cond.selects "FilterWaterworks$Parser" ⟨"FilterWaterworks$Parser", "current", "()C"⟩ ⟨"FilterWaterworks$Parser", "current", "()C"⟩) ∈ lw_all := lw_g (lw_at lw_ms 23 rfl) rfl
theorem qs24 : (Cond.selects "FilterWaterworks$Parser" ⟨"FilterWaterworks$Parser", "require", "(Z)V"⟩ ⟨"FilterWaterworks$Parser", "require", "(Z)V"⟩) ∈ lw_all := lw_g (lw_at lw_ms 24 rfl) rfl
theorem qs25 : (Cond.selects "FilterWaterworks$Parser" ⟨"FilterWaterworks$Parser", "spaceAndDigit", "()I"⟩ ⟨"FilterWaterworks$Parser", "spaceAndDigit", "()I"⟩) ∈ lw_all := lw_g (lw_at lw_ms 25 rfl) rfl
theorem qs26 : (Cond.selects "FilterWaterworks$Parser" ⟨"FilterWaterworks$Parser", "take", "(C)V"⟩ ⟨"FilterWaterworks$Parser", "take", "(C)V"⟩) ∈ lw_all := lw_g (lw_at lw_ms 26 rfl) rfl
theorem qs27 : (Cond.selects "FilterWaterworks$Parser" ⟨"FilterWaterworks$Parser", "digit", "()I"⟩ ⟨"FilterWaterworks$Parser", "digit", "()I"⟩) ∈ lw_all := lw_g (lw_at lw_ms 27 rfl) rfl
theorem qs28 : (Cond.selects "FilterWaterworks$Parser" ⟨"FilterWaterworks$Parser", "isAtDigit", "()Z"⟩ ⟨"FilterWaterworks$Parser", "isAtDigit", "()Z"⟩) ∈ lw_all := lw_g (lw_at lw_ms 28 rfl) rfl
theorem qs29 : (Cond.selects "FilterWaterworks$Parser" ⟨"FilterWaterworks$Parser", "set", "()I"⟩ ⟨"FilterWaterworks$Parser", "set", "()I"⟩) ∈ lw_all := lw_g (lw_at lw_ms 29 rfl) rfl
theorem qs30 : (Cond.selects "FilterWaterworks$Parser" ⟨"FilterWaterworks$Parser", "spaceAndNumber", "()I"⟩ ⟨"FilterWaterworks$Parser", "spaceAndNumber", "()I"⟩) ∈ lw_all := lw_g (lw_at lw_ms 30 rfl) rfl
theorem qs31 : (Cond.selects "FilterWaterworks" ⟨"FilterWaterworks", "execute", "(Ljava/util/List;)I"⟩ ⟨"FilterWaterworks", "execute", "(Ljava/util/List;)I"⟩) ∈ lw_all := lw_g (lw_at lw_ms 31 rfl) rfl
theorem qs32 : (Cond.selects "java/util/LinkedList" ⟨"java/util/LinkedList", "unlinkLast", "(Ljava/util/LinkedList$Node;)Ljava/lang/Object;"⟩ ⟨"java/util/LinkedList", "unlinkLast", "(Ljava/util/LinkedList$Node;)Ljava/lang/Object;"⟩) ∈ lw_all := lw_g (lw_at lw_ms 32 rfl) rfl
theorem qs33 : (Cond.selects "FilterWaterworksModel" ⟨"FilterWaterworksModel", "tries", "()V"⟩ ⟨"FilterWaterworksModel", "tries", "()V"⟩) ∈ lw_all := lw_g (lw_at lw_ms 33 rfl) rfl
theorem qs34 : (Cond.selects "FilterWaterworksModel" ⟨"FilterWaterworksModel", "tanks", "(I)I"⟩ ⟨"FilterWaterworksModel", "tanks", "(I)I"⟩) ∈ lw_all := lw_g (lw_at lw_ms 34 rfl) rfl
theorem qs35 : (Cond.selects "FilterWaterworksModel" ⟨"FilterWaterworksModel", "does", "(I)I"⟩ ⟨"FilterWaterworksModel", "does", "(I)I"⟩) ∈ lw_all := lw_g (lw_at lw_ms 35 rfl) rfl
theorem qs36 : (Cond.selects "FilterWaterworksModel" ⟨"FilterWaterworksModel", "ends", "(I)I"⟩ ⟨"FilterWaterworksModel", "ends", "(I)I"⟩) ∈ lw_all := lw_g (lw_at lw_ms 36 rfl) rfl
theorem qs37 : (Cond.selects "FilterWaterworksModel" ⟨"FilterWaterworksModel", "raises", "(I)I"⟩ ⟨"FilterWaterworksModel", "raises", "(I)I"⟩) ∈ lw_all := lw_g (lw_at lw_ms 37 rfl) rfl
theorem qs38 : (Cond.selects "FilterWaterworksModel" ⟨"FilterWaterworksModel", "pipes", "(III)I"⟩ ⟨"FilterWaterworksModel", "pipes", "(III)I"⟩) ∈ lw_all := lw_g (lw_at lw_ms 38 rfl) rfl
theorem qs39 : (Cond.selects "FilterWaterworksModel" ⟨"FilterWaterworksModel", "isTank", "(I)Z"⟩ ⟨"FilterWaterworksModel", "isTank", "(I)Z"⟩) ∈ lw_all := lw_g (lw_at lw_ms 39 rfl) rfl
theorem qs40 : (Cond.selects "FilterWaterworksModel" ⟨"FilterWaterworksModel", "pours", "(III)I"⟩ ⟨"FilterWaterworksModel", "pours", "(III)I"⟩) ∈ lw_all := lw_g (lw_at lw_ms 40 rfl) rfl
theorem qs41 : (Cond.selects "FilterWaterworksModel" ⟨"FilterWaterworksModel", "draws", "(II)I"⟩ ⟨"FilterWaterworksModel", "draws", "(II)I"⟩) ∈ lw_all := lw_g (lw_at lw_ms 41 rfl) rfl
theorem qs42 : (Cond.selects "FilterWaterworksModel" ⟨"FilterWaterworksModel", "sets", "(IIII)I"⟩ ⟨"FilterWaterworksModel", "sets", "(IIII)I"⟩) ∈ lw_all := lw_g (lw_at lw_ms 42 rfl) rfl
theorem qs43 : (Cond.selects "FilterWaterworksModel" ⟨"FilterWaterworksModel", "isPipe", "(I)Z"⟩ ⟨"FilterWaterworksModel", "isPipe", "(I)Z"⟩) ∈ lw_all := lw_g (lw_at lw_ms 43 rfl) rfl
theorem qs44 : (Cond.selects "FilterWaterworksModel" ⟨"FilterWaterworksModel", "pipe", "(II)I"⟩ ⟨"FilterWaterworksModel", "pipe", "(II)I"⟩) ∈ lw_all := lw_g (lw_at lw_ms 44 rfl) rfl
theorem qs45 : (Cond.selects "FilterWaterworksModel" ⟨"FilterWaterworksModel", "passes", "(I)I"⟩ ⟨"FilterWaterworksModel", "passes", "(I)I"⟩) ∈ lw_all := lw_g (lw_at lw_ms 45 rfl) rfl
theorem qs46 : (Cond.selects "FilterWaterworksModel" ⟨"FilterWaterworksModel", "minute", "()I"⟩ ⟨"FilterWaterworksModel", "minute", "()I"⟩) ∈ lw_all := lw_g (lw_at lw_ms 46 rfl) rfl
theorem qs47 : (Cond.selects "FilterWaterworksModel" ⟨"FilterWaterworksModel", "flows", "(I)I"⟩ ⟨"FilterWaterworksModel", "flows", "(I)I"⟩) ∈ lw_all := lw_g (lw_at lw_ms 47 rfl) rfl
theorem qs48 : (Cond.selects "FilterWaterworksModel" ⟨"FilterWaterworksModel", "goes", "(I)Z"⟩ ⟨"FilterWaterworksModel", "goes", "(I)Z"⟩) ∈ lw_all := lw_g (lw_at lw_ms 48 rfl) rfl
theorem qs49 : (Cond.selects "FilterWaterworksModel" ⟨"FilterWaterworksModel", "tank", "(II)I"⟩ ⟨"FilterWaterworksModel", "tank", "(II)I"⟩) ∈ lw_all := lw_g (lw_at lw_ms 49 rfl) rfl
theorem qs50 : (Cond.selects "FilterWaterworksModel" ⟨"FilterWaterworksModel", "ofTank", "(II)I"⟩ ⟨"FilterWaterworksModel", "ofTank", "(II)I"⟩) ∈ lw_all := lw_g (lw_at lw_ms 50 rfl) rfl
theorem qs51 : (Cond.selects "FilterWaterworksModel" ⟨"FilterWaterworksModel", "ofPipe", "(II)I"⟩ ⟨"FilterWaterworksModel", "ofPipe", "(II)I"⟩) ∈ lw_all := lw_g (lw_at lw_ms 51 rfl) rfl
theorem qs52 : (Cond.selects "FilterWaterworksModel" ⟨"FilterWaterworksModel", "areTanks", "(II)Z"⟩ ⟨"FilterWaterworksModel", "areTanks", "(II)Z"⟩) ∈ lw_all := lw_g (lw_at lw_ms 52 rfl) rfl
theorem qs53 : (Cond.selects "FilterWaterworksModel" ⟨"FilterWaterworksModel", "joins", "(III)Z"⟩ ⟨"FilterWaterworksModel", "joins", "(III)Z"⟩) ∈ lw_all := lw_g (lw_at lw_ms 53 rfl) rfl
theorem qs54 : (Cond.selects "FilterWaterworksModel" ⟨"FilterWaterworksModel", "joined", "(III)I"⟩ ⟨"FilterWaterworksModel", "joined", "(III)I"⟩) ∈ lw_all := lw_g (lw_at lw_ms 54 rfl) rfl
theorem qs55 : (Cond.selects "FilterWaterworksModel" ⟨"FilterWaterworksModel", "bridges", "(I)Z"⟩ ⟨"FilterWaterworksModel", "bridges", "(I)Z"⟩) ∈ lw_all := lw_g (lw_at lw_ms 55 rfl) rfl
theorem qs56 : (Cond.selects "FilterWaterworksModel" ⟨"FilterWaterworksModel", "reaches", "(I)V"⟩ ⟨"FilterWaterworksModel", "reaches", "(I)V"⟩) ∈ lw_all := lw_g (lw_at lw_ms 56 rfl) rfl
theorem qs57 : (Cond.selects "FilterWaterworksModel" ⟨"FilterWaterworksModel", "forgets", "()V"⟩ ⟨"FilterWaterworksModel", "forgets", "()V"⟩) ∈ lw_all := lw_g (lw_at lw_ms 57 rfl) rfl
theorem qs58 : (Cond.selects "FilterWaterworksModel" ⟨"FilterWaterworksModel", "writes", "(I)V"⟩ ⟨"FilterWaterworksModel", "writes", "(I)V"⟩) ∈ lw_all := lw_g (lw_at lw_ms 58 rfl) rfl
theorem qs59 : (Cond.selects "FilterWaterworksModel" ⟨"FilterWaterworksModel", "signs", "(C)V"⟩ ⟨"FilterWaterworksModel", "signs", "(C)V"⟩) ∈ lw_all := lw_g (lw_at lw_ms 59 rfl) rfl
theorem qs60 : (Cond.selects "FilterWaterworksModel" ⟨"FilterWaterworksModel", "writes", "(CI)V"⟩ ⟨"FilterWaterworksModel", "writes", "(CI)V"⟩) ∈ lw_all := lw_g (lw_at lw_ms 60 rfl) rfl
theorem qs61 : (Cond.selects "FilterWaterworksModel" ⟨"FilterWaterworksModel", "isCommand", "()Z"⟩ ⟨"FilterWaterworksModel", "isCommand", "()Z"⟩) ∈ lw_all := lw_g (lw_at lw_ms 61 rfl) rfl
theorem qs62 : (Cond.selects "FilterWaterworksModel" ⟨"FilterWaterworksModel", "isOneOf", "(Ljava/lang/String;)Z"⟩ ⟨"FilterWaterworksModel", "isOneOf", "(Ljava/lang/String;)Z"⟩) ∈ lw_all := lw_g (lw_at lw_ms 62 rfl) rfl
theorem qs63 : (Cond.selects "FilterWaterworksModel" ⟨"FilterWaterworksModel", "digits", "(II)Z"⟩ ⟨"FilterWaterworksModel", "digits", "(II)Z"⟩) ∈ lw_all := lw_g (lw_at lw_ms 63 rfl) rfl
theorem qs64 : (Cond.selects "FilterWaterworksModel" ⟨"FilterWaterworksModel", "isSet", "()Z"⟩ ⟨"FilterWaterworksModel", "isSet", "()Z"⟩) ∈ lw_all := lw_g (lw_at lw_ms 64 rfl) rfl
theorem qs65 : (Cond.selects "FilterWaterworksModel" ⟨"FilterWaterworksModel", "takes", "(C)Z"⟩ ⟨"FilterWaterworksModel", "takes", "(C)Z"⟩) ∈ lw_all := lw_g (lw_at lw_ms 65 rfl) rfl
theorem qs66 : (Cond.selects "FilterWaterworksModel" ⟨"FilterWaterworksModel", "carries", "()I"⟩ ⟨"FilterWaterworksModel", "carries", "()I"⟩) ∈ lw_all := lw_g (lw_at lw_ms 66 rfl) rfl
