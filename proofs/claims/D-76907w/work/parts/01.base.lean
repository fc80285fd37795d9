-- ===== PART A: goes FIRST, ahead of the names: the tables' words, and 'selects' of the private methods out of them =====
/-- a private method of a class that the tables say can be made, by its rows of tables_1 -/
def lw_okq (q : MethodName × Nat) : Prop := (q.1.cls ≠ "java/lang/invoke/MethodHandle" ∧ q.1.cls ≠ "java/lang/invoke/VarHandle") ∧ Cond.instantiable q.1.cls q.2 ∈ tables_1 ∧ Cond.privateMethod q.1 ∈ tables_1 ∧ Cond.instanceMethod q.1 ∈ tables_1
set_option maxRecDepth 100000
theorem lw_t1 {w : Cond} (h : w ∈ tables_1_1) : w ∈ tables_1 := List.mem_append_left _ h
theorem lw_t2 {w : Cond} (h : w ∈ tables_1_2) : w ∈ tables_1 := List.mem_append_right _ (List.mem_append_left _ h)
theorem lw_t3 {w : Cond} (h : w ∈ tables_1_3) : w ∈ tables_1 := List.mem_append_right _ (List.mem_append_right _ (List.mem_append_left _ h))
theorem lw_t4 {w : Cond} (h : w ∈ tables_1_4) : w ∈ tables_1 := List.mem_append_right _ (List.mem_append_right _ (List.mem_append_right _ (List.mem_append_left _ h)))
theorem lw_t5 {w : Cond} (h : w ∈ tables_1_5) : w ∈ tables_1 := List.mem_append_right _ (List.mem_append_right _ (List.mem_append_right _ (List.mem_append_right _ (List.mem_append_left _ h))))
theorem lw_t6 {w : Cond} (h : w ∈ tables_1_6) : w ∈ tables_1 := List.mem_append_right _ (List.mem_append_right _ (List.mem_append_right _ (List.mem_append_right _ (List.mem_append_right _ (List.mem_append_left _ h)))))
theorem lw_t7 {w : Cond} (h : w ∈ tables_1_7) : w ∈ tables_1 := List.mem_append_right _ (List.mem_append_right _ (List.mem_append_right _ (List.mem_append_right _ (List.mem_append_right _ (List.mem_append_right _ (List.mem_append_left _ h))))))
theorem lw_t8 {w : Cond} (h : w ∈ tables_1_8) : w ∈ tables_1 := List.mem_append_right _ (List.mem_append_right _ (List.mem_append_right _ (List.mem_append_right _ (List.mem_append_right _ (List.mem_append_right _ (List.mem_append_right _ (List.mem_append_left _ h)))))))
theorem lw_t9 {w : Cond} (h : w ∈ tables_1_9) : w ∈ tables_1 := List.mem_append_right _ (List.mem_append_right _ (List.mem_append_right _ (List.mem_append_right _ (List.mem_append_right _ (List.mem_append_right _ (List.mem_append_right _ (List.mem_append_right _ (List.mem_append_left _ h))))))))
theorem lw_t10 {w : Cond} (h : w ∈ tables_1_10) : w ∈ tables_1 := List.mem_append_right _ (List.mem_append_right _ (List.mem_append_right _ (List.mem_append_right _ (List.mem_append_right _ (List.mem_append_right _ (List.mem_append_right _ (List.mem_append_right _ (List.mem_append_right _ (List.mem_append_left _ h)))))))))
theorem lw_t11 {w : Cond} (h : w ∈ tables_1_11) : w ∈ tables_1 := List.mem_append_right _ (List.mem_append_right _ (List.mem_append_right _ (List.mem_append_right _ (List.mem_append_right _ (List.mem_append_right _ (List.mem_append_right _ (List.mem_append_right _ (List.mem_append_right _ (List.mem_append_right _ (List.mem_append_left _ h))))))))))
theorem lw_t12 {w : Cond} (h : w ∈ tables_1_12) : w ∈ tables_1 := List.mem_append_right _ (List.mem_append_right _ (List.mem_append_right _ (List.mem_append_right _ (List.mem_append_right _ (List.mem_append_right _ (List.mem_append_right _ (List.mem_append_right _ (List.mem_append_right _ (List.mem_append_right _ (List.mem_append_right _ (List.mem_append_left _ h)))))))))))
theorem lw_t13 {w : Cond} (h : w ∈ tables_1_13) : w ∈ tables_1 := List.mem_append_right _ (List.mem_append_right _ (List.mem_append_right _ (List.mem_append_right _ (List.mem_append_right _ (List.mem_append_right _ (List.mem_append_right _ (List.mem_append_right _ (List.mem_append_right _ (List.mem_append_right _ (List.mem_append_right _ (List.mem_append_right _ h)))))))))))
theorem lw_p0 : lw_okq (⟨"java/util/BitSet", "initWords", "(I)V"⟩, 3) := ⟨⟨by decide +kernel, by decide +kernel⟩, lw_t1 (List.mem_of_getElem? (i := 134) rfl), lw_t1 (List.mem_of_getElem? (i := 140) rfl), lw_t1 (List.mem_of_getElem? (i := 141) rfl)⟩
theorem lw_p1 : lw_okq (⟨"CellReducer", "comes", "()I"⟩, 25) := ⟨⟨by decide +kernel, by decide +kernel⟩, lw_t1 (List.mem_of_getElem? (i := 60) rfl), lw_t2 (List.mem_of_getElem? (i := 31) rfl), lw_t2 (List.mem_of_getElem? (i := 32) rfl)⟩
theorem lw_p2 : lw_okq (⟨"CellReducer", "isCell", "(I)Z"⟩, 25) := ⟨⟨by decide +kernel, by decide +kernel⟩, lw_t1 (List.mem_of_getElem? (i := 60) rfl), lw_t2 (List.mem_of_getElem? (i := 61) rfl), lw_t2 (List.mem_of_getElem? (i := 62) rfl)⟩
theorem lw_p3 : lw_okq (⟨"CellReducer", "keeps", "(I)V"⟩, 25) := ⟨⟨by decide +kernel, by decide +kernel⟩, lw_t1 (List.mem_of_getElem? (i := 60) rfl), lw_t2 (List.mem_of_getElem? (i := 96) rfl), lw_t2 (List.mem_of_getElem? (i := 97) rfl)⟩
theorem lw_p4 : lw_okq (⟨"CellReducer$Cell", "sign", "()J"⟩, 4) := ⟨⟨by decide +kernel, by decide +kernel⟩, lw_t1 (List.mem_of_getElem? (i := 69) rfl), lw_t2 (List.mem_of_getElem? (i := 129) rfl), lw_t2 (List.mem_of_getElem? (i := 130) rfl)⟩
theorem lw_p5 : lw_okq (⟨"CellReducer$Cell", "areAbove", "(I)Z"⟩, 4) := ⟨⟨by decide +kernel, by decide +kernel⟩, lw_t1 (List.mem_of_getElem? (i := 69) rfl), lw_t2 (List.mem_of_getElem? (i := 136) rfl), lw_t2 (List.mem_of_getElem? (i := 137) rfl)⟩
theorem lw_p6 : lw_okq (⟨"CellReducer$Cell", "isOver", "(JJJJ)Z"⟩, 4) := ⟨⟨by decide +kernel, by decide +kernel⟩, lw_t1 (List.mem_of_getElem? (i := 69) rfl), lw_t2 (List.mem_of_getElem? (i := 140) rfl), lw_t2 (List.mem_of_getElem? (i := 141) rfl)⟩
theorem lw_p7 : lw_okq (⟨"CellReducer$Cell", "sum", "()J"⟩, 4) := ⟨⟨by decide +kernel, by decide +kernel⟩, lw_t1 (List.mem_of_getElem? (i := 69) rfl), lw_t2 (List.mem_of_getElem? (i := 144) rfl), lw_t2 (List.mem_of_getElem? (i := 145) rfl)⟩
theorem lw_p8 : lw_okq (⟨"CellReducer$Cell", "goes", "(I)V"⟩, 4) := ⟨⟨by decide +kernel, by decide +kernel⟩, lw_t1 (List.mem_of_getElem? (i := 69) rfl), lw_t2 (List.mem_of_getElem? (i := 157) rfl), lw_t2 (List.mem_of_getElem? (i := 158) rfl)⟩
theorem lw_p9 : lw_okq (⟨"CellReducer$Cell", "turnsAll", "()V"⟩, 4) := ⟨⟨by decide +kernel, by decide +kernel⟩, lw_t1 (List.mem_of_getElem? (i := 69) rfl), lw_t2 (List.mem_of_getElem? (i := 162) rfl), lw_t2 (List.mem_of_getElem? (i := 163) rfl)⟩
theorem lw_p10 : lw_okq (⟨"CellReducer$Cell", "turnsBy", "(Z)V"⟩, 4) := ⟨⟨by decide +kernel, by decide +kernel⟩, lw_t1 (List.mem_of_getElem? (i := 69) rfl), lw_t2 (List.mem_of_getElem? (i := 167) rfl), lw_t2 (List.mem_of_getElem? (i := 168) rfl)⟩
theorem lw_p11 : lw_okq (⟨"CellReducer", "logs", "(II)V"⟩, 25) := ⟨⟨by decide +kernel, by decide +kernel⟩, lw_t1 (List.mem_of_getElem? (i := 60) rfl), lw_t2 (List.mem_of_getElem? (i := 176) rfl), lw_t2 (List.mem_of_getElem? (i := 177) rfl)⟩
theorem lw_p12 : lw_okq (⟨"java/util/LinkedList", "unlinkFirst", "(Ljava/util/LinkedList$Node;)Ljava/lang/Object;"⟩, 4) := ⟨⟨by decide +kernel, by decide +kernel⟩, lw_t1 (List.mem_of_getElem? (i := 95) rfl), lw_t2 (List.mem_of_getElem? (i := 188) rfl), lw_t2 (List.mem_of_getElem? (i := 189) rfl)⟩
theorem lw_p13 : lw_okq (⟨"java/util/LinkedList", "checkElementIndex", "(I)V"⟩, 4) := ⟨⟨by decide +kernel, by decide +kernel⟩, lw_t1 (List.mem_of_getElem? (i := 95) rfl), lw_t3 (List.mem_of_getElem? (i := 24) rfl), lw_t3 (List.mem_of_getElem? (i := 25) rfl)⟩
theorem lw_p14 : lw_okq (⟨"java/util/LinkedList", "isElementIndex", "(I)Z"⟩, 4) := ⟨⟨by decide +kernel, by decide +kernel⟩, lw_t1 (List.mem_of_getElem? (i := 95) rfl), lw_t3 (List.mem_of_getElem? (i := 28) rfl), lw_t3 (List.mem_of_getElem? (i := 29) rfl)⟩
theorem lw_p15 : lw_okq (⟨"CellReducer", "forgets", "(II)I"⟩, 25) := ⟨⟨by decide +kernel, by decide +kernel⟩, lw_t1 (List.mem_of_getElem? (i := 60) rfl), lw_t3 (List.mem_of_getElem? (i := 46) rfl), lw_t3 (List.mem_of_getElem? (i := 47) rfl)⟩
def lw_privs_1 : List (MethodName × Nat) := [(⟨"java/util/BitSet", "initWords", "(I)V"⟩, 3), (⟨"CellReducer", "comes", "()I"⟩, 25), (⟨"CellReducer", "isCell", "(I)Z"⟩, 25), (⟨"CellReducer", "keeps", "(I)V"⟩, 25), (⟨"CellReducer$Cell", "sign", "()J"⟩, 4), (⟨"CellReducer$Cell", "areAbove", "(I)Z"⟩, 4), (⟨"CellReducer$Cell", "isOver", "(JJJJ)Z"⟩, 4), (⟨"CellReducer$Cell", "sum", "()J"⟩, 4), (⟨"CellReducer$Cell", "goes", "(I)V"⟩, 4), (⟨"CellReducer$Cell", "turnsAll", "()V"⟩, 4), (⟨"CellReducer$Cell", "turnsBy", "(Z)V"⟩, 4), (⟨"CellReducer", "logs", "(II)V"⟩, 25), (⟨"java/util/LinkedList", "unlinkFirst", "(Ljava/util/LinkedList$Node;)Ljava/lang/Object;"⟩, 4), (⟨"java/util/LinkedList", "checkElementIndex", "(I)V"⟩, 4), (⟨"java/util/LinkedList", "isElementIndex", "(I)Z"⟩, 4), (⟨"CellReducer", "forgets", "(II)I"⟩, 25)]
theorem lw_r1 : ∀ q ∈ lw_privs_1, lw_okq q := List.forall_mem_cons.mpr ⟨lw_p0, List.forall_mem_cons.mpr ⟨lw_p1, List.forall_mem_cons.mpr ⟨lw_p2, List.forall_mem_cons.mpr ⟨lw_p3, List.forall_mem_cons.mpr ⟨lw_p4, List.forall_mem_cons.mpr ⟨lw_p5, List.forall_mem_cons.mpr ⟨lw_p6, List.forall_mem_cons.mpr ⟨lw_p7, List.forall_mem_cons.mpr ⟨lw_p8, List.forall_mem_cons.mpr ⟨lw_p9, List.forall_mem_cons.mpr ⟨lw_p10, List.forall_mem_cons.mpr ⟨lw_p11, List.forall_mem_cons.mpr ⟨lw_p12, List.forall_mem_cons.mpr ⟨lw_p13, List.forall_mem_cons.mpr ⟨lw_p14, List.forall_mem_cons.mpr ⟨lw_p15, fun _ h => absurd h List.not_mem_nil⟩⟩⟩⟩⟩⟩⟩⟩⟩⟩⟩⟩⟩⟩⟩⟩
theorem lw_p16 : lw_okq (⟨"java/util/ArrayList", "rangeCheckForAdd", "(I)V"⟩, 3) := ⟨⟨by decide +kernel, by decide +kernel⟩, lw_t3 (List.mem_of_getElem? (i := 70) rfl), lw_t3 (List.mem_of_getElem? (i := 68) rfl), lw_t3 (List.mem_of_getElem? (i := 69) rfl)⟩
theorem lw_p17 : lw_okq (⟨"java/util/LinkedList", "checkPositionIndex", "(I)V"⟩, 4) := ⟨⟨by decide +kernel, by decide +kernel⟩, lw_t1 (List.mem_of_getElem? (i := 95) rfl), lw_t3 (List.mem_of_getElem? (i := 105) rfl), lw_t3 (List.mem_of_getElem? (i := 106) rfl)⟩
theorem lw_p18 : lw_okq (⟨"java/util/LinkedList", "isPositionIndex", "(I)Z"⟩, 4) := ⟨⟨by decide +kernel, by decide +kernel⟩, lw_t1 (List.mem_of_getElem? (i := 95) rfl), lw_t3 (List.mem_of_getElem? (i := 109) rfl), lw_t3 (List.mem_of_getElem? (i := 110) rfl)⟩
theorem lw_p19 : lw_okq (⟨"java/lang/NullPointerException", "getExtendedNPEMessage", "()Ljava/lang/String;"⟩, 8) := ⟨⟨by decide +kernel, by decide +kernel⟩, lw_t4 (List.mem_of_getElem? (i := 11) rfl), lw_t4 (List.mem_of_getElem? (i := 9) rfl), lw_t4 (List.mem_of_getElem? (i := 10) rfl)⟩
theorem lw_p20 : lw_okq (⟨"java/lang/Throwable", "fillInStackTrace", "(I)Ljava/lang/Throwable;"⟩, 6) := ⟨⟨by decide +kernel, by decide +kernel⟩, lw_t4 (List.mem_of_getElem? (i := 24) rfl), lw_t4 (List.mem_of_getElem? (i := 22) rfl), lw_t4 (List.mem_of_getElem? (i := 23) rfl)⟩
theorem lw_p21 : lw_okq (⟨"java/util/ArrayList", "fastRemove", "([Ljava/lang/Object;I)V"⟩, 3) := ⟨⟨by decide +kernel, by decide +kernel⟩, lw_t3 (List.mem_of_getElem? (i := 70) rfl), lw_t5 (List.mem_of_getElem? (i := 211) rfl), lw_t5 (List.mem_of_getElem? (i := 212) rfl)⟩
theorem lw_p22 : lw_okq (⟨"CellReducer", "areSame", "(II)Z"⟩, 25) := ⟨⟨by decide +kernel, by decide +kernel⟩, lw_t1 (List.mem_of_getElem? (i := 60) rfl), lw_t6 (List.mem_of_getElem? (i := 44) rfl), lw_t6 (List.mem_of_getElem? (i := 45) rfl)⟩
theorem lw_p23 : lw_okq (⟨"CellReducer", "turnsOf", "(II)I"⟩, 25) := ⟨⟨by decide +kernel, by decide +kernel⟩, lw_t1 (List.mem_of_getElem? (i := 60) rfl), lw_t6 (List.mem_of_getElem? (i := 64) rfl), lw_t6 (List.mem_of_getElem? (i := 65) rfl)⟩
theorem lw_p24 : lw_okq (⟨"CellReducer", "findSquares", "(I)V"⟩, 25) := ⟨⟨by decide +kernel, by decide +kernel⟩, lw_t1 (List.mem_of_getElem? (i := 60) rfl), lw_t6 (List.mem_of_getElem? (i := 231) rfl), lw_t6 (List.mem_of_getElem? (i := 232) rfl)⟩
theorem lw_p25 : lw_okq (⟨"CellReducer", "behind", "(I)I"⟩, 25) := ⟨⟨by decide +kernel, by decide +kernel⟩, lw_t1 (List.mem_of_getElem? (i := 60) rfl), lw_t6 (List.mem_of_getElem? (i := 237) rfl), lw_t6 (List.mem_of_getElem? (i := 238) rfl)⟩
theorem lw_p26 : lw_okq (⟨"java/util/BitSet", "expandTo", "(I)V"⟩, 3) := ⟨⟨by decide +kernel, by decide +kernel⟩, lw_t1 (List.mem_of_getElem? (i := 134) rfl), lw_t7 (List.mem_of_getElem? (i := 14) rfl), lw_t7 (List.mem_of_getElem? (i := 15) rfl)⟩
theorem lw_p27 : lw_okq (⟨"java/util/BitSet", "ensureCapacity", "(I)V"⟩, 3) := ⟨⟨by decide +kernel, by decide +kernel⟩, lw_t1 (List.mem_of_getElem? (i := 134) rfl), lw_t7 (List.mem_of_getElem? (i := 18) rfl), lw_t7 (List.mem_of_getElem? (i := 19) rfl)⟩
theorem lw_p28 : lw_okq (⟨"java/util/BitSet", "checkInvariants", "()V"⟩, 3) := ⟨⟨by decide +kernel, by decide +kernel⟩, lw_t1 (List.mem_of_getElem? (i := 134) rfl), lw_t7 (List.mem_of_getElem? (i := 31) rfl), lw_t7 (List.mem_of_getElem? (i := 32) rfl)⟩
theorem lw_p29 : lw_okq (⟨"CellReducer", "findWithin", "(II)V"⟩, 25) := ⟨⟨by decide +kernel, by decide +kernel⟩, lw_t1 (List.mem_of_getElem? (i := 60) rfl), lw_t7 (List.mem_of_getElem? (i := 54) rfl), lw_t7 (List.mem_of_getElem? (i := 55) rfl)⟩
theorem lw_p30 : lw_okq (⟨"CellReducer", "findWithin", "(III)V"⟩, 25) := ⟨⟨by decide +kernel, by decide +kernel⟩, lw_t1 (List.mem_of_getElem? (i := 60) rfl), lw_t7 (List.mem_of_getElem? (i := 58) rfl), lw_t7 (List.mem_of_getElem? (i := 59) rfl)⟩
theorem lw_p31 : lw_okq (⟨"CellReducer", "unlike", "()I"⟩, 25) := ⟨⟨by decide +kernel, by decide +kernel⟩, lw_t1 (List.mem_of_getElem? (i := 60) rfl), lw_t7 (List.mem_of_getElem? (i := 65) rfl), lw_t7 (List.mem_of_getElem? (i := 66) rfl)⟩
def lw_privs_2 : List (MethodName × Nat) := [(⟨"java/util/ArrayList", "rangeCheckForAdd", "(I)V"⟩, 3), (⟨"java/util/LinkedList", "checkPositionIndex", "(I)V"⟩, 4), (⟨"java/util/LinkedList", "isPositionIndex", "(I)Z"⟩, 4), (⟨"java/lang/NullPointerException", "getExtendedNPEMessage", "()Ljava/lang/String;"⟩, 8), (⟨"java/lang/Throwable", "fillInStackTrace", "(I)Ljava/lang/Throwable;"⟩, 6), (⟨"java/util/ArrayList", "fastRemove", "([Ljava/lang/Object;I)V"⟩, 3), (⟨"CellReducer", "areSame", "(II)Z"⟩, 25), (⟨"CellReducer", "turnsOf", "(II)I"⟩, 25), (⟨"CellReducer", "findSquares", "(I)V"⟩, 25), (⟨"CellReducer", "behind", "(I)I"⟩, 25), (⟨"java/util/BitSet", "expandTo", "(I)V"⟩, 3), (⟨"java/util/BitSet", "ensureCapacity", "(I)V"⟩, 3), (⟨"java/util/BitSet", "checkInvariants", "()V"⟩, 3), (⟨"CellReducer", "findWithin", "(II)V"⟩, 25), (⟨"CellReducer", "findWithin", "(III)V"⟩, 25), (⟨"CellReducer", "unlike", "()I"⟩, 25)]
theorem lw_r2 : ∀ q ∈ lw_privs_2, lw_okq q := List.forall_mem_cons.mpr ⟨lw_p16, List.forall_mem_cons.mpr ⟨lw_p17, List.forall_mem_cons.mpr ⟨lw_p18, List.forall_mem_cons.mpr ⟨lw_p19, List.forall_mem_cons.mpr ⟨lw_p20, List.forall_mem_cons.mpr ⟨lw_p21, List.forall_mem_cons.mpr ⟨lw_p22, List.forall_mem_cons.mpr ⟨lw_p23, List.forall_mem_cons.mpr ⟨lw_p24, List.forall_mem_cons.mpr ⟨lw_p25, List.forall_mem_cons.mpr ⟨lw_p26, List.forall_mem_cons.mpr ⟨lw_p27, List.forall_mem_cons.mpr ⟨lw_p28, List.forall_mem_cons.mpr ⟨lw_p29, List.forall_mem_cons.mpr ⟨lw_p30, List.forall_mem_cons.mpr ⟨lw_p31, fun _ h => absurd h List.not_mem_nil⟩⟩⟩⟩⟩⟩⟩⟩⟩⟩⟩⟩⟩⟩⟩⟩
theorem lw_p32 : lw_okq (⟨"CellReducer", "sharpest", "()I"⟩, 25) := ⟨⟨by decide +kernel, by decide +kernel⟩, lw_t1 (List.mem_of_getElem? (i := 60) rfl), lw_t7 (List.mem_of_getElem? (i := 78) rfl), lw_t7 (List.mem_of_getElem? (i := 79) rfl)⟩
theorem lw_p33 : lw_okq (⟨"CellReducer", "blunts", "(I)V"⟩, 25) := ⟨⟨by decide +kernel, by decide +kernel⟩, lw_t1 (List.mem_of_getElem? (i := 60) rfl), lw_t7 (List.mem_of_getElem? (i := 82) rfl), lw_t7 (List.mem_of_getElem? (i := 83) rfl)⟩
theorem lw_p34 : lw_okq (⟨"java/util/ArrayList", "add", "(Ljava/lang/Object;[Ljava/lang/Object;I)V"⟩, 3) := ⟨⟨by decide +kernel, by decide +kernel⟩, lw_t3 (List.mem_of_getElem? (i := 70) rfl), lw_t7 (List.mem_of_getElem? (i := 133) rfl), lw_t7 (List.mem_of_getElem? (i := 134) rfl)⟩
theorem lw_p35 : lw_okq (⟨"java/util/ArrayList", "grow", "()[Ljava/lang/Object;"⟩, 3) := ⟨⟨by decide +kernel, by decide +kernel⟩, lw_t3 (List.mem_of_getElem? (i := 70) rfl), lw_t7 (List.mem_of_getElem? (i := 137) rfl), lw_t7 (List.mem_of_getElem? (i := 138) rfl)⟩
theorem lw_p36 : lw_okq (⟨"java/util/ArrayList", "grow", "(I)[Ljava/lang/Object;"⟩, 3) := ⟨⟨by decide +kernel, by decide +kernel⟩, lw_t3 (List.mem_of_getElem? (i := 70) rfl), lw_t7 (List.mem_of_getElem? (i := 141) rfl), lw_t7 (List.mem_of_getElem? (i := 142) rfl)⟩
theorem lw_p37 : lw_okq (⟨"java/util/ComparableTimSort", "pushRun", "(II)V"⟩, 8) := ⟨⟨by decide +kernel, by decide +kernel⟩, lw_t8 (List.mem_of_getElem? (i := 226) rfl), lw_t9 (List.mem_of_getElem? (i := 22) rfl), lw_t9 (List.mem_of_getElem? (i := 23) rfl)⟩
theorem lw_p38 : lw_okq (⟨"java/util/ComparableTimSort", "mergeCollapse", "()V"⟩, 8) := ⟨⟨by decide +kernel, by decide +kernel⟩, lw_t8 (List.mem_of_getElem? (i := 226) rfl), lw_t9 (List.mem_of_getElem? (i := 26) rfl), lw_t9 (List.mem_of_getElem? (i := 27) rfl)⟩
theorem lw_p39 : lw_okq (⟨"java/util/ComparableTimSort", "mergeAt", "(I)V"⟩, 8) := ⟨⟨by decide +kernel, by decide +kernel⟩, lw_t8 (List.mem_of_getElem? (i := 226) rfl), lw_t9 (List.mem_of_getElem? (i := 30) rfl), lw_t9 (List.mem_of_getElem? (i := 31) rfl)⟩
theorem lw_p40 : lw_okq (⟨"java/util/ComparableTimSort", "mergeLo", "(IIII)V"⟩, 8) := ⟨⟨by decide +kernel, by decide +kernel⟩, lw_t8 (List.mem_of_getElem? (i := 226) rfl), lw_t9 (List.mem_of_getElem? (i := 40) rfl), lw_t9 (List.mem_of_getElem? (i := 41) rfl)⟩
theorem lw_p41 : lw_okq (⟨"java/util/ComparableTimSort", "ensureCapacity", "(I)[Ljava/lang/Object;"⟩, 8) := ⟨⟨by decide +kernel, by decide +kernel⟩, lw_t8 (List.mem_of_getElem? (i := 226) rfl), lw_t9 (List.mem_of_getElem? (i := 44) rfl), lw_t9 (List.mem_of_getElem? (i := 45) rfl)⟩
theorem lw_p42 : lw_okq (⟨"java/util/ComparableTimSort", "mergeHi", "(IIII)V"⟩, 8) := ⟨⟨by decide +kernel, by decide +kernel⟩, lw_t8 (List.mem_of_getElem? (i := 226) rfl), lw_t9 (List.mem_of_getElem? (i := 50) rfl), lw_t9 (List.mem_of_getElem? (i := 51) rfl)⟩
theorem lw_p43 : lw_okq (⟨"java/util/ComparableTimSort", "mergeForceCollapse", "()V"⟩, 8) := ⟨⟨by decide +kernel, by decide +kernel⟩, lw_t8 (List.mem_of_getElem? (i := 226) rfl), lw_t9 (List.mem_of_getElem? (i := 54) rfl), lw_t9 (List.mem_of_getElem? (i := 55) rfl)⟩
theorem lw_p44 : lw_okq (⟨"java/util/ArrayDeque", "grow", "(I)V"⟩, 3) := ⟨⟨by decide +kernel, by decide +kernel⟩, lw_t1 (List.mem_of_getElem? (i := 157) rfl), lw_t10 (List.mem_of_getElem? (i := 15) rfl), lw_t10 (List.mem_of_getElem? (i := 16) rfl)⟩
theorem lw_p45 : lw_okq (⟨"java/util/ArrayDeque", "newCapacity", "(II)I"⟩, 3) := ⟨⟨by decide +kernel, by decide +kernel⟩, lw_t1 (List.mem_of_getElem? (i := 157) rfl), lw_t10 (List.mem_of_getElem? (i := 20) rfl), lw_t10 (List.mem_of_getElem? (i := 21) rfl)⟩
theorem lw_p46 : lw_okq (⟨"CellReducer", "goesOut", "(I)I"⟩, 25) := ⟨⟨by decide +kernel, by decide +kernel⟩, lw_t1 (List.mem_of_getElem? (i := 60) rfl), lw_t10 (List.mem_of_getElem? (i := 34) rfl), lw_t10 (List.mem_of_getElem? (i := 35) rfl)⟩
theorem lw_p47 : lw_okq (⟨"CellReducer$Reader", "part", "()V"⟩, 6) := ⟨⟨by decide +kernel, by decide +kernel⟩, lw_t10 (List.mem_of_getElem? (i := 105) rfl), lw_t10 (List.mem_of_getElem? (i := 137) rfl), lw_t10 (List.mem_of_getElem? (i := 138) rfl)⟩
def lw_privs_3 : List (MethodName × Nat) := [(⟨"CellReducer", "sharpest", "()I"⟩, 25), (⟨"CellReducer", "blunts", "(I)V"⟩, 25), (⟨"java/util/ArrayList", "add", "(Ljava/lang/Object;[Ljava/lang/Object;I)V"⟩, 3), (⟨"java/util/ArrayList", "grow", "()[Ljava/lang/Object;"⟩, 3), (⟨"java/util/ArrayList", "grow", "(I)[Ljava/lang/Object;"⟩, 3), (⟨"java/util/ComparableTimSort", "pushRun", "(II)V"⟩, 8), (⟨"java/util/ComparableTimSort", "mergeCollapse", "()V"⟩, 8), (⟨"java/util/ComparableTimSort", "mergeAt", "(I)V"⟩, 8), (⟨"java/util/ComparableTimSort", "mergeLo", "(IIII)V"⟩, 8), (⟨"java/util/ComparableTimSort", "ensureCapacity", "(I)[Ljava/lang/Object;"⟩, 8), (⟨"java/util/ComparableTimSort", "mergeHi", "(IIII)V"⟩, 8), (⟨"java/util/ComparableTimSort", "mergeForceCollapse", "()V"⟩, 8), (⟨"java/util/ArrayDeque", "grow", "(I)V"⟩, 3), (⟨"java/util/ArrayDeque", "newCapacity", "(II)I"⟩, 3), (⟨"CellReducer", "goesOut", "(I)I"⟩, 25), (⟨"CellReducer$Reader", "part", "()V"⟩, 6)]
theorem lw_r3 : ∀ q ∈ lw_privs_3, lw_okq q := List.forall_mem_cons.mpr ⟨lw_p32, List.forall_mem_cons.mpr ⟨lw_p33, List.forall_mem_cons.mpr ⟨lw_p34, List.forall_mem_cons.mpr ⟨lw_p35, List.forall_mem_cons.mpr ⟨lw_p36, List.forall_mem_cons.mpr ⟨lw_p37, List.forall_mem_cons.mpr ⟨lw_p38, List.forall_mem_cons.mpr ⟨lw_p39, List.forall_mem_cons.mpr ⟨lw_p40, List.forall_mem_cons.mpr ⟨lw_p41, List.forall_mem_cons.mpr ⟨lw_p42, List.forall_mem_cons.mpr ⟨lw_p43, List.forall_mem_cons.mpr ⟨lw_p44, List.forall_mem_cons.mpr ⟨lw_p45, List.forall_mem_cons.mpr ⟨lw_p46, List.forall_mem_cons.mpr ⟨lw_p47, fun _ h => absurd h List.not_mem_nil⟩⟩⟩⟩⟩⟩⟩⟩⟩⟩⟩⟩⟩⟩⟩⟩
theorem lw_p48 : lw_okq (⟨"CellReducer$Reader", "take", "(I)Z"⟩, 6) := ⟨⟨by decide +kernel, by decide +kernel⟩, lw_t10 (List.mem_of_getElem? (i := 105) rfl), lw_t10 (List.mem_of_getElem? (i := 141) rfl), lw_t10 (List.mem_of_getElem? (i := 142) rfl)⟩
theorem lw_p49 : lw_okq (⟨"CellReducer$Reader", "peek", "()I"⟩, 6) := ⟨⟨by decide +kernel, by decide +kernel⟩, lw_t10 (List.mem_of_getElem? (i := 105) rfl), lw_t10 (List.mem_of_getElem? (i := 145) rfl), lw_t10 (List.mem_of_getElem? (i := 146) rfl)⟩
theorem lw_p50 : lw_okq (⟨"CellReducer$Reader", "must", "(I)V"⟩, 6) := ⟨⟨by decide +kernel, by decide +kernel⟩, lw_t10 (List.mem_of_getElem? (i := 105) rfl), lw_t10 (List.mem_of_getElem? (i := 149) rfl), lw_t10 (List.mem_of_getElem? (i := 150) rfl)⟩
theorem lw_p51 : lw_okq (⟨"CellReducer$Reader", "number", "()J"⟩, 6) := ⟨⟨by decide +kernel, by decide +kernel⟩, lw_t10 (List.mem_of_getElem? (i := 105) rfl), lw_t10 (List.mem_of_getElem? (i := 177) rfl), lw_t10 (List.mem_of_getElem? (i := 178) rfl)⟩
theorem lw_p52 : lw_okq (⟨"CellReducer$Reader", "product", "([JII)J"⟩, 6) := ⟨⟨by decide +kernel, by decide +kernel⟩, lw_t10 (List.mem_of_getElem? (i := 105) rfl), lw_t10 (List.mem_of_getElem? (i := 189) rfl), lw_t10 (List.mem_of_getElem? (i := 190) rfl)⟩
theorem lw_p53 : lw_okq (⟨"CellReducer", "toldLog", "()Ljava/lang/String;"⟩, 25) := ⟨⟨by decide +kernel, by decide +kernel⟩, lw_t1 (List.mem_of_getElem? (i := 60) rfl), lw_t10 (List.mem_of_getElem? (i := 200) rfl), lw_t10 (List.mem_of_getElem? (i := 201) rfl)⟩
theorem lw_p54 : lw_okq (⟨"CellReducer", "toldAt", "(LCellReducer$Cell;II)J"⟩, 25) := ⟨⟨by decide +kernel, by decide +kernel⟩, lw_t1 (List.mem_of_getElem? (i := 60) rfl), lw_t11 (List.mem_of_getElem? (i := 79) rfl), lw_t11 (List.mem_of_getElem? (i := 80) rfl)⟩
theorem lw_p55 : lw_okq (⟨"CellReducerModel", "moves", "(II)V"⟩, 32) := ⟨⟨by decide +kernel, by decide +kernel⟩, lw_t11 (List.mem_of_getElem? (i := 110) rfl), lw_t11 (List.mem_of_getElem? (i := 217) rfl), lw_t11 (List.mem_of_getElem? (i := 218) rfl)⟩
theorem lw_p56 : lw_okq (⟨"CellReducerModel", "put", "(IJJJJJJ)V"⟩, 32) := ⟨⟨by decide +kernel, by decide +kernel⟩, lw_t11 (List.mem_of_getElem? (i := 110) rfl), lw_t11 (List.mem_of_getElem? (i := 225) rfl), lw_t11 (List.mem_of_getElem? (i := 226) rfl)⟩
theorem lw_p57 : lw_okq (⟨"CellReducerModel", "comes", "()I"⟩, 32) := ⟨⟨by decide +kernel, by decide +kernel⟩, lw_t11 (List.mem_of_getElem? (i := 110) rfl), lw_t11 (List.mem_of_getElem? (i := 229) rfl), lw_t11 (List.mem_of_getElem? (i := 230) rfl)⟩
theorem lw_p58 : lw_okq (⟨"CellReducerModel", "mayBe", "(I)Z"⟩, 32) := ⟨⟨by decide +kernel, by decide +kernel⟩, lw_t11 (List.mem_of_getElem? (i := 110) rfl), lw_t11 (List.mem_of_getElem? (i := 233) rfl), lw_t11 (List.mem_of_getElem? (i := 234) rfl)⟩
theorem lw_p59 : lw_okq (⟨"CellReducerModel", "n", "(II)J"⟩, 32) := ⟨⟨by decide +kernel, by decide +kernel⟩, lw_t11 (List.mem_of_getElem? (i := 110) rfl), lw_t11 (List.mem_of_getElem? (i := 237) rfl), lw_t11 (List.mem_of_getElem? (i := 238) rfl)⟩
theorem lw_p60 : lw_okq (⟨"CellReducerModel", "volume", "(I)J"⟩, 32) := ⟨⟨by decide +kernel, by decide +kernel⟩, lw_t11 (List.mem_of_getElem? (i := 110) rfl), lw_t12 (List.mem_of_getElem? (i := 8) rfl), lw_t12 (List.mem_of_getElem? (i := 9) rfl)⟩
theorem lw_p61 : lw_okq (⟨"CellReducerModel", "fresh", "(I)V"⟩, 32) := ⟨⟨by decide +kernel, by decide +kernel⟩, lw_t11 (List.mem_of_getElem? (i := 110) rfl), lw_t12 (List.mem_of_getElem? (i := 12) rfl), lw_t12 (List.mem_of_getElem? (i := 13) rfl)⟩
theorem lw_p62 : lw_okq (⟨"CellReducerModel", "leavesLine", "(I)I"⟩, 32) := ⟨⟨by decide +kernel, by decide +kernel⟩, lw_t11 (List.mem_of_getElem? (i := 110) rfl), lw_t12 (List.mem_of_getElem? (i := 20) rfl), lw_t12 (List.mem_of_getElem? (i := 21) rfl)⟩
theorem lw_p63 : lw_okq (⟨"CellReducerModel", "leavesLog", "(II)I"⟩, 32) := ⟨⟨by decide +kernel, by decide +kernel⟩, lw_t11 (List.mem_of_getElem? (i := 110) rfl), lw_t12 (List.mem_of_getElem? (i := 24) rfl), lw_t12 (List.mem_of_getElem? (i := 25) rfl)⟩
def lw_privs_4 : List (MethodName × Nat) := [(⟨"CellReducer$Reader", "take", "(I)Z"⟩, 6), (⟨"CellReducer$Reader", "peek", "()I"⟩, 6), (⟨"CellReducer$Reader", "must", "(I)V"⟩, 6), (⟨"CellReducer$Reader", "number", "()J"⟩, 6), (⟨"CellReducer$Reader", "product", "([JII)J"⟩, 6), (⟨"CellReducer", "toldLog", "()Ljava/lang/String;"⟩, 25), (⟨"CellReducer", "toldAt", "(LCellReducer$Cell;II)J"⟩, 25), (⟨"CellReducerModel", "moves", "(II)V"⟩, 32), (⟨"CellReducerModel", "put", "(IJJJJJJ)V"⟩, 32), (⟨"CellReducerModel", "comes", "()I"⟩, 32), (⟨"CellReducerModel", "mayBe", "(I)Z"⟩, 32), (⟨"CellReducerModel", "n", "(II)J"⟩, 32), (⟨"CellReducerModel", "volume", "(I)J"⟩, 32), (⟨"CellReducerModel", "fresh", "(I)V"⟩, 32), (⟨"CellReducerModel", "leavesLine", "(I)I"⟩, 32), (⟨"CellReducerModel", "leavesLog", "(II)I"⟩, 32)]
theorem lw_r4 : ∀ q ∈ lw_privs_4, lw_okq q := List.forall_mem_cons.mpr ⟨lw_p48, List.forall_mem_cons.mpr ⟨lw_p49, List.forall_mem_cons.mpr ⟨lw_p50, List.forall_mem_cons.mpr ⟨lw_p51, List.forall_mem_cons.mpr ⟨lw_p52, List.forall_mem_cons.mpr ⟨lw_p53, List.forall_mem_cons.mpr ⟨lw_p54, List.forall_mem_cons.mpr ⟨lw_p55, List.forall_mem_cons.mpr ⟨lw_p56, List.forall_mem_cons.mpr ⟨lw_p57, List.forall_mem_cons.mpr ⟨lw_p58, List.forall_mem_cons.mpr ⟨lw_p59, List.forall_mem_cons.mpr ⟨lw_p60, List.forall_mem_cons.mpr ⟨lw_p61, List.forall_mem_cons.mpr ⟨lw_p62, List.forall_mem_cons.mpr ⟨lw_p63, fun _ h => absurd h List.not_mem_nil⟩⟩⟩⟩⟩⟩⟩⟩⟩⟩⟩⟩⟩⟩⟩⟩
theorem lw_p64 : lw_okq (⟨"CellReducerModel", "isCell", "(I)Z"⟩, 32) := ⟨⟨by decide +kernel, by decide +kernel⟩, lw_t11 (List.mem_of_getElem? (i := 110) rfl), lw_t12 (List.mem_of_getElem? (i := 32) rfl), lw_t12 (List.mem_of_getElem? (i := 33) rfl)⟩
theorem lw_p65 : lw_okq (⟨"CellReducerModel", "adds", "(IIIJ)V"⟩, 32) := ⟨⟨by decide +kernel, by decide +kernel⟩, lw_t11 (List.mem_of_getElem? (i := 110) rfl), lw_t12 (List.mem_of_getElem? (i := 42) rfl), lw_t12 (List.mem_of_getElem? (i := 43) rfl)⟩
theorem lw_p66 : lw_okq (⟨"CellReducerModel", "by", "(III)J"⟩, 32) := ⟨⟨by decide +kernel, by decide +kernel⟩, lw_t11 (List.mem_of_getElem? (i := 110) rfl), lw_t12 (List.mem_of_getElem? (i := 46) rfl), lw_t12 (List.mem_of_getElem? (i := 47) rfl)⟩
theorem lw_p67 : lw_okq (⟨"CellReducerModel", "remembers", "(I)V"⟩, 32) := ⟨⟨by decide +kernel, by decide +kernel⟩, lw_t11 (List.mem_of_getElem? (i := 110) rfl), lw_t12 (List.mem_of_getElem? (i := 50) rfl), lw_t12 (List.mem_of_getElem? (i := 51) rfl)⟩
theorem lw_p68 : lw_okq (⟨"CellReducerModel", "exchanges", "(III)V"⟩, 32) := ⟨⟨by decide +kernel, by decide +kernel⟩, lw_t11 (List.mem_of_getElem? (i := 110) rfl), lw_t12 (List.mem_of_getElem? (i := 58) rfl), lw_t12 (List.mem_of_getElem? (i := 59) rfl)⟩
theorem lw_p69 : lw_okq (⟨"CellReducerModel", "turnsOne", "(II)V"⟩, 32) := ⟨⟨by decide +kernel, by decide +kernel⟩, lw_t11 (List.mem_of_getElem? (i := 110) rfl), lw_t12 (List.mem_of_getElem? (i := 62) rfl), lw_t12 (List.mem_of_getElem? (i := 63) rfl)⟩
theorem lw_p70 : lw_okq (⟨"CellReducerModel", "applies", "(II)Z"⟩, 32) := ⟨⟨by decide +kernel, by decide +kernel⟩, lw_t11 (List.mem_of_getElem? (i := 110) rfl), lw_t12 (List.mem_of_getElem? (i := 80) rfl), lw_t12 (List.mem_of_getElem? (i := 81) rfl)⟩
theorem lw_p71 : lw_okq (⟨"CellReducerModel", "product", "(I)I"⟩, 32) := ⟨⟨by decide +kernel, by decide +kernel⟩, lw_t11 (List.mem_of_getElem? (i := 110) rfl), lw_t12 (List.mem_of_getElem? (i := 87) rfl), lw_t12 (List.mem_of_getElem? (i := 88) rfl)⟩
theorem lw_p72 : lw_okq (⟨"CellReducerModel", "above", "(I)I"⟩, 32) := ⟨⟨by decide +kernel, by decide +kernel⟩, lw_t11 (List.mem_of_getElem? (i := 110) rfl), lw_t12 (List.mem_of_getElem? (i := 94) rfl), lw_t12 (List.mem_of_getElem? (i := 95) rfl)⟩
theorem lw_p73 : lw_okq (⟨"CellReducerModel", "firstOf", "(I)I"⟩, 32) := ⟨⟨by decide +kernel, by decide +kernel⟩, lw_t11 (List.mem_of_getElem? (i := 110) rfl), lw_t12 (List.mem_of_getElem? (i := 105) rfl), lw_t12 (List.mem_of_getElem? (i := 106) rfl)⟩
theorem lw_p74 : lw_okq (⟨"CellReducerModel", "does", "(II)V"⟩, 32) := ⟨⟨by decide +kernel, by decide +kernel⟩, lw_t11 (List.mem_of_getElem? (i := 110) rfl), lw_t12 (List.mem_of_getElem? (i := 109) rfl), lw_t12 (List.mem_of_getElem? (i := 110) rfl)⟩
theorem lw_p75 : lw_okq (⟨"CellReducerModel", "turnsAll", "(I)V"⟩, 32) := ⟨⟨by decide +kernel, by decide +kernel⟩, lw_t11 (List.mem_of_getElem? (i := 110) rfl), lw_t12 (List.mem_of_getElem? (i := 113) rfl), lw_t12 (List.mem_of_getElem? (i := 114) rfl)⟩
theorem lw_p76 : lw_okq (⟨"CellReducerModel", "turnsSome", "(IZ)V"⟩, 32) := ⟨⟨by decide +kernel, by decide +kernel⟩, lw_t11 (List.mem_of_getElem? (i := 110) rfl), lw_t12 (List.mem_of_getElem? (i := 117) rfl), lw_t12 (List.mem_of_getElem? (i := 118) rfl)⟩
theorem lw_p77 : lw_okq (⟨"CellReducerModel", "logs", "(II)V"⟩, 32) := ⟨⟨by decide +kernel, by decide +kernel⟩, lw_t11 (List.mem_of_getElem? (i := 110) rfl), lw_t12 (List.mem_of_getElem? (i := 122) rfl), lw_t12 (List.mem_of_getElem? (i := 123) rfl)⟩
theorem lw_p78 : lw_okq (⟨"CellReducerModel", "normals", "(II)I"⟩, 32) := ⟨⟨by decide +kernel, by decide +kernel⟩, lw_t11 (List.mem_of_getElem? (i := 110) rfl), lw_t12 (List.mem_of_getElem? (i := 134) rfl), lw_t12 (List.mem_of_getElem? (i := 135) rfl)⟩
theorem lw_p79 : lw_okq (⟨"CellReducerModel", "goesOn", "(I)I"⟩, 32) := ⟨⟨by decide +kernel, by decide +kernel⟩, lw_t11 (List.mem_of_getElem? (i := 110) rfl), lw_t12 (List.mem_of_getElem? (i := 138) rfl), lw_t12 (List.mem_of_getElem? (i := 139) rfl)⟩
def lw_privs_5 : List (MethodName × Nat) := [(⟨"CellReducerModel", "isCell", "(I)Z"⟩, 32), (⟨"CellReducerModel", "adds", "(IIIJ)V"⟩, 32), (⟨"CellReducerModel", "by", "(III)J"⟩, 32), (⟨"CellReducerModel", "remembers", "(I)V"⟩, 32), (⟨"CellReducerModel", "exchanges", "(III)V"⟩, 32), (⟨"CellReducerModel", "turnsOne", "(II)V"⟩, 32), (⟨"CellReducerModel", "applies", "(II)Z"⟩, 32), (⟨"CellReducerModel", "product", "(I)I"⟩, 32), (⟨"CellReducerModel", "above", "(I)I"⟩, 32), (⟨"CellReducerModel", "firstOf", "(I)I"⟩, 32), (⟨"CellReducerModel", "does", "(II)V"⟩, 32), (⟨"CellReducerModel", "turnsAll", "(I)V"⟩, 32), (⟨"CellReducerModel", "turnsSome", "(IZ)V"⟩, 32), (⟨"CellReducerModel", "logs", "(II)V"⟩, 32), (⟨"CellReducerModel", "normals", "(II)I"⟩, 32), (⟨"CellReducerModel", "goesOn", "(I)I"⟩, 32)]
theorem lw_r5 : ∀ q ∈ lw_privs_5, lw_okq q := List.forall_mem_cons.mpr ⟨lw_p64, List.forall_mem_cons.mpr ⟨lw_p65, List.forall_mem_cons.mpr ⟨lw_p66, List.forall_mem_cons.mpr ⟨lw_p67, List.forall_mem_cons.mpr ⟨lw_p68, List.forall_mem_cons.mpr ⟨lw_p69, List.forall_mem_cons.mpr ⟨lw_p70, List.forall_mem_cons.mpr ⟨lw_p71, List.forall_mem_cons.mpr ⟨lw_p72, List.forall_mem_cons.mpr ⟨lw_p73, List.forall_mem_cons.mpr ⟨lw_p74, List.forall_mem_cons.mpr ⟨lw_p75, List.forall_mem_cons.mpr ⟨lw_p76, List.forall_mem_cons.mpr ⟨lw_p77, List.forall_mem_cons.mpr ⟨lw_p78, List.forall_mem_cons.mpr ⟨lw_p79, fun _ h => absurd h List.not_mem_nil⟩⟩⟩⟩⟩⟩⟩⟩⟩⟩⟩⟩⟩⟩⟩⟩
theorem lw_p80 : lw_okq (⟨"CellReducerModel", "areSame", "(II)Z"⟩, 32) := ⟨⟨by decide +kernel, by decide +kernel⟩, lw_t11 (List.mem_of_getElem? (i := 110) rfl), lw_t12 (List.mem_of_getElem? (i := 155) rfl), lw_t12 (List.mem_of_getElem? (i := 156) rfl)⟩
theorem lw_p81 : lw_okq (⟨"CellReducerModel", "areLike", "(II)Z"⟩, 32) := ⟨⟨by decide +kernel, by decide +kernel⟩, lw_t11 (List.mem_of_getElem? (i := 110) rfl), lw_t12 (List.mem_of_getElem? (i := 159) rfl), lw_t12 (List.mem_of_getElem? (i := 160) rfl)⟩
theorem lw_p82 : lw_okq (⟨"CellReducerModel", "back", "(III)J"⟩, 32) := ⟨⟨by decide +kernel, by decide +kernel⟩, lw_t11 (List.mem_of_getElem? (i := 110) rfl), lw_t12 (List.mem_of_getElem? (i := 167) rfl), lw_t12 (List.mem_of_getElem? (i := 168) rfl)⟩
theorem lw_p83 : lw_okq (⟨"CellReducerModel", "turning", "(II)I"⟩, 32) := ⟨⟨by decide +kernel, by decide +kernel⟩, lw_t11 (List.mem_of_getElem? (i := 110) rfl), lw_t12 (List.mem_of_getElem? (i := 175) rfl), lw_t12 (List.mem_of_getElem? (i := 176) rfl)⟩
theorem lw_p84 : lw_okq (⟨"CellReducerModel", "columns", "(III)J"⟩, 32) := ⟨⟨by decide +kernel, by decide +kernel⟩, lw_t11 (List.mem_of_getElem? (i := 110) rfl), lw_t12 (List.mem_of_getElem? (i := 179) rfl), lw_t12 (List.mem_of_getElem? (i := 180) rfl)⟩
theorem lw_p85 : lw_okq (⟨"CellReducerModel", "next", "(IJ)J"⟩, 32) := ⟨⟨by decide +kernel, by decide +kernel⟩, lw_t11 (List.mem_of_getElem? (i := 110) rfl), lw_t12 (List.mem_of_getElem? (i := 194) rfl), lw_t12 (List.mem_of_getElem? (i := 195) rfl)⟩
theorem lw_p86 : lw_okq (⟨"CellReducerModel", "square", "(IJJJ)J"⟩, 32) := ⟨⟨by decide +kernel, by decide +kernel⟩, lw_t11 (List.mem_of_getElem? (i := 110) rfl), lw_t12 (List.mem_of_getElem? (i := 198) rfl), lw_t12 (List.mem_of_getElem? (i := 199) rfl)⟩
theorem lw_p87 : lw_okq (⟨"CellReducerModel", "within", "(II)I"⟩, 32) := ⟨⟨by decide +kernel, by decide +kernel⟩, lw_t11 (List.mem_of_getElem? (i := 110) rfl), lw_t12 (List.mem_of_getElem? (i := 212) rfl), lw_t12 (List.mem_of_getElem? (i := 213) rfl)⟩
theorem lw_p88 : lw_okq (⟨"CellReducerModel", "puts", "(IIIIIIII)V"⟩, 32) := ⟨⟨by decide +kernel, by decide +kernel⟩, lw_t11 (List.mem_of_getElem? (i := 110) rfl), lw_t12 (List.mem_of_getElem? (i := 216) rfl), lw_t12 (List.mem_of_getElem? (i := 217) rfl)⟩
theorem lw_p89 : lw_okq (⟨"CellReducerModel", "unlike", "(I)I"⟩, 32) := ⟨⟨by decide +kernel, by decide +kernel⟩, lw_t11 (List.mem_of_getElem? (i := 110) rfl), lw_t12 (List.mem_of_getElem? (i := 220) rfl), lw_t12 (List.mem_of_getElem? (i := 221) rfl)⟩
theorem lw_p90 : lw_okq (⟨"CellReducerModel", "areFound", "(II)Z"⟩, 32) := ⟨⟨by decide +kernel, by decide +kernel⟩, lw_t11 (List.mem_of_getElem? (i := 110) rfl), lw_t12 (List.mem_of_getElem? (i := 224) rfl), lw_t12 (List.mem_of_getElem? (i := 225) rfl)⟩
theorem lw_p91 : lw_okq (⟨"CellReducerModel", "blunts", "(I)I"⟩, 32) := ⟨⟨by decide +kernel, by decide +kernel⟩, lw_t11 (List.mem_of_getElem? (i := 110) rfl), lw_t12 (List.mem_of_getElem? (i := 236) rfl), lw_t12 (List.mem_of_getElem? (i := 237) rfl)⟩
theorem lw_p92 : lw_okq (⟨"CellReducerModel", "greatest", "(I)I"⟩, 32) := ⟨⟨by decide +kernel, by decide +kernel⟩, lw_t11 (List.mem_of_getElem? (i := 110) rfl), lw_t13 (List.mem_of_getElem? (i := 0) rfl), lw_t13 (List.mem_of_getElem? (i := 1) rfl)⟩
theorem lw_p93 : lw_okq (⟨"CellReducerModel", "twiceOf", "(III)J"⟩, 32) := ⟨⟨by decide +kernel, by decide +kernel⟩, lw_t11 (List.mem_of_getElem? (i := 110) rfl), lw_t13 (List.mem_of_getElem? (i := 10) rfl), lw_t13 (List.mem_of_getElem? (i := 11) rfl)⟩
theorem lw_p94 : lw_okq (⟨"CellReducerModel", "part", "(I)V"⟩, 32) := ⟨⟨by decide +kernel, by decide +kernel⟩, lw_t11 (List.mem_of_getElem? (i := 110) rfl), lw_t13 (List.mem_of_getElem? (i := 44) rfl), lw_t13 (List.mem_of_getElem? (i := 45) rfl)⟩
theorem lw_p95 : lw_okq (⟨"CellReducerModel", "takes", "(I)Z"⟩, 32) := ⟨⟨by decide +kernel, by decide +kernel⟩, lw_t11 (List.mem_of_getElem? (i := 110) rfl), lw_t13 (List.mem_of_getElem? (i := 48) rfl), lw_t13 (List.mem_of_getElem? (i := 49) rfl)⟩
def lw_privs_6 : List (MethodName × Nat) := [(⟨"CellReducerModel", "areSame", "(II)Z"⟩, 32), (⟨"CellReducerModel", "areLike", "(II)Z"⟩, 32), (⟨"CellReducerModel", "back", "(III)J"⟩, 32), (⟨"CellReducerModel", "turning", "(II)I"⟩, 32), (⟨"CellReducerModel", "columns", "(III)J"⟩, 32), (⟨"CellReducerModel", "next", "(IJ)J"⟩, 32), (⟨"CellReducerModel", "square", "(IJJJ)J"⟩, 32), (⟨"CellReducerModel", "within", "(II)I"⟩, 32), (⟨"CellReducerModel", "puts", "(IIIIIIII)V"⟩, 32), (⟨"CellReducerModel", "unlike", "(I)I"⟩, 32), (⟨"CellReducerModel", "areFound", "(II)Z"⟩, 32), (⟨"CellReducerModel", "blunts", "(I)I"⟩, 32), (⟨"CellReducerModel", "greatest", "(I)I"⟩, 32), (⟨"CellReducerModel", "twiceOf", "(III)J"⟩, 32), (⟨"CellReducerModel", "part", "(I)V"⟩, 32), (⟨"CellReducerModel", "takes", "(I)Z"⟩, 32)]
theorem lw_r6 : ∀ q ∈ lw_privs_6, lw_okq q := List.forall_mem_cons.mpr ⟨lw_p80, List.forall_mem_cons.mpr ⟨lw_p81, List.forall_mem_cons.mpr ⟨lw_p82, List.forall_mem_cons.mpr ⟨lw_p83, List.forall_mem_cons.mpr ⟨lw_p84, List.forall_mem_cons.mpr ⟨lw_p85, List.forall_mem_cons.mpr ⟨lw_p86, List.forall_mem_cons.mpr ⟨lw_p87, List.forall_mem_cons.mpr ⟨lw_p88, List.forall_mem_cons.mpr ⟨lw_p89, List.forall_mem_cons.mpr ⟨lw_p90, List.forall_mem_cons.mpr ⟨lw_p91, List.forall_mem_cons.mpr ⟨lw_p92, List.forall_mem_cons.mpr ⟨lw_p93, List.forall_mem_cons.mpr ⟨lw_p94, List.forall_mem_cons.mpr ⟨lw_p95, fun _ h => absurd h List.not_mem_nil⟩⟩⟩⟩⟩⟩⟩⟩⟩⟩⟩⟩⟩⟩⟩⟩
theorem lw_p96 : lw_okq (⟨"CellReducerModel", "here", "()I"⟩, 32) := ⟨⟨by decide +kernel, by decide +kernel⟩, lw_t11 (List.mem_of_getElem? (i := 110) rfl), lw_t13 (List.mem_of_getElem? (i := 52) rfl), lw_t13 (List.mem_of_getElem? (i := 53) rfl)⟩
theorem lw_p97 : lw_okq (⟨"CellReducerModel", "figures", "()J"⟩, 32) := ⟨⟨by decide +kernel, by decide +kernel⟩, lw_t11 (List.mem_of_getElem? (i := 110) rfl), lw_t13 (List.mem_of_getElem? (i := 56) rfl), lw_t13 (List.mem_of_getElem? (i := 57) rfl)⟩
theorem lw_p98 : lw_okq (⟨"CellReducerModel", "placed", "(II)J"⟩, 32) := ⟨⟨by decide +kernel, by decide +kernel⟩, lw_t11 (List.mem_of_getElem? (i := 110) rfl), lw_t13 (List.mem_of_getElem? (i := 62) rfl), lw_t13 (List.mem_of_getElem? (i := 63) rfl)⟩
theorem lw_p99 : lw_okq (⟨"CellReducerModel", "isRead", "(I)Z"⟩, 32) := ⟨⟨by decide +kernel, by decide +kernel⟩, lw_t11 (List.mem_of_getElem? (i := 110) rfl), lw_t13 (List.mem_of_getElem? (i := 66) rfl), lw_t13 (List.mem_of_getElem? (i := 67) rfl)⟩
theorem lw_p100 : lw_okq (⟨"CellReducerModel", "prints", "(I)V"⟩, 32) := ⟨⟨by decide +kernel, by decide +kernel⟩, lw_t11 (List.mem_of_getElem? (i := 110) rfl), lw_t13 (List.mem_of_getElem? (i := 74) rfl), lw_t13 (List.mem_of_getElem? (i := 75) rfl)⟩
theorem lw_p101 : lw_okq (⟨"CellReducerModel", "printsNumber", "(J)V"⟩, 32) := ⟨⟨by decide +kernel, by decide +kernel⟩, lw_t11 (List.mem_of_getElem? (i := 110) rfl), lw_t13 (List.mem_of_getElem? (i := 78) rfl), lw_t13 (List.mem_of_getElem? (i := 79) rfl)⟩
def lw_privs_7 : List (MethodName × Nat) := [(⟨"CellReducerModel", "here", "()I"⟩, 32), (⟨"CellReducerModel", "figures", "()J"⟩, 32), (⟨"CellReducerModel", "placed", "(II)J"⟩, 32), (⟨"CellReducerModel", "isRead", "(I)Z"⟩, 32), (⟨"CellReducerModel", "prints", "(I)V"⟩, 32), (⟨"CellReducerModel", "printsNumber", "(J)V"⟩, 32)]
theorem lw_r7 : ∀ q ∈ lw_privs_7, lw_okq q := List.forall_mem_cons.mpr ⟨lw_p96, List.forall_mem_cons.mpr ⟨lw_p97, List.forall_mem_cons.mpr ⟨lw_p98, List.forall_mem_cons.mpr ⟨lw_p99, List.forall_mem_cons.mpr ⟨lw_p100, List.forall_mem_cons.mpr ⟨lw_p101, fun _ h => absurd h List.not_mem_nil⟩⟩⟩⟩⟩⟩
def lw_privs : List (MethodName × Nat) := lw_privs_1 ++ (lw_privs_2 ++ (lw_privs_3 ++ (lw_privs_4 ++ (lw_privs_5 ++ (lw_privs_6 ++ (lw_privs_7))))))
def lw_tbl : List Cond := k2_sels lw_privs ++ tables_1
theorem lw_privs_ok : ∀ q ∈ lw_privs, lw_okq q := by
  show ∀ q ∈ lw_privs_1 ++ (lw_privs_2 ++ (lw_privs_3 ++ (lw_privs_4 ++ (lw_privs_5 ++ (lw_privs_6 ++ (lw_privs_7)))))), lw_okq q
  exact List.forall_mem_append.mpr ⟨lw_r1, List.forall_mem_append.mpr ⟨lw_r2, List.forall_mem_append.mpr ⟨lw_r3, List.forall_mem_append.mpr ⟨lw_r4, List.forall_mem_append.mpr ⟨lw_r5, List.forall_mem_append.mpr ⟨lw_r6, lw_r7⟩⟩⟩⟩⟩⟩
-- ===== ONE list of words for every method: the tables' words that hold all through a run =====
def lw_all : List Cond := lw_tbl.filter goodWord
/-- a word of the tables by its place: claim/WORDS.tsv -/
theorem lw_w {w : Cond} (i : Nat) (h : lw_tbl[i]? = some w) (g : goodWord w = true) : w ∈ lw_all := List.mem_filter.mpr ⟨List.mem_of_getElem? h, g⟩
theorem lw_all_tbl {w : Cond} (h : w ∈ lw_all) : w ∈ lw_tbl := (List.mem_filter.mp h).1
theorem lw_self : GoodIn lw_all lw_all := fun w h => ⟨h, good_of_word (List.mem_filter.mp h).2⟩
/-- a class's field words, by their places -/
theorem lw_in (ws : List Cond) (ps : List Nat) (hp : ws = ps.filterMap (fun i => lw_tbl[i]?)) (hg : ws.all goodWord = true) : ∀ w ∈ ws, w ∈ lw_all := by
  intro w h
  have h1 := List.all_eq_true.mp hg w h
  rw [hp] at h
  obtain ⟨i, -, hi⟩ := List.mem_filterMap.mp h
  exact lw_w i hi h1
/-- the words of a contract for the method y with code b, L locals, answer r -/
abbrev ws_ (y : MethodName) (b : ByteArray) (L : Nat) (r : Option FieldType) : List Cond := Cond.code y b L r :: lw_all
theorem lw_meth {y : MethodName} {b : ByteArray} {L : Nat} {r : Option FieldType} (h : Cond.code y b L r ∈ lw_all) : GoodIn lw_all (ws_ y b L r) := by
  intro w hw
  rcases List.mem_cons.mp hw with e | e
  · rw [e]
    exact lw_self _ h
  · exact lw_self _ e
theorem lw_app {a c : List Cond} (ha : ∀ w ∈ a, w ∈ lw_all) (hc : GoodIn lw_all c) : GoodIn lw_all (a ++ c) := by
  intro w hw
  rcases List.mem_append.mp hw with e | e
  · exact lw_self w (ha w e)
  · exact hc w e
/-- what a call through an object asks: cwV n hts (lw_V ..) -/
theorem lw_V {own : String} {idx : Nat} {C : String} {y : MethodName} {b : ByteArray} {L : Nat} {r : Option FieldType} (h1 : Cond.methodLink own idx y ∈ lw_all) (h2 : Cond.instanceMethod y ∈ lw_all) (h3 : Cond.selects C y y ∈ lw_all) (h4 : Cond.initialized C ∈ lw_all) (h5 : Cond.code y b L r ∈ lw_all) : GoodIn lw_all (wsV own idx C y (ws_ y b L r)) := by
  refine lw_app ?_ (lw_meth h5)
  intro w hw
  simp only [List.mem_cons, List.not_mem_nil, or_false] at hw
  rcases hw with e | e | e | e
  · rw [e]; exact h1
  · rw [e]; exact h2
  · rw [e]; exact h3
  · rw [e]; exact h4
/-- what a static call asks: va_cwS n hts (lw_S ..) -/
theorem lw_S {own : String} {idx : Nat} {y : MethodName} {b : ByteArray} {L : Nat} {r : Option FieldType} (h1 : Cond.methodLink own idx y ∈ lw_all) (h2 : Cond.static y ∈ lw_all) (h3 : Cond.initialized y.cls ∈ lw_all) (h4 : Cond.code y b L r ∈ lw_all) : GoodIn lw_all (va_wsS own idx y (ws_ y b L r)) := by
  refine lw_app ?_ (lw_meth h4)
  intro w hw
  simp only [List.mem_cons, List.not_mem_nil, or_false] at hw
  rcases hw with e | e | e
  · rw [e]; exact h1
  · rw [e]; exact h2
  · rw [e]; exact h3
/-- the words of a contract for a method WITH HANDLERS (hh: its table) -/
abbrev wsW_ (y : MethodName) (b : ByteArray) (L : Nat) (r : Option FieldType) (hh : List (Nat × Nat × Nat × Nat)) : List Cond := Cond.codeWith y b L r hh :: lw_all
theorem lw_methW {y : MethodName} {b : ByteArray} {L : Nat} {r : Option FieldType} {hh : List (Nat × Nat × Nat × Nat)} (h : Cond.codeWith y b L r hh ∈ lw_all) : GoodIn lw_all (wsW_ y b L r hh) := by
  intro w hw
  rcases List.mem_cons.mp hw with e | e
  · rw [e]
    exact lw_self _ h
  · exact lw_self _ e
/-- any list of words by their places (lw_in), good -/
theorem lw_good {ws : List Cond} (h : ∀ w ∈ ws, w ∈ lw_all) : GoodIn lw_all ws := fun w hw => lw_self w (h w hw)
/-- what a call of a method with handlers asks: vx_cwVW n hts (lw_VW ..), vx_cwSW n hts (lw_SW ..) -/
theorem lw_VW {own : String} {idx : Nat} {C : String} {y : MethodName} {b : ByteArray} {L : Nat} {r : Option FieldType} {hh : List (Nat × Nat × Nat × Nat)} (h1 : Cond.methodLink own idx y ∈ lw_all) (h2 : Cond.instanceMethod y ∈ lw_all) (h3 : Cond.selects C y y ∈ lw_all) (h4 : Cond.initialized C ∈ lw_all) (h5 : Cond.codeWith y b L r hh ∈ lw_all) : GoodIn lw_all (wsV own idx C y (wsW_ y b L r hh)) := by
  refine lw_app ?_ (lw_methW h5)
  intro w hw
  simp only [List.mem_cons, List.not_mem_nil, or_false] at hw
  rcases hw with e | e | e | e
  · rw [e]; exact h1
  · rw [e]; exact h2
  · rw [e]; exact h3
  · rw [e]; exact h4
theorem lw_SW {own : String} {idx : Nat} {y : MethodName} {b : ByteArray} {L : Nat} {r : Option FieldType} {hh : List (Nat × Nat × Nat × Nat)} (h1 : Cond.methodLink own idx y ∈ lw_all) (h2 : Cond.static y ∈ lw_all) (h3 : Cond.initialized y.cls ∈ lw_all) (h4 : Cond.codeWith y b L r hh ∈ lw_all) : GoodIn lw_all (va_wsS own idx y (wsW_ y b L r hh)) := by
  refine lw_app ?_ (lw_methW h4)
  intro w hw
  simp only [List.mem_cons, List.not_mem_nil, or_false] at hw
  rcases hw with e | e | e
  · rw [e]; exact h1
  · rw [e]; exact h2
  · rw [e]; exact h3
/-- a word by its place in its run of the tables -/
theorem lw_at {r : List Cond} (hr : ∀ w ∈ r, w ∈ lw_tbl) {w : Cond} (i : Nat) (h : r[i]? = some w) : w ∈ lw_tbl := hr w (List.mem_of_getElem? h)
theorem lw_g {w : Cond} (h : w ∈ lw_tbl) (g : goodWord w = true) : w ∈ lw_all := List.mem_filter.mpr ⟨h, g⟩
theorem lw_ms : ∀ w ∈ k2_sels lw_privs, w ∈ lw_tbl := fun w h => show w ∈ k2_sels lw_privs ++ tables_1 from List.mem_append_left _ h
theorem lw_m1 : ∀ w ∈ tables_1_1, w ∈ lw_tbl := fun w h => show w ∈ k2_sels lw_privs ++ tables_1 from List.mem_append_right (k2_sels lw_privs) (show w ∈ tables_1 from List.mem_append_left _ h)
theorem lw_m2 : ∀ w ∈ tables_1_2, w ∈ lw_tbl := fun w h => show w ∈ k2_sels lw_privs ++ tables_1 from List.mem_append_right (k2_sels lw_privs) (show w ∈ tables_1 from List.mem_append_right _ (List.mem_append_left _ h))
theorem lw_m3 : ∀ w ∈ tables_1_3, w ∈ lw_tbl := fun w h => show w ∈ k2_sels lw_privs ++ tables_1 from List.mem_append_right (k2_sels lw_privs) (show w ∈ tables_1 from List.mem_append_right _ (List.mem_append_right _ (List.mem_append_left _ h)))
theorem lw_m4 : ∀ w ∈ tables_1_4, w ∈ lw_tbl := fun w h => show w ∈ k2_sels lw_privs ++ tables_1 from List.mem_append_right (k2_sels lw_privs) (show w ∈ tables_1 from List.mem_append_right _ (List.mem_append_right _ (List.mem_append_right _ (List.mem_append_left _ h))))
theorem lw_m5 : ∀ w ∈ tables_1_5, w ∈ lw_tbl := fun w h => show w ∈ k2_sels lw_privs ++ tables_1 from List.mem_append_right (k2_sels lw_privs) (show w ∈ tables_1 from List.mem_append_right _ (List.mem_append_right _ (List.mem_append_right _ (List.mem_append_right _ (List.mem_append_left _ h)))))
theorem lw_m6 : ∀ w ∈ tables_1_6, w ∈ lw_tbl := fun w h => show w ∈ k2_sels lw_privs ++ tables_1 from List.mem_append_right (k2_sels lw_privs) (show w ∈ tables_1 from List.mem_append_right _ (List.mem_append_right _ (List.mem_append_right _ (List.mem_append_right _ (List.mem_append_right _ (List.mem_append_left _ h))))))
theorem lw_m7 : ∀ w ∈ tables_1_7, w ∈ lw_tbl := fun w h => show w ∈ k2_sels lw_privs ++ tables_1 from List.mem_append_right (k2_sels lw_privs) (show w ∈ tables_1 from List.mem_append_right _ (List.mem_append_right _ (List.mem_append_right _ (List.mem_append_right _ (List.mem_append_right _ (List.mem_append_right _ (List.mem_append_left _ h)))))))
theorem lw_m8 : ∀ w ∈ tables_1_8, w ∈ lw_tbl := fun w h => show w ∈ k2_sels lw_privs ++ tables_1 from List.mem_append_right (k2_sels lw_privs) (show w ∈ tables_1 from List.mem_append_right _ (List.mem_append_right _ (List.mem_append_right _ (List.mem_append_right _ (List.mem_append_right _ (List.mem_append_right _ (List.mem_append_right _ (List.mem_append_left _ h))))))))
theorem lw_m9 : ∀ w ∈ tables_1_9, w ∈ lw_tbl := fun w h => show w ∈ k2_sels lw_privs ++ tables_1 from List.mem_append_right (k2_sels lw_privs) (show w ∈ tables_1 from List.mem_append_right _ (List.mem_append_right _ (List.mem_append_right _ (List.mem_append_right _ (List.mem_append_right _ (List.mem_append_right _ (List.mem_append_right _ (List.mem_append_right _ (List.mem_append_left _ h)))))))))
theorem lw_m10 : ∀ w ∈ tables_1_10, w ∈ lw_tbl := fun w h => show w ∈ k2_sels lw_privs ++ tables_1 from List.mem_append_right (k2_sels lw_privs) (show w ∈ tables_1 from List.mem_append_right _ (List.mem_append_right _ (List.mem_append_right _ (List.mem_append_right _ (List.mem_append_right _ (List.mem_append_right _ (List.mem_append_right _ (List.mem_append_right _ (List.mem_append_right _ (List.mem_append_left _ h))))))))))
theorem lw_m11 : ∀ w ∈ tables_1_11, w ∈ lw_tbl := fun w h => show w ∈ k2_sels lw_privs ++ tables_1 from List.mem_append_right (k2_sels lw_privs) (show w ∈ tables_1 from List.mem_append_right _ (List.mem_append_right _ (List.mem_append_right _ (List.mem_append_right _ (List.mem_append_right _ (List.mem_append_right _ (List.mem_append_right _ (List.mem_append_right _ (List.mem_append_right _ (List.mem_append_right _ (List.mem_append_left _ h)))))))))))
theorem lw_m12 : ∀ w ∈ tables_1_12, w ∈ lw_tbl := fun w h => show w ∈ k2_sels lw_privs ++ tables_1 from List.mem_append_right (k2_sels lw_privs) (show w ∈ tables_1 from List.mem_append_right _ (List.mem_append_right _ (List.mem_append_right _ (List.mem_append_right _ (List.mem_append_right _ (List.mem_append_right _ (List.mem_append_right _ (List.mem_append_right _ (List.mem_append_right _ (List.mem_append_right _ (List.mem_append_right _ (List.mem_append_left _ h))))))))))))
theorem lw_m13 : ∀ w ∈ tables_1_13, w ∈ lw_tbl := fun w h => show w ∈ k2_sels lw_privs ++ tables_1 from List.mem_append_right (k2_sels lw_privs) (show w ∈ tables_1 from List.mem_append_right _ (List.mem_append_right _ (List.mem_append_right _ (List.mem_append_right _ (List.mem_append_right _ (List.mem_append_right _ (List.mem_append_right _ (List.mem_append_right _ (List.mem_append_right _ (List.mem_append_right _ (List.mem_append_right _ (List.mem_append_right _ h))))))))))))
theorem qs0 : (Cond.selects "java/util/BitSet" ⟨"java/util/BitSet", "initWords", "(I)V"⟩ ⟨"java/util/BitSet", "initWords", "(I)V"⟩) ∈ lw_all := lw_g (lw_at lw_ms 0 rfl) rfl
theorem qs1 : (Cond.selects "CellReducer" ⟨"CellReducer", "comes", "()I"⟩ ⟨"CellReducer", "comes", "()I"⟩) ∈ lw_all := lw_g (lw_at lw_ms 1 rfl) rfl
theorem qs2 : (Cond.selects "CellReducer" ⟨"CellReducer", "isCell", "(I)Z"⟩ ⟨"CellReducer", "isCell", "(I)Z"⟩) ∈ lw_all := lw_g (lw_at lw_ms 2 rfl) rfl
theorem qs3 : (Cond.selects "CellReducer" ⟨"CellReducer", "keeps", "(I)V"⟩ ⟨"CellReducer", "keeps", "(I)V"⟩) ∈ lw_all := lw_g (lw_at lw_ms 3 rfl) rfl
theorem qs4 : (Cond.selects "CellReducer$Cell" ⟨"CellReducer$Cell", "sign", "()J"⟩ ⟨"CellReducer$Cell", "sign", "()J"⟩) ∈ lw_all := lw_g (lw_at lw_ms 4 rfl) rfl
theorem qs5 : (Cond.selects "CellReducer$Cell" ⟨"CellReducer$Cell", "areAbove", "(I)Z"⟩ ⟨"CellReducer$Cell", "areAbove", "(I)Z"⟩) ∈ lw_all := lw_g (lw_at lw_ms 5 rfl) rfl
theorem qs6 : (Cond.selects "CellReducer$Cell" ⟨"CellReducer$Cell", "isOver", "(JJJJ)Z"⟩ ⟨"CellReducer$Cell", "isOver", "(JJJJ)Z"⟩) ∈ lw_all := lw_g (lw_at lw_ms 6 rfl) rfl
theorem qs7 : (Cond.selects "CellReducer$Cell" ⟨"CellReducer$Cell", "sum", "()J"⟩ ⟨"CellReducer$Cell", "sum", "()J"⟩) ∈ lw_all := lw_g (lw_at lw_ms 7 rfl) rfl
theorem qs8 : (Cond.selects "CellReducer$Cell" ⟨"CellReducer$Cell", "goes", "(I)V"⟩ ⟨"CellReducer$Cell", "goes", "(I)V"⟩) ∈ lw_all := lw_g (lw_at lw_ms 8 rfl) rfl
theorem qs9 : (Cond.selects "CellReducer$Cell" ⟨"CellReducer$Cell", "turnsAll", "()V"⟩ ⟨"CellReducer$Cell", "turnsAll", "()V"⟩) ∈ lw_all := lw_g (lw_at lw_ms 9 rfl) rfl
theorem qs10 : (Cond.selects "CellReducer$Cell" ⟨"CellReducer$Cell", "turnsBy", "(Z)V"⟩ ⟨"CellReducer$Cell", "turnsBy", "(Z)V"⟩) ∈ lw_all := lw_g (lw_at lw_ms 10 rfl) rfl
theorem qs11 : (Cond.selects "CellReducer" ⟨"CellReducer", "logs", "(II)V"⟩ ⟨"CellReducer", "logs", "(II)V"⟩) ∈ lw_all := lw_g (lw_at lw_ms 11 rfl) rfl
theorem qs12 : (Cond.selects "java/util/LinkedList" ⟨"java/util/LinkedList", "unlinkFirst", "(Ljava/util/LinkedList$Node;)Ljava/lang/Object;"⟩ ⟨"java/util/LinkedList", "unlinkFirst", "(Ljava/util/LinkedList$Node;)Ljava/lang/Object;"⟩) ∈ lw_all := lw_g (lw_at lw_ms 12 rfl) rfl
theorem qs13 : (Cond.selects "java/util/LinkedList" ⟨"java/util/LinkedList", "checkElementIndex", "(I)V"⟩ ⟨"java/util/LinkedList", "checkElementIndex", "(I)V"⟩) ∈ lw_all := lw_g (lw_at lw_ms 13 rfl) rfl
theorem qs14 : (Cond.selects "java/util/LinkedList" ⟨"java/util/LinkedList", "isElementIndex", "(I)Z"⟩ ⟨"java/util/LinkedList", "isElementIndex", "(I)Z"⟩) ∈ lw_all := lw_g (lw_at lw_ms 14 rfl) rfl
theorem qs15 : (Cond.selects "CellReducer" ⟨"CellReducer", "forgets", "(II)I"⟩ ⟨"CellReducer", "forgets", "(II)I"⟩) ∈ lw_all := lw_g (lw_at lw_ms 15 rfl) rfl
theorem qs16 : (Cond.selects "java/util/ArrayList" ⟨"java/util/ArrayList", "rangeCheckForAdd", "(I)V"⟩ ⟨"java/util/ArrayList", "rangeCheckForAdd", "(I)V"⟩) ∈ lw_all := lw_g (lw_at lw_ms 16 rfl) rfl
theorem qs17 : (Cond.selects "java/util/LinkedList" ⟨"java/util/LinkedList", "checkPositionIndex", "(I)V"⟩ ⟨"java/util/LinkedList", "checkPositionIndex", "(I)V"⟩) ∈ lw_all := lw_g (lw_at lw_ms 17 rfl) rfl
theorem qs18 : (Cond.selects "java/util/LinkedList" ⟨"java/util/LinkedList", "isPositionIndex", "(I)Z"⟩ ⟨"java/util/LinkedList", "isPositionIndex", "(I)Z"⟩) ∈ lw_all := lw_g (lw_at lw_ms 18 rfl) rfl
theorem qs19 : (Cond.selects "java/lang/NullPointerException" ⟨"java/lang/NullPointerException", "getExtendedNPEMessage", "()Ljava/lang/String;"⟩ ⟨"java/lang/NullPointerException", "getExtendedNPEMessage", "()Ljava/lang/String;"⟩) ∈ lw_all := lw_g (lw_at lw_ms 19 rfl) rfl
theorem qs20 : (Cond.selects "java/lang/Throwable" ⟨"java/lang/Throwable", "fillInStackTrace", "(I)Ljava/lang/Throwable;"⟩ ⟨"java/lang/Throwable", "fillInStackTrace", "(I)Ljava/lang/Throwable;"⟩) ∈ lw_all := lw_g (lw_at lw_ms 20 rfl) rfl
theorem qs21 : (Cond.selects "java/util/ArrayList" ⟨"java/util/ArrayList", "fastRemove", "([Ljava/lang/Object;I)V"⟩ ⟨"java/util/ArrayList", "fastRemove", "([Ljava/lang/Object;I)V"⟩) ∈ lw_all := lw_g (lw_at lw_ms 21 rfl) rfl
theorem qs22 : (Cond.selects "CellReducer" ⟨"CellReducer", "areSame", "(II)Z"⟩ ⟨"CellReducer", "areSame", "(II)Z"⟩) ∈ lw_all := lw_g (lw_at lw_ms 22 rfl) rfl
theorem qs23 : (Cond.selects "CellReducer" ⟨"CellReducer", "turnsOf", "(II)I"⟩ ⟨"CellReducer", "turnsOf", "(II)I"⟩) ∈ lw_all := lw_g (lw_at lw_ms 23 rfl) rfl
theorem qs24 : (Cond.selects "CellReducer" ⟨"CellReducer", "findSquares", "(I)V"⟩ ⟨"CellReducer", "findSquares", "(I)V"⟩) ∈ lw_all := lw_g (lw_at lw_ms 24 rfl) rfl
theorem qs25 : (Cond.selects "CellReducer" ⟨"CellReducer", "behind", "(I)I"⟩ ⟨"CellReducer", "behind", "(I)I"⟩) ∈ lw_all := lw_g (lw_at lw_ms 25 rfl) rfl
theorem qs26 : (Cond.selects "java/util/BitSet" ⟨"java/util/BitSet", "expandTo", "(I)V"⟩ ⟨"java/util/BitSet", "expandTo", "(I)V"⟩) ∈ lw_all := lw_g (lw_at lw_ms 26 rfl) rfl
theorem qs27 : (Cond.selects "java/util/BitSet" ⟨"java/util/BitSet", "ensureCapacity", "(I)V"⟩ ⟨"java/util/BitSet", "ensureCapacity", "(I)V"⟩) ∈ lw_all := lw_g (lw_at lw_ms 27 rfl) rfl
theorem qs28 : (Cond.selects "java/util/BitSet" ⟨"java/util/BitSet", "checkInvariants", "()V"⟩ ⟨"java/util/BitSet", "checkInvariants", "()V"⟩) ∈ lw_all := lw_g (lw_at lw_ms 28 rfl) rfl
theorem qs29 : (Cond.selects "CellReducer" ⟨"CellReducer", "findWithin", "(II)V"⟩ ⟨"CellReducer", "findWithin", "(II)V"⟩) ∈ lw_all := lw_g (lw_at lw_ms 29 rfl) rfl
theorem qs30 : (Cond.selects "CellReducer" ⟨"CellReducer", "findWithin", "(III)V"⟩ ⟨"CellReducer", "findWithin", "(III)V"⟩) ∈ lw_all := lw_g (lw_at lw_ms 30 rfl) rfl
theorem qs31 : (Cond.selects "CellReducer" ⟨"CellReducer", "unlike", "()I"⟩ ⟨"CellReducer", "unlike", "()I"⟩) ∈ lw_all := lw_g (lw_at lw_ms 31 rfl) rfl
theorem qs32 : (Cond.selects "CellReducer" ⟨"CellReducer", "sharpest", "()I"⟩ ⟨"CellReducer", "sharpest", "()I"⟩) ∈ lw_all := lw_g (lw_at lw_ms 32 rfl) rfl
theorem qs33 : (Cond.selects "CellReducer" ⟨"CellReducer", "blunts", "(I)V"⟩ ⟨"CellReducer", "blunts", "(I)V"⟩) ∈ lw_all := lw_g (lw_at lw_ms 33 rfl) rfl
theorem qs34 : (Cond.selects "java/util/ArrayList" ⟨"java/util/ArrayList", "add", "(Ljava/lang/Object;[Ljava/lang/Object;I)V"⟩ ⟨"java/util/ArrayList", "add", "(Ljava/lang/Object;[Ljava/lang/Object;I)V"⟩) ∈ lw_all := lw_g (lw_at lw_ms 34 rfl) rfl
theorem qs35 : (Cond.selects "java/util/ArrayList" ⟨"java/util/ArrayList", "grow", "()[Ljava/lang/Object;"⟩ ⟨"java/util/ArrayList", "grow", "()[Ljava/lang/Object;"⟩) ∈ lw_all := lw_g (lw_at lw_ms 35 rfl) rfl
theorem qs36 : (Cond.selects "java/util/ArrayList" ⟨"java/util/ArrayList", "grow", "(I)[Ljava/lang/Object;"⟩ ⟨"java/util/ArrayList", "grow", "(I)[Ljava/lang/Object;"⟩) ∈ lw_all := lw_g (lw_at lw_ms 36 rfl) rfl
theorem qs37 : (Cond.selects "java/util/ComparableTimSort" ⟨"java/util/ComparableTimSort", "pushRun", "(II)V"⟩ ⟨"java/util/ComparableTimSort", "pushRun", "(II)V"⟩) ∈ lw_all := lw_g (lw_at lw_ms 37 rfl) rfl
theorem qs38 : (Cond.selects "java/util/ComparableTimSort" ⟨"java/util/ComparableTimSort", "mergeCollapse", "()V"⟩ ⟨"java/util/ComparableTimSort", "mergeCollapse", "()V"⟩) ∈ lw_all := lw_g (lw_at lw_ms 38 rfl) rfl
theorem qs39 : (Cond.selects "java/util/ComparableTimSort" ⟨"java/util/ComparableTimSort", "mergeAt", "(I)V"⟩ ⟨"java/util/ComparableTimSort", "mergeAt", "(I)V"⟩) ∈ lw_all := lw_g (lw_at lw_ms 39 rfl) rfl
theorem qs40 : (Cond.selects "java/util/ComparableTimSort" ⟨"java/util/ComparableTimSort", "mergeLo", "(IIII)V"⟩ ⟨"java/util/ComparableTimSort", "mergeLo", "(IIII)V"⟩) ∈ lw_all := lw_g (lw_at lw_ms 40 rfl) rfl
theorem qs41 : (Cond.selects "java/util/ComparableTimSort" ⟨"java/util/ComparableTimSort", "ensureCapacity", "(I)[Ljava/lang/Object;"⟩ ⟨"java/util/ComparableTimSort", "ensureCapacity", "(I)[Ljava/lang/Object;"⟩) ∈ lw_all := lw_g (lw_at lw_ms 41 rfl) rfl
theorem qs42 : (Cond.selects "java/util/ComparableTimSort" ⟨"java/util/ComparableTimSort", "mergeHi", "(IIII)V"⟩ ⟨"java/util/ComparableTimSort", "mergeHi", "(IIII)V"⟩) ∈ lw_all := lw_g (lw_at lw_ms 42 rfl) rfl
theorem qs43 : (Cond.selects "java/util/ComparableTimSort" ⟨"java/util/ComparableTimSort", "mergeForceCollapse", "()V"⟩ ⟨"java/util/ComparableTimSort", "mergeForceCollapse", "()V"⟩) ∈ lw_all := lw_g (lw_at lw_ms 43 rfl) rfl
theorem qs44 : (Cond.selects "java/util/ArrayDeque" ⟨"java/util/ArrayDeque", "grow", "(I)V"⟩ ⟨"java/util/ArrayDeque", "grow", "(I)V"⟩) ∈ lw_all := lw_g (lw_at lw_ms 44 rfl) rfl
theorem qs45 : (Cond.selects "java/util/ArrayDeque" ⟨"java/util/ArrayDeque", "newCapacity", "(II)I"⟩ ⟨"java/util/ArrayDeque", "newCapacity", "(II)I"⟩) ∈ lw_all := lw_g (lw_at lw_ms 45 rfl) rfl
theorem qs46 : (Cond.selects "CellReducer" ⟨"CellReducer", "goesOut", "(I)I"⟩ ⟨"CellReducer", "goesOut", "(I)I"⟩) ∈ lw_all := lw_g (lw_at lw_ms 46 rfl) rfl
theorem qs47 : (Cond.selects "CellReducer$Reader" ⟨"CellReducer$Reader", "part", "()V"⟩ ⟨"CellReducer$Reader", "part", "()V"⟩) ∈ lw_all := lw_g (lw_at lw_ms 47 rfl) rfl
theorem qs48 : (Cond.selects "CellReducer$Reader" ⟨"CellReducer$Reader", "take", "(I)Z"⟩ ⟨"CellReducer$Reader", "take", "(I)Z"⟩) ∈ lw_all := lw_g (lw_at lw_ms 48 rfl) rfl
theorem qs49 : (Cond.selects "CellReducer$Reader" ⟨"CellReducer$Reader", "peek", "()I"⟩ ⟨"CellReducer$Reader", "peek", "()I"⟩) ∈ lw_all := lw_g (lw_at lw_ms 49 rfl) rfl
theorem qs50 : (Cond.selects "CellReducer$Reader" ⟨"CellReducer$Reader", "must", "(I)V"⟩ ⟨"CellReducer$Reader", "must", "(I)V"⟩) ∈ lw_all := lw_g (lw_at lw_ms 50 rfl) rfl
theorem qs51 : (Cond.selects "CellReducer$Reader" ⟨"CellReducer$Reader", "number", "()J"⟩ ⟨"CellReducer$Reader", "number", "()J"⟩) ∈ lw_all := lw_g (lw_at lw_ms 51 rfl) rfl
theorem qs52 : (Cond.selects "CellReducer$Reader" ⟨"CellReducer$Reader", "product", "([JII)J"⟩ ⟨"CellReducer$Reader", "product", "([JII)J"⟩) ∈ lw_all := lw_g (lw_at lw_ms 52 rfl) rfl
theorem qs53 : (Cond.selects "CellReducer" ⟨"CellReducer", "toldLog", "()Ljava/lang/String;"⟩ ⟨"CellReducer", "toldLog", "()Ljava/lang/String;"⟩) ∈ lw_all := lw_g (lw_at lw_ms 53 rfl) rfl
theorem qs54 : (Cond.selects "CellReducer" ⟨"CellReducer", "toldAt", "(LCellReducer$Cell;II)J"⟩ ⟨"CellReducer", "toldAt", "(LCellReducer$Cell;II)J"⟩) ∈ lw_all := lw_g (lw_at lw_ms 54 rfl) rfl
theorem qs55 : (Cond.selects "CellReducerModel" ⟨"CellReducerModel", "moves", "(II)V"⟩ ⟨"CellReducerModel", "moves", "(II)V"⟩) ∈ lw_all := lw_g (lw_at lw_ms 55 rfl) rfl
theorem qs56 : (Cond.selects "CellReducerModel" ⟨"CellReducerModel", "put", "(IJJJJJJ)V"⟩ ⟨"CellReducerModel", "put", "(IJJJJJJ)V"⟩) ∈ lw_all := lw_g (lw_at lw_ms 56 rfl) rfl
theorem qs57 : (Cond.selects "CellReducerModel" ⟨"CellReducerModel", "comes", "()I"⟩ ⟨"CellReducerModel", "comes", "()I"⟩) ∈ lw_all := lw_g (lw_at lw_ms 57 rfl) rfl
theorem qs58 : (Cond.selects "CellReducerModel" ⟨"CellReducerModel", "mayBe", "(I)Z"⟩ ⟨"CellReducerModel", "mayBe", "(I)Z"⟩) ∈ lw_all := lw_g (lw_at lw_ms 58 rfl) rfl
theorem qs59 : (Cond.selects "CellReducerModel" ⟨"CellReducerModel", "n", "(II)J"⟩ ⟨"CellReducerModel", "n", "(II)J"⟩) ∈ lw_all := lw_g (lw_at lw_ms 59 rfl) rfl
theorem qs60 : (Cond.selects "CellReducerModel" ⟨"CellReducerModel", "volume", "(I)J"⟩ ⟨"CellReducerModel", "volume", "(I)J"⟩) ∈ lw_all := lw_g (lw_at lw_ms 60 rfl) rfl
theorem qs61 : (Cond.selects "CellReducerModel" ⟨"CellReducerModel", "fresh", "(I)V"⟩ ⟨"CellReducerModel", "fresh", "(I)V"⟩) ∈ lw_all := lw_g (lw_at lw_ms 61 rfl) rfl
theorem qs62 : (Cond.selects "CellReducerModel" ⟨"CellReducerModel", "leavesLine", "(I)I"⟩ ⟨"CellReducerModel", "leavesLine", "(I)I"⟩) ∈ lw_all := lw_g (lw_at lw_ms 62 rfl) rfl
theorem qs63 : (Cond.selects "CellReducerModel" ⟨"CellReducerModel", "leavesLog", "(II)I"⟩ ⟨"CellReducerModel", "leavesLog", "(II)I"⟩) ∈ lw_all := lw_g (lw_at lw_ms 63 rfl) rfl
theorem qs64 : (Cond.selects "CellReducerModel" ⟨"CellReducerModel", "isCell", "(I)Z"⟩ ⟨"CellReducerModel", "isCell", "(I)Z"⟩) ∈ lw_all := lw_g (lw_at lw_ms 64 rfl) rfl
theorem qs65 : (Cond.selects "CellReducerModel" ⟨"CellReducerModel", "adds", "(IIIJ)V"⟩ ⟨"CellReducerModel", "adds", "(IIIJ)V"⟩) ∈ lw_all := lw_g (lw_at lw_ms 65 rfl) rfl
theorem qs66 : (Cond.selects "CellReducerModel" ⟨"CellReducerModel", "by", "(III)J"⟩ ⟨"CellReducerModel", "by", "(III)J"⟩) ∈ lw_all := lw_g (lw_at lw_ms 66 rfl) rfl
theorem qs67 : (Cond.selects "CellReducerModel" ⟨"CellReducerModel", "remembers", "(I)V"⟩ ⟨"CellReducerModel", "remembers", "(I)V"⟩) ∈ lw_all := lw_g (lw_at lw_ms 67 rfl) rfl
theorem qs68 : (Cond.selects "CellReducerModel" ⟨"CellReducerModel", "exchanges", "(III)V"⟩ ⟨"CellReducerModel", "exchanges", "(III)V"⟩) ∈ lw_all := lw_g (lw_at lw_ms 68 rfl) rfl
theorem qs69 : (Cond.selects "CellReducerModel" ⟨"CellReducerModel", "turnsOne", "(II)V"⟩ ⟨"CellReducerModel", "turnsOne", "(II)V"⟩) ∈ lw_all := lw_g (lw_at lw_ms 69 rfl) rfl
theorem qs70 : (Cond.selects "CellReducerModel" ⟨"CellReducerModel", "applies", "(II)Z"⟩ ⟨"CellReducerModel", "applies", "(II)Z"⟩) ∈ lw_all := lw_g (lw_at lw_ms 70 rfl) rfl
theorem qs71 : (Cond.selects "CellReducerModel" ⟨"CellReducerModel", "product", "(I)I"⟩ ⟨"CellReducerModel", "product", "(I)I"⟩) ∈ lw_all := lw_g (lw_at lw_ms 71 rfl) rfl
theorem qs72 : (Cond.selects "CellReducerModel" ⟨"CellReducerModel", "above", "(I)I"⟩ ⟨"CellReducerModel", "above", "(I)I"⟩) ∈ lw_all := lw_g (lw_at lw_ms 72 rfl) rfl
theorem qs73 : (Cond.selects "CellReducerModel" ⟨"CellReducerModel", "firstOf", "(I)I"⟩ ⟨"CellReducerModel", "firstOf", "(I)I"⟩) ∈ lw_all := lw_g (lw_at lw_ms 73 rfl) rfl
theorem qs74 : (Cond.selects "CellReducerModel" ⟨"CellReducerModel", "does", "(II)V"⟩ ⟨"CellReducerModel", "does", "(II)V"⟩) ∈ lw_all := lw_g (lw_at lw_ms 74 rfl) rfl
theorem qs75 : (Cond.selects "CellReducerModel" ⟨"CellReducerModel", "turnsAll", "(I)V"⟩ ⟨"CellReducerModel", "turnsAll", "(I)V"⟩) ∈ lw_all := lw_g (lw_at lw_ms 75 rfl) rfl
theorem qs76 : (Cond.selects "CellReducerModel" ⟨"CellReducerModel", "turnsSome", "(IZ)V"⟩ ⟨"CellReducerModel", "turnsSome", "(IZ)V"⟩) ∈ lw_all := lw_g (lw_at lw_ms 76 rfl) rfl
theorem qs77 : (Cond.selects "CellReducerModel" ⟨"CellReducerModel", "logs", "(II)V"⟩ ⟨"CellReducerModel", "logs", "(II)V"⟩) ∈ lw_all := lw_g (lw_at lw_ms 77 rfl) rfl
theorem qs78 : (Cond.selects "CellReducerModel" ⟨"CellReducerModel", "normals", "(II)I"⟩ ⟨"CellReducerModel", "normals", "(II)I"⟩) ∈ lw_all := lw_g (lw_at lw_ms 78 rfl) rfl
theorem qs79 : (Cond.selects "CellReducerModel" ⟨"CellReducerModel", "goesOn", "(I)I"⟩ ⟨"CellReducerModel", "goesOn", "(I)I"⟩) ∈ lw_all := lw_g (lw_at lw_ms 79 rfl) rfl
theorem qs80 : (Cond.selects "CellReducerModel" ⟨"CellReducerModel", "areSame", "(II)Z"⟩ ⟨"CellReducerModel", "areSame", "(II)Z"⟩) ∈ lw_all := lw_g (lw_at lw_ms 80 rfl) rfl
theorem qs81 : (Cond.selects "CellReducerModel" ⟨"CellReducerModel", "areLike", "(II)Z"⟩ ⟨"CellReducerModel", "areLike", "(II)Z"⟩) ∈ lw_all := lw_g (lw_at lw_ms 81 rfl) rfl
theorem qs82 : (Cond.selects "CellReducerModel" ⟨"CellReducerModel", "back", "(III)J"⟩ ⟨"CellReducerModel", "back", "(III)J"⟩) ∈ lw_all := lw_g (lw_at lw_ms 82 rfl) rfl
theorem qs83 : (Cond.selects "CellReducerModel" ⟨"CellReducerModel", "turning", "(II)I"⟩ ⟨"CellReducerModel", "turning", "(II)I"⟩) ∈ lw_all := lw_g (lw_at lw_ms 83 rfl) rfl
theorem qs84 : (Cond.selects "CellReducerModel" ⟨"CellReducerModel", "columns", "(III)J"⟩ ⟨"CellReducerModel", "columns", "(III)J"⟩) ∈ lw_all := lw_g (lw_at lw_ms 84 rfl) rfl
theorem qs85 : (Cond.selects "CellReducerModel" ⟨"CellReducerModel", "next", "(IJ)J"⟩ ⟨"CellReducerModel", "next", "(IJ)J"⟩) ∈ lw_all := lw_g (lw_at lw_ms 85 rfl) rfl
theorem qs86 : (Cond.selects "CellReducerModel" ⟨"CellReducerModel", "square", "(IJJJ)J"⟩ ⟨"CellReducerModel", "square", "(IJJJ)J"⟩) ∈ lw_all := lw_g (lw_at lw_ms 86 rfl) rfl
theorem qs87 : (Cond.selects "CellReducerModel" ⟨"CellReducerModel", "within", "(II)I"⟩ ⟨"CellReducerModel", "within", "(II)I"⟩) ∈ lw_all := lw_g (lw_at lw_ms 87 rfl) rfl
theorem qs88 : (Cond.selects "CellReducerModel" ⟨"CellReducerModel", "puts", "(IIIIIIII)V"⟩ ⟨"CellReducerModel", "puts", "(IIIIIIII)V"⟩) ∈ lw_all := lw_g (lw_at lw_ms 88 rfl) rfl
theorem qs89 : (Cond.selects "CellReducerModel" ⟨"CellReducerModel", "unlike", "(I)I"⟩ ⟨"CellReducerModel", "unlike", "(I)I"⟩) ∈ lw_all := lw_g (lw_at lw_ms 89 rfl) rfl
theorem qs90 : (Cond.selects "CellReducerModel" ⟨"CellReducerModel", "areFound", "(II)Z"⟩ ⟨"CellReducerModel", "areFound", "(II)Z"⟩) ∈ lw_all := lw_g (lw_at lw_ms 90 rfl) rfl
theorem qs91 : (Cond.selects "CellReducerModel" ⟨"CellReducerModel", "blunts", "(I)I"⟩ ⟨"CellReducerModel", "blunts", "(I)I"⟩) ∈ lw_all := lw_g (lw_at lw_ms 91 rfl) rfl
theorem qs92 : (Cond.selects "CellReducerModel" ⟨"CellReducerModel", "greatest", "(I)I"⟩ ⟨"CellReducerModel", "greatest", "(I)I"⟩) ∈ lw_all := lw_g (lw_at lw_ms 92 rfl) rfl
theorem qs93 : (Cond.selects "CellReducerModel" ⟨"CellReducerModel", "twiceOf", "(III)J"⟩ ⟨"CellReducerModel", "twiceOf", "(III)J"⟩) ∈ lw_all := lw_g (lw_at lw_ms 93 rfl) rfl
theorem qs94 : (Cond.selects "CellReducerModel" ⟨"CellReducerModel", "part", "(I)V"⟩ ⟨"CellReducerModel", "part", "(I)V"⟩) ∈ lw_all := lw_g (lw_at lw_ms 94 rfl) rfl
theorem qs95 : (Cond.selects "CellReducerModel" ⟨"CellReducerModel", "takes", "(I)Z"⟩ ⟨"CellReducerModel", "takes", "(I)Z"⟩) ∈ lw_all := lw_g (lw_at lw_ms 95 rfl) rfl
theorem qs96 : (Cond.selects "CellReducerModel" ⟨"CellReducerModel", "here", "()I"⟩ ⟨"CellReducerModel", "here", "()I"⟩) ∈ lw_all := lw_g (lw_at lw_ms 96 rfl) rfl
theorem qs97 : (Cond.selects "CellReducerModel" ⟨"CellReducerModel", "figures", "()J"⟩ ⟨"CellReducerModel", "figures", "()J"⟩) ∈ lw_all := lw_g (lw_at lw_ms 97 rfl) rfl
theorem qs98 : (Cond.selects "CellReducerModel" ⟨"CellReducerModel", "placed", "(II)J"⟩ ⟨"CellReducerModel", "placed", "(II)J"⟩) ∈ lw_all := lw_g (lw_at lw_ms 98 rfl) rfl
theorem qs99 : (Cond.selects "CellReducerModel" ⟨"CellReducerModel", "isRead", "(I)Z"⟩ ⟨"CellReducerModel", "isRead", "(I)Z"⟩) ∈ lw_all := lw_g (lw_at lw_ms 99 rfl) rfl
theorem qs100 : (Cond.selects "CellReducerModel" ⟨"CellReducerModel", "prints", "(I)V"⟩ ⟨"CellReducerModel", "prints", "(I)V"⟩) ∈ lw_all := lw_g (lw_at lw_ms 100 rfl) rfl
theorem qs101 : (Cond.selects "CellReducerModel" ⟨"CellReducerModel", "printsNumber", "(J)V"⟩ ⟨"CellReducerModel", "printsNumber", "(J)V"⟩) ∈ lw_all := lw_g (lw_at lw_ms 101 rfl) rfl
-- ===== end of PART A; then your names; then what follows =====
/-! DECODE ROWS BY BYTES: one lemma an opcode; a method's code is cut into short pieces once, and a row reads its own piece alone. -/
set_option maxRecDepth 100000
/-- the code has just these bytes from pc on -/
def DkAt (code : ByteArray) (pc : Nat) (bs : List UInt8) : Prop := ∀ (j : Nat) (b : UInt8), bs[j]? = some b → code.data.toList[pc + j]? = some b
/-- the piece W has the bytes bs from its place j on -/
def dkIn (W : List UInt8) (j : Nat) (bs : List UInt8) : Bool := decide ((W.drop j).take bs.length = bs)
theorem dk_seg {l W T : List UInt8} {o o2 : Nat} (h : l.drop o = W ++ T) (n : Nat) (hn : W.length = n) (ho : o + n = o2) : l.drop o2 = T := by
  subst ho
  rw [← List.drop_drop, h, List.drop_left' hn]
theorem dk_at {code : ByteArray} {W T bs : List UInt8} {o pc : Nat} (h : code.data.toList.drop o = W ++ T) (j : Nat) (hp : o + j = pc) (hw : dkIn W j bs = true) : DkAt code pc bs := by
  subst hp
  intro i b e
  have h1 := of_decide_eq_true hw
  have h2 : i < bs.length := (List.getElem?_eq_some_iff.mp e).1
  have h3 : W[j + i]? = some b := by
    rw [← h1, List.getElem?_take, if_pos h2, List.getElem?_drop] at e
    exact e
  have h4 : j + i < W.length := (List.getElem?_eq_some_iff.mp h3).1
  have h5 : (code.data.toList.drop o)[j + i]? = some b := by
    rw [h, List.getElem?_append_left h4]
    exact h3
  rw [List.getElem?_drop, ← Nat.add_assoc] at h5
  exact h5
theorem dk_u1 {A : ByteArray} {p : Nat} {b : UInt8} (h : A.data.toList[p]? = some b) : (Reader.u1 : Reader DecodeError Nat) A p = .ok (b.toNat, p + 1) := by
  obtain ⟨h1, h2⟩ := List.getElem?_eq_some_iff.mp h
  have h3 : p < A.size := by simpa using h1
  have h4 : A[p]'h3 = b := h2
  have e : (Reader.u1 : Reader DecodeError Nat) A p = (if h : p < A.size then .ok (A[p].toNat, p + 1) else .error (HasTruncated.truncated p)) := by
    show (do if h : p < A.size then do set (p + 1); Pure.pure A[p].toNat else MonadExcept.throw (HasTruncated.truncated p) : Reader DecodeError Nat) A p = _
    by_cases hi : p < A.size
    · rw [dif_pos hi, dif_pos hi]; rfl
    · rw [dif_neg hi, dif_neg hi]; rfl
  rw [e, dif_pos h3, h4]
theorem dk_bind {α β : Type} {r : Reader DecodeError α} {f : α → Reader DecodeError β} {A : ByteArray} {p s : Nat} {a : α} (h : r A p = .ok (a, s)) : (r >>= f) A p = f a A s := by
  show (do let (a, s) ← r A p; f a A s : Except DecodeError (β × Nat)) = _
  rw [h]
  rfl
theorem dk_map {α β : Type} {r : Reader DecodeError α} {g : α → β} {A : ByteArray} {p s : Nat} {a : α} (h : r A p = .ok (a, s)) : (g <$> r) A p = .ok (g a, s) := by
  show (do let (a, s) ← r A p; .ok (g a, s) : Except DecodeError (β × Nat)) = _
  rw [h]
  rfl
theorem dk_u2 {A : ByteArray} {p : Nat} {a b : UInt8} (h : A.data.toList[p]? = some a) (h2 : A.data.toList[p + 1]? = some b) : (Reader.u2 : Reader DecodeError Nat) A p = .ok (a.toNat * 256 + b.toNat, p + 2) := by
  show (Reader.u1 >>= fun hi => Reader.u1 >>= fun lo => Pure.pure (hi * 256 + lo) : Reader DecodeError Nat) A p = _
  rw [dk_bind (dk_u1 h), dk_bind (dk_u1 h2)]
  rfl
theorem dk_of {code : ByteArray} {pc n : Nat} {i : Instr} (h : Decoder.instr pc code pc = .ok (i, pc + n)) : decode code pc = .ok (i, n) := by
  have e : decode code pc = (match Decoder.instr pc code pc with | .error x => .error x | .ok (j, s) => .ok (j, s - pc)) := by
    show (do let (j, s) ← Decoder.instr pc code pc; Pure.pure (j, s - pc) : Except DecodeError (Instr × Nat)) = _
    cases Decoder.instr pc code pc <;> rfl
  rw [e, h]
  show Except.ok (i, pc + n - pc) = _
  rw [Nat.add_sub_cancel_left]
theorem dk_1 {code : ByteArray} {pc : Nat} (h : DkAt code pc [1]) : decode code pc = .ok (.aconst_null, 1) := dk_of ((dk_bind (dk_u1 (h 0 _ rfl))).trans rfl)
theorem dk_2 {code : ByteArray} {pc : Nat} (h : DkAt code pc [2]) : decode code pc = .ok (.iconst (-1), 1) := dk_of ((dk_bind (dk_u1 (h 0 _ rfl))).trans rfl)
theorem dk_3 {code : ByteArray} {pc : Nat} (h : DkAt code pc [3]) : decode code pc = .ok (.iconst 0, 1) := dk_of ((dk_bind (dk_u1 (h 0 _ rfl))).trans rfl)
theorem dk_4 {code : ByteArray} {pc : Nat} (h : DkAt code pc [4]) : decode code pc = .ok (.iconst 1, 1) := dk_of ((dk_bind (dk_u1 (h 0 _ rfl))).trans rfl)
theorem dk_5 {code : ByteArray} {pc : Nat} (h : DkAt code pc [5]) : decode code pc = .ok (.iconst 2, 1) := dk_of ((dk_bind (dk_u1 (h 0 _ rfl))).trans rfl)
theorem dk_6 {code : ByteArray} {pc : Nat} (h : DkAt code pc [6]) : decode code pc = .ok (.iconst 3, 1) := dk_of ((dk_bind (dk_u1 (h 0 _ rfl))).trans rfl)
theorem dk_7 {code : ByteArray} {pc : Nat} (h : DkAt code pc [7]) : decode code pc = .ok (.iconst 4, 1) := dk_of ((dk_bind (dk_u1 (h 0 _ rfl))).trans rfl)
theorem dk_8 {code : ByteArray} {pc : Nat} (h : DkAt code pc [8]) : decode code pc = .ok (.iconst 5, 1) := dk_of ((dk_bind (dk_u1 (h 0 _ rfl))).trans rfl)
theorem dk_9 {code : ByteArray} {pc : Nat} (h : DkAt code pc [9]) : decode code pc = .ok (.lconst 0, 1) := dk_of ((dk_bind (dk_u1 (h 0 _ rfl))).trans rfl)
theorem dk_10 {code : ByteArray} {pc : Nat} (h : DkAt code pc [10]) : decode code pc = .ok (.lconst 1, 1) := dk_of ((dk_bind (dk_u1 (h 0 _ rfl))).trans rfl)
theorem dk_16 {code : ByteArray} {pc : Nat} (a : UInt8) (h : DkAt code pc [16, a]) : decode code pc = .ok (.bipush (Reader.signed 8 a.toNat), 2) := dk_of ((dk_bind (dk_u1 (h 0 _ rfl))).trans ((dk_bind (dk_map (dk_u1 (h 1 _ rfl)))).trans rfl))
theorem dk_17 {code : ByteArray} {pc : Nat} (a b : UInt8) (h : DkAt code pc [17, a, b]) : decode code pc = .ok (.sipush (Reader.signed 16 (a.toNat * 256 + b.toNat)), 3) := dk_of ((dk_bind (dk_u1 (h 0 _ rfl))).trans ((dk_bind (dk_map (dk_u2 (h 1 _ rfl) (h 2 _ rfl)))).trans rfl))
theorem dk_18 {code : ByteArray} {pc : Nat} (a : UInt8) (h : DkAt code pc [18, a]) : decode code pc = .ok (.ldc a.toNat, 2) := dk_of ((dk_bind (dk_u1 (h 0 _ rfl))).trans ((dk_bind (dk_u1 (h 1 _ rfl))).trans rfl))
theorem dk_19 {code : ByteArray} {pc : Nat} (a b : UInt8) (h : DkAt code pc [19, a, b]) : decode code pc = .ok (.ldc_w (a.toNat * 256 + b.toNat), 3) := dk_of ((dk_bind (dk_u1 (h 0 _ rfl))).trans ((dk_bind (dk_u2 (h 1 _ rfl) (h 2 _ rfl))).trans rfl))
theorem dk_20 {code : ByteArray} {pc : Nat} (a b : UInt8) (h : DkAt code pc [20, a, b]) : decode code pc = .ok (.ldc2_w (a.toNat * 256 + b.toNat), 3) := dk_of ((dk_bind (dk_u1 (h 0 _ rfl))).trans ((dk_bind (dk_u2 (h 1 _ rfl) (h 2 _ rfl))).trans rfl))
theorem dk_21 {code : ByteArray} {pc : Nat} (a : UInt8) (h : DkAt code pc [21, a]) : decode code pc = .ok (.iload a.toNat, 2) := dk_of ((dk_bind (dk_u1 (h 0 _ rfl))).trans ((dk_bind (dk_u1 (h 1 _ rfl))).trans rfl))
theorem dk_22 {code : ByteArray} {pc : Nat} (a : UInt8) (h : DkAt code pc [22, a]) : decode code pc = .ok (.lload a.toNat, 2) := dk_of ((dk_bind (dk_u1 (h 0 _ rfl))).trans ((dk_bind (dk_u1 (h 1 _ rfl))).trans rfl))
theorem dk_25 {code : ByteArray} {pc : Nat} (a : UInt8) (h : DkAt code pc [25, a]) : decode code pc = .ok (.aload a.toNat, 2) := dk_of ((dk_bind (dk_u1 (h 0 _ rfl))).trans ((dk_bind (dk_u1 (h 1 _ rfl))).trans rfl))
theorem dk_26 {code : ByteArray} {pc : Nat} (h : DkAt code pc [26]) : decode code pc = .ok (.iload_n 0, 1) := dk_of ((dk_bind (dk_u1 (h 0 _ rfl))).trans rfl)
theorem dk_27 {code : ByteArray} {pc : Nat} (h : DkAt code pc [27]) : decode code pc = .ok (.iload_n 1, 1) := dk_of ((dk_bind (dk_u1 (h 0 _ rfl))).trans rfl)
theorem dk_28 {code : ByteArray} {pc : Nat} (h : DkAt code pc [28]) : decode code pc = .ok (.iload_n 2, 1) := dk_of ((dk_bind (dk_u1 (h 0 _ rfl))).trans rfl)
theorem dk_29 {code : ByteArray} {pc : Nat} (h : DkAt code pc [29]) : decode code pc = .ok (.iload_n 3, 1) := dk_of ((dk_bind (dk_u1 (h 0 _ rfl))).trans rfl)
theorem dk_30 {code : ByteArray} {pc : Nat} (h : DkAt code pc [30]) : decode code pc = .ok (.lload_n 0, 1) := dk_of ((dk_bind (dk_u1 (h 0 _ rfl))).trans rfl)
theorem dk_31 {code : ByteArray} {pc : Nat} (h : DkAt code pc [31]) : decode code pc = .ok (.lload_n 1, 1) := dk_of ((dk_bind (dk_u1 (h 0 _ rfl))).trans rfl)
theorem dk_32 {code : ByteArray} {pc : Nat} (h : DkAt code pc [32]) : decode code pc = .ok (.lload_n 2, 1) := dk_of ((dk_bind (dk_u1 (h 0 _ rfl))).trans rfl)
theorem dk_33 {code : ByteArray} {pc : Nat} (h : DkAt code pc [33]) : decode code pc = .ok (.lload_n 3, 1) := dk_of ((dk_bind (dk_u1 (h 0 _ rfl))).trans rfl)
theorem dk_42 {code : ByteArray} {pc : Nat} (h : DkAt code pc [42]) : decode code pc = .ok (.aload_n 0, 1) := dk_of ((dk_bind (dk_u1 (h 0 _ rfl))).trans rfl)
theorem dk_43 {code : ByteArray} {pc : Nat} (h : DkAt code pc [43]) : decode code pc = .ok (.aload_n 1, 1) := dk_of ((dk_bind (dk_u1 (h 0 _ rfl))).trans rfl)
theorem dk_44 {code : ByteArray} {pc : Nat} (h : DkAt code pc [44]) : decode code pc = .ok (.aload_n 2, 1) := dk_of ((dk_bind (dk_u1 (h 0 _ rfl))).trans rfl)
theorem dk_45 {code : ByteArray} {pc : Nat} (h : DkAt code pc [45]) : decode code pc = .ok (.aload_n 3, 1) := dk_of ((dk_bind (dk_u1 (h 0 _ rfl))).trans rfl)
theorem dk_46 {code : ByteArray} {pc : Nat} (h : DkAt code pc [46]) : decode code pc = .ok (.iaload, 1) := dk_of ((dk_bind (dk_u1 (h 0 _ rfl))).trans rfl)
theorem dk_47 {code : ByteArray} {pc : Nat} (h : DkAt code pc [47]) : decode code pc = .ok (.laload, 1) := dk_of ((dk_bind (dk_u1 (h 0 _ rfl))).trans rfl)
theorem dk_50 {code : ByteArray} {pc : Nat} (h : DkAt code pc [50]) : decode code pc = .ok (.aaload, 1) := dk_of ((dk_bind (dk_u1 (h 0 _ rfl))).trans rfl)
theorem dk_51 {code : ByteArray} {pc : Nat} (h : DkAt code pc [51]) : decode code pc = .ok (.baload, 1) := dk_of ((dk_bind (dk_u1 (h 0 _ rfl))).trans rfl)
theorem dk_54 {code : ByteArray} {pc : Nat} (a : UInt8) (h : DkAt code pc [54, a]) : decode code pc = .ok (.istore a.toNat, 2) := dk_of ((dk_bind (dk_u1 (h 0 _ rfl))).trans ((dk_bind (dk_u1 (h 1 _ rfl))).trans rfl))
theorem dk_55 {code : ByteArray} {pc : Nat} (a : UInt8) (h : DkAt code pc [55, a]) : decode code pc = .ok (.lstore a.toNat, 2) := dk_of ((dk_bind (dk_u1 (h 0 _ rfl))).trans ((dk_bind (dk_u1 (h 1 _ rfl))).trans rfl))
theorem dk_58 {code : ByteArray} {pc : Nat} (a : UInt8) (h : DkAt code pc [58, a]) : decode code pc = .ok (.astore a.toNat, 2) := dk_of ((dk_bind (dk_u1 (h 0 _ rfl))).trans ((dk_bind (dk_u1 (h 1 _ rfl))).trans rfl))
theorem dk_59 {code : ByteArray} {pc : Nat} (h : DkAt code pc [59]) : decode code pc = .ok (.istore_n 0, 1) := dk_of ((dk_bind (dk_u1 (h 0 _ rfl))).trans rfl)
theorem dk_60 {code : ByteArray} {pc : Nat} (h : DkAt code pc [60]) : decode code pc = .ok (.istore_n 1, 1) := dk_of ((dk_bind (dk_u1 (h 0 _ rfl))).trans rfl)
theorem dk_61 {code : ByteArray} {pc : Nat} (h : DkAt code pc [61]) : decode code pc = .ok (.istore_n 2, 1) := dk_of ((dk_bind (dk_u1 (h 0 _ rfl))).trans rfl)
theorem dk_62 {code : ByteArray} {pc : Nat} (h : DkAt code pc [62]) : decode code pc = .ok (.istore_n 3, 1) := dk_of ((dk_bind (dk_u1 (h 0 _ rfl))).trans rfl)
theorem dk_63 {code : ByteArray} {pc : Nat} (h : DkAt code pc [63]) : decode code pc = .ok (.lstore_n 0, 1) := dk_of ((dk_bind (dk_u1 (h 0 _ rfl))).trans rfl)
theorem dk_65 {code : ByteArray} {pc : Nat} (h : DkAt code pc [65]) : decode code pc = .ok (.lstore_n 2, 1) := dk_of ((dk_bind (dk_u1 (h 0 _ rfl))).trans rfl)
theorem dk_66 {code : ByteArray} {pc : Nat} (h : DkAt code pc [66]) : decode code pc = .ok (.lstore_n 3, 1) := dk_of ((dk_bind (dk_u1 (h 0 _ rfl))).trans rfl)
theorem dk_76 {code : ByteArray} {pc : Nat} (h : DkAt code pc [76]) : decode code pc = .ok (.astore_n 1, 1) := dk_of ((dk_bind (dk_u1 (h 0 _ rfl))).trans rfl)
theorem dk_77 {code : ByteArray} {pc : Nat} (h : DkAt code pc [77]) : decode code pc = .ok (.astore_n 2, 1) := dk_of ((dk_bind (dk_u1 (h 0 _ rfl))).trans rfl)
theorem dk_78 {code : ByteArray} {pc : Nat} (h : DkAt code pc [78]) : decode code pc = .ok (.astore_n 3, 1) := dk_of ((dk_bind (dk_u1 (h 0 _ rfl))).trans rfl)
theorem dk_79 {code : ByteArray} {pc : Nat} (h : DkAt code pc [79]) : decode code pc = .ok (.iastore, 1) := dk_of ((dk_bind (dk_u1 (h 0 _ rfl))).trans rfl)
theorem dk_80 {code : ByteArray} {pc : Nat} (h : DkAt code pc [80]) : decode code pc = .ok (.lastore, 1) := dk_of ((dk_bind (dk_u1 (h 0 _ rfl))).trans rfl)
theorem dk_83 {code : ByteArray} {pc : Nat} (h : DkAt code pc [83]) : decode code pc = .ok (.aastore, 1) := dk_of ((dk_bind (dk_u1 (h 0 _ rfl))).trans rfl)
theorem dk_84 {code : ByteArray} {pc : Nat} (h : DkAt code pc [84]) : decode code pc = .ok (.bastore, 1) := dk_of ((dk_bind (dk_u1 (h 0 _ rfl))).trans rfl)
theorem dk_87 {code : ByteArray} {pc : Nat} (h : DkAt code pc [87]) : decode code pc = .ok (.pop, 1) := dk_of ((dk_bind (dk_u1 (h 0 _ rfl))).trans rfl)
theorem dk_89 {code : ByteArray} {pc : Nat} (h : DkAt code pc [89]) : decode code pc = .ok (.dup, 1) := dk_of ((dk_bind (dk_u1 (h 0 _ rfl))).trans rfl)
theorem dk_90 {code : ByteArray} {pc : Nat} (h : DkAt code pc [90]) : decode code pc = .ok (.dup_x1, 1) := dk_of ((dk_bind (dk_u1 (h 0 _ rfl))).trans rfl)
theorem dk_92 {code : ByteArray} {pc : Nat} (h : DkAt code pc [92]) : decode code pc = .ok (.dup2, 1) := dk_of ((dk_bind (dk_u1 (h 0 _ rfl))).trans rfl)
theorem dk_96 {code : ByteArray} {pc : Nat} (h : DkAt code pc [96]) : decode code pc = .ok (.iadd, 1) := dk_of ((dk_bind (dk_u1 (h 0 _ rfl))).trans rfl)
theorem dk_97 {code : ByteArray} {pc : Nat} (h : DkAt code pc [97]) : decode code pc = .ok (.ladd, 1) := dk_of ((dk_bind (dk_u1 (h 0 _ rfl))).trans rfl)
theorem dk_100 {code : ByteArray} {pc : Nat} (h : DkAt code pc [100]) : decode code pc = .ok (.isub, 1) := dk_of ((dk_bind (dk_u1 (h 0 _ rfl))).trans rfl)
theorem dk_101 {code : ByteArray} {pc : Nat} (h : DkAt code pc [101]) : decode code pc = .ok (.lsub, 1) := dk_of ((dk_bind (dk_u1 (h 0 _ rfl))).trans rfl)
theorem dk_104 {code : ByteArray} {pc : Nat} (h : DkAt code pc [104]) : decode code pc = .ok (.imul, 1) := dk_of ((dk_bind (dk_u1 (h 0 _ rfl))).trans rfl)
theorem dk_105 {code : ByteArray} {pc : Nat} (h : DkAt code pc [105]) : decode code pc = .ok (.lmul, 1) := dk_of ((dk_bind (dk_u1 (h 0 _ rfl))).trans rfl)
theorem dk_108 {code : ByteArray} {pc : Nat} (h : DkAt code pc [108]) : decode code pc = .ok (.idiv, 1) := dk_of ((dk_bind (dk_u1 (h 0 _ rfl))).trans rfl)
theorem dk_109 {code : ByteArray} {pc : Nat} (h : DkAt code pc [109]) : decode code pc = .ok (.ldiv, 1) := dk_of ((dk_bind (dk_u1 (h 0 _ rfl))).trans rfl)
theorem dk_112 {code : ByteArray} {pc : Nat} (h : DkAt code pc [112]) : decode code pc = .ok (.irem, 1) := dk_of ((dk_bind (dk_u1 (h 0 _ rfl))).trans rfl)
theorem dk_113 {code : ByteArray} {pc : Nat} (h : DkAt code pc [113]) : decode code pc = .ok (.lrem, 1) := dk_of ((dk_bind (dk_u1 (h 0 _ rfl))).trans rfl)
theorem dk_116 {code : ByteArray} {pc : Nat} (h : DkAt code pc [116]) : decode code pc = .ok (.ineg, 1) := dk_of ((dk_bind (dk_u1 (h 0 _ rfl))).trans rfl)
theorem dk_117 {code : ByteArray} {pc : Nat} (h : DkAt code pc [117]) : decode code pc = .ok (.lneg, 1) := dk_of ((dk_bind (dk_u1 (h 0 _ rfl))).trans rfl)
theorem dk_120 {code : ByteArray} {pc : Nat} (h : DkAt code pc [120]) : decode code pc = .ok (.ishl, 1) := dk_of ((dk_bind (dk_u1 (h 0 _ rfl))).trans rfl)
theorem dk_121 {code : ByteArray} {pc : Nat} (h : DkAt code pc [121]) : decode code pc = .ok (.lshl, 1) := dk_of ((dk_bind (dk_u1 (h 0 _ rfl))).trans rfl)
theorem dk_122 {code : ByteArray} {pc : Nat} (h : DkAt code pc [122]) : decode code pc = .ok (.ishr, 1) := dk_of ((dk_bind (dk_u1 (h 0 _ rfl))).trans rfl)
theorem dk_123 {code : ByteArray} {pc : Nat} (h : DkAt code pc [123]) : decode code pc = .ok (.lshr, 1) := dk_of ((dk_bind (dk_u1 (h 0 _ rfl))).trans rfl)
theorem dk_124 {code : ByteArray} {pc : Nat} (h : DkAt code pc [124]) : decode code pc = .ok (.iushr, 1) := dk_of ((dk_bind (dk_u1 (h 0 _ rfl))).trans rfl)
theorem dk_125 {code : ByteArray} {pc : Nat} (h : DkAt code pc [125]) : decode code pc = .ok (.lushr, 1) := dk_of ((dk_bind (dk_u1 (h 0 _ rfl))).trans rfl)
theorem dk_126 {code : ByteArray} {pc : Nat} (h : DkAt code pc [126]) : decode code pc = .ok (.iand, 1) := dk_of ((dk_bind (dk_u1 (h 0 _ rfl))).trans rfl)
theorem dk_127 {code : ByteArray} {pc : Nat} (h : DkAt code pc [127]) : decode code pc = .ok (.land, 1) := dk_of ((dk_bind (dk_u1 (h 0 _ rfl))).trans rfl)
theorem dk_128 {code : ByteArray} {pc : Nat} (h : DkAt code pc [128]) : decode code pc = .ok (.ior, 1) := dk_of ((dk_bind (dk_u1 (h 0 _ rfl))).trans rfl)
theorem dk_129 {code : ByteArray} {pc : Nat} (h : DkAt code pc [129]) : decode code pc = .ok (.lor, 1) := dk_of ((dk_bind (dk_u1 (h 0 _ rfl))).trans rfl)
theorem dk_130 {code : ByteArray} {pc : Nat} (h : DkAt code pc [130]) : decode code pc = .ok (.ixor, 1) := dk_of ((dk_bind (dk_u1 (h 0 _ rfl))).trans rfl)
theorem dk_131 {code : ByteArray} {pc : Nat} (h : DkAt code pc [131]) : decode code pc = .ok (.lxor, 1) := dk_of ((dk_bind (dk_u1 (h 0 _ rfl))).trans rfl)
theorem dk_132 {code : ByteArray} {pc : Nat} (a b : UInt8) (h : DkAt code pc [132, a, b]) : decode code pc = .ok (.iinc a.toNat (Reader.signed 8 b.toNat), 3) := dk_of ((dk_bind (dk_u1 (h 0 _ rfl))).trans ((dk_bind (dk_u1 (h 1 _ rfl))).trans ((dk_bind (dk_map (dk_u1 (h 2 _ rfl)))).trans rfl)))
theorem dk_133 {code : ByteArray} {pc : Nat} (h : DkAt code pc [133]) : decode code pc = .ok (.i2l, 1) := dk_of ((dk_bind (dk_u1 (h 0 _ rfl))).trans rfl)
theorem dk_136 {code : ByteArray} {pc : Nat} (h : DkAt code pc [136]) : decode code pc = .ok (.l2i, 1) := dk_of ((dk_bind (dk_u1 (h 0 _ rfl))).trans rfl)
theorem dk_145 {code : ByteArray} {pc : Nat} (h : DkAt code pc [145]) : decode code pc = .ok (.i2b, 1) := dk_of ((dk_bind (dk_u1 (h 0 _ rfl))).trans rfl)
theorem dk_146 {code : ByteArray} {pc : Nat} (h : DkAt code pc [146]) : decode code pc = .ok (.i2c, 1) := dk_of ((dk_bind (dk_u1 (h 0 _ rfl))).trans rfl)
theorem dk_148 {code : ByteArray} {pc : Nat} (h : DkAt code pc [148]) : decode code pc = .ok (.lcmp, 1) := dk_of ((dk_bind (dk_u1 (h 0 _ rfl))).trans rfl)
theorem dk_153 {code : ByteArray} {pc : Nat} (a b : UInt8) (h : DkAt code pc [153, a, b]) : decode code pc = .ok (.ifCond .eq (Reader.signed 16 (a.toNat * 256 + b.toNat)), 3) := dk_of ((dk_bind (dk_u1 (h 0 _ rfl))).trans ((dk_bind (dk_map (dk_u2 (h 1 _ rfl) (h 2 _ rfl)))).trans rfl))
theorem dk_154 {code : ByteArray} {pc : Nat} (a b : UInt8) (h : DkAt code pc [154, a, b]) : decode code pc = .ok (.ifCond .ne (Reader.signed 16 (a.toNat * 256 + b.toNat)), 3) := dk_of ((dk_bind (dk_u1 (h 0 _ rfl))).trans ((dk_bind (dk_map (dk_u2 (h 1 _ rfl) (h 2 _ rfl)))).trans rfl))
theorem dk_155 {code : ByteArray} {pc : Nat} (a b : UInt8) (h : DkAt code pc [155, a, b]) : decode code pc = .ok (.ifCond .lt (Reader.signed 16 (a.toNat * 256 + b.toNat)), 3) := dk_of ((dk_bind (dk_u1 (h 0 _ rfl))).trans ((dk_bind (dk_map (dk_u2 (h 1 _ rfl) (h 2 _ rfl)))).trans rfl))
theorem dk_156 {code : ByteArray} {pc : Nat} (a b : UInt8) (h : DkAt code pc [156, a, b]) : decode code pc = .ok (.ifCond .ge (Reader.signed 16 (a.toNat * 256 + b.toNat)), 3) := dk_of ((dk_bind (dk_u1 (h 0 _ rfl))).trans ((dk_bind (dk_map (dk_u2 (h 1 _ rfl) (h 2 _ rfl)))).trans rfl))
theorem dk_157 {code : ByteArray} {pc : Nat} (a b : UInt8) (h : DkAt code pc [157, a, b]) : decode code pc = .ok (.ifCond .gt (Reader.signed 16 (a.toNat * 256 + b.toNat)), 3) := dk_of ((dk_bind (dk_u1 (h 0 _ rfl))).trans ((dk_bind (dk_map (dk_u2 (h 1 _ rfl) (h 2 _ rfl)))).trans rfl))
theorem dk_158 {code : ByteArray} {pc : Nat} (a b : UInt8) (h : DkAt code pc [158, a, b]) : decode code pc = .ok (.ifCond .le (Reader.signed 16 (a.toNat * 256 + b.toNat)), 3) := dk_of ((dk_bind (dk_u1 (h 0 _ rfl))).trans ((dk_bind (dk_map (dk_u2 (h 1 _ rfl) (h 2 _ rfl)))).trans rfl))
theorem dk_159 {code : ByteArray} {pc : Nat} (a b : UInt8) (h : DkAt code pc [159, a, b]) : decode code pc = .ok (.if_icmp .eq (Reader.signed 16 (a.toNat * 256 + b.toNat)), 3) := dk_of ((dk_bind (dk_u1 (h 0 _ rfl))).trans ((dk_bind (dk_map (dk_u2 (h 1 _ rfl) (h 2 _ rfl)))).trans rfl))
theorem dk_160 {code : ByteArray} {pc : Nat} (a b : UInt8) (h : DkAt code pc [160, a, b]) : decode code pc = .ok (.if_icmp .ne (Reader.signed 16 (a.toNat * 256 + b.toNat)), 3) := dk_of ((dk_bind (dk_u1 (h 0 _ rfl))).trans ((dk_bind (dk_map (dk_u2 (h 1 _ rfl) (h 2 _ rfl)))).trans rfl))
theorem dk_161 {code : ByteArray} {pc : Nat} (a b : UInt8) (h : DkAt code pc [161, a, b]) : decode code pc = .ok (.if_icmp .lt (Reader.signed 16 (a.toNat * 256 + b.toNat)), 3) := dk_of ((dk_bind (dk_u1 (h 0 _ rfl))).trans ((dk_bind (dk_map (dk_u2 (h 1 _ rfl) (h 2 _ rfl)))).trans rfl))
theorem dk_162 {code : ByteArray} {pc : Nat} (a b : UInt8) (h : DkAt code pc [162, a, b]) : decode code pc = .ok (.if_icmp .ge (Reader.signed 16 (a.toNat * 256 + b.toNat)), 3) := dk_of ((dk_bind (dk_u1 (h 0 _ rfl))).trans ((dk_bind (dk_map (dk_u2 (h 1 _ rfl) (h 2 _ rfl)))).trans rfl))
theorem dk_163 {code : ByteArray} {pc : Nat} (a b : UInt8) (h : DkAt code pc [163, a, b]) : decode code pc = .ok (.if_icmp .gt (Reader.signed 16 (a.toNat * 256 + b.toNat)), 3) := dk_of ((dk_bind (dk_u1 (h 0 _ rfl))).trans ((dk_bind (dk_map (dk_u2 (h 1 _ rfl) (h 2 _ rfl)))).trans rfl))
theorem dk_164 {code : ByteArray} {pc : Nat} (a b : UInt8) (h : DkAt code pc [164, a, b]) : decode code pc = .ok (.if_icmp .le (Reader.signed 16 (a.toNat * 256 + b.toNat)), 3) := dk_of ((dk_bind (dk_u1 (h 0 _ rfl))).trans ((dk_bind (dk_map (dk_u2 (h 1 _ rfl) (h 2 _ rfl)))).trans rfl))
theorem dk_165 {code : ByteArray} {pc : Nat} (a b : UInt8) (h : DkAt code pc [165, a, b]) : decode code pc = .ok (.if_acmp .eq (Reader.signed 16 (a.toNat * 256 + b.toNat)), 3) := dk_of ((dk_bind (dk_u1 (h 0 _ rfl))).trans ((dk_bind (dk_map (dk_u2 (h 1 _ rfl) (h 2 _ rfl)))).trans rfl))
theorem dk_166 {code : ByteArray} {pc : Nat} (a b : UInt8) (h : DkAt code pc [166, a, b]) : decode code pc = .ok (.if_acmp .ne (Reader.signed 16 (a.toNat * 256 + b.toNat)), 3) := dk_of ((dk_bind (dk_u1 (h 0 _ rfl))).trans ((dk_bind (dk_map (dk_u2 (h 1 _ rfl) (h 2 _ rfl)))).trans rfl))
theorem dk_167 {code : ByteArray} {pc : Nat} (a b : UInt8) (h : DkAt code pc [167, a, b]) : decode code pc = .ok (.goto (Reader.signed 16 (a.toNat * 256 + b.toNat)), 3) := dk_of ((dk_bind (dk_u1 (h 0 _ rfl))).trans ((dk_bind (dk_map (dk_u2 (h 1 _ rfl) (h 2 _ rfl)))).trans rfl))
theorem dk_172 {code : ByteArray} {pc : Nat} (h : DkAt code pc [172]) : decode code pc = .ok (.ireturn, 1) := dk_of ((dk_bind (dk_u1 (h 0 _ rfl))).trans rfl)
theorem dk_173 {code : ByteArray} {pc : Nat} (h : DkAt code pc [173]) : decode code pc = .ok (.lreturn, 1) := dk_of ((dk_bind (dk_u1 (h 0 _ rfl))).trans rfl)
theorem dk_176 {code : ByteArray} {pc : Nat} (h : DkAt code pc [176]) : decode code pc = .ok (.areturn, 1) := dk_of ((dk_bind (dk_u1 (h 0 _ rfl))).trans rfl)
theorem dk_177 {code : ByteArray} {pc : Nat} (h : DkAt code pc [177]) : decode code pc = .ok (.return_, 1) := dk_of ((dk_bind (dk_u1 (h 0 _ rfl))).trans rfl)
theorem dk_178 {code : ByteArray} {pc : Nat} (a b : UInt8) (h : DkAt code pc [178, a, b]) : decode code pc = .ok (.getstatic (a.toNat * 256 + b.toNat), 3) := dk_of ((dk_bind (dk_u1 (h 0 _ rfl))).trans ((dk_bind (dk_u2 (h 1 _ rfl) (h 2 _ rfl))).trans rfl))
theorem dk_180 {code : ByteArray} {pc : Nat} (a b : UInt8) (h : DkAt code pc [180, a, b]) : decode code pc = .ok (.getfield (a.toNat * 256 + b.toNat), 3) := dk_of ((dk_bind (dk_u1 (h 0 _ rfl))).trans ((dk_bind (dk_u2 (h 1 _ rfl) (h 2 _ rfl))).trans rfl))
theorem dk_181 {code : ByteArray} {pc : Nat} (a b : UInt8) (h : DkAt code pc [181, a, b]) : decode code pc = .ok (.putfield (a.toNat * 256 + b.toNat), 3) := dk_of ((dk_bind (dk_u1 (h 0 _ rfl))).trans ((dk_bind (dk_u2 (h 1 _ rfl) (h 2 _ rfl))).trans rfl))
theorem dk_182 {code : ByteArray} {pc : Nat} (a b : UInt8) (h : DkAt code pc [182, a, b]) : decode code pc = .ok (.invokevirtual (a.toNat * 256 + b.toNat), 3) := dk_of ((dk_bind (dk_u1 (h 0 _ rfl))).trans ((dk_bind (dk_u2 (h 1 _ rfl) (h 2 _ rfl))).trans rfl))
theorem dk_183 {code : ByteArray} {pc : Nat} (a b : UInt8) (h : DkAt code pc [183, a, b]) : decode code pc = .ok (.invokespecial (a.toNat * 256 + b.toNat), 3) := dk_of ((dk_bind (dk_u1 (h 0 _ rfl))).trans ((dk_bind (dk_u2 (h 1 _ rfl) (h 2 _ rfl))).trans rfl))
theorem dk_184 {code : ByteArray} {pc : Nat} (a b : UInt8) (h : DkAt code pc [184, a, b]) : decode code pc = .ok (.invokestatic (a.toNat * 256 + b.toNat), 3) := dk_of ((dk_bind (dk_u1 (h 0 _ rfl))).trans ((dk_bind (dk_u2 (h 1 _ rfl) (h 2 _ rfl))).trans rfl))
theorem dk_187 {code : ByteArray} {pc : Nat} (a b : UInt8) (h : DkAt code pc [187, a, b]) : decode code pc = .ok (.new (a.toNat * 256 + b.toNat), 3) := dk_of ((dk_bind (dk_u1 (h 0 _ rfl))).trans ((dk_bind (dk_u2 (h 1 _ rfl) (h 2 _ rfl))).trans rfl))
theorem dk_188_4 {code : ByteArray} {pc : Nat} (h : DkAt code pc [188, 4]) : decode code pc = .ok (.newarray .boolean, 2) := dk_of ((dk_bind (dk_u1 (h 0 _ rfl))).trans ((dk_bind (dk_u1 (h 1 _ rfl))).trans rfl))
theorem dk_188_8 {code : ByteArray} {pc : Nat} (h : DkAt code pc [188, 8]) : decode code pc = .ok (.newarray .byte, 2) := dk_of ((dk_bind (dk_u1 (h 0 _ rfl))).trans ((dk_bind (dk_u1 (h 1 _ rfl))).trans rfl))
theorem dk_188_10 {code : ByteArray} {pc : Nat} (h : DkAt code pc [188, 10]) : decode code pc = .ok (.newarray .int, 2) := dk_of ((dk_bind (dk_u1 (h 0 _ rfl))).trans ((dk_bind (dk_u1 (h 1 _ rfl))).trans rfl))
theorem dk_188_11 {code : ByteArray} {pc : Nat} (h : DkAt code pc [188, 11]) : decode code pc = .ok (.newarray .long, 2) := dk_of ((dk_bind (dk_u1 (h 0 _ rfl))).trans ((dk_bind (dk_u1 (h 1 _ rfl))).trans rfl))
theorem dk_189 {code : ByteArray} {pc : Nat} (a b : UInt8) (h : DkAt code pc [189, a, b]) : decode code pc = .ok (.anewarray (a.toNat * 256 + b.toNat), 3) := dk_of ((dk_bind (dk_u1 (h 0 _ rfl))).trans ((dk_bind (dk_u2 (h 1 _ rfl) (h 2 _ rfl))).trans rfl))
theorem dk_190 {code : ByteArray} {pc : Nat} (h : DkAt code pc [190]) : decode code pc = .ok (.arraylength, 1) := dk_of ((dk_bind (dk_u1 (h 0 _ rfl))).trans rfl)
theorem dk_191 {code : ByteArray} {pc : Nat} (h : DkAt code pc [191]) : decode code pc = .ok (.athrow, 1) := dk_of ((dk_bind (dk_u1 (h 0 _ rfl))).trans rfl)
theorem dk_192 {code : ByteArray} {pc : Nat} (a b : UInt8) (h : DkAt code pc [192, a, b]) : decode code pc = .ok (.checkcast (a.toNat * 256 + b.toNat), 3) := dk_of ((dk_bind (dk_u1 (h 0 _ rfl))).trans ((dk_bind (dk_u2 (h 1 _ rfl) (h 2 _ rfl))).trans rfl))
theorem dk_193 {code : ByteArray} {pc : Nat} (a b : UInt8) (h : DkAt code pc [193, a, b]) : decode code pc = .ok (.instanceof (a.toNat * 256 + b.toNat), 3) := dk_of ((dk_bind (dk_u1 (h 0 _ rfl))).trans ((dk_bind (dk_u2 (h 1 _ rfl) (h 2 _ rfl))).trans rfl))
theorem dk_194 {code : ByteArray} {pc : Nat} (h : DkAt code pc [194]) : decode code pc = .ok (.monitorenter, 1) := dk_of ((dk_bind (dk_u1 (h 0 _ rfl))).trans rfl)
theorem dk_195 {code : ByteArray} {pc : Nat} (h : DkAt code pc [195]) : decode code pc = .ok (.monitorexit, 1) := dk_of ((dk_bind (dk_u1 (h 0 _ rfl))).trans rfl)
theorem dk_198 {code : ByteArray} {pc : Nat} (a b : UInt8) (h : DkAt code pc [198, a, b]) : decode code pc = .ok (.ifnull (Reader.signed 16 (a.toNat * 256 + b.toNat)), 3) := dk_of ((dk_bind (dk_u1 (h 0 _ rfl))).trans ((dk_bind (dk_map (dk_u2 (h 1 _ rfl) (h 2 _ rfl)))).trans rfl))
theorem dk_199 {code : ByteArray} {pc : Nat} (a b : UInt8) (h : DkAt code pc [199, a, b]) : decode code pc = .ok (.ifnonnull (Reader.signed 16 (a.toNat * 256 + b.toNat)), 3) := dk_of ((dk_bind (dk_u1 (h 0 _ rfl))).trans ((dk_bind (dk_map (dk_u2 (h 1 _ rfl) (h 2 _ rfl)))).trans rfl))
