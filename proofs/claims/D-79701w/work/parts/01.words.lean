-- ===== PART A: goes FIRST, ahead of the names: the tables' words, and 'selects' of the private methods out of them =====
/-- a private method of a class that the tables say can be made, by its rows of tables_1 -/
def lw_okq (q : MethodName × Nat) : Prop := (q.1.cls ≠ "java/lang/invoke/MethodHandle" ∧ q.1.cls ≠ "java/lang/invoke/VarHandle") ∧ Cond.instantiable q.1.cls q.2 ∈ tables_1 ∧ Cond.privateMethod q.1 ∈ tables_1 ∧ Cond.instanceMethod q.1 ∈ tables_1
set_option maxRecDepth 100000
theorem lw_t1 {w : Cond} (h : w ∈ tables_1_1) : w ∈ tables_1 := List.mem_append_left _ h
theorem lw_t2 {w : Cond} (h : w ∈ tables_1_2) : w ∈ tables_1 := List.mem_append_right _ (List.mem_append_left _ h)
theorem lw_t3 {w : Cond} (h : w ∈ tables_1_3) : w ∈ tables_1 := List.mem_append_right _ (List.mem_append_right _ (List.mem_append_left _ h))
theorem lw_t4 {w : Cond} (h : w ∈ tables_1_4) : w ∈ tables_1 := List.mem_append_right _ (List.mem_append_right _ (List.mem_append_right _ (List.mem_append_left _ h)))
theorem lw_t5 {w : Cond} (h : w ∈ tables_1_5) : w ∈ tables_1 := List.mem_append_right _ (List.mem_append_right _ (List.mem_append_right _ (List.mem_append_right _ (List.mem_append_left _ h))))
theorem lw_t6 {w : Cond} (h : w ∈ tables_1_6) : w ∈ tables_1 := List.mem_append_right _ (List.mem_append_right _ (List.mem_append_right _ (List.mem_append_right _ (List.mem_append_right _ (List.mem_append_left _ h)))))
theorem lw_t7 {w : Cond} (h : w ∈ tables_1_7) : w ∈ tables_1 := List.mem_append_right _ (List.mem_append_right _ (List.mem_append_right _ (List.mem_append_right _ (List.mem_append_right _ (List.mem_append_right _ (List.mem_append_left _ h))))))
theorem lw_t8 {w : Cond} (h : w ∈ tables_1_8) : w ∈ tables_1 := List.mem_append_right _ (List.mem_append_right _ (List.mem_append_right _ (List.mem_append_right _ (List.mem_append_right _ (List.mem_append_right _ (List.mem_append_right _ (List.mem_append_left _ h)))))))
theorem lw_t9 {w : Cond} (h : w ∈ tables_1_9) : w ∈ tables_1 := List.mem_append_right _ (List.mem_append_right _ (List.mem_append_right _ (List.mem_append_right _ (List.mem_append_right _ (List.mem_append_right _ (List.mem_append_right _ (List.mem_append_right _ (List.mem_append_left _ h))))))))
theorem lw_t10 {w : Cond} (h : w ∈ tables_1_10) : w ∈ tables_1 := List.mem_append_right _ (List.mem_append_right _ (List.mem_append_right _ (List.mem_append_right _ (List.mem_append_right _ (List.mem_append_right _ (List.mem_append_right _ (List.mem_append_right _ (List.mem_append_right _ h))))))))
theorem lw_p0 : lw_okq (⟨"FieldPumps$Station", "off", "()I"⟩, 30) := ⟨⟨by decide +kernel, by decide +kernel⟩, lw_t1 (List.mem_of_getElem? (i := 52) rfl), lw_t1 (List.mem_of_getElem? (i := 145) rfl), lw_t1 (List.mem_of_getElem? (i := 146) rfl)⟩
theorem lw_p1 : lw_okq (⟨"FieldPumps$Station", "isAtSpeed", "(I)Z"⟩, 30) := ⟨⟨by decide +kernel, by decide +kernel⟩, lw_t1 (List.mem_of_getElem? (i := 52) rfl), lw_t1 (List.mem_of_getElem? (i := 149) rfl), lw_t1 (List.mem_of_getElem? (i := 150) rfl)⟩
theorem lw_p2 : lw_okq (⟨"FieldPumps$Station", "isAlone", "()Z"⟩, 30) := ⟨⟨by decide +kernel, by decide +kernel⟩, lw_t1 (List.mem_of_getElem? (i := 52) rfl), lw_t1 (List.mem_of_getElem? (i := 172) rfl), lw_t1 (List.mem_of_getElem? (i := 173) rfl)⟩
theorem lw_p3 : lw_okq (⟨"FieldPumps", "change", "()LFieldPumps$Station;"⟩, 3) := ⟨⟨by decide +kernel, by decide +kernel⟩, lw_t1 (List.mem_of_getElem? (i := 44) rfl), lw_t2 (List.mem_of_getElem? (i := 172) rfl), lw_t2 (List.mem_of_getElem? (i := 173) rfl)⟩
theorem lw_p4 : lw_okq (⟨"java/util/ArrayList", "add", "(Ljava/lang/Object;[Ljava/lang/Object;I)V"⟩, 3) := ⟨⟨by decide +kernel, by decide +kernel⟩, lw_t1 (List.mem_of_getElem? (i := 61) rfl), lw_t3 (List.mem_of_getElem? (i := 94) rfl), lw_t3 (List.mem_of_getElem? (i := 95) rfl)⟩
theorem lw_p5 : lw_okq (⟨"java/util/ArrayList", "grow", "()[Ljava/lang/Object;"⟩, 3) := ⟨⟨by decide +kernel, by decide +kernel⟩, lw_t1 (List.mem_of_getElem? (i := 61) rfl), lw_t3 (List.mem_of_getElem? (i := 98) rfl), lw_t3 (List.mem_of_getElem? (i := 99) rfl)⟩
theorem lw_p6 : lw_okq (⟨"java/util/ArrayList", "grow", "(I)[Ljava/lang/Object;"⟩, 3) := ⟨⟨by decide +kernel, by decide +kernel⟩, lw_t1 (List.mem_of_getElem? (i := 61) rfl), lw_t3 (List.mem_of_getElem? (i := 102) rfl), lw_t3 (List.mem_of_getElem? (i := 103) rfl)⟩
theorem lw_p7 : lw_okq (⟨"java/util/ArrayDeque", "grow", "(I)V"⟩, 3) := ⟨⟨by decide +kernel, by decide +kernel⟩, lw_t2 (List.mem_of_getElem? (i := 88) rfl), lw_t3 (List.mem_of_getElem? (i := 196) rfl), lw_t3 (List.mem_of_getElem? (i := 197) rfl)⟩
theorem lw_p8 : lw_okq (⟨"java/util/ArrayDeque", "newCapacity", "(II)I"⟩, 3) := ⟨⟨by decide +kernel, by decide +kernel⟩, lw_t2 (List.mem_of_getElem? (i := 88) rfl), lw_t3 (List.mem_of_getElem? (i := 201) rfl), lw_t3 (List.mem_of_getElem? (i := 202) rfl)⟩
theorem lw_p9 : lw_okq (⟨"FieldPumps$Station", "tell", "(II)V"⟩, 30) := ⟨⟨by decide +kernel, by decide +kernel⟩, lw_t1 (List.mem_of_getElem? (i := 52) rfl), lw_t4 (List.mem_of_getElem? (i := 41) rfl), lw_t4 (List.mem_of_getElem? (i := 42) rfl)⟩
theorem lw_p10 : lw_okq (⟨"FieldPumps$Station", "flow", "()I"⟩, 30) := ⟨⟨by decide +kernel, by decide +kernel⟩, lw_t1 (List.mem_of_getElem? (i := 52) rfl), lw_t4 (List.mem_of_getElem? (i := 63) rfl), lw_t4 (List.mem_of_getElem? (i := 64) rfl)⟩
theorem lw_p11 : lw_okq (⟨"FieldPumps$Station", "noteNight", "()V"⟩, 30) := ⟨⟨by decide +kernel, by decide +kernel⟩, lw_t1 (List.mem_of_getElem? (i := 52) rfl), lw_t4 (List.mem_of_getElem? (i := 95) rfl), lw_t4 (List.mem_of_getElem? (i := 96) rfl)⟩
theorem lw_p12 : lw_okq (⟨"FieldPumps$Station", "middle", "()I"⟩, 30) := ⟨⟨by decide +kernel, by decide +kernel⟩, lw_t1 (List.mem_of_getElem? (i := 52) rfl), lw_t4 (List.mem_of_getElem? (i := 99) rfl), lw_t4 (List.mem_of_getElem? (i := 100) rfl)⟩
theorem lw_p13 : lw_okq (⟨"FieldPumps$Station$1", "rank", "(LFieldPumps$Pump;)I"⟩, 1) := ⟨⟨by decide +kernel, by decide +kernel⟩, lw_t1 (List.mem_of_getElem? (i := 110) rfl), lw_t4 (List.mem_of_getElem? (i := 162) rfl), lw_t4 (List.mem_of_getElem? (i := 163) rfl)⟩
theorem lw_p14 : lw_okq (⟨"java/util/TreeMap", "put", "(Ljava/lang/Object;Ljava/lang/Object;Z)Ljava/lang/Object;"⟩, 9) := ⟨⟨by decide +kernel, by decide +kernel⟩, lw_t4 (List.mem_of_getElem? (i := 103) rfl), lw_t5 (List.mem_of_getElem? (i := 201) rfl), lw_t5 (List.mem_of_getElem? (i := 202) rfl)⟩
theorem lw_p15 : lw_okq (⟨"java/util/TreeMap", "addEntryToEmptyMap", "(Ljava/lang/Object;Ljava/lang/Object;)V"⟩, 9) := ⟨⟨by decide +kernel, by decide +kernel⟩, lw_t4 (List.mem_of_getElem? (i := 103) rfl), lw_t5 (List.mem_of_getElem? (i := 205) rfl), lw_t5 (List.mem_of_getElem? (i := 206) rfl)⟩
def lw_privs_1 : List (MethodName × Nat) := [(⟨"FieldPumps$Station", "off", "()I"⟩, 30), (⟨"FieldPumps$Station", "isAtSpeed", "(I)Z"⟩, 30), (⟨"FieldPumps$Station", "isAlone", "()Z"⟩, 30), (⟨"FieldPumps", "change", "()LFieldPumps$Station;"⟩, 3), (⟨"java/util/ArrayList", "add", "(Ljava/lang/Object;[Ljava/lang/Object;I)V"⟩, 3), (⟨"java/util/ArrayList", "grow", "()[Ljava/lang/Object;"⟩, 3), (⟨"java/util/ArrayList", "grow", "(I)[Ljava/lang/Object;"⟩, 3), (⟨"java/util/ArrayDeque", "grow", "(I)V"⟩, 3), (⟨"java/util/ArrayDeque", "newCapacity", "(II)I"⟩, 3), (⟨"FieldPumps$Station", "tell", "(II)V"⟩, 30), (⟨"FieldPumps$Station", "flow", "()I"⟩, 30), (⟨"FieldPumps$Station", "noteNight", "()V"⟩, 30), (⟨"FieldPumps$Station", "middle", "()I"⟩, 30), (⟨"FieldPumps$Station$1", "rank", "(LFieldPumps$Pump;)I"⟩, 1), (⟨"java/util/TreeMap", "put", "(Ljava/lang/Object;Ljava/lang/Object;Z)Ljava/lang/Object;"⟩, 9), (⟨"java/util/TreeMap", "addEntryToEmptyMap", "(Ljava/lang/Object;Ljava/lang/Object;)V"⟩, 9)]
theorem lw_r1 : ∀ q ∈ lw_privs_1, lw_okq q := List.forall_mem_cons.mpr ⟨lw_p0, List.forall_mem_cons.mpr ⟨lw_p1, List.forall_mem_cons.mpr ⟨lw_p2, List.forall_mem_cons.mpr ⟨lw_p3, List.forall_mem_cons.mpr ⟨lw_p4, List.forall_mem_cons.mpr ⟨lw_p5, List.forall_mem_cons.mpr ⟨lw_p6, List.forall_mem_cons.mpr ⟨lw_p7, List.forall_mem_cons.mpr ⟨lw_p8, List.forall_mem_cons.mpr ⟨lw_p9, List.forall_mem_cons.mpr ⟨lw_p10, List.forall_mem_cons.mpr ⟨lw_p11, List.forall_mem_cons.mpr ⟨lw_p12, List.forall_mem_cons.mpr ⟨lw_p13, List.forall_mem_cons.mpr ⟨lw_p14, List.forall_mem_cons.mpr ⟨lw_p15, fun _ h => absurd h List.not_mem_nil⟩⟩⟩⟩⟩⟩⟩⟩⟩⟩⟩⟩⟩⟩⟩⟩
theorem lw_p16 : lw_okq (⟨"java/util/TreeMap", "addEntry", "(Ljava/lang/Object;Ljava/lang/Object;Ljava/util/TreeMap$Entry;Z)V"⟩, 9) := ⟨⟨by decide +kernel, by decide +kernel⟩, lw_t4 (List.mem_of_getElem? (i := 103) rfl), lw_t6 (List.mem_of_getElem? (i := 2) rfl), lw_t6 (List.mem_of_getElem? (i := 3) rfl)⟩
theorem lw_p17 : lw_okq (⟨"java/util/TreeMap", "fixAfterInsertion", "(Ljava/util/TreeMap$Entry;)V"⟩, 9) := ⟨⟨by decide +kernel, by decide +kernel⟩, lw_t4 (List.mem_of_getElem? (i := 103) rfl), lw_t6 (List.mem_of_getElem? (i := 6) rfl), lw_t6 (List.mem_of_getElem? (i := 7) rfl)⟩
theorem lw_p18 : lw_okq (⟨"java/util/TreeMap", "rotateLeft", "(Ljava/util/TreeMap$Entry;)V"⟩, 9) := ⟨⟨by decide +kernel, by decide +kernel⟩, lw_t4 (List.mem_of_getElem? (i := 103) rfl), lw_t6 (List.mem_of_getElem? (i := 25) rfl), lw_t6 (List.mem_of_getElem? (i := 26) rfl)⟩
theorem lw_p19 : lw_okq (⟨"java/util/TreeMap", "rotateRight", "(Ljava/util/TreeMap$Entry;)V"⟩, 9) := ⟨⟨by decide +kernel, by decide +kernel⟩, lw_t4 (List.mem_of_getElem? (i := 103) rfl), lw_t6 (List.mem_of_getElem? (i := 29) rfl), lw_t6 (List.mem_of_getElem? (i := 30) rfl)⟩
theorem lw_p20 : lw_okq (⟨"java/util/TreeMap", "deleteEntry", "(Ljava/util/TreeMap$Entry;)V"⟩, 9) := ⟨⟨by decide +kernel, by decide +kernel⟩, lw_t4 (List.mem_of_getElem? (i := 103) rfl), lw_t6 (List.mem_of_getElem? (i := 93) rfl), lw_t6 (List.mem_of_getElem? (i := 94) rfl)⟩
theorem lw_p21 : lw_okq (⟨"java/util/TreeMap", "fixAfterDeletion", "(Ljava/util/TreeMap$Entry;)V"⟩, 9) := ⟨⟨by decide +kernel, by decide +kernel⟩, lw_t4 (List.mem_of_getElem? (i := 103) rfl), lw_t6 (List.mem_of_getElem? (i := 100) rfl), lw_t6 (List.mem_of_getElem? (i := 101) rfl)⟩
theorem lw_p22 : lw_okq (⟨"FieldPumps$Station", "tell", "(I)V"⟩, 30) := ⟨⟨by decide +kernel, by decide +kernel⟩, lw_t1 (List.mem_of_getElem? (i := 52) rfl), lw_t6 (List.mem_of_getElem? (i := 111) rfl), lw_t6 (List.mem_of_getElem? (i := 112) rfl)⟩
theorem lw_p23 : lw_okq (⟨"java/util/ArrayList", "fastRemove", "([Ljava/lang/Object;I)V"⟩, 3) := ⟨⟨by decide +kernel, by decide +kernel⟩, lw_t1 (List.mem_of_getElem? (i := 61) rfl), lw_t6 (List.mem_of_getElem? (i := 119) rfl), lw_t6 (List.mem_of_getElem? (i := 120) rfl)⟩
theorem lw_p24 : lw_okq (⟨"FieldPumps$Station", "trip", "()V"⟩, 30) := ⟨⟨by decide +kernel, by decide +kernel⟩, lw_t1 (List.mem_of_getElem? (i := 52) rfl), lw_t6 (List.mem_of_getElem? (i := 127) rfl), lw_t6 (List.mem_of_getElem? (i := 128) rfl)⟩
theorem lw_p25 : lw_okq (⟨"FieldPumps$Station", "canGoOn", "()Z"⟩, 30) := ⟨⟨by decide +kernel, by decide +kernel⟩, lw_t1 (List.mem_of_getElem? (i := 52) rfl), lw_t6 (List.mem_of_getElem? (i := 131) rfl), lw_t6 (List.mem_of_getElem? (i := 132) rfl)⟩
theorem lw_p26 : lw_okq (⟨"FieldPumps$Station", "goOn", "()V"⟩, 30) := ⟨⟨by decide +kernel, by decide +kernel⟩, lw_t1 (List.mem_of_getElem? (i := 52) rfl), lw_t6 (List.mem_of_getElem? (i := 135) rfl), lw_t6 (List.mem_of_getElem? (i := 136) rfl)⟩
theorem lw_p27 : lw_okq (⟨"FieldPumps$Station", "forget", "()V"⟩, 30) := ⟨⟨by decide +kernel, by decide +kernel⟩, lw_t1 (List.mem_of_getElem? (i := 52) rfl), lw_t6 (List.mem_of_getElem? (i := 142) rfl), lw_t6 (List.mem_of_getElem? (i := 143) rfl)⟩
theorem lw_p28 : lw_okq (⟨"FieldPumps$Station", "control", "()V"⟩, 30) := ⟨⟨by decide +kernel, by decide +kernel⟩, lw_t1 (List.mem_of_getElem? (i := 52) rfl), lw_t6 (List.mem_of_getElem? (i := 146) rfl), lw_t6 (List.mem_of_getElem? (i := 147) rfl)⟩
theorem lw_p29 : lw_okq (⟨"FieldPumps$Station", "regulate", "(LFieldPumps$Pump;)V"⟩, 30) := ⟨⟨by decide +kernel, by decide +kernel⟩, lw_t1 (List.mem_of_getElem? (i := 52) rfl), lw_t6 (List.mem_of_getElem? (i := 150) rfl), lw_t6 (List.mem_of_getElem? (i := 151) rfl)⟩
theorem lw_p30 : lw_okq (⟨"java/util/PriorityQueue", "grow", "(I)V"⟩, 4) := ⟨⟨by decide +kernel, by decide +kernel⟩, lw_t1 (List.mem_of_getElem? (i := 108) rfl), lw_t6 (List.mem_of_getElem? (i := 183) rfl), lw_t6 (List.mem_of_getElem? (i := 184) rfl)⟩
theorem lw_p31 : lw_okq (⟨"java/util/PriorityQueue", "siftUp", "(ILjava/lang/Object;)V"⟩, 4) := ⟨⟨by decide +kernel, by decide +kernel⟩, lw_t1 (List.mem_of_getElem? (i := 108) rfl), lw_t6 (List.mem_of_getElem? (i := 189) rfl), lw_t6 (List.mem_of_getElem? (i := 190) rfl)⟩
def lw_privs_2 : List (MethodName × Nat) := [(⟨"java/util/TreeMap", "addEntry", "(Ljava/lang/Object;Ljava/lang/Object;Ljava/util/TreeMap$Entry;Z)V"⟩, 9), (⟨"java/util/TreeMap", "fixAfterInsertion", "(Ljava/util/TreeMap$Entry;)V"⟩, 9), (⟨"java/util/TreeMap", "rotateLeft", "(Ljava/util/TreeMap$Entry;)V"⟩, 9), (⟨"java/util/TreeMap", "rotateRight", "(Ljava/util/TreeMap$Entry;)V"⟩, 9), (⟨"java/util/TreeMap", "deleteEntry", "(Ljava/util/TreeMap$Entry;)V"⟩, 9), (⟨"java/util/TreeMap", "fixAfterDeletion", "(Ljava/util/TreeMap$Entry;)V"⟩, 9), (⟨"FieldPumps$Station", "tell", "(I)V"⟩, 30), (⟨"java/util/ArrayList", "fastRemove", "([Ljava/lang/Object;I)V"⟩, 3), (⟨"FieldPumps$Station", "trip", "()V"⟩, 30), (⟨"FieldPumps$Station", "canGoOn", "()Z"⟩, 30), (⟨"FieldPumps$Station", "goOn", "()V"⟩, 30), (⟨"FieldPumps$Station", "forget", "()V"⟩, 30), (⟨"FieldPumps$Station", "control", "()V"⟩, 30), (⟨"FieldPumps$Station", "regulate", "(LFieldPumps$Pump;)V"⟩, 30), (⟨"java/util/PriorityQueue", "grow", "(I)V"⟩, 4), (⟨"java/util/PriorityQueue", "siftUp", "(ILjava/lang/Object;)V"⟩, 4)]
theorem lw_r2 : ∀ q ∈ lw_privs_2, lw_okq q := List.forall_mem_cons.mpr ⟨lw_p16, List.forall_mem_cons.mpr ⟨lw_p17, List.forall_mem_cons.mpr ⟨lw_p18, List.forall_mem_cons.mpr ⟨lw_p19, List.forall_mem_cons.mpr ⟨lw_p20, List.forall_mem_cons.mpr ⟨lw_p21, List.forall_mem_cons.mpr ⟨lw_p22, List.forall_mem_cons.mpr ⟨lw_p23, List.forall_mem_cons.mpr ⟨lw_p24, List.forall_mem_cons.mpr ⟨lw_p25, List.forall_mem_cons.mpr ⟨lw_p26, List.forall_mem_cons.mpr ⟨lw_p27, List.forall_mem_cons.mpr ⟨lw_p28, List.forall_mem_cons.mpr ⟨lw_p29, List.forall_mem_cons.mpr ⟨lw_p30, List.forall_mem_cons.mpr ⟨lw_p31, fun _ h => absurd h List.not_mem_nil⟩⟩⟩⟩⟩⟩⟩⟩⟩⟩⟩⟩⟩⟩⟩⟩
theorem lw_p32 : lw_okq (⟨"FieldPumps$Station", "start", "(LFieldPumps$Pump;)V"⟩, 30) := ⟨⟨by decide +kernel, by decide +kernel⟩, lw_t1 (List.mem_of_getElem? (i := 52) rfl), lw_t6 (List.mem_of_getElem? (i := 208) rfl), lw_t6 (List.mem_of_getElem? (i := 209) rfl)⟩
theorem lw_p33 : lw_okq (⟨"FieldPumps$Station", "watch", "()V"⟩, 30) := ⟨⟨by decide +kernel, by decide +kernel⟩, lw_t1 (List.mem_of_getElem? (i := 52) rfl), lw_t6 (List.mem_of_getElem? (i := 220) rfl), lw_t6 (List.mem_of_getElem? (i := 221) rfl)⟩
theorem lw_p34 : lw_okq (⟨"FieldPumps$Station", "stage", "()V"⟩, 30) := ⟨⟨by decide +kernel, by decide +kernel⟩, lw_t1 (List.mem_of_getElem? (i := 52) rfl), lw_t6 (List.mem_of_getElem? (i := 228) rfl), lw_t6 (List.mem_of_getElem? (i := 229) rfl)⟩
theorem lw_p35 : lw_okq (⟨"FieldPumps$Station", "isDue", "(II)Z"⟩, 30) := ⟨⟨by decide +kernel, by decide +kernel⟩, lw_t1 (List.mem_of_getElem? (i := 52) rfl), lw_t6 (List.mem_of_getElem? (i := 232) rfl), lw_t6 (List.mem_of_getElem? (i := 233) rfl)⟩
theorem lw_p36 : lw_okq (⟨"FieldPumps$Station", "mostRun", "()LFieldPumps$Pump;"⟩, 30) := ⟨⟨by decide +kernel, by decide +kernel⟩, lw_t1 (List.mem_of_getElem? (i := 52) rfl), lw_t6 (List.mem_of_getElem? (i := 236) rfl), lw_t6 (List.mem_of_getElem? (i := 237) rfl)⟩
theorem lw_p37 : lw_okq (⟨"FieldPumps$Station", "rotate", "()V"⟩, 30) := ⟨⟨by decide +kernel, by decide +kernel⟩, lw_t1 (List.mem_of_getElem? (i := 52) rfl), lw_t7 (List.mem_of_getElem? (i := 0) rfl), lw_t7 (List.mem_of_getElem? (i := 1) rfl)⟩
theorem lw_p38 : lw_okq (⟨"FieldPumps$Station", "fresh", "(LFieldPumps$Pump;)LFieldPumps$Pump;"⟩, 30) := ⟨⟨by decide +kernel, by decide +kernel⟩, lw_t1 (List.mem_of_getElem? (i := 52) rfl), lw_t7 (List.mem_of_getElem? (i := 4) rfl), lw_t7 (List.mem_of_getElem? (i := 5) rfl)⟩
theorem lw_p39 : lw_okq (⟨"FieldPumps", "programmesOf", "(I)I"⟩, 3) := ⟨⟨by decide +kernel, by decide +kernel⟩, lw_t1 (List.mem_of_getElem? (i := 44) rfl), lw_t7 (List.mem_of_getElem? (i := 126) rfl), lw_t7 (List.mem_of_getElem? (i := 127) rfl)⟩
theorem lw_p40 : lw_okq (⟨"FieldPumps", "leaderNumber", "()I"⟩, 3) := ⟨⟨by decide +kernel, by decide +kernel⟩, lw_t1 (List.mem_of_getElem? (i := 44) rfl), lw_t7 (List.mem_of_getElem? (i := 161) rfl), lw_t7 (List.mem_of_getElem? (i := 162) rfl)⟩
theorem lw_p41 : lw_okq (⟨"FieldPumps", "readyMany", "()I"⟩, 3) := ⟨⟨by decide +kernel, by decide +kernel⟩, lw_t1 (List.mem_of_getElem? (i := 44) rfl), lw_t7 (List.mem_of_getElem? (i := 207) rfl), lw_t7 (List.mem_of_getElem? (i := 208) rfl)⟩
theorem lw_p42 : lw_okq (⟨"FieldPumps$Reader", "why", "()I"⟩, 7) := ⟨⟨by decide +kernel, by decide +kernel⟩, lw_t8 (List.mem_of_getElem? (i := 94) rfl), lw_t8 (List.mem_of_getElem? (i := 133) rfl), lw_t8 (List.mem_of_getElem? (i := 134) rfl)⟩
theorem lw_p43 : lw_okq (⟨"FieldPumps$Reader", "reads", "()Z"⟩, 7) := ⟨⟨by decide +kernel, by decide +kernel⟩, lw_t8 (List.mem_of_getElem? (i := 94) rfl), lw_t8 (List.mem_of_getElem? (i := 205) rfl), lw_t8 (List.mem_of_getElem? (i := 206) rfl)⟩
theorem lw_p44 : lw_okq (⟨"FieldPumps$Reader", "accepts", "(C)Z"⟩, 7) := ⟨⟨by decide +kernel, by decide +kernel⟩, lw_t8 (List.mem_of_getElem? (i := 94) rfl), lw_t8 (List.mem_of_getElem? (i := 212) rfl), lw_t8 (List.mem_of_getElem? (i := 213) rfl)⟩
theorem lw_p45 : lw_okq (⟨"FieldPumps$Reader", "isThere", "(I)Z"⟩, 7) := ⟨⟨by decide +kernel, by decide +kernel⟩, lw_t8 (List.mem_of_getElem? (i := 94) rfl), lw_t8 (List.mem_of_getElem? (i := 216) rfl), lw_t8 (List.mem_of_getElem? (i := 217) rfl)⟩
theorem lw_p46 : lw_okq (⟨"FieldPumpsModel", "save", "()V"⟩, 13) := ⟨⟨by decide +kernel, by decide +kernel⟩, lw_t8 (List.mem_of_getElem? (i := 228) rfl), lw_t9 (List.mem_of_getElem? (i := 60) rfl), lw_t9 (List.mem_of_getElem? (i := 61) rfl)⟩
theorem lw_p47 : lw_okq (⟨"FieldPumpsModel", "setting", "(I)I"⟩, 13) := ⟨⟨by decide +kernel, by decide +kernel⟩, lw_t8 (List.mem_of_getElem? (i := 228) rfl), lw_t9 (List.mem_of_getElem? (i := 64) rfl), lw_t9 (List.mem_of_getElem? (i := 65) rfl)⟩
def lw_privs_3 : List (MethodName × Nat) := [(⟨"FieldPumps$Station", "start", "(LFieldPumps$Pump;)V"⟩, 30), (⟨"FieldPumps$Station", "watch", "()V"⟩, 30), (⟨"FieldPumps$Station", "stage", "()V"⟩, 30), (⟨"FieldPumps$Station", "isDue", "(II)Z"⟩, 30), (⟨"FieldPumps$Station", "mostRun", "()LFieldPumps$Pump;"⟩, 30), (⟨"FieldPumps$Station", "rotate", "()V"⟩, 30), (⟨"FieldPumps$Station", "fresh", "(LFieldPumps$Pump;)LFieldPumps$Pump;"⟩, 30), (⟨"FieldPumps", "programmesOf", "(I)I"⟩, 3), (⟨"FieldPumps", "leaderNumber", "()I"⟩, 3), (⟨"FieldPumps", "readyMany", "()I"⟩, 3), (⟨"FieldPumps$Reader", "why", "()I"⟩, 7), (⟨"FieldPumps$Reader", "reads", "()Z"⟩, 7), (⟨"FieldPumps$Reader", "accepts", "(C)Z"⟩, 7), (⟨"FieldPumps$Reader", "isThere", "(I)Z"⟩, 7), (⟨"FieldPumpsModel", "save", "()V"⟩, 13), (⟨"FieldPumpsModel", "setting", "(I)I"⟩, 13)]
theorem lw_r3 : ∀ q ∈ lw_privs_3, lw_okq q := List.forall_mem_cons.mpr ⟨lw_p32, List.forall_mem_cons.mpr ⟨lw_p33, List.forall_mem_cons.mpr ⟨lw_p34, List.forall_mem_cons.mpr ⟨lw_p35, List.forall_mem_cons.mpr ⟨lw_p36, List.forall_mem_cons.mpr ⟨lw_p37, List.forall_mem_cons.mpr ⟨lw_p38, List.forall_mem_cons.mpr ⟨lw_p39, List.forall_mem_cons.mpr ⟨lw_p40, List.forall_mem_cons.mpr ⟨lw_p41, List.forall_mem_cons.mpr ⟨lw_p42, List.forall_mem_cons.mpr ⟨lw_p43, List.forall_mem_cons.mpr ⟨lw_p44, List.forall_mem_cons.mpr ⟨lw_p45, List.forall_mem_cons.mpr ⟨lw_p46, List.forall_mem_cons.mpr ⟨lw_p47, fun _ h => absurd h List.not_mem_nil⟩⟩⟩⟩⟩⟩⟩⟩⟩⟩⟩⟩⟩⟩⟩⟩
theorem lw_p48 : lw_okq (⟨"FieldPumpsModel", "put", "(III)V"⟩, 13) := ⟨⟨by decide +kernel, by decide +kernel⟩, lw_t8 (List.mem_of_getElem? (i := 228) rfl), lw_t9 (List.mem_of_getElem? (i := 75) rfl), lw_t9 (List.mem_of_getElem? (i := 76) rfl)⟩
theorem lw_p49 : lw_okq (⟨"FieldPumpsModel", "isPump", "(I)Z"⟩, 13) := ⟨⟨by decide +kernel, by decide +kernel⟩, lw_t8 (List.mem_of_getElem? (i := 228) rfl), lw_t9 (List.mem_of_getElem? (i := 83) rfl), lw_t9 (List.mem_of_getElem? (i := 84) rfl)⟩
theorem lw_p50 : lw_okq (⟨"FieldPumpsModel", "of", "(II)I"⟩, 13) := ⟨⟨by decide +kernel, by decide +kernel⟩, lw_t8 (List.mem_of_getElem? (i := 228) rfl), lw_t9 (List.mem_of_getElem? (i := 87) rfl), lw_t9 (List.mem_of_getElem? (i := 88) rfl)⟩
theorem lw_p51 : lw_okq (⟨"FieldPumpsModel", "serves", "(II)I"⟩, 13) := ⟨⟨by decide +kernel, by decide +kernel⟩, lw_t8 (List.mem_of_getElem? (i := 228) rfl), lw_t9 (List.mem_of_getElem? (i := 92) rfl), lw_t9 (List.mem_of_getElem? (i := 93) rfl)⟩
theorem lw_p52 : lw_okq (⟨"FieldPumpsModel", "runs", "(I)Z"⟩, 13) := ⟨⟨by decide +kernel, by decide +kernel⟩, lw_t8 (List.mem_of_getElem? (i := 228) rfl), lw_t9 (List.mem_of_getElem? (i := 96) rfl), lw_t9 (List.mem_of_getElem? (i := 97) rfl)⟩
theorem lw_p53 : lw_okq (⟨"FieldPumpsModel", "stop", "(I)V"⟩, 13) := ⟨⟨by decide +kernel, by decide +kernel⟩, lw_t8 (List.mem_of_getElem? (i := 228) rfl), lw_t9 (List.mem_of_getElem? (i := 100) rfl), lw_t9 (List.mem_of_getElem? (i := 101) rfl)⟩
theorem lw_p54 : lw_okq (⟨"FieldPumpsModel", "nextVariable", "()I"⟩, 13) := ⟨⟨by decide +kernel, by decide +kernel⟩, lw_t8 (List.mem_of_getElem? (i := 228) rfl), lw_t9 (List.mem_of_getElem? (i := 104) rfl), lw_t9 (List.mem_of_getElem? (i := 105) rfl)⟩
theorem lw_p55 : lw_okq (⟨"FieldPumpsModel", "event", "(II)V"⟩, 13) := ⟨⟨by decide +kernel, by decide +kernel⟩, lw_t8 (List.mem_of_getElem? (i := 228) rfl), lw_t9 (List.mem_of_getElem? (i := 108) rfl), lw_t9 (List.mem_of_getElem? (i := 109) rfl)⟩
theorem lw_p56 : lw_okq (⟨"FieldPumpsModel", "flow", "(III)I"⟩, 13) := ⟨⟨by decide +kernel, by decide +kernel⟩, lw_t8 (List.mem_of_getElem? (i := 228) rfl), lw_t9 (List.mem_of_getElem? (i := 117) rfl), lw_t9 (List.mem_of_getElem? (i := 118) rfl)⟩
theorem lw_p57 : lw_okq (⟨"FieldPumpsModel", "ready", "(I)I"⟩, 13) := ⟨⟨by decide +kernel, by decide +kernel⟩, lw_t8 (List.mem_of_getElem? (i := 228) rfl), lw_t9 (List.mem_of_getElem? (i := 133) rfl), lw_t9 (List.mem_of_getElem? (i := 134) rfl)⟩
theorem lw_p58 : lw_okq (⟨"FieldPumpsModel", "isReady", "(I)Z"⟩, 13) := ⟨⟨by decide +kernel, by decide +kernel⟩, lw_t8 (List.mem_of_getElem? (i := 228) rfl), lw_t9 (List.mem_of_getElem? (i := 137) rfl), lw_t9 (List.mem_of_getElem? (i := 138) rfl)⟩
theorem lw_p59 : lw_okq (⟨"FieldPumpsModel", "isAhead", "(II)Z"⟩, 13) := ⟨⟨by decide +kernel, by decide +kernel⟩, lw_t8 (List.mem_of_getElem? (i := 228) rfl), lw_t9 (List.mem_of_getElem? (i := 141) rfl), lw_t9 (List.mem_of_getElem? (i := 142) rfl)⟩
theorem lw_p60 : lw_okq (⟨"FieldPumpsModel", "running", "()I"⟩, 13) := ⟨⟨by decide +kernel, by decide +kernel⟩, lw_t8 (List.mem_of_getElem? (i := 228) rfl), lw_t9 (List.mem_of_getElem? (i := 145) rfl), lw_t9 (List.mem_of_getElem? (i := 146) rfl)⟩
theorem lw_p61 : lw_okq (⟨"FieldPumpsModel", "isZone", "(I)Z"⟩, 13) := ⟨⟨by decide +kernel, by decide +kernel⟩, lw_t8 (List.mem_of_getElem? (i := 228) rfl), lw_t9 (List.mem_of_getElem? (i := 162) rfl), lw_t9 (List.mem_of_getElem? (i := 163) rfl)⟩
theorem lw_p62 : lw_okq (⟨"FieldPumpsModel", "isOpen", "(I)Z"⟩, 13) := ⟨⟨by decide +kernel, by decide +kernel⟩, lw_t8 (List.mem_of_getElem? (i := 228) rfl), lw_t9 (List.mem_of_getElem? (i := 166) rfl), lw_t9 (List.mem_of_getElem? (i := 167) rfl)⟩
theorem lw_p63 : lw_okq (⟨"FieldPumpsModel", "openZones", "()I"⟩, 13) := ⟨⟨by decide +kernel, by decide +kernel⟩, lw_t8 (List.mem_of_getElem? (i := 228) rfl), lw_t9 (List.mem_of_getElem? (i := 170) rfl), lw_t9 (List.mem_of_getElem? (i := 171) rfl)⟩
def lw_privs_4 : List (MethodName × Nat) := [(⟨"FieldPumpsModel", "put", "(III)V"⟩, 13), (⟨"FieldPumpsModel", "isPump", "(I)Z"⟩, 13), (⟨"FieldPumpsModel", "of", "(II)I"⟩, 13), (⟨"FieldPumpsModel", "serves", "(II)I"⟩, 13), (⟨"FieldPumpsModel", "runs", "(I)Z"⟩, 13), (⟨"FieldPumpsModel", "stop", "(I)V"⟩, 13), (⟨"FieldPumpsModel", "nextVariable", "()I"⟩, 13), (⟨"FieldPumpsModel", "event", "(II)V"⟩, 13), (⟨"FieldPumpsModel", "flow", "(III)I"⟩, 13), (⟨"FieldPumpsModel", "ready", "(I)I"⟩, 13), (⟨"FieldPumpsModel", "isReady", "(I)Z"⟩, 13), (⟨"FieldPumpsModel", "isAhead", "(II)Z"⟩, 13), (⟨"FieldPumpsModel", "running", "()I"⟩, 13), (⟨"FieldPumpsModel", "isZone", "(I)Z"⟩, 13), (⟨"FieldPumpsModel", "isOpen", "(I)Z"⟩, 13), (⟨"FieldPumpsModel", "openZones", "()I"⟩, 13)]
theorem lw_r4 : ∀ q ∈ lw_privs_4, lw_okq q := List.forall_mem_cons.mpr ⟨lw_p48, List.forall_mem_cons.mpr ⟨lw_p49, List.forall_mem_cons.mpr ⟨lw_p50, List.forall_mem_cons.mpr ⟨lw_p51, List.forall_mem_cons.mpr ⟨lw_p52, List.forall_mem_cons.mpr ⟨lw_p53, List.forall_mem_cons.mpr ⟨lw_p54, List.forall_mem_cons.mpr ⟨lw_p55, List.forall_mem_cons.mpr ⟨lw_p56, List.forall_mem_cons.mpr ⟨lw_p57, List.forall_mem_cons.mpr ⟨lw_p58, List.forall_mem_cons.mpr ⟨lw_p59, List.forall_mem_cons.mpr ⟨lw_p60, List.forall_mem_cons.mpr ⟨lw_p61, List.forall_mem_cons.mpr ⟨lw_p62, List.forall_mem_cons.mpr ⟨lw_p63, fun _ h => absurd h List.not_mem_nil⟩⟩⟩⟩⟩⟩⟩⟩⟩⟩⟩⟩⟩⟩⟩⟩
theorem lw_p64 : lw_okq (⟨"FieldPumpsModel", "takes", "(I)I"⟩, 13) := ⟨⟨by decide +kernel, by decide +kernel⟩, lw_t8 (List.mem_of_getElem? (i := 228) rfl), lw_t9 (List.mem_of_getElem? (i := 187) rfl), lw_t9 (List.mem_of_getElem? (i := 188) rfl)⟩
theorem lw_p65 : lw_okq (⟨"FieldPumpsModel", "resets", "()I"⟩, 13) := ⟨⟨by decide +kernel, by decide +kernel⟩, lw_t8 (List.mem_of_getElem? (i := 228) rfl), lw_t9 (List.mem_of_getElem? (i := 200) rfl), lw_t9 (List.mem_of_getElem? (i := 201) rfl)⟩
theorem lw_p66 : lw_okq (⟨"FieldPumpsModel", "passFault", "(I)I"⟩, 13) := ⟨⟨by decide +kernel, by decide +kernel⟩, lw_t8 (List.mem_of_getElem? (i := 228) rfl), lw_t9 (List.mem_of_getElem? (i := 208) rfl), lw_t9 (List.mem_of_getElem? (i := 209) rfl)⟩
theorem lw_p67 : lw_okq (⟨"FieldPumpsModel", "minutes", "(I)V"⟩, 13) := ⟨⟨by decide +kernel, by decide +kernel⟩, lw_t8 (List.mem_of_getElem? (i := 228) rfl), lw_t9 (List.mem_of_getElem? (i := 213) rfl), lw_t9 (List.mem_of_getElem? (i := 214) rfl)⟩
theorem lw_p68 : lw_okq (⟨"FieldPumpsModel", "minute", "()V"⟩, 13) := ⟨⟨by decide +kernel, by decide +kernel⟩, lw_t8 (List.mem_of_getElem? (i := 228) rfl), lw_t9 (List.mem_of_getElem? (i := 217) rfl), lw_t9 (List.mem_of_getElem? (i := 218) rfl)⟩
theorem lw_p69 : lw_okq (⟨"FieldPumpsModel", "programmes", "()V"⟩, 13) := ⟨⟨by decide +kernel, by decide +kernel⟩, lw_t8 (List.mem_of_getElem? (i := 228) rfl), lw_t9 (List.mem_of_getElem? (i := 221) rfl), lw_t9 (List.mem_of_getElem? (i := 222) rfl)⟩
theorem lw_p70 : lw_okq (⟨"FieldPumpsModel", "minuteOfDay", "()I"⟩, 13) := ⟨⟨by decide +kernel, by decide +kernel⟩, lw_t8 (List.mem_of_getElem? (i := 228) rfl), lw_t9 (List.mem_of_getElem? (i := 225) rfl), lw_t9 (List.mem_of_getElem? (i := 226) rfl)⟩
theorem lw_p71 : lw_okq (⟨"FieldPumpsModel", "water", "()V"⟩, 13) := ⟨⟨by decide +kernel, by decide +kernel⟩, lw_t8 (List.mem_of_getElem? (i := 228) rfl), lw_t9 (List.mem_of_getElem? (i := 229) rfl), lw_t9 (List.mem_of_getElem? (i := 230) rfl)⟩
theorem lw_p72 : lw_okq (⟨"FieldPumpsModel", "demand", "()I"⟩, 13) := ⟨⟨by decide +kernel, by decide +kernel⟩, lw_t8 (List.mem_of_getElem? (i := 228) rfl), lw_t9 (List.mem_of_getElem? (i := 236) rfl), lw_t9 (List.mem_of_getElem? (i := 237) rfl)⟩
theorem lw_p73 : lw_okq (⟨"FieldPumpsModel", "night", "()V"⟩, 13) := ⟨⟨by decide +kernel, by decide +kernel⟩, lw_t8 (List.mem_of_getElem? (i := 228) rfl), lw_t10 (List.mem_of_getElem? (i := 0) rfl), lw_t10 (List.mem_of_getElem? (i := 1) rfl)⟩
theorem lw_p74 : lw_okq (⟨"FieldPumpsModel", "middleNight", "()I"⟩, 13) := ⟨⟨by decide +kernel, by decide +kernel⟩, lw_t8 (List.mem_of_getElem? (i := 228) rfl), lw_t10 (List.mem_of_getElem? (i := 4) rfl), lw_t10 (List.mem_of_getElem? (i := 5) rfl)⟩
theorem lw_p75 : lw_okq (⟨"FieldPumpsModel", "dryness", "()V"⟩, 13) := ⟨⟨by decide +kernel, by decide +kernel⟩, lw_t8 (List.mem_of_getElem? (i := 228) rfl), lw_t10 (List.mem_of_getElem? (i := 8) rfl), lw_t10 (List.mem_of_getElem? (i := 9) rfl)⟩
theorem lw_p76 : lw_okq (⟨"FieldPumpsModel", "beginAnew", "()V"⟩, 13) := ⟨⟨by decide +kernel, by decide +kernel⟩, lw_t8 (List.mem_of_getElem? (i := 228) rfl), lw_t10 (List.mem_of_getElem? (i := 12) rfl), lw_t10 (List.mem_of_getElem? (i := 13) rfl)⟩
theorem lw_p77 : lw_okq (⟨"FieldPumpsModel", "regulate", "()V"⟩, 13) := ⟨⟨by decide +kernel, by decide +kernel⟩, lw_t8 (List.mem_of_getElem? (i := 228) rfl), lw_t10 (List.mem_of_getElem? (i := 16) rfl), lw_t10 (List.mem_of_getElem? (i := 17) rfl)⟩
theorem lw_p78 : lw_okq (⟨"FieldPumpsModel", "start", "(I)V"⟩, 13) := ⟨⟨by decide +kernel, by decide +kernel⟩, lw_t8 (List.mem_of_getElem? (i := 228) rfl), lw_t10 (List.mem_of_getElem? (i := 20) rfl), lw_t10 (List.mem_of_getElem? (i := 21) rfl)⟩
theorem lw_p79 : lw_okq (⟨"FieldPumpsModel", "begins", "(IIZ)V"⟩, 13) := ⟨⟨by decide +kernel, by decide +kernel⟩, lw_t8 (List.mem_of_getElem? (i := 228) rfl), lw_t10 (List.mem_of_getElem? (i := 24) rfl), lw_t10 (List.mem_of_getElem? (i := 25) rfl)⟩
def lw_privs_5 : List (MethodName × Nat) := [(⟨"FieldPumpsModel", "takes", "(I)I"⟩, 13), (⟨"FieldPumpsModel", "resets", "()I"⟩, 13), (⟨"FieldPumpsModel", "passFault", "(I)I"⟩, 13), (⟨"FieldPumpsModel", "minutes", "(I)V"⟩, 13), (⟨"FieldPumpsModel", "minute", "()V"⟩, 13), (⟨"FieldPumpsModel", "programmes", "()V"⟩, 13), (⟨"FieldPumpsModel", "minuteOfDay", "()I"⟩, 13), (⟨"FieldPumpsModel", "water", "()V"⟩, 13), (⟨"FieldPumpsModel", "demand", "()I"⟩, 13), (⟨"FieldPumpsModel", "night", "()V"⟩, 13), (⟨"FieldPumpsModel", "middleNight", "()I"⟩, 13), (⟨"FieldPumpsModel", "dryness", "()V"⟩, 13), (⟨"FieldPumpsModel", "beginAnew", "()V"⟩, 13), (⟨"FieldPumpsModel", "regulate", "()V"⟩, 13), (⟨"FieldPumpsModel", "start", "(I)V"⟩, 13), (⟨"FieldPumpsModel", "begins", "(IIZ)V"⟩, 13)]
theorem lw_r5 : ∀ q ∈ lw_privs_5, lw_okq q := List.forall_mem_cons.mpr ⟨lw_p64, List.forall_mem_cons.mpr ⟨lw_p65, List.forall_mem_cons.mpr ⟨lw_p66, List.forall_mem_cons.mpr ⟨lw_p67, List.forall_mem_cons.mpr ⟨lw_p68, List.forall_mem_cons.mpr ⟨lw_p69, List.forall_mem_cons.mpr ⟨lw_p70, List.forall_mem_cons.mpr ⟨lw_p71, List.forall_mem_cons.mpr ⟨lw_p72, List.forall_mem_cons.mpr ⟨lw_p73, List.forall_mem_cons.mpr ⟨lw_p74, List.forall_mem_cons.mpr ⟨lw_p75, List.forall_mem_cons.mpr ⟨lw_p76, List.forall_mem_cons.mpr ⟨lw_p77, List.forall_mem_cons.mpr ⟨lw_p78, List.forall_mem_cons.mpr ⟨lw_p79, fun _ h => absurd h List.not_mem_nil⟩⟩⟩⟩⟩⟩⟩⟩⟩⟩⟩⟩⟩⟩⟩⟩
theorem lw_p80 : lw_okq (⟨"FieldPumpsModel", "countAll", "()V"⟩, 13) := ⟨⟨by decide +kernel, by decide +kernel⟩, lw_t8 (List.mem_of_getElem? (i := 228) rfl), lw_t10 (List.mem_of_getElem? (i := 28) rfl), lw_t10 (List.mem_of_getElem? (i := 29) rfl)⟩
theorem lw_p81 : lw_okq (⟨"FieldPumpsModel", "speedOfVariable", "()I"⟩, 13) := ⟨⟨by decide +kernel, by decide +kernel⟩, lw_t8 (List.mem_of_getElem? (i := 228) rfl), lw_t10 (List.mem_of_getElem? (i := 32) rfl), lw_t10 (List.mem_of_getElem? (i := 33) rfl)⟩
theorem lw_p82 : lw_okq (⟨"FieldPumpsModel", "counts", "(IZ)V"⟩, 13) := ⟨⟨by decide +kernel, by decide +kernel⟩, lw_t8 (List.mem_of_getElem? (i := 228) rfl), lw_t10 (List.mem_of_getElem? (i := 36) rfl), lw_t10 (List.mem_of_getElem? (i := 37) rfl)⟩
theorem lw_p83 : lw_okq (⟨"FieldPumpsModel", "cascade", "()V"⟩, 13) := ⟨⟨by decide +kernel, by decide +kernel⟩, lw_t8 (List.mem_of_getElem? (i := 228) rfl), lw_t10 (List.mem_of_getElem? (i := 40) rfl), lw_t10 (List.mem_of_getElem? (i := 41) rfl)⟩
theorem lw_p84 : lw_okq (⟨"FieldPumpsModel", "longest", "()I"⟩, 13) := ⟨⟨by decide +kernel, by decide +kernel⟩, lw_t8 (List.mem_of_getElem? (i := 228) rfl), lw_t10 (List.mem_of_getElem? (i := 44) rfl), lw_t10 (List.mem_of_getElem? (i := 45) rfl)⟩
theorem lw_p85 : lw_okq (⟨"FieldPumpsModel", "rotate", "()V"⟩, 13) := ⟨⟨by decide +kernel, by decide +kernel⟩, lw_t8 (List.mem_of_getElem? (i := 228) rfl), lw_t10 (List.mem_of_getElem? (i := 48) rfl), lw_t10 (List.mem_of_getElem? (i := 49) rfl)⟩
theorem lw_p86 : lw_okq (⟨"FieldPumpsModel", "layAside", "()V"⟩, 13) := ⟨⟨by decide +kernel, by decide +kernel⟩, lw_t8 (List.mem_of_getElem? (i := 228) rfl), lw_t10 (List.mem_of_getElem? (i := 57) rfl), lw_t10 (List.mem_of_getElem? (i := 58) rfl)⟩
theorem lw_p87 : lw_okq (⟨"FieldPumpsModel", "takeBack", "()V"⟩, 13) := ⟨⟨by decide +kernel, by decide +kernel⟩, lw_t8 (List.mem_of_getElem? (i := 228) rfl), lw_t10 (List.mem_of_getElem? (i := 61) rfl), lw_t10 (List.mem_of_getElem? (i := 62) rfl)⟩
theorem lw_p88 : lw_okq (⟨"FieldPumpsModel", "readyPumps", "()I"⟩, 13) := ⟨⟨by decide +kernel, by decide +kernel⟩, lw_t8 (List.mem_of_getElem? (i := 228) rfl), lw_t10 (List.mem_of_getElem? (i := 87) rfl), lw_t10 (List.mem_of_getElem? (i := 88) rfl)⟩
theorem lw_p89 : lw_okq (⟨"FieldPumpsModel", "tryOrders", "()V"⟩, 13) := ⟨⟨by decide +kernel, by decide +kernel⟩, lw_t8 (List.mem_of_getElem? (i := 228) rfl), lw_t10 (List.mem_of_getElem? (i := 111) rfl), lw_t10 (List.mem_of_getElem? (i := 112) rfl)⟩
theorem lw_p90 : lw_okq (⟨"FieldPumpsModel", "doOrders", "()V"⟩, 13) := ⟨⟨by decide +kernel, by decide +kernel⟩, lw_t8 (List.mem_of_getElem? (i := 228) rfl), lw_t10 (List.mem_of_getElem? (i := 115) rfl), lw_t10 (List.mem_of_getElem? (i := 116) rfl)⟩
theorem lw_p91 : lw_okq (⟨"FieldPumpsModel", "readsOrder", "()Z"⟩, 13) := ⟨⟨by decide +kernel, by decide +kernel⟩, lw_t8 (List.mem_of_getElem? (i := 228) rfl), lw_t10 (List.mem_of_getElem? (i := 119) rfl), lw_t10 (List.mem_of_getElem? (i := 120) rfl)⟩
theorem lw_p92 : lw_okq (⟨"FieldPumpsModel", "here", "()I"⟩, 13) := ⟨⟨by decide +kernel, by decide +kernel⟩, lw_t8 (List.mem_of_getElem? (i := 228) rfl), lw_t10 (List.mem_of_getElem? (i := 123) rfl), lw_t10 (List.mem_of_getElem? (i := 124) rfl)⟩
theorem lw_p93 : lw_okq (⟨"FieldPumpsModel", "reasonOfOrder", "()I"⟩, 13) := ⟨⟨by decide +kernel, by decide +kernel⟩, lw_t8 (List.mem_of_getElem? (i := 228) rfl), lw_t10 (List.mem_of_getElem? (i := 129) rfl), lw_t10 (List.mem_of_getElem? (i := 130) rfl)⟩
theorem lw_p94 : lw_okq (⟨"FieldPumpsModel", "does", "()V"⟩, 13) := ⟨⟨by decide +kernel, by decide +kernel⟩, lw_t8 (List.mem_of_getElem? (i := 228) rfl), lw_t10 (List.mem_of_getElem? (i := 133) rfl), lw_t10 (List.mem_of_getElem? (i := 134) rfl)⟩
def lw_privs_6 : List (MethodName × Nat) := [(⟨"FieldPumpsModel", "countAll", "()V"⟩, 13), (⟨"FieldPumpsModel", "speedOfVariable", "()I"⟩, 13), (⟨"FieldPumpsModel", "counts", "(IZ)V"⟩, 13), (⟨"FieldPumpsModel", "cascade", "()V"⟩, 13), (⟨"FieldPumpsModel", "longest", "()I"⟩, 13), (⟨"FieldPumpsModel", "rotate", "()V"⟩, 13), (⟨"FieldPumpsModel", "layAside", "()V"⟩, 13), (⟨"FieldPumpsModel", "takeBack", "()V"⟩, 13), (⟨"FieldPumpsModel", "readyPumps", "()I"⟩, 13), (⟨"FieldPumpsModel", "tryOrders", "()V"⟩, 13), (⟨"FieldPumpsModel", "doOrders", "()V"⟩, 13), (⟨"FieldPumpsModel", "readsOrder", "()Z"⟩, 13), (⟨"FieldPumpsModel", "here", "()I"⟩, 13), (⟨"FieldPumpsModel", "reasonOfOrder", "()I"⟩, 13), (⟨"FieldPumpsModel", "does", "()V"⟩, 13)]
theorem lw_r6 : ∀ q ∈ lw_privs_6, lw_okq q := List.forall_mem_cons.mpr ⟨lw_p80, List.forall_mem_cons.mpr ⟨lw_p81, List.forall_mem_cons.mpr ⟨lw_p82, List.forall_mem_cons.mpr ⟨lw_p83, List.forall_mem_cons.mpr ⟨lw_p84, List.forall_mem_cons.mpr ⟨lw_p85, List.forall_mem_cons.mpr ⟨lw_p86, List.forall_mem_cons.mpr ⟨lw_p87, List.forall_mem_cons.mpr ⟨lw_p88, List.forall_mem_cons.mpr ⟨lw_p89, List.forall_mem_cons.mpr ⟨lw_p90, List.forall_mem_cons.mpr ⟨lw_p91, List.forall_mem_cons.mpr ⟨lw_p92, List.forall_mem_cons.mpr ⟨lw_p93, List.forall_mem_cons.mpr ⟨lw_p94, fun _ h => absurd h List.not_mem_nil⟩⟩⟩⟩⟩⟩⟩⟩⟩⟩⟩⟩⟩⟩⟩
def lw_privs : List (MethodName × Nat) := lw_privs_1 ++ (lw_privs_2 ++ (lw_privs_3 ++ (lw_privs_4 ++ (lw_privs_5 ++ (lw_privs_6)))))
def lw_tbl : List Cond := k2_sels lw_privs ++ tables_1
theorem lw_privs_ok : ∀ q ∈ lw_privs, lw_okq q := by
  show ∀ q ∈ lw_privs_1 ++ (lw_privs_2 ++ (lw_privs_3 ++ (lw_privs_4 ++ (lw_privs_5 ++ (lw_privs_6))))), lw_okq q
  exact List.forall_mem_append.mpr ⟨lw_r1, List.forall_mem_append.mpr ⟨lw_r2, List.forall_mem_append.mpr ⟨lw_r3, List.forall_mem_append.mpr ⟨lw_r4, List.forall_mem_append.mpr ⟨lw_r5, lw_r6⟩⟩⟩⟩⟩
-- ===== ONE list of words for every method: the tables' words that hold all through a run =====
def lw_all : List Cond := lw_tbl.filter goodWord
/-- a word of the tables by its place: claim/WORDS.tsv -/
theorem lw_w {w : Cond} (i : Nat) (h : lw_tbl[i]? = some w) (g : goodWord w = true) : w ∈ lw_all := List.mem_filter.mpr ⟨List.mem_of_getElem? h, g⟩
theorem lw_all_tbl {w : Cond} (h : w ∈ lw_all) : w ∈ lw_tbl := (List.mem_filter.mp h).1
theorem lw_self : GoodIn lw_all lw_all := fun w h => ⟨h, good_of_word (List.mem_filter.mp h).2⟩
/-- a class's field words, by their places -/
theorem lw_in (ws : List Cond) (ps : List Nat) (hp : ws = ps.filterMap (fun i => lw_tbl[i]?)) (hg : ws.all goodWord = true) : ∀ w ∈ ws, w ∈ lw_all := by
  intro w h
  have h1 := List.all_eq_true.mp hg w h
  rw [hp] at h
  obtain ⟨i, -, hi⟩ := List.mem_filterMap.mp h
  exact lw_w i hi h1
/-- the words of a contract for the method y with code b, L locals, answer r -/
abbrev ws_ (y : MethodName) (b : ByteArray) (L : Nat) (r : Option FieldType) : List Cond := Cond.code y b L r :: lw_all
theorem lw_meth {y : MethodName} {b : ByteArray} {L : Nat} {r : Option FieldType} (h : Cond.code y b L r ∈ lw_all) : GoodIn lw_all (ws_ y b L r) := by
  intro w hw
  rcases List.mem_cons.mp hw with e | e
  · rw [e]
    exact lw_self _ h
  · exact lw_self _ e
theorem lw_app {a c : List Cond} (ha : ∀ w ∈ a, w ∈ lw_all) (hc : GoodIn lw_all c) : GoodIn lw_all (a ++ c) := by
  intro w hw
  rcases List.mem_append.mp hw with e | e
  · exact lw_self w (ha w e)
  · exact hc w e
/-- what a call through an object asks: cwV n hts (lw_V ..) -/
theorem lw_V {own : String} {idx : Nat} {C : String} {y : MethodName} {b : ByteArray} {L : Nat} {r : Option FieldType} (h1 : Cond.methodLink own idx y ∈ lw_all) (h2 : Cond.instanceMethod y ∈ lw_all) (h3 : Cond.selects C y y ∈ lw_all) (h4 : Cond.initialized C ∈ lw_all) (h5 : Cond.code y b L r ∈ lw_all) : GoodIn lw_all (wsV own idx C y (ws_ y b L r)) := by
  refine lw_app ?_ (lw_meth h5)
  intro w hw
  simp only [List.mem_cons, List.not_mem_nil, or_false] at hw
  rcases hw with e | e | e | e
  · rw [e]; exact h1
  · rw [e]; exact h2
  · rw [e]; exact h3
  · rw [e]; exact h4
/-- what a static call asks: va_cwS n hts (lw_S ..) -/
theorem lw_S {own : String} {idx : Nat} {y : MethodName} {b : ByteArray} {L : Nat} {r : Option FieldType} (h1 : Cond.methodLink own idx y ∈ lw_all) (h2 : Cond.static y ∈ lw_all) (h3 : Cond.initialized y.cls ∈ lw_all) (h4 : Cond.code y b L r ∈ lw_all) : GoodIn lw_all (va_wsS own idx y (ws_ y b L r)) := by
  refine lw_app ?_ (lw_meth h4)
  intro w hw
  simp only [List.mem_cons, List.not_mem_nil, or_false] at hw
  rcases hw with e | e | e
  · rw [e]; exact h1
  · rw [e]; exact h2
  · rw [e]; exact h3
/-- the words of a contract for a method WITH HANDLERS (hh: its table) -/
abbrev wsW_ (y : MethodName) (b : ByteArray) (L : Nat) (r : Option FieldType) (hh : List (Nat × Nat × Nat × Nat)) : List Cond := Cond.codeWith y b L r hh :: lw_all
theorem lw_methW {y : MethodName} {b : ByteArray} {L : Nat} {r : Option FieldType} {hh : List (Nat × Nat × Nat × Nat)} (h : Cond.codeWith y b L r hh ∈ lw_all) : GoodIn lw_all (wsW_ y b L r hh) := by
  intro w hw
  rcases List.mem_cons.mp hw with e | e
  · rw [e]
    exact lw_self _ h
  · exact lw_self _ e
/-- any list of words by their places (lw_in), good -/
theorem lw_good {ws : List Cond} (h : ∀ w ∈ ws, w ∈ lw_all) : GoodIn lw_all ws := fun w hw => lw_self w (h w hw)
/-- what a call of a method with handlers asks: vx_cwVW n hts (lw_VW ..), vx_cwSW n hts (lw_SW ..) -/
theorem lw_VW {own : String} {idx : Nat} {C : String} {y : MethodName} {b : ByteArray} {L : Nat} {r : Option FieldType} {hh : List (Nat × Nat × Nat × Nat)} (h1 : Cond.methodLink own idx y ∈ lw_all) (h2 : Cond.instanceMethod y ∈ lw_all) (h3 : Cond.selects C y y ∈ lw_all) (h4 : Cond.initialized C ∈ lw_all) (h5 : Cond.codeWith y b L r hh ∈ lw_all) : GoodIn lw_all (wsV own idx C y (wsW_ y b L r hh)) := by
  refine lw_app ?_ (lw_methW h5)
  intro w hw
  simp only [List.mem_cons, List.not_mem_nil, or_false] at hw
  rcases hw with e | e | e | e
  · rw [e]; exact h1
  · rw [e]; exact h2
  · rw [e]; exact h3
  · rw [e]; exact h4
theorem lw_SW {own : String} {idx : Nat} {y : MethodName} {b : ByteArray} {L : Nat} {r : Option FieldType} {hh : List (Nat × Nat × Nat × Nat)} (h1 : Cond.methodLink own idx y ∈ lw_all) (h2 : Cond.static y ∈ lw_all) (h3 : Cond.initialized y.cls ∈ lw_all) (h4 : Cond.codeWith y b L r hh ∈ lw_all) : GoodIn lw_all (va_wsS own idx y (wsW_ y b L r hh)) := by
  refine lw_app ?_ (lw_methW h4)
  intro w hw
  simp only [List.mem_cons, List.not_mem_nil, or_false] at hw
  rcases hw with e | e | e
  · rw [e]; exact h1
  · rw [e]; exact h2
  · rw [e]; exact h3
/-- a word by its place in its run of the tables -/
theorem lw_at {r : List Cond} (hr : ∀ w ∈ r, w ∈ lw_tbl) {w : Cond} (i : Nat) (h : r[i]? = some w) : w ∈ lw_tbl := hr w (List.mem_of_getElem? h)
theorem lw_g {w : Cond} (h : w ∈ lw_tbl) (g : goodWord w = true) : w ∈ lw_all := List.mem_filter.mpr ⟨h, g⟩
theorem lw_ms : ∀ w ∈ k2_sels lw_privs, w ∈ lw_tbl := fun w h => show w ∈ k2_sels lw_privs ++ tables_1 from List.mem_append_left _ h
theorem lw_m1 : ∀ w ∈ tables_1_1, w ∈ lw_tbl := fun w h => show w ∈ k2_sels lw_privs ++ tables_1 from List.mem_append_right (k2_sels lw_privs) (show w ∈ tables_1 from List.mem_append_left _ h)
theorem lw_m2 : ∀ w ∈ tables_1_2, w ∈ lw_tbl := fun w h => show w ∈ k2_sels lw_privs ++ tables_1 from List.mem_append_right (k2_sels lw_privs) (show w ∈ tables_1 from List.mem_append_right _ (List.mem_append_left _ h))
theorem lw_m3 : ∀ w ∈ tables_1_3, w ∈ lw_tbl := fun w h => show w ∈ k2_sels lw_privs ++ tables_1 from List.mem_append_right (k2_sels lw_privs) (show w ∈ tables_1 from List.mem_append_right _ (List.mem_append_right _ (List.mem_append_left _ h)))
theorem lw_m4 : ∀ w ∈ tables_1_4, w ∈ lw_tbl := fun w h => show w ∈ k2_sels lw_privs ++ tables_1 from List.mem_append_right (k2_sels lw_privs) (show w ∈ tables_1 from List.mem_append_right _ (List.mem_append_right _ (List.mem_append_right _ (List.mem_append_left _ h))))
theorem lw_m5 : ∀ w ∈ tables_1_5, w ∈ lw_tbl := fun w h => show w ∈ k2_sels lw_privs ++ tables_1 from List.mem_append_right (k2_sels lw_privs) (show w ∈ tables_1 from List.mem_append_right _ (List.mem_append_right _ (List.mem_append_right _ (List.mem_append_right _ (List.mem_append_left _ h)))))
theorem lw_m6 : ∀ w ∈ tables_1_6, w ∈ lw_tbl := fun w h => show w ∈ k2_sels lw_privs ++ tables_1 from List.mem_append_right (k2_sels lw_privs) (show w ∈ tables_1 from List.mem_append_right _ (List.mem_append_right _ (List.mem_append_right _ (List.mem_append_right _ (List.mem_append_right _ (List.mem_append_left _ h))))))
theorem lw_m7 : ∀ w ∈ tables_1_7, w ∈ lw_tbl := fun w h => show w ∈ k2_sels lw_privs ++ tables_1 from List.mem_append_right (k2_sels lw_privs) (show w ∈ tables_1 from List.mem_append_right _ (List.mem_append_right _ (List.mem_append_right _ (List.mem_append_right _ (List.mem_append_right _ (List.mem_append_right _ (List.mem_append_left _ h)))))))
theorem lw_m8 : ∀ w ∈ tables_1_8, w ∈ lw_tbl := fun w h => show w ∈ k2_sels lw_privs ++ tables_1 from List.mem_append_right (k2_sels lw_privs) (show w ∈ tables_1 from List.mem_append_right _ (List.mem_append_right _ (List.mem_append_right _ (List.mem_append_right _ (List.mem_append_right _ (List.mem_append_right _ (List.mem_append_right _ (List.mem_append_left _ h))))))))
theorem lw_m9 : ∀ w ∈ tables_1_9, w ∈ lw_tbl := fun w h => show w ∈ k2_sels lw_privs ++ tables_1 from List.mem_append_right (k2_sels lw_privs) (show w ∈ tables_1 from List.mem_append_right _ (List.mem_append_right _ (List.mem_append_right _ (List.mem_append_right _ (List.mem_append_right _ (List.mem_append_right _ (List.mem_append_right _ (List.mem_append_right _ (List.mem_append_left _ h)))))))))
theorem lw_m10 : ∀ w ∈ tables_1_10, w ∈ lw_tbl := fun w h => show w ∈ k2_sels lw_privs ++ tables_1 from List.mem_append_right (k2_sels lw_privs) (show w ∈ tables_1 from List.mem_append_right _ (List.mem_append_right _ (List.mem_append_right _ (List.mem_append_right _ (List.mem_append_right _ (List.mem_append_right _ (List.mem_append_right _ (List.mem_append_right _ (List.mem_append_right _ h)))))))))
theorem qs0 : (Cond.selects "FieldPumps$Station" ⟨"FieldPumps$Station", "off", "()I"⟩ ⟨"FieldPumps$Station", "off", "()I"⟩) ∈ lw_all := lw_g (lw_at lw_ms 0 rfl) rfl
theorem qs1 : (Cond.selects "FieldPumps$Station" ⟨"FieldPumps$Station", "isAtSpeed", "(I)Z"⟩ ⟨"FieldPumps$Station", "isAtSpeed", "(I)Z"⟩) ∈ lw_all := lw_g (lw_at lw_ms 1 rfl) rfl
theorem qs2 : (Cond.selects "FieldPumps$Station" ⟨"FieldPumps$Station", "isAlone", "()Z"⟩ ⟨"FieldPumps$Station", "isAlone", "()Z"⟩) ∈ lw_all := lw_g (lw_at lw_ms 2 rfl) rfl
theorem qs3 : (Cond.selects "FieldPumps" ⟨"FieldPumps", "change", "()LFieldPumps$Station;"⟩ ⟨"FieldPumps", "change", "()LFieldPumps$Station;"⟩) ∈ lw_all := lw_g (lw_at lw_ms 3 rfl) rfl
theorem qs4 : (Cond.selects "java/util/ArrayList" ⟨"java/util/ArrayList", "add", "(Ljava/lang/Object;[Ljava/lang/Object;I)V"⟩ ⟨"java/util/ArrayList", "add", "(Ljava/lang/Object;[Ljava/lang/Object;I)V"⟩) ∈ lw_all := lw_g (lw_at lw_ms 4 rfl) rfl
theorem qs5 : (Cond.selects "java/util/ArrayList" ⟨"java/util/ArrayList", "grow", "()[Ljava/lang/Object;"⟩ ⟨"java/util/ArrayList", "grow", "()[Ljava/lang/Object;"⟩) ∈ lw_all := lw_g (lw_at lw_ms 5 rfl) rfl
theorem qs6 : (Cond.selects "java/util/ArrayList" ⟨"java/util/ArrayList", "grow", "(I)[Ljava/lang/Object;"⟩ ⟨"java/util/ArrayList", "grow", "(I)[Ljava/lang/Object;"⟩) ∈ lw_all := lw_g (lw_at lw_ms 6 rfl) rfl
theorem qs7 : (Cond.selects "java/util/ArrayDeque" ⟨"java/util/ArrayDeque", "grow", "(I)V"⟩ ⟨"java/util/ArrayDeque", "grow", "(I)V"⟩) ∈ lw_all := lw_g (lw_at lw_ms 7 rfl) rfl
theorem qs8 : (Cond.selects "java/util/ArrayDeque" ⟨"java/util/ArrayDeque", "newCapacity", "(II)I"⟩ ⟨"java/util/ArrayDeque", "newCapacity", "(II)I"⟩) ∈ lw_all := lw_g (lw_at lw_ms 8 rfl) rfl
theorem qs9 : (Cond.selects "FieldPumps$Station" ⟨"FieldPumps$Station", "tell", "(II)V"⟩ ⟨"FieldPumps$Station", "tell", "(II)V"⟩) ∈ lw_all := lw_g (lw_at lw_ms 9 rfl) rfl
theorem qs10 : (Cond.selects "FieldPumps$Station" ⟨"FieldPumps$Station", "flow", "()I"⟩ ⟨"FieldPumps$Station", "flow", "()I"⟩) ∈ lw_all := lw_g (lw_at lw_ms 10 rfl) rfl
theorem qs11 : (Cond.selects "FieldPumps$Station" ⟨"FieldPumps$Station", "noteNight", "()V"⟩ ⟨"FieldPumps$Station", "noteNight", "()V"⟩) ∈ lw_all := lw_g (lw_at lw_ms 11 rfl) rfl
theorem qs12 : (Cond.selects "FieldPumps$Station" ⟨"FieldPumps$Station", "middle", "()I"⟩ ⟨"FieldPumps$Station", "middle", "()I"⟩) ∈ lw_all := lw_g (lw_at lw_ms 12 rfl) rfl
theorem qs13 : (Cond.selects "FieldPumps$Station$1" ⟨"FieldPumps$Station$1", "rank", "(LFieldPumps$Pump;)I"⟩ ⟨"FieldPumps$Station$1", "rank", "(LFieldPumps$Pump;)I"⟩) ∈ lw_all := lw_g (lw_at lw_ms 13 rfl) rfl
theorem qs14 : (Cond.selects "java/util/TreeMap" ⟨"java/util/TreeMap", "put", "(Ljava/lang/Object;Ljava/lang/Object;Z)Ljava/lang/Object;"⟩ ⟨"java/util/TreeMap", "put", "(Ljava/lang/Object;Ljava/lang/Object;Z)Ljava/lang/Object;"⟩) ∈ lw_all := lw_g (lw_at lw_ms 14 rfl) rfl
theorem qs15 : (Cond.selects "java/util/TreeMap" ⟨"java/util/TreeMap", "addEntryToEmptyMap", "(Ljava/lang/Object;Ljava/lang/Object;)V"⟩ ⟨"java/util/TreeMap", "addEntryToEmptyMap", "(Ljava/lang/Object;Ljava/lang/Object;)V"⟩) ∈ lw_all := lw_g (lw_at lw_ms 15 rfl) rfl
theorem qs16 : (Cond.selects "java/util/TreeMap" ⟨"java/util/TreeMap", "addEntry", "(Ljava/lang/Object;Ljava/lang/Object;Ljava/util/TreeMap$Entry;Z)V"⟩ ⟨"java/util/TreeMap", "addEntry", "(Ljava/lang/Object;Ljava/lang/Object;Ljava/util/TreeMap$Entry;Z)V"⟩) ∈ lw_all := lw_g (lw_at lw_ms 16 rfl) rfl
theorem qs17 : (Cond.selects "java/util/TreeMap" ⟨"java/util/TreeMap", "fixAfterInsertion", "(Ljava/util/TreeMap$Entry;)V"⟩ ⟨"java/util/TreeMap", "fixAfterInsertion", "(Ljava/util/TreeMap$Entry;)V"⟩) ∈ lw_all := lw_g (lw_at lw_ms 17 rfl) rfl
theorem qs18 : (Cond.selects "java/util/TreeMap" ⟨"java/util/TreeMap", "rotateLeft", "(Ljava/util/TreeMap$Entry;)V"⟩ ⟨"java/util/TreeMap", "rotateLeft", "(Ljava/util/TreeMap$Entry;)V"⟩) ∈ lw_all := lw_g (lw_at lw_ms 18 rfl) rfl
theorem qs19 : (Cond.selects "java/util/TreeMap" ⟨"java/util/TreeMap", "rotateRight", "(Ljava/util/TreeMap$Entry;)V"⟩ ⟨"java/util/TreeMap", "rotateRight", "(Ljava/util/TreeMap$Entry;)V"⟩) ∈ lw_all := lw_g (lw_at lw_ms 19 rfl) rfl
theorem qs20 : (Cond.selects "java/util/TreeMap" ⟨"java/util/TreeMap", "deleteEntry", "(Ljava/util/TreeMap$Entry;)V"⟩ ⟨"java/util/TreeMap", "deleteEntry", "(Ljava/util/TreeMap$Entry;)V"⟩) ∈ lw_all := lw_g (lw_at lw_ms 20 rfl) rfl
theorem qs21 : (Cond.selects "java/util/TreeMap" ⟨"java/util/TreeMap", "fixAfterDeletion", "(Ljava/util/TreeMap$Entry;)V"⟩ ⟨"java/util/TreeMap", "fixAfterDeletion", "(Ljava/util/TreeMap$Entry;)V"⟩) ∈ lw_all := lw_g (lw_at lw_ms 21 rfl) rfl
theorem qs22 : (Cond.selects "FieldPumps$Station" ⟨"FieldPumps$Station", "tell", "(I)V"⟩ ⟨"FieldPumps$Station", "tell", "(I)V"⟩) ∈ lw_all := lw_g (lw_at lw_ms 22 rfl) rfl
theorem qs23 : (Cond.selects "java/util/ArrayList" ⟨"java/util/ArrayList", "fastRemove", "([Ljava/lang/Object;I)V"⟩ ⟨"java/util/ArrayList", "fastRemove", "([Ljava/lang/Object;I)V"⟩) ∈ lw_all := lw_g (lw_at lw_ms 23 rfl) rfl
theorem qs24 : (Cond.selects "FieldPumps$Station" ⟨"FieldPumps$Station", "trip", "()V"⟩ ⟨"FieldPumps$Station", "trip", "()V"⟩) ∈ lw_all := lw_g (lw_at lw_ms 24 rfl) rfl
theorem qs25 : (Cond.selects "FieldPumps$Station" ⟨"FieldPumps$Station", "canGoOn", "()Z"⟩ ⟨"FieldPumps$Station", "canGoOn", "()Z"⟩) ∈ lw_all := lw_g (lw_at lw_ms 25 rfl) rfl
theorem qs26 : (Cond.selects "FieldPumps$Station" ⟨"FieldPumps$Station", "goOn", "()V"⟩ ⟨"FieldPumps$Station", "goOn", "()V"⟩) ∈ lw_all := lw_g (lw_at lw_ms 26 rfl) rfl
theorem qs27 : (Cond.selects "FieldPumps$Station" ⟨"FieldPumps$Station", "forget", "()V"⟩ ⟨"FieldPumps$Station", "forget", "()V"⟩) ∈ lw_all := lw_g (lw_at lw_ms 27 rfl) rfl
theorem qs28 : (Cond.selects "FieldPumps$Station" ⟨"FieldPumps$Station", "control", "()V"⟩ ⟨"FieldPumps$Station", "control", "()V"⟩) ∈ lw_all := lw_g (lw_at lw_ms 28 rfl) rfl
theorem qs29 : (Cond.selects "FieldPumps$Station" ⟨"FieldPumps$Station", "regulate", "(LFieldPumps$Pump;)V"⟩ ⟨"FieldPumps$Station", "regulate", "(LFieldPumps$Pump;)V"⟩) ∈ lw_all := lw_g (lw_at lw_ms 29 rfl) rfl
theorem qs30 : (Cond.selects "java/util/PriorityQueue" ⟨"java/util/PriorityQueue", "grow", "(I)V"⟩ ⟨"java/util/PriorityQueue", "grow", "(I)V"⟩) ∈ lw_all := lw_g (lw_at lw_ms 30 rfl) rfl
theorem qs31 : (Cond.selects "java/util/PriorityQueue" ⟨"java/util/PriorityQueue", "siftUp", "(ILjava/lang/Object;)V"⟩ ⟨"java/util/PriorityQueue", "siftUp", "(ILjava/lang/Object;)V"⟩) ∈ lw_all := lw_g (lw_at lw_ms 31 rfl) rfl
theorem qs32 : (Cond.selects "FieldPumps$Station" ⟨"FieldPumps$Station", "start", "(LFieldPumps$Pump;)V"⟩ ⟨"FieldPumps$Station", "start", "(LFieldPumps$Pump;)V"⟩) ∈ lw_all := lw_g (lw_at lw_ms 32 rfl) rfl
theorem qs33 : (Cond.selects "FieldPumps$Station" ⟨"FieldPumps$Station", "watch", "()V"⟩ ⟨"FieldPumps$Station", "watch", "()V"⟩) ∈ lw_all := lw_g (lw_at lw_ms 33 rfl) rfl
theorem qs34 : (Cond.selects "FieldPumps$Station" ⟨"FieldPumps$Station", "stage", "()V"⟩ ⟨"FieldPumps$Station", "stage", "()V"⟩) ∈ lw_all := lw_g (lw_at lw_ms 34 rfl) rfl
theorem qs35 : (Cond.selects "FieldPumps$Station" ⟨"FieldPumps$Station", "isDue", "(II)Z"⟩ ⟨"FieldPumps$Station", "isDue", "(II)Z"⟩) ∈ lw_all := lw_g (lw_at lw_ms 35 rfl) rfl
theorem qs36 : (Cond.selects "FieldPumps$Station" ⟨"FieldPumps$Station", "mostRun", "()LFieldPumps$Pump;"⟩ ⟨"FieldPumps$Station", "mostRun", "()LFieldPumps$Pump;"⟩) ∈ lw_all := lw_g (lw_at lw_ms 36 rfl) rfl
theorem qs37 : (Cond.selects "FieldPumps$Station" ⟨"FieldPumps$Station", "rotate", "()V"⟩ ⟨"FieldPumps$Station", "rotate", "()V"⟩) ∈ lw_all := lw_g (lw_at lw_ms 37 rfl) rfl
theorem qs38 : (Cond.selects "FieldPumps$Station" ⟨"FieldPumps$Station", "fresh", "(LFieldPumps$Pump;)LFieldPumps$Pump;"⟩ ⟨"FieldPumps$Station", "fresh", "(LFieldPumps$Pump;)LFieldPumps$Pump;"⟩) ∈ lw_all := lw_g (lw_at lw_ms 38 rfl) rfl
theorem qs39 : (Cond.selects "FieldPumps" ⟨"FieldPumps", "programmesOf", "(I)I"⟩ ⟨"FieldPumps", "programmesOf", "(I)I"⟩) ∈ lw_all := lw_g (lw_at lw_ms 39 rfl) rfl
theorem qs40 : (Cond.selects "FieldPumps" ⟨"FieldPumps", "leaderNumber", "()I"⟩ ⟨"FieldPumps", "leaderNumber", "()I"⟩) ∈ lw_all := lw_g (lw_at lw_ms 40 rfl) rfl
theorem qs41 : (Cond.selects "FieldPumps" ⟨"FieldPumps", "readyMany", "()I"⟩ ⟨"FieldPumps", "readyMany", "()I"⟩) ∈ lw_all := lw_g (lw_at lw_ms 41 rfl) rfl
theorem qs42 : (Cond.selects "FieldPumps$Reader" ⟨"FieldPumps$Reader", "why", "()I"⟩ ⟨"FieldPumps$Reader", "why", "()I"⟩) ∈ lw_all := lw_g (lw_at lw_ms 42 rfl) rfl
theorem qs43 : (Cond.selects "FieldPumps$Reader" ⟨"FieldPumps$Reader", "reads", "()Z"⟩ ⟨"FieldPumps$Reader", "reads", "()Z"⟩) ∈ lw_all := lw_g (lw_at lw_ms 43 rfl) rfl
theorem qs44 : (Cond.selects "FieldPumps$Reader" ⟨"FieldPumps$Reader", "accepts", "(C)Z"⟩ ⟨"FieldPumps$Reader", "accepts", "(C)Z"⟩) ∈ lw_all := lw_g (lw_at lw_ms 44 rfl) rfl
theorem qs45 : (Cond.selects "FieldPumps$Reader" ⟨"FieldPumps$Reader", "isThere", "(I)Z"⟩ ⟨"FieldPumps$Reader", "isThere", "(I)Z"⟩) ∈ lw_all := lw_g (lw_at lw_ms 45 rfl) rfl
theorem qs46 : (Cond.selects "FieldPumpsModel" ⟨"FieldPumpsModel", "save", "()V"⟩ ⟨"FieldPumpsModel", "save", "()V"⟩) ∈ lw_all := lw_g (lw_at lw_ms 46 rfl) rfl
theorem qs47 : (Cond.selects "FieldPumpsModel" ⟨"FieldPumpsModel", "setting", "(I)I"⟩ ⟨"FieldPumpsModel", "setting", "(I)I"⟩) ∈ lw_all := lw_g (lw_at lw_ms 47 rfl) rfl
theorem qs48 : (Cond.selects "FieldPumpsModel" ⟨"FieldPumpsModel", "put", "(III)V"⟩ ⟨"FieldPumpsModel", "put", "(III)V"⟩) ∈ lw_all := lw_g (lw_at lw_ms 48 rfl) rfl
theorem qs49 : (Cond.selects "FieldPumpsModel" ⟨"FieldPumpsModel", "isPump", "(I)Z"⟩ ⟨"FieldPumpsModel", "isPump", "(I)Z"⟩) ∈ lw_all := lw_g (lw_at lw_ms 49 rfl) rfl
theorem qs50 : (Cond.selects "FieldPumpsModel" ⟨"FieldPumpsModel", "of", "(II)I"⟩ ⟨"FieldPumpsModel", "of", "(II)I"⟩) ∈ lw_all := lw_g (lw_at lw_ms 50 rfl) rfl
theorem qs51 : (Cond.selects "FieldPumpsModel" ⟨"FieldPumpsModel", "serves", "(II)I"⟩ ⟨"FieldPumpsModel", "serves", "(II)I"⟩) ∈ lw_all := lw_g (lw_at lw_ms 51 rfl) rfl
theorem qs52 : (Cond.selects "FieldPumpsModel" ⟨"FieldPumpsModel", "runs", "(I)Z"⟩ ⟨"FieldPumpsModel", "runs", "(I)Z"⟩) ∈ lw_all := lw_g (lw_at lw_ms 52 rfl) rfl
theorem qs53 : (Cond.selects "FieldPumpsModel" ⟨"FieldPumpsModel", "stop", "(I)V"⟩ ⟨"FieldPumpsModel", "stop", "(I)V"⟩) ∈ lw_all := lw_g (lw_at lw_ms 53 rfl) rfl
theorem qs54 : (Cond.selects "FieldPumpsModel" ⟨"FieldPumpsModel", "nextVariable", "()I"⟩ ⟨"FieldPumpsModel", "nextVariable", "()I"⟩) ∈ lw_all := lw_g (lw_at lw_ms 54 rfl) rfl
theorem qs55 : (Cond.selects "FieldPumpsModel" ⟨"FieldPumpsModel", "event", "(II)V"⟩ ⟨"FieldPumpsModel", "event", "(II)V"⟩) ∈ lw_all := lw_g (lw_at lw_ms 55 rfl) rfl
theorem qs56 : (Cond.selects "FieldPumpsModel" ⟨"FieldPumpsModel", "flow", "(III)I"⟩ ⟨"FieldPumpsModel", "flow", "(III)I"⟩) ∈ lw_all := lw_g (lw_at lw_ms 56 rfl) rfl
theorem qs57 : (Cond.selects "FieldPumpsModel" ⟨"FieldPumpsModel", "ready", "(I)I"⟩ ⟨"FieldPumpsModel", "ready", "(I)I"⟩) ∈ lw_all := lw_g (lw_at lw_ms 57 rfl) rfl
theorem qs58 : (Cond.selects "FieldPumpsModel" ⟨"FieldPumpsModel", "isReady", "(I)Z"⟩ ⟨"FieldPumpsModel", "isReady", "(I)Z"⟩) ∈ lw_all := lw_g (lw_at lw_ms 58 rfl) rfl
theorem qs59 : (Cond.selects "FieldPumpsModel" ⟨"FieldPumpsModel", "isAhead", "(II)Z"⟩ ⟨"FieldPumpsModel", "isAhead", "(II)Z"⟩) ∈ lw_all := lw_g (lw_at lw_ms 59 rfl) rfl
theorem qs60 : (Cond.selects "FieldPumpsModel" ⟨"FieldPumpsModel", "running", "()I"⟩ ⟨"FieldPumpsModel", "running", "()I"⟩) ∈ lw_all := lw_g (lw_at lw_ms 60 rfl) rfl
theorem qs61 : (Cond.selects "FieldPumpsModel" ⟨"FieldPumpsModel", "isZone", "(I)Z"⟩ ⟨"FieldPumpsModel", "isZone", "(I)Z"⟩) ∈ lw_all := lw_g (lw_at lw_ms 61 rfl) rfl
theorem qs62 : (Cond.selects "FieldPumpsModel" ⟨"FieldPumpsModel", "isOpen", "(I)Z"⟩ ⟨"FieldPumpsModel", "isOpen", "(I)Z"⟩) ∈ lw_all := lw_g (lw_at lw_ms 62 rfl) rfl
theorem qs63 : (Cond.selects "FieldPumpsModel" ⟨"FieldPumpsModel", "openZones", "()I"⟩ ⟨"FieldPumpsModel", "openZones", "()I"⟩) ∈ lw_all := lw_g (lw_at lw_ms 63 rfl) rfl
theorem qs64 : (Cond.selects "FieldPumpsModel" ⟨"FieldPumpsModel", "takes", "(I)I"⟩ ⟨"FieldPumpsModel", "takes", "(I)I"⟩) ∈ lw_all := lw_g (lw_at lw_ms 64 rfl) rfl
theorem qs65 : (Cond.selects "FieldPumpsModel" ⟨"FieldPumpsModel", "resets", "()I"⟩ ⟨"FieldPumpsModel", "resets", "()I"⟩) ∈ lw_all := lw_g (lw_at lw_ms 65 rfl) rfl
theorem qs66 : (Cond.selects "FieldPumpsModel" ⟨"FieldPumpsModel", "passFault", "(I)I"⟩ ⟨"FieldPumpsModel", "passFault", "(I)I"⟩) ∈ lw_all := lw_g (lw_at lw_ms 66 rfl) rfl
theorem qs67 : (Cond.selects "FieldPumpsModel" ⟨"FieldPumpsModel", "minutes", "(I)V"⟩ ⟨"FieldPumpsModel", "minutes", "(I)V"⟩) ∈ lw_all := lw_g (lw_at lw_ms 67 rfl) rfl
theorem qs68 : (Cond.selects "FieldPumpsModel" ⟨"FieldPumpsModel", "minute", "()V"⟩ ⟨"FieldPumpsModel", "minute", "()V"⟩) ∈ lw_all := lw_g (lw_at lw_ms 68 rfl) rfl
theorem qs69 : (Cond.selects "FieldPumpsModel" ⟨"FieldPumpsModel", "programmes", "()V"⟩ ⟨"FieldPumpsModel", "programmes", "()V"⟩) ∈ lw_all := lw_g (lw_at lw_ms 69 rfl) rfl
theorem qs70 : (Cond.selects "FieldPumpsModel" ⟨"FieldPumpsModel", "minuteOfDay", "()I"⟩ ⟨"FieldPumpsModel", "minuteOfDay", "()I"⟩) ∈ lw_all := lw_g (lw_at lw_ms 70 rfl) rfl
theorem qs71 : (Cond.selects "FieldPumpsModel" ⟨"FieldPumpsModel", "water", "()V"⟩ ⟨"FieldPumpsModel", "water", "()V"⟩) ∈ lw_all := lw_g (lw_at lw_ms 71 rfl) rfl
theorem qs72 : (Cond.selects "FieldPumpsModel" ⟨"FieldPumpsModel", "demand", "()I"⟩ ⟨"FieldPumpsModel", "demand", "()I"⟩) ∈ lw_all := lw_g (lw_at lw_ms 72 rfl) rfl
theorem qs73 : (Cond.selects "FieldPumpsModel" ⟨"FieldPumpsModel", "night", "()V"⟩ ⟨"FieldPumpsModel", "night", "()V"⟩) ∈ lw_all := lw_g (lw_at lw_ms 73 rfl) rfl
theorem qs74 : (Cond.selects "FieldPumpsModel" ⟨"FieldPumpsModel", "middleNight", "()I"⟩ ⟨"FieldPumpsModel", "middleNight", "()I"⟩) ∈ lw_all := lw_g (lw_at lw_ms 74 rfl) rfl
theorem qs75 : (Cond.selects "FieldPumpsModel" ⟨"FieldPumpsModel", "dryness", "()V"⟩ ⟨"FieldPumpsModel", "dryness", "()V"⟩) ∈ lw_all := lw_g (lw_at lw_ms 75 rfl) rfl
theorem qs76 : (Cond.selects "FieldPumpsModel" ⟨"FieldPumpsModel", "beginAnew", "()V"⟩ ⟨"FieldPumpsModel", "beginAnew", "()V"⟩) ∈ lw_all := lw_g (lw_at lw_ms 76 rfl) rfl
theorem qs77 : (Cond.selects "FieldPumpsModel" ⟨"FieldPumpsModel", "regulate", "()V"⟩ ⟨"FieldPumpsModel", "regulate", "()V"⟩) ∈ lw_all := lw_g (lw_at lw_ms 77 rfl) rfl
theorem qs78 : (Cond.selects "FieldPumpsModel" ⟨"FieldPumpsModel", "start", "(I)V"⟩ ⟨"FieldPumpsModel", "start", "(I)V"⟩) ∈ lw_all := lw_g (lw_at lw_ms 78 rfl) rfl
theorem qs79 : (Cond.selects "FieldPumpsModel" ⟨"FieldPumpsModel", "begins", "(IIZ)V"⟩ ⟨"FieldPumpsModel", "begins", "(IIZ)V"⟩) ∈ lw_all := lw_g (lw_at lw_ms 79 rfl) rfl
theorem qs80 : (Cond.selects "FieldPumpsModel" ⟨"FieldPumpsModel", "countAll", "()V"⟩ ⟨"FieldPumpsModel", "countAll", "()V"⟩) ∈ lw_all := lw_g (lw_at lw_ms 80 rfl) rfl
theorem qs81 : (Cond.selects "FieldPumpsModel" ⟨"FieldPumpsModel", "speedOfVariable", "()I"⟩ ⟨"FieldPumpsModel", "speedOfVariable", "()I"⟩) ∈ lw_all := lw_g (lw_at lw_ms 81 rfl) rfl
theorem qs82 : (Cond.selects "FieldPumpsModel" ⟨"FieldPumpsModel", "counts", "(IZ)V"⟩ ⟨"FieldPumpsModel", "counts", "(IZ)V"⟩) ∈ lw_all := lw_g (lw_at lw_ms 82 rfl) rfl
theorem qs83 : (Cond.selects "FieldPumpsModel" ⟨"FieldPumpsModel", "cascade", "()V"⟩ ⟨"FieldPumpsModel", "cascade", "()V"⟩) ∈ lw_all := lw_g (lw_at lw_ms 83 rfl) rfl
theorem qs84 : (Cond.selects "FieldPumpsModel" ⟨"FieldPumpsModel", "longest", "()I"⟩ ⟨"FieldPumpsModel", "longest", "()I"⟩) ∈ lw_all := lw_g (lw_at lw_ms 84 rfl) rfl
theorem qs85 : (Cond.selects "FieldPumpsModel" ⟨"FieldPumpsModel", "rotate", "()V"⟩ ⟨"FieldPumpsModel", "rotate", "()V"⟩) ∈ lw_all := lw_g (lw_at lw_ms 85 rfl) rfl
theorem qs86 : (Cond.selects "FieldPumpsModel" ⟨"FieldPumpsModel", "layAside", "()V"⟩ ⟨"FieldPumpsModel", "layAside", "()V"⟩) ∈ lw_all := lw_g (lw_at lw_ms 86 rfl) rfl
theorem qs87 : (Cond.selects "FieldPumpsModel" ⟨"FieldPumpsModel", "takeBack", "()V"⟩ ⟨"FieldPumpsModel", "takeBack", "()V"⟩) ∈ lw_all := lw_g (lw_at lw_ms 87 rfl) rfl
theorem qs88 : (Cond.selects "FieldPumpsModel" ⟨"FieldPumpsModel", "readyPumps", "()I"⟩ ⟨"FieldPumpsModel", "readyPumps", "()I"⟩) ∈ lw_all := lw_g (lw_at lw_ms 88 rfl) rfl
theorem qs89 : (Cond.selects "FieldPumpsModel" ⟨"FieldPumpsModel", "tryOrders", "()V"⟩ ⟨"FieldPumpsModel", "tryOrders", "()V"⟩) ∈ lw_all := lw_g (lw_at lw_ms 89 rfl) rfl
theorem qs90 : (Cond.selects "FieldPumpsModel" ⟨"FieldPumpsModel", "doOrders", "()V"⟩ ⟨"FieldPumpsModel", "doOrders", "()V"⟩) ∈ lw_all := lw_g (lw_at lw_ms 90 rfl) rfl
theorem qs91 : (Cond.selects "FieldPumpsModel" ⟨"FieldPumpsModel", "readsOrder", "()Z"⟩ ⟨"FieldPumpsModel", "readsOrder", "()Z"⟩) ∈ lw_all := lw_g (lw_at lw_ms 91 rfl) rfl
theorem qs92 : (Cond.selects "FieldPumpsModel" ⟨"FieldPumpsModel", "here", "()I"⟩ ⟨"FieldPumpsModel", "here", "()I"⟩) ∈ lw_all := lw_g (lw_at lw_ms 92 rfl) rfl
theorem qs93 : (Cond.selects "FieldPumpsModel" ⟨"FieldPumpsModel", "reasonOfOrder", "()I"⟩ ⟨"FieldPumpsModel", "reasonOfOrder", "()I"⟩) ∈ lw_all := lw_g (lw_at lw_ms 93 rfl) rfl
theorem qs94 : (Cond.selects "FieldPumpsModel" ⟨"FieldPumpsModel", "does", "()V"⟩ ⟨"FieldPumpsModel", "does", "()V"⟩) ∈ lw_all := lw_g (lw_at lw_ms 94 rfl) rfl
