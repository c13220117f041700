-- ===== PART A: goes FIRST, ahead of the names: the tables' words, and 'selects' of the private methods out of them =====
/-- a private method of a class that the tables say can be made, by its rows of tables_1 -/
def lw_okq (q : MethodName × Nat) : Prop := (q.1.cls ≠ "java/lang/invoke/MethodHandle" ∧ q.1.cls ≠ "java/lang/invoke/VarHandle") ∧ Cond.instantiable q.1.cls q.2 ∈ tables_1 ∧ Cond.privateMethod q.1 ∈ tables_1 ∧ Cond.instanceMethod q.1 ∈ tables_1
set_option maxRecDepth 100000
theorem lw_t1 {w : Cond} (h : w ∈ tables_1_1) : w ∈ tables_1 := List.mem_append_left _ h
theorem lw_t2 {w : Cond} (h : w ∈ tables_1_2) : w ∈ tables_1 := List.mem_append_right _ (List.mem_append_left _ h)
theorem lw_t3 {w : Cond} (h : w ∈ tables_1_3) : w ∈ tables_1 := List.mem_append_right _ (List.mem_append_right _ (List.mem_append_left _ h))
theorem lw_t4 {w : Cond} (h : w ∈ tables_1_4) : w ∈ tables_1 := List.mem_append_right _ (List.mem_append_right _ (List.mem_append_right _ (List.mem_append_left _ h)))
theorem lw_t5 {w : Cond} (h : w ∈ tables_1_5) : w ∈ tables_1 := List.mem_append_right _ (List.mem_append_right _ (List.mem_append_right _ (List.mem_append_right _ (List.mem_append_left _ h))))
theorem lw_t6 {w : Cond} (h : w ∈ tables_1_6) : w ∈ tables_1 := List.mem_append_right _ (List.mem_append_right _ (List.mem_append_right _ (List.mem_append_right _ (List.mem_append_right _ (List.mem_append_left _ h)))))
theorem lw_t7 {w : Cond} (h : w ∈ tables_1_7) : w ∈ tables_1 := List.mem_append_right _ (List.mem_append_right _ (List.mem_append_right _ (List.mem_append_right _ (List.mem_append_right _ (List.mem_append_right _ (List.mem_append_left _ h))))))
theorem lw_t8 {w : Cond} (h : w ∈ tables_1_8) : w ∈ tables_1 := List.mem_append_right _ (List.mem_append_right _ (List.mem_append_right _ (List.mem_append_right _ (List.mem_append_right _ (List.mem_append_right _ (List.mem_append_right _ (List.mem_append_left _ h)))))))
theorem lw_t9 {w : Cond} (h : w ∈ tables_1_9) : w ∈ tables_1 := List.mem_append_right _ (List.mem_append_right _ (List.mem_append_right _ (List.mem_append_right _ (List.mem_append_right _ (List.mem_append_right _ (List.mem_append_right _ (List.mem_append_right _ (List.mem_append_left _ h))))))))
theorem lw_t10 {w : Cond} (h : w ∈ tables_1_10) : w ∈ tables_1 := List.mem_append_right _ (List.mem_append_right _ (List.mem_append_right _ (List.mem_append_right _ (List.mem_append_right _ (List.mem_append_right _ (List.mem_append_right _ (List.mem_append_right _ (List.mem_append_right _ (List.mem_append_left _ h)))))))))
theorem lw_t11 {w : Cond} (h : w ∈ tables_1_11) : w ∈ tables_1 := List.mem_append_right _ (List.mem_append_right _ (List.mem_append_right _ (List.mem_append_right _ (List.mem_append_right _ (List.mem_append_right _ (List.mem_append_right _ (List.mem_append_right _ (List.mem_append_right _ (List.mem_append_right _ (List.mem_append_left _ h))))))))))
theorem lw_t12 {w : Cond} (h : w ∈ tables_1_12) : w ∈ tables_1 := List.mem_append_right _ (List.mem_append_right _ (List.mem_append_right _ (List.mem_append_right _ (List.mem_append_right _ (List.mem_append_right _ (List.mem_append_right _ (List.mem_append_right _ (List.mem_append_right _ (List.mem_append_right _ (List.mem_append_right _ (List.mem_append_left _ h)))))))))))
theorem lw_t13 {w : Cond} (h : w ∈ tables_1_13) : w ∈ tables_1 := List.mem_append_right _ (List.mem_append_right _ (List.mem_append_right _ (List.mem_append_right _ (List.mem_append_right _ (List.mem_append_right _ (List.mem_append_right _ (List.mem_append_right _ (List.mem_append_right _ (List.mem_append_right _ (List.mem_append_right _ (List.mem_append_right _ h)))))))))))
theorem lw_p0 : lw_okq (⟨"java/util/BitSet", "initWords", "(I)V"⟩, 3) := ⟨⟨by decide +kernel, by decide +kernel⟩, lw_t1 (List.mem_of_getElem? (i := 129) rfl), lw_t1 (List.mem_of_getElem? (i := 135) rfl), lw_t1 (List.mem_of_getElem? (i := 136) rfl)⟩
theorem lw_p1 : lw_okq (⟨"java/lang/Throwable", "fillInStackTrace", "(I)Ljava/lang/Throwable;"⟩, 6) := ⟨⟨by decide +kernel, by decide +kernel⟩, lw_t1 (List.mem_of_getElem? (i := 196) rfl), lw_t1 (List.mem_of_getElem? (i := 194) rfl), lw_t1 (List.mem_of_getElem? (i := 195) rfl)⟩
theorem lw_p2 : lw_okq (⟨"java/util/BitSet", "expandTo", "(I)V"⟩, 3) := ⟨⟨by decide +kernel, by decide +kernel⟩, lw_t1 (List.mem_of_getElem? (i := 129) rfl), lw_t3 (List.mem_of_getElem? (i := 3) rfl), lw_t3 (List.mem_of_getElem? (i := 4) rfl)⟩
theorem lw_p3 : lw_okq (⟨"java/util/BitSet", "ensureCapacity", "(I)V"⟩, 3) := ⟨⟨by decide +kernel, by decide +kernel⟩, lw_t1 (List.mem_of_getElem? (i := 129) rfl), lw_t3 (List.mem_of_getElem? (i := 7) rfl), lw_t3 (List.mem_of_getElem? (i := 8) rfl)⟩
theorem lw_p4 : lw_okq (⟨"java/util/BitSet", "checkInvariants", "()V"⟩, 3) := ⟨⟨by decide +kernel, by decide +kernel⟩, lw_t1 (List.mem_of_getElem? (i := 129) rfl), lw_t3 (List.mem_of_getElem? (i := 20) rfl), lw_t3 (List.mem_of_getElem? (i := 21) rfl)⟩
theorem lw_p5 : lw_okq (⟨"java/util/ArrayList", "grow", "(I)[Ljava/lang/Object;"⟩, 3) := ⟨⟨by decide +kernel, by decide +kernel⟩, lw_t1 (List.mem_of_getElem? (i := 75) rfl), lw_t4 (List.mem_of_getElem? (i := 106) rfl), lw_t4 (List.mem_of_getElem? (i := 107) rfl)⟩
theorem lw_p6 : lw_okq (⟨"QuorumLog$Server", "sendTo", "(I)V"⟩, 15) := ⟨⟨by decide +kernel, by decide +kernel⟩, lw_t3 (List.mem_of_getElem? (i := 74) rfl), lw_t4 (List.mem_of_getElem? (i := 208) rfl), lw_t4 (List.mem_of_getElem? (i := 209) rfl)⟩
theorem lw_p7 : lw_okq (⟨"java/util/ArrayList", "add", "(Ljava/lang/Object;[Ljava/lang/Object;I)V"⟩, 3) := ⟨⟨by decide +kernel, by decide +kernel⟩, lw_t1 (List.mem_of_getElem? (i := 75) rfl), lw_t5 (List.mem_of_getElem? (i := 41) rfl), lw_t5 (List.mem_of_getElem? (i := 42) rfl)⟩
theorem lw_p8 : lw_okq (⟨"java/util/ArrayList", "grow", "()[Ljava/lang/Object;"⟩, 3) := ⟨⟨by decide +kernel, by decide +kernel⟩, lw_t1 (List.mem_of_getElem? (i := 75) rfl), lw_t5 (List.mem_of_getElem? (i := 45) rfl), lw_t5 (List.mem_of_getElem? (i := 46) rfl)⟩
theorem lw_p9 : lw_okq (⟨"QuorumLog$Server", "begin", "(LQuorumLog$Role;)V"⟩, 15) := ⟨⟨by decide +kernel, by decide +kernel⟩, lw_t3 (List.mem_of_getElem? (i := 74) rfl), lw_t5 (List.mem_of_getElem? (i := 93) rfl), lw_t5 (List.mem_of_getElem? (i := 94) rfl)⟩
theorem lw_p10 : lw_okq (⟨"QuorumLog$Server", "be", "(LQuorumLog$Role;I)V"⟩, 15) := ⟨⟨by decide +kernel, by decide +kernel⟩, lw_t3 (List.mem_of_getElem? (i := 74) rfl), lw_t5 (List.mem_of_getElem? (i := 97) rfl), lw_t5 (List.mem_of_getElem? (i := 98) rfl)⟩
theorem lw_p11 : lw_okq (⟨"QuorumLog$Server", "isElected", "()Z"⟩, 15) := ⟨⟨by decide +kernel, by decide +kernel⟩, lw_t3 (List.mem_of_getElem? (i := 74) rfl), lw_t5 (List.mem_of_getElem? (i := 102) rfl), lw_t5 (List.mem_of_getElem? (i := 103) rfl)⟩
theorem lw_p12 : lw_okq (⟨"QuorumLog$Server", "lead", "()V"⟩, 15) := ⟨⟨by decide +kernel, by decide +kernel⟩, lw_t3 (List.mem_of_getElem? (i := 74) rfl), lw_t5 (List.mem_of_getElem? (i := 129) rfl), lw_t5 (List.mem_of_getElem? (i := 130) rfl)⟩
theorem lw_p13 : lw_okq (⟨"QuorumLog$Server", "lookCommitted", "()V"⟩, 15) := ⟨⟨by decide +kernel, by decide +kernel⟩, lw_t3 (List.mem_of_getElem? (i := 74) rfl), lw_t5 (List.mem_of_getElem? (i := 157) rfl), lw_t5 (List.mem_of_getElem? (i := 158) rfl)⟩
theorem lw_p14 : lw_okq (⟨"QuorumLog$Server", "isHeldByMost", "(I)Z"⟩, 15) := ⟨⟨by decide +kernel, by decide +kernel⟩, lw_t3 (List.mem_of_getElem? (i := 74) rfl), lw_t5 (List.mem_of_getElem? (i := 166) rfl), lw_t5 (List.mem_of_getElem? (i := 167) rfl)⟩
theorem lw_p15 : lw_okq (⟨"java/util/ArrayList", "fastRemove", "([Ljava/lang/Object;I)V"⟩, 3) := ⟨⟨by decide +kernel, by decide +kernel⟩, lw_t1 (List.mem_of_getElem? (i := 75) rfl), lw_t6 (List.mem_of_getElem? (i := 32) rfl), lw_t6 (List.mem_of_getElem? (i := 33) rfl)⟩
def lw_privs_1 : List (MethodName × Nat) := [(⟨"java/util/BitSet", "initWords", "(I)V"⟩, 3), (⟨"java/lang/Throwable", "fillInStackTrace", "(I)Ljava/lang/Throwable;"⟩, 6), (⟨"java/util/BitSet", "expandTo", "(I)V"⟩, 3), (⟨"java/util/BitSet", "ensureCapacity", "(I)V"⟩, 3), (⟨"java/util/BitSet", "checkInvariants", "()V"⟩, 3), (⟨"java/util/ArrayList", "grow", "(I)[Ljava/lang/Object;"⟩, 3), (⟨"QuorumLog$Server", "sendTo", "(I)V"⟩, 15), (⟨"java/util/ArrayList", "add", "(Ljava/lang/Object;[Ljava/lang/Object;I)V"⟩, 3), (⟨"java/util/ArrayList", "grow", "()[Ljava/lang/Object;"⟩, 3), (⟨"QuorumLog$Server", "begin", "(LQuorumLog$Role;)V"⟩, 15), (⟨"QuorumLog$Server", "be", "(LQuorumLog$Role;I)V"⟩, 15), (⟨"QuorumLog$Server", "isElected", "()Z"⟩, 15), (⟨"QuorumLog$Server", "lead", "()V"⟩, 15), (⟨"QuorumLog$Server", "lookCommitted", "()V"⟩, 15), (⟨"QuorumLog$Server", "isHeldByMost", "(I)Z"⟩, 15), (⟨"java/util/ArrayList", "fastRemove", "([Ljava/lang/Object;I)V"⟩, 3)]
theorem lw_r1 : ∀ q ∈ lw_privs_1, lw_okq q := List.forall_mem_cons.mpr ⟨lw_p0, List.forall_mem_cons.mpr ⟨lw_p1, List.forall_mem_cons.mpr ⟨lw_p2, List.forall_mem_cons.mpr ⟨lw_p3, List.forall_mem_cons.mpr ⟨lw_p4, List.forall_mem_cons.mpr ⟨lw_p5, List.forall_mem_cons.mpr ⟨lw_p6, List.forall_mem_cons.mpr ⟨lw_p7, List.forall_mem_cons.mpr ⟨lw_p8, List.forall_mem_cons.mpr ⟨lw_p9, List.forall_mem_cons.mpr ⟨lw_p10, List.forall_mem_cons.mpr ⟨lw_p11, List.forall_mem_cons.mpr ⟨lw_p12, List.forall_mem_cons.mpr ⟨lw_p13, List.forall_mem_cons.mpr ⟨lw_p14, List.forall_mem_cons.mpr ⟨lw_p15, fun _ h => absurd h List.not_mem_nil⟩⟩⟩⟩⟩⟩⟩⟩⟩⟩⟩⟩⟩⟩⟩⟩
theorem lw_p16 : lw_okq (⟨"QuorumLog$Entries", "lay", "(LQuorumLog$Server;ILQuorumLog$Entry;)V"⟩, 7) := ⟨⟨by decide +kernel, by decide +kernel⟩, lw_t5 (List.mem_of_getElem? (i := 23) rfl), lw_t6 (List.mem_of_getElem? (i := 148) rfl), lw_t6 (List.mem_of_getElem? (i := 149) rfl)⟩
theorem lw_p17 : lw_okq (⟨"QuorumLog", "message", "(I)LQuorumLog$Message;"⟩, 1) := ⟨⟨by decide +kernel, by decide +kernel⟩, lw_t1 (List.mem_of_getElem? (i := 54) rfl), lw_t7 (List.mem_of_getElem? (i := 17) rfl), lw_t7 (List.mem_of_getElem? (i := 18) rfl)⟩
theorem lw_p18 : lw_okq (⟨"QuorumLog", "client", "(I)LQuorumLog$Client;"⟩, 1) := ⟨⟨by decide +kernel, by decide +kernel⟩, lw_t1 (List.mem_of_getElem? (i := 54) rfl), lw_t7 (List.mem_of_getElem? (i := 124) rfl), lw_t7 (List.mem_of_getElem? (i := 125) rfl)⟩
theorem lw_p19 : lw_okq (⟨"QuorumLog", "digestServer", "(JI)J"⟩, 1) := ⟨⟨by decide +kernel, by decide +kernel⟩, lw_t1 (List.mem_of_getElem? (i := 54) rfl), lw_t7 (List.mem_of_getElem? (i := 157) rfl), lw_t7 (List.mem_of_getElem? (i := 158) rfl)⟩
theorem lw_p20 : lw_okq (⟨"QuorumLog", "server", "(I)LQuorumLog$Server;"⟩, 1) := ⟨⟨by decide +kernel, by decide +kernel⟩, lw_t1 (List.mem_of_getElem? (i := 54) rfl), lw_t7 (List.mem_of_getElem? (i := 161) rfl), lw_t7 (List.mem_of_getElem? (i := 162) rfl)⟩
theorem lw_p21 : lw_okq (⟨"QuorumLog", "digestEntry", "(JII)J"⟩, 1) := ⟨⟨by decide +kernel, by decide +kernel⟩, lw_t1 (List.mem_of_getElem? (i := 54) rfl), lw_t7 (List.mem_of_getElem? (i := 207) rfl), lw_t7 (List.mem_of_getElem? (i := 208) rfl)⟩
theorem lw_p22 : lw_okq (⟨"QuorumLog", "entry", "(II)LQuorumLog$Entry;"⟩, 1) := ⟨⟨by decide +kernel, by decide +kernel⟩, lw_t1 (List.mem_of_getElem? (i := 54) rfl), lw_t7 (List.mem_of_getElem? (i := 211) rfl), lw_t7 (List.mem_of_getElem? (i := 212) rfl)⟩
theorem lw_p23 : lw_okq (⟨"QuorumLog", "setLink", "(IIZ)I"⟩, 1) := ⟨⟨by decide +kernel, by decide +kernel⟩, lw_t1 (List.mem_of_getElem? (i := 54) rfl), lw_t8 (List.mem_of_getElem? (i := 87) rfl), lw_t8 (List.mem_of_getElem? (i := 88) rfl)⟩
theorem lw_p24 : lw_okq (⟨"java/util/BitSet", "recalculateWordsInUse", "()V"⟩, 3) := ⟨⟨by decide +kernel, by decide +kernel⟩, lw_t1 (List.mem_of_getElem? (i := 129) rfl), lw_t8 (List.mem_of_getElem? (i := 219) rfl), lw_t8 (List.mem_of_getElem? (i := 220) rfl)⟩
theorem lw_p25 : lw_okq (⟨"QuorumLog", "ask", "(LQuorumLog$Deed;IIII)I"⟩, 1) := ⟨⟨by decide +kernel, by decide +kernel⟩, lw_t1 (List.mem_of_getElem? (i := 54) rfl), lw_t9 (List.mem_of_getElem? (i := 35) rfl), lw_t9 (List.mem_of_getElem? (i := 36) rfl)⟩
theorem lw_p26 : lw_okq (⟨"QuorumLog", "leaderFor", "(II)LQuorumLog$Server;"⟩, 1) := ⟨⟨by decide +kernel, by decide +kernel⟩, lw_t1 (List.mem_of_getElem? (i := 54) rfl), lw_t10 (List.mem_of_getElem? (i := 27) rfl), lw_t10 (List.mem_of_getElem? (i := 28) rfl)⟩
theorem lw_p27 : lw_okq (⟨"QuorumLogModel", "refuse", "(I)I"⟩, 4) := ⟨⟨by decide +kernel, by decide +kernel⟩, lw_t10 (List.mem_of_getElem? (i := 82) rfl), lw_t10 (List.mem_of_getElem? (i := 238) rfl), lw_t10 (List.mem_of_getElem? (i := 239) rfl)⟩
theorem lw_p28 : lw_okq (⟨"QuorumLogModel", "up", "()I"⟩, 4) := ⟨⟨by decide +kernel, by decide +kernel⟩, lw_t10 (List.mem_of_getElem? (i := 82) rfl), lw_t11 (List.mem_of_getElem? (i := 10) rfl), lw_t11 (List.mem_of_getElem? (i := 11) rfl)⟩
theorem lw_p29 : lw_okq (⟨"QuorumLogModel", "link", "(III)I"⟩, 4) := ⟨⟨by decide +kernel, by decide +kernel⟩, lw_t10 (List.mem_of_getElem? (i := 82) rfl), lw_t11 (List.mem_of_getElem? (i := 22) rfl), lw_t11 (List.mem_of_getElem? (i := 23) rfl)⟩
theorem lw_p30 : lw_okq (⟨"QuorumLogModel", "cutLinks", "()I"⟩, 4) := ⟨⟨by decide +kernel, by decide +kernel⟩, lw_t10 (List.mem_of_getElem? (i := 82) rfl), lw_t11 (List.mem_of_getElem? (i := 26) rfl), lw_t11 (List.mem_of_getElem? (i := 27) rfl)⟩
theorem lw_p31 : lw_okq (⟨"QuorumLogModel$State", "takeTurn", "(I)V"⟩, 28) := ⟨⟨by decide +kernel, by decide +kernel⟩, lw_t10 (List.mem_of_getElem? (i := 88) rfl), lw_t11 (List.mem_of_getElem? (i := 45) rfl), lw_t11 (List.mem_of_getElem? (i := 46) rfl)⟩
def lw_privs_2 : List (MethodName × Nat) := [(⟨"QuorumLog$Entries", "lay", "(LQuorumLog$Server;ILQuorumLog$Entry;)V"⟩, 7), (⟨"QuorumLog", "message", "(I)LQuorumLog$Message;"⟩, 1), (⟨"QuorumLog", "client", "(I)LQuorumLog$Client;"⟩, 1), (⟨"QuorumLog", "digestServer", "(JI)J"⟩, 1), (⟨"QuorumLog", "server", "(I)LQuorumLog$Server;"⟩, 1), (⟨"QuorumLog", "digestEntry", "(JII)J"⟩, 1), (⟨"QuorumLog", "entry", "(II)LQuorumLog$Entry;"⟩, 1), (⟨"QuorumLog", "setLink", "(IIZ)I"⟩, 1), (⟨"java/util/BitSet", "recalculateWordsInUse", "()V"⟩, 3), (⟨"QuorumLog", "ask", "(LQuorumLog$Deed;IIII)I"⟩, 1), (⟨"QuorumLog", "leaderFor", "(II)LQuorumLog$Server;"⟩, 1), (⟨"QuorumLogModel", "refuse", "(I)I"⟩, 4), (⟨"QuorumLogModel", "up", "()I"⟩, 4), (⟨"QuorumLogModel", "link", "(III)I"⟩, 4), (⟨"QuorumLogModel", "cutLinks", "()I"⟩, 4), (⟨"QuorumLogModel$State", "takeTurn", "(I)V"⟩, 28)]
theorem lw_r2 : ∀ q ∈ lw_privs_2, lw_okq q := List.forall_mem_cons.mpr ⟨lw_p16, List.forall_mem_cons.mpr ⟨lw_p17, List.forall_mem_cons.mpr ⟨lw_p18, List.forall_mem_cons.mpr ⟨lw_p19, List.forall_mem_cons.mpr ⟨lw_p20, List.forall_mem_cons.mpr ⟨lw_p21, List.forall_mem_cons.mpr ⟨lw_p22, List.forall_mem_cons.mpr ⟨lw_p23, List.forall_mem_cons.mpr ⟨lw_p24, List.forall_mem_cons.mpr ⟨lw_p25, List.forall_mem_cons.mpr ⟨lw_p26, List.forall_mem_cons.mpr ⟨lw_p27, List.forall_mem_cons.mpr ⟨lw_p28, List.forall_mem_cons.mpr ⟨lw_p29, List.forall_mem_cons.mpr ⟨lw_p30, List.forall_mem_cons.mpr ⟨lw_p31, fun _ h => absurd h List.not_mem_nil⟩⟩⟩⟩⟩⟩⟩⟩⟩⟩⟩⟩⟩⟩⟩⟩
theorem lw_p32 : lw_okq (⟨"QuorumLogModel$State", "sendLog", "(II)V"⟩, 28) := ⟨⟨by decide +kernel, by decide +kernel⟩, lw_t10 (List.mem_of_getElem? (i := 88) rfl), lw_t11 (List.mem_of_getElem? (i := 77) rfl), lw_t11 (List.mem_of_getElem? (i := 78) rfl)⟩
theorem lw_p33 : lw_okq (⟨"QuorumLogModel$State", "send", "(IIIIII)I"⟩, 28) := ⟨⟨by decide +kernel, by decide +kernel⟩, lw_t10 (List.mem_of_getElem? (i := 88) rfl), lw_t11 (List.mem_of_getElem? (i := 81) rfl), lw_t11 (List.mem_of_getElem? (i := 82) rfl)⟩
theorem lw_p34 : lw_okq (⟨"QuorumLogModel$State", "stand", "(I)V"⟩, 28) := ⟨⟨by decide +kernel, by decide +kernel⟩, lw_t10 (List.mem_of_getElem? (i := 88) rfl), lw_t11 (List.mem_of_getElem? (i := 106) rfl), lw_t11 (List.mem_of_getElem? (i := 107) rfl)⟩
theorem lw_p35 : lw_okq (⟨"QuorumLogModel$State", "lead", "(I)V"⟩, 28) := ⟨⟨by decide +kernel, by decide +kernel⟩, lw_t10 (List.mem_of_getElem? (i := 88) rfl), lw_t11 (List.mem_of_getElem? (i := 110) rfl), lw_t11 (List.mem_of_getElem? (i := 111) rfl)⟩
theorem lw_p36 : lw_okq (⟨"QuorumLogModel$State", "makeRoom", "(II)V"⟩, 28) := ⟨⟨by decide +kernel, by decide +kernel⟩, lw_t10 (List.mem_of_getElem? (i := 88) rfl), lw_t11 (List.mem_of_getElem? (i := 122) rfl), lw_t11 (List.mem_of_getElem? (i := 123) rfl)⟩
theorem lw_p37 : lw_okq (⟨"QuorumLogModel$State", "apply", "(I)V"⟩, 28) := ⟨⟨by decide +kernel, by decide +kernel⟩, lw_t10 (List.mem_of_getElem? (i := 88) rfl), lw_t11 (List.mem_of_getElem? (i := 130) rfl), lw_t11 (List.mem_of_getElem? (i := 131) rfl)⟩
theorem lw_p38 : lw_okq (⟨"QuorumLogModel$State", "applyRequest", "(III)V"⟩, 28) := ⟨⟨by decide +kernel, by decide +kernel⟩, lw_t10 (List.mem_of_getElem? (i := 88) rfl), lw_t11 (List.mem_of_getElem? (i := 134) rfl), lw_t11 (List.mem_of_getElem? (i := 135) rfl)⟩
theorem lw_p39 : lw_okq (⟨"QuorumLogModel$State", "ask", "(III)V"⟩, 28) := ⟨⟨by decide +kernel, by decide +kernel⟩, lw_t10 (List.mem_of_getElem? (i := 88) rfl), lw_t11 (List.mem_of_getElem? (i := 138) rfl), lw_t11 (List.mem_of_getElem? (i := 139) rfl)⟩
theorem lw_p40 : lw_okq (⟨"QuorumLogModel$State", "arrive", "(IIIII)V"⟩, 28) := ⟨⟨by decide +kernel, by decide +kernel⟩, lw_t10 (List.mem_of_getElem? (i := 88) rfl), lw_t11 (List.mem_of_getElem? (i := 154) rfl), lw_t11 (List.mem_of_getElem? (i := 155) rfl)⟩
theorem lw_p41 : lw_okq (⟨"QuorumLogModel$State", "takeEntries", "(IIIII)V"⟩, 28) := ⟨⟨by decide +kernel, by decide +kernel⟩, lw_t10 (List.mem_of_getElem? (i := 88) rfl), lw_t11 (List.mem_of_getElem? (i := 162) rfl), lw_t11 (List.mem_of_getElem? (i := 163) rfl)⟩
theorem lw_p42 : lw_okq (⟨"QuorumLogModel$State", "isOld", "(III)Z"⟩, 28) := ⟨⟨by decide +kernel, by decide +kernel⟩, lw_t10 (List.mem_of_getElem? (i := 88) rfl), lw_t11 (List.mem_of_getElem? (i := 166) rfl), lw_t11 (List.mem_of_getElem? (i := 167) rfl)⟩
theorem lw_p43 : lw_okq (⟨"QuorumLogModel$State", "aheadOfRun", "(II)I"⟩, 28) := ⟨⟨by decide +kernel, by decide +kernel⟩, lw_t10 (List.mem_of_getElem? (i := 88) rfl), lw_t11 (List.mem_of_getElem? (i := 174) rfl), lw_t11 (List.mem_of_getElem? (i := 175) rfl)⟩
theorem lw_p44 : lw_okq (⟨"QuorumLogModel$State", "takeAnswer", "(IIIII)V"⟩, 28) := ⟨⟨by decide +kernel, by decide +kernel⟩, lw_t10 (List.mem_of_getElem? (i := 88) rfl), lw_t11 (List.mem_of_getElem? (i := 179) rfl), lw_t11 (List.mem_of_getElem? (i := 180) rfl)⟩
theorem lw_p45 : lw_okq (⟨"QuorumLogModel$State", "takeSnapshot", "(IIIII)V"⟩, 28) := ⟨⟨by decide +kernel, by decide +kernel⟩, lw_t10 (List.mem_of_getElem? (i := 88) rfl), lw_t11 (List.mem_of_getElem? (i := 183) rfl), lw_t11 (List.mem_of_getElem? (i := 184) rfl)⟩
theorem lw_p46 : lw_okq (⟨"QuorumLogModel", "isLeader", "(I)Z"⟩, 4) := ⟨⟨by decide +kernel, by decide +kernel⟩, lw_t10 (List.mem_of_getElem? (i := 82) rfl), lw_t11 (List.mem_of_getElem? (i := 204) rfl), lw_t11 (List.mem_of_getElem? (i := 205) rfl)⟩
theorem lw_p47 : lw_okq (⟨"QuorumLogModel", "canChange", "(I)Z"⟩, 4) := ⟨⟨by decide +kernel, by decide +kernel⟩, lw_t10 (List.mem_of_getElem? (i := 82) rfl), lw_t11 (List.mem_of_getElem? (i := 228) rfl), lw_t11 (List.mem_of_getElem? (i := 229) rfl)⟩
def lw_privs_3 : List (MethodName × Nat) := [(⟨"QuorumLogModel$State", "sendLog", "(II)V"⟩, 28), (⟨"QuorumLogModel$State", "send", "(IIIIII)I"⟩, 28), (⟨"QuorumLogModel$State", "stand", "(I)V"⟩, 28), (⟨"QuorumLogModel$State", "lead", "(I)V"⟩, 28), (⟨"QuorumLogModel$State", "makeRoom", "(II)V"⟩, 28), (⟨"QuorumLogModel$State", "apply", "(I)V"⟩, 28), (⟨"QuorumLogModel$State", "applyRequest", "(III)V"⟩, 28), (⟨"QuorumLogModel$State", "ask", "(III)V"⟩, 28), (⟨"QuorumLogModel$State", "arrive", "(IIIII)V"⟩, 28), (⟨"QuorumLogModel$State", "takeEntries", "(IIIII)V"⟩, 28), (⟨"QuorumLogModel$State", "isOld", "(III)Z"⟩, 28), (⟨"QuorumLogModel$State", "aheadOfRun", "(II)I"⟩, 28), (⟨"QuorumLogModel$State", "takeAnswer", "(IIIII)V"⟩, 28), (⟨"QuorumLogModel$State", "takeSnapshot", "(IIIII)V"⟩, 28), (⟨"QuorumLogModel", "isLeader", "(I)Z"⟩, 4), (⟨"QuorumLogModel", "canChange", "(I)Z"⟩, 4)]
theorem lw_r3 : ∀ q ∈ lw_privs_3, lw_okq q := List.forall_mem_cons.mpr ⟨lw_p32, List.forall_mem_cons.mpr ⟨lw_p33, List.forall_mem_cons.mpr ⟨lw_p34, List.forall_mem_cons.mpr ⟨lw_p35, List.forall_mem_cons.mpr ⟨lw_p36, List.forall_mem_cons.mpr ⟨lw_p37, List.forall_mem_cons.mpr ⟨lw_p38, List.forall_mem_cons.mpr ⟨lw_p39, List.forall_mem_cons.mpr ⟨lw_p40, List.forall_mem_cons.mpr ⟨lw_p41, List.forall_mem_cons.mpr ⟨lw_p42, List.forall_mem_cons.mpr ⟨lw_p43, List.forall_mem_cons.mpr ⟨lw_p44, List.forall_mem_cons.mpr ⟨lw_p45, List.forall_mem_cons.mpr ⟨lw_p46, List.forall_mem_cons.mpr ⟨lw_p47, fun _ h => absurd h List.not_mem_nil⟩⟩⟩⟩⟩⟩⟩⟩⟩⟩⟩⟩⟩⟩⟩⟩
theorem lw_p48 : lw_okq (⟨"QuorumLogModel", "change", "(II)I"⟩, 4) := ⟨⟨by decide +kernel, by decide +kernel⟩, lw_t10 (List.mem_of_getElem? (i := 82) rfl), lw_t11 (List.mem_of_getElem? (i := 233) rfl), lw_t11 (List.mem_of_getElem? (i := 234) rfl)⟩
theorem lw_p49 : lw_okq (⟨"QuorumLogModel", "isMessage", "(I)Z"⟩, 4) := ⟨⟨by decide +kernel, by decide +kernel⟩, lw_t10 (List.mem_of_getElem? (i := 82) rfl), lw_t12 (List.mem_of_getElem? (i := 12) rfl), lw_t12 (List.mem_of_getElem? (i := 13) rfl)⟩
theorem lw_p50 : lw_okq (⟨"QuorumLogModel", "ofMessage", "(II)I"⟩, 4) := ⟨⟨by decide +kernel, by decide +kernel⟩, lw_t10 (List.mem_of_getElem? (i := 82) rfl), lw_t12 (List.mem_of_getElem? (i := 31) rfl), lw_t12 (List.mem_of_getElem? (i := 32) rfl)⟩
theorem lw_p51 : lw_okq (⟨"QuorumLogModel", "ask", "(IIIII)I"⟩, 4) := ⟨⟨by decide +kernel, by decide +kernel⟩, lw_t10 (List.mem_of_getElem? (i := 82) rfl), lw_t12 (List.mem_of_getElem? (i := 55) rfl), lw_t12 (List.mem_of_getElem? (i := 56) rfl)⟩
theorem lw_p52 : lw_okq (⟨"QuorumLogModel", "isOpen", "(I)Z"⟩, 4) := ⟨⟨by decide +kernel, by decide +kernel⟩, lw_t10 (List.mem_of_getElem? (i := 82) rfl), lw_t12 (List.mem_of_getElem? (i := 80) rfl), lw_t12 (List.mem_of_getElem? (i := 81) rfl)⟩
theorem lw_p53 : lw_okq (⟨"QuorumLogModel", "of", "(I[I)I"⟩, 4) := ⟨⟨by decide +kernel, by decide +kernel⟩, lw_t10 (List.mem_of_getElem? (i := 82) rfl), lw_t12 (List.mem_of_getElem? (i := 113) rfl), lw_t12 (List.mem_of_getElem? (i := 114) rfl)⟩
theorem lw_p54 : lw_okq (⟨"QuorumLogModel", "ofEntry", "(III)I"⟩, 4) := ⟨⟨by decide +kernel, by decide +kernel⟩, lw_t10 (List.mem_of_getElem? (i := 82) rfl), lw_t12 (List.mem_of_getElem? (i := 172) rfl), lw_t12 (List.mem_of_getElem? (i := 173) rfl)⟩
theorem lw_p55 : lw_okq (⟨"QuorumLogModel", "ofOther", "(II[[I)I"⟩, 4) := ⟨⟨by decide +kernel, by decide +kernel⟩, lw_t10 (List.mem_of_getElem? (i := 82) rfl), lw_t12 (List.mem_of_getElem? (i := 201) rfl), lw_t12 (List.mem_of_getElem? (i := 202) rfl)⟩
theorem lw_p56 : lw_okq (⟨"QuorumLogModel", "leadersNow", "()I"⟩, 4) := ⟨⟨by decide +kernel, by decide +kernel⟩, lw_t10 (List.mem_of_getElem? (i := 82) rfl), lw_t12 (List.mem_of_getElem? (i := 221) rfl), lw_t12 (List.mem_of_getElem? (i := 222) rfl)⟩
theorem lw_p57 : lw_okq (⟨"QuorumLogModel", "roundsTill", "(II)I"⟩, 4) := ⟨⟨by decide +kernel, by decide +kernel⟩, lw_t10 (List.mem_of_getElem? (i := 82) rfl), lw_t13 (List.mem_of_getElem? (i := 29) rfl), lw_t13 (List.mem_of_getElem? (i := 30) rfl)⟩
theorem lw_p58 : lw_okq (⟨"QuorumLogModel", "hasCome", "(II)Z"⟩, 4) := ⟨⟨by decide +kernel, by decide +kernel⟩, lw_t10 (List.mem_of_getElem? (i := 82) rfl), lw_t13 (List.mem_of_getElem? (i := 33) rfl), lw_t13 (List.mem_of_getElem? (i := 34) rfl)⟩
theorem lw_p59 : lw_okq (⟨"QuorumLogModel", "add", "(I)V"⟩, 4) := ⟨⟨by decide +kernel, by decide +kernel⟩, lw_t10 (List.mem_of_getElem? (i := 82) rfl), lw_t13 (List.mem_of_getElem? (i := 75) rfl), lw_t13 (List.mem_of_getElem? (i := 76) rfl)⟩
theorem lw_p60 : lw_okq (⟨"QuorumLogModel", "addServer", "(I)V"⟩, 4) := ⟨⟨by decide +kernel, by decide +kernel⟩, lw_t10 (List.mem_of_getElem? (i := 82) rfl), lw_t13 (List.mem_of_getElem? (i := 81) rfl), lw_t13 (List.mem_of_getElem? (i := 82) rfl)⟩
def lw_privs_4 : List (MethodName × Nat) := [(⟨"QuorumLogModel", "change", "(II)I"⟩, 4), (⟨"QuorumLogModel", "isMessage", "(I)Z"⟩, 4), (⟨"QuorumLogModel", "ofMessage", "(II)I"⟩, 4), (⟨"QuorumLogModel", "ask", "(IIIII)I"⟩, 4), (⟨"QuorumLogModel", "isOpen", "(I)Z"⟩, 4), (⟨"QuorumLogModel", "of", "(I[I)I"⟩, 4), (⟨"QuorumLogModel", "ofEntry", "(III)I"⟩, 4), (⟨"QuorumLogModel", "ofOther", "(II[[I)I"⟩, 4), (⟨"QuorumLogModel", "leadersNow", "()I"⟩, 4), (⟨"QuorumLogModel", "roundsTill", "(II)I"⟩, 4), (⟨"QuorumLogModel", "hasCome", "(II)Z"⟩, 4), (⟨"QuorumLogModel", "add", "(I)V"⟩, 4), (⟨"QuorumLogModel", "addServer", "(I)V"⟩, 4)]
theorem lw_r4 : ∀ q ∈ lw_privs_4, lw_okq q := List.forall_mem_cons.mpr ⟨lw_p48, List.forall_mem_cons.mpr ⟨lw_p49, List.forall_mem_cons.mpr ⟨lw_p50, List.forall_mem_cons.mpr ⟨lw_p51, List.forall_mem_cons.mpr ⟨lw_p52, List.forall_mem_cons.mpr ⟨lw_p53, List.forall_mem_cons.mpr ⟨lw_p54, List.forall_mem_cons.mpr ⟨lw_p55, List.forall_mem_cons.mpr ⟨lw_p56, List.forall_mem_cons.mpr ⟨lw_p57, List.forall_mem_cons.mpr ⟨lw_p58, List.forall_mem_cons.mpr ⟨lw_p59, List.forall_mem_cons.mpr ⟨lw_p60, fun _ h => absurd h List.not_mem_nil⟩⟩⟩⟩⟩⟩⟩⟩⟩⟩⟩⟩⟩
def lw_privs : List (MethodName × Nat) := lw_privs_1 ++ (lw_privs_2 ++ (lw_privs_3 ++ (lw_privs_4)))
def lw_tbl : List Cond := k2_sels lw_privs ++ tables_1
theorem lw_privs_ok : ∀ q ∈ lw_privs, lw_okq q := by
  show ∀ q ∈ lw_privs_1 ++ (lw_privs_2 ++ (lw_privs_3 ++ (lw_privs_4))), lw_okq q
  exact List.forall_mem_append.mpr ⟨lw_r1, List.forall_mem_append.mpr ⟨lw_r2, List.forall_mem_append.mpr ⟨lw_r3, lw_r4⟩⟩⟩
-- ===== ONE list of words for every method: the tables' words that hold all through a run =====
def lw_all : List Cond := lw_tbl.filter goodWord
/-- a word of the tables by its place: claim/WORDS.tsv -/
theorem lw_w {w : Cond} (i : Nat) (h : lw_tbl[i]? = some w) (g : goodWord w = true) : w ∈ lw_all := List.mem_filter.mpr ⟨List.mem_of_getElem? h, g⟩
theorem lw_all_tbl {w : Cond} (h : w ∈ lw_all) : w ∈ lw_tbl := (List.mem_filter.mp h).1
theorem lw_self : GoodIn lw_all lw_all := fun w h => ⟨h, good_of_word (List.mem_filter.mp h).2⟩
/-- a class's field words, by their places -/
theorem lw_in (ws : List Cond) (ps : List Nat) (hp : ws = ps.filterMap (fun i => lw_tbl[i]?)) (hg : ws.all goodWord = true) : ∀ w ∈ ws, w ∈ lw_all := by
  intro w h
  have h1 := List.all_eq_true.mp hg w h
  rw [hp] at h
  obtain ⟨i, -, hi⟩ := List.mem_filterMap.mp h
  exact lw_w i hi h1
/-- the words of a contract for the method y with code b, L locals, answer r -/
abbrev ws_ (y : MethodName) (b : ByteArray) (L : Nat) (r : Option FieldType) : List Cond := Cond.code y b L r :: lw_all
theorem lw_meth {y : MethodName} {b : ByteArray} {L : Nat} {r : Option FieldType} (h : Cond.code y b L r ∈ lw_all) : GoodIn lw_all (ws_ y b L r) := by
  intro w hw
  rcases List.mem_cons.mp hw with e | e
  · rw [e]
    exact lw_self _ h
  · exact lw_self _ e
theorem lw_app {a c : List Cond} (ha : ∀ w ∈ a, w ∈ lw_all) (hc : GoodIn lw_all c) : GoodIn lw_all (a ++ c) := by
  intro w hw
  rcases List.mem_append.mp hw with e | e
  · exact lw_self w (ha w e)
  · exact hc w e
/-- what a call through an object asks: cwV n hts (lw_V ..) -/
theorem lw_V {own : String} {idx : Nat} {C : String} {y : MethodName} {b : ByteArray} {L : Nat} {r : Option FieldType} (h1 : Cond.methodLink own idx y ∈ lw_all) (h2 : Cond.instanceMethod y ∈ lw_all) (h3 : Cond.selects C y y ∈ lw_all) (h4 : Cond.initialized C ∈ lw_all) (h5 : Cond.code y b L r ∈ lw_all) : GoodIn lw_all (wsV own idx C y (ws_ y b L r)) := by
  refine lw_app ?_ (lw_meth h5)
  intro w hw
  simp only [List.mem_cons, List.not_mem_nil, or_false] at hw
  rcases hw with e | e | e | e
  · rw [e]; exact h1
  · rw [e]; exact h2
  · rw [e]; exact h3
  · rw [e]; exact h4
/-- what a static call asks: va_cwS n hts (lw_S ..) -/
theorem lw_S {own : String} {idx : Nat} {y : MethodName} {b : ByteArray} {L : Nat} {r : Option FieldType} (h1 : Cond.methodLink own idx y ∈ lw_all) (h2 : Cond.static y ∈ lw_all) (h3 : Cond.initialized y.cls ∈ lw_all) (h4 : Cond.code y b L r ∈ lw_all) : GoodIn lw_all (va_wsS own idx y (ws_ y b L r)) := by
  refine lw_app ?_ (lw_meth h4)
  intro w hw
  simp only [List.mem_cons, List.not_mem_nil, or_false] at hw
  rcases hw with e | e | e
  · rw [e]; exact h1
  · rw [e]; exact h2
  · rw [e]; exact h3
/-- the words of a contract for a method WITH HANDLERS (hh: its table) -/
abbrev wsW_ (y : MethodName) (b : ByteArray) (L : Nat) (r : Option FieldType) (hh : List (Nat × Nat × Nat × Nat)) : List Cond := Cond.codeWith y b L r hh :: lw_all
theorem lw_methW {y : MethodName} {b : ByteArray} {L : Nat} {r : Option FieldType} {hh : List (Nat × Nat × Nat × Nat)} (h : Cond.codeWith y b L r hh ∈ lw_all) : GoodIn lw_all (wsW_ y b L r hh) := by
  intro w hw
  rcases List.mem_cons.mp hw with e | e
  · rw [e]
    exact lw_self _ h
  · exact lw_self _ e
/-- any list of words by their places (lw_in), good -/
theorem lw_good {ws : List Cond} (h : ∀ w ∈ ws, w ∈ lw_all) : GoodIn lw_all ws := fun w hw => lw_self w (h w hw)
/-- what a call of a method with handlers asks: vx_cwVW n hts (lw_VW ..), vx_cwSW n hts (lw_SW ..) -/
theorem lw_VW {own : String} {idx : Nat} {C : String} {y : MethodName} {b : ByteArray} {L : Nat} {r : Option FieldType} {hh : List (Nat × Nat × Nat × Nat)} (h1 : Cond.methodLink own idx y ∈ lw_all) (h2 : Cond.instanceMethod y ∈ lw_all) (h3 : Cond.selects C y y ∈ lw_all) (h4 : Cond.initialized C ∈ lw_all) (h5 : Cond.codeWith y b L r hh ∈ lw_all) : GoodIn lw_all (wsV own idx C y (wsW_ y b L r hh)) := by
  refine lw_app ?_ (lw_methW h5)
  intro w hw
  simp only [List.mem_cons, List.not_mem_nil, or_false] at hw
  rcases hw with e | e | e | e
  · rw [e]; exact h1
  · rw [e]; exact h2
  · rw [e]; exact h3
  · rw [e]; exact h4
theorem lw_SW {own : String} {idx : Nat} {y : MethodName} {b : ByteArray} {L : Nat} {r : Option FieldType} {hh : List (Nat × Nat × Nat × Nat)} (h1 : Cond.methodLink own idx y ∈ lw_all) (h2 : Cond.static y ∈ lw_all) (h3 : Cond.initialized y.cls ∈ lw_all) (h4 : Cond.codeWith y b L r hh ∈ lw_all) : GoodIn lw_all (va_wsS own idx y (wsW_ y b L r hh)) := by
  refine lw_app ?_ (lw_methW h4)
  intro w hw
  simp only [List.mem_cons, List.not_mem_nil, or_false] at hw
  rcases hw with e | e | e
  · rw [e]; exact h1
  · rw [e]; exact h2
  · rw [e]; exact h3
/-- a word by its place in its run of the tables -/
theorem lw_at {r : List Cond} (hr : ∀ w ∈ r, w ∈ lw_tbl) {w : Cond} (i : Nat) (h : r[i]? = some w) : w ∈ lw_tbl := hr w (List.mem_of_getElem? h)
theorem lw_g {w : Cond} (h : w ∈ lw_tbl) (g : goodWord w = true) : w ∈ lw_all := List.mem_filter.mpr ⟨h, g⟩
theorem lw_ms : ∀ w ∈ k2_sels lw_privs, w ∈ lw_tbl := fun w h => show w ∈ k2_sels lw_privs ++ tables_1 from List.mem_append_left _ h
theorem lw_m1 : ∀ w ∈ tables_1_1, w ∈ lw_tbl := fun w h => show w ∈ k2_sels lw_privs ++ tables_1 from List.mem_append_right (k2_sels lw_privs) (show w ∈ tables_1 from List.mem_append_left _ h)
theorem lw_m2 : ∀ w ∈ tables_1_2, w ∈ lw_tbl := fun w h => show w ∈ k2_sels lw_privs ++ tables_1 from List.mem_append_right (k2_sels lw_privs) (show w ∈ tables_1 from List.mem_append_right _ (List.mem_append_left _ h))
theorem lw_m3 : ∀ w ∈ tables_1_3, w ∈ lw_tbl := fun w h => show w ∈ k2_sels lw_privs ++ tables_1 from List.mem_append_right (k2_sels lw_privs) (show w ∈ tables_1 from List.mem_append_right _ (List.mem_append_right _ (List.mem_append_left _ h)))
theorem lw_m4 : ∀ w ∈ tables_1_4, w ∈ lw_tbl := fun w h => show w ∈ k2_sels lw_privs ++ tables_1 from List.mem_append_right (k2_sels lw_privs) (show w ∈ tables_1 from List.mem_append_right _ (List.mem_append_right _ (List.mem_append_right _ (List.mem_append_left _ h))))
theorem lw_m5 : ∀ w ∈ tables_1_5, w ∈ lw_tbl := fun w h => show w ∈ k2_sels lw_privs ++ tables_1 from List.mem_append_right (k2_sels lw_privs) (show w ∈ tables_1 from List.mem_append_right _ (List.mem_append_right _ (List.mem_append_right _ (List.mem_append_right _ (List.mem_append_left _ h)))))
theorem lw_m6 : ∀ w ∈ tables_1_6, w ∈ lw_tbl := fun w h => show w ∈ k2_sels lw_privs ++ tables_1 from List.mem_append_right (k2_sels lw_privs) (show w ∈ tables_1 from List.mem_append_right _ (List.mem_append_right _ (List.mem_append_right _ (List.mem_append_right _ (List.mem_append_right _ (List.mem_append_left _ h))))))
theorem lw_m7 : ∀ w ∈ tables_1_7, w ∈ lw_tbl := fun w h => show w ∈ k2_sels lw_privs ++ tables_1 from List.mem_append_right (k2_sels lw_privs) (show w ∈ tables_1 from List.mem_append_right _ (List.mem_append_right _ (List.mem_append_right _ (List.mem_append_right _ (List.mem_append_right _ (List.mem_append_right _ (List.mem_append_left _ h)))))))
theorem lw_m8 : ∀ w ∈ tables_1_8, w ∈ lw_tbl := fun w h => show w ∈ k2_sels lw_privs ++ tables_1 from List.mem_append_right (k2_sels lw_privs) (show w ∈ tables_1 from List.mem_append_right _ (List.mem_append_right _ (List.mem_append_right _ (List.mem_append_right _ (List.mem_append_right _ (List.mem_append_right _ (List.mem_append_right _ (List.mem_append_left _ h))))))))
theorem lw_m9 : ∀ w ∈ tables_1_9, w ∈ lw_tbl := fun w h => show w ∈ k2_sels lw_privs ++ tables_1 from List.mem_append_right (k2_sels lw_privs) (show w ∈ tables_1 from List.mem_append_right _ (List.mem_append_right _ (List.mem_append_right _ (List.mem_append_right _ (List.mem_append_right _ (List.mem_append_right _ (List.mem_append_right _ (List.mem_append_right _ (List.mem_append_left _ h)))))))))
theorem lw_m10 : ∀ w ∈ tables_1_10, w ∈ lw_tbl := fun w h => show w ∈ k2_sels lw_privs ++ tables_1 from List.mem_append_right (k2_sels lw_privs) (show w ∈ tables_1 from List.mem_append_right _ (List.mem_append_right _ (List.mem_append_right _ (List.mem_append_right _ (List.mem_append_right _ (List.mem_append_right _ (List.mem_append_right _ (List.mem_append_right _ (List.mem_append_right _ (List.mem_append_left _ h))))))))))
theorem lw_m11 : ∀ w ∈ tables_1_11, w ∈ lw_tbl := fun w h => show w ∈ k2_sels lw_privs ++ tables_1 from List.mem_append_right (k2_sels lw_privs) (show w ∈ tables_1 from List.mem_append_right _ (List.mem_append_right _ (List.mem_append_right _ (List.mem_append_right _ (List.mem_append_right _ (List.mem_append_right _ (List.mem_append_right _ (List.mem_append_right _ (List.mem_append_right _ (List.mem_append_right _ (List.mem_append_left _ h)))))))))))
theorem lw_m12 : ∀ w ∈ tables_1_12, w ∈ lw_tbl := fun w h => show w ∈ k2_sels lw_privs ++ tables_1 from List.mem_append_right (k2_sels lw_privs) (show w ∈ tables_1 from List.mem_append_right _ (List.mem_append_right _ (List.mem_append_right _ (List.mem_append_right _ (List.mem_append_right _ (List.mem_append_right _ (List.mem_append_right _ (List.mem_append_right _ (List.mem_append_right _ (List.mem_append_right _ (List.mem_append_right _ (List.mem_append_left _ h))))))))))))
theorem lw_m13 : ∀ w ∈ tables_1_13, w ∈ lw_tbl := fun w h => show w ∈ k2_sels lw_privs ++ tables_1 from List.mem_append_right (k2_sels lw_privs) (show w ∈ tables_1 from List.mem_append_right _ (List.mem_append_right _ (List.mem_append_right _ (List.mem_append_right _ (List.mem_append_right _ (List.mem_append_right _ (List.mem_append_right _ (List.mem_append_right _ (List.mem_append_right _ (List.mem_append_right _ (List.mem_append_right _ (List.mem_append_right _ h))))))))))))
theorem qs0 : (Cond.selects "java/util/BitSet" ⟨"java/util/BitSet", "initWords", "(I)V"⟩ ⟨"java/util/BitSet", "initWords", "(I)V"⟩) ∈ lw_all := lw_g (lw_at lw_ms 0 rfl) rfl
theorem qs1 : (Cond.selects "java/lang/Throwable" ⟨"java/lang/Throwable", "fillInStackTrace", "(I)Ljava/lang/Throwable;"⟩ ⟨"java/lang/Throwable", "fillInStackTrace", "(I)Ljava/lang/Throwable;"⟩) ∈ lw_all := lw_g (lw_at lw_ms 1 rfl) rfl
theorem qs2 : (Cond.selects "java/util/BitSet" ⟨"java/util/BitSet", "expandTo", "(I)V"⟩ ⟨"java/util/BitSet", "expandTo", "(I)V"⟩) ∈ lw_all := lw_g (lw_at lw_ms 2 rfl) rfl
theorem qs3 : (Cond.selects "java/util/BitSet" ⟨"java/util/BitSet", "ensureCapacity", "(I)V"⟩ ⟨"java/util/BitSet", "ensureCapacity", "(I)V"⟩) ∈ lw_all := lw_g (lw_at lw_ms 3 rfl) rfl
theorem qs4 : (Cond.selects "java/util/BitSet" ⟨"java/util/BitSet", "checkInvariants", "()V"⟩ ⟨"java/util/BitSet", "checkInvariants", "()V"⟩) ∈ lw_all := lw_g (lw_at lw_ms 4 rfl) rfl
theorem qs5 : (Cond.selects "java/util/ArrayList" ⟨"java/util/ArrayList", "grow", "(I)[Ljava/lang/Object;"⟩ ⟨"java/util/ArrayList", "grow", "(I)[Ljava/lang/Object;"⟩) ∈ lw_all := lw_g (lw_at lw_ms 5 rfl) rfl
theorem qs6 : (Cond.selects "QuorumLog$Server" ⟨"QuorumLog$Server", "sendTo", "(I)V"⟩ ⟨"QuorumLog$Server", "sendTo", "(I)V"⟩) ∈ lw_all := lw_g (lw_at lw_ms 6 rfl) rfl
theorem qs7 : (Cond.selects "java/util/ArrayList" ⟨"java/util/ArrayList", "add", "(Ljava/lang/Object;[Ljava/lang/Object;I)V"⟩ ⟨"java/util/ArrayList", "add", "(Ljava/lang/Object;[Ljava/lang/Object;I)V"⟩) ∈ lw_all := lw_g (lw_at lw_ms 7 rfl) rfl
theorem qs8 : (Cond.selects "java/util/ArrayList" ⟨"java/util/ArrayList", "grow", "()[Ljava/lang/Object;"⟩ ⟨"java/util/ArrayList", "grow", "()[Ljava/lang/Object;"⟩) ∈ lw_all := lw_g (lw_at lw_ms 8 rfl) rfl
theorem qs9 : (Cond.selects "QuorumLog$Server" ⟨"QuorumLog$Server", "begin", "(LQuorumLog$Role;)V"⟩ ⟨"QuorumLog$Server", "begin", "(LQuorumLog$Role;)V"⟩) ∈ lw_all := lw_g (lw_at lw_ms 9 rfl) rfl
theorem qs10 : (Cond.selects "QuorumLog$Server" ⟨"QuorumLog$Server", "be", "(LQuorumLog$Role;I)V"⟩ ⟨"QuorumLog$Server", "be", "(LQuorumLog$Role;I)V"⟩) ∈ lw_all := lw_g (lw_at lw_ms 10 rfl) rfl
theorem qs11 : (Cond.selects "QuorumLog$Server" ⟨"QuorumLog$Server", "isElected", "()Z"⟩ ⟨"QuorumLog$Server", "isElected", "()Z"⟩) ∈ lw_all := lw_g (lw_at lw_ms 11 rfl) rfl
theorem qs12 : (Cond.selects "QuorumLog$Server" ⟨"QuorumLog$Server", "lead", "()V"⟩ ⟨"QuorumLog$Server", "lead", "()V"⟩) ∈ lw_all := lw_g (lw_at lw_ms 12 rfl) rfl
theorem qs13 : (Cond.selects "QuorumLog$Server" ⟨"QuorumLog$Server", "lookCommitted", "()V"⟩ ⟨"QuorumLog$Server", "lookCommitted", "()V"⟩) ∈ lw_all := lw_g (lw_at lw_ms 13 rfl) rfl
theorem qs14 : (Cond.selects "QuorumLog$Server" ⟨"QuorumLog$Server", "isHeldByMost", "(I)Z"⟩ ⟨"QuorumLog$Server", "isHeldByMost", "(I)Z"⟩) ∈ lw_all := lw_g (lw_at lw_ms 14 rfl) rfl
theorem qs15 : (Cond.selects "java/util/ArrayList" ⟨"java/util/ArrayList", "fastRemove", "([Ljava/lang/Object;I)V"⟩ ⟨"java/util/ArrayList", "fastRemove", "([Ljava/lang/Object;I)V"⟩) ∈ lw_all := lw_g (lw_at lw_ms 15 rfl) rfl
theorem qs16 : (Cond.selects "QuorumLog$Entries" ⟨"QuorumLog$Entries", "lay", "(LQuorumLog$Server;ILQuorumLog$Entry;)V"⟩ ⟨"QuorumLog$Entries", "lay", "(LQuorumLog$Server;ILQuorumLog$Entry;)V"⟩) ∈ lw_all := lw_g (lw_at lw_ms 16 rfl) rfl
theorem qs17 : (Cond.selects "QuorumLog" ⟨"QuorumLog", "message", "(I)LQuorumLog$Message;"⟩ ⟨"QuorumLog", "message", "(I)LQuorumLog$Message;"⟩) ∈ lw_all := lw_g (lw_at lw_ms 17 rfl) rfl
theorem qs18 : (Cond.selects "QuorumLog" ⟨"QuorumLog", "client", "(I)LQuorumLog$Client;"⟩ ⟨"QuorumLog", "client", "(I)LQuorumLog$Client;"⟩) ∈ lw_all := lw_g (lw_at lw_ms 18 rfl) rfl
theorem qs19 : (Cond.selects "QuorumLog" ⟨"QuorumLog", "digestServer", "(JI)J"⟩ ⟨"QuorumLog", "digestServer", "(JI)J"⟩) ∈ lw_all := lw_g (lw_at lw_ms 19 rfl) rfl
theorem qs20 : (Cond.selects "QuorumLog" ⟨"QuorumLog", "server", "(I)LQuorumLog$Server;"⟩ ⟨"QuorumLog", "server", "(I)LQuorumLog$Server;"⟩) ∈ lw_all := lw_g (lw_at lw_ms 20 rfl) rfl
theorem qs21 : (Cond.selects "QuorumLog" ⟨"QuorumLog", "digestEntry", "(JII)J"⟩ ⟨"QuorumLog", "digestEntry", "(JII)J"⟩) ∈ lw_all := lw_g (lw_at lw_ms 21 rfl) rfl
theorem qs22 : (Cond.selects "QuorumLog" ⟨"QuorumLog", "entry", "(II)LQuorumLog$Entry;"⟩ ⟨"QuorumLog", "entry", "(II)LQuorumLog$Entry;"⟩) ∈ lw_all := lw_g (lw_at lw_ms 22 rfl) rfl
theorem qs23 : (Cond.selects "QuorumLog" ⟨"QuorumLog", "setLink", "(IIZ)I"⟩ ⟨"QuorumLog", "setLink", "(IIZ)I"⟩) ∈ lw_all := lw_g (lw_at lw_ms 23 rfl) rfl
theorem qs24 : (Cond.selects "java/util/BitSet" ⟨"java/util/BitSet", "recalculateWordsInUse", "()V"⟩ ⟨"java/util/BitSet", "recalculateWordsInUse", "()V"⟩) ∈ lw_all := lw_g (lw_at lw_ms 24 rfl) rfl
theorem qs25 : (Cond.selects "QuorumLog" ⟨"QuorumLog", "ask", "(LQuorumLog$Deed;IIII)I"⟩ ⟨"QuorumLog", "ask", "(LQuorumLog$Deed;IIII)I"⟩) ∈ lw_all := lw_g (lw_at lw_ms 25 rfl) rfl
theorem qs26 : (Cond.selects "QuorumLog" ⟨"QuorumLog", "leaderFor", "(II)LQuorumLog$Server;"⟩ ⟨"QuorumLog", "leaderFor", "(II)LQuorumLog$Server;"⟩) ∈ lw_all := lw_g (lw_at lw_ms 26 rfl) rfl
theorem qs27 : (Cond.selects "QuorumLogModel" ⟨"QuorumLogModel", "refuse", "(I)I"⟩ ⟨"QuorumLogModel", "refuse", "(I)I"⟩) ∈ lw_all := lw_g (lw_at lw_ms 27 rfl) rfl
theorem qs28 : (Cond.selects "QuorumLogModel" ⟨"QuorumLogModel", "up", "()I"⟩ ⟨"QuorumLogModel", "up", "()I"⟩) ∈ lw_all := lw_g (lw_at lw_ms 28 rfl) rfl
theorem qs29 : (Cond.selects "QuorumLogModel" ⟨"QuorumLogModel", "link", "(III)I"⟩ ⟨"QuorumLogModel", "link", "(III)I"⟩) ∈ lw_all := lw_g (lw_at lw_ms 29 rfl) rfl
theorem qs30 : (Cond.selects "QuorumLogModel" ⟨"QuorumLogModel", "cutLinks", "()I"⟩ ⟨"QuorumLogModel", "cutLinks", "()I"⟩) ∈ lw_all := lw_g (lw_at lw_ms 30 rfl) rfl
theorem qs31 : (Cond.selects "QuorumLogModel$State" ⟨"QuorumLogModel$State", "takeTurn", "(I)V"⟩ ⟨"QuorumLogModel$State", "takeTurn", "(I)V"⟩) ∈ lw_all := lw_g (lw_at lw_ms 31 rfl) rfl
theorem qs32 : (Cond.selects "QuorumLogModel$State" ⟨"QuorumLogModel$State", "sendLog", "(II)V"⟩ ⟨"QuorumLogModel$State", "sendLog", "(II)V"⟩) ∈ lw_all := lw_g (lw_at lw_ms 32 rfl) rfl
theorem qs33 : (Cond.selects "QuorumLogModel$State" ⟨"QuorumLogModel$State", "send", "(IIIIII)I"⟩ ⟨"QuorumLogModel$State", "send", "(IIIIII)I"⟩) ∈ lw_all := lw_g (lw_at lw_ms 33 rfl) rfl
theorem qs34 : (Cond.selects "QuorumLogModel$State" ⟨"QuorumLogModel$State", "stand", "(I)V"⟩ ⟨"QuorumLogModel$State", "stand", "(I)V"⟩) ∈ lw_all := lw_g (lw_at lw_ms 34 rfl) rfl
theorem qs35 : (Cond.selects "QuorumLogModel$State" ⟨"QuorumLogModel$State", "lead", "(I)V"⟩ ⟨"QuorumLogModel$State", "lead", "(I)V"⟩) ∈ lw_all := lw_g (lw_at lw_ms 35 rfl) rfl
theorem qs36 : (Cond.selects "QuorumLogModel$State" ⟨"QuorumLogModel$State", "makeRoom", "(II)V"⟩ ⟨"QuorumLogModel$State", "makeRoom", "(II)V"⟩) ∈ lw_all := lw_g (lw_at lw_ms 36 rfl) rfl
theorem qs37 : (Cond.selects "QuorumLogModel$State" ⟨"QuorumLogModel$State", "apply", "(I)V"⟩ ⟨"QuorumLogModel$State", "apply", "(I)V"⟩) ∈ lw_all := lw_g (lw_at lw_ms 37 rfl) rfl
theorem qs38 : (Cond.selects "QuorumLogModel$State" ⟨"QuorumLogModel$State", "applyRequest", "(III)V"⟩ ⟨"QuorumLogModel$State", "applyRequest", "(III)V"⟩) ∈ lw_all := lw_g (lw_at lw_ms 38 rfl) rfl
theorem qs39 : (Cond.selects "QuorumLogModel$State" ⟨"QuorumLogModel$State", "ask", "(III)V"⟩ ⟨"QuorumLogModel$State", "ask", "(III)V"⟩) ∈ lw_all := lw_g (lw_at lw_ms 39 rfl) rfl
theorem qs40 : (Cond.selects "QuorumLogModel$State" ⟨"QuorumLogModel$State", "arrive", "(IIIII)V"⟩ ⟨"QuorumLogModel$State", "arrive", "(IIIII)V"⟩) ∈ lw_all := lw_g (lw_at lw_ms 40 rfl) rfl
theorem qs41 : (Cond.selects "QuorumLogModel$State" ⟨"QuorumLogModel$State", "takeEntries", "(IIIII)V"⟩ ⟨"QuorumLogModel$State", "takeEntries", "(IIIII)V"⟩) ∈ lw_all := lw_g (lw_at lw_ms 41 rfl) rfl
theorem qs42 : (Cond.selects "QuorumLogModel$State" ⟨"QuorumLogModel$State", "isOld", "(III)Z"⟩ ⟨"QuorumLogModel$State", "isOld", "(III)Z"⟩) ∈ lw_all := lw_g (lw_at lw_ms 42 rfl) rfl
theorem qs43 : (Cond.selects "QuorumLogModel$State" ⟨"QuorumLogModel$State", "aheadOfRun", "(II)I"⟩ ⟨"QuorumLogModel$State", "aheadOfRun", "(II)I"⟩) ∈ lw_all := lw_g (lw_at lw_ms 43 rfl) rfl
theorem qs44 : (Cond.selects "QuorumLogModel$State" ⟨"QuorumLogModel$State", "takeAnswer", "(IIIII)V"⟩ ⟨"QuorumLogModel$State", "takeAnswer", "(IIIII)V"⟩) ∈ lw_all := lw_g (lw_at lw_ms 44 rfl) rfl
theorem qs45 : (Cond.selects "QuorumLogModel$State" ⟨"QuorumLogModel$State", "takeSnapshot", "(IIIII)V"⟩ ⟨"QuorumLogModel$State", "takeSnapshot", "(IIIII)V"⟩) ∈ lw_all := lw_g (lw_at lw_ms 45 rfl) rfl
theorem qs46 : (Cond.selects "QuorumLogModel" ⟨"QuorumLogModel", "isLeader", "(I)Z"⟩ ⟨"QuorumLogModel", "isLeader", "(I)Z"⟩) ∈ lw_all := lw_g (lw_at lw_ms 46 rfl) rfl
theorem qs47 : (Cond.selects "QuorumLogModel" ⟨"QuorumLogModel", "canChange", "(I)Z"⟩ ⟨"QuorumLogModel", "canChange", "(I)Z"⟩) ∈ lw_all := lw_g (lw_at lw_ms 47 rfl) rfl
theorem qs48 : (Cond.selects "QuorumLogModel" ⟨"QuorumLogModel", "change", "(II)I"⟩ ⟨"QuorumLogModel", "change", "(II)I"⟩) ∈ lw_all := lw_g (lw_at lw_ms 48 rfl) rfl
theorem qs49 : (Cond.selects "QuorumLogModel" ⟨"QuorumLogModel", "isMessage", "(I)Z"⟩ ⟨"QuorumLogModel", "isMessage", "(I)Z"⟩) ∈ lw_all := lw_g (lw_at lw_ms 49 rfl) rfl
theorem qs50 : (Cond.selects "QuorumLogModel" ⟨"QuorumLogModel", "ofMessage", "(II)I"⟩ ⟨"QuorumLogModel", "ofMessage", "(II)I"⟩) ∈ lw_all := lw_g (lw_at lw_ms 50 rfl) rfl
theorem qs51 : (Cond.selects "QuorumLogModel" ⟨"QuorumLogModel", "ask", "(IIIII)I"⟩ ⟨"QuorumLogModel", "ask", "(IIIII)I"⟩) ∈ lw_all := lw_g (lw_at lw_ms 51 rfl) rfl
theorem qs52 : (Cond.selects "QuorumLogModel" ⟨"QuorumLogModel", "isOpen", "(I)Z"⟩ ⟨"QuorumLogModel", "isOpen", "(I)Z"⟩) ∈ lw_all := lw_g (lw_at lw_ms 52 rfl) rfl
theorem qs53 : (Cond.selects "QuorumLogModel" ⟨"QuorumLogModel", "of", "(I[I)I"⟩ ⟨"QuorumLogModel", "of", "(I[I)I"⟩) ∈ lw_all := lw_g (lw_at lw_ms 53 rfl) rfl
theorem qs54 : (Cond.selects "QuorumLogModel" ⟨"QuorumLogModel", "ofEntry", "(III)I"⟩ ⟨"QuorumLogModel", "ofEntry", "(III)I"⟩) ∈ lw_all := lw_g (lw_at lw_ms 54 rfl) rfl
theorem qs55 : (Cond.selects "QuorumLogModel" ⟨"QuorumLogModel", "ofOther", "(II[[I)I"⟩ ⟨"QuorumLogModel", "ofOther", "(II[[I)I"⟩) ∈ lw_all := lw_g (lw_at lw_ms 55 rfl) rfl
theorem qs56 : (Cond.selects "QuorumLogModel" ⟨"QuorumLogModel", "leadersNow", "()I"⟩ ⟨"QuorumLogModel", "leadersNow", "()I"⟩) ∈ lw_all := lw_g (lw_at lw_ms 56 rfl) rfl
theorem qs57 : (Cond.selects "QuorumLogModel" ⟨"QuorumLogModel", "roundsTill", "(II)I"⟩ ⟨"QuorumLogModel", "roundsTill", "(II)I"⟩) ∈ lw_all := lw_g (lw_at lw_ms 57 rfl) rfl
theorem qs58 : (Cond.selects "QuorumLogModel" ⟨"QuorumLogModel", "hasCome", "(II)Z"⟩ ⟨"QuorumLogModel", "hasCome", "(II)Z"⟩) ∈ lw_all := lw_g (lw_at lw_ms 58 rfl) rfl
theorem qs59 : (Cond.selects "QuorumLogModel" ⟨"QuorumLogModel", "add", "(I)V"⟩ ⟨"QuorumLogModel", "add", "(I)V"⟩) ∈ lw_all := lw_g (lw_at lw_ms 59 rfl) rfl
theorem qs60 : (Cond.selects "QuorumLogModel" ⟨"QuorumLogModel", "addServer", "(I)V"⟩ ⟨"QuorumLogModel", "addServer", "(I)V"⟩) ∈ lw_all := lw_g (lw_at lw_ms 60 rfl) rfl
