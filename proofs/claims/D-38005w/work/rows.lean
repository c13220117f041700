section
-- ===== PART A: goes FIRST, ahead of the names: the tables' words, and 'selects' of the private methods out of them =====
/-- a private method of a class that the tables say can be made, by its rows of tables_1 -/
def lw_okq (q : MethodName × Nat) : Prop := (q.1.cls ≠ "java/lang/invoke/MethodHandle" ∧ q.1.cls ≠ "java/lang/invoke/VarHandle") ∧ Cond.instantiable q.1.cls q.2 ∈ tables_1 ∧ Cond.privateMethod q.1 ∈ tables_1 ∧ Cond.instanceMethod q.1 ∈ tables_1
set_option maxRecDepth 100000
theorem lw_t1 {w : Cond} (h : w ∈ tables_1_1) : w ∈ tables_1 := List.mem_append_left _ h
theorem lw_t2 {w : Cond} (h : w ∈ tables_1_2) : w ∈ tables_1 := List.mem_append_right _ (List.mem_append_left _ h)
theorem lw_t3 {w : Cond} (h : w ∈ tables_1_3) : w ∈ tables_1 := List.mem_append_right _ (List.mem_append_right _ (List.mem_append_left _ h))
theorem lw_t4 {w : Cond} (h : w ∈ tables_1_4) : w ∈ tables_1 := List.mem_append_right _ (List.mem_append_right _ (List.mem_append_right _ (List.mem_append_left _ h)))
theorem lw_t5 {w : Cond} (h : w ∈ tables_1_5) : w ∈ tables_1 := List.mem_append_right _ (List.mem_append_right _ (List.mem_append_right _ (List.mem_append_right _ (List.mem_append_left _ h))))
theorem lw_t6 {w : Cond} (h : w ∈ tables_1_6) : w ∈ tables_1 := List.mem_append_right _ (List.mem_append_right _ (List.mem_append_right _ (List.mem_append_right _ (List.mem_append_right _ (List.mem_append_left _ h)))))
theorem lw_t7 {w : Cond} (h : w ∈ tables_1_7) : w ∈ tables_1 := List.mem_append_right _ (List.mem_append_right _ (List.mem_append_right _ (List.mem_append_right _ (List.mem_append_right _ (List.mem_append_right _ (List.mem_append_left _ h))))))
theorem lw_t8 {w : Cond} (h : w ∈ tables_1_8) : w ∈ tables_1 := List.mem_append_right _ (List.mem_append_right _ (List.mem_append_right _ (List.mem_append_right _ (List.mem_append_right _ (List.mem_append_right _ (List.mem_append_right _ (List.mem_append_left _ h)))))))
theorem lw_t9 {w : Cond} (h : w ∈ tables_1_9) : w ∈ tables_1 := List.mem_append_right _ (List.mem_append_right _ (List.mem_append_right _ (List.mem_append_right _ (List.mem_append_right _ (List.mem_append_right _ (List.mem_append_right _ (List.mem_append_right _ (List.mem_append_left _ h))))))))
theorem lw_t10 {w : Cond} (h : w ∈ tables_1_10) : w ∈ tables_1 := List.mem_append_right _ (List.mem_append_right _ (List.mem_append_right _ (List.mem_append_right _ (List.mem_append_right _ (List.mem_append_right _ (List.mem_append_right _ (List.mem_append_right _ (List.mem_append_right _ (List.mem_append_left _ h)))))))))
theorem lw_t11 {w : Cond} (h : w ∈ tables_1_11) : w ∈ tables_1 := List.mem_append_right _ (List.mem_append_right _ (List.mem_append_right _ (List.mem_append_right _ (List.mem_append_right _ (List.mem_append_right _ (List.mem_append_right _ (List.mem_append_right _ (List.mem_append_right _ (List.mem_append_right _ (List.mem_append_left _ h))))))))))
theorem lw_t12 {w : Cond} (h : w ∈ tables_1_12) : w ∈ tables_1 := List.mem_append_right _ (List.mem_append_right _ (List.mem_append_right _ (List.mem_append_right _ (List.mem_append_right _ (List.mem_append_right _ (List.mem_append_right _ (List.mem_append_right _ (List.mem_append_right _ (List.mem_append_right _ (List.mem_append_right _ (List.mem_append_left _ h)))))))))))
theorem lw_t13 {w : Cond} (h : w ∈ tables_1_13) : w ∈ tables_1 := List.mem_append_right _ (List.mem_append_right _ (List.mem_append_right _ (List.mem_append_right _ (List.mem_append_right _ (List.mem_append_right _ (List.mem_append_right _ (List.mem_append_right _ (List.mem_append_right _ (List.mem_append_right _ (List.mem_append_right _ (List.mem_append_right _ h)))))))))))
theorem lw_p0 : lw_okq (⟨"java/util/BitSet", "initWords", "(I)V"⟩, 3) := ⟨⟨by decide +kernel, by decide +kernel⟩, lw_t1 (List.mem_of_getElem? (i := 129) rfl), lw_t1 (List.mem_of_getElem? (i := 135) rfl), lw_t1 (List.mem_of_getElem? (i := 136) rfl)⟩
theorem lw_p1 : lw_okq (⟨"java/lang/Throwable", "fillInStackTrace", "(I)Ljava/lang/Throwable;"⟩, 6) := ⟨⟨by decide +kernel, by decide +kernel⟩, lw_t1 (List.mem_of_getElem? (i := 196) rfl), lw_t1 (List.mem_of_getElem? (i := 194) rfl), lw_t1 (List.mem_of_getElem? (i := 195) rfl)⟩
theorem lw_p2 : lw_okq (⟨"java/util/BitSet", "expandTo", "(I)V"⟩, 3) := ⟨⟨by decide +kernel, by decide +kernel⟩, lw_t1 (List.mem_of_getElem? (i := 129) rfl), lw_t3 (List.mem_of_getElem? (i := 3) rfl), lw_t3 (List.mem_of_getElem? (i := 4) rfl)⟩
theorem lw_p3 : lw_okq (⟨"java/util/BitSet", "ensureCapacity", "(I)V"⟩, 3) := ⟨⟨by decide +kernel, by decide +kernel⟩, lw_t1 (List.mem_of_getElem? (i := 129) rfl), lw_t3 (List.mem_of_getElem? (i := 7) rfl), lw_t3 (List.mem_of_getElem? (i := 8) rfl)⟩
theorem lw_p4 : lw_okq (⟨"java/util/BitSet", "checkInvariants", "()V"⟩, 3) := ⟨⟨by decide +kernel, by decide +kernel⟩, lw_t1 (List.mem_of_getElem? (i := 129) rfl), lw_t3 (List.mem_of_getElem? (i := 20) rfl), lw_t3 (List.mem_of_getElem? (i := 21) rfl)⟩
theorem lw_p5 : lw_okq (⟨"java/util/ArrayList", "grow", "(I)[Ljava/lang/Object;"⟩, 3) := ⟨⟨by decide +kernel, by decide +kernel⟩, lw_t1 (List.mem_of_getElem? (i := 75) rfl), lw_t4 (List.mem_of_getElem? (i := 106) rfl), lw_t4 (List.mem_of_getElem? (i := 107) rfl)⟩
theorem lw_p6 : lw_okq (⟨"QuorumLog$Server", "sendTo", "(I)V"⟩, 15) := ⟨⟨by decide +kernel, by decide +kernel⟩, lw_t3 (List.mem_of_getElem? (i := 74) rfl), lw_t4 (List.mem_of_getElem? (i := 208) rfl), lw_t4 (List.mem_of_getElem? (i := 209) rfl)⟩
theorem lw_p7 : lw_okq (⟨"java/util/ArrayList", "add", "(Ljava/lang/Object;[Ljava/lang/Object;I)V"⟩, 3) := ⟨⟨by decide +kernel, by decide +kernel⟩, lw_t1 (List.mem_of_getElem? (i := 75) rfl), lw_t5 (List.mem_of_getElem? (i := 41) rfl), lw_t5 (List.mem_of_getElem? (i := 42) rfl)⟩
theorem lw_p8 : lw_okq (⟨"java/util/ArrayList", "grow", "()[Ljava/lang/Object;"⟩, 3) := ⟨⟨by decide +kernel, by decide +kernel⟩, lw_t1 (List.mem_of_getElem? (i := 75) rfl), lw_t5 (List.mem_of_getElem? (i := 45) rfl), lw_t5 (List.mem_of_getElem? (i := 46) rfl)⟩
theorem lw_p9 : lw_okq (⟨"QuorumLog$Server", "begin", "(LQuorumLog$Role;)V"⟩, 15) := ⟨⟨by decide +kernel, by decide +kernel⟩, lw_t3 (List.mem_of_getElem? (i := 74) rfl), lw_t5 (List.mem_of_getElem? (i := 93) rfl), lw_t5 (List.mem_of_getElem? (i := 94) rfl)⟩
theorem lw_p10 : lw_okq (⟨"QuorumLog$Server", "be", "(LQuorumLog$Role;I)V"⟩, 15) := ⟨⟨by decide +kernel, by decide +kernel⟩, lw_t3 (List.mem_of_getElem? (i := 74) rfl), lw_t5 (List.mem_of_getElem? (i := 97) rfl), lw_t5 (List.mem_of_getElem? (i := 98) rfl)⟩
theorem lw_p11 : lw_okq (⟨"QuorumLog$Server", "isElected", "()Z"⟩, 15) := ⟨⟨by decide +kernel, by decide +kernel⟩, lw_t3 (List.mem_of_getElem? (i := 74) rfl), lw_t5 (List.mem_of_getElem? (i := 102) rfl), lw_t5 (List.mem_of_getElem? (i := 103) rfl)⟩
theorem lw_p12 : lw_okq (⟨"QuorumLog$Server", "lead", "()V"⟩, 15) := ⟨⟨by decide +kernel, by decide +kernel⟩, lw_t3 (List.mem_of_getElem? (i := 74) rfl), lw_t5 (List.mem_of_getElem? (i := 129) rfl), lw_t5 (List.mem_of_getElem? (i := 130) rfl)⟩
theorem lw_p13 : lw_okq (⟨"QuorumLog$Server", "lookCommitted", "()V"⟩, 15) := ⟨⟨by decide +kernel, by decide +kernel⟩, lw_t3 (List.mem_of_getElem? (i := 74) rfl), lw_t5 (List.mem_of_getElem? (i := 157) rfl), lw_t5 (List.mem_of_getElem? (i := 158) rfl)⟩
theorem lw_p14 : lw_okq (⟨"QuorumLog$Server", "isHeldByMost", "(I)Z"⟩, 15) := ⟨⟨by decide +kernel, by decide +kernel⟩, lw_t3 (List.mem_of_getElem? (i := 74) rfl), lw_t5 (List.mem_of_getElem? (i := 166) rfl), lw_t5 (List.mem_of_getElem? (i := 167) rfl)⟩
theorem lw_p15 : lw_okq (⟨"java/util/ArrayList", "fastRemove", "([Ljava/lang/Object;I)V"⟩, 3) := ⟨⟨by decide +kernel, by decide +kernel⟩, lw_t1 (List.mem_of_getElem? (i := 75) rfl), lw_t6 (List.mem_of_getElem? (i := 32) rfl), lw_t6 (List.mem_of_getElem? (i := 33) rfl)⟩
def lw_privs_1 : List (MethodName × Nat) := [(⟨"java/util/BitSet", "initWords", "(I)V"⟩, 3), (⟨"java/lang/Throwable", "fillInStackTrace", "(I)Ljava/lang/Throwable;"⟩, 6), (⟨"java/util/BitSet", "expandTo", "(I)V"⟩, 3), (⟨"java/util/BitSet", "ensureCapacity", "(I)V"⟩, 3), (⟨"java/util/BitSet", "checkInvariants", "()V"⟩, 3), (⟨"java/util/ArrayList", "grow", "(I)[Ljava/lang/Object;"⟩, 3), (⟨"QuorumLog$Server", "sendTo", "(I)V"⟩, 15), (⟨"java/util/ArrayList", "add", "(Ljava/lang/Object;[Ljava/lang/Object;I)V"⟩, 3), (⟨"java/util/ArrayList", "grow", "()[Ljava/lang/Object;"⟩, 3), (⟨"QuorumLog$Server", "begin", "(LQuorumLog$Role;)V"⟩, 15), (⟨"QuorumLog$Server", "be", "(LQuorumLog$Role;I)V"⟩, 15), (⟨"QuorumLog$Server", "isElected", "()Z"⟩, 15), (⟨"QuorumLog$Server", "lead", "()V"⟩, 15), (⟨"QuorumLog$Server", "lookCommitted", "()V"⟩, 15), (⟨"QuorumLog$Server", "isHeldByMost", "(I)Z"⟩, 15), (⟨"java/util/ArrayList", "fastRemove", "([Ljava/lang/Object;I)V"⟩, 3)]
theorem lw_r1 : ∀ q ∈ lw_privs_1, lw_okq q := List.forall_mem_cons.mpr ⟨lw_p0, List.forall_mem_cons.mpr ⟨lw_p1, List.forall_mem_cons.mpr ⟨lw_p2, List.forall_mem_cons.mpr ⟨lw_p3, List.forall_mem_cons.mpr ⟨lw_p4, List.forall_mem_cons.mpr ⟨lw_p5, List.forall_mem_cons.mpr ⟨lw_p6, List.forall_mem_cons.mpr ⟨lw_p7, List.forall_mem_cons.mpr ⟨lw_p8, List.forall_mem_cons.mpr ⟨lw_p9, List.forall_mem_cons.mpr ⟨lw_p10, List.forall_mem_cons.mpr ⟨lw_p11, List.forall_mem_cons.mpr ⟨lw_p12, List.forall_mem_cons.mpr ⟨lw_p13, List.forall_mem_cons.mpr ⟨lw_p14, List.forall_mem_cons.mpr ⟨lw_p15, fun _ h => absurd h List.not_mem_nil⟩⟩⟩⟩⟩⟩⟩⟩⟩⟩⟩⟩⟩⟩⟩⟩
theorem lw_p16 : lw_okq (⟨"QuorumLog$Entries", "lay", "(LQuorumLog$Server;ILQuorumLog$Entry;)V"⟩, 7) := ⟨⟨by decide +kernel, by decide +kernel⟩, lw_t5 (List.mem_of_getElem? (i := 23) rfl), lw_t6 (List.mem_of_getElem? (i := 148) rfl), lw_t6 (List.mem_of_getElem? (i := 149) rfl)⟩
theorem lw_p17 : lw_okq (⟨"QuorumLog", "message", "(I)LQuorumLog$Message;"⟩, 1) := ⟨⟨by decide +kernel, by decide +kernel⟩, lw_t1 (List.mem_of_getElem? (i := 54) rfl), lw_t7 (List.mem_of_getElem? (i := 17) rfl), lw_t7 (List.mem_of_getElem? (i := 18) rfl)⟩
theorem lw_p18 : lw_okq (⟨"QuorumLog", "client", "(I)LQuorumLog$Client;"⟩, 1) := ⟨⟨by decide +kernel, by decide +kernel⟩, lw_t1 (List.mem_of_getElem? (i := 54) rfl), lw_t7 (List.mem_of_getElem? (i := 124) rfl), lw_t7 (List.mem_of_getElem? (i := 125) rfl)⟩
theorem lw_p19 : lw_okq (⟨"QuorumLog", "digestServer", "(JI)J"⟩, 1) := ⟨⟨by decide +kernel, by decide +kernel⟩, lw_t1 (List.mem_of_getElem? (i := 54) rfl), lw_t7 (List.mem_of_getElem? (i := 157) rfl), lw_t7 (List.mem_of_getElem? (i := 158) rfl)⟩
theorem lw_p20 : lw_okq (⟨"QuorumLog", "server", "(I)LQuorumLog$Server;"⟩, 1) := ⟨⟨by decide +kernel, by decide +kernel⟩, lw_t1 (List.mem_of_getElem? (i := 54) rfl), lw_t7 (List.mem_of_getElem? (i := 161) rfl), lw_t7 (List.mem_of_getElem? (i := 162) rfl)⟩
theorem lw_p21 : lw_okq (⟨"QuorumLog", "digestEntry", "(JII)J"⟩, 1) := ⟨⟨by decide +kernel, by decide +kernel⟩, lw_t1 (List.mem_of_getElem? (i := 54) rfl), lw_t7 (List.mem_of_getElem? (i := 207) rfl), lw_t7 (List.mem_of_getElem? (i := 208) rfl)⟩
theorem lw_p22 : lw_okq (⟨"QuorumLog", "entry", "(II)LQuorumLog$Entry;"⟩, 1) := ⟨⟨by decide +kernel, by decide +kernel⟩, lw_t1 (List.mem_of_getElem? (i := 54) rfl), lw_t7 (List.mem_of_getElem? (i := 211) rfl), lw_t7 (List.mem_of_getElem? (i := 212) rfl)⟩
theorem lw_p23 : lw_okq (⟨"QuorumLog", "setLink", "(IIZ)I"⟩, 1) := ⟨⟨by decide +kernel, by decide +kernel⟩, lw_t1 (List.mem_of_getElem? (i := 54) rfl), lw_t8 (List.mem_of_getElem? (i := 87) rfl), lw_t8 (List.mem_of_getElem? (i := 88) rfl)⟩
theorem lw_p24 : lw_okq (⟨"java/util/BitSet", "recalculateWordsInUse", "()V"⟩, 3) := ⟨⟨by decide +kernel, by decide +kernel⟩, lw_t1 (List.mem_of_getElem? (i := 129) rfl), lw_t8 (List.mem_of_getElem? (i := 219) rfl), lw_t8 (List.mem_of_getElem? (i := 220) rfl)⟩
theorem lw_p25 : lw_okq (⟨"QuorumLog", "ask", "(LQuorumLog$Deed;IIII)I"⟩, 1) := ⟨⟨by decide +kernel, by decide +kernel⟩, lw_t1 (List.mem_of_getElem? (i := 54) rfl), lw_t9 (List.mem_of_getElem? (i := 35) rfl), lw_t9 (List.mem_of_getElem? (i := 36) rfl)⟩
theorem lw_p26 : lw_okq (⟨"QuorumLog", "leaderFor", "(II)LQuorumLog$Server;"⟩, 1) := ⟨⟨by decide +kernel, by decide +kernel⟩, lw_t1 (List.mem_of_getElem? (i := 54) rfl), lw_t10 (List.mem_of_getElem? (i := 27) rfl), lw_t10 (List.mem_of_getElem? (i := 28) rfl)⟩
theorem lw_p27 : lw_okq (⟨"QuorumLogModel", "refuse", "(I)I"⟩, 4) := ⟨⟨by decide +kernel, by decide +kernel⟩, lw_t10 (List.mem_of_getElem? (i := 82) rfl), lw_t10 (List.mem_of_getElem? (i := 238) rfl), lw_t10 (List.mem_of_getElem? (i := 239) rfl)⟩
theorem lw_p28 : lw_okq (⟨"QuorumLogModel", "up", "()I"⟩, 4) := ⟨⟨by decide +kernel, by decide +kernel⟩, lw_t10 (List.mem_of_getElem? (i := 82) rfl), lw_t11 (List.mem_of_getElem? (i := 10) rfl), lw_t11 (List.mem_of_getElem? (i := 11) rfl)⟩
theorem lw_p29 : lw_okq (⟨"QuorumLogModel", "link", "(III)I"⟩, 4) := ⟨⟨by decide +kernel, by decide +kernel⟩, lw_t10 (List.mem_of_getElem? (i := 82) rfl), lw_t11 (List.mem_of_getElem? (i := 22) rfl), lw_t11 (List.mem_of_getElem? (i := 23) rfl)⟩
theorem lw_p30 : lw_okq (⟨"QuorumLogModel", "cutLinks", "()I"⟩, 4) := ⟨⟨by decide +kernel, by decide +kernel⟩, lw_t10 (List.mem_of_getElem? (i := 82) rfl), lw_t11 (List.mem_of_getElem? (i := 26) rfl), lw_t11 (List.mem_of_getElem? (i := 27) rfl)⟩
theorem lw_p31 : lw_okq (⟨"QuorumLogModel$State", "takeTurn", "(I)V"⟩, 28) := ⟨⟨by decide +kernel, by decide +kernel⟩, lw_t10 (List.mem_of_getElem? (i := 88) rfl), lw_t11 (List.mem_of_getElem? (i := 45) rfl), lw_t11 (List.mem_of_getElem? (i := 46) rfl)⟩
def lw_privs_2 : List (MethodName × Nat) := [(⟨"QuorumLog$Entries", "lay", "(LQuorumLog$Server;ILQuorumLog$Entry;)V"⟩, 7), (⟨"QuorumLog", "message", "(I)LQuorumLog$Message;"⟩, 1), (⟨"QuorumLog", "client", "(I)LQuorumLog$Client;"⟩, 1), (⟨"QuorumLog", "digestServer", "(JI)J"⟩, 1), (⟨"QuorumLog", "server", "(I)LQuorumLog$Server;"⟩, 1), (⟨"QuorumLog", "digestEntry", "(JII)J"⟩, 1), (⟨"QuorumLog", "entry", "(II)LQuorumLog$Entry;"⟩, 1), (⟨"QuorumLog", "setLink", "(IIZ)I"⟩, 1), (⟨"java/util/BitSet", "recalculateWordsInUse", "()V"⟩, 3), (⟨"QuorumLog", "ask", "(LQuorumLog$Deed;IIII)I"⟩, 1), (⟨"QuorumLog", "leaderFor", "(II)LQuorumLog$Server;"⟩, 1), (⟨"QuorumLogModel", "refuse", "(I)I"⟩, 4), (⟨"QuorumLogModel", "up", "()I"⟩, 4), (⟨"QuorumLogModel", "link", "(III)I"⟩, 4), (⟨"QuorumLogModel", "cutLinks", "()I"⟩, 4), (⟨"QuorumLogModel$State", "takeTurn", "(I)V"⟩, 28)]
theorem lw_r2 : ∀ q ∈ lw_privs_2, lw_okq q := List.forall_mem_cons.mpr ⟨lw_p16, List.forall_mem_cons.mpr ⟨lw_p17, List.forall_mem_cons.mpr ⟨lw_p18, List.forall_mem_cons.mpr ⟨lw_p19, List.forall_mem_cons.mpr ⟨lw_p20, List.forall_mem_cons.mpr ⟨lw_p21, List.forall_mem_cons.mpr ⟨lw_p22, List.forall_mem_cons.mpr ⟨lw_p23, List.forall_mem_cons.mpr ⟨lw_p24, List.forall_mem_cons.mpr ⟨lw_p25, List.forall_mem_cons.mpr ⟨lw_p26, List.forall_mem_cons.mpr ⟨lw_p27, List.forall_mem_cons.mpr ⟨lw_p28, List.forall_mem_cons.mpr ⟨lw_p29, List.forall_mem_cons.mpr ⟨lw_p30, List.forall_mem_cons.mpr ⟨lw_p31, fun _ h => absurd h List.not_mem_nil⟩⟩⟩⟩⟩⟩⟩⟩⟩⟩⟩⟩⟩⟩⟩⟩
theorem lw_p32 : lw_okq (⟨"QuorumLogModel$State", "sendLog", "(II)V"⟩, 28) := ⟨⟨by decide +kernel, by decide +kernel⟩, lw_t10 (List.mem_of_getElem? (i := 88) rfl), lw_t11 (List.mem_of_getElem? (i := 77) rfl), lw_t11 (List.mem_of_getElem? (i := 78) rfl)⟩
theorem lw_p33 : lw_okq (⟨"QuorumLogModel$State", "send", "(IIIIII)I"⟩, 28) := ⟨⟨by decide +kernel, by decide +kernel⟩, lw_t10 (List.mem_of_getElem? (i := 88) rfl), lw_t11 (List.mem_of_getElem? (i := 81) rfl), lw_t11 (List.mem_of_getElem? (i := 82) rfl)⟩
theorem lw_p34 : lw_okq (⟨"QuorumLogModel$State", "stand", "(I)V"⟩, 28) := ⟨⟨by decide +kernel, by decide +kernel⟩, lw_t10 (List.mem_of_getElem? (i := 88) rfl), lw_t11 (List.mem_of_getElem? (i := 106) rfl), lw_t11 (List.mem_of_getElem? (i := 107) rfl)⟩
theorem lw_p35 : lw_okq (⟨"QuorumLogModel$State", "lead", "(I)V"⟩, 28) := ⟨⟨by decide +kernel, by decide +kernel⟩, lw_t10 (List.mem_of_getElem? (i := 88) rfl), lw_t11 (List.mem_of_getElem? (i := 110) rfl), lw_t11 (List.mem_of_getElem? (i := 111) rfl)⟩
theorem lw_p36 : lw_okq (⟨"QuorumLogModel$State", "makeRoom", "(II)V"⟩, 28) := ⟨⟨by decide +kernel, by decide +kernel⟩, lw_t10 (List.mem_of_getElem? (i := 88) rfl), lw_t11 (List.mem_of_getElem? (i := 122) rfl), lw_t11 (List.mem_of_getElem? (i := 123) rfl)⟩
theorem lw_p37 : lw_okq (⟨"QuorumLogModel$State", "apply", "(I)V"⟩, 28) := ⟨⟨by decide +kernel, by decide +kernel⟩, lw_t10 (List.mem_of_getElem? (i := 88) rfl), lw_t11 (List.mem_of_getElem? (i := 130) rfl), lw_t11 (List.mem_of_getElem? (i := 131) rfl)⟩
theorem lw_p38 : lw_okq (⟨"QuorumLogModel$State", "applyRequest", "(III)V"⟩, 28) := ⟨⟨by decide +kernel, by decide +kernel⟩, lw_t10 (List.mem_of_getElem? (i := 88) rfl), lw_t11 (List.mem_of_getElem? (i := 134) rfl), lw_t11 (List.mem_of_getElem? (i := 135) rfl)⟩
theorem lw_p39 : lw_okq (⟨"QuorumLogModel$State", "ask", "(III)V"⟩, 28) := ⟨⟨by decide +kernel, by decide +kernel⟩, lw_t10 (List.mem_of_getElem? (i := 88) rfl), lw_t11 (List.mem_of_getElem? (i := 138) rfl), lw_t11 (List.mem_of_getElem? (i := 139) rfl)⟩
theorem lw_p40 : lw_okq (⟨"QuorumLogModel$State", "arrive", "(IIIII)V"⟩, 28) := ⟨⟨by decide +kernel, by decide +kernel⟩, lw_t10 (List.mem_of_getElem? (i := 88) rfl), lw_t11 (List.mem_of_getElem? (i := 154) rfl), lw_t11 (List.mem_of_getElem? (i := 155) rfl)⟩
theorem lw_p41 : lw_okq (⟨"QuorumLogModel$State", "takeEntries", "(IIIII)V"⟩, 28) := ⟨⟨by decide +kernel, by decide +kernel⟩, lw_t10 (List.mem_of_getElem? (i := 88) rfl), lw_t11 (List.mem_of_getElem? (i := 162) rfl), lw_t11 (List.mem_of_getElem? (i := 163) rfl)⟩
theorem lw_p42 : lw_okq (⟨"QuorumLogModel$State", "isOld", "(III)Z"⟩, 28) := ⟨⟨by decide +kernel, by decide +kernel⟩, lw_t10 (List.mem_of_getElem? (i := 88) rfl), lw_t11 (List.mem_of_getElem? (i := 166) rfl), lw_t11 (List.mem_of_getElem? (i := 167) rfl)⟩
theorem lw_p43 : lw_okq (⟨"QuorumLogModel$State", "aheadOfRun", "(II)I"⟩, 28) := ⟨⟨by decide +kernel, by decide +kernel⟩, lw_t10 (List.mem_of_getElem? (i := 88) rfl), lw_t11 (List.mem_of_getElem? (i := 174) rfl), lw_t11 (List.mem_of_getElem? (i := 175) rfl)⟩
theorem lw_p44 : lw_okq (⟨"QuorumLogModel$State", "takeAnswer", "(IIIII)V"⟩, 28) := ⟨⟨by decide +kernel, by decide +kernel⟩, lw_t10 (List.mem_of_getElem? (i := 88) rfl), lw_t11 (List.mem_of_getElem? (i := 179) rfl), lw_t11 (List.mem_of_getElem? (i := 180) rfl)⟩
theorem lw_p45 : lw_okq (⟨"QuorumLogModel$State", "takeSnapshot", "(IIIII)V"⟩, 28) := ⟨⟨by decide +kernel, by decide +kernel⟩, lw_t10 (List.mem_of_getElem? (i := 88) rfl), lw_t11 (List.mem_of_getElem? (i := 183) rfl), lw_t11 (List.mem_of_getElem? (i := 184) rfl)⟩
theorem lw_p46 : lw_okq (⟨"QuorumLogModel", "isLeader", "(I)Z"⟩, 4) := ⟨⟨by decide +kernel, by decide +kernel⟩, lw_t10 (List.mem_of_getElem? (i := 82) rfl), lw_t11 (List.mem_of_getElem? (i := 204) rfl), lw_t11 (List.mem_of_getElem? (i := 205) rfl)⟩
theorem lw_p47 : lw_okq (⟨"QuorumLogModel", "canChange", "(I)Z"⟩, 4) := ⟨⟨by decide +kernel, by decide +kernel⟩, lw_t10 (List.mem_of_getElem? (i := 82) rfl), lw_t11 (List.mem_of_getElem? (i := 228) rfl), lw_t11 (List.mem_of_getElem? (i := 229) rfl)⟩
def lw_privs_3 : List (MethodName × Nat) := [(⟨"QuorumLogModel$State", "sendLog", "(II)V"⟩, 28), (⟨"QuorumLogModel$State", "send", "(IIIIII)I"⟩, 28), (⟨"QuorumLogModel$State", "stand", "(I)V"⟩, 28), (⟨"QuorumLogModel$State", "lead", "(I)V"⟩, 28), (⟨"QuorumLogModel$State", "makeRoom", "(II)V"⟩, 28), (⟨"QuorumLogModel$State", "apply", "(I)V"⟩, 28), (⟨"QuorumLogModel$State", "applyRequest", "(III)V"⟩, 28), (⟨"QuorumLogModel$State", "ask", "(III)V"⟩, 28), (⟨"QuorumLogModel$State", "arrive", "(IIIII)V"⟩, 28), (⟨"QuorumLogModel$State", "takeEntries", "(IIIII)V"⟩, 28), (⟨"QuorumLogModel$State", "isOld", "(III)Z"⟩, 28), (⟨"QuorumLogModel$State", "aheadOfRun", "(II)I"⟩, 28), (⟨"QuorumLogModel$State", "takeAnswer", "(IIIII)V"⟩, 28), (⟨"QuorumLogModel$State", "takeSnapshot", "(IIIII)V"⟩, 28), (⟨"QuorumLogModel", "isLeader", "(I)Z"⟩, 4), (⟨"QuorumLogModel", "canChange", "(I)Z"⟩, 4)]
theorem lw_r3 : ∀ q ∈ lw_privs_3, lw_okq q := List.forall_mem_cons.mpr ⟨lw_p32, List.forall_mem_cons.mpr ⟨lw_p33, List.forall_mem_cons.mpr ⟨lw_p34, List.forall_mem_cons.mpr ⟨lw_p35, List.forall_mem_cons.mpr ⟨lw_p36, List.forall_mem_cons.mpr ⟨lw_p37, List.forall_mem_cons.mpr ⟨lw_p38, List.forall_mem_cons.mpr ⟨lw_p39, List.forall_mem_cons.mpr ⟨lw_p40, List.forall_mem_cons.mpr ⟨lw_p41, List.forall_mem_cons.mpr ⟨lw_p42, List.forall_mem_cons.mpr ⟨lw_p43, List.forall_mem_cons.mpr ⟨lw_p44, List.forall_mem_cons.mpr ⟨lw_p45, List.forall_mem_cons.mpr ⟨lw_p46, List.forall_mem_cons.mpr ⟨lw_p47, fun _ h => absurd h List.not_mem_nil⟩⟩⟩⟩⟩⟩⟩⟩⟩⟩⟩⟩⟩⟩⟩⟩
theorem lw_p48 : lw_okq (⟨"QuorumLogModel", "change", "(II)I"⟩, 4) := ⟨⟨by decide +kernel, by decide +kernel⟩, lw_t10 (List.mem_of_getElem? (i := 82) rfl), lw_t11 (List.mem_of_getElem? (i := 233) rfl), lw_t11 (List.mem_of_getElem? (i := 234) rfl)⟩
theorem lw_p49 : lw_okq (⟨"QuorumLogModel", "isMessage", "(I)Z"⟩, 4) := ⟨⟨by decide +kernel, by decide +kernel⟩, lw_t10 (List.mem_of_getElem? (i := 82) rfl), lw_t12 (List.mem_of_getElem? (i := 12) rfl), lw_t12 (List.mem_of_getElem? (i := 13) rfl)⟩
theorem lw_p50 : lw_okq (⟨"QuorumLogModel", "ofMessage", "(II)I"⟩, 4) := ⟨⟨by decide +kernel, by decide +kernel⟩, lw_t10 (List.mem_of_getElem? (i := 82) rfl), lw_t12 (List.mem_of_getElem? (i := 31) rfl), lw_t12 (List.mem_of_getElem? (i := 32) rfl)⟩
theorem lw_p51 : lw_okq (⟨"QuorumLogModel", "ask", "(IIIII)I"⟩, 4) := ⟨⟨by decide +kernel, by decide +kernel⟩, lw_t10 (List.mem_of_getElem? (i := 82) rfl), lw_t12 (List.mem_of_getElem? (i := 55) rfl), lw_t12 (List.mem_of_getElem? (i := 56) rfl)⟩
theorem lw_p52 : lw_okq (⟨"QuorumLogModel", "isOpen", "(I)Z"⟩, 4) := ⟨⟨by decide +kernel, by decide +kernel⟩, lw_t10 (List.mem_of_getElem? (i := 82) rfl), lw_t12 (List.mem_of_getElem? (i := 80) rfl), lw_t12 (List.mem_of_getElem? (i := 81) rfl)⟩
theorem lw_p53 : lw_okq (⟨"QuorumLogModel", "of", "(I[I)I"⟩, 4) := ⟨⟨by decide +kernel, by decide +kernel⟩, lw_t10 (List.mem_of_getElem? (i := 82) rfl), lw_t12 (List.mem_of_getElem? (i := 113) rfl), lw_t12 (List.mem_of_getElem? (i := 114) rfl)⟩
theorem lw_p54 : lw_okq (⟨"QuorumLogModel", "ofEntry", "(III)I"⟩, 4) := ⟨⟨by decide +kernel, by decide +kernel⟩, lw_t10 (List.mem_of_getElem? (i := 82) rfl), lw_t12 (List.mem_of_getElem? (i := 172) rfl), lw_t12 (List.mem_of_getElem? (i := 173) rfl)⟩
theorem lw_p55 : lw_okq (⟨"QuorumLogModel", "ofOther", "(II[[I)I"⟩, 4) := ⟨⟨by decide +kernel, by decide +kernel⟩, lw_t10 (List.mem_of_getElem? (i := 82) rfl), lw_t12 (List.mem_of_getElem? (i := 201) rfl), lw_t12 (List.mem_of_getElem? (i := 202) rfl)⟩
theorem lw_p56 : lw_okq (⟨"QuorumLogModel", "leadersNow", "()I"⟩, 4) := ⟨⟨by decide +kernel, by decide +kernel⟩, lw_t10 (List.mem_of_getElem? (i := 82) rfl), lw_t12 (List.mem_of_getElem? (i := 221) rfl), lw_t12 (List.mem_of_getElem? (i := 222) rfl)⟩
theorem lw_p57 : lw_okq (⟨"QuorumLogModel", "roundsTill", "(II)I"⟩, 4) := ⟨⟨by decide +kernel, by decide +kernel⟩, lw_t10 (List.mem_of_getElem? (i := 82) rfl), lw_t13 (List.mem_of_getElem? (i := 29) rfl), lw_t13 (List.mem_of_getElem? (i := 30) rfl)⟩
theorem lw_p58 : lw_okq (⟨"QuorumLogModel", "hasCome", "(II)Z"⟩, 4) := ⟨⟨by decide +kernel, by decide +kernel⟩, lw_t10 (List.mem_of_getElem? (i := 82) rfl), lw_t13 (List.mem_of_getElem? (i := 33) rfl), lw_t13 (List.mem_of_getElem? (i := 34) rfl)⟩
theorem lw_p59 : lw_okq (⟨"QuorumLogModel", "add", "(I)V"⟩, 4) := ⟨⟨by decide +kernel, by decide +kernel⟩, lw_t10 (List.mem_of_getElem? (i := 82) rfl), lw_t13 (List.mem_of_getElem? (i := 75) rfl), lw_t13 (List.mem_of_getElem? (i := 76) rfl)⟩
theorem lw_p60 : lw_okq (⟨"QuorumLogModel", "addServer", "(I)V"⟩, 4) := ⟨⟨by decide +kernel, by decide +kernel⟩, lw_t10 (List.mem_of_getElem? (i := 82) rfl), lw_t13 (List.mem_of_getElem? (i := 81) rfl), lw_t13 (List.mem_of_getElem? (i := 82) rfl)⟩
def lw_privs_4 : List (MethodName × Nat) := [(⟨"QuorumLogModel", "change", "(II)I"⟩, 4), (⟨"QuorumLogModel", "isMessage", "(I)Z"⟩, 4), (⟨"QuorumLogModel", "ofMessage", "(II)I"⟩, 4), (⟨"QuorumLogModel", "ask", "(IIIII)I"⟩, 4), (⟨"QuorumLogModel", "isOpen", "(I)Z"⟩, 4), (⟨"QuorumLogModel", "of", "(I[I)I"⟩, 4), (⟨"QuorumLogModel", "ofEntry", "(III)I"⟩, 4), (⟨"QuorumLogModel", "ofOther", "(II[[I)I"⟩, 4), (⟨"QuorumLogModel", "leadersNow", "()I"⟩, 4), (⟨"QuorumLogModel", "roundsTill", "(II)I"⟩, 4), (⟨"QuorumLogModel", "hasCome", "(II)Z"⟩, 4), (⟨"QuorumLogModel", "add", "(I)V"⟩, 4), (⟨"QuorumLogModel", "addServer", "(I)V"⟩, 4)]
theorem lw_r4 : ∀ q ∈ lw_privs_4, lw_okq q := List.forall_mem_cons.mpr ⟨lw_p48, List.forall_mem_cons.mpr ⟨lw_p49, List.forall_mem_cons.mpr ⟨lw_p50, List.forall_mem_cons.mpr ⟨lw_p51, List.forall_mem_cons.mpr ⟨lw_p52, List.forall_mem_cons.mpr ⟨lw_p53, List.forall_mem_cons.mpr ⟨lw_p54, List.forall_mem_cons.mpr ⟨lw_p55, List.forall_mem_cons.mpr ⟨lw_p56, List.forall_mem_cons.mpr ⟨lw_p57, List.forall_mem_cons.mpr ⟨lw_p58, List.forall_mem_cons.mpr ⟨lw_p59, List.forall_mem_cons.mpr ⟨lw_p60, fun _ h => absurd h List.not_mem_nil⟩⟩⟩⟩⟩⟩⟩⟩⟩⟩⟩⟩⟩
def lw_privs : List (MethodName × Nat) := lw_privs_1 ++ (lw_privs_2 ++ (lw_privs_3 ++ (lw_privs_4)))
def lw_tbl : List Cond := k2_sels lw_privs ++ tables_1
theorem lw_privs_ok : ∀ q ∈ lw_privs, lw_okq q := by
  show ∀ q ∈ lw_privs_1 ++ (lw_privs_2 ++ (lw_privs_3 ++ (lw_privs_4))), lw_okq q
  exact List.forall_mem_append.mpr ⟨lw_r1, List.forall_mem_append.mpr ⟨lw_r2, List.forall_mem_append.mpr ⟨lw_r3, lw_r4⟩⟩⟩
-- ===== ONE list of words for every method: the tables' words that hold all through a run =====
def lw_all : List Cond := lw_tbl.filter goodWord
/-- a word of the tables by its place: claim/WORDS.tsv -/
theorem lw_w {w : Cond} (i : Nat) (h : lw_tbl[i]? = some w) (g : goodWord w = true) : w ∈ lw_all := List.mem_filter.mpr ⟨List.mem_of_getElem? h, g⟩
theorem lw_all_tbl {w : Cond} (h : w ∈ lw_all) : w ∈ lw_tbl := (List.mem_filter.mp h).1
theorem lw_self : GoodIn lw_all lw_all := fun w h => ⟨h, good_of_word (List.mem_filter.mp h).2⟩
/-- a class's field words, by their places -/
theorem lw_in (ws : List Cond) (ps : List Nat) (hp : ws = ps.filterMap (fun i => lw_tbl[i]?)) (hg : ws.all goodWord = true) : ∀ w ∈ ws, w ∈ lw_all := by
  intro w h
  have h1 := List.all_eq_true.mp hg w h
  rw [hp] at h
  obtain ⟨i, -, hi⟩ := List.mem_filterMap.mp h
  exact lw_w i hi h1
/-- the words of a contract for the method y with code b, L locals, answer r -/
abbrev ws_ (y : MethodName) (b : ByteArray) (L : Nat) (r : Option FieldType) : List Cond := Cond.code y b L r :: lw_all
theorem lw_meth {y : MethodName} {b : ByteArray} {L : Nat} {r : Option FieldType} (h : Cond.code y b L r ∈ lw_all) : GoodIn lw_all (ws_ y b L r) := by
  intro w hw
  rcases List.mem_cons.mp hw with e | e
  · rw [e]
    exact lw_self _ h
  · exact lw_self _ e
theorem lw_app {a c : List Cond} (ha : ∀ w ∈ a, w ∈ lw_all) (hc : GoodIn lw_all c) : GoodIn lw_all (a ++ c) := by
  intro w hw
  rcases List.mem_append.mp hw with e | e
  · exact lw_self w (ha w e)
  · exact hc w e
/-- what a call through an object asks: cwV n hts (lw_V ..) -/
theorem lw_V {own : String} {idx : Nat} {C : String} {y : MethodName} {b : ByteArray} {L : Nat} {r : Option FieldType} (h1 : Cond.methodLink own idx y ∈ lw_all) (h2 : Cond.instanceMethod y ∈ lw_all) (h3 : Cond.selects C y y ∈ lw_all) (h4 : Cond.initialized C ∈ lw_all) (h5 : Cond.code y b L r ∈ lw_all) : GoodIn lw_all (wsV own idx C y (ws_ y b L r)) := by
  refine lw_app ?_ (lw_meth h5)
  intro w hw
  simp only [List.mem_cons, List.not_mem_nil, or_false] at hw
  rcases hw with e | e | e | e
  · rw [e]; exact h1
  · rw [e]; exact h2
  · rw [e]; exact h3
  · rw [e]; exact h4
/-- what a static call asks: va_cwS n hts (lw_S ..) -/
theorem lw_S {own : String} {idx : Nat} {y : MethodName} {b : ByteArray} {L : Nat} {r : Option FieldType} (h1 : Cond.methodLink own idx y ∈ lw_all) (h2 : Cond.static y ∈ lw_all) (h3 : Cond.initialized y.cls ∈ lw_all) (h4 : Cond.code y b L r ∈ lw_all) : GoodIn lw_all (va_wsS own idx y (ws_ y b L r)) := by
  refine lw_app ?_ (lw_meth h4)
  intro w hw
  simp only [List.mem_cons, List.not_mem_nil, or_false] at hw
  rcases hw with e | e | e
  · rw [e]; exact h1
  · rw [e]; exact h2
  · rw [e]; exact h3
/-- the words of a contract for a method WITH HANDLERS (hh: its table) -/
abbrev wsW_ (y : MethodName) (b : ByteArray) (L : Nat) (r : Option FieldType) (hh : List (Nat × Nat × Nat × Nat)) : List Cond := Cond.codeWith y b L r hh :: lw_all
theorem lw_methW {y : MethodName} {b : ByteArray} {L : Nat} {r : Option FieldType} {hh : List (Nat × Nat × Nat × Nat)} (h : Cond.codeWith y b L r hh ∈ lw_all) : GoodIn lw_all (wsW_ y b L r hh) := by
  intro w hw
  rcases List.mem_cons.mp hw with e | e
  · rw [e]
    exact lw_self _ h
  · exact lw_self _ e
/-- any list of words by their places (lw_in), good -/
theorem lw_good {ws : List Cond} (h : ∀ w ∈ ws, w ∈ lw_all) : GoodIn lw_all ws := fun w hw => lw_self w (h w hw)
/-- what a call of a method with handlers asks: vx_cwVW n hts (lw_VW ..), vx_cwSW n hts (lw_SW ..) -/
theorem lw_VW {own : String} {idx : Nat} {C : String} {y : MethodName} {b : ByteArray} {L : Nat} {r : Option FieldType} {hh : List (Nat × Nat × Nat × Nat)} (h1 : Cond.methodLink own idx y ∈ lw_all) (h2 : Cond.instanceMethod y ∈ lw_all) (h3 : Cond.selects C y y ∈ lw_all) (h4 : Cond.initialized C ∈ lw_all) (h5 : Cond.codeWith y b L r hh ∈ lw_all) : GoodIn lw_all (wsV own idx C y (wsW_ y b L r hh)) := by
  refine lw_app ?_ (lw_methW h5)
  intro w hw
  simp only [List.mem_cons, List.not_mem_nil, or_false] at hw
  rcases hw with e | e | e | e
  · rw [e]; exact h1
  · rw [e]; exact h2
  · rw [e]; exact h3
  · rw [e]; exact h4
theorem lw_SW {own : String} {idx : Nat} {y : MethodName} {b : ByteArray} {L : Nat} {r : Option FieldType} {hh : List (Nat × Nat × Nat × Nat)} (h1 : Cond.methodLink own idx y ∈ lw_all) (h2 : Cond.static y ∈ lw_all) (h3 : Cond.initialized y.cls ∈ lw_all) (h4 : Cond.codeWith y b L r hh ∈ lw_all) : GoodIn lw_all (va_wsS own idx y (wsW_ y b L r hh)) := by
  refine lw_app ?_ (lw_methW h4)
  intro w hw
  simp only [List.mem_cons, List.not_mem_nil, or_false] at hw
  rcases hw with e | e | e
  · rw [e]; exact h1
  · rw [e]; exact h2
  · rw [e]; exact h3
/-- a word by its place in its run of the tables -/
theorem lw_at {r : List Cond} (hr : ∀ w ∈ r, w ∈ lw_tbl) {w : Cond} (i : Nat) (h : r[i]? = some w) : w ∈ lw_tbl := hr w (List.mem_of_getElem? h)
theorem lw_g {w : Cond} (h : w ∈ lw_tbl) (g : goodWord w = true) : w ∈ lw_all := List.mem_filter.mpr ⟨h, g⟩
theorem lw_ms : ∀ w ∈ k2_sels lw_privs, w ∈ lw_tbl := fun w h => show w ∈ k2_sels lw_privs ++ tables_1 from List.mem_append_left _ h
theorem lw_m1 : ∀ w ∈ tables_1_1, w ∈ lw_tbl := fun w h => show w ∈ k2_sels lw_privs ++ tables_1 from List.mem_append_right (k2_sels lw_privs) (show w ∈ tables_1 from List.mem_append_left _ h)
theorem lw_m2 : ∀ w ∈ tables_1_2, w ∈ lw_tbl := fun w h => show w ∈ k2_sels lw_privs ++ tables_1 from List.mem_append_right (k2_sels lw_privs) (show w ∈ tables_1 from List.mem_append_right _ (List.mem_append_left _ h))
theorem lw_m3 : ∀ w ∈ tables_1_3, w ∈ lw_tbl := fun w h => show w ∈ k2_sels lw_privs ++ tables_1 from List.mem_append_right (k2_sels lw_privs) (show w ∈ tables_1 from List.mem_append_right _ (List.mem_append_right _ (List.mem_append_left _ h)))
theorem lw_m4 : ∀ w ∈ tables_1_4, w ∈ lw_tbl := fun w h => show w ∈ k2_sels lw_privs ++ tables_1 from List.mem_append_right (k2_sels lw_privs) (show w ∈ tables_1 from List.mem_append_right _ (List.mem_append_right _ (List.mem_append_right _ (List.mem_append_left _ h))))
theorem lw_m5 : ∀ w ∈ tables_1_5, w ∈ lw_tbl := fun w h => show w ∈ k2_sels lw_privs ++ tables_1 from List.mem_append_right (k2_sels lw_privs) (show w ∈ tables_1 from List.mem_append_right _ (List.mem_append_right _ (List.mem_append_right _ (List.mem_append_right _ (List.mem_append_left _ h)))))
theorem lw_m6 : ∀ w ∈ tables_1_6, w ∈ lw_tbl := fun w h => show w ∈ k2_sels lw_privs ++ tables_1 from List.mem_append_right (k2_sels lw_privs) (show w ∈ tables_1 from List.mem_append_right _ (List.mem_append_right _ (List.mem_append_right _ (List.mem_append_right _ (List.mem_append_right _ (List.mem_append_left _ h))))))
theorem lw_m7 : ∀ w ∈ tables_1_7, w ∈ lw_tbl := fun w h => show w ∈ k2_sels lw_privs ++ tables_1 from List.mem_append_right (k2_sels lw_privs) (show w ∈ tables_1 from List.mem_append_right _ (List.mem_append_right _ (List.mem_append_right _ (List.mem_append_right _ (List.mem_append_right _ (List.mem_append_right _ (List.mem_append_left _ h)))))))
theorem lw_m8 : ∀ w ∈ tables_1_8, w ∈ lw_tbl := fun w h => show w ∈ k2_sels lw_privs ++ tables_1 from List.mem_append_right (k2_sels lw_privs) (show w ∈ tables_1 from List.mem_append_right _ (List.mem_append_right _ (List.mem_append_right _ (List.mem_append_right _ (List.mem_append_right _ (List.mem_append_right _ (List.mem_append_right _ (List.mem_append_left _ h))))))))
theorem lw_m9 : ∀ w ∈ tables_1_9, w ∈ lw_tbl := fun w h => show w ∈ k2_sels lw_privs ++ tables_1 from List.mem_append_right (k2_sels lw_privs) (show w ∈ tables_1 from List.mem_append_right _ (List.mem_append_right _ (List.mem_append_right _ (List.mem_append_right _ (List.mem_append_right _ (List.mem_append_right _ (List.mem_append_right _ (List.mem_append_right _ (List.mem_append_left _ h)))))))))
theorem lw_m10 : ∀ w ∈ tables_1_10, w ∈ lw_tbl := fun w h => show w ∈ k2_sels lw_privs ++ tables_1 from List.mem_append_right (k2_sels lw_privs) (show w ∈ tables_1 from List.mem_append_right _ (List.mem_append_right _ (List.mem_append_right _ (List.mem_append_right _ (List.mem_append_right _ (List.mem_append_right _ (List.mem_append_right _ (List.mem_append_right _ (List.mem_append_right _ (List.mem_append_left _ h))))))))))
theorem lw_m11 : ∀ w ∈ tables_1_11, w ∈ lw_tbl := fun w h => show w ∈ k2_sels lw_privs ++ tables_1 from List.mem_append_right (k2_sels lw_privs) (show w ∈ tables_1 from List.mem_append_right _ (List.mem_append_right _ (List.mem_append_right _ (List.mem_append_right _ (List.mem_append_right _ (List.mem_append_right _ (List.mem_append_right _ (List.mem_append_right _ (List.mem_append_right _ (List.mem_append_right _ (List.mem_append_left _ h)))))))))))
theorem lw_m12 : ∀ w ∈ tables_1_12, w ∈ lw_tbl := fun w h => show w ∈ k2_sels lw_privs ++ tables_1 from List.mem_append_right (k2_sels lw_privs) (show w ∈ tables_1 from List.mem_append_right _ (List.mem_append_right _ (List.mem_append_right _ (List.mem_append_right _ (List.mem_append_right _ (List.mem_append_right _ (List.mem_append_right _ (List.mem_append_right _ (List.mem_append_right _ (List.mem_append_right _ (List.mem_append_right _ (List.mem_append_left _ h))))))))))))
theorem lw_m13 : ∀ w ∈ tables_1_13, w ∈ lw_tbl := fun w h => show w ∈ k2_sels lw_privs ++ tables_1 from List.mem_append_right (k2_sels lw_privs) (show w ∈ tables_1 from List.mem_append_right _ (List.mem_append_right _ (List.mem_append_right _ (List.mem_append_right _ (List.mem_append_right _ (List.mem_append_right _ (List.mem_append_right _ (List.mem_append_right _ (List.mem_append_right _ (List.mem_append_right _ (List.mem_append_right _ (List.mem_append_right _ h))))))))))))
theorem qs0 : (Cond.selects "java/util/BitSet" ⟨"java/util/BitSet", "initWords", "(I)V"⟩ ⟨"java/util/BitSet", "initWords", "(I)V"⟩) ∈ lw_all := lw_g (lw_at lw_ms 0 rfl) rfl
theorem qs1 : (Cond.selects "java/lang/Throwable" ⟨"java/lang/Throwable", "fillInStackTrace", "(I)Ljava/lang/Throwable;"⟩ ⟨"java/lang/Throwable", "fillInStackTrace", "(I)Ljava/lang/Throwable;"⟩) ∈ lw_all := lw_g (lw_at lw_ms 1 rfl) rfl
theorem qs2 : (Cond.selects "java/util/BitSet" ⟨"java/util/BitSet", "expandTo", "(I)V"⟩ ⟨"java/util/BitSet", "expandTo", "(I)V"⟩) ∈ lw_all := lw_g (lw_at lw_ms 2 rfl) rfl
theorem qs3 : (Cond.selects "java/util/BitSet" ⟨"java/util/BitSet", "ensureCapacity", "(I)V"⟩ ⟨"java/util/BitSet", "ensureCapacity", "(I)V"⟩) ∈ lw_all := lw_g (lw_at lw_ms 3 rfl) rfl
theorem qs4 : (Cond.selects "java/util/BitSet" ⟨"java/util/BitSet", "checkInvariants", "()V"⟩ ⟨"java/util/BitSet", "checkInvariants", "()V"⟩) ∈ lw_all := lw_g (lw_at lw_ms 4 rfl) rfl
theorem qs5 : (Cond.selects "java/util/ArrayList" ⟨"java/util/ArrayList", "grow", "(I)[Ljava/lang/Object;"⟩ ⟨"java/util/ArrayList", "grow", "(I)[Ljava/lang/Object;"⟩) ∈ lw_all := lw_g (lw_at lw_ms 5 rfl) rfl
theorem qs6 : (Cond.selects "QuorumLog$Server" ⟨"QuorumLog$Server", "sendTo", "(I)V"⟩ ⟨"QuorumLog$Server", "sendTo", "(I)V"⟩) ∈ lw_all := lw_g (lw_at lw_ms 6 rfl) rfl
theorem qs7 : (Cond.selects "java/util/ArrayList" ⟨"java/util/ArrayList", "add", "(Ljava/lang/Object;[Ljava/lang/Object;I)V"⟩ ⟨"java/util/ArrayList", "add", "(Ljava/lang/Object;[Ljava/lang/Object;I)V"⟩) ∈ lw_all := lw_g (lw_at lw_ms 7 rfl) rfl
theorem qs8 : (Cond.selects "java/util/ArrayList" ⟨"java/util/ArrayList", "grow", "()[Ljava/lang/Object;"⟩ ⟨"java/util/ArrayList", "grow", "()[Ljava/lang/Object;"⟩) ∈ lw_all := lw_g (lw_at lw_ms 8 rfl) rfl
theorem qs9 : (Cond.selects "QuorumLog$Server" ⟨"QuorumLog$Server", "begin", "(LQuorumLog$Role;)V"⟩ ⟨"QuorumLog$Server", "begin", "(LQuorumLog$Role;)V"⟩) ∈ lw_all := lw_g (lw_at lw_ms 9 rfl) rfl
theorem qs10 : (Cond.selects "QuorumLog$Server" ⟨"QuorumLog$Server", "be", "(LQuorumLog$Role;I)V"⟩ ⟨"QuorumLog$Server", "be", "(LQuorumLog$Role;I)V"⟩) ∈ lw_all := lw_g (lw_at lw_ms 10 rfl) rfl
theorem qs11 : (Cond.selects "QuorumLog$Server" ⟨"QuorumLog$Server", "isElected", "()Z"⟩ ⟨"QuorumLog$Server", "isElected", "()Z"⟩) ∈ lw_all := lw_g (lw_at lw_ms 11 rfl) rfl
theorem qs12 : (Cond.selects "QuorumLog$Server" ⟨"QuorumLog$Server", "lead", "()V"⟩ ⟨"QuorumLog$Server", "lead", "()V"⟩) ∈ lw_all := lw_g (lw_at lw_ms 12 rfl) rfl
theorem qs13 : (Cond.selects "QuorumLog$Server" ⟨"QuorumLog$Server", "lookCommitted", "()V"⟩ ⟨"QuorumLog$Server", "lookCommitted", "()V"⟩) ∈ lw_all := lw_g (lw_at lw_ms 13 rfl) rfl
theorem qs14 : (Cond.selects "QuorumLog$Server" ⟨"QuorumLog$Server", "isHeldByMost", "(I)Z"⟩ ⟨"QuorumLog$Server", "isHeldByMost", "(I)Z"⟩) ∈ lw_all := lw_g (lw_at lw_ms 14 rfl) rfl
theorem qs15 : (Cond.selects "java/util/ArrayList" ⟨"java/util/ArrayList", "fastRemove", "([Ljava/lang/Object;I)V"⟩ ⟨"java/util/ArrayList", "fastRemove", "([Ljava/lang/Object;I)V"⟩) ∈ lw_all := lw_g (lw_at lw_ms 15 rfl) rfl
theorem qs16 : (Cond.selects "QuorumLog$Entries" ⟨"QuorumLog$Entries", "lay", "(LQuorumLog$Server;ILQuorumLog$Entry;)V"⟩ ⟨"QuorumLog$Entries", "lay", "(LQuorumLog$Server;ILQuorumLog$Entry;)V"⟩) ∈ lw_all := lw_g (lw_at lw_ms 16 rfl) rfl
theorem qs17 : (Cond.selects "QuorumLog" ⟨"QuorumLog", "message", "(I)LQuorumLog$Message;"⟩ ⟨"QuorumLog", "message", "(I)LQuorumLog$Message;"⟩) ∈ lw_all := lw_g (lw_at lw_ms 17 rfl) rfl
theorem qs18 : (Cond.selects "QuorumLog" ⟨"QuorumLog", "client", "(I)LQuorumLog$Client;"⟩ ⟨"QuorumLog", "client", "(I)LQuorumLog$Client;"⟩) ∈ lw_all := lw_g (lw_at lw_ms 18 rfl) rfl
theorem qs19 : (Cond.selects "QuorumLog" ⟨"QuorumLog", "digestServer", "(JI)J"⟩ ⟨"QuorumLog", "digestServer", "(JI)J"⟩) ∈ lw_all := lw_g (lw_at lw_ms 19 rfl) rfl
theorem qs20 : (Cond.selects "QuorumLog" ⟨"QuorumLog", "server", "(I)LQuorumLog$Server;"⟩ ⟨"QuorumLog", "server", "(I)LQuorumLog$Server;"⟩) ∈ lw_all := lw_g (lw_at lw_ms 20 rfl) rfl
theorem qs21 : (Cond.selects "QuorumLog" ⟨"QuorumLog", "digestEntry", "(JII)J"⟩ ⟨"QuorumLog", "digestEntry", "(JII)J"⟩) ∈ lw_all := lw_g (lw_at lw_ms 21 rfl) rfl
theorem qs22 : (Cond.selects "QuorumLog" ⟨"QuorumLog", "entry", "(II)LQuorumLog$Entry;"⟩ ⟨"QuorumLog", "entry", "(II)LQuorumLog$Entry;"⟩) ∈ lw_all := lw_g (lw_at lw_ms 22 rfl) rfl
theorem qs23 : (Cond.selects "QuorumLog" ⟨"QuorumLog", "setLink", "(IIZ)I"⟩ ⟨"QuorumLog", "setLink", "(IIZ)I"⟩) ∈ lw_all := lw_g (lw_at lw_ms 23 rfl) rfl
theorem qs24 : (Cond.selects "java/util/BitSet" ⟨"java/util/BitSet", "recalculateWordsInUse", "()V"⟩ ⟨"java/util/BitSet", "recalculateWordsInUse", "()V"⟩) ∈ lw_all := lw_g (lw_at lw_ms 24 rfl) rfl
theorem qs25 : (Cond.selects "QuorumLog" ⟨"QuorumLog", "ask", "(LQuorumLog$Deed;IIII)I"⟩ ⟨"QuorumLog", "ask", "(LQuorumLog$Deed;IIII)I"⟩) ∈ lw_all := lw_g (lw_at lw_ms 25 rfl) rfl
theorem qs26 : (Cond.selects "QuorumLog" ⟨"QuorumLog", "leaderFor", "(II)LQuorumLog$Server;"⟩ ⟨"QuorumLog", "leaderFor", "(II)LQuorumLog$Server;"⟩) ∈ lw_all := lw_g (lw_at lw_ms 26 rfl) rfl
theorem qs27 : (Cond.selects "QuorumLogModel" ⟨"QuorumLogModel", "refuse", "(I)I"⟩ ⟨"QuorumLogModel", "refuse", "(I)I"⟩) ∈ lw_all := lw_g (lw_at lw_ms 27 rfl) rfl
theorem qs28 : (Cond.selects "QuorumLogModel" ⟨"QuorumLogModel", "up", "()I"⟩ ⟨"QuorumLogModel", "up", "()I"⟩) ∈ lw_all := lw_g (lw_at lw_ms 28 rfl) rfl
theorem qs29 : (Cond.selects "QuorumLogModel" ⟨"QuorumLogModel", "link", "(III)I"⟩ ⟨"QuorumLogModel", "link", "(III)I"⟩) ∈ lw_all := lw_g (lw_at lw_ms 29 rfl) rfl
theorem qs30 : (Cond.selects "QuorumLogModel" ⟨"QuorumLogModel", "cutLinks", "()I"⟩ ⟨"QuorumLogModel", "cutLinks", "()I"⟩) ∈ lw_all := lw_g (lw_at lw_ms 30 rfl) rfl
theorem qs31 : (Cond.selects "QuorumLogModel$State" ⟨"QuorumLogModel$State", "takeTurn", "(I)V"⟩ ⟨"QuorumLogModel$State", "takeTurn", "(I)V"⟩) ∈ lw_all := lw_g (lw_at lw_ms 31 rfl) rfl
theorem qs32 : (Cond.selects "QuorumLogModel$State" ⟨"QuorumLogModel$State", "sendLog", "(II)V"⟩ ⟨"QuorumLogModel$State", "sendLog", "(II)V"⟩) ∈ lw_all := lw_g (lw_at lw_ms 32 rfl) rfl
theorem qs33 : (Cond.selects "QuorumLogModel$State" ⟨"QuorumLogModel$State", "send", "(IIIIII)I"⟩ ⟨"QuorumLogModel$State", "send", "(IIIIII)I"⟩) ∈ lw_all := lw_g (lw_at lw_ms 33 rfl) rfl
theorem qs34 : (Cond.selects "QuorumLogModel$State" ⟨"QuorumLogModel$State", "stand", "(I)V"⟩ ⟨"QuorumLogModel$State", "stand", "(I)V"⟩) ∈ lw_all := lw_g (lw_at lw_ms 34 rfl) rfl
theorem qs35 : (Cond.selects "QuorumLogModel$State" ⟨"QuorumLogModel$State", "lead", "(I)V"⟩ ⟨"QuorumLogModel$State", "lead", "(I)V"⟩) ∈ lw_all := lw_g (lw_at lw_ms 35 rfl) rfl
theorem qs36 : (Cond.selects "QuorumLogModel$State" ⟨"QuorumLogModel$State", "makeRoom", "(II)V"⟩ ⟨"QuorumLogModel$State", "makeRoom", "(II)V"⟩) ∈ lw_all := lw_g (lw_at lw_ms 36 rfl) rfl
theorem qs37 : (Cond.selects "QuorumLogModel$State" ⟨"QuorumLogModel$State", "apply", "(I)V"⟩ ⟨"QuorumLogModel$State", "apply", "(I)V"⟩) ∈ lw_all := lw_g (lw_at lw_ms 37 rfl) rfl
theorem qs38 : (Cond.selects "QuorumLogModel$State" ⟨"QuorumLogModel$State", "applyRequest", "(III)V"⟩ ⟨"QuorumLogModel$State", "applyRequest", "(III)V"⟩) ∈ lw_all := lw_g (lw_at lw_ms 38 rfl) rfl
theorem qs39 : (Cond.selects "QuorumLogModel$State" ⟨"QuorumLogModel$State", "ask", "(III)V"⟩ ⟨"QuorumLogModel$State", "ask", "(III)V"⟩) ∈ lw_all := lw_g (lw_at lw_ms 39 rfl) rfl
theorem qs40 : (Cond.selects "QuorumLogModel$State" ⟨"QuorumLogModel$State", "arrive", "(IIIII)V"⟩ ⟨"QuorumLogModel$State", "arrive", "(IIIII)V"⟩) ∈ lw_all := lw_g (lw_at lw_ms 40 rfl) rfl
theorem qs41 : (Cond.selects "QuorumLogModel$State" ⟨"QuorumLogModel$State", "takeEntries", "(IIIII)V"⟩ ⟨"QuorumLogModel$State", "takeEntries", "(IIIII)V"⟩) ∈ lw_all := lw_g (lw_at lw_ms 41 rfl) rfl
theorem qs42 : (Cond.selects "QuorumLogModel$State" ⟨"QuorumLogModel$State", "isOld", "(III)Z"⟩ ⟨"QuorumLogModel$State", "isOld", "(III)Z"⟩) ∈ lw_all := lw_g (lw_at lw_ms 42 rfl) rfl
theorem qs43 : (Cond.selects "QuorumLogModel$State" ⟨"QuorumLogModel$State", "aheadOfRun", "(II)I"⟩ ⟨"QuorumLogModel$State", "aheadOfRun", "(II)I"⟩) ∈ lw_all := lw_g (lw_at lw_ms 43 rfl) rfl
theorem qs44 : (Cond.selects "QuorumLogModel$State" ⟨"QuorumLogModel$State", "takeAnswer", "(IIIII)V"⟩ ⟨"QuorumLogModel$State", "takeAnswer", "(IIIII)V"⟩) ∈ lw_all := lw_g (lw_at lw_ms 44 rfl) rfl
theorem qs45 : (Cond.selects "QuorumLogModel$State" ⟨"QuorumLogModel$State", "takeSnapshot", "(IIIII)V"⟩ ⟨"QuorumLogModel$State", "takeSnapshot", "(IIIII)V"⟩) ∈ lw_all := lw_g (lw_at lw_ms 45 rfl) rfl
theorem qs46 : (Cond.selects "QuorumLogModel" ⟨"QuorumLogModel", "isLeader", "(I)Z"⟩ ⟨"QuorumLogModel", "isLeader", "(I)Z"⟩) ∈ lw_all := lw_g (lw_at lw_ms 46 rfl) rfl
theorem qs47 : (Cond.selects "QuorumLogModel" ⟨"QuorumLogModel", "canChange", "(I)Z"⟩ ⟨"QuorumLogModel", "canChange", "(I)Z"⟩) ∈ lw_all := lw_g (lw_at lw_ms 47 rfl) rfl
theorem qs48 : (Cond.selects "QuorumLogModel" ⟨"QuorumLogModel", "change", "(II)I"⟩ ⟨"QuorumLogModel", "change", "(II)I"⟩) ∈ lw_all := lw_g (lw_at lw_ms 48 rfl) rfl
theorem qs49 : (Cond.selects "QuorumLogModel" ⟨"QuorumLogModel", "isMessage", "(I)Z"⟩ ⟨"QuorumLogModel", "isMessage", "(I)Z"⟩) ∈ lw_all := lw_g (lw_at lw_ms 49 rfl) rfl
theorem qs50 : (Cond.selects "QuorumLogModel" ⟨"QuorumLogModel", "ofMessage", "(II)I"⟩ ⟨"QuorumLogModel", "ofMessage", "(II)I"⟩) ∈ lw_all := lw_g (lw_at lw_ms 50 rfl) rfl
theorem qs51 : (Cond.selects "QuorumLogModel" ⟨"QuorumLogModel", "ask", "(IIIII)I"⟩ ⟨"QuorumLogModel", "ask", "(IIIII)I"⟩) ∈ lw_all := lw_g (lw_at lw_ms 51 rfl) rfl
theorem qs52 : (Cond.selects "QuorumLogModel" ⟨"QuorumLogModel", "isOpen", "(I)Z"⟩ ⟨"QuorumLogModel", "isOpen", "(I)Z"⟩) ∈ lw_all := lw_g (lw_at lw_ms 52 rfl) rfl
theorem qs53 : (Cond.selects "QuorumLogModel" ⟨"QuorumLogModel", "of", "(I[I)I"⟩ ⟨"QuorumLogModel", "of", "(I[I)I"⟩) ∈ lw_all := lw_g (lw_at lw_ms 53 rfl) rfl
theorem qs54 : (Cond.selects "QuorumLogModel" ⟨"QuorumLogModel", "ofEntry", "(III)I"⟩ ⟨"QuorumLogModel", "ofEntry", "(III)I"⟩) ∈ lw_all := lw_g (lw_at lw_ms 54 rfl) rfl
theorem qs55 : (Cond.selects "QuorumLogModel" ⟨"QuorumLogModel", "ofOther", "(II[[I)I"⟩ ⟨"QuorumLogModel", "ofOther", "(II[[I)I"⟩) ∈ lw_all := lw_g (lw_at lw_ms 55 rfl) rfl
theorem qs56 : (Cond.selects "QuorumLogModel" ⟨"QuorumLogModel", "leadersNow", "()I"⟩ ⟨"QuorumLogModel", "leadersNow", "()I"⟩) ∈ lw_all := lw_g (lw_at lw_ms 56 rfl) rfl
theorem qs57 : (Cond.selects "QuorumLogModel" ⟨"QuorumLogModel", "roundsTill", "(II)I"⟩ ⟨"QuorumLogModel", "roundsTill", "(II)I"⟩) ∈ lw_all := lw_g (lw_at lw_ms 57 rfl) rfl
theorem qs58 : (Cond.selects "QuorumLogModel" ⟨"QuorumLogModel", "hasCome", "(II)Z"⟩ ⟨"QuorumLogModel", "hasCome", "(II)Z"⟩) ∈ lw_all := lw_g (lw_at lw_ms 58 rfl) rfl
theorem qs59 : (Cond.selects "QuorumLogModel" ⟨"QuorumLogModel", "add", "(I)V"⟩ ⟨"QuorumLogModel", "add", "(I)V"⟩) ∈ lw_all := lw_g (lw_at lw_ms 59 rfl) rfl
theorem qs60 : (Cond.selects "QuorumLogModel" ⟨"QuorumLogModel", "addServer", "(I)V"⟩ ⟨"QuorumLogModel", "addServer", "(I)V"⟩) ∈ lw_all := lw_g (lw_at lw_ms 60 rfl) rfl
end
section
/-! DECODE ROWS BY BYTES: one lemma an opcode; a method's code is cut into short pieces once, and a row reads its own piece alone. -/
set_option maxRecDepth 100000
/-- the code has just these bytes from pc on -/
def DkAt (code : ByteArray) (pc : Nat) (bs : List UInt8) : Prop := ∀ (j : Nat) (b : UInt8), bs[j]? = some b → code.data.toList[pc + j]? = some b
/-- the piece W has the bytes bs from its place j on -/
def dkIn (W : List UInt8) (j : Nat) (bs : List UInt8) : Bool := decide ((W.drop j).take bs.length = bs)
theorem dk_seg {l W T : List UInt8} {o o2 : Nat} (h : l.drop o = W ++ T) (n : Nat) (hn : W.length = n) (ho : o + n = o2) : l.drop o2 = T := by
  subst ho
  rw [← List.drop_drop, h, List.drop_left' hn]
theorem dk_at {code : ByteArray} {W T bs : List UInt8} {o pc : Nat} (h : code.data.toList.drop o = W ++ T) (j : Nat) (hp : o + j = pc) (hw : dkIn W j bs = true) : DkAt code pc bs := by
  subst hp
  intro i b e
  have h1 := of_decide_eq_true hw
  have h2 : i < bs.length := (List.getElem?_eq_some_iff.mp e).1
  have h3 : W[j + i]? = some b := by
    rw [← h1, List.getElem?_take, if_pos h2, List.getElem?_drop] at e
    exact e
  have h4 : j + i < W.length := (List.getElem?_eq_some_iff.mp h3).1
  have h5 : (code.data.toList.drop o)[j + i]? = some b := by
    rw [h, List.getElem?_append_left h4]
    exact h3
  rw [List.getElem?_drop, ← Nat.add_assoc] at h5
  exact h5
theorem dk_u1 {A : ByteArray} {p : Nat} {b : UInt8} (h : A.data.toList[p]? = some b) : (Reader.u1 : Reader DecodeError Nat) A p = .ok (b.toNat, p + 1) := by
  obtain ⟨h1, h2⟩ := List.getElem?_eq_some_iff.mp h
  have h3 : p < A.size := by simpa using h1
  have h4 : A[p]'h3 = b := h2
  have e : (Reader.u1 : Reader DecodeError Nat) A p = (if h : p < A.size then .ok (A[p].toNat, p + 1) else .error (HasTruncated.truncated p)) := by
    show (do if h : p < A.size then do set (p + 1); Pure.pure A[p].toNat else MonadExcept.throw (HasTruncated.truncated p) : Reader DecodeError Nat) A p = _
    by_cases hi : p < A.size
    · rw [dif_pos hi, dif_pos hi]; rfl
    · rw [dif_neg hi, dif_neg hi]; rfl
  rw [e, dif_pos h3, h4]
theorem dk_bind {α β : Type} {r : Reader DecodeError α} {f : α → Reader DecodeError β} {A : ByteArray} {p s : Nat} {a : α} (h : r A p = .ok (a, s)) : (r >>= f) A p = f a A s := by
  show (do let (a, s) ← r A p; f a A s : Except DecodeError (β × Nat)) = _
  rw [h]
  rfl
theorem dk_map {α β : Type} {r : Reader DecodeError α} {g : α → β} {A : ByteArray} {p s : Nat} {a : α} (h : r A p = .ok (a, s)) : (g <$> r) A p = .ok (g a, s) := by
  show (do let (a, s) ← r A p; .ok (g a, s) : Except DecodeError (β × Nat)) = _
  rw [h]
  rfl
theorem dk_u2 {A : ByteArray} {p : Nat} {a b : UInt8} (h : A.data.toList[p]? = some a) (h2 : A.data.toList[p + 1]? = some b) : (Reader.u2 : Reader DecodeError Nat) A p = .ok (a.toNat * 256 + b.toNat, p + 2) := by
  show (Reader.u1 >>= fun hi => Reader.u1 >>= fun lo => Pure.pure (hi * 256 + lo) : Reader DecodeError Nat) A p = _
  rw [dk_bind (dk_u1 h), dk_bind (dk_u1 h2)]
  rfl
theorem dk_of {code : ByteArray} {pc n : Nat} {i : Instr} (h : Decoder.instr pc code pc = .ok (i, pc + n)) : decode code pc = .ok (i, n) := by
  have e : decode code pc = (match Decoder.instr pc code pc with | .error x => .error x | .ok (j, s) => .ok (j, s - pc)) := by
    show (do let (j, s) ← Decoder.instr pc code pc; Pure.pure (j, s - pc) : Except DecodeError (Instr × Nat)) = _
    cases Decoder.instr pc code pc <;> rfl
  rw [e, h]
  show Except.ok (i, pc + n - pc) = _
  rw [Nat.add_sub_cancel_left]
theorem dk_1 {code : ByteArray} {pc : Nat} (h : DkAt code pc [1]) : decode code pc = .ok (.aconst_null, 1) := dk_of ((dk_bind (dk_u1 (h 0 _ rfl))).trans rfl)
theorem dk_2 {code : ByteArray} {pc : Nat} (h : DkAt code pc [2]) : decode code pc = .ok (.iconst (-1), 1) := dk_of ((dk_bind (dk_u1 (h 0 _ rfl))).trans rfl)
theorem dk_3 {code : ByteArray} {pc : Nat} (h : DkAt code pc [3]) : decode code pc = .ok (.iconst 0, 1) := dk_of ((dk_bind (dk_u1 (h 0 _ rfl))).trans rfl)
theorem dk_4 {code : ByteArray} {pc : Nat} (h : DkAt code pc [4]) : decode code pc = .ok (.iconst 1, 1) := dk_of ((dk_bind (dk_u1 (h 0 _ rfl))).trans rfl)
theorem dk_5 {code : ByteArray} {pc : Nat} (h : DkAt code pc [5]) : decode code pc = .ok (.iconst 2, 1) := dk_of ((dk_bind (dk_u1 (h 0 _ rfl))).trans rfl)
theorem dk_6 {code : ByteArray} {pc : Nat} (h : DkAt code pc [6]) : decode code pc = .ok (.iconst 3, 1) := dk_of ((dk_bind (dk_u1 (h 0 _ rfl))).trans rfl)
theorem dk_7 {code : ByteArray} {pc : Nat} (h : DkAt code pc [7]) : decode code pc = .ok (.iconst 4, 1) := dk_of ((dk_bind (dk_u1 (h 0 _ rfl))).trans rfl)
theorem dk_8 {code : ByteArray} {pc : Nat} (h : DkAt code pc [8]) : decode code pc = .ok (.iconst 5, 1) := dk_of ((dk_bind (dk_u1 (h 0 _ rfl))).trans rfl)
theorem dk_9 {code : ByteArray} {pc : Nat} (h : DkAt code pc [9]) : decode code pc = .ok (.lconst 0, 1) := dk_of ((dk_bind (dk_u1 (h 0 _ rfl))).trans rfl)
theorem dk_10 {code : ByteArray} {pc : Nat} (h : DkAt code pc [10]) : decode code pc = .ok (.lconst 1, 1) := dk_of ((dk_bind (dk_u1 (h 0 _ rfl))).trans rfl)
theorem dk_14 {code : ByteArray} {pc : Nat} (h : DkAt code pc [14]) : decode code pc = .ok (.dconst 0, 1) := dk_of ((dk_bind (dk_u1 (h 0 _ rfl))).trans rfl)
theorem dk_16 {code : ByteArray} {pc : Nat} (a : UInt8) (h : DkAt code pc [16, a]) : decode code pc = .ok (.bipush (Reader.signed 8 a.toNat), 2) := dk_of ((dk_bind (dk_u1 (h 0 _ rfl))).trans ((dk_bind (dk_map (dk_u1 (h 1 _ rfl)))).trans rfl))
theorem dk_17 {code : ByteArray} {pc : Nat} (a b : UInt8) (h : DkAt code pc [17, a, b]) : decode code pc = .ok (.sipush (Reader.signed 16 (a.toNat * 256 + b.toNat)), 3) := dk_of ((dk_bind (dk_u1 (h 0 _ rfl))).trans ((dk_bind (dk_map (dk_u2 (h 1 _ rfl) (h 2 _ rfl)))).trans rfl))
theorem dk_18 {code : ByteArray} {pc : Nat} (a : UInt8) (h : DkAt code pc [18, a]) : decode code pc = .ok (.ldc a.toNat, 2) := dk_of ((dk_bind (dk_u1 (h 0 _ rfl))).trans ((dk_bind (dk_u1 (h 1 _ rfl))).trans rfl))
theorem dk_19 {code : ByteArray} {pc : Nat} (a b : UInt8) (h : DkAt code pc [19, a, b]) : decode code pc = .ok (.ldc_w (a.toNat * 256 + b.toNat), 3) := dk_of ((dk_bind (dk_u1 (h 0 _ rfl))).trans ((dk_bind (dk_u2 (h 1 _ rfl) (h 2 _ rfl))).trans rfl))
theorem dk_20 {code : ByteArray} {pc : Nat} (a b : UInt8) (h : DkAt code pc [20, a, b]) : decode code pc = .ok (.ldc2_w (a.toNat * 256 + b.toNat), 3) := dk_of ((dk_bind (dk_u1 (h 0 _ rfl))).trans ((dk_bind (dk_u2 (h 1 _ rfl) (h 2 _ rfl))).trans rfl))
theorem dk_21 {code : ByteArray} {pc : Nat} (a : UInt8) (h : DkAt code pc [21, a]) : decode code pc = .ok (.iload a.toNat, 2) := dk_of ((dk_bind (dk_u1 (h 0 _ rfl))).trans ((dk_bind (dk_u1 (h 1 _ rfl))).trans rfl))
theorem dk_22 {code : ByteArray} {pc : Nat} (a : UInt8) (h : DkAt code pc [22, a]) : decode code pc = .ok (.lload a.toNat, 2) := dk_of ((dk_bind (dk_u1 (h 0 _ rfl))).trans ((dk_bind (dk_u1 (h 1 _ rfl))).trans rfl))
theorem dk_24 {code : ByteArray} {pc : Nat} (a : UInt8) (h : DkAt code pc [24, a]) : decode code pc = .ok (.dload a.toNat, 2) := dk_of ((dk_bind (dk_u1 (h 0 _ rfl))).trans ((dk_bind (dk_u1 (h 1 _ rfl))).trans rfl))
theorem dk_25 {code : ByteArray} {pc : Nat} (a : UInt8) (h : DkAt code pc [25, a]) : decode code pc = .ok (.aload a.toNat, 2) := dk_of ((dk_bind (dk_u1 (h 0 _ rfl))).trans ((dk_bind (dk_u1 (h 1 _ rfl))).trans rfl))
theorem dk_26 {code : ByteArray} {pc : Nat} (h : DkAt code pc [26]) : decode code pc = .ok (.iload_n 0, 1) := dk_of ((dk_bind (dk_u1 (h 0 _ rfl))).trans rfl)
theorem dk_27 {code : ByteArray} {pc : Nat} (h : DkAt code pc [27]) : decode code pc = .ok (.iload_n 1, 1) := dk_of ((dk_bind (dk_u1 (h 0 _ rfl))).trans rfl)
theorem dk_28 {code : ByteArray} {pc : Nat} (h : DkAt code pc [28]) : decode code pc = .ok (.iload_n 2, 1) := dk_of ((dk_bind (dk_u1 (h 0 _ rfl))).trans rfl)
theorem dk_29 {code : ByteArray} {pc : Nat} (h : DkAt code pc [29]) : decode code pc = .ok (.iload_n 3, 1) := dk_of ((dk_bind (dk_u1 (h 0 _ rfl))).trans rfl)
theorem dk_30 {code : ByteArray} {pc : Nat} (h : DkAt code pc [30]) : decode code pc = .ok (.lload_n 0, 1) := dk_of ((dk_bind (dk_u1 (h 0 _ rfl))).trans rfl)
theorem dk_31 {code : ByteArray} {pc : Nat} (h : DkAt code pc [31]) : decode code pc = .ok (.lload_n 1, 1) := dk_of ((dk_bind (dk_u1 (h 0 _ rfl))).trans rfl)
theorem dk_32 {code : ByteArray} {pc : Nat} (h : DkAt code pc [32]) : decode code pc = .ok (.lload_n 2, 1) := dk_of ((dk_bind (dk_u1 (h 0 _ rfl))).trans rfl)
theorem dk_42 {code : ByteArray} {pc : Nat} (h : DkAt code pc [42]) : decode code pc = .ok (.aload_n 0, 1) := dk_of ((dk_bind (dk_u1 (h 0 _ rfl))).trans rfl)
theorem dk_43 {code : ByteArray} {pc : Nat} (h : DkAt code pc [43]) : decode code pc = .ok (.aload_n 1, 1) := dk_of ((dk_bind (dk_u1 (h 0 _ rfl))).trans rfl)
theorem dk_44 {code : ByteArray} {pc : Nat} (h : DkAt code pc [44]) : decode code pc = .ok (.aload_n 2, 1) := dk_of ((dk_bind (dk_u1 (h 0 _ rfl))).trans rfl)
theorem dk_45 {code : ByteArray} {pc : Nat} (h : DkAt code pc [45]) : decode code pc = .ok (.aload_n 3, 1) := dk_of ((dk_bind (dk_u1 (h 0 _ rfl))).trans rfl)
theorem dk_46 {code : ByteArray} {pc : Nat} (h : DkAt code pc [46]) : decode code pc = .ok (.iaload, 1) := dk_of ((dk_bind (dk_u1 (h 0 _ rfl))).trans rfl)
theorem dk_47 {code : ByteArray} {pc : Nat} (h : DkAt code pc [47]) : decode code pc = .ok (.laload, 1) := dk_of ((dk_bind (dk_u1 (h 0 _ rfl))).trans rfl)
theorem dk_50 {code : ByteArray} {pc : Nat} (h : DkAt code pc [50]) : decode code pc = .ok (.aaload, 1) := dk_of ((dk_bind (dk_u1 (h 0 _ rfl))).trans rfl)
theorem dk_51 {code : ByteArray} {pc : Nat} (h : DkAt code pc [51]) : decode code pc = .ok (.baload, 1) := dk_of ((dk_bind (dk_u1 (h 0 _ rfl))).trans rfl)
theorem dk_54 {code : ByteArray} {pc : Nat} (a : UInt8) (h : DkAt code pc [54, a]) : decode code pc = .ok (.istore a.toNat, 2) := dk_of ((dk_bind (dk_u1 (h 0 _ rfl))).trans ((dk_bind (dk_u1 (h 1 _ rfl))).trans rfl))
theorem dk_55 {code : ByteArray} {pc : Nat} (a : UInt8) (h : DkAt code pc [55, a]) : decode code pc = .ok (.lstore a.toNat, 2) := dk_of ((dk_bind (dk_u1 (h 0 _ rfl))).trans ((dk_bind (dk_u1 (h 1 _ rfl))).trans rfl))
theorem dk_57 {code : ByteArray} {pc : Nat} (a : UInt8) (h : DkAt code pc [57, a]) : decode code pc = .ok (.dstore a.toNat, 2) := dk_of ((dk_bind (dk_u1 (h 0 _ rfl))).trans ((dk_bind (dk_u1 (h 1 _ rfl))).trans rfl))
theorem dk_58 {code : ByteArray} {pc : Nat} (a : UInt8) (h : DkAt code pc [58, a]) : decode code pc = .ok (.astore a.toNat, 2) := dk_of ((dk_bind (dk_u1 (h 0 _ rfl))).trans ((dk_bind (dk_u1 (h 1 _ rfl))).trans rfl))
theorem dk_59 {code : ByteArray} {pc : Nat} (h : DkAt code pc [59]) : decode code pc = .ok (.istore_n 0, 1) := dk_of ((dk_bind (dk_u1 (h 0 _ rfl))).trans rfl)
theorem dk_60 {code : ByteArray} {pc : Nat} (h : DkAt code pc [60]) : decode code pc = .ok (.istore_n 1, 1) := dk_of ((dk_bind (dk_u1 (h 0 _ rfl))).trans rfl)
theorem dk_61 {code : ByteArray} {pc : Nat} (h : DkAt code pc [61]) : decode code pc = .ok (.istore_n 2, 1) := dk_of ((dk_bind (dk_u1 (h 0 _ rfl))).trans rfl)
theorem dk_62 {code : ByteArray} {pc : Nat} (h : DkAt code pc [62]) : decode code pc = .ok (.istore_n 3, 1) := dk_of ((dk_bind (dk_u1 (h 0 _ rfl))).trans rfl)
theorem dk_63 {code : ByteArray} {pc : Nat} (h : DkAt code pc [63]) : decode code pc = .ok (.lstore_n 0, 1) := dk_of ((dk_bind (dk_u1 (h 0 _ rfl))).trans rfl)
theorem dk_64 {code : ByteArray} {pc : Nat} (h : DkAt code pc [64]) : decode code pc = .ok (.lstore_n 1, 1) := dk_of ((dk_bind (dk_u1 (h 0 _ rfl))).trans rfl)
theorem dk_76 {code : ByteArray} {pc : Nat} (h : DkAt code pc [76]) : decode code pc = .ok (.astore_n 1, 1) := dk_of ((dk_bind (dk_u1 (h 0 _ rfl))).trans rfl)
theorem dk_77 {code : ByteArray} {pc : Nat} (h : DkAt code pc [77]) : decode code pc = .ok (.astore_n 2, 1) := dk_of ((dk_bind (dk_u1 (h 0 _ rfl))).trans rfl)
theorem dk_78 {code : ByteArray} {pc : Nat} (h : DkAt code pc [78]) : decode code pc = .ok (.astore_n 3, 1) := dk_of ((dk_bind (dk_u1 (h 0 _ rfl))).trans rfl)
theorem dk_79 {code : ByteArray} {pc : Nat} (h : DkAt code pc [79]) : decode code pc = .ok (.iastore, 1) := dk_of ((dk_bind (dk_u1 (h 0 _ rfl))).trans rfl)
theorem dk_80 {code : ByteArray} {pc : Nat} (h : DkAt code pc [80]) : decode code pc = .ok (.lastore, 1) := dk_of ((dk_bind (dk_u1 (h 0 _ rfl))).trans rfl)
theorem dk_83 {code : ByteArray} {pc : Nat} (h : DkAt code pc [83]) : decode code pc = .ok (.aastore, 1) := dk_of ((dk_bind (dk_u1 (h 0 _ rfl))).trans rfl)
theorem dk_84 {code : ByteArray} {pc : Nat} (h : DkAt code pc [84]) : decode code pc = .ok (.bastore, 1) := dk_of ((dk_bind (dk_u1 (h 0 _ rfl))).trans rfl)
theorem dk_87 {code : ByteArray} {pc : Nat} (h : DkAt code pc [87]) : decode code pc = .ok (.pop, 1) := dk_of ((dk_bind (dk_u1 (h 0 _ rfl))).trans rfl)
theorem dk_89 {code : ByteArray} {pc : Nat} (h : DkAt code pc [89]) : decode code pc = .ok (.dup, 1) := dk_of ((dk_bind (dk_u1 (h 0 _ rfl))).trans rfl)
theorem dk_90 {code : ByteArray} {pc : Nat} (h : DkAt code pc [90]) : decode code pc = .ok (.dup_x1, 1) := dk_of ((dk_bind (dk_u1 (h 0 _ rfl))).trans rfl)
theorem dk_92 {code : ByteArray} {pc : Nat} (h : DkAt code pc [92]) : decode code pc = .ok (.dup2, 1) := dk_of ((dk_bind (dk_u1 (h 0 _ rfl))).trans rfl)
theorem dk_96 {code : ByteArray} {pc : Nat} (h : DkAt code pc [96]) : decode code pc = .ok (.iadd, 1) := dk_of ((dk_bind (dk_u1 (h 0 _ rfl))).trans rfl)
theorem dk_97 {code : ByteArray} {pc : Nat} (h : DkAt code pc [97]) : decode code pc = .ok (.ladd, 1) := dk_of ((dk_bind (dk_u1 (h 0 _ rfl))).trans rfl)
theorem dk_100 {code : ByteArray} {pc : Nat} (h : DkAt code pc [100]) : decode code pc = .ok (.isub, 1) := dk_of ((dk_bind (dk_u1 (h 0 _ rfl))).trans rfl)
theorem dk_101 {code : ByteArray} {pc : Nat} (h : DkAt code pc [101]) : decode code pc = .ok (.lsub, 1) := dk_of ((dk_bind (dk_u1 (h 0 _ rfl))).trans rfl)
theorem dk_104 {code : ByteArray} {pc : Nat} (h : DkAt code pc [104]) : decode code pc = .ok (.imul, 1) := dk_of ((dk_bind (dk_u1 (h 0 _ rfl))).trans rfl)
theorem dk_105 {code : ByteArray} {pc : Nat} (h : DkAt code pc [105]) : decode code pc = .ok (.lmul, 1) := dk_of ((dk_bind (dk_u1 (h 0 _ rfl))).trans rfl)
theorem dk_108 {code : ByteArray} {pc : Nat} (h : DkAt code pc [108]) : decode code pc = .ok (.idiv, 1) := dk_of ((dk_bind (dk_u1 (h 0 _ rfl))).trans rfl)
theorem dk_111 {code : ByteArray} {pc : Nat} (h : DkAt code pc [111]) : decode code pc = .ok (.ddiv, 1) := dk_of ((dk_bind (dk_u1 (h 0 _ rfl))).trans rfl)
theorem dk_112 {code : ByteArray} {pc : Nat} (h : DkAt code pc [112]) : decode code pc = .ok (.irem, 1) := dk_of ((dk_bind (dk_u1 (h 0 _ rfl))).trans rfl)
theorem dk_116 {code : ByteArray} {pc : Nat} (h : DkAt code pc [116]) : decode code pc = .ok (.ineg, 1) := dk_of ((dk_bind (dk_u1 (h 0 _ rfl))).trans rfl)
theorem dk_120 {code : ByteArray} {pc : Nat} (h : DkAt code pc [120]) : decode code pc = .ok (.ishl, 1) := dk_of ((dk_bind (dk_u1 (h 0 _ rfl))).trans rfl)
theorem dk_121 {code : ByteArray} {pc : Nat} (h : DkAt code pc [121]) : decode code pc = .ok (.lshl, 1) := dk_of ((dk_bind (dk_u1 (h 0 _ rfl))).trans rfl)
theorem dk_122 {code : ByteArray} {pc : Nat} (h : DkAt code pc [122]) : decode code pc = .ok (.ishr, 1) := dk_of ((dk_bind (dk_u1 (h 0 _ rfl))).trans rfl)
theorem dk_124 {code : ByteArray} {pc : Nat} (h : DkAt code pc [124]) : decode code pc = .ok (.iushr, 1) := dk_of ((dk_bind (dk_u1 (h 0 _ rfl))).trans rfl)
theorem dk_125 {code : ByteArray} {pc : Nat} (h : DkAt code pc [125]) : decode code pc = .ok (.lushr, 1) := dk_of ((dk_bind (dk_u1 (h 0 _ rfl))).trans rfl)
theorem dk_126 {code : ByteArray} {pc : Nat} (h : DkAt code pc [126]) : decode code pc = .ok (.iand, 1) := dk_of ((dk_bind (dk_u1 (h 0 _ rfl))).trans rfl)
theorem dk_127 {code : ByteArray} {pc : Nat} (h : DkAt code pc [127]) : decode code pc = .ok (.land, 1) := dk_of ((dk_bind (dk_u1 (h 0 _ rfl))).trans rfl)
theorem dk_128 {code : ByteArray} {pc : Nat} (h : DkAt code pc [128]) : decode code pc = .ok (.ior, 1) := dk_of ((dk_bind (dk_u1 (h 0 _ rfl))).trans rfl)
theorem dk_129 {code : ByteArray} {pc : Nat} (h : DkAt code pc [129]) : decode code pc = .ok (.lor, 1) := dk_of ((dk_bind (dk_u1 (h 0 _ rfl))).trans rfl)
theorem dk_130 {code : ByteArray} {pc : Nat} (h : DkAt code pc [130]) : decode code pc = .ok (.ixor, 1) := dk_of ((dk_bind (dk_u1 (h 0 _ rfl))).trans rfl)
theorem dk_131 {code : ByteArray} {pc : Nat} (h : DkAt code pc [131]) : decode code pc = .ok (.lxor, 1) := dk_of ((dk_bind (dk_u1 (h 0 _ rfl))).trans rfl)
theorem dk_132 {code : ByteArray} {pc : Nat} (a b : UInt8) (h : DkAt code pc [132, a, b]) : decode code pc = .ok (.iinc a.toNat (Reader.signed 8 b.toNat), 3) := dk_of ((dk_bind (dk_u1 (h 0 _ rfl))).trans ((dk_bind (dk_u1 (h 1 _ rfl))).trans ((dk_bind (dk_map (dk_u1 (h 2 _ rfl)))).trans rfl)))
theorem dk_133 {code : ByteArray} {pc : Nat} (h : DkAt code pc [133]) : decode code pc = .ok (.i2l, 1) := dk_of ((dk_bind (dk_u1 (h 0 _ rfl))).trans rfl)
theorem dk_135 {code : ByteArray} {pc : Nat} (h : DkAt code pc [135]) : decode code pc = .ok (.i2d, 1) := dk_of ((dk_bind (dk_u1 (h 0 _ rfl))).trans rfl)
theorem dk_136 {code : ByteArray} {pc : Nat} (h : DkAt code pc [136]) : decode code pc = .ok (.l2i, 1) := dk_of ((dk_bind (dk_u1 (h 0 _ rfl))).trans rfl)
theorem dk_145 {code : ByteArray} {pc : Nat} (h : DkAt code pc [145]) : decode code pc = .ok (.i2b, 1) := dk_of ((dk_bind (dk_u1 (h 0 _ rfl))).trans rfl)
theorem dk_146 {code : ByteArray} {pc : Nat} (h : DkAt code pc [146]) : decode code pc = .ok (.i2c, 1) := dk_of ((dk_bind (dk_u1 (h 0 _ rfl))).trans rfl)
theorem dk_148 {code : ByteArray} {pc : Nat} (h : DkAt code pc [148]) : decode code pc = .ok (.lcmp, 1) := dk_of ((dk_bind (dk_u1 (h 0 _ rfl))).trans rfl)
theorem dk_151 {code : ByteArray} {pc : Nat} (h : DkAt code pc [151]) : decode code pc = .ok (.dcmp .l, 1) := dk_of ((dk_bind (dk_u1 (h 0 _ rfl))).trans rfl)
theorem dk_153 {code : ByteArray} {pc : Nat} (a b : UInt8) (h : DkAt code pc [153, a, b]) : decode code pc = .ok (.ifCond .eq (Reader.signed 16 (a.toNat * 256 + b.toNat)), 3) := dk_of ((dk_bind (dk_u1 (h 0 _ rfl))).trans ((dk_bind (dk_map (dk_u2 (h 1 _ rfl) (h 2 _ rfl)))).trans rfl))
theorem dk_154 {code : ByteArray} {pc : Nat} (a b : UInt8) (h : DkAt code pc [154, a, b]) : decode code pc = .ok (.ifCond .ne (Reader.signed 16 (a.toNat * 256 + b.toNat)), 3) := dk_of ((dk_bind (dk_u1 (h 0 _ rfl))).trans ((dk_bind (dk_map (dk_u2 (h 1 _ rfl) (h 2 _ rfl)))).trans rfl))
theorem dk_155 {code : ByteArray} {pc : Nat} (a b : UInt8) (h : DkAt code pc [155, a, b]) : decode code pc = .ok (.ifCond .lt (Reader.signed 16 (a.toNat * 256 + b.toNat)), 3) := dk_of ((dk_bind (dk_u1 (h 0 _ rfl))).trans ((dk_bind (dk_map (dk_u2 (h 1 _ rfl) (h 2 _ rfl)))).trans rfl))
theorem dk_156 {code : ByteArray} {pc : Nat} (a b : UInt8) (h : DkAt code pc [156, a, b]) : decode code pc = .ok (.ifCond .ge (Reader.signed 16 (a.toNat * 256 + b.toNat)), 3) := dk_of ((dk_bind (dk_u1 (h 0 _ rfl))).trans ((dk_bind (dk_map (dk_u2 (h 1 _ rfl) (h 2 _ rfl)))).trans rfl))
theorem dk_157 {code : ByteArray} {pc : Nat} (a b : UInt8) (h : DkAt code pc [157, a, b]) : decode code pc = .ok (.ifCond .gt (Reader.signed 16 (a.toNat * 256 + b.toNat)), 3) := dk_of ((dk_bind (dk_u1 (h 0 _ rfl))).trans ((dk_bind (dk_map (dk_u2 (h 1 _ rfl) (h 2 _ rfl)))).trans rfl))
theorem dk_158 {code : ByteArray} {pc : Nat} (a b : UInt8) (h : DkAt code pc [158, a, b]) : decode code pc = .ok (.ifCond .le (Reader.signed 16 (a.toNat * 256 + b.toNat)), 3) := dk_of ((dk_bind (dk_u1 (h 0 _ rfl))).trans ((dk_bind (dk_map (dk_u2 (h 1 _ rfl) (h 2 _ rfl)))).trans rfl))
theorem dk_159 {code : ByteArray} {pc : Nat} (a b : UInt8) (h : DkAt code pc [159, a, b]) : decode code pc = .ok (.if_icmp .eq (Reader.signed 16 (a.toNat * 256 + b.toNat)), 3) := dk_of ((dk_bind (dk_u1 (h 0 _ rfl))).trans ((dk_bind (dk_map (dk_u2 (h 1 _ rfl) (h 2 _ rfl)))).trans rfl))
theorem dk_160 {code : ByteArray} {pc : Nat} (a b : UInt8) (h : DkAt code pc [160, a, b]) : decode code pc = .ok (.if_icmp .ne (Reader.signed 16 (a.toNat * 256 + b.toNat)), 3) := dk_of ((dk_bind (dk_u1 (h 0 _ rfl))).trans ((dk_bind (dk_map (dk_u2 (h 1 _ rfl) (h 2 _ rfl)))).trans rfl))
theorem dk_161 {code : ByteArray} {pc : Nat} (a b : UInt8) (h : DkAt code pc [161, a, b]) : decode code pc = .ok (.if_icmp .lt (Reader.signed 16 (a.toNat * 256 + b.toNat)), 3) := dk_of ((dk_bind (dk_u1 (h 0 _ rfl))).trans ((dk_bind (dk_map (dk_u2 (h 1 _ rfl) (h 2 _ rfl)))).trans rfl))
theorem dk_162 {code : ByteArray} {pc : Nat} (a b : UInt8) (h : DkAt code pc [162, a, b]) : decode code pc = .ok (.if_icmp .ge (Reader.signed 16 (a.toNat * 256 + b.toNat)), 3) := dk_of ((dk_bind (dk_u1 (h 0 _ rfl))).trans ((dk_bind (dk_map (dk_u2 (h 1 _ rfl) (h 2 _ rfl)))).trans rfl))
theorem dk_163 {code : ByteArray} {pc : Nat} (a b : UInt8) (h : DkAt code pc [163, a, b]) : decode code pc = .ok (.if_icmp .gt (Reader.signed 16 (a.toNat * 256 + b.toNat)), 3) := dk_of ((dk_bind (dk_u1 (h 0 _ rfl))).trans ((dk_bind (dk_map (dk_u2 (h 1 _ rfl) (h 2 _ rfl)))).trans rfl))
theorem dk_164 {code : ByteArray} {pc : Nat} (a b : UInt8) (h : DkAt code pc [164, a, b]) : decode code pc = .ok (.if_icmp .le (Reader.signed 16 (a.toNat * 256 + b.toNat)), 3) := dk_of ((dk_bind (dk_u1 (h 0 _ rfl))).trans ((dk_bind (dk_map (dk_u2 (h 1 _ rfl) (h 2 _ rfl)))).trans rfl))
theorem dk_165 {code : ByteArray} {pc : Nat} (a b : UInt8) (h : DkAt code pc [165, a, b]) : decode code pc = .ok (.if_acmp .eq (Reader.signed 16 (a.toNat * 256 + b.toNat)), 3) := dk_of ((dk_bind (dk_u1 (h 0 _ rfl))).trans ((dk_bind (dk_map (dk_u2 (h 1 _ rfl) (h 2 _ rfl)))).trans rfl))
theorem dk_166 {code : ByteArray} {pc : Nat} (a b : UInt8) (h : DkAt code pc [166, a, b]) : decode code pc = .ok (.if_acmp .ne (Reader.signed 16 (a.toNat * 256 + b.toNat)), 3) := dk_of ((dk_bind (dk_u1 (h 0 _ rfl))).trans ((dk_bind (dk_map (dk_u2 (h 1 _ rfl) (h 2 _ rfl)))).trans rfl))
theorem dk_167 {code : ByteArray} {pc : Nat} (a b : UInt8) (h : DkAt code pc [167, a, b]) : decode code pc = .ok (.goto (Reader.signed 16 (a.toNat * 256 + b.toNat)), 3) := dk_of ((dk_bind (dk_u1 (h 0 _ rfl))).trans ((dk_bind (dk_map (dk_u2 (h 1 _ rfl) (h 2 _ rfl)))).trans rfl))
theorem dk_172 {code : ByteArray} {pc : Nat} (h : DkAt code pc [172]) : decode code pc = .ok (.ireturn, 1) := dk_of ((dk_bind (dk_u1 (h 0 _ rfl))).trans rfl)
theorem dk_173 {code : ByteArray} {pc : Nat} (h : DkAt code pc [173]) : decode code pc = .ok (.lreturn, 1) := dk_of ((dk_bind (dk_u1 (h 0 _ rfl))).trans rfl)
theorem dk_175 {code : ByteArray} {pc : Nat} (h : DkAt code pc [175]) : decode code pc = .ok (.dreturn, 1) := dk_of ((dk_bind (dk_u1 (h 0 _ rfl))).trans rfl)
theorem dk_176 {code : ByteArray} {pc : Nat} (h : DkAt code pc [176]) : decode code pc = .ok (.areturn, 1) := dk_of ((dk_bind (dk_u1 (h 0 _ rfl))).trans rfl)
theorem dk_177 {code : ByteArray} {pc : Nat} (h : DkAt code pc [177]) : decode code pc = .ok (.return_, 1) := dk_of ((dk_bind (dk_u1 (h 0 _ rfl))).trans rfl)
theorem dk_178 {code : ByteArray} {pc : Nat} (a b : UInt8) (h : DkAt code pc [178, a, b]) : decode code pc = .ok (.getstatic (a.toNat * 256 + b.toNat), 3) := dk_of ((dk_bind (dk_u1 (h 0 _ rfl))).trans ((dk_bind (dk_u2 (h 1 _ rfl) (h 2 _ rfl))).trans rfl))
theorem dk_180 {code : ByteArray} {pc : Nat} (a b : UInt8) (h : DkAt code pc [180, a, b]) : decode code pc = .ok (.getfield (a.toNat * 256 + b.toNat), 3) := dk_of ((dk_bind (dk_u1 (h 0 _ rfl))).trans ((dk_bind (dk_u2 (h 1 _ rfl) (h 2 _ rfl))).trans rfl))
theorem dk_181 {code : ByteArray} {pc : Nat} (a b : UInt8) (h : DkAt code pc [181, a, b]) : decode code pc = .ok (.putfield (a.toNat * 256 + b.toNat), 3) := dk_of ((dk_bind (dk_u1 (h 0 _ rfl))).trans ((dk_bind (dk_u2 (h 1 _ rfl) (h 2 _ rfl))).trans rfl))
theorem dk_182 {code : ByteArray} {pc : Nat} (a b : UInt8) (h : DkAt code pc [182, a, b]) : decode code pc = .ok (.invokevirtual (a.toNat * 256 + b.toNat), 3) := dk_of ((dk_bind (dk_u1 (h 0 _ rfl))).trans ((dk_bind (dk_u2 (h 1 _ rfl) (h 2 _ rfl))).trans rfl))
theorem dk_183 {code : ByteArray} {pc : Nat} (a b : UInt8) (h : DkAt code pc [183, a, b]) : decode code pc = .ok (.invokespecial (a.toNat * 256 + b.toNat), 3) := dk_of ((dk_bind (dk_u1 (h 0 _ rfl))).trans ((dk_bind (dk_u2 (h 1 _ rfl) (h 2 _ rfl))).trans rfl))
theorem dk_184 {code : ByteArray} {pc : Nat} (a b : UInt8) (h : DkAt code pc [184, a, b]) : decode code pc = .ok (.invokestatic (a.toNat * 256 + b.toNat), 3) := dk_of ((dk_bind (dk_u1 (h 0 _ rfl))).trans ((dk_bind (dk_u2 (h 1 _ rfl) (h 2 _ rfl))).trans rfl))
theorem dk_187 {code : ByteArray} {pc : Nat} (a b : UInt8) (h : DkAt code pc [187, a, b]) : decode code pc = .ok (.new (a.toNat * 256 + b.toNat), 3) := dk_of ((dk_bind (dk_u1 (h 0 _ rfl))).trans ((dk_bind (dk_u2 (h 1 _ rfl) (h 2 _ rfl))).trans rfl))
theorem dk_188_4 {code : ByteArray} {pc : Nat} (h : DkAt code pc [188, 4]) : decode code pc = .ok (.newarray .boolean, 2) := dk_of ((dk_bind (dk_u1 (h 0 _ rfl))).trans ((dk_bind (dk_u1 (h 1 _ rfl))).trans rfl))
theorem dk_188_8 {code : ByteArray} {pc : Nat} (h : DkAt code pc [188, 8]) : decode code pc = .ok (.newarray .byte, 2) := dk_of ((dk_bind (dk_u1 (h 0 _ rfl))).trans ((dk_bind (dk_u1 (h 1 _ rfl))).trans rfl))
theorem dk_188_10 {code : ByteArray} {pc : Nat} (h : DkAt code pc [188, 10]) : decode code pc = .ok (.newarray .int, 2) := dk_of ((dk_bind (dk_u1 (h 0 _ rfl))).trans ((dk_bind (dk_u1 (h 1 _ rfl))).trans rfl))
theorem dk_188_11 {code : ByteArray} {pc : Nat} (h : DkAt code pc [188, 11]) : decode code pc = .ok (.newarray .long, 2) := dk_of ((dk_bind (dk_u1 (h 0 _ rfl))).trans ((dk_bind (dk_u1 (h 1 _ rfl))).trans rfl))
theorem dk_189 {code : ByteArray} {pc : Nat} (a b : UInt8) (h : DkAt code pc [189, a, b]) : decode code pc = .ok (.anewarray (a.toNat * 256 + b.toNat), 3) := dk_of ((dk_bind (dk_u1 (h 0 _ rfl))).trans ((dk_bind (dk_u2 (h 1 _ rfl) (h 2 _ rfl))).trans rfl))
theorem dk_190 {code : ByteArray} {pc : Nat} (h : DkAt code pc [190]) : decode code pc = .ok (.arraylength, 1) := dk_of ((dk_bind (dk_u1 (h 0 _ rfl))).trans rfl)
theorem dk_191 {code : ByteArray} {pc : Nat} (h : DkAt code pc [191]) : decode code pc = .ok (.athrow, 1) := dk_of ((dk_bind (dk_u1 (h 0 _ rfl))).trans rfl)
theorem dk_192 {code : ByteArray} {pc : Nat} (a b : UInt8) (h : DkAt code pc [192, a, b]) : decode code pc = .ok (.checkcast (a.toNat * 256 + b.toNat), 3) := dk_of ((dk_bind (dk_u1 (h 0 _ rfl))).trans ((dk_bind (dk_u2 (h 1 _ rfl) (h 2 _ rfl))).trans rfl))
theorem dk_193 {code : ByteArray} {pc : Nat} (a b : UInt8) (h : DkAt code pc [193, a, b]) : decode code pc = .ok (.instanceof (a.toNat * 256 + b.toNat), 3) := dk_of ((dk_bind (dk_u1 (h 0 _ rfl))).trans ((dk_bind (dk_u2 (h 1 _ rfl) (h 2 _ rfl))).trans rfl))
theorem dk_198 {code : ByteArray} {pc : Nat} (a b : UInt8) (h : DkAt code pc [198, a, b]) : decode code pc = .ok (.ifnull (Reader.signed 16 (a.toNat * 256 + b.toNat)), 3) := dk_of ((dk_bind (dk_u1 (h 0 _ rfl))).trans ((dk_bind (dk_map (dk_u2 (h 1 _ rfl) (h 2 _ rfl)))).trans rfl))
theorem dk_199 {code : ByteArray} {pc : Nat} (a b : UInt8) (h : DkAt code pc [199, a, b]) : decode code pc = .ok (.ifnonnull (Reader.signed 16 (a.toNat * 256 + b.toNat)), 3) := dk_of ((dk_bind (dk_u1 (h 0 _ rfl))).trans ((dk_bind (dk_map (dk_u2 (h 1 _ rfl) (h 2 _ rfl)))).trans rfl))
end
section
/-! ===== BEGIN words of one list among another's, by their places ===== -/
theorem goodIn_r {big : List Cond} (ws : List Cond) (ps : List Nat) (hp : ws = ps.filterMap (fun i => big[i]?)) (h : ws.all goodWord = true) : GoodIn big ws := by
  intro w hw
  have h1 := List.all_eq_true.mp h w hw
  rw [hp] at hw
  obtain ⟨i, -, hi⟩ := List.mem_filterMap.mp hw
  have hm : w ∈ big := by first | exact List.mem_of_getElem? hi | exact List.getElem?_mem hi
  exact ⟨hm, good_of_word h1⟩
theorem goodIn_app {big a b : List Cond} (ha : GoodIn big a) (hb : GoodIn big b) : GoodIn big (a ++ b) := fun w h => (List.mem_append.mp h).elim (ha w) (hb w)
theorem goodIn_ca {big a b : List Cond} {c : Cond} (ha : GoodIn big (c :: a)) (hb : GoodIn big b) : GoodIn big (c :: (a ++ b)) := fun w h => (List.mem_cons.mp h).elim (fun e => ha w (List.mem_cons.mpr (Or.inl e))) (fun h => (List.mem_append.mp h).elim (fun h => ha w (List.mem_cons.mpr (Or.inr h))) (hb w))
theorem goodIn_sub {big ws : List Cond} (hm : ∀ w ∈ ws, w ∈ big) (h : ws.all goodWord = true) : GoodIn big ws := fun w hw => ⟨hm w hw, good_of_word (List.all_eq_true.mp h w hw)⟩
/-! ===== END ===== -/
/-! ===== BEGIN exceptions that leave a method, and their catching by the caller (launches without stack traces) ===== -/
section VXA
/-! The laws vx_back, vx_callV, vx_callS, vx_callSW, vx_throw0, vx_throwS follow proofs of the library, with one case more: JvmDerived/Free/Laws.lean (Back.of_free), Shelf42/LK1.lean (callV, callS), Shelf/KitTraced.lean (throwNew0V, throwNewS). -/
/-- where a method has thrown q: the class by its name, the cell, what was written, the world -/
def vx_T (XC : String → State → State → Prop) (st : State) (q : Addr) (t : State) (mc ms : Nat) (free : Addr → Prop) : Prop :=
  ∃ (E : String) (ce : Cell) (L : List Loc), XC E st t ∧ t.heap[q]? = some ce ∧ ce.vm = .none ∧ st.vm.findClass E = some ce.cls ∧ st.WarmedH t.vm ∧ st.sameButNew ({ t with vm := st.vm } : State) L mc ms ∧ ∀ z ∈ L, free z.base
def vx_Q (Qc : Array Value → State → Outcome → State → Prop) (XC : String → State → State → Prop) (mc ms : Nat) (free : Addr → Prop) : Array Value → State → Outcome → State → Prop := fun a st o t =>
  (Qc a st o t ∧ ∃ L, FrameEnd st o t L mc ms ∧ ∀ q ∈ L, free q.base) ∨ ∃ q, o = .threw q ∧ vx_T XC st q t mc ms free
/-- a callee that returns or throws -/
def vx_Met (l : Launch) (y : MethodName) (ws : List Cond) (rm : Room) (Pc : Array Value → State → Prop) (Qc : Array Value → State → Outcome → State → Prop) (XC : String → State → State → Prop) (mc ms : Nat) (free : Addr → Prop) : Prop :=
  MetFree l y (headSpec ws rm) Pc (fun _ _ _ _ _ => True) (vx_Q Qc XC mc ms free)
def vx_Post (XC : String → State → State → Prop) (mc ms : Nat) (free : Addr → Prop) : Pt → Array Value → Addr → Pt → Prop := fun A a q B =>
  ∃ (g : JFrame) (mk : MethodId) (t : State) (L : List Loc) (E : String) (ce : Cell), B.U.heap = t.heap ∧ B.U.vm = t.vm ∧ XC E (A.U.calling g mk a) t ∧ t.heap[q]? = some ce ∧ ce.vm = .none ∧ A.U.vm.findClass E = some ce.cls ∧ B.locs = A.locs ++ L ∧ (∀ z ∈ L, free z.base) ∧ B.cells = A.cells + mc ∧ B.slots = A.slots + ms
def vx_Back (l : Launch) (R : Room) (p : Program) (e : Env) (below : List Frame) (s : State) (sargs : Array Value) (y : MethodName) (len W9 : Nat)
    (Pre : Pt → Array Value → Prop) (Post : Pt → Array Value → Option Value → Pt → Prop) (PostX : Pt → Array Value → Addr → Pt → Prop) : Prop :=
  ∀ (m : MethodId) (meth : Method) (c : Code) (A : Pt) (g : JFrame) (ig : Instr) (mk : MethodId) (a : Array Value),
    Stand p l e R s m sargs below meth c A.U A.locs A.cells A.slots → g.method = m → g.locals.size = c.maxLocals → decode c.code g.pc = .ok (ig, len) →
    2 * g.monitorRoom + (g.stack.map fun v => v.category).sum ≤ W9 → A.U.methodNamed? y = some mk → Pre A a →
    (∃ (v : Option Value) (B : Pt), Stand p l e R s m sargs below meth c B.U B.locs B.cells B.slots ∧ Post A a v B ∧
      Steps p.tables e below (doInvoke e (A.U.setTop g) [] mk a).1 (B.U.setTop { g with pc := g.pc + len, stack := v.toList ++ g.stack })) ∨
    (∃ (q : Addr) (B : Pt), Stand p l e R s m sargs below meth c B.U B.locs B.cells B.slots ∧ PostX A a q B ∧
      Steps p.tables e below (doInvoke e (A.U.setTop g) [] mk a).1 ((B.U.setTop g).pushFrame (.throwing q)))
section Payer
variable {l : Launch} {R : Room} {p : Program} {e : Env} {below : List Frame} {s : State} {sargs : Array Value} {y : MethodName} {len W9 : Nat}
theorem vx_back {ws : List Cond} {rm : Room} {Pc : Array Value → State → Prop} {Qc : Array Value → State → Outcome → State → Prop} {XC : String → State → State → Prop} {mc ms : Nat} {free : Addr → Prop} {bytes : ByteArray} {maxL : Nat} {ret : Option FieldType}
    (hM : vx_Met l y ws rm Pc Qc XC mc ms free) (hblind : FrameBlind Pc) (hrc : rm.cells = mc) (hrs : rm.slots = ms)
    (hframes : rm.frames + 1 ≤ R.frames) (hlocals : W9 + (maxL + 11) + rm.locals ≤ R.locals)
    (hws : ∀ w ∈ ws, ∀ a' U, s.WarmedH U.vm → w.before a' U = true) (hcode : Cond.code y bytes maxL ret ∈ ws) (hinit : ∀ a' U, s.WarmedH U.vm → (Cond.initialized y.cls).before a' U = true) :
    vx_Back l R p e below s sargs y len W9 (PreOf R mc ms Pc) (PostOf Qc mc ms free) (vx_Post XC mc ms free) := by
  intro m meth c A g ig mk a X hg hsize hdg hW hn hp
  have h1 : (headSpec ws rm).pre.before a A.U = true := atoms_intro fun w hw => hws w hw _ _ X.warmed
  have h2 : (Cond.code y bytes maxL ret).before a A.U = true := hws _ hcode _ _ X.warmed
  have h3 : (Cond.initialized y.cls).before a A.U = true := hinit _ _ X.warmed
  have h4 : A.cells + (headSpec ws rm).room.cells ≤ R.cells := by rw [show (headSpec ws rm).room.cells = mc from hrc]; exact hp.1
  have h5 : A.slots + (headSpec ws rm).room.slots ≤ R.slots := by rw [show (headSpec ws rm).room.slots = ms from hrs]; exact hp.2.1
  have hPc : Pc a (A.U.calling g mk a) := hblind _ _ _ _ hp.2.2
  obtain ⟨U, Ls, c0, s0⟩ := A
  dsimp only [Pt.U, Pt.locs, Pt.cells, Pt.slots] at h1 h2 h3 h4 h5 X hn hPc ⊢
  obtain ⟨methY, cY, hmY, hcY, -, hlY, -, -, -, -⟩ := Cond.code_spec hn h2
  obtain ⟨kY, hkY, -⟩ := className_of_methodNamed hn
  have hinitY : kY.init = .initialized := Cond.initialized_spec (findClass_of_methodNamed hn) hkY h3
  have h : At U g.method c below := by rw [hg]; exact X.here
  have hlocals9 : W9 + (maxL + 11) + (headSpec ws rm).room.locals ≤ R.locals := hlocals
  have happ : (headSpec ws rm).appliesLoose y e.platform (U.calling g mk a) = true :=
    Spec.appliesLoose_calling (g := g) h hdg hn hkY hinitY
      (X.room_calling (g := g) (R' := (headSpec ws rm).room) hsize hmY hcY hframes (by rw [hlY]; omega) h4 h5) h1
  obtain ⟨mid, hmid⟩ := h.above
  have hfr : (U.setTop g).frames = (.java g :: mid) ++ below := by rw [State.frames_setTop' g h.top, hmid]; rfl
  obtain ⟨o, s₂, hsteps, -, hend, hq⟩ := Steps.callFree hM p X.admits X.cas X.clock (acts := []) hfr happ hPc trivial
  have hq' : vx_Q Qc XC mc ms free a (U.calling g mk a) o s₂ := hq
  rw [State.frames_setTop' g h.top] at hend
  obtain ⟨g₀, hg0⟩ := Option.isSome_iff_exists.mp h.top
  obtain ⟨r, hr⟩ := State.topJava?_eq_some.mp hg0
  have hr' : (({ U with heap := s₂.heap, slotsUsed := s₂.slotsUsed } : State).setVm s₂.vm).frames = .java g₀ :: r := hr
  rcases hq' with ⟨hqc, L, hfe, hL⟩ | ⟨q, rfl, E, ce, L, hx, hce, hcv, hcl, hW₂, hsm, hL⟩
  · obtain ⟨⟨v, rfl⟩, hW₂, e2, q2, q3, q4, q5, q6⟩ := id hfe
    have e3 : s₂ = ({ (U.calling g mk a).setFrames s₂.frames with heap := s₂.heap, slotsUsed := s₂.slotsUsed } : State).setVm s₂.vm := by
      have : s₂ = ({ s₂ with vm := (U.calling g mk a).vm } : State).setVm s₂.vm := rfl
      rw [e2] at this
      exact this
    obtain ⟨c₂, i₂, len₂, hc₂, hd₂, hf₂⟩ := hend
    have hW' : U.WarmedH s₂.vm := hW₂
    have hcc : c₂ = c := by
      have h1 : s₂.code? g.method = U.code? g.method := by
        rw [State.code?_eq, State.code?_eq, hW'.alike.method?]
      exact Option.some.inj (hc₂.symm.trans (h1.trans h.code))
    subst hcc
    have hlen : len₂ = len := by rw [hdg] at hd₂; cases hd₂; rfl
    subst hlen
    have hs₂ : s₂ = (({ U with heap := s₂.heap, slotsUsed := s₂.slotsUsed } : State).setVm s₂.vm).setTop { g with pc := g.pc + len₂, stack := v.toList ++ g.stack } := by
      refine e3.trans ?_
      rw [hf₂, State.calling_eq h.top, State.setFrames_setFrames, State.setTop_of_frames _ hr', hr]
      rfl
    have hsame : U.sameButNew ({ U with heap := s₂.heap, slotsUsed := s₂.slotsUsed } : State) L mc ms := by
      refine ⟨?_, q2, q3, q4, q5, q6⟩
      obtain ⟨t, ht, -⟩ := State.frames_cons hr
      show ({ U with heap := s₂.heap, slotsUsed := s₂.slotsUsed } : State) = { U.setFrames U.frames with heap := s₂.heap, slotsUsed := s₂.slotsUsed }
      rw [State.setFrames_self ht]
    subst hg
    refine Or.inl ⟨v, ⟨(({ U with heap := s₂.heap, slotsUsed := s₂.slotsUsed } : State).setVm s₂.vm), Ls ++ L, c0 + mc, s0 + ms⟩,
      ⟨X.admits, X.cas, X.clock, X.frames, X.room, X.hears, X.method, X.code, (X.here.setHeapUsed s₂.heap s₂.slotsUsed).setVm hW'.alike, X.tail, State.WarmedH.trans X.warmed hW', X.limits, X.bytes, X.same.trans (hsame.setVm s.vm)⟩,
      ⟨g, mk, s₂, L, rfl, rfl, hqc, rfl, hL, rfl, rfl⟩, ?_⟩
    show Steps p.tables e below _ ((({ U with heap := s₂.heap, slotsUsed := s₂.slotsUsed } : State).setVm s₂.vm).setTop { g with pc := g.pc + len₂, stack := v.toList ++ g.stack })
    rw [← hs₂]
    exact hsteps
  · obtain ⟨e2, q2, q3, q4, q5, q6⟩ := id hsm
    have e3 : s₂ = ({ (U.calling g mk a).setFrames s₂.frames with heap := s₂.heap, slotsUsed := s₂.slotsUsed } : State).setVm s₂.vm := by
      have : s₂ = ({ s₂ with vm := (U.calling g mk a).vm } : State).setVm s₂.vm := rfl
      rw [e2] at this
      exact this
    have hf₂ : s₂.frames = .throwing q :: .java g :: U.frames.tail := hend
    have hW' : U.WarmedH s₂.vm := hW₂
    have hs₂ : s₂ = ((({ U with heap := s₂.heap, slotsUsed := s₂.slotsUsed } : State).setVm s₂.vm).setTop g).pushFrame (.throwing q) := by
      refine e3.trans ?_
      rw [hf₂, State.calling_eq h.top, State.setFrames_setFrames, State.pushFrame, State.frames_setTop _ hr', State.setTop_of_frames _ hr', State.setFrames_setFrames, hr]
      rfl
    have hsame : U.sameButNew ({ U with heap := s₂.heap, slotsUsed := s₂.slotsUsed } : State) L mc ms := by
      refine ⟨?_, q2, q3, q4, q5, q6⟩
      obtain ⟨t, ht, -⟩ := State.frames_cons hr
      show ({ U with heap := s₂.heap, slotsUsed := s₂.slotsUsed } : State) = { U.setFrames U.frames with heap := s₂.heap, slotsUsed := s₂.slotsUsed }
      rw [State.setFrames_self ht]
    subst hg
    refine Or.inr ⟨q, ⟨(({ U with heap := s₂.heap, slotsUsed := s₂.slotsUsed } : State).setVm s₂.vm), Ls ++ L, c0 + mc, s0 + ms⟩,
      ⟨X.admits, X.cas, X.clock, X.frames, X.room, X.hears, X.method, X.code, (X.here.setHeapUsed s₂.heap s₂.slotsUsed).setVm hW'.alike, X.tail, State.WarmedH.trans X.warmed hW', X.limits, X.bytes, X.same.trans (hsame.setVm s.vm)⟩,
      ⟨g, mk, s₂, L, E, ce, rfl, rfl, hx, hce, hcv, hcl, rfl, hL, rfl, rfl⟩, ?_⟩
    show Steps p.tables e below _ (((({ U with heap := s₂.heap, slotsUsed := s₂.slotsUsed } : State).setVm s₂.vm).setTop g).pushFrame (.throwing q))
    rw [← hs₂]
    exact hsteps
end Payer
section Calls
variable {p : Program} {l : Launch} {e : Env} {R : Room} {s : State} {m : MethodId} {args : Array Value} {below : List Frame} {meth : Method} {c : Code} {T : State} {locs : List Loc} {cells slots : Nat}
theorem vx_callV (X : Stand p l e R s m args below meth c T locs cells slots) (hexec : p.tables.exec = Jvm.exec) {own C : String} {index : Nat} {y : MethodName} {bytes : ByteArray} {maxL : Nat} {ret : Option FieldType}
    (hown : s.vm.findClass own = some m.cls) (hlink : (Cond.methodLink own index y).before args s = true) (hinst : (Cond.instanceMethod y).before args s = true) (hsel : (Cond.selects C y y).before args s = true)
    (hcode : (Cond.code y bytes maxL ret).before args s = true) (hy : y.cls ≠ "java/lang/invoke/MethodHandle" ∧ y.cls ≠ "java/lang/invoke/VarHandle")
    {W9 : Nat} {Pre : Pt → Array Value → Prop} {Post : Pt → Array Value → Option Value → Pt → Prop} {PostX : Pt → Array Value → Addr → Pt → Prop} (hK : vx_Back l R p e below s args y 3 W9 Pre Post PostX)
    {b : Addr} {cellB : Cell} (hcell : T.heap[b]? = some cellB) (hobj : cellB.vm.isStatics = false) (hcls : s.vm.findClass C = some cellB.cls)
    {g : JFrame} (hg : g.method = m) (hsize : g.locals.size = c.maxLocals) {argsL rest : List Value} (hlen : ∀ sig, parseMethodDescriptor y.desc = some sig → argsL.length = sig.parameters.length)
    (hstack : g.stack = argsL.reverse ++ .ref b :: rest) (hW : 2 * g.monitorRoom + (rest.map fun v => v.category).sum ≤ W9) (hdg : decode c.code g.pc = .ok (.invokevirtual index, 3))
    (hpre : ∀ vm₁, s.WarmedH vm₁ → Pre ⟨T.setVm vm₁, locs, cells, slots⟩ (Value.ref b :: argsL).toArray) :
    (∃ (v : Option Value) (vm₁ : Vm) (B : Pt), s.WarmedH vm₁ ∧ Stand p l e R s m args below meth c B.U B.locs B.cells B.slots ∧ Post ⟨T.setVm vm₁, locs, cells, slots⟩ (Value.ref b :: argsL).toArray v B ∧
      ∀ target, Steps p.tables e below (B.U.setTop { g with pc := g.pc + 3, stack := v.toList ++ rest }) target → Steps p.tables e below (T.setTop g) target) ∨
    (∃ (q : Addr) (vm₁ : Vm) (B : Pt), s.WarmedH vm₁ ∧ Stand p l e R s m args below meth c B.U B.locs B.cells B.slots ∧ PostX ⟨T.setVm vm₁, locs, cells, slots⟩ (Value.ref b :: argsL).toArray q B ∧
      Steps p.tables e below (T.setTop g) ((B.U.setTop { g with stack := rest }).pushFrame (.throwing q))) := by
  obtain ⟨mk, methM, hnamed, hmethM, hstM, habM⟩ := Cond.instanceMethod_spec hinst
  obtain ⟨methM', cM, hmethM', -, -, -, -, -, -, hsigM⟩ := Cond.code_spec hnamed hcode
  cases hmethM.symm.trans hmethM'
  obtain ⟨c2, r2, m2, q1, q2, q3, q4, kP, hkP, hkPi⟩ := Cond.selects_spec hsel
  cases hcls.symm.trans q1
  cases (State.methodFound?_of_named hnamed hy).symm.trans q2
  cases hnamed.symm.trans q3
  have hselP : selectMethod e.platform s.vm cellB.cls mk = .method mk := by rw [Launch.admits_selectMethod X.admits]; exact q4
  obtain ⟨vm₁, X₁, hstep₁⟩ := X.invokevirtual hexec hown hlink hnamed hmethM hstM hkP hkPi hy (a := b) (cell := cellB) hcell
    (fun z h => by rw [h] at hobj; cases hobj) hselP hmethM habM hkP hkPi (g := g) hg (argsL := argsL) (rest := rest) (hlen _ hsigM) hstack hdg
  rcases hK m meth c ⟨T.setVm vm₁, locs, cells, slots⟩ { g with stack := rest } (.invokevirtual index) mk (Value.ref b :: argsL).toArray X₁ hg hsize hdg hW (X₁.named hnamed) (hpre vm₁ X₁.warmed) with ⟨v, B, X', hpost, hsteps⟩ | ⟨q, B, X', hpost, hsteps⟩
  · exact Or.inl ⟨v, vm₁, B, X₁.warmed, X', hpost, fun target h => hstep₁ _ fun acts => by rw [doInvoke_state]; exact hsteps.trans h⟩
  · exact Or.inr ⟨q, vm₁, B, X₁.warmed, X', hpost, hstep₁ _ fun acts => by rw [doInvoke_state]; exact hsteps⟩
theorem vx_callS (X : Stand p l e R s m args below meth c T locs cells slots) (hexec : p.tables.exec = Jvm.exec) {own : String} {index : Nat} {y : MethodName} {bytes : ByteArray} {maxL : Nat} {ret : Option FieldType}
    (hown : s.vm.findClass own = some m.cls) (hlink : (Cond.methodLink own index y).before args s = true) (hstat : (Cond.static y).before args s = true) (hinit : (Cond.initialized y.cls).before args s = true)
    (hcode : (Cond.code y bytes maxL ret).before args s = true) (hy : y.cls ≠ "java/lang/invoke/MethodHandle" ∧ y.cls ≠ "java/lang/invoke/VarHandle")
    {W9 : Nat} {Pre : Pt → Array Value → Prop} {Post : Pt → Array Value → Option Value → Pt → Prop} {PostX : Pt → Array Value → Addr → Pt → Prop} (hK : vx_Back l R p e below s args y 3 W9 Pre Post PostX)
    {g : JFrame} (hg : g.method = m) (hsize : g.locals.size = c.maxLocals) {argsL rest : List Value} (hlen : ∀ sig, parseMethodDescriptor y.desc = some sig → argsL.length = sig.parameters.length)
    (hstack : g.stack = argsL.reverse ++ rest) (hW : 2 * g.monitorRoom + (rest.map fun v => v.category).sum ≤ W9) (hdg : decode c.code g.pc = .ok (.invokestatic index, 3))
    (hpre : ∀ vm₁, s.WarmedH vm₁ → Pre ⟨T.setVm vm₁, locs, cells, slots⟩ argsL.toArray) :
    (∃ (v : Option Value) (vm₁ : Vm) (B : Pt), s.WarmedH vm₁ ∧ Stand p l e R s m args below meth c B.U B.locs B.cells B.slots ∧ Post ⟨T.setVm vm₁, locs, cells, slots⟩ argsL.toArray v B ∧
      ∀ target, Steps p.tables e below (B.U.setTop { g with pc := g.pc + 3, stack := v.toList ++ rest }) target → Steps p.tables e below (T.setTop g) target) ∨
    (∃ (q : Addr) (vm₁ : Vm) (B : Pt), s.WarmedH vm₁ ∧ Stand p l e R s m args below meth c B.U B.locs B.cells B.slots ∧ PostX ⟨T.setVm vm₁, locs, cells, slots⟩ argsL.toArray q B ∧
      Steps p.tables e below (T.setTop g) ((B.U.setTop { g with stack := rest }).pushFrame (.throwing q))) := by
  obtain ⟨mk, hnamed⟩ := Cond.code_named hcode
  obtain ⟨methM, cM, hmethM, -, -, -, -, -, -, hsigM⟩ := Cond.code_spec hnamed hcode
  have hstatic : methM.isStatic = true := Cond.static_spec hnamed hmethM hstat
  obtain ⟨kP, hkP, -⟩ := className_of_methodNamed hnamed
  have hinitP : kP.init = .initialized := Cond.initialized_spec (findClass_of_methodNamed hnamed) hkP hinit
  obtain ⟨vm₁, X₁, hstep₁⟩ := X.invokestatic hexec hown hlink hnamed hmethM hstatic hkP hinitP hy (g := g) hg (argsL := argsL) (rest := rest) (hlen _ hsigM) hstack hdg
  rcases hK m meth c ⟨T.setVm vm₁, locs, cells, slots⟩ { g with stack := rest } (.invokestatic index) mk argsL.toArray X₁ hg hsize hdg hW (X₁.named hnamed) (hpre vm₁ X₁.warmed) with ⟨v, B, X', hpost, hsteps⟩ | ⟨q, B, X', hpost, hsteps⟩
  · exact Or.inl ⟨v, vm₁, B, X₁.warmed, X', hpost, fun target h => hstep₁ _ fun acts => by rw [doInvoke_state]; exact hsteps.trans h⟩
  · exact Or.inr ⟨q, vm₁, B, X₁.warmed, X', hpost, hstep₁ _ fun acts => by rw [doInvoke_state]; exact hsteps⟩
end Calls
theorem vx_cls {s : State} {T : State} {vm₁ : Vm} {E : String} {k : ClassId} (hW : s.WarmedH vm₁) (h : (T.setVm vm₁).vm.findClass E = some k) : s.vm.findClass E = some k := by
  have h1 : vm₁.findClass E = some k := h
  rw [hW.alike.findClass] at h1
  exact h1
/-- the method's frame g, with q thrown over it -/
def vx_W (p : Program) (l : Launch) (e : Env) (R : Room) (s : State) (m : MethodId) (args : Array Value) (below : List Frame) (meth : Method) (c : Code) (H : Heap) (locs : List Loc) (cells slots : Nat) (Q : State → Prop) (g : JFrame) (q : Addr) : Prop :=
  ∀ T : State, T.heap = H → Stand p l e R s m args below meth c T locs cells slots → ∃ t, Steps p.tables e below ((T.setTop g).pushFrame (.throwing q)) t ∧ Q t
def vx_Run (p : Program) (l : Launch) (e : Env) (R : Room) (s : State) (m : MethodId) (args : Array Value) (below : List Frame) (meth : Method) (c : Code) (H : Heap) (locs : List Loc) (cells slots mc ms : Nat) (g : JFrame) (rest : List Value) (Qa : State → Outcome → State → Prop) (XC : String → State → State → Prop) (free : Addr → Prop) : Prop :=
  ∀ T : State, T.heap = H → Stand p l e R s m args below meth c T locs cells slots →
    (∃ (v : Option Value) (st₀ t T' : State) (L : List Loc), st₀.heap = H ∧ Stand p l e R s m args below meth c T' (locs ++ L) (cells + mc) (slots + ms) ∧ (∀ q ∈ L, free q.base) ∧ T'.heap = t.heap ∧ T'.vm = t.vm ∧ Qa st₀ (.returned v) t ∧
      Goes p e below T g T' { g with pc := g.pc + 3, stack := v.toList ++ rest }) ∨
    (∃ (q : Addr) (st₀ t T' : State) (L : List Loc) (E : String) (ce : Cell), st₀.heap = H ∧ Stand p l e R s m args below meth c T' (locs ++ L) (cells + mc) (slots + ms) ∧ (∀ z ∈ L, free z.base) ∧ T'.heap = t.heap ∧ T'.vm = t.vm ∧ XC E st₀ t ∧ t.heap[q]? = some ce ∧ ce.vm = .none ∧ s.vm.findClass E = some ce.cls ∧
      Steps p.tables e below (T.setTop g) ((T'.setTop { g with stack := rest }).pushFrame (.throwing q)))
def vx_X {S : Type} (px : S → Prop) (B : String → S → State → Prop) (A : Nat → Prop) : String → State → State → Prop := fun E st t => ∃ u : S, px u ∧ B E u t ∧ va_F A st t
section Runs
variable {p : Program} {l : Launch} {e : Env} {R : Room} {s : State} {m : MethodId} {args : Array Value} {below : List Frame} {meth : Method} {c : Code} {H : Heap} {locs : List Loc} {cells slots : Nat}
variable {y : MethodName} {bytes cc : ByteArray} {maxL nL mc ms n index : Nat} {ret : Option FieldType} {ws : List Cond} {rm : Room} {Pc : Array Value → State → Prop} {Qc : Array Value → State → Outcome → State → Prop} {XC : String → State → State → Prop} {free : Addr → Prop} {Ts : List Cond} {own C : String} {b : Addr} {As rest : List Value} {g : JFrame}
theorem vx_callBack (cb : CallB R s args own index y bytes maxL ret ws rm mc ms n) (hM : vx_Met l y ws rm Pc Qc XC mc ms free) (hbl : FrameBlind Pc) : vx_Back l R p e below s args y 3 8 (PreOf R mc ms Pc) (PostOf Qc mc ms free) (vx_Post XC mc ms free) := by
  obtain ⟨hrc, hrs, hfr, hlo, hws, hcw, -, hini, -⟩ := cb
  exact vx_back (bytes := bytes) (maxL := maxL) (ret := ret) hM hbl hrc hrs hfr hlo hws hcw (fun a' U hW => word_at hW (Or.inl (by first | rfl | simp [Cond.onTables, Cond.keeps, Cond.steady])) hini)
theorem vx_runV (S : CallFix p m c cc nL s args Ts own) (hM : vx_Met l y ws rm Pc Qc XC mc ms free) (cw : CallW R s args own C index y bytes maxL ret ws rm mc ms n) (hp : PreV s H C b Pc As)
    (hg : g.method = m) (hn : As.length = n) (hsize : g.locals.size = nL) (hstack : g.stack = As.reverse ++ .ref b :: rest) (hW : 2 * g.monitorRoom + (rest.map fun v => v.category).sum ≤ 8) (hdg : decode cc g.pc = .ok (.invokevirtual index, 3)) (hf : cells + mc ≤ R.cells ∧ slots + ms ≤ R.slots) :
    vx_Run p l e R s m args below meth c H locs cells slots mc ms g rest (Qc (Value.ref b :: As).toArray) XC free := by
  have hK : vx_Back l R p e below s args y 3 8 (PreOf R mc ms Pc) (PostOf Qc mc ms free) (vx_Post XC mc ms free) := vx_callBack cw.1 hM hp.1
  obtain ⟨⟨-, -, -, -, -, -, hcode, -, hy, hlen, hl⟩, hin, hse⟩ := cw
  obtain ⟨hx, hb, hml, ho, -⟩ := S
  obtain ⟨-, ⟨cellB, hcB, hoB, hclB⟩, hPc⟩ := hp
  intro T hT X
  rcases vx_callV X hx (C := C) (bytes := bytes) (maxL := maxL) (ret := ret) ho hl hin hse hcode hy hK (by rw [hT]; exact hcB) hoB hclB hg (hsize.trans hml.symm) (argsL := As) (rest := rest) (fun sig h => hn.trans (hlen sig h)) hstack hW (by rw [hb]; exact hdg)
    (fun vm₁ hW₁ => ⟨hf.1, hf.2, hPc (T.setVm vm₁) hT hW₁⟩) with ⟨v, vm₁, ⟨U', l2, c2, s2⟩, hW₁, X', ⟨g', mk, t, L, e1, e2, hq, h1, hL, h2, h3⟩, st⟩ | ⟨q, vm₁, ⟨U', l2, c2, s2⟩, hW₁, X', ⟨g', mk, t, L, E, ce, e1, e2, hq, hce, hcv, hcl, h1, hL, h2, h3⟩, st⟩
  · dsimp only [Pt.U, Pt.locs, Pt.cells, Pt.slots] at X' e1 e2 h1 h2 h3 st
    subst h1; subst h2; subst h3
    exact Or.inl ⟨v, (T.setVm vm₁).calling g' mk (Value.ref b :: As).toArray, t, U', L, hT, X', hL, e1, e2, hq, st⟩
  · dsimp only [Pt.U, Pt.locs, Pt.cells, Pt.slots] at X' e1 e2 h1 h2 h3 st hcl
    subst h1; subst h2; subst h3
    exact Or.inr ⟨q, (T.setVm vm₁).calling g' mk (Value.ref b :: As).toArray, t, U', L, E, ce, hT, X', hL, e1, e2, hq, hce, hcv, vx_cls hW₁ hcl, st⟩
theorem vx_runS (S : CallFix p m c cc nL s args Ts own) (hM : vx_Met l y ws rm Pc Qc XC mc ms free) (cw : CallB R s args own index y bytes maxL ret ws rm mc ms n ∧ (Cond.static y).before args s = true) (hp : PreS s H Pc As)
    (hg : g.method = m) (hn : As.length = n) (hsize : g.locals.size = nL) (hstack : g.stack = As.reverse ++ rest) (hW : 2 * g.monitorRoom + (rest.map fun v => v.category).sum ≤ 8) (hdg : decode cc g.pc = .ok (.invokestatic index, 3)) (hf : cells + mc ≤ R.cells ∧ slots + ms ≤ R.slots) :
    vx_Run p l e R s m args below meth c H locs cells slots mc ms g rest (Qc As.toArray) XC free := by
  have hK : vx_Back l R p e below s args y 3 8 (PreOf R mc ms Pc) (PostOf Qc mc ms free) (vx_Post XC mc ms free) := vx_callBack cw.1 hM hp.1
  obtain ⟨⟨-, -, -, -, -, -, hcode, hini, hy, hlen, hl⟩, hstt⟩ := cw
  obtain ⟨hx, hb, hml, ho, -⟩ := S
  intro T hT X
  rcases vx_callS X hx (bytes := bytes) (maxL := maxL) (ret := ret) ho hl hstt hini hcode hy hK hg (hsize.trans hml.symm) (argsL := As) (rest := rest) (fun sig h => hn.trans (hlen sig h)) hstack hW (by rw [hb]; exact hdg)
    (fun vm₁ hW₁ => ⟨hf.1, hf.2, hp.2 (T.setVm vm₁) hT hW₁⟩) with ⟨v, vm₁, ⟨U', l2, c2, s2⟩, hW₁, X', ⟨g', mk, t, L, e1, e2, hq, h1, hL, h2, h3⟩, st⟩ | ⟨q, vm₁, ⟨U', l2, c2, s2⟩, hW₁, X', ⟨g', mk, t, L, E, ce, e1, e2, hq, hce, hcv, hcl, h1, hL, h2, h3⟩, st⟩
  · dsimp only [Pt.U, Pt.locs, Pt.cells, Pt.slots] at X' e1 e2 h1 h2 h3 st
    subst h1; subst h2; subst h3
    exact Or.inl ⟨v, (T.setVm vm₁).calling g' mk As.toArray, t, U', L, hT, X', hL, e1, e2, hq, st⟩
  · dsimp only [Pt.U, Pt.locs, Pt.cells, Pt.slots] at X' e1 e2 h1 h2 h3 st hcl
    subst h1; subst h2; subst h3
    exact Or.inr ⟨q, (T.setVm vm₁).calling g' mk As.toArray, t, U', L, E, ce, hT, X', hL, e1, e2, hq, hce, hcv, vx_cls hW₁ hcl, st⟩
end Runs
section Rows
variable {p : Program} {l : Launch} {e : Env} {R : Room} {s : State} {m : MethodId} {args : Array Value} {below : List Frame} {meth : Method} {c : Code} {H : Heap} {locs : List Loc} {cells slots : Nat} {Q : State → Prop}
variable {mc ms : Nat} {free : Addr → Prop} {A0 A1 : Nat → Prop} {H0 : Heap} {a : Array Value} {pc : Nat} {ls : Array Slot} {st0 rest : List Value}
theorem vx_keep {st₀ t T' : State} {L : List Loc} (h0 : st₀.heap = H) (e1 : T'.heap = t.heap) (hS : va_S A0 H0 H locs) (hA : ∀ q, q < H.size → A1 q → A0 q) (hf : ∀ q, free q → A0 q) (hL : ∀ q ∈ L, free q.base) (hF : va_F A1 st₀ t) :
    H.size ≤ T'.heap.size ∧ (∀ q : Nat, q < H.size → ¬ A1 q → T'.heap[q]? = H[q]?) ∧ va_S A0 H0 T'.heap (locs ++ L) := by
  obtain ⟨hz, hk⟩ := hF
  rw [h0] at hz hk
  exact ⟨by rw [e1]; exact hz, fun q h1 h2 => by rw [e1]; exact hk q h1 h2,
    ⟨Nat.le_trans hS.1 (by rw [e1]; exact hz), fun q h1 h2 => by rw [e1, hk q (Nat.lt_of_lt_of_le h1 hS.1) (fun z => h2 (hA q (Nat.lt_of_lt_of_le h1 hS.1) z))]; exact hS.2.1 q h1 h2, fun q hq => by
      rcases List.mem_append.mp hq with h | h
      · exact hS.2.2 q h
      · exact hf _ (hL q h)⟩⟩
theorem vx_calli {S SX : Type} {post : Int32 → S → Prop} {px : SX → Prop} {B : S → State → Prop} {BX : String → SX → State → Prop} {AX : Nat → Prop} (hr : vx_Run p l e R s m args below meth c H locs cells slots mc ms (F0 m pc ls st0) rest (va_Qi post B A1 a) (vx_X px BX AX) free) (hS : va_S A0 H0 H locs) (hA : ∀ q, q < H.size → A1 q → A0 q) (hf : ∀ q, free q → A0 q) (hAX : ∀ q, q < H.size → AX q → A0 q)
    (kx : ∀ (E : String) (ce : Cell) (q9 : Addr) (u : SX) (t : State) (H1 : Heap) (locs1 : List Loc), t.heap = H1 → s.vm.Alike t.vm → px u → BX E u t → H.size ≤ H1.size → (∀ q : Nat, q < H.size → ¬ AX q → H1[q]? = H[q]?) → va_S A0 H0 H1 locs1 → H1[q9]? = some ce → ce.vm = .none → s.vm.findClass E = some ce.cls → vx_W p l e R s m args below meth c H1 locs1 (cells + mc) (slots + ms) Q (F0 m pc ls rest) q9)
    (kk : ∀ (r : Int32) (u : S) (t : State) (H1 : Heap) (locs1 : List Loc), t.heap = H1 → s.vm.Alike t.vm → post r u → B u t → H.size ≤ H1.size → (∀ q : Nat, q < H.size → ¬ A1 q → H1[q]? = H[q]?) → va_S A0 H0 H1 locs1 → W p l e R s m args below meth c H1 locs1 (cells + mc) (slots + ms) Q (F0 m (pc + 3) ls (.int r :: rest))) : W p l e R s m args below meth c H locs cells slots Q (F0 m pc ls st0) := by
  intro T hT X
  rcases hr T hT X with ⟨v, st₀, t, T', L, h0, X', hL, e1, e2, ⟨⟨r, u, hv, hp, hb⟩, hF⟩, st⟩ | ⟨q, st₀, t, T', L, E, ce, h0, X', hL, e1, e2, ⟨u, hp, hb, hF⟩, hce, hcv, hcl, st⟩
  · cases hv
    obtain ⟨k1, k2, k3⟩ := vx_keep h0 e1 hS hA hf hL hF
    obtain ⟨t2, a1, b1⟩ := kk r u t T'.heap (locs ++ L) e1.symm (by rw [← e2]; exact X'.warmed.alike) hp hb k1 k2 k3 T' rfl X'
    exact ⟨t2, st t2 a1, b1⟩
  · obtain ⟨k1, k2, k3⟩ := vx_keep h0 e1 hS hAX hf hL hF
    obtain ⟨t2, a1, b1⟩ := kx E ce q u t T'.heap (locs ++ L) e1.symm (by rw [← e2]; exact X'.warmed.alike) hp hb k1 k2 k3 (by rw [e1]; exact hce) hcv hcl T' rfl X'
    exact ⟨t2, st.trans a1, b1⟩
theorem vx_calll {S SX : Type} {post : Int64 → S → Prop} {px : SX → Prop} {B : S → State → Prop} {BX : String → SX → State → Prop} {AX : Nat → Prop} (hr : vx_Run p l e R s m args below meth c H locs cells slots mc ms (F0 m pc ls st0) rest (va_Ql post B A1 a) (vx_X px BX AX) free) (hS : va_S A0 H0 H locs) (hA : ∀ q, q < H.size → A1 q → A0 q) (hf : ∀ q, free q → A0 q) (hAX : ∀ q, q < H.size → AX q → A0 q)
    (kx : ∀ (E : String) (ce : Cell) (q9 : Addr) (u : SX) (t : State) (H1 : Heap) (locs1 : List Loc), t.heap = H1 → s.vm.Alike t.vm → px u → BX E u t → H.size ≤ H1.size → (∀ q : Nat, q < H.size → ¬ AX q → H1[q]? = H[q]?) → va_S A0 H0 H1 locs1 → H1[q9]? = some ce → ce.vm = .none → s.vm.findClass E = some ce.cls → vx_W p l e R s m args below meth c H1 locs1 (cells + mc) (slots + ms) Q (F0 m pc ls rest) q9)
    (kk : ∀ (r : Int64) (u : S) (t : State) (H1 : Heap) (locs1 : List Loc), t.heap = H1 → s.vm.Alike t.vm → post r u → B u t → H.size ≤ H1.size → (∀ q : Nat, q < H.size → ¬ A1 q → H1[q]? = H[q]?) → va_S A0 H0 H1 locs1 → W p l e R s m args below meth c H1 locs1 (cells + mc) (slots + ms) Q (F0 m (pc + 3) ls (.long r :: rest))) : W p l e R s m args below meth c H locs cells slots Q (F0 m pc ls st0) := by
  intro T hT X
  rcases hr T hT X with ⟨v, st₀, t, T', L, h0, X', hL, e1, e2, ⟨⟨r, u, hv, hp, hb⟩, hF⟩, st⟩ | ⟨q, st₀, t, T', L, E, ce, h0, X', hL, e1, e2, ⟨u, hp, hb, hF⟩, hce, hcv, hcl, st⟩
  · cases hv
    obtain ⟨k1, k2, k3⟩ := vx_keep h0 e1 hS hA hf hL hF
    obtain ⟨t2, a1, b1⟩ := kk r u t T'.heap (locs ++ L) e1.symm (by rw [← e2]; exact X'.warmed.alike) hp hb k1 k2 k3 T' rfl X'
    exact ⟨t2, st t2 a1, b1⟩
  · obtain ⟨k1, k2, k3⟩ := vx_keep h0 e1 hS hAX hf hL hF
    obtain ⟨t2, a1, b1⟩ := kx E ce q u t T'.heap (locs ++ L) e1.symm (by rw [← e2]; exact X'.warmed.alike) hp hb k1 k2 k3 (by rw [e1]; exact hce) hcv hcl T' rfl X'
    exact ⟨t2, st.trans a1, b1⟩
theorem vx_callf {S SX : Type} {post : UInt32 → S → Prop} {px : SX → Prop} {B : S → State → Prop} {BX : String → SX → State → Prop} {AX : Nat → Prop} (hr : vx_Run p l e R s m args below meth c H locs cells slots mc ms (F0 m pc ls st0) rest (va_Qf post B A1 a) (vx_X px BX AX) free) (hS : va_S A0 H0 H locs) (hA : ∀ q, q < H.size → A1 q → A0 q) (hf : ∀ q, free q → A0 q) (hAX : ∀ q, q < H.size → AX q → A0 q)
    (kx : ∀ (E : String) (ce : Cell) (q9 : Addr) (u : SX) (t : State) (H1 : Heap) (locs1 : List Loc), t.heap = H1 → s.vm.Alike t.vm → px u → BX E u t → H.size ≤ H1.size → (∀ q : Nat, q < H.size → ¬ AX q → H1[q]? = H[q]?) → va_S A0 H0 H1 locs1 → H1[q9]? = some ce → ce.vm = .none → s.vm.findClass E = some ce.cls → vx_W p l e R s m args below meth c H1 locs1 (cells + mc) (slots + ms) Q (F0 m pc ls rest) q9)
    (kk : ∀ (r : UInt32) (u : S) (t : State) (H1 : Heap) (locs1 : List Loc), t.heap = H1 → s.vm.Alike t.vm → post r u → B u t → H.size ≤ H1.size → (∀ q : Nat, q < H.size → ¬ A1 q → H1[q]? = H[q]?) → va_S A0 H0 H1 locs1 → W p l e R s m args below meth c H1 locs1 (cells + mc) (slots + ms) Q (F0 m (pc + 3) ls (.float r :: rest))) : W p l e R s m args below meth c H locs cells slots Q (F0 m pc ls st0) := by
  intro T hT X
  rcases hr T hT X with ⟨v, st₀, t, T', L, h0, X', hL, e1, e2, ⟨⟨r, u, hv, hp, hb⟩, hF⟩, st⟩ | ⟨q, st₀, t, T', L, E, ce, h0, X', hL, e1, e2, ⟨u, hp, hb, hF⟩, hce, hcv, hcl, st⟩
  · cases hv
    obtain ⟨k1, k2, k3⟩ := vx_keep h0 e1 hS hA hf hL hF
    obtain ⟨t2, a1, b1⟩ := kk r u t T'.heap (locs ++ L) e1.symm (by rw [← e2]; exact X'.warmed.alike) hp hb k1 k2 k3 T' rfl X'
    exact ⟨t2, st t2 a1, b1⟩
  · obtain ⟨k1, k2, k3⟩ := vx_keep h0 e1 hS hAX hf hL hF
    obtain ⟨t2, a1, b1⟩ := kx E ce q u t T'.heap (locs ++ L) e1.symm (by rw [← e2]; exact X'.warmed.alike) hp hb k1 k2 k3 (by rw [e1]; exact hce) hcv hcl T' rfl X'
    exact ⟨t2, st.trans a1, b1⟩
theorem vx_calld {S SX : Type} {post : UInt64 → S → Prop} {px : SX → Prop} {B : S → State → Prop} {BX : String → SX → State → Prop} {AX : Nat → Prop} (hr : vx_Run p l e R s m args below meth c H locs cells slots mc ms (F0 m pc ls st0) rest (va_Qd post B A1 a) (vx_X px BX AX) free) (hS : va_S A0 H0 H locs) (hA : ∀ q, q < H.size → A1 q → A0 q) (hf : ∀ q, free q → A0 q) (hAX : ∀ q, q < H.size → AX q → A0 q)
    (kx : ∀ (E : String) (ce : Cell) (q9 : Addr) (u : SX) (t : State) (H1 : Heap) (locs1 : List Loc), t.heap = H1 → s.vm.Alike t.vm → px u → BX E u t → H.size ≤ H1.size → (∀ q : Nat, q < H.size → ¬ AX q → H1[q]? = H[q]?) → va_S A0 H0 H1 locs1 → H1[q9]? = some ce → ce.vm = .none → s.vm.findClass E = some ce.cls → vx_W p l e R s m args below meth c H1 locs1 (cells + mc) (slots + ms) Q (F0 m pc ls rest) q9)
    (kk : ∀ (r : UInt64) (u : S) (t : State) (H1 : Heap) (locs1 : List Loc), t.heap = H1 → s.vm.Alike t.vm → post r u → B u t → H.size ≤ H1.size → (∀ q : Nat, q < H.size → ¬ A1 q → H1[q]? = H[q]?) → va_S A0 H0 H1 locs1 → W p l e R s m args below meth c H1 locs1 (cells + mc) (slots + ms) Q (F0 m (pc + 3) ls (.double r :: rest))) : W p l e R s m args below meth c H locs cells slots Q (F0 m pc ls st0) := by
  intro T hT X
  rcases hr T hT X with ⟨v, st₀, t, T', L, h0, X', hL, e1, e2, ⟨⟨r, u, hv, hp, hb⟩, hF⟩, st⟩ | ⟨q, st₀, t, T', L, E, ce, h0, X', hL, e1, e2, ⟨u, hp, hb, hF⟩, hce, hcv, hcl, st⟩
  · cases hv
    obtain ⟨k1, k2, k3⟩ := vx_keep h0 e1 hS hA hf hL hF
    obtain ⟨t2, a1, b1⟩ := kk r u t T'.heap (locs ++ L) e1.symm (by rw [← e2]; exact X'.warmed.alike) hp hb k1 k2 k3 T' rfl X'
    exact ⟨t2, st t2 a1, b1⟩
  · obtain ⟨k1, k2, k3⟩ := vx_keep h0 e1 hS hAX hf hL hF
    obtain ⟨t2, a1, b1⟩ := kx E ce q u t T'.heap (locs ++ L) e1.symm (by rw [← e2]; exact X'.warmed.alike) hp hb k1 k2 k3 (by rw [e1]; exact hce) hcv hcl T' rfl X'
    exact ⟨t2, st.trans a1, b1⟩
theorem vx_callv {S SX : Type} {post : S → Prop} {px : SX → Prop} {B : S → State → Prop} {BX : String → SX → State → Prop} {AX : Nat → Prop} (hr : vx_Run p l e R s m args below meth c H locs cells slots mc ms (F0 m pc ls st0) rest (va_Qv post B A1 a) (vx_X px BX AX) free) (hS : va_S A0 H0 H locs) (hA : ∀ q, q < H.size → A1 q → A0 q) (hf : ∀ q, free q → A0 q) (hAX : ∀ q, q < H.size → AX q → A0 q)
    (kx : ∀ (E : String) (ce : Cell) (q9 : Addr) (u : SX) (t : State) (H1 : Heap) (locs1 : List Loc), t.heap = H1 → s.vm.Alike t.vm → px u → BX E u t → H.size ≤ H1.size → (∀ q : Nat, q < H.size → ¬ AX q → H1[q]? = H[q]?) → va_S A0 H0 H1 locs1 → H1[q9]? = some ce → ce.vm = .none → s.vm.findClass E = some ce.cls → vx_W p l e R s m args below meth c H1 locs1 (cells + mc) (slots + ms) Q (F0 m pc ls rest) q9)
    (kk : ∀ (u : S) (t : State) (H1 : Heap) (locs1 : List Loc), t.heap = H1 → s.vm.Alike t.vm → post u → B u t → H.size ≤ H1.size → (∀ q : Nat, q < H.size → ¬ A1 q → H1[q]? = H[q]?) → va_S A0 H0 H1 locs1 → W p l e R s m args below meth c H1 locs1 (cells + mc) (slots + ms) Q (F0 m (pc + 3) ls (rest))) : W p l e R s m args below meth c H locs cells slots Q (F0 m pc ls st0) := by
  intro T hT X
  rcases hr T hT X with ⟨v, st₀, t, T', L, h0, X', hL, e1, e2, ⟨⟨u, hv, hp, hb⟩, hF⟩, st⟩ | ⟨q, st₀, t, T', L, E, ce, h0, X', hL, e1, e2, ⟨u, hp, hb, hF⟩, hce, hcv, hcl, st⟩
  · cases hv
    obtain ⟨k1, k2, k3⟩ := vx_keep h0 e1 hS hA hf hL hF
    obtain ⟨t2, a1, b1⟩ := kk u t T'.heap (locs ++ L) e1.symm (by rw [← e2]; exact X'.warmed.alike) hp hb k1 k2 k3 T' rfl X'
    exact ⟨t2, st t2 a1, b1⟩
  · obtain ⟨k1, k2, k3⟩ := vx_keep h0 e1 hS hAX hf hL hF
    obtain ⟨t2, a1, b1⟩ := kx E ce q u t T'.heap (locs ++ L) e1.symm (by rw [← e2]; exact X'.warmed.alike) hp hb k1 k2 k3 (by rw [e1]; exact hce) hcv hcl T' rfl X'
    exact ⟨t2, st.trans a1, b1⟩
/-- caught by the row x of this method's table; the rows ahead don't take it -/
theorem vx_catch {own name : String} {E : String} {ce : Cell} {q : Addr} (hown : s.vm.findClass own = some m.cls) (pre : List ExceptionTableEntry) (x : ExceptionTableEntry) (suf : List ExceptionTableEntry) (hsplit : c.exceptionTable.toList = pre ++ x :: suf)
    (hpass : ∀ z ∈ pre, covers z pc = false ∨ (z.catchType ≠ 0 ∧ ∃ nm : String, (Cond.classLink own z.catchType nm).before args s = true ∧ va_Nc E nm s)) (hx : covers x pc = true) (h0 : x.catchType ≠ 0)
    (hlink : (Cond.classLink own x.catchType name).before args s = true) (hcast : (Cond.castable E name).before args s = true) (hcell : H[q]? = some ce) (hv : ce.vm = .none) (hcl : s.vm.findClass E = some ce.cls)
    (kk : W p l e R s m args below meth c H locs cells slots Q (F0 m x.handlerPc ls [.ref q])) : vx_W p l e R s m args below meth c H locs cells slots Q (F0 m pc ls rest) q := by
  intro T hT X
  have hpl : e.platform.magicAccessors = ({} : Platform).magicAccessors := by rw [X.admits.platform]
  obtain ⟨c3, c4, hc3, hc4, hasg⟩ := Cond.castable_spec hcast
  cases Option.some.inj (hc3.symm.trans hcl)
  obtain ⟨c5, hc5, hcl5⟩ := Cond.classLink_spec hown hlink e.platform hpl
  cases Option.some.inj (hc4.symm.trans hc5)
  obtain ⟨vm', X', st⟩ := X.thenCaughtThrough q (g := F0 m pc ls rest) rfl (Steps.refl _) (by rw [hT]; exact hcell) (by rw [hv]; rfl) (by obtain ⟨k9, h9, -⟩ := Vm.findClass_spec hcl; exact ⟨k9, h9⟩) pre x suf hsplit
    (fun z hz => by
      rcases hpass z hz with h | ⟨hz0, nm, hl1, hn1⟩
      · exact Or.inl h
      · obtain ⟨c6, hc6, hcl6⟩ := Cond.classLink_spec hown hl1 e.platform hpl
        obtain ⟨a8, b8, h1, h2, h3⟩ := hn1
        cases Option.some.inj (h1.symm.trans hcl)
        cases Option.some.inj (h2.symm.trans hc6)
        exact Or.inr ⟨hz0, _, hcl6, h3⟩) hx (Or.inr ⟨h0, c4, hcl5, hasg⟩)
  obtain ⟨t, a1, b1⟩ := kk (T.setVm vm') hT X'
  exact ⟨t, st.trans a1, b1⟩
end Rows
section Ends
variable {p : Program} {l : Launch} {e : Env} {R : Room} {s : State} {m : MethodId} {args : Array Value} {below : List Frame} {meth : Method} {c : Code} {H : Heap} {locs : List Loc} {cells slots : Nat} {Q : State → Prop}
variable {mc ms : Nat} {free : Addr → Prop} {A0 A1 : Nat → Prop} {H0 : Heap} {a : Array Value} {ls : Array Slot} {st0 rest : List Value}
variable {Qc : Array Value → State → Outcome → State → Prop} {XC : String → State → State → Prop}
/-- what a body that may throw owes at its end -/
def vx_MQ (below : List Frame) (Qc : Array Value → State → Outcome → State → Prop) (XC : String → State → State → Prop) (a : Array Value) (s : State) (mc ms : Nat) (free : Addr → Prop) : State → Prop := fun t =>
  ∃ o, t.status = .running ∧ Ended t below o ∧ vx_Q Qc XC mc ms free a s o t
theorem vx_ret {g : JFrame} {mc ms : Nat} (k : W p l e R s m args below meth c H locs cells slots (MQ below Qc args s mc ms free) g) : W p l e R s m args below meth c H locs cells slots (vx_MQ below Qc XC args s mc ms free) g := by
  intro T hT X
  obtain ⟨t, a1, o, b1, b2, b3, b4⟩ := k T hT X
  exact ⟨t, a1, o, b1, b2, Or.inl ⟨b3, b4⟩⟩
/-- not caught here: it goes on to the caller -/
theorem vx_widen {g : JFrame} {q : Addr} {k n : Nat} (h1 : cells ≤ k) (h2 : slots ≤ n) (kk : vx_W p l e R s m args below meth c H locs k n Q g q) : vx_W p l e R s m args below meth c H locs cells slots Q g q := fun T hT X => kk T hT (stand_widen X h1 h2)
theorem vx_out {pc : Nat} {E : String} {ce : Cell} {q : Addr} {mc ms : Nat} (hout : ∀ x ∈ c.exceptionTable.toList, covers x pc = false) (hlocks : meth.locks = false) (hcell : H[q]? = some ce) (hv : ce.vm = .none) (hcl : s.vm.findClass E = some ce.cls)
    (hx : ∀ t : State, t.heap = H → s.vm.Alike t.vm → XC E s t) (hf : ∀ z ∈ locs, free z.base) (hc : cells ≤ mc) (hs : slots ≤ ms) :
    vx_W p l e R s m args below meth c H locs cells slots (vx_MQ below Qc XC args s mc ms free) (F0 m pc ls rest) q := by
  intro T hT X
  obtain ⟨st1, hrun, hend, hW, hsm⟩ := X.leaveThrown q (g := F0 m pc ls rest) rfl rfl rfl hout hlocks
  have hcell9 : (T.setFrames (.throwing q :: below)).heap[q]? = some ce := by
    show T.heap[q]? = some ce
    rw [hT]; exact hcell
  exact ⟨_, st1, .threw q, hrun, hend, Or.inr ⟨q, rfl, E, ce, locs, hx _ hT hW.alike, hcell9, hv, hcl, hW, hsm.mono hc hs, hf⟩⟩
theorem vx_frame {U : State} {k n : Nat} (h : s.sameButNew ({ U with vm := s.vm } : State) locs k n) : s.heap.size ≤ U.heap.size ∧ ∀ q : Nat, q < s.heap.size → (∀ z ∈ locs, z.base ≠ q) → U.heap[q]? = s.heap[q]? := by
  obtain ⟨-, h2, -, -, -, h6⟩ := h
  refine ⟨h2, fun q hq hz => ?_⟩
  obtain ⟨c9, e1, e2, e3, e4⟩ := h6 q _ (Array.getElem?_eq_getElem hq)
  have hs : c9.slots = (s.heap[q]).slots := Array.ext_getElem? fun i => e4 i fun hm => hz _ hm rfl
  have h9 : c9 = s.heap[q] := by
    rw [hs] at e2
    exact e2
  have e5 : U.heap[q]? = some c9 := e1
  rw [e5, h9, Array.getElem?_eq_getElem hq]
/-- the words of a throw but the four that speak of the heap -/
def vx_no (w : Cond) : Bool := decide (w ≠ .isRef (.static Bundle.tN "UNASSIGNED_STACK" Bundle.steD)) && decide (w ≠ .isRef (.static Bundle.tN "SUPPRESSED_SENTINEL" Bundle.listD)) && decide (w ≠ .laysStatic Bundle.tN "UNASSIGNED_STACK" Bundle.steD) && decide (w ≠ .laysStatic Bundle.tN "SUPPRESSED_SENTINEL" Bundle.listD)
def vx_at0 (own : String) (ic : Nat) (X : String) (names : List String) : List Cond := (Bundle.ownAtoms0 own ic X names).filter vx_no
def vx_atS (own : String) (ic : Nat) (X : String) (names : List String) : List Cond := (Bundle.ownAtoms own ic X names).filter vx_no
/-- a word that the tables alone decide, or a good one -/
def vx_ot (w : Cond) : Bool := w.onTables || goodWord w
theorem vx_ot_at {args a' : Array Value} {s U : State} {w : Cond} (hW : s.WarmedH U.vm) (hvm : s.vm = U.vm) (hg : vx_ot w = true) (h : w.before args s = true) : w.before a' U = true := by
  simp only [vx_ot, Bool.or_eq_true] at hg
  rcases hg with hg | hg
  · exact va_tabs hg hvm h
  · exact word_at hW (good_of_word hg) h
/-- a list's words: the good ones out of the method's own list, the others by premises of their own -/
theorem vx_hat {args : Array Value} {s : State} {L B : List Cond} (h1 : ∀ w ∈ L.filter goodWord, w.before args s = true) (h2 : ∀ w ∈ L.filter (fun w => !goodWord w), w ∈ B) (h3 : ∀ w ∈ B, w.before args s = true) : ∀ w ∈ L, w.before args s = true := by
  intro w hw
  by_cases g : goodWord w = true
  · exact h1 w (List.mem_filter.mpr ⟨hw, g⟩)
  · refine h3 w (h2 w (List.mem_filter.mpr ⟨hw, ?_⟩))
    show (!goodWord w) = true
    cases hgw : goodWord w
    · rfl
    · exact absurd hgw g
theorem vx_c {args : Array Value} {s : State} {w : Cond} {B : List Cond} (h : w.before args s = true) (t : ∀ w ∈ B, w.before args s = true) : ∀ w' ∈ w :: B, w'.before args s = true := fun w' h' => (List.mem_cons.mp h').elim (fun e => by rw [e]; exact h) (t w')
theorem vx_n {args : Array Value} {s : State} : ∀ w ∈ ([] : List Cond), w.before args s = true := fun _ h => nomatch h
theorem vx_own {args : Array Value} {s : State} {L : List Cond} (h1 : ∀ w ∈ L.filter vx_no, w.before args s = true)
    (hU : (Cond.isRef (.static Bundle.tN "UNASSIGNED_STACK" Bundle.steD)).before args s = true) (hN : (Cond.isRef (.static Bundle.tN "SUPPRESSED_SENTINEL" Bundle.listD)).before args s = true)
    (lU : (Cond.laysStatic Bundle.tN "UNASSIGNED_STACK" Bundle.steD).before args s = true) (lN : (Cond.laysStatic Bundle.tN "SUPPRESSED_SENTINEL" Bundle.listD).before args s = true) : ∀ w ∈ L, w.before args s = true := by
  intro w hw
  by_cases e1 : w = .isRef (.static Bundle.tN "UNASSIGNED_STACK" Bundle.steD)
  · rw [e1]; exact hU
  · by_cases e2 : w = .isRef (.static Bundle.tN "SUPPRESSED_SENTINEL" Bundle.listD)
    · rw [e2]; exact hN
    · by_cases e3 : w = .laysStatic Bundle.tN "UNASSIGNED_STACK" Bundle.steD
      · rw [e3]; exact lU
      · by_cases e4 : w = .laysStatic Bundle.tN "SUPPRESSED_SENTINEL" Bundle.listD
        · rw [e4]; exact lN
        · exact h1 w (List.mem_filter.mpr ⟨hw, by unfold vx_no; rw [decide_eq_true e1, decide_eq_true e2, decide_eq_true e3, decide_eq_true e4]; rfl⟩)
/-- where a static field lies, its class's statics cell in H -/
def vx_L (C n d : String) (A : Nat → Prop) (U : State) (H : Heap) : Prop := ∃ (c : ClassId) (k : Class) (i : Nat) (f : Field) (a : Nat) (cell : Cell), U.vm.findClass C = some c ∧ U.fieldFound? C n d = some (c, k, i, f) ∧ f.isStatic = true ∧ k.statics = some a ∧ H[a]? = some cell ∧ cell.vm.isStatics = true ∧ cell.cls = c ∧ f.slot < cell.slots.size ∧ k.staticTypes[f.slot]? = some f.type ∧ ¬ A a
theorem vx_L.moved {C n d : String} {A : Nat → Prop} {u U : State} {H : Heap} (hvm : u.vm.Alike U.vm) (h : vx_L C n d A u H) : vx_L C n d A U H := by
  obtain ⟨c, k, i, f, a, cell, h1, h2, h3, h4, h5, h6, h7, h8, h9, h10⟩ := h
  obtain ⟨k', hi', he⟩ := State.fieldFound?_setVm hvm h2
  exact ⟨c, k', i, f, a, cell, by rw [hvm.findClass]; exact h1, hi', h3, by rw [he]; exact h4, h5, h6, h7, h8, by rw [he]; exact h9, h10⟩
theorem vx_L.kept {C n d : String} {A : Nat → Prop} {U : State} {H H1 : Heap} (h : vx_L C n d A U H) (hq : ∀ a : Nat, a < H.size → ¬ A a → H1[a]? = H[a]?) : vx_L C n d A U H1 := by
  obtain ⟨c, k, i, f, a, cell, h1, h2, h3, h4, h5, h6, h7, h8, h9, h10⟩ := h
  exact ⟨c, k, i, f, a, cell, h1, h2, h3, h4, by rw [hq a (Array.getElem?_eq_some_iff.mp h5).1 h10]; exact h5, h6, h7, h8, h9, h10⟩
theorem vx_L.narrow {C n d : String} {A B : Nat → Prop} {U : State} {H : Heap} (h : vx_L C n d A U H) (hAB : ∀ q, B q → A q) : vx_L C n d B U H := by
  obtain ⟨c, k, i, f, a, cell, h1, h2, h3, h4, h5, h6, h7, h8, h9, h10⟩ := h
  exact ⟨c, k, i, f, a, cell, h1, h2, h3, h4, h5, h6, h7, h8, h9, fun z => h10 (hAB _ z)⟩
theorem vx_L.word {C n d : String} {A : Nat → Prop} {s : State} {args : Array Value} (h : vx_L C n d A s s.heap) : (Cond.laysStatic C n d).before args s = true := by
  obtain ⟨c, k, i, f, a, cell, h1, h2, h3, h4, h5, h6, h7, h8, h9, -⟩ := h
  show (Cond.laysStatic C n d).holds args s none s [] = true
  exact Cond.laysStatic_of h1 h2 h3 h4 h5 h6 h7 h8 h9
/-- .. and what it holds: null or some reference -/
def vx_Zq (C n d : String) (A : Nat → Prop) (U : State) (H : Heap) : Prop := va_Zq C n d A U H ∧ vx_L C n d A U H
theorem vx_Zq.moved {C n d : String} {A : Nat → Prop} {u U : State} {H : Heap} (hvm : u.vm.Alike U.vm) (h : vx_Zq C n d A u H) : vx_Zq C n d A U H := ⟨va_Zq.moved hvm h.1, vx_L.moved hvm h.2⟩
theorem vx_Zq.kept {C n d : String} {A : Nat → Prop} {U : State} {H H1 : Heap} (h : vx_Zq C n d A U H) (hq : ∀ a : Nat, a < H.size → ¬ A a → H1[a]? = H[a]?) : vx_Zq C n d A U H1 := ⟨va_Zq.kept h.1 hq, vx_L.kept h.2 hq⟩
theorem vx_Zq.narrow {C n d : String} {A B : Nat → Prop} {U : State} {H : Heap} (h : vx_Zq C n d A U H) (hAB : ∀ q, B q → A q) : vx_Zq C n d B U H := ⟨va_Zq.narrow h.1 hAB, vx_L.narrow h.2 hAB⟩
theorem vx_Zqof {args : Array Value} {s : State} {C n d : String} {A : Nat → Prop} (hl : (Cond.laysStatic C n d).before args s = true) (hini : (Cond.initialized C).before args s = true) (h : (Cond.isRef (.static C n d)).before args s = true) (hA : ∀ a : Nat, a < s.heap.size → ¬ A a) : vx_Zq C n d A s s.heap := by
  refine ⟨va_Zqof hl hini h hA, ?_⟩
  obtain ⟨c, k, i, f, a, cell, h1, h2, h3, h4, h5, h6, h7, h8, h9⟩ := Cond.laysStatic_spec hl
  exact ⟨c, k, i, f, a, cell, h1, h2, h3, h4, h5, h6, h7, h8, h9, hA a (Array.getElem?_eq_some_iff.mp h5).1⟩
theorem vx_isRef {C n d : String} {v : Value} {A : Nat → Prop} {s : State} {args : Array Value} (h : va_Z C n d v A s s.heap) (hv : v.isRef = true) : (Cond.isRef (.static C n d)).before args s = true := by
  obtain ⟨cf, kf, fi, f, a, cell, h1, h2, h3, h4, h5, h6, h7, -⟩ := h
  have he : (Term.static C n d).eval args s none [] s = some v := by
    simp [Term.eval, State.fieldNamed?, h1, h2, h4, h5, h6, h7]
  simp only [Cond.before, Cond.holds, Cond.value, he]
  cases v <;> simp_all [Value.isRef]
theorem vx_isRefq {C n d : String} {A : Nat → Prop} {s : State} {args : Array Value} (h : va_Zq C n d A s s.heap) : (Cond.isRef (.static C n d)).before args s = true := by
  rcases h with h | ⟨t, h⟩
  · exact vx_isRef h rfl
  · exact vx_isRef h rfl
/-- the same frame, seen from here: as if the method were called anew in this heap -/
theorem vx_rebase {T : State} (X : Stand p l e R s m args below meth c T locs cells slots) {R' : Room} (hf : R'.frames ≤ R.frames) (hl : R'.locals ≤ R.locals) (hc : cells + R'.cells ≤ R.cells) (hs : slots + R'.slots ≤ R.slots) :
    Stand p l e R' ((T.setVm s.vm).setFrames (.invoking m args :: below)) m args below meth c T [] 0 0 := by
  have htop : (T.setVm s.vm).topJava?.isSome := X.here.top
  have hF : ((T.setVm s.vm).setFrames (.invoking m args :: below)).frames = .invoking m args :: below := State.frames_setFrames _ (State.cur_lt_of_top htop)
  obtain ⟨g₀, hg0⟩ := Option.isSome_iff_exists.mp htop
  obtain ⟨r, hr⟩ := State.topJava?_eq_some.mp hg0
  have hl9 : e.platform.stackLimits (T.setVm s.vm).me = e.platform.stackLimits s.me := X.limits
  have hb9 : (T.setVm s.vm).me.stackBytes = s.me.stackBytes := X.bytes
  refine ⟨X.admits, X.cas, X.clock, hF, ?_, X.hears, X.method, X.code, X.here, X.tail, X.warmed, ?_, ?_, ?_⟩
  · have h := X.room
    have hU : ((T.setVm s.vm).setFrames (.invoking m args :: below)).localsInUse = s.localsInUse := by
      rw [State.localsInUse_invoking hF (meth := meth) (c := c) X.method X.code, State.localsInUse_invoking X.frames X.method X.code]
    simp only [State.hasRoom, Bool.and_eq_true, decide_eq_true_eq] at h ⊢
    obtain ⟨⟨⟨⟨h1, h2, h3, h4, h5, h6⟩, h7⟩, h8⟩, h9⟩ := h
    rw [X.frames, List.length_cons] at h2 h3
    have q1 := X.heapSize
    have q2 := X.used
    simp only [hF, hU, List.length_cons, State.stackLimits_setFrames, State.stackBytes_setFrames, hl9, hb9]
    refine ⟨⟨⟨⟨by omega, by omega, by omega, by omega, by omega, h6⟩, ?_⟩, ?_⟩, X.book⟩
    · show T.heap.size + R'.cells ≤ e.platform.maxCells
      omega
    · show T.slotsUsed + R'.slots ≤ e.platform.maxSlots
      omega
  · rw [State.stackLimits_setFrames]; rfl
  · rw [State.stackBytes_setFrames]; rfl
  · refine ⟨?_, Nat.le_refl _, Nat.le_refl _, ?_, ?_, fun a c9 h9 => ⟨c9, h9, rfl, rfl, fun _ _ => rfl⟩⟩
    · obtain ⟨t, ht, -⟩ := State.frames_cons hr
      show T.setVm s.vm = { ((T.setVm s.vm).setFrames (.invoking m args :: below)).setFrames (T.setVm s.vm).frames with heap := T.heap, slotsUsed := T.slotsUsed }
      rw [State.setFrames_setFrames, State.setFrames_self ht]
      rfl
    · show T.slotsUsed = T.slotsUsed + ((T.heap.toList.drop T.heap.size).map (·.slots.size)).sum
      rw [List.drop_eq_nil_of_le (Nat.le_of_eq Array.length_toList)]
      rfl
    · show ((T.heap.toList.drop T.heap.size).map (·.slots.size)).sum ≤ 0
      rw [List.drop_eq_nil_of_le (Nat.le_of_eq Array.length_toList)]
      exact Nat.le_refl _
/-- 'throw new E()': new; dup; invokespecial; athrow -/
theorem vx_throw0 {cc : ByteArray} {pc : Nat} (hexec : p.tables.exec = Jvm.exec) (hb : c.code = cc) (hl : l.stackTraces = false) {own cls : String} {names : List String} {ik ic mc ms : Nat} {A : Nat → Prop}
    (hown : s.vm.findClass own = some m.cls) (hcls : Bundle.fit cls = true) (hnames : ∀ n ∈ names, Bundle.fit n = true)
    (hk : (Cond.classLink own ik cls).before args s = true) (hini : (Cond.initialized cls).before args s = true) (hat : ∀ w ∈ vx_at0 own ic cls names, w.before args s = true)
    (hgood : ∀ w ∈ Cond.classLink own ik cls :: Cond.initialized cls :: vx_at0 own ic cls names, vx_ot w = true)
    (hU : vx_Zq Bundle.tN "UNASSIGNED_STACK" Bundle.steD A s s.heap) (hN : vx_Zq Bundle.tN "SUPPRESSED_SENTINEL" Bundle.listD A s s.heap) (hS : va_S A s.heap H locs) (hsize : ls.size = c.maxLocals)
    (d0 : decode cc pc = .ok (.new ik, 3)) (d3 : decode cc (pc + 3) = .ok (.dup, 1)) (d4 : decode cc (pc + 4) = .ok (.invokespecial ic, 3)) (d7 : decode cc (pc + 7) = .ok (.athrow, 1))
    (hout : ∀ x ∈ c.exceptionTable.toList, covers x (pc + 7) = false)
    (hRframes : names.length + 3 < R.frames) (hRlocals : (rest.map fun v => v.category).sum + (13 * (names.length + 1) + 42) ≤ R.locals) (hRcells : cells + 1 ≤ R.cells) (hRslots : slots + 6 ≤ R.slots) (hlocks : meth.locks = false)
    (hx : ∀ t : State, s.vm.Alike t.vm → H.size ≤ t.heap.size → (∀ q : Nat, q < H.size → t.heap[q]? = H[q]?) → XC cls s t)
    (hf : ∀ z ∈ locs, free z.base) (hc : cells + 1 ≤ mc) (hs : slots + 6 ≤ ms) :
    W p l e R s m args below meth c H locs cells slots (vx_MQ below Qc XC args s mc ms free) (F0 m pc ls rest) := by
  intro T hT X
  have htr : e.platform.stackTraces = false := (show e.platform.stackTraces = l.stackTraces by rw [X.admits.platform]).trans hl
  have Y := vx_rebase X (R' := { frames := R.frames, locals := R.locals, cells := 1, slots := 6 }) (Nat.le_refl _) (Nat.le_refl _) hRcells hRslots
  obtain ⟨s', hA⟩ : ∃ z, z = (T.setVm s.vm).setFrames (.invoking m args :: below) := ⟨_, rfl⟩
  rw [← hA] at Y
  have hvm : s'.vm = s.vm := by rw [hA]; rfl
  have hhp : s'.heap = H := by rw [hA]; exact hT
  have hW0 : s.WarmedH s'.vm := by rw [hvm]; exact State.WarmedH.refl s
  have hat' : ∀ w ∈ vx_at0 own ic cls names, w.before args s' = true := fun w hw => vx_ot_at hW0 hvm.symm (hgood w (List.mem_cons_of_mem _ (List.mem_cons_of_mem _ hw))) (hat w hw)
  have hk' : (Cond.classLink own ik cls).before args s' = true := vx_ot_at hW0 hvm.symm (hgood _ List.mem_cons_self) hk
  have hini' : (Cond.initialized cls).before args s' = true := vx_ot_at hW0 hvm.symm (hgood _ (List.mem_cons_of_mem _ List.mem_cons_self)) hini
  have hU' : vx_Zq Bundle.tN "UNASSIGNED_STACK" Bundle.steD A s' s'.heap := by rw [hhp]; exact vx_Zq.moved hW0.alike (hU.kept hS.2.1)
  have hN' : vx_Zq Bundle.tN "SUPPRESSED_SENTINEL" Bundle.listD A s' s'.heap := by rw [hhp]; exact vx_Zq.moved hW0.alike (hN.kept hS.2.1)
  have h : ∀ w ∈ Bundle.ownAtoms0 own ic cls names, w.before args s' = true := vx_own hat' (vx_isRefq hU'.1) (vx_isRefq hN'.1) hU'.2.word hN'.2.word
  have hown' : s'.vm.findClass own = some m.cls := by rw [hvm]; exact hown
  have hins : (Cond.instantiable cls 6).before args s' = true := h _ (by simp [Bundle.ownAtoms0])
  obtain ⟨vm₁, cX, kX, hfX, hkX, -, -, X₁, st1⟩ := Y.newCold hexec (own := own) (C := cls) (index := ik) (n := 6) hown' hk' hins hini'
    (g := F0 m pc ls rest) rfl (by rw [hb]; exact d0) (Nat.le_refl _) (Nat.le_refl _)
  generalize hT1 : (T.setVm vm₁).pushCell { cls := cX, slots := kX.instanceTypes.map defaultValue, vm := .none } = T1 at X₁ st1
  have hcat : (Value.ref T.heap.size).category = 1 := rfl
  have hcellA : T1.heap[T.heap.size]? = some (freshCell cX kX) := by rw [← hT1]; exact State.heap_pushCell_size _ _
  have d3' : decode c.code (pc + 3) = .ok (.dup, 1) := by rw [hb]; exact d3
  obtain ⟨U, hsteps, hrun, hend, hW, hsame, ce, hce, hO⟩ := X₁.ctorThrow0 hexec htr (own := own) (cls := cls) (names := names) (ic := ic) hown' hcls hnames h (fun x hx => nomatch hx) hfX hkX hcellA (by rw [hhp, hT]; exact Nat.le_refl _)
    (g := { method := m, pc := pc + 4, locals := ls, stack := .ref T.heap.size :: .ref T.heap.size :: rest, locked := none }) rfl hsize rfl rfl (rest := rest) rfl
    (by rw [hb]; exact d4) (by rw [hb]; exact d7) hout hRframes (by simp only [List.map_cons, List.sum_cons, hcat]; omega) hlocks
  obtain ⟨f1, f2⟩ := vx_frame hsame
  rw [hhp] at f1 f2
  have hWs : s.WarmedH U.vm := State.WarmedH.trans hW0 hW
  have hcl : s.vm.findClass cls = some ce.cls := by
    have h9 := hO.cls
    rw [hvm] at h9
    exact h9
  have hall : s.sameButNew ({ U with vm := s.vm } : State) locs mc ms := by
    subst hA
    obtain ⟨e1, e2⟩ := hsame
    rw [State.setFrames_setFrames] at e1
    have h2 : (T.setVm s.vm).sameButNew ({ U with vm := s.vm } : State) [] (0 + 1) (0 + 6) := ⟨e1, e2⟩
    have h3 := X.same.trans h2
    rw [List.append_nil] at h3
    exact h3.mono hc hs
  refine ⟨U, ?_, .threw T.heap.size, hrun, hend, Or.inr ⟨T.heap.size, rfl, cls, ce, locs, hx U hWs.alike f1 (fun q hq => f2 q hq (fun z hz => nomatch hz)), hce, hO.vm, hcl, hWs, hall, hf⟩⟩
  refine st1 _ ?_
  show Steps p.tables e below (T1.setTop { method := m, pc := pc + 3, locals := ls, stack := .ref T.heap.size :: rest, locked := none }) _
  jvm_step X₁.here [X₁.here.top, hexec, d3', Value.category]
  exact hsteps
/-- 'throw new E("text")': new; dup; ldc; invokespecial; athrow -/
theorem vx_throwS {cc : ByteArray} {pc : Nat} (hexec : p.tables.exec = Jvm.exec) (hb : c.code = cc) (hl : l.stackTraces = false) {own cls text : String} {names : List String} {ik is ic mc ms sa : Nat} {A : Nat → Prop}
    (hown : s.vm.findClass own = some m.cls) (hcls : Bundle.fit cls = true) (hnames : ∀ n ∈ names, Bundle.fit n = true)
    (hk : (Cond.classLink own ik cls).before args s = true) (hini : (Cond.initialized cls).before args s = true) (hstr : vk_R own is text sa s) (hat : ∀ w ∈ vx_atS own ic cls names, w.before args s = true)
    (hgood : ∀ w ∈ Cond.classLink own ik cls :: Cond.initialized cls :: vx_atS own ic cls names, vx_ot w = true)
    (hU : vx_Zq Bundle.tN "UNASSIGNED_STACK" Bundle.steD A s s.heap) (hN : vx_Zq Bundle.tN "SUPPRESSED_SENTINEL" Bundle.listD A s s.heap) (hS : va_S A s.heap H locs) (hsize : ls.size = c.maxLocals)
    (d0 : decode cc pc = .ok (.new ik, 3)) (d3 : decode cc (pc + 3) = .ok (.dup, 1)) (d4 : decode cc (pc + 4) = .ok (.ldc is, 2)) (d6 : decode cc (pc + 6) = .ok (.invokespecial ic, 3)) (d9 : decode cc (pc + 9) = .ok (.athrow, 1))
    (hout : ∀ x ∈ c.exceptionTable.toList, covers x (pc + 9) = false)
    (hRframes : names.length + 3 < R.frames) (hRlocals : (rest.map fun v => v.category).sum + (13 * (names.length + 1) + 43) ≤ R.locals) (hRcells : cells + 1 ≤ R.cells) (hRslots : slots + 6 ≤ R.slots) (hlocks : meth.locks = false)
    (hx : ∀ t : State, s.vm.Alike t.vm → H.size ≤ t.heap.size → (∀ q : Nat, q < H.size → t.heap[q]? = H[q]?) → XC cls s t)
    (hf : ∀ z ∈ locs, free z.base) (hc : cells + 1 ≤ mc) (hs : slots + 6 ≤ ms) :
    W p l e R s m args below meth c H locs cells slots (vx_MQ below Qc XC args s mc ms free) (F0 m pc ls rest) := by
  intro T hT X
  have htr : e.platform.stackTraces = false := (show e.platform.stackTraces = l.stackTraces by rw [X.admits.platform]).trans hl
  have Y := vx_rebase X (R' := { frames := R.frames, locals := R.locals, cells := 1, slots := 6 }) (Nat.le_refl _) (Nat.le_refl _) hRcells hRslots
  obtain ⟨s', hA⟩ : ∃ z, z = (T.setVm s.vm).setFrames (.invoking m args :: below) := ⟨_, rfl⟩
  rw [← hA] at Y
  have hvm : s'.vm = s.vm := by rw [hA]; rfl
  have hhp : s'.heap = H := by rw [hA]; exact hT
  have hW0 : s.WarmedH s'.vm := by rw [hvm]; exact State.WarmedH.refl s
  have hat' : ∀ w ∈ vx_atS own ic cls names, w.before args s' = true := fun w hw => vx_ot_at hW0 hvm.symm (hgood w (List.mem_cons_of_mem _ (List.mem_cons_of_mem _ hw))) (hat w hw)
  have hk' : (Cond.classLink own ik cls).before args s' = true := vx_ot_at hW0 hvm.symm (hgood _ List.mem_cons_self) hk
  have hini' : (Cond.initialized cls).before args s' = true := vx_ot_at hW0 hvm.symm (hgood _ (List.mem_cons_of_mem _ List.mem_cons_self)) hini
  have hU' : vx_Zq Bundle.tN "UNASSIGNED_STACK" Bundle.steD A s' s'.heap := by rw [hhp]; exact vx_Zq.moved hW0.alike (hU.kept hS.2.1)
  have hN' : vx_Zq Bundle.tN "SUPPRESSED_SENTINEL" Bundle.listD A s' s'.heap := by rw [hhp]; exact vx_Zq.moved hW0.alike (hN.kept hS.2.1)
  have h : ∀ w ∈ Bundle.ownAtoms own ic cls names, w.before args s' = true := vx_own hat' (vx_isRefq hU'.1) (vx_isRefq hN'.1) hU'.2.word hN'.2.word
  have hown' : s'.vm.findClass own = some m.cls := by rw [hvm]; exact hown
  have hins : (Cond.instantiable cls 6).before args s' = true := h _ (by simp [Bundle.ownAtoms])
  obtain ⟨vm₁, cX, kX, hfX, hkX, -, -, X₁, st1⟩ := Y.newCold hexec (own := own) (C := cls) (index := ik) (n := 6) hown' hk' hins hini'
    (g := F0 m pc ls rest) rfl (by rw [hb]; exact d0) (Nat.le_refl _) (Nat.le_refl _)
  generalize hT1 : (T.setVm vm₁).pushCell { cls := cX, slots := kX.instanceTypes.map defaultValue, vm := .none } = T1 at X₁ st1
  have hcat : (Value.ref T.heap.size).category = 1 := rfl
  have hcellA : T1.heap[T.heap.size]? = some (freshCell cX kX) := by rw [← hT1]; exact State.heap_pushCell_size _ _
  have d3' : decode c.code (pc + 3) = .ok (.dup, 1) := by rw [hb]; exact d3
  have d4' : decode c.code (pc + 4) = .ok (.ldc is, 2) := by rw [hb]; exact d4
  have hstr' : vk_R own is text sa s' := vk_R.warm hW0 hstr
  obtain ⟨U, hsteps, hrun, hend, hW, hsame, ce, hce, hO⟩ := X₁.ctorThrowS hexec htr (own := own) (cls := cls) (names := names) (ic := ic) hown' hcls hnames h (fun x hx => nomatch hx) hfX hkX hcellA (by rw [hhp, hT]; exact Nat.le_refl _) (msg := .ref sa) rfl
    (g := { method := m, pc := pc + 6, locals := ls, stack := .ref sa :: .ref T.heap.size :: .ref T.heap.size :: rest, locked := none }) rfl hsize rfl rfl (rest := rest) rfl
    (by rw [hb]; exact d6) (by rw [hb]; exact d9) hout hRframes (by simp only [List.map_cons, List.sum_cons, hcat]; omega) hlocks
  obtain ⟨f1, f2⟩ := vx_frame hsame
  rw [hhp] at f1 f2
  have hWs : s.WarmedH U.vm := State.WarmedH.trans hW0 hW
  have hcl : s.vm.findClass cls = some ce.cls := by
    have h9 := hO.cls
    rw [hvm] at h9
    exact h9
  have hall : s.sameButNew ({ U with vm := s.vm } : State) locs mc ms := by
    subst hA
    obtain ⟨e1, e2⟩ := hsame
    rw [State.setFrames_setFrames] at e1
    have h2 : (T.setVm s.vm).sameButNew ({ U with vm := s.vm } : State) [] (0 + 1) (0 + 6) := ⟨e1, e2⟩
    have h3 := X.same.trans h2
    rw [List.append_nil] at h3
    exact h3.mono hc hs
  refine ⟨U, ?_, .threw T.heap.size, hrun, hend, Or.inr ⟨T.heap.size, rfl, cls, ce, locs, hx U hWs.alike f1 (fun q hq => f2 q hq (fun z hz => nomatch hz)), hce, hO.vm, hcl, hWs, hall, hf⟩⟩
  refine st1 _ ?_
  show Steps p.tables e below (T1.setTop { method := m, pc := pc + 3, locals := ls, stack := .ref T.heap.size :: rest, locked := none }) _
  jvm_step X₁.here [X₁.here.top, hexec, d3', Value.category]
  exact X₁.ldcString hexec (own := own) (text := text) (index := is) (a := sa) hown' hstr'.1 hstr'.2
    (g := { method := m, pc := pc + 4, locals := ls, stack := .ref T.heap.size :: .ref T.heap.size :: rest, locked := none }) rfl d4' _ hsteps
/-- 'throw new E("text")', the text by a wide index -/
theorem vx_throwSW {cc : ByteArray} {pc : Nat} (hexec : p.tables.exec = Jvm.exec) (hb : c.code = cc) (hl : l.stackTraces = false) {own cls text : String} {names : List String} {ik is ic mc ms sa : Nat} {A : Nat → Prop}
    (hown : s.vm.findClass own = some m.cls) (hcls : Bundle.fit cls = true) (hnames : ∀ n ∈ names, Bundle.fit n = true)
    (hk : (Cond.classLink own ik cls).before args s = true) (hini : (Cond.initialized cls).before args s = true) (hstr : vk_R own is text sa s) (hat : ∀ w ∈ vx_atS own ic cls names, w.before args s = true)
    (hgood : ∀ w ∈ Cond.classLink own ik cls :: Cond.initialized cls :: vx_atS own ic cls names, vx_ot w = true)
    (hU : vx_Zq Bundle.tN "UNASSIGNED_STACK" Bundle.steD A s s.heap) (hN : vx_Zq Bundle.tN "SUPPRESSED_SENTINEL" Bundle.listD A s s.heap) (hS : va_S A s.heap H locs) (hsize : ls.size = c.maxLocals)
    (d0 : decode cc pc = .ok (.new ik, 3)) (d3 : decode cc (pc + 3) = .ok (.dup, 1)) (d4 : decode cc (pc + 4) = .ok (.ldc_w is, 3)) (d7 : decode cc (pc + 7) = .ok (.invokespecial ic, 3)) (d10 : decode cc (pc + 10) = .ok (.athrow, 1))
    (hout : ∀ x ∈ c.exceptionTable.toList, covers x (pc + 10) = false)
    (hRframes : names.length + 3 < R.frames) (hRlocals : (rest.map fun v => v.category).sum + (13 * (names.length + 1) + 43) ≤ R.locals) (hRcells : cells + 1 ≤ R.cells) (hRslots : slots + 6 ≤ R.slots) (hlocks : meth.locks = false)
    (hx : ∀ t : State, s.vm.Alike t.vm → H.size ≤ t.heap.size → (∀ q : Nat, q < H.size → t.heap[q]? = H[q]?) → XC cls s t)
    (hf : ∀ z ∈ locs, free z.base) (hc : cells + 1 ≤ mc) (hs : slots + 6 ≤ ms) :
    W p l e R s m args below meth c H locs cells slots (vx_MQ below Qc XC args s mc ms free) (F0 m pc ls rest) := by
  intro T hT X
  have htr : e.platform.stackTraces = false := (show e.platform.stackTraces = l.stackTraces by rw [X.admits.platform]).trans hl
  have Y := vx_rebase X (R' := { frames := R.frames, locals := R.locals, cells := 1, slots := 6 }) (Nat.le_refl _) (Nat.le_refl _) hRcells hRslots
  obtain ⟨s', hA⟩ : ∃ z, z = (T.setVm s.vm).setFrames (.invoking m args :: below) := ⟨_, rfl⟩
  rw [← hA] at Y
  have hvm : s'.vm = s.vm := by rw [hA]; rfl
  have hhp : s'.heap = H := by rw [hA]; exact hT
  have hW0 : s.WarmedH s'.vm := by rw [hvm]; exact State.WarmedH.refl s
  have hat' : ∀ w ∈ vx_atS own ic cls names, w.before args s' = true := fun w hw => vx_ot_at hW0 hvm.symm (hgood w (List.mem_cons_of_mem _ (List.mem_cons_of_mem _ hw))) (hat w hw)
  have hk' : (Cond.classLink own ik cls).before args s' = true := vx_ot_at hW0 hvm.symm (hgood _ List.mem_cons_self) hk
  have hini' : (Cond.initialized cls).before args s' = true := vx_ot_at hW0 hvm.symm (hgood _ (List.mem_cons_of_mem _ List.mem_cons_self)) hini
  have hU' : vx_Zq Bundle.tN "UNASSIGNED_STACK" Bundle.steD A s' s'.heap := by rw [hhp]; exact vx_Zq.moved hW0.alike (hU.kept hS.2.1)
  have hN' : vx_Zq Bundle.tN "SUPPRESSED_SENTINEL" Bundle.listD A s' s'.heap := by rw [hhp]; exact vx_Zq.moved hW0.alike (hN.kept hS.2.1)
  have h : ∀ w ∈ Bundle.ownAtoms own ic cls names, w.before args s' = true := vx_own hat' (vx_isRefq hU'.1) (vx_isRefq hN'.1) hU'.2.word hN'.2.word
  have hown' : s'.vm.findClass own = some m.cls := by rw [hvm]; exact hown
  have hins : (Cond.instantiable cls 6).before args s' = true := h _ (by simp [Bundle.ownAtoms])
  obtain ⟨vm₁, cX, kX, hfX, hkX, -, -, X₁, st1⟩ := Y.newCold hexec (own := own) (C := cls) (index := ik) (n := 6) hown' hk' hins hini'
    (g := F0 m pc ls rest) rfl (by rw [hb]; exact d0) (Nat.le_refl _) (Nat.le_refl _)
  generalize hT1 : (T.setVm vm₁).pushCell { cls := cX, slots := kX.instanceTypes.map defaultValue, vm := .none } = T1 at X₁ st1
  have hcat : (Value.ref T.heap.size).category = 1 := rfl
  have hcellA : T1.heap[T.heap.size]? = some (freshCell cX kX) := by rw [← hT1]; exact State.heap_pushCell_size _ _
  have d3' : decode c.code (pc + 3) = .ok (.dup, 1) := by rw [hb]; exact d3
  have d4' : decode c.code (pc + 4) = .ok (.ldc_w is, 3) := by rw [hb]; exact d4
  have hstr' : vk_R own is text sa s' := vk_R.warm hW0 hstr
  obtain ⟨U, hsteps, hrun, hend, hW, hsame, ce, hce, hO⟩ := X₁.ctorThrowS hexec htr (own := own) (cls := cls) (names := names) (ic := ic) hown' hcls hnames h (fun x hx => nomatch hx) hfX hkX hcellA (by rw [hhp, hT]; exact Nat.le_refl _) (msg := .ref sa) rfl
    (g := { method := m, pc := pc + 7, locals := ls, stack := .ref sa :: .ref T.heap.size :: .ref T.heap.size :: rest, locked := none }) rfl hsize rfl rfl (rest := rest) rfl
    (by rw [hb]; exact d7) (by rw [hb]; exact d10) hout hRframes (by simp only [List.map_cons, List.sum_cons, hcat]; omega) hlocks
  obtain ⟨f1, f2⟩ := vx_frame hsame
  rw [hhp] at f1 f2
  have hWs : s.WarmedH U.vm := State.WarmedH.trans hW0 hW
  have hcl : s.vm.findClass cls = some ce.cls := by
    have h9 := hO.cls
    rw [hvm] at h9
    exact h9
  have hall : s.sameButNew ({ U with vm := s.vm } : State) locs mc ms := by
    subst hA
    obtain ⟨e1, e2⟩ := hsame
    rw [State.setFrames_setFrames] at e1
    have h2 : (T.setVm s.vm).sameButNew ({ U with vm := s.vm } : State) [] (0 + 1) (0 + 6) := ⟨e1, e2⟩
    have h3 := X.same.trans h2
    rw [List.append_nil] at h3
    exact h3.mono hc hs
  refine ⟨U, ?_, .threw T.heap.size, hrun, hend, Or.inr ⟨T.heap.size, rfl, cls, ce, locs, hx U hWs.alike f1 (fun q hq => f2 q hq (fun z hz => nomatch hz)), hce, hO.vm, hcl, hWs, hall, hf⟩⟩
  refine st1 _ ?_
  show Steps p.tables e below (T1.setTop { method := m, pc := pc + 3, locals := ls, stack := .ref T.heap.size :: rest, locked := none }) _
  jvm_step X₁.here [X₁.here.top, hexec, d3', Value.category]
  exact X₁.ldcStringW hexec (own := own) (text := text) (index := is) (a := sa) hown' hstr'.1 hstr'.2
    (g := { method := m, pc := pc + 4, locals := ls, stack := .ref T.heap.size :: .ref T.heap.size :: rest, locked := none }) rfl d4' _ hsteps
end Ends
section Bodies
variable {l : Launch}
theorem vx_ofW {y : MethodName} {ws ws' : List Cond} {rm : Room} {Pc : Array Value → State → Prop} {Qc : Array Value → State → Outcome → State → Prop} {XC : String → State → State → Prop} {mc ms : Nat} {free : Addr → Prop} {cc : ByteArray} {maxL : Nat} {ret : Option FieldType}
    (hy : plainName y.cls = true) (hw : ws = Cond.code y cc maxL ret :: ws')
    (body : ∀ p e s m args below meth c s₁, BodyLoose p l y (headSpec ws rm) cc maxL ret e s m args below meth c s₁ → c.maxLocals = maxL → (∀ x ∈ c.exceptionTable.toList, False) → Pc args s →
      W p l e (headSpec ws rm).room s m args below meth c s.heap [] 0 0 (vx_MQ below Qc XC args s mc ms free) (entryFrame m args maxL)) : vx_Met l y ws rm Pc Qc XC mc ms free := by
  refine MetFree.of_bodyS (code := cc) (maxLocals := maxL) (ret := ret) hy ?_ ?_
  · intro args s m h hn
    obtain ⟨meth, c, h1, h2, h3, h4, h5, h6, -, -⟩ := Cond.code_spec hn (atoms_spec (ws := ws) h _ (by rw [hw]; exact List.mem_cons_self))
    exact ⟨meth, c, h1, h2, h3, h4, h5, h6⟩
  · intro p e s m args below meth c s₁ B hml hP _
    have hh0 : s₁.heap = s.heap := by rw [B.state]; rfl
    have ht : ∀ x ∈ c.exceptionTable.toList, False := by
      obtain ⟨meth9, c9, h1, h2, -, -, -, -, h7, -⟩ := Cond.code_spec B.named (atoms_spec (ws := ws) B.pre _ (by rw [hw]; exact List.mem_cons_self))
      cases Option.some.inj (h1.symm.trans B.method)
      cases Option.some.inj (h2.symm.trans (Stand.of_body B).code)
      intro x hx
      rw [Array.isEmpty_iff.mp h7] at hx
      cases hx
    obtain ⟨t, a1, o, b1, b2, b3⟩ := body p e s m args below meth c s₁ B hml ht hP s₁ hh0 (Stand.of_body B)
    exact ⟨t, o, a1, b1, b2, b3⟩
/-- the table of a body with handlers -/
theorem vx_table {p : Program} {x y : MethodName} {S : Spec} {cc bytes : ByteArray} {maxL maxL' : Nat} {ret ret' : Option FieldType} {e : Env} {s s₁ : State} {m : MethodId} {args : Array Value} {below : List Frame} {meth : Method} {c : Code} {hh : List (Nat × Nat × Nat × Nat)}
    (B : BodyLoose p l y S cc maxL ret e s m args below meth c s₁) (h : (Cond.codeWith y bytes maxL' ret' hh).before args s = true) : c.exceptionTable.toList = tableOf hh := by
  obtain ⟨m9, meth9, c9, hn9, h1, h2, -, -, h6, -⟩ := Cond.codeWith_spec h
  cases Option.some.inj (hn9.symm.trans B.named)
  cases Option.some.inj (h1.symm.trans B.method)
  cases Option.some.inj (h2.symm.trans (Stand.of_body B).code)
  rw [← h6, table_eq]
end Bodies
end VXA
/-! ===== END ===== -/
/-! ===== BEGIN a static call of a method with an exception table ===== -/
section VXS
variable {p : Program} {l : Launch} {e : Env} {R : Room} {s : State} {m : MethodId} {args : Array Value} {below : List Frame} {meth : Method} {c : Code} {T : State} {H : Heap} {locs : List Loc} {cells slots : Nat}
abbrev vx_CSW (R : Room) (s : State) (args : Array Value) (own : String) (index : Nat) (y : MethodName) (bytes : ByteArray) (maxL : Nat) (ret : Option FieldType) (hh : List (Nat × Nat × Nat × Nat)) (ws : List Cond) (rm : Room) (mc ms n : Nat) : Prop :=
  (rm.cells = mc ∧ rm.slots = ms ∧ rm.frames + 1 ≤ R.frames ∧ 8 + (maxL + 11) + rm.locals ≤ R.locals ∧ (∀ w ∈ ws, ∀ (a' : Array Value) (U : State), s.WarmedH U.vm → w.before a' U = true) ∧ Cond.codeWith y bytes maxL ret hh ∈ ws) ∧
  (Cond.codeWith y bytes maxL ret hh).before args s = true ∧ (Cond.initialized y.cls).before args s = true ∧ (y.cls ≠ "java/lang/invoke/MethodHandle" ∧ y.cls ≠ "java/lang/invoke/VarHandle") ∧
  (∀ sig, parseMethodDescriptor y.desc = some sig → n = sig.parameters.length) ∧ (Cond.methodLink own index y).before args s = true ∧ (Cond.static y).before args s = true
theorem vx_cwSW {own : String} {index maxL mc ms : Nat} {y : MethodName} {bytes : ByteArray} {ret : Option FieldType} {hh : List (Nat × Nat × Nat × Nat)} {Ts ws ws' : List Cond} {rm : Room} (n : Nat) (ht : ∀ w ∈ Ts, w.before args s = true) (hT : GoodIn Ts (va_wsS own index y ws)) (hw : ws = Cond.codeWith y bytes maxL ret hh :: ws') (hrc : rm.cells = mc) (hrs : rm.slots = ms)
    (hd : y.cls ≠ "java/lang/invoke/MethodHandle" ∧ y.cls ≠ "java/lang/invoke/VarHandle" ∧ (parseMethodDescriptor y.desc).map (fun d => d.parameters.length) = some n) (hR : rm.frames + 1 ≤ R.frames ∧ 8 + (maxL + 11) + rm.locals ≤ R.locals) :
    vx_CSW R s args own index y bytes maxL ret hh ws rm mc ms n := by
  have ok : ∀ w ∈ va_wsS own index y ws, w.before args s = true := fun w h => ht w (hT w h).1
  have hG : GoodIn Ts ws := fun w h => hT w (by unfold va_wsS; exact List.mem_append_right _ h)
  have hc : Cond.codeWith y bytes maxL ret hh ∈ ws := by rw [hw]; exact List.mem_cons_self
  refine ⟨⟨hrc, hrs, hR.1, hR.2, pay_in ht hG, hc⟩, ht _ (hG _ hc).1, ok _ (by simp [va_wsS]), ⟨hd.1, hd.2.1⟩, fun sig h => ?_, ok _ (by simp [va_wsS]), ok _ (by simp [va_wsS])⟩
  have h2 := hd.2.2
  rw [h] at h2
  exact (Option.some.inj h2).symm
theorem vx_callSW (X : Stand p l e R s m args below meth c T locs cells slots) (hexec : p.tables.exec = Jvm.exec) {own : String} {index : Nat} {y : MethodName} {bytes : ByteArray} {maxL : Nat} {ret : Option FieldType} {hh : List (Nat × Nat × Nat × Nat)}
    (hown : s.vm.findClass own = some m.cls) (hlink : (Cond.methodLink own index y).before args s = true) (hstat : (Cond.static y).before args s = true) (hinit : (Cond.initialized y.cls).before args s = true)
    (hcode : (Cond.codeWith y bytes maxL ret hh).before args s = true) (hy : y.cls ≠ "java/lang/invoke/MethodHandle" ∧ y.cls ≠ "java/lang/invoke/VarHandle")
    {W9 : Nat} {Pre : Pt → Array Value → Prop} {Post : Pt → Array Value → Option Value → Pt → Prop} (hK : Back l R p e below s args y 3 W9 Pre Post)
    {g : JFrame} (hg : g.method = m) (hsize : g.locals.size = c.maxLocals) {argsL rest : List Value} (hlen : ∀ sig, parseMethodDescriptor y.desc = some sig → argsL.length = sig.parameters.length)
    (hstack : g.stack = argsL.reverse ++ rest) (hW : 2 * g.monitorRoom + (rest.map fun v => v.category).sum ≤ W9) (hdg : decode c.code g.pc = .ok (.invokestatic index, 3))
    (hpre : ∀ vm₁, s.WarmedH vm₁ → Pre ⟨T.setVm vm₁, locs, cells, slots⟩ argsL.toArray) :
    ∃ (v : Option Value) (vm₁ : Vm) (B : Pt), s.WarmedH vm₁ ∧ Stand p l e R s m args below meth c B.U B.locs B.cells B.slots ∧ Post ⟨T.setVm vm₁, locs, cells, slots⟩ argsL.toArray v B ∧
      ∀ target, Steps p.tables e below (B.U.setTop { g with pc := g.pc + 3, stack := v.toList ++ rest }) target → Steps p.tables e below (T.setTop g) target := by
  obtain ⟨mk, methM, cM, hnamed, hmethM, -, -, -, -, -, -, hsigM⟩ := Cond.codeWith_spec hcode
  have hstatic : methM.isStatic = true := Cond.static_spec hnamed hmethM hstat
  obtain ⟨kP, hkP, -⟩ := className_of_methodNamed hnamed
  have hinitP : kP.init = .initialized := Cond.initialized_spec (findClass_of_methodNamed hnamed) hkP hinit
  obtain ⟨vm₁, X₁, hstep₁⟩ := X.invokestatic hexec hown hlink hnamed hmethM hstatic hkP hinitP hy (g := g) hg (argsL := argsL) (rest := rest) (hlen _ hsigM) hstack hdg
  obtain ⟨v, B, X', hpost, hsteps⟩ := hK m meth c ⟨T.setVm vm₁, locs, cells, slots⟩ { g with stack := rest } (.invokestatic index) mk argsL.toArray X₁ hg hsize hdg hW (X₁.named hnamed) (hpre vm₁ X₁.warmed)
  exact ⟨v, vm₁, B, X₁.warmed, X', hpost, fun target h => hstep₁ _ fun acts => by rw [doInvoke_state]; exact hsteps.trans h⟩
theorem vx_runSW {y : MethodName} {bytes cc : ByteArray} {maxL nL mc ms n index : Nat} {ret : Option FieldType} {hh : List (Nat × Nat × Nat × Nat)} {ws : List Cond} {rm : Room} {Pc : Array Value → State → Prop} {Qc : Array Value → State → Outcome → State → Prop} {free : Addr → Prop} {Ts : List Cond} {own : String} {As rest : List Value} {g : JFrame}
    (S : CallFix p m c cc nL s args Ts own) (hM : Met l y ws rm Pc Qc mc ms free) (cw : vx_CSW R s args own index y bytes maxL ret hh ws rm mc ms n) (hp : PreS s H Pc As)
    (hg : g.method = m) (hn : As.length = n) (hsize : g.locals.size = nL) (hstack : g.stack = As.reverse ++ rest) (hW : 2 * g.monitorRoom + (rest.map fun v => v.category).sum ≤ 8) (hdg : decode cc g.pc = .ok (.invokestatic index, 3)) (hf : cells + mc ≤ R.cells ∧ slots + ms ≤ R.slots) :
    va_Run p l e R s m args below meth c H locs cells slots mc ms g rest (Qc As.toArray) (free) := by
  obtain ⟨⟨hrc, hrs, hfr, hlo, hws, hcw⟩, hcode, hini, hy, hlen, hl, hstt⟩ := cw
  have hK : Back l R p e below s args y 3 8 (PreOf R mc ms Pc) (PostOf Qc mc ms free) := va_backW (hh := hh) (bytes := bytes) (maxL := maxL) (ret := ret) hM hp.1 hrc hrs hfr hlo hws hcw (fun a' U hW => word_at hW (Or.inl (by first | rfl | simp [Cond.onTables, Cond.keeps, Cond.steady])) hini)
  obtain ⟨hx, hb, hml, ho, -⟩ := S
  intro T hT X
  obtain ⟨v, vm₁, ⟨U', l2, c2, s2⟩, hW₁, X', ⟨g', mk, t, L, e1, e2, hq, h1, hL, h2, h3⟩, st⟩ := vx_callSW X hx (hh := hh) (bytes := bytes) (maxL := maxL) (ret := ret) ho hl hstt hini hcode hy hK hg (hsize.trans hml.symm) (argsL := As) (rest := rest) (fun sig h => hn.trans (hlen sig h)) hstack hW (by rw [hb]; exact hdg)
    (fun vm₁ hW₁ => ⟨hf.1, hf.2, hp.2 (T.setVm vm₁) hT hW₁⟩)
  dsimp only [Pt.U, Pt.locs, Pt.cells, Pt.slots] at X' e1 e2 h1 h2 h3 st
  subst h1; subst h2; subst h3
  exact ⟨v, (T.setVm vm₁).calling g' mk As.toArray, t, U', L, hT, X', hL, e1, e2, hq, st⟩
/-- not caught here, past rows that name other classes: it goes on to the caller -/
theorem vx_outP {p : Program} {l : Launch} {e : Env} {R : Room} {s : State} {m : MethodId} {args : Array Value} {below : List Frame} {meth : Method} {c : Code} {H : Heap} {locs : List Loc} {cells slots : Nat} {free : Addr → Prop} {ls : Array Slot} {rest : List Value} {Qc : Array Value → State → Outcome → State → Prop} {XC : String → State → State → Prop}
    {pc : Nat} {own E : String} {ce : Cell} {q : Addr} {mc ms : Nat} (hown : s.vm.findClass own = some m.cls) (hlocks : meth.locks = false)
    (hpass : ∀ z ∈ c.exceptionTable.toList, covers z pc = false ∨ (z.catchType ≠ 0 ∧ ∃ nm : String, (Cond.classLink own z.catchType nm).before args s = true ∧ va_Nc E nm s)) (hcell : H[q]? = some ce) (hv : ce.vm = .none) (hcl : s.vm.findClass E = some ce.cls)
    (hx : ∀ t : State, t.heap = H → s.vm.Alike t.vm → XC E s t) (hf : ∀ z ∈ locs, free z.base) (hc : cells ≤ mc) (hs : slots ≤ ms) :
    vx_W p l e R s m args below meth c H locs cells slots (vx_MQ below Qc XC args s mc ms free) (F0 m pc ls rest) q := by
  intro T hT X
  have hpl : e.platform.magicAccessors = ({} : Platform).magicAccessors := by rw [X.admits.platform]
  obtain ⟨vm', hW', X', st⟩ := X.outThrough hlocks q (g := F0 m pc ls rest) rfl rfl rfl (cell := ce) (by rw [hT]; exact hcell) (by rw [hv]; rfl)
    (by obtain ⟨k9, h9, -⟩ := Vm.findClass_spec hcl; exact ⟨k9, h9⟩) (fun z hz => by
      rcases hpass z hz with h | ⟨hz0, nm, hl1, hn1⟩
      · exact Or.inl h
      · obtain ⟨c6, hc6, hcl6⟩ := Cond.classLink_spec hown hl1 e.platform hpl
        obtain ⟨a8, b8, h1, h2, h3⟩ := hn1
        cases Option.some.inj (h1.symm.trans hcl)
        cases Option.some.inj (h2.symm.trans hc6)
        exact Or.inr ⟨hz0, _, hcl6, h3⟩)
  obtain ⟨g₀, hfr⟩ := X'.frames_eq
  have hcell9 : ((T.setVm vm').setFrames (.throwing q :: below)).heap[q]? = some ce := by
    show T.heap[q]? = some ce
    rw [hT]; exact hcell
  have hend : Ended ((T.setVm vm').setFrames (.throwing q :: below)) below (.threw q) := State.frames_setFrames _ (State.cur_lt_of_frames hfr)
  refine ⟨(T.setVm vm').setFrames (.throwing q :: below), ?_, .threw q, X'.here.running, hend, Or.inr ⟨q, rfl, E, ce, locs, hx _ hT (X'.ends _).1.alike, hcell9, hv, hcl, (X'.ends _).1, (X'.ends _).2.mono hc hs, hf⟩⟩
  rw [X.pushThrowing_eq]
  exact st
/-- a thing of a world lies in the heap -/
theorem vx_lt {D : va_G} {cl : List vw_C} {ws : va_W} {H1 : Heap} (h : va_P D cl ws H1) {k : Nat} {q : Nat × va_E} (hk : ws[k]? = some q) : q.1 < H1.size := (h k q hk).lt
end VXS
/-! ===== END ===== -/
/-! ===== BEGIN methods with a table of their own: called by a name, returning or throwing ===== -/
section VXH
/-! vx_backW, vx_callVX, vx_callSX, vx_callVW, vx_runVW, vx_runVX, vx_runSX, vx_ofWH follow the same proofs as their sisters above (Free/Laws.lean, Shelf42/LK1.lean); vx_outP calls Shelf42/NT130.lean (outThrough). -/
section
variable {l : Launch} {R : Room} {p : Program} {e : Env} {below : List Frame} {s : State} {sargs : Array Value} {y : MethodName} {len W9 : Nat}
theorem vx_backW {ws : List Cond} {rm : Room} {Pc : Array Value → State → Prop} {Qc : Array Value → State → Outcome → State → Prop} {XC : String → State → State → Prop} {mc ms : Nat} {free : Addr → Prop} {bytes : ByteArray} {maxL : Nat} {ret : Option FieldType} {hh : List (Nat × Nat × Nat × Nat)}
    (hM : vx_Met l y ws rm Pc Qc XC mc ms free) (hblind : FrameBlind Pc) (hrc : rm.cells = mc) (hrs : rm.slots = ms)
    (hframes : rm.frames + 1 ≤ R.frames) (hlocals : W9 + (maxL + 11) + rm.locals ≤ R.locals)
    (hws : ∀ w ∈ ws, ∀ a' U, s.WarmedH U.vm → w.before a' U = true) (hcode : Cond.codeWith y bytes maxL ret hh ∈ ws) (hinit : ∀ a' U, s.WarmedH U.vm → (Cond.initialized y.cls).before a' U = true) :
    vx_Back l R p e below s sargs y len W9 (PreOf R mc ms Pc) (PostOf Qc mc ms free) (vx_Post XC mc ms free) := by
  intro m meth c A g ig mk a X hg hsize hdg hW hn hp
  have h1 : (headSpec ws rm).pre.before a A.U = true := atoms_intro fun w hw => hws w hw _ _ X.warmed
  have h2 : (Cond.codeWith y bytes maxL ret hh).before a A.U = true := hws _ hcode _ _ X.warmed
  have h3 : (Cond.initialized y.cls).before a A.U = true := hinit _ _ X.warmed
  have h4 : A.cells + (headSpec ws rm).room.cells ≤ R.cells := by rw [show (headSpec ws rm).room.cells = mc from hrc]; exact hp.1
  have h5 : A.slots + (headSpec ws rm).room.slots ≤ R.slots := by rw [show (headSpec ws rm).room.slots = ms from hrs]; exact hp.2.1
  have hPc : Pc a (A.U.calling g mk a) := hblind _ _ _ _ hp.2.2
  obtain ⟨U, Ls, c0, s0⟩ := A
  dsimp only [Pt.U, Pt.locs, Pt.cells, Pt.slots] at h1 h2 h3 h4 h5 X hn hPc ⊢
  obtain ⟨m9, methY, cY, hn9, hmY, hcY, -, hlY, -⟩ := Cond.codeWith_spec h2
  cases Option.some.inj (hn9.symm.trans hn)
  obtain ⟨kY, hkY, -⟩ := className_of_methodNamed hn
  have hinitY : kY.init = .initialized := Cond.initialized_spec (findClass_of_methodNamed hn) hkY h3
  have h : At U g.method c below := by rw [hg]; exact X.here
  have hlocals9 : W9 + (maxL + 11) + (headSpec ws rm).room.locals ≤ R.locals := hlocals
  have happ : (headSpec ws rm).appliesLoose y e.platform (U.calling g mk a) = true :=
    Spec.appliesLoose_calling (g := g) h hdg hn hkY hinitY
      (X.room_calling (g := g) (R' := (headSpec ws rm).room) hsize hmY hcY hframes (by rw [hlY]; omega) h4 h5) h1
  obtain ⟨mid, hmid⟩ := h.above
  have hfr : (U.setTop g).frames = (.java g :: mid) ++ below := by rw [State.frames_setTop' g h.top, hmid]; rfl
  obtain ⟨o, s₂, hsteps, -, hend, hq⟩ := Steps.callFree hM p X.admits X.cas X.clock (acts := []) hfr happ hPc trivial
  have hq' : vx_Q Qc XC mc ms free a (U.calling g mk a) o s₂ := hq
  rw [State.frames_setTop' g h.top] at hend
  obtain ⟨g₀, hg0⟩ := Option.isSome_iff_exists.mp h.top
  obtain ⟨r, hr⟩ := State.topJava?_eq_some.mp hg0
  have hr' : (({ U with heap := s₂.heap, slotsUsed := s₂.slotsUsed } : State).setVm s₂.vm).frames = .java g₀ :: r := hr
  rcases hq' with ⟨hqc, L, hfe, hL⟩ | ⟨q, rfl, E, ce, L, hx, hce, hcv, hcl, hW₂, hsm, hL⟩
  · obtain ⟨⟨v, rfl⟩, hW₂, e2, q2, q3, q4, q5, q6⟩ := id hfe
    have e3 : s₂ = ({ (U.calling g mk a).setFrames s₂.frames with heap := s₂.heap, slotsUsed := s₂.slotsUsed } : State).setVm s₂.vm := by
      have : s₂ = ({ s₂ with vm := (U.calling g mk a).vm } : State).setVm s₂.vm := rfl
      rw [e2] at this
      exact this
    obtain ⟨c₂, i₂, len₂, hc₂, hd₂, hf₂⟩ := hend
    have hW' : U.WarmedH s₂.vm := hW₂
    have hcc : c₂ = c := by
      have h1 : s₂.code? g.method = U.code? g.method := by
        rw [State.code?_eq, State.code?_eq, hW'.alike.method?]
      exact Option.some.inj (hc₂.symm.trans (h1.trans h.code))
    subst hcc
    have hlen : len₂ = len := by rw [hdg] at hd₂; cases hd₂; rfl
    subst hlen
    have hs₂ : s₂ = (({ U with heap := s₂.heap, slotsUsed := s₂.slotsUsed } : State).setVm s₂.vm).setTop { g with pc := g.pc + len₂, stack := v.toList ++ g.stack } := by
      refine e3.trans ?_
      rw [hf₂, State.calling_eq h.top, State.setFrames_setFrames, State.setTop_of_frames _ hr', hr]
      rfl
    have hsame : U.sameButNew ({ U with heap := s₂.heap, slotsUsed := s₂.slotsUsed } : State) L mc ms := by
      refine ⟨?_, q2, q3, q4, q5, q6⟩
      obtain ⟨t, ht, -⟩ := State.frames_cons hr
      show ({ U with heap := s₂.heap, slotsUsed := s₂.slotsUsed } : State) = { U.setFrames U.frames with heap := s₂.heap, slotsUsed := s₂.slotsUsed }
      rw [State.setFrames_self ht]
    subst hg
    refine Or.inl ⟨v, ⟨(({ U with heap := s₂.heap, slotsUsed := s₂.slotsUsed } : State).setVm s₂.vm), Ls ++ L, c0 + mc, s0 + ms⟩,
      ⟨X.admits, X.cas, X.clock, X.frames, X.room, X.hears, X.method, X.code, (X.here.setHeapUsed s₂.heap s₂.slotsUsed).setVm hW'.alike, X.tail, State.WarmedH.trans X.warmed hW', X.limits, X.bytes, X.same.trans (hsame.setVm s.vm)⟩,
      ⟨g, mk, s₂, L, rfl, rfl, hqc, rfl, hL, rfl, rfl⟩, ?_⟩
    show Steps p.tables e below _ ((({ U with heap := s₂.heap, slotsUsed := s₂.slotsUsed } : State).setVm s₂.vm).setTop { g with pc := g.pc + len₂, stack := v.toList ++ g.stack })
    rw [← hs₂]
    exact hsteps
  · obtain ⟨e2, q2, q3, q4, q5, q6⟩ := id hsm
    have e3 : s₂ = ({ (U.calling g mk a).setFrames s₂.frames with heap := s₂.heap, slotsUsed := s₂.slotsUsed } : State).setVm s₂.vm := by
      have : s₂ = ({ s₂ with vm := (U.calling g mk a).vm } : State).setVm s₂.vm := rfl
      rw [e2] at this
      exact this
    have hf₂ : s₂.frames = .throwing q :: .java g :: U.frames.tail := hend
    have hW' : U.WarmedH s₂.vm := hW₂
    have hs₂ : s₂ = ((({ U with heap := s₂.heap, slotsUsed := s₂.slotsUsed } : State).setVm s₂.vm).setTop g).pushFrame (.throwing q) := by
      refine e3.trans ?_
      rw [hf₂, State.calling_eq h.top, State.setFrames_setFrames, State.pushFrame, State.frames_setTop _ hr', State.setTop_of_frames _ hr', State.setFrames_setFrames, hr]
      rfl
    have hsame : U.sameButNew ({ U with heap := s₂.heap, slotsUsed := s₂.slotsUsed } : State) L mc ms := by
      refine ⟨?_, q2, q3, q4, q5, q6⟩
      obtain ⟨t, ht, -⟩ := State.frames_cons hr
      show ({ U with heap := s₂.heap, slotsUsed := s₂.slotsUsed } : State) = { U.setFrames U.frames with heap := s₂.heap, slotsUsed := s₂.slotsUsed }
      rw [State.setFrames_self ht]
    subst hg
    refine Or.inr ⟨q, ⟨(({ U with heap := s₂.heap, slotsUsed := s₂.slotsUsed } : State).setVm s₂.vm), Ls ++ L, c0 + mc, s0 + ms⟩,
      ⟨X.admits, X.cas, X.clock, X.frames, X.room, X.hears, X.method, X.code, (X.here.setHeapUsed s₂.heap s₂.slotsUsed).setVm hW'.alike, X.tail, State.WarmedH.trans X.warmed hW', X.limits, X.bytes, X.same.trans (hsame.setVm s.vm)⟩,
      ⟨g, mk, s₂, L, E, ce, rfl, rfl, hx, hce, hcv, hcl, rfl, hL, rfl, rfl⟩, ?_⟩
    show Steps p.tables e below _ (((({ U with heap := s₂.heap, slotsUsed := s₂.slotsUsed } : State).setVm s₂.vm).setTop g).pushFrame (.throwing q))
    rw [← hs₂]
    exact hsteps
end
variable {p : Program} {l : Launch} {e : Env} {R : Room} {s : State} {m : MethodId} {args : Array Value} {below : List Frame} {meth : Method} {c : Code} {T : State} {H : Heap} {locs : List Loc} {cells slots : Nat}
theorem vx_callVX (X : Stand p l e R s m args below meth c T locs cells slots) (hexec : p.tables.exec = Jvm.exec) {own C : String} {index : Nat} {y : MethodName} {bytes : ByteArray} {maxL : Nat} {ret : Option FieldType} {hh : List (Nat × Nat × Nat × Nat)}
    (hown : s.vm.findClass own = some m.cls) (hlink : (Cond.methodLink own index y).before args s = true) (hinst : (Cond.instanceMethod y).before args s = true) (hsel : (Cond.selects C y y).before args s = true)
    (hcode : (Cond.codeWith y bytes maxL ret hh).before args s = true) (hy : y.cls ≠ "java/lang/invoke/MethodHandle" ∧ y.cls ≠ "java/lang/invoke/VarHandle")
    {W9 : Nat} {Pre : Pt → Array Value → Prop} {Post : Pt → Array Value → Option Value → Pt → Prop} {PostX : Pt → Array Value → Addr → Pt → Prop} (hK : vx_Back l R p e below s args y 3 W9 Pre Post PostX)
    {b : Addr} {cellB : Cell} (hcell : T.heap[b]? = some cellB) (hobj : cellB.vm.isStatics = false) (hcls : s.vm.findClass C = some cellB.cls)
    {g : JFrame} (hg : g.method = m) (hsize : g.locals.size = c.maxLocals) {argsL rest : List Value} (hlen : ∀ sig, parseMethodDescriptor y.desc = some sig → argsL.length = sig.parameters.length)
    (hstack : g.stack = argsL.reverse ++ .ref b :: rest) (hW : 2 * g.monitorRoom + (rest.map fun v => v.category).sum ≤ W9) (hdg : decode c.code g.pc = .ok (.invokevirtual index, 3))
    (hpre : ∀ vm₁, s.WarmedH vm₁ → Pre ⟨T.setVm vm₁, locs, cells, slots⟩ (Value.ref b :: argsL).toArray) :
    (∃ (v : Option Value) (vm₁ : Vm) (B : Pt), s.WarmedH vm₁ ∧ Stand p l e R s m args below meth c B.U B.locs B.cells B.slots ∧ Post ⟨T.setVm vm₁, locs, cells, slots⟩ (Value.ref b :: argsL).toArray v B ∧
      ∀ target, Steps p.tables e below (B.U.setTop { g with pc := g.pc + 3, stack := v.toList ++ rest }) target → Steps p.tables e below (T.setTop g) target) ∨
    (∃ (q : Addr) (vm₁ : Vm) (B : Pt), s.WarmedH vm₁ ∧ Stand p l e R s m args below meth c B.U B.locs B.cells B.slots ∧ PostX ⟨T.setVm vm₁, locs, cells, slots⟩ (Value.ref b :: argsL).toArray q B ∧
      Steps p.tables e below (T.setTop g) ((B.U.setTop { g with stack := rest }).pushFrame (.throwing q))) := by
  obtain ⟨mk, methM, hnamed, hmethM, hstM, habM⟩ := Cond.instanceMethod_spec hinst
  obtain ⟨m8, methM', cM, hn8, hmethM', -, -, -, -, -, -, hsigM⟩ := Cond.codeWith_spec hcode
  cases Option.some.inj (hn8.symm.trans hnamed)
  cases hmethM.symm.trans hmethM'
  obtain ⟨c2, r2, m2, q1, q2, q3, q4, kP, hkP, hkPi⟩ := Cond.selects_spec hsel
  cases hcls.symm.trans q1
  cases (State.methodFound?_of_named hnamed hy).symm.trans q2
  cases hnamed.symm.trans q3
  have hselP : selectMethod e.platform s.vm cellB.cls mk = .method mk := by rw [Launch.admits_selectMethod X.admits]; exact q4
  obtain ⟨vm₁, X₁, hstep₁⟩ := X.invokevirtual hexec hown hlink hnamed hmethM hstM hkP hkPi hy (a := b) (cell := cellB) hcell
    (fun z h => by rw [h] at hobj; cases hobj) hselP hmethM habM hkP hkPi (g := g) hg (argsL := argsL) (rest := rest) (hlen _ hsigM) hstack hdg
  rcases hK m meth c ⟨T.setVm vm₁, locs, cells, slots⟩ { g with stack := rest } (.invokevirtual index) mk (Value.ref b :: argsL).toArray X₁ hg hsize hdg hW (X₁.named hnamed) (hpre vm₁ X₁.warmed) with ⟨v, B, X', hpost, hsteps⟩ | ⟨q, B, X', hpost, hsteps⟩
  · exact Or.inl ⟨v, vm₁, B, X₁.warmed, X', hpost, fun target h => hstep₁ _ fun acts => by rw [doInvoke_state]; exact hsteps.trans h⟩
  · exact Or.inr ⟨q, vm₁, B, X₁.warmed, X', hpost, hstep₁ _ fun acts => by rw [doInvoke_state]; exact hsteps⟩
theorem vx_callSX (X : Stand p l e R s m args below meth c T locs cells slots) (hexec : p.tables.exec = Jvm.exec) {own : String} {index : Nat} {y : MethodName} {bytes : ByteArray} {maxL : Nat} {ret : Option FieldType} {hh : List (Nat × Nat × Nat × Nat)}
    (hown : s.vm.findClass own = some m.cls) (hlink : (Cond.methodLink own index y).before args s = true) (hstat : (Cond.static y).before args s = true) (hinit : (Cond.initialized y.cls).before args s = true)
    (hcode : (Cond.codeWith y bytes maxL ret hh).before args s = true) (hy : y.cls ≠ "java/lang/invoke/MethodHandle" ∧ y.cls ≠ "java/lang/invoke/VarHandle")
    {W9 : Nat} {Pre : Pt → Array Value → Prop} {Post : Pt → Array Value → Option Value → Pt → Prop} {PostX : Pt → Array Value → Addr → Pt → Prop} (hK : vx_Back l R p e below s args y 3 W9 Pre Post PostX)
    {g : JFrame} (hg : g.method = m) (hsize : g.locals.size = c.maxLocals) {argsL rest : List Value} (hlen : ∀ sig, parseMethodDescriptor y.desc = some sig → argsL.length = sig.parameters.length)
    (hstack : g.stack = argsL.reverse ++ rest) (hW : 2 * g.monitorRoom + (rest.map fun v => v.category).sum ≤ W9) (hdg : decode c.code g.pc = .ok (.invokestatic index, 3))
    (hpre : ∀ vm₁, s.WarmedH vm₁ → Pre ⟨T.setVm vm₁, locs, cells, slots⟩ argsL.toArray) :
    (∃ (v : Option Value) (vm₁ : Vm) (B : Pt), s.WarmedH vm₁ ∧ Stand p l e R s m args below meth c B.U B.locs B.cells B.slots ∧ Post ⟨T.setVm vm₁, locs, cells, slots⟩ argsL.toArray v B ∧
      ∀ target, Steps p.tables e below (B.U.setTop { g with pc := g.pc + 3, stack := v.toList ++ rest }) target → Steps p.tables e below (T.setTop g) target) ∨
    (∃ (q : Addr) (vm₁ : Vm) (B : Pt), s.WarmedH vm₁ ∧ Stand p l e R s m args below meth c B.U B.locs B.cells B.slots ∧ PostX ⟨T.setVm vm₁, locs, cells, slots⟩ argsL.toArray q B ∧
      Steps p.tables e below (T.setTop g) ((B.U.setTop { g with stack := rest }).pushFrame (.throwing q))) := by
  obtain ⟨mk, methM, cM, hnamed, hmethM, -, -, -, -, -, -, hsigM⟩ := Cond.codeWith_spec hcode
  have hstatic : methM.isStatic = true := Cond.static_spec hnamed hmethM hstat
  obtain ⟨kP, hkP, -⟩ := className_of_methodNamed hnamed
  have hinitP : kP.init = .initialized := Cond.initialized_spec (findClass_of_methodNamed hnamed) hkP hinit
  obtain ⟨vm₁, X₁, hstep₁⟩ := X.invokestatic hexec hown hlink hnamed hmethM hstatic hkP hinitP hy (g := g) hg (argsL := argsL) (rest := rest) (hlen _ hsigM) hstack hdg
  rcases hK m meth c ⟨T.setVm vm₁, locs, cells, slots⟩ { g with stack := rest } (.invokestatic index) mk argsL.toArray X₁ hg hsize hdg hW (X₁.named hnamed) (hpre vm₁ X₁.warmed) with ⟨v, B, X', hpost, hsteps⟩ | ⟨q, B, X', hpost, hsteps⟩
  · exact Or.inl ⟨v, vm₁, B, X₁.warmed, X', hpost, fun target h => hstep₁ _ fun acts => by rw [doInvoke_state]; exact hsteps.trans h⟩
  · exact Or.inr ⟨q, vm₁, B, X₁.warmed, X', hpost, hstep₁ _ fun acts => by rw [doInvoke_state]; exact hsteps⟩
theorem vx_callVW (X : Stand p l e R s m args below meth c T locs cells slots) (hexec : p.tables.exec = Jvm.exec) {own C : String} {index : Nat} {y : MethodName} {bytes : ByteArray} {maxL : Nat} {ret : Option FieldType} {hh : List (Nat × Nat × Nat × Nat)}
    (hown : s.vm.findClass own = some m.cls) (hlink : (Cond.methodLink own index y).before args s = true) (hinst : (Cond.instanceMethod y).before args s = true) (hsel : (Cond.selects C y y).before args s = true)
    (hcode : (Cond.codeWith y bytes maxL ret hh).before args s = true) (hy : y.cls ≠ "java/lang/invoke/MethodHandle" ∧ y.cls ≠ "java/lang/invoke/VarHandle")
    {W9 : Nat} {Pre : Pt → Array Value → Prop} {Post : Pt → Array Value → Option Value → Pt → Prop} (hK : Back l R p e below s args y 3 W9 Pre Post)
    {b : Addr} {cellB : Cell} (hcell : T.heap[b]? = some cellB) (hobj : cellB.vm.isStatics = false) (hcls : s.vm.findClass C = some cellB.cls)
    {g : JFrame} (hg : g.method = m) (hsize : g.locals.size = c.maxLocals) {argsL rest : List Value} (hlen : ∀ sig, parseMethodDescriptor y.desc = some sig → argsL.length = sig.parameters.length)
    (hstack : g.stack = argsL.reverse ++ .ref b :: rest) (hW : 2 * g.monitorRoom + (rest.map fun v => v.category).sum ≤ W9) (hdg : decode c.code g.pc = .ok (.invokevirtual index, 3))
    (hpre : ∀ vm₁, s.WarmedH vm₁ → Pre ⟨T.setVm vm₁, locs, cells, slots⟩ (Value.ref b :: argsL).toArray) :
    ∃ (v : Option Value) (vm₁ : Vm) (B : Pt), s.WarmedH vm₁ ∧ Stand p l e R s m args below meth c B.U B.locs B.cells B.slots ∧ Post ⟨T.setVm vm₁, locs, cells, slots⟩ (Value.ref b :: argsL).toArray v B ∧
      ∀ target, Steps p.tables e below (B.U.setTop { g with pc := g.pc + 3, stack := v.toList ++ rest }) target → Steps p.tables e below (T.setTop g) target := by
  obtain ⟨mk, methM, hnamed, hmethM, hstM, habM⟩ := Cond.instanceMethod_spec hinst
  obtain ⟨m8, methM', cM, hn8, hmethM', -, -, -, -, -, -, hsigM⟩ := Cond.codeWith_spec hcode
  cases Option.some.inj (hn8.symm.trans hnamed)
  cases hmethM.symm.trans hmethM'
  obtain ⟨c2, r2, m2, q1, q2, q3, q4, kP, hkP, hkPi⟩ := Cond.selects_spec hsel
  cases hcls.symm.trans q1
  cases (State.methodFound?_of_named hnamed hy).symm.trans q2
  cases hnamed.symm.trans q3
  have hselP : selectMethod e.platform s.vm cellB.cls mk = .method mk := by rw [Launch.admits_selectMethod X.admits]; exact q4
  obtain ⟨vm₁, X₁, hstep₁⟩ := X.invokevirtual hexec hown hlink hnamed hmethM hstM hkP hkPi hy (a := b) (cell := cellB) hcell
    (fun z h => by rw [h] at hobj; cases hobj) hselP hmethM habM hkP hkPi (g := g) hg (argsL := argsL) (rest := rest) (hlen _ hsigM) hstack hdg
  obtain ⟨v, B, X', hpost, hsteps⟩ := hK m meth c ⟨T.setVm vm₁, locs, cells, slots⟩ { g with stack := rest } (.invokevirtual index) mk (Value.ref b :: argsL).toArray X₁ hg hsize hdg hW (X₁.named hnamed) (hpre vm₁ X₁.warmed)
  exact ⟨v, vm₁, B, X₁.warmed, X', hpost, fun target h => hstep₁ _ fun acts => by rw [doInvoke_state]; exact hsteps.trans h⟩
abbrev vx_CVW (R : Room) (s : State) (args : Array Value) (own C : String) (index : Nat) (y : MethodName) (bytes : ByteArray) (maxL : Nat) (ret : Option FieldType) (hh : List (Nat × Nat × Nat × Nat)) (ws : List Cond) (rm : Room) (mc ms n : Nat) : Prop :=
  (rm.cells = mc ∧ rm.slots = ms ∧ rm.frames + 1 ≤ R.frames ∧ 8 + (maxL + 11) + rm.locals ≤ R.locals ∧ (∀ w ∈ ws, ∀ (a' : Array Value) (U : State), s.WarmedH U.vm → w.before a' U = true) ∧ Cond.codeWith y bytes maxL ret hh ∈ ws) ∧
  (Cond.codeWith y bytes maxL ret hh).before args s = true ∧ (Cond.initialized y.cls).before args s = true ∧ (y.cls ≠ "java/lang/invoke/MethodHandle" ∧ y.cls ≠ "java/lang/invoke/VarHandle") ∧
  (∀ sig, parseMethodDescriptor y.desc = some sig → n = sig.parameters.length) ∧ (Cond.methodLink own index y).before args s = true ∧ (Cond.instanceMethod y).before args s = true ∧ (Cond.selects C y y).before args s = true
theorem vx_cwVW {own C : String} {index maxL mc ms : Nat} {y : MethodName} {bytes : ByteArray} {ret : Option FieldType} {hh : List (Nat × Nat × Nat × Nat)} {Ts ws ws' : List Cond} {rm : Room} (n : Nat) (ht : ∀ w ∈ Ts, w.before args s = true) (hT : GoodIn Ts (wsV own index C y ws)) (hw : ws = Cond.codeWith y bytes maxL ret hh :: ws') (hrc : rm.cells = mc) (hrs : rm.slots = ms)
    (hd : y.cls = C ∧ y.cls ≠ "java/lang/invoke/MethodHandle" ∧ y.cls ≠ "java/lang/invoke/VarHandle" ∧ (parseMethodDescriptor y.desc).map (fun d => d.parameters.length) = some n) (hR : rm.frames + 1 ≤ R.frames ∧ 8 + (maxL + 11) + rm.locals ≤ R.locals) :
    vx_CVW R s args own C index y bytes maxL ret hh ws rm mc ms n := by
  obtain ⟨hC, hd⟩ := hd
  subst hC
  have ok : ∀ w ∈ wsV own index y.cls y ws, w.before args s = true := fun w h => ht w (hT w h).1
  have hG : GoodIn Ts ws := fun w h => hT w (by unfold wsV; exact List.mem_append_right _ h)
  have hc : Cond.codeWith y bytes maxL ret hh ∈ ws := by rw [hw]; exact List.mem_cons_self
  refine ⟨⟨hrc, hrs, hR.1, hR.2, pay_in ht hG, hc⟩, ht _ (hG _ hc).1, ok _ (by simp [wsV]), ⟨hd.1, hd.2.1⟩, fun sig h => ?_, ok _ (by simp [wsV]), ok _ (by simp [wsV]), ok _ (by simp [wsV])⟩
  have h2 := hd.2.2
  rw [h] at h2
  exact (Option.some.inj h2).symm
theorem vx_runVW {y : MethodName} {bytes cc : ByteArray} {maxL nL mc ms n index : Nat} {ret : Option FieldType} {hh : List (Nat × Nat × Nat × Nat)} {ws : List Cond} {rm : Room} {Pc : Array Value → State → Prop} {Qc : Array Value → State → Outcome → State → Prop} {free : Addr → Prop} {Ts : List Cond} {own C : String} {b : Addr} {As rest : List Value} {g : JFrame}
    (S : CallFix p m c cc nL s args Ts own) (hM : Met l y ws rm Pc Qc mc ms free) (cw : vx_CVW R s args own C index y bytes maxL ret hh ws rm mc ms n) (hp : PreV s H C b Pc As)
    (hg : g.method = m) (hn : As.length = n) (hsize : g.locals.size = nL) (hstack : g.stack = As.reverse ++ .ref b :: rest) (hW : 2 * g.monitorRoom + (rest.map fun v => v.category).sum ≤ 8) (hdg : decode cc g.pc = .ok (.invokevirtual index, 3)) (hf : cells + mc ≤ R.cells ∧ slots + ms ≤ R.slots) :
    va_Run p l e R s m args below meth c H locs cells slots mc ms g rest (Qc (Value.ref b :: As).toArray) free := by
  obtain ⟨⟨hrc, hrs, hfr, hlo, hws, hcw⟩, hcode, hini, hy, hlen, hl, hin, hse⟩ := cw
  have hK : Back l R p e below s args y 3 8 (PreOf R mc ms Pc) (PostOf Qc mc ms free) := va_backW (hh := hh) (bytes := bytes) (maxL := maxL) (ret := ret) hM hp.1 hrc hrs hfr hlo hws hcw (fun a' U hW => word_at hW (Or.inl (by first | rfl | simp [Cond.onTables, Cond.keeps, Cond.steady])) hini)
  obtain ⟨hx, hb, hml, ho, -⟩ := S
  obtain ⟨-, ⟨cellB, hcB, hoB, hclB⟩, hPc⟩ := hp
  intro T hT X
  obtain ⟨v, vm₁, ⟨U', l2, c2, s2⟩, hW₁, X', ⟨g', mk, t, L, e1, e2, hq, h1, hL, h2, h3⟩, st⟩ := vx_callVW X hx (C := C) (hh := hh) (bytes := bytes) (maxL := maxL) (ret := ret) ho hl hin hse hcode hy hK (by rw [hT]; exact hcB) hoB hclB hg (hsize.trans hml.symm) (argsL := As) (rest := rest) (fun sig h => hn.trans (hlen sig h)) hstack hW (by rw [hb]; exact hdg)
    (fun vm₁ hW₁ => ⟨hf.1, hf.2, hPc (T.setVm vm₁) hT hW₁⟩)
  dsimp only [Pt.U, Pt.locs, Pt.cells, Pt.slots] at X' e1 e2 h1 h2 h3 st
  subst h1; subst h2; subst h3
  exact ⟨v, (T.setVm vm₁).calling g' mk (Value.ref b :: As).toArray, t, U', L, hT, X', hL, e1, e2, hq, st⟩
section
variable {y : MethodName} {bytes cc : ByteArray} {maxL nL mc ms n index : Nat} {ret : Option FieldType} {ws : List Cond} {rm : Room} {Pc : Array Value → State → Prop} {Qc : Array Value → State → Outcome → State → Prop} {XC : String → State → State → Prop} {free : Addr → Prop} {Ts : List Cond} {own C : String} {b : Addr} {As rest : List Value} {g : JFrame}
theorem vx_runVX {hh : List (Nat × Nat × Nat × Nat)} (S : CallFix p m c cc nL s args Ts own) (hM : vx_Met l y ws rm Pc Qc XC mc ms free) (cw : vx_CVW R s args own C index y bytes maxL ret hh ws rm mc ms n) (hp : PreV s H C b Pc As)
    (hg : g.method = m) (hn : As.length = n) (hsize : g.locals.size = nL) (hstack : g.stack = As.reverse ++ .ref b :: rest) (hW : 2 * g.monitorRoom + (rest.map fun v => v.category).sum ≤ 8) (hdg : decode cc g.pc = .ok (.invokevirtual index, 3)) (hf : cells + mc ≤ R.cells ∧ slots + ms ≤ R.slots) :
    vx_Run p l e R s m args below meth c H locs cells slots mc ms g rest (Qc (Value.ref b :: As).toArray) XC free := by
  obtain ⟨⟨hrc, hrs, hfr, hlo, hws, hcw⟩, hcode, hini, hy, hlen, hl, hin, hse⟩ := cw
  have hK : vx_Back l R p e below s args y 3 8 (PreOf R mc ms Pc) (PostOf Qc mc ms free) (vx_Post XC mc ms free) := vx_backW (hh := hh) (bytes := bytes) (maxL := maxL) (ret := ret) hM hp.1 hrc hrs hfr hlo hws hcw (fun a' U hW => word_at hW (Or.inl (by first | rfl | simp [Cond.onTables, Cond.keeps, Cond.steady])) hini)
  obtain ⟨hx, hb, hml, ho, -⟩ := S
  obtain ⟨-, ⟨cellB, hcB, hoB, hclB⟩, hPc⟩ := hp
  intro T hT X
  rcases vx_callVX X hx (C := C) (hh := hh) (bytes := bytes) (maxL := maxL) (ret := ret) ho hl hin hse hcode hy hK (by rw [hT]; exact hcB) hoB hclB hg (hsize.trans hml.symm) (argsL := As) (rest := rest) (fun sig h => hn.trans (hlen sig h)) hstack hW (by rw [hb]; exact hdg)
    (fun vm₁ hW₁ => ⟨hf.1, hf.2, hPc (T.setVm vm₁) hT hW₁⟩) with ⟨v, vm₁, ⟨U', l2, c2, s2⟩, hW₁, X', ⟨g', mk, t, L, e1, e2, hq, h1, hL, h2, h3⟩, st⟩ | ⟨q, vm₁, ⟨U', l2, c2, s2⟩, hW₁, X', ⟨g', mk, t, L, E, ce, e1, e2, hq, hce, hcv, hcl, h1, hL, h2, h3⟩, st⟩
  · dsimp only [Pt.U, Pt.locs, Pt.cells, Pt.slots] at X' e1 e2 h1 h2 h3 st
    subst h1; subst h2; subst h3
    exact Or.inl ⟨v, (T.setVm vm₁).calling g' mk (Value.ref b :: As).toArray, t, U', L, hT, X', hL, e1, e2, hq, st⟩
  · dsimp only [Pt.U, Pt.locs, Pt.cells, Pt.slots] at X' e1 e2 h1 h2 h3 st hcl
    subst h1; subst h2; subst h3
    exact Or.inr ⟨q, (T.setVm vm₁).calling g' mk (Value.ref b :: As).toArray, t, U', L, E, ce, hT, X', hL, e1, e2, hq, hce, hcv, vx_cls hW₁ hcl, st⟩
theorem vx_runSX {hh : List (Nat × Nat × Nat × Nat)} (S : CallFix p m c cc nL s args Ts own) (hM : vx_Met l y ws rm Pc Qc XC mc ms free) (cw : vx_CSW R s args own index y bytes maxL ret hh ws rm mc ms n) (hp : PreS s H Pc As)
    (hg : g.method = m) (hn : As.length = n) (hsize : g.locals.size = nL) (hstack : g.stack = As.reverse ++ rest) (hW : 2 * g.monitorRoom + (rest.map fun v => v.category).sum ≤ 8) (hdg : decode cc g.pc = .ok (.invokestatic index, 3)) (hf : cells + mc ≤ R.cells ∧ slots + ms ≤ R.slots) :
    vx_Run p l e R s m args below meth c H locs cells slots mc ms g rest (Qc As.toArray) XC free := by
  obtain ⟨⟨hrc, hrs, hfr, hlo, hws, hcw⟩, hcode, hini, hy, hlen, hl, hstt⟩ := cw
  have hK : vx_Back l R p e below s args y 3 8 (PreOf R mc ms Pc) (PostOf Qc mc ms free) (vx_Post XC mc ms free) := vx_backW (hh := hh) (bytes := bytes) (maxL := maxL) (ret := ret) hM hp.1 hrc hrs hfr hlo hws hcw (fun a' U hW => word_at hW (Or.inl (by first | rfl | simp [Cond.onTables, Cond.keeps, Cond.steady])) hini)
  obtain ⟨hx, hb, hml, ho, -⟩ := S
  intro T hT X
  rcases vx_callSX X hx (hh := hh) (bytes := bytes) (maxL := maxL) (ret := ret) ho hl hstt hini hcode hy hK hg (hsize.trans hml.symm) (argsL := As) (rest := rest) (fun sig h => hn.trans (hlen sig h)) hstack hW (by rw [hb]; exact hdg)
    (fun vm₁ hW₁ => ⟨hf.1, hf.2, hp.2 (T.setVm vm₁) hT hW₁⟩) with ⟨v, vm₁, ⟨U', l2, c2, s2⟩, hW₁, X', ⟨g', mk, t, L, e1, e2, hq, h1, hL, h2, h3⟩, st⟩ | ⟨q, vm₁, ⟨U', l2, c2, s2⟩, hW₁, X', ⟨g', mk, t, L, E, ce, e1, e2, hq, hce, hcv, hcl, h1, hL, h2, h3⟩, st⟩
  · dsimp only [Pt.U, Pt.locs, Pt.cells, Pt.slots] at X' e1 e2 h1 h2 h3 st
    subst h1; subst h2; subst h3
    exact Or.inl ⟨v, (T.setVm vm₁).calling g' mk As.toArray, t, U', L, hT, X', hL, e1, e2, hq, st⟩
  · dsimp only [Pt.U, Pt.locs, Pt.cells, Pt.slots] at X' e1 e2 h1 h2 h3 st hcl
    subst h1; subst h2; subst h3
    exact Or.inr ⟨q, (T.setVm vm₁).calling g' mk As.toArray, t, U', L, E, ce, hT, X', hL, e1, e2, hq, hce, hcv, vx_cls hW₁ hcl, st⟩
end
end VXH
theorem vx_ofWH {l : Launch} {y : MethodName} {ws ws' : List Cond} {rm : Room} {Pc : Array Value → State → Prop} {Qc : Array Value → State → Outcome → State → Prop} {XC : String → State → State → Prop} {mc ms : Nat} {free : Addr → Prop} {cc : ByteArray} {maxL : Nat} {ret : Option FieldType} {hh : List (Nat × Nat × Nat × Nat)}
    (hy : plainName y.cls = true) (hw : ws = Cond.codeWith y cc maxL ret hh :: ws')
    (body : ∀ p e s m args below meth c s₁, BodyLoose p l y (headSpec ws rm) cc maxL ret e s m args below meth c s₁ → c.maxLocals = maxL → Pc args s →
      W p l e (headSpec ws rm).room s m args below meth c s.heap [] 0 0 (vx_MQ below Qc XC args s mc ms free) (entryFrame m args maxL)) : vx_Met l y ws rm Pc Qc XC mc ms free := by
  refine MetFree.of_bodyS (code := cc) (maxLocals := maxL) (ret := ret) hy ?_ ?_
  · intro args s m h hn
    obtain ⟨m9, meth, c, hn9, h1, h2, h3, h4, -, h5, h6, -⟩ := Cond.codeWith_spec (atoms_spec (ws := ws) h _ (by rw [hw]; exact List.mem_cons_self))
    cases hn.symm.trans hn9
    exact ⟨meth, c, h1, h2, h3, h4, h5, h6⟩
  · intro p e s m args below meth c s₁ B hml hP _
    have hh0 : s₁.heap = s.heap := by rw [B.state]; rfl
    obtain ⟨t, a1, o, b1, b2, b3⟩ := body p e s m args below meth c s₁ B hml hP s₁ hh0 (Stand.of_body B)
    exact ⟨t, o, a1, b1, b2, b3⟩
/-! ===== END ===== -/
/-! ===== BEGIN what the machine throws by itself, no traces kept ===== -/
section VXM
set_option maxHeartbeats 1000000 in
/-- the machine throws cls with the message text, no traces kept: from its note over the frame g to 'throwing' over the same frame (follows the proofs of Stand.vmThrowsMessage, Shelf/KitTracedVmS.lean, and Stand.throwsMessageColdBareV, StandMessageColdV.lean, without the step out of the frame) -/
theorem vx_vmAt {p : Program} {l : Launch} {e : Env} {R : Room} {s : State} {m₀ : MethodId} {args : Array Value} {below : List Frame} {meth : Method} {c : Code} {W : State} {locs : List Loc} {cells slots : Nat}
    (X : Stand p l e R s m₀ args below meth c W locs cells slots) (hexec : p.tables.exec = Jvm.exec) (htr : e.platform.stackTraces = false) {cls : String} {names : List String} {text : String}
    (hcls : Bundle.fit cls = true) (hnames : ∀ n ∈ names, Bundle.fit n = true) (hsoe : (cls == "java/lang/StackOverflowError") = false) (hoom : (cls == "java/lang/OutOfMemoryError") = false)
    (h : ∀ a ∈ Bundle.messageArmAtoms cls names, a.before args s = true)
    (hlocs : ∀ x ∈ locs, ∀ cell, s.heap[x.base]? = some cell → cell.vm.isStatics = false)
    (htext : (text == notModelled) = false) (hlimit : ¬ (stringBytes (stringToUtf16 text)).size > e.platform.arrayLengthLimit) (hheap : ¬ (stringBytes (stringToUtf16 text)).size * componentBytes .byte > e.platform.maxHeapBytes)
    {g : JFrame} (hg : g.method = m₀) (hsize : g.locals.size = c.maxLocals)
    (hRframes : names.length + 4 < R.frames) (hRlocals : 2 * g.monitorRoom + (g.stack.map fun v => v.category).sum + 10240 ≤ R.locals) (hshort : 13 * names.length + 55 ≤ 10240)
    (hRcells : cells + 3 ≤ R.cells) (hRslots : slots + ((stringBytes (stringToUtf16 text)).size + 4 + 6) ≤ R.slots) (hlocks : meth.locks = false) :
    ∃ (S : State) (q : Addr) (ce : Cell), (∀ target, Steps p.tables e below ((S.setTop g).pushFrame (.throwing q)) target → Steps p.tables e below ((W.setTop g).pushFrame (.throwNew cls (some text) none)) target) ∧
      Stand p l e R s m₀ args below meth c S locs (cells + 3) (slots + ((stringBytes (stringToUtf16 text)).size + 4 + 6)) ∧ S.heap[q]? = some ce ∧ s.vm.findClass cls = some ce.cls ∧ ce.vm = .none := by
  have howns : e.platform.frameOwnsMonitors = true := by rw [X.admits.platform]
  have hfin : e.platform.finalization = false := by rw [X.admits.platform]
  have hpl : e.platform.magicAccessors = ({} : Platform).magicAccessors := by rw [X.admits.platform]
  have a : ∀ x, x ∈ Bundle.messageArmAtoms cls names → x.holds args s none s [] = true := fun x hx => h x hx
  obtain ⟨T, Z0, L, -, Y⟩ := ThrowableC.of_atoms (args := args) howns hfin hpl (fun x hx => h x (by simp [Bundle.messageArmAtoms, hx]))
  obtain ⟨Z, M, LZ, LM, hnZ⟩ := Init0T.ofS_atoms (args := args) hpl L Y (fun x hx => h x (by simp [Bundle.messageArmAtoms, hx]))
  obtain ⟨P1, Ps, hlen, L1, hL, hP1m, hlink1, hlink⟩ := Bundle.chainS (args := args) hpl hnZ names cls hcls hnames (fun x hx => h x (by simp [Bundle.messageArmAtoms, hx]))
  obtain ⟨Zs, LZs, hn4, hfitv, hfitc⟩ := StringT.of_atoms (args := args) (fun x hx => h x (by simp [Bundle.messageArmAtoms, hx]))
  have hfound : s.vm.findClass cls = some P1.m.cls := findClass_of_methodNamed hP1m
  obtain ⟨c1, kX, hc1, hk, hord, -, -, hn6⟩ := Cond.instantiable_spec (a (.instantiable cls 6) (by simp [Bundle.messageArmAtoms]))
  cases Option.some.inj (hc1.symm.trans hfound)
  have hinit := Cond.initialized_spec hfound hk (a (.initialized cls) (by simp [Bundle.messageArmAtoms]))
  have hctor : kX.findMethod "<init>" "(Ljava/lang/String;)V" = some P1.m.idx := findMethod_of_methodNamed hP1m hk
  have hsel0 : selectMethod e.platform s.vm P1.m.cls T.fill0 = .method T.fill0 := by
    obtain ⟨c2, r2, m2, q1, q2, q3, q4, -⟩ := Cond.selects_spec (a (.selects cls Bundle.tFill0 Bundle.tFill0) (by simp [Bundle.messageArmAtoms]))
    cases Option.some.inj (q1.symm.trans hfound)
    cases Option.some.inj (q2.symm.trans (State.methodFound?_of_named Y.fill0 (by decide)))
    cases Option.some.inj (q3.symm.trans Y.fill0)
    rw [Launch.admits_selectMethod X.admits]; exact q4
  have hselF : selectMethod e.platform s.vm P1.m.cls T.fill = .method T.fill := by
    obtain ⟨c2, r2, m2, q1, q2, q3, q4, -⟩ := Cond.selects_spec (a (.selects cls Bundle.tFill Bundle.tFill) (by simp [Bundle.messageArmAtoms]))
    cases Option.some.inj (q1.symm.trans hfound)
    cases Option.some.inj (q2.symm.trans (State.methodFound?_of_named Y.fill (by decide)))
    cases Option.some.inj (q3.symm.trans Y.fill)
    rw [Launch.admits_selectMethod X.admits]; exact q4
  obtain ⟨cellS0, hcS0, hiss⟩ := Y.statics
  obtain ⟨u0, hu0⟩ := Cond.staticRefV Y.unassigned L.unassignedStatic L.statics hcS0 hiss (a (.isRef (.static Bundle.tN "UNASSIGNED_STACK" Bundle.steD)) (by simp [Bundle.messageArmAtoms]))
  obtain ⟨sen, hsen⟩ := Cond.staticRefV Y.sentinel L.sentinelStatic L.statics hcS0 hiss (a (.isRef (.static Bundle.tN "SUPPRESSED_SENTINEL" Bundle.listD)) (by simp [Bundle.messageArmAtoms]))
  obtain ⟨ci198, i198, fB, hk198, hg198, ha198, hsB, -, hnB, htB, hffB⟩ := Cond.ownField (t := .object "java/lang/Object") Y.found L.cls (by decide +kernel) (a (.fieldLink Bundle.tN 198 Bundle.tN "backtrace" "Ljava/lang/Object;") (by simp [Bundle.messageArmAtoms])) (a (.lays Bundle.tN Bundle.tN "backtrace" "Ljava/lang/Object;") (by simp [Bundle.messageArmAtoms])) e.platform hpl
  obtain ⟨cellS, hcS', heS, -, hkeep⟩ := X.same.2.2.2.2.2 T.aS cellS0 hcS0
  have hcellS : W.heap[T.aS]? = some cellS := hcS'
  have hout' : ∀ i, (⟨T.aS, i⟩ : Loc) ∉ locs := fun i hmem => by
    have := hlocs _ hmem cellS0 hcS0
    rw [hiss] at this; cases this
  have hknownS : cellS.vm ≠ .unknown := by
    rw [heS]; intro hu
    rw [show cellS0.vm = .unknown from hu] at hiss
    cases hiss
  have hvU : cellS.slots[T.fUnassigned.slot]? = some u0.v := by rw [hkeep _ (hout' _)]; exact hu0
  have hvSen : cellS.slots[T.fSentinel.slot]? = some sen.v := by rw [hkeep _ (hout' _)]; exact hsen
  obtain ⟨iM, hffM⟩ := Y.msg
  obtain ⟨tyC, dC, hdC, hdnC⟩ := Cond.laysAt hfound hk Y.cause (a (.lays cls Bundle.tN "cause" "Ljava/lang/Throwable;") (by simp [Bundle.messageArmAtoms]))
  obtain ⟨tyS, dS, hdS, hdnS⟩ := Cond.laysAt hfound hk Y.stack (a (.lays cls Bundle.tN "stackTrace" Bundle.steD) (by simp [Bundle.messageArmAtoms]))
  obtain ⟨tyP, dP, hdP, hdnP⟩ := Cond.laysAt hfound hk Y.supp (a (.lays cls Bundle.tN "suppressedExceptions" Bundle.listD) (by simp [Bundle.messageArmAtoms]))
  obtain ⟨tyM, dM, hdM, hdnM⟩ := Cond.laysAt hfound hk hffM (a (.lays cls Bundle.tN "detailMessage" "Ljava/lang/String;") (by simp [Bundle.messageArmAtoms]))
  obtain ⟨tyB, dB, hdB, hdnB⟩ := Cond.laysAt hfound hk hffB (a (.lays cls Bundle.tN "backtrace" "Ljava/lang/Object;") (by simp [Bundle.messageArmAtoms]))
  have bC := Cond.laysApart hdB hdC hdnB hdnC (by rw [hnB, Y.causeName]; decide)
  have bS := Cond.laysApart hdB hdS hdnB hdnS (by rw [hnB, Y.stackName]; decide)
  have bP := Cond.laysApart hdB hdP hdnB hdnP (by rw [hnB, Y.suppName]; decide)
  have hbk : ((preparedCellV T.toThrowableT (freshCell P1.m.cls kX) (W.heap.size + 2) u0 sen).withEntry W.cur).slots[fB.slot]? = some .null := by
    have := fresh_default (c := P1.m.cls) tyB
    rw [htB] at this
    simpa [preparedCellV, Cell.setSlot, Cell.withEntry, Array.getElem?_setIfInBounds, bC, bS, bP, bC.symm, bS.symm, bP.symm, defaultValue] using this
  have tkC := Takes.of_laid (v := .ref (W.heap.size + 2)) hk hord tyC (by rw [Y.causeType]; rfl)
  have tkS := Takes.of_laid (v := u0.v) hk hord tyS (by rw [Y.stackType]; exact fits_refV_array _ u0)
  have tkP := Takes.of_laid (v := sen.v) hk hord tyP (by rw [Y.suppType]; exact fits_refV_object _ sen)
  have tkM := Takes.of_laid (v := .ref (W.heap.size + 1)) hk hord tyM (by rw [Y.msgType]; rfl)
  have hskip : SkipFacts T e.platform s (fun u => u) u0 ((preparedCellV T.toThrowableT (freshCell P1.m.cls kX) (W.heap.size + 2) u0 sen).withEntry W.cur) := ⟨{ ci198 := ci198, i198 := i198, fBack := fB }, ⟨hk198, hg198, ha198, hsB⟩, hbk, fun _ _ => rfl⟩
  have h0 : At W g.method c below := by rw [hg]; exact X.here
  obtain ⟨hbeyond, hfreeW⟩ := X.vmMayThrow hsize (.throwNew cls (some text) none) (fun f hf => by cases hf) rfl hRlocals
  have hfr' : W.frames.length + Ps.length + 4 < (e.platform.stackLimits W.me).1 := by have := X.framesAbove hRframes; omega
  have hwd' : (stackUse (.java g :: W.frames.tail)).2 + 13 * Ps.length + 55 ≤ (e.platform.stackLimits W.me).2 := by have := X.stackAbove hsize (K := 13 * Ps.length + 55) (by omega); omega
  have hslots : W.slotsUsed + (stringBytes (stringToUtf16 text)).size + Zs.kS.instanceTypes.size + kX.instanceTypes.size ≤ e.platform.maxSlots := by
    have := X.slotsAbove hRslots
    rw [hn4, hn6]
    omega
  obtain ⟨vm', hW', st⟩ := Steps.vmThrowsMessageColdByV p (s₀ := s) (S := W) (g := g) h0 hexec T L Z LZ M LM X.warmed (t := W.cur) rfl Zs LZs P1 L1 Ps hL hlink1 hlink hsoe hoom hfound hk hinit hord hctor
    (Launch.admits_hotImplicitExceptions X.admits) hbeyond hfreeW htext hlimit hheap (X.cellsAbove hRcells) hslots (hfitv _) (hfitc _)
    (Nn := fun u => u) heapOnly_id (fun _ _ => rfl) (fun _ => rfl) (fun u x y => setCell_twice _ _ _ _) (fun _ => Nat.le_refl _) (cN := ((preparedCellV T.toThrowableT (freshCell P1.m.cls kX) (W.heap.size + 2) u0 sen).withEntry W.cur))
    hsel0 hcellS hknownS hvU tkS (fun _ hu => hu) (fun _ hu => hu) rfl rfl rfl (by simp [preparedCellV, Cell.setSlot, Cell.withEntry]) hskip (fun _ _ hA hW _ hroom _ hrest => L.nativeOff p htr hA hW hroom hrest) hselF hvSen tkC tkP tkM Y.objLocals rfl hfr' hwd'
  rw [plainBareV_eq T.toThrowableT (W.heap.size + 2) u0 sen (.ref (W.heap.size + 1)) W.cur rfl rfl] at st
  obtain ⟨-, -, w3, w4, -, -, -⟩ := withThrown_facts e.platform W Zs text P1.m.cls kX
  have X3 := ((X.pushed (bytesOf Zs.cB (stringToUtf16 text))).pushed (stringAt Zs.cS Zs.kS Zs.fv Zs.fc (stringToUtf16 text) W.heap.size)).pushed (freshCell P1.m.cls kX)
  rw [← withString_eq] at X3
  have X4 := X3.noted hW'
  have ha : (W.heap.size + 2) < ((withThrown W Zs text P1.m.cls kX).setVm vm').heap.size := by show _ < (withThrown W Zs text P1.m.cls kX).heap.size; rw [w3]; omega
  have hcell : ((withThrown W Zs text P1.m.cls kX).setVm vm').heap[(W.heap.size + 2)]? = some (freshCell P1.m.cls kX) := w4
  have X5 := ((((X4.stored hcell T.fCause.slot (.ref (W.heap.size + 2))).storedAgain ha T.fStack.slot u0.v).storedAgain ha T.fSupp.slot sen.v).storedAgain ha T.fStack.slot u0.v).storedAgain ha T.fMsg.slot (.ref (W.heap.size + 1))
  obtain ⟨g₁, hfrM⟩ := X5.frames_eq
  have hU : ((((withThrown W Zs text P1.m.cls kX).setVm vm').setCell (W.heap.size + 2) (plainBareV T.toThrowableT (freshCell P1.m.cls kX) (W.heap.size + 2) u0 sen (.ref (W.heap.size + 1)))).setTop g).pushFrame (.throwing (W.heap.size + 2)) = (((withThrown W Zs text P1.m.cls kX).setVm vm').setCell (W.heap.size + 2) (plainBareV T.toThrowableT (freshCell P1.m.cls kX) (W.heap.size + 2) u0 sen (.ref (W.heap.size + 1)))).setFrames (.throwing (W.heap.size + 2) :: .java g :: below) := by
    rw [State.pushFrame, State.frames_setTop _ hfrM, State.setTop_of_frames _ hfrM, State.setFrames_setFrames]
  have b1 : (bytesOf Zs.cB (stringToUtf16 text)).slots.size = (stringBytes (stringToUtf16 text)).size := by
    rw [(Cell.writeAll_facts _ _).2.2]; simp [bytes0]
  have b2 : (stringAt Zs.cS Zs.kS Zs.fv Zs.fc (stringToUtf16 text) W.heap.size).slots.size = 4 := by simp [string0, Cell.setSlot, hn4]
  have b3 : (freshCell P1.m.cls kX).slots.size = 6 := by simp [hn6]
  rw [b1, b2, b3] at X5
  have e9 : slots + (stringBytes (stringToUtf16 text)).size + 4 + 6 = slots + ((stringBytes (stringToUtf16 text)).size + 4 + 6) := by omega
  rw [e9] at X5
  simp only [List.append_assoc, List.cons_append, List.nil_append] at X5
  refine ⟨((withThrown W Zs text P1.m.cls kX).setVm vm').setCell (W.heap.size + 2) (plainBareV T.toThrowableT (freshCell P1.m.cls kX) (W.heap.size + 2) u0 sen (.ref (W.heap.size + 1))), W.heap.size + 2, _, fun target ht => st _ (by rw [X.tail, ← hU]; exact ht),
    X5.forget (fun y hy => ?_), heapAt_setCell_self _ ha, hfound, rfl⟩
  simp only [List.mem_cons, List.not_mem_nil, or_false] at hy
  have hge : s.heap.size ≤ W.heap.size := X.same.2.1
  rcases hy with rfl | rfl | rfl | rfl | rfl <;> exact Nat.le_trans hge (Nat.le_add_right _ 2)
set_option maxHeartbeats 1000000 in
/-- the machine throws NullPointerException, no traces kept: from its note over the frame g to 'throwing' over the same frame (follows the proof of Stand.vmThrowsNpe, Shelf42/KT2.lean; throwsNpeColdBareVAt, Shelf42/NT91.lean, called) -/
theorem vx_npeAt {p : Program} {l : Launch} {e : Env} {R : Room} {s : State} {m₀ : MethodId} {args : Array Value} {below : List Frame} {meth : Method} {c : Code} {W : State} {locs : List Loc} {cells slots : Nat}
    (X : Stand p l e R s m₀ args below meth c W locs cells slots) (hexec : p.tables.exec = Jvm.exec) (htr : e.platform.stackTraces = false) {n : Nat}
    (h : ∀ a ∈ Bundle.npeArmAtoms n, a.before args s = true)
    (hlocs : ∀ x ∈ locs, ∀ cell, s.heap[x.base]? = some cell → cell.vm.isStatics = false)
    {g : JFrame} (hg : g.method = m₀) (hsize : g.locals.size = c.maxLocals)
    (hRframes : 7 < R.frames) (hRlocals : 2 * g.monitorRoom + (g.stack.map fun v => v.category).sum + 10240 ≤ R.locals)
    (hRcells : cells + 1 ≤ R.cells) (hRslots : slots + n ≤ R.slots) (hlocks : meth.locks = false) :
    ∃ (S : State) (q : Addr) (ce : Cell), (∀ target, Steps p.tables e below ((S.setTop g).pushFrame (.throwing q)) target → Steps p.tables e below ((W.setTop g).pushFrame (.throwNew "java/lang/NullPointerException" none none)) target) ∧
      Stand p l e R s m₀ args below meth c S locs (cells + 1) (slots + n) ∧ S.heap[q]? = some ce ∧ s.vm.findClass "java/lang/NullPointerException" = some ce.cls ∧ ce.vm = .none := by
  have howns : e.platform.frameOwnsMonitors = true := by rw [X.admits.platform]
  have hfin : e.platform.finalization = false := by rw [X.admits.platform]
  have hpl : e.platform.magicAccessors = ({} : Platform).magicAccessors := by rw [X.admits.platform]
  have hpl2 : e.platform.arrayCloneIsPublic = true := by rw [X.admits.platform]
  have a' : ∀ x, x ∈ Bundle.npeArmAtoms n → x.holds args s none s [] = true := fun x hx => h x hx
  obtain ⟨T, Z, L, LZ, Y⟩ := ThrowableC.of_atoms (args := args) howns hfin hpl (fun x hx => h x (by simp [Bundle.npeArmAtoms, hx]))
  obtain ⟨N, LN, hcN, hnNF, hordN, hffS⟩ := NpeC.of_atoms (args := args) hpl hpl2 L Y (fun x hx => h x (by simp [Bundle.npeArmAtoms, hx]))
  obtain ⟨P1, L1, hP1m, hP1s⟩ := PassC.of_atoms (args := args) (s := s) hpl (X := Bundle.nN) (Y := Bundle.rN) (by decide) (by decide) LibCode.NullPointerException.Init0.at_0 LibCode.NullPointerException.Init0.at_1 LibCode.NullPointerException.Init0.at_4 (fun x hx => h x (by simp [Bundle.npeArmAtoms, hx]))
  obtain ⟨PR, LR, hPRm, hPRs⟩ := PassC.of_atoms (args := args) (s := s) hpl (X := Bundle.rN) (Y := Bundle.eN) (by decide) (by decide) LibCode.RuntimeException.Init0.at_0 LibCode.RuntimeException.Init0.at_1 LibCode.RuntimeException.Init0.at_4 (fun x hx => h x (by simp [Bundle.npeArmAtoms, hx]))
  obtain ⟨PE, LEx, hPEm, hPEs⟩ := PassC.of_atoms (args := args) (s := s) hpl (X := Bundle.eN) (Y := Bundle.tN) (by decide) (by decide) LibCode.Exception.Init0.at_0 LibCode.Exception.Init0.at_1 LibCode.Exception.Init0.at_4 (fun x hx => h x (by simp [Bundle.npeArmAtoms, hx]))
  have hfound : s.vm.findClass Bundle.nN = some P1.m.cls := findClass_of_methodNamed hP1m
  have ecls : N.cN = P1.m.cls := Option.some.inj (hcN.symm.trans hfound)
  have hk : s.vm.classes[P1.m.cls]? = some N.kN := by rw [← ecls]; exact LN.cls
  have hinit := Cond.initialized_spec hfound hk (a' (.initialized Bundle.nN) (by simp [Bundle.npeArmAtoms]))
  have hctor : N.kN.findMethod "<init>" "()V" = some P1.m.idx := findMethod_of_methodNamed hP1m hk
  obtain ⟨c1, k1, hc1, hk1, -, -, -, hn⟩ := Cond.instantiable_spec (a' (.instantiable Bundle.nN n) (by simp [Bundle.npeArmAtoms]))
  cases Option.some.inj (hc1.symm.trans hfound)
  cases Option.some.inj (hk1.symm.trans hk)
  have hfsz : (freshCell P1.m.cls N.kN).slots.size = n := by simp [hn]
  have hlink1 : P1.sup = PR.m := Option.some.inj (hP1s.symm.trans hPRm)
  have hlinkR : PR.sup = PE.m := Option.some.inj (hPRs.symm.trans hPEm)
  have hlinkE : PE.sup = Z.m T.toThrowableT := Option.some.inj (hPEs.symm.trans Y.init0)
  have hLs : ∀ P, P ∈ [PR, PE] → P.Links0 e.platform s := fun P hP => by
    simp only [List.mem_cons, List.not_mem_nil, or_false] at hP
    rcases hP with rfl | rfl
    · exact LR
    · exact LEx
  have hsel0 : selectMethod e.platform s.vm P1.m.cls T.fill0 = .method T.fill0 := by
    obtain ⟨c2, r2, m2, q1, q2, q3, q4, -⟩ := Cond.selects_spec (a' (.selects Bundle.nN Bundle.tFill0 Bundle.tFill0) (by simp [Bundle.npeArmAtoms]))
    cases Option.some.inj (q1.symm.trans hfound)
    cases Option.some.inj (q2.symm.trans (State.methodFound?_of_named Y.fill0 (by decide)))
    cases Option.some.inj (q3.symm.trans Y.fill0)
    rw [Launch.admits_selectMethod X.admits]; exact q4
  have hselF : selectMethod e.platform s.vm P1.m.cls T.fill = .method N.fill := by
    obtain ⟨c2, r2, m2, q1, q2, q3, q4, -⟩ := Cond.selects_spec (a' (.selects Bundle.nN Bundle.tFill Bundle.nFill) (by simp [Bundle.npeArmAtoms]))
    cases Option.some.inj (q1.symm.trans hfound)
    cases Option.some.inj (q2.symm.trans (State.methodFound?_of_named Y.fill (by decide)))
    cases Option.some.inj (q3.symm.trans hnNF)
    rw [Launch.admits_selectMethod X.admits]; exact q4
  obtain ⟨cellS0, hcS0, hiss⟩ := Y.statics
  obtain ⟨u0, hu0⟩ := Cond.staticRefV Y.unassigned L.unassignedStatic L.statics hcS0 hiss (a' (.isRef (.static Bundle.tN "UNASSIGNED_STACK" Bundle.steD)) (by simp [Bundle.npeArmAtoms]))
  obtain ⟨sen, hsen⟩ := Cond.staticRefV Y.sentinel L.sentinelStatic L.statics hcS0 hiss (a' (.isRef (.static Bundle.tN "SUPPRESSED_SENTINEL" Bundle.listD)) (by simp [Bundle.npeArmAtoms]))
  obtain ⟨ci198, i198, fB, hk198, hg198, ha198, hsB, -, hnB, htB, hffB⟩ := Cond.ownField (t := .object "java/lang/Object") Y.found L.cls (by decide +kernel) (a' (.fieldLink Bundle.tN 198 Bundle.tN "backtrace" Bundle.objD) (by simp [Bundle.npeArmAtoms])) (a' (.lays Bundle.tN Bundle.tN "backtrace" Bundle.objD) (by simp [Bundle.npeArmAtoms])) e.platform hpl
  obtain ⟨cellS, hcS', heS, -, hkeep⟩ := X.same.2.2.2.2.2 T.aS cellS0 hcS0
  have hcellS : W.heap[T.aS]? = some cellS := hcS'
  have hout' : ∀ i, (⟨T.aS, i⟩ : Loc) ∉ locs := fun i hmem => by
    have := hlocs _ hmem cellS0 hcS0
    rw [hiss] at this; cases this
  have hknownS : cellS.vm ≠ .unknown := by
    rw [heS]; intro hu
    rw [show cellS0.vm = .unknown from hu] at hiss
    cases hiss
  have hvU : cellS.slots[T.fUnassigned.slot]? = some u0.v := by rw [hkeep _ (hout' _)]; exact hu0
  have hvSen : cellS.slots[T.fSentinel.slot]? = some sen.v := by rw [hkeep _ (hout' _)]; exact hsen
  obtain ⟨tyC, dC, hdC, hdnC⟩ := Cond.laysAt hfound hk Y.cause (a' (.lays Bundle.nN Bundle.tN "cause" "Ljava/lang/Throwable;") (by simp [Bundle.npeArmAtoms]))
  obtain ⟨tyS, dS, hdS, hdnS⟩ := Cond.laysAt hfound hk Y.stack (a' (.lays Bundle.nN Bundle.tN "stackTrace" Bundle.steD) (by simp [Bundle.npeArmAtoms]))
  obtain ⟨tyP, dP, hdP, hdnP⟩ := Cond.laysAt hfound hk Y.supp (a' (.lays Bundle.nN Bundle.tN "suppressedExceptions" Bundle.listD) (by simp [Bundle.npeArmAtoms]))
  obtain ⟨tyX, dX, hdX, hdnX⟩ := Cond.laysAt hfound hk hffS (a' (.lays Bundle.nN Bundle.nN "extendedMessageState" "I") (by simp [Bundle.npeArmAtoms, Bundle.npeAtoms]))
  obtain ⟨hnX, htX⟩ := State.fieldFound?_type hffS (t := .int) (by decide +kernel)
  have xC := Cond.laysApart hdC hdX hdnC hdnX (by rw [hnX, Y.causeName]; decide)
  have xS := Cond.laysApart hdS hdX hdnS hdnX (by rw [hnX, Y.stackName]; decide)
  have xP := Cond.laysApart hdP hdX hdnP hdnX (by rw [hnX, Y.suppName]; decide)
  have hv0 : (freshCell P1.m.cls N.kN).slots[N.fState.slot]? = some (.int 0) := by
    have := fresh_default (c := P1.m.cls) tyX
    rw [htX] at this; exact this
  obtain ⟨tyB, dB, hdB, hdnB⟩ := Cond.laysAt hfound hk hffB (a' (.lays Bundle.nN Bundle.tN "backtrace" Bundle.objD) (by simp [Bundle.npeArmAtoms]))
  have bC := Cond.laysApart hdB hdC hdnB hdnC (by rw [hnB, Y.causeName]; decide)
  have bS := Cond.laysApart hdB hdS hdnB hdnS (by rw [hnB, Y.stackName]; decide)
  have bP := Cond.laysApart hdB hdP hdnB hdnP (by rw [hnB, Y.suppName]; decide)
  have bX := Cond.laysApart hdB hdX hdnB hdnX (by rw [hnB, hnX]; decide)
  have hbk : ((npeCell N.toNpeT (preparedCellV T.toThrowableT (freshCell P1.m.cls N.kN) W.heap.size u0 sen) W.cur).withEntry W.cur).slots[fB.slot]? = some .null := by
    have := fresh_default (c := P1.m.cls) tyB
    rw [htB] at this
    simpa [npeCell, preparedCellV, Cell.setSlot, Cell.withEntry, Array.getElem?_setIfInBounds, bC, bS, bP, bX, bC.symm, bS.symm, bP.symm, bX.symm, defaultValue] using this
  have tkC := Takes.of_laid (v := .ref W.heap.size) hk hordN tyC (by rw [Y.causeType]; rfl)
  have tkS := Takes.of_laid (v := u0.v) hk hordN tyS (by rw [Y.stackType]; exact fits_refV_array _ u0)
  have tkP := Takes.of_laid (v := sen.v) hk hordN tyP (by rw [Y.suppType]; exact fits_refV_object _ sen)
  have tkX := Takes.of_laid (v := .int 1) hk hordN tyX (by rw [htX]; rfl)
  have hskip : SkipFacts T e.platform s (fun u => u) u0 ((npeCell N.toNpeT (preparedCellV T.toThrowableT (freshCell P1.m.cls N.kN) W.heap.size u0 sen) W.cur).withEntry W.cur) := ⟨{ ci198 := ci198, i198 := i198, fBack := fB }, ⟨hk198, hg198, ha198, hsB⟩, hbk, fun _ _ => rfl⟩
  obtain ⟨vm', X3, st, -⟩ := X.throwsNpeColdBareVAt hexec hg hsize T L Z LZ N LN P1 L1 [PR, PE] hLs hlink1 ⟨hlinkR, hlinkE, trivial⟩ hfound hk hinit hordN hctor hsel0 hselF hcellS hknownS hvU hvSen
    hv0 xC xS xP tkC tkS tkP tkX Y.objLocals hskip (fun _ _ hA hW _ hroom _ hrest => L.nativeOff p htr hA hW hroom hrest) (by simpa using hRframes) hRlocals (by simp) hRcells (by rw [hn]; exact hRslots)
  have hlt : W.heap.size < ((W.pushCell (freshCell P1.m.cls N.kN)).setVm vm').heap.size := by
    show W.heap.size < (W.pushCell (freshCell P1.m.cls N.kN)).heap.size
    rw [State.heap_size_pushCell]; omega
  rw [hfsz] at X3
  obtain ⟨g₁, hfrM⟩ := X3.frames_eq
  have hU : ((((W.pushCell (freshCell P1.m.cls N.kN)).setVm vm').setCell W.heap.size (npeBareV T.toThrowableT N.toNpeT (freshCell P1.m.cls N.kN) W.heap.size u0 sen)).setTop g).pushFrame (.throwing W.heap.size) = (((W.pushCell (freshCell P1.m.cls N.kN)).setVm vm').setCell W.heap.size (npeBareV T.toThrowableT N.toNpeT (freshCell P1.m.cls N.kN) W.heap.size u0 sen)).setFrames (.throwing W.heap.size :: .java g :: below) := by
    rw [State.pushFrame, State.frames_setTop _ hfrM, State.setTop_of_frames _ hfrM, State.setFrames_setFrames]
  refine ⟨_, W.heap.size, _, fun target ht => st.trans (by rw [← hU]; exact ht), X3.forget (fun y hy => ?_), heapAt_setCell_self _ hlt, hfound, rfl⟩
  simp only [List.mem_cons, List.not_mem_nil, or_false] at hy
  have hge : s.heap.size ≤ W.heap.size := X.same.2.1
  rcases hy with rfl | rfl | rfl | rfl | rfl <;> exact hge
/-- the words of a machine's NullPointerException, but the four that speak of the heap -/
def vx_atN (n : Nat) : List Cond := (Bundle.npeArmAtoms n).filter vx_no
/-- the words of a machine's throw with a message, but the four that speak of the heap -/
def vx_atM (X : String) (names : List String) : List Cond := (Bundle.messageArmAtoms X names).filter vx_no
section
variable {p : Program} {l : Launch} {e : Env} {R : Room} {s : State} {m : MethodId} {args : Array Value} {below : List Frame} {meth : Method} {c : Code} {H : Heap} {locs : List Loc} {cells slots : Nat}
/-- a frame seen from a rebased start, seen from the first start again -/
theorem vx_back9 {T S : State} {R' : Room} {k n : Nat} (X : Stand p l e R s m args below meth c T locs cells slots) (Y : Stand p l e R' ((T.setVm s.vm).setFrames (.invoking m args :: below)) m args below meth c T [] 0 0) (Z : Stand p l e R' ((T.setVm s.vm).setFrames (.invoking m args :: below)) m args below meth c S [] k n) :
    Stand p l e R s m args below meth c S locs (cells + k) (slots + n) := by
  have hW0 : s.WarmedH ((T.setVm s.vm).setFrames (.invoking m args :: below)).vm := State.WarmedH.refl s
  refine { admits := X.admits, cas := X.cas, clock := X.clock, frames := X.frames, room := X.room, hears := X.hears, method := X.method, code := X.code, here := Z.here, tail := Z.tail, warmed := State.WarmedH.trans hW0 Z.warmed, limits := Z.limits.trans (Y.limits.symm.trans X.limits), bytes := Z.bytes.trans (Y.bytes.symm.trans X.bytes), same := ?_ }
  obtain ⟨e1, e2⟩ := Z.same
  rw [State.setFrames_setFrames] at e1
  have h2 : (T.setVm s.vm).sameButNew (S.setVm s.vm) [] k n := ⟨e1, e2⟩
  have h3 := X.same.trans h2
  rw [List.append_nil] at h3
  exact h3
/-- from the machine's note that E is thrown here with this text -/
def vx_Note (p : Program) (l : Launch) (e : Env) (R : Room) (s : State) (m : MethodId) (args : Array Value) (below : List Frame) (meth : Method) (c : Code) (H : Heap) (locs : List Loc) (cells slots : Nat) (Q : State → Prop) (g : JFrame) (E text : String) : Prop :=
  ∀ T : State, T.heap = H → Stand p l e R s m args below meth c T locs cells slots → ∃ t, Steps p.tables e below ((T.setTop g).pushFrame (.throwNew E (some text) none)) t ∧ Q t
theorem vx_vm {pc : Nat} {ls : Array Slot} {rest : List Value} {Q : State → Prop} (hexec : p.tables.exec = Jvm.exec) (hl : l.stackTraces = false) {cls text : String} {names : List String} {nb : Nat} {A : Nat → Prop}
    (hcls : Bundle.fit cls = true) (hnames : ∀ n ∈ names, Bundle.fit n = true) (hsoe : (cls == "java/lang/StackOverflowError") = false) (hoom : (cls == "java/lang/OutOfMemoryError") = false)
    (hat : ∀ w ∈ vx_atM cls names, w.before args s = true) (hgood : ∀ w ∈ vx_atM cls names, vx_ot w = true)
    (hU : vx_Zq Bundle.tN "UNASSIGNED_STACK" Bundle.steD A s s.heap) (hN : vx_Zq Bundle.tN "SUPPRESSED_SENTINEL" Bundle.listD A s s.heap) (hS : va_S A s.heap H locs) (hsize : ls.size = c.maxLocals)
    (htext : (text == notModelled) = false) (hnb : (stringBytes (stringToUtf16 text)).size ≤ nb) (hnb1 : nb ≤ 1000)
    (hRframes : names.length + 4 < R.frames) (hRlocals : (rest.map fun v => v.category).sum + 10240 ≤ R.locals) (hshort : 13 * names.length + 55 ≤ 10240) (hRcells : cells + 3 ≤ R.cells) (hRslots : slots + (nb + 10) ≤ R.slots) (hlocks : meth.locks = false)
    (k : ∀ (H1 : Heap) (q9 : Addr) (ce : Cell), H.size ≤ H1.size → (∀ q : Nat, q < H.size → H1[q]? = H[q]?) → va_S A s.heap H1 locs → H1[q9]? = some ce → ce.vm = .none → s.vm.findClass cls = some ce.cls → vx_W p l e R s m args below meth c H1 locs (cells + 3) (slots + (nb + 10)) Q (F0 m pc ls rest) q9) :
    vx_Note p l e R s m args below meth c H locs cells slots Q (F0 m pc ls rest) cls text := by
  intro T hT X
  have htr : e.platform.stackTraces = false := (show e.platform.stackTraces = l.stackTraces by rw [X.admits.platform]).trans hl
  have Y := vx_rebase X (R' := { frames := R.frames, locals := R.locals, cells := 3, slots := nb + 10 }) (Nat.le_refl _) (Nat.le_refl _) hRcells hRslots
  have hhp : ((T.setVm s.vm).setFrames (.invoking m args :: below)).heap = H := hT
  have hW0 : s.WarmedH ((T.setVm s.vm).setFrames (.invoking m args :: below)).vm := State.WarmedH.refl s
  have hat' : ∀ w ∈ vx_atM cls names, w.before args ((T.setVm s.vm).setFrames (.invoking m args :: below)) = true := fun w hw => vx_ot_at hW0 rfl (hgood w hw) (hat w hw)
  have hU' : vx_Zq Bundle.tN "UNASSIGNED_STACK" Bundle.steD A ((T.setVm s.vm).setFrames (.invoking m args :: below)) ((T.setVm s.vm).setFrames (.invoking m args :: below)).heap := by rw [hhp]; exact vx_Zq.moved hW0.alike (hU.kept hS.2.1)
  have hN' : vx_Zq Bundle.tN "SUPPRESSED_SENTINEL" Bundle.listD A ((T.setVm s.vm).setFrames (.invoking m args :: below)) ((T.setVm s.vm).setFrames (.invoking m args :: below)).heap := by rw [hhp]; exact vx_Zq.moved hW0.alike (hN.kept hS.2.1)
  obtain ⟨S, q, ce, st, Z, hce, hcl', hv⟩ := vx_vmAt Y hexec htr (cls := cls) (names := names) (text := text) hcls hnames hsoe hoom (vx_own hat' (vx_isRefq hU'.1) (vx_isRefq hN'.1) hU'.2.word hN'.2.word) (fun x hx => nomatch hx) htext
    (by rw [Launch.admits_arrayLengthLimit X.admits]; omega) (by rw [Launch.admits_maxHeapBytes X.admits]; simp only [componentBytes]; omega)
    (g := F0 m pc ls rest) rfl hsize hRframes (by show 2 * 0 + (rest.map fun v => v.category).sum + 10240 ≤ R.locals; omega) hshort (by show 0 + 3 ≤ 3; omega) (by show 0 + (_ + 4 + 6) ≤ nb + 10; omega) hlocks
  obtain ⟨f1, f2⟩ := vx_frame Z.same
  have f1' : H.size ≤ S.heap.size := by rw [← hT]; exact f1
  have f2' : ∀ q : Nat, q < H.size → S.heap[q]? = H[q]? := fun q hq => by
    rw [← hT]
    exact f2 q (by rw [← hT] at hq; exact hq) (fun z hz => nomatch hz)
  have X5 := vx_back9 X Y Z
  have X6 : Stand p l e R s m args below meth c S locs (cells + 3) (slots + (nb + 10)) := { X5 with same := X5.same.mono (by omega) (by omega) }
  obtain ⟨t, a1, b1⟩ := k S.heap q ce f1' f2' ⟨Nat.le_trans hS.1 f1', fun q h1 h2 => (f2' q (Nat.lt_of_lt_of_le h1 hS.1)).trans (hS.2.1 q h1 h2), hS.2.2⟩ hce hv hcl' S rfl X6
  exact ⟨t, st t a1, b1⟩
/-- from the machine's note that NullPointerException is thrown here -/
def vx_NoteN (p : Program) (l : Launch) (e : Env) (R : Room) (s : State) (m : MethodId) (args : Array Value) (below : List Frame) (meth : Method) (c : Code) (H : Heap) (locs : List Loc) (cells slots : Nat) (Q : State → Prop) (g : JFrame) : Prop :=
  ∀ T : State, T.heap = H → Stand p l e R s m args below meth c T locs cells slots → ∃ t, Steps p.tables e below ((T.setTop g).pushFrame (.throwNew "java/lang/NullPointerException" none none)) t ∧ Q t
theorem vx_npe {pc : Nat} {ls : Array Slot} {rest : List Value} {Q : State → Prop} (hexec : p.tables.exec = Jvm.exec) (hl : l.stackTraces = false) {nb : Nat} {A : Nat → Prop}
    (hat : ∀ w ∈ vx_atN nb, w.before args s = true) (hgood : ∀ w ∈ vx_atN nb, vx_ot w = true)
    (hU : vx_Zq Bundle.tN "UNASSIGNED_STACK" Bundle.steD A s s.heap) (hN : vx_Zq Bundle.tN "SUPPRESSED_SENTINEL" Bundle.listD A s s.heap) (hS : va_S A s.heap H locs) (hsize : ls.size = c.maxLocals)
    (hRframes : 7 < R.frames) (hRlocals : (rest.map fun v => v.category).sum + 10240 ≤ R.locals) (hRcells : cells + 1 ≤ R.cells) (hRslots : slots + nb ≤ R.slots) (hlocks : meth.locks = false)
    (k : ∀ (H1 : Heap) (q9 : Addr) (ce : Cell), H.size ≤ H1.size → (∀ q : Nat, q < H.size → H1[q]? = H[q]?) → va_S A s.heap H1 locs → H1[q9]? = some ce → ce.vm = .none → s.vm.findClass "java/lang/NullPointerException" = some ce.cls → vx_W p l e R s m args below meth c H1 locs (cells + 1) (slots + nb) Q (F0 m pc ls rest) q9) :
    vx_NoteN p l e R s m args below meth c H locs cells slots Q (F0 m pc ls rest) := by
  intro T hT X
  have htr : e.platform.stackTraces = false := (show e.platform.stackTraces = l.stackTraces by rw [X.admits.platform]).trans hl
  have Y := vx_rebase X (R' := { frames := R.frames, locals := R.locals, cells := 1, slots := nb }) (Nat.le_refl _) (Nat.le_refl _) hRcells hRslots
  have hhp : ((T.setVm s.vm).setFrames (.invoking m args :: below)).heap = H := hT
  have hW0 : s.WarmedH ((T.setVm s.vm).setFrames (.invoking m args :: below)).vm := State.WarmedH.refl s
  have hat' : ∀ w ∈ vx_atN nb, w.before args ((T.setVm s.vm).setFrames (.invoking m args :: below)) = true := fun w hw => vx_ot_at hW0 rfl (hgood w hw) (hat w hw)
  have hU' : vx_Zq Bundle.tN "UNASSIGNED_STACK" Bundle.steD A ((T.setVm s.vm).setFrames (.invoking m args :: below)) ((T.setVm s.vm).setFrames (.invoking m args :: below)).heap := by rw [hhp]; exact vx_Zq.moved hW0.alike (hU.kept hS.2.1)
  have hN' : vx_Zq Bundle.tN "SUPPRESSED_SENTINEL" Bundle.listD A ((T.setVm s.vm).setFrames (.invoking m args :: below)) ((T.setVm s.vm).setFrames (.invoking m args :: below)).heap := by rw [hhp]; exact vx_Zq.moved hW0.alike (hN.kept hS.2.1)
  obtain ⟨S, q, ce, st, Z, hce, hcl', hv⟩ := vx_npeAt Y hexec htr (n := nb) (vx_own hat' (vx_isRefq hU'.1) (vx_isRefq hN'.1) hU'.2.word hN'.2.word) (fun x hx => nomatch hx)
    (g := F0 m pc ls rest) rfl hsize hRframes (by show 2 * 0 + (rest.map fun v => v.category).sum + 10240 ≤ R.locals; omega) (by show 0 + 1 ≤ 1; omega) (by show 0 + nb ≤ nb; omega) hlocks
  obtain ⟨f1, f2⟩ := vx_frame Z.same
  have f1' : H.size ≤ S.heap.size := by rw [← hT]; exact f1
  have f2' : ∀ q : Nat, q < H.size → S.heap[q]? = H[q]? := fun q hq => by
    rw [← hT]
    exact f2 q (by rw [← hT] at hq; exact hq) (fun z hz => nomatch hz)
  have X5 := vx_back9 X Y Z
  have X6 : Stand p l e R s m args below meth c S locs (cells + 1) (slots + nb) := { X5 with same := X5.same.mono (by omega) (by omega) }
  obtain ⟨t, a1, b1⟩ := k S.heap q ce f1' f2' ⟨Nat.le_trans hS.1 f1', fun q h1 h2 => (f2' q (Nat.lt_of_lt_of_le h1 hS.1)).trans (hS.2.1 q h1 h2), hS.2.2⟩ hce hv hcl' S rfl X6
  exact ⟨t, st t a1, b1⟩
variable {Q : State → Prop} {cc : ByteArray} {pc : Nat} {ls : Array Slot} {rest : List Value}
theorem vx_idivZ (hexec : p.tables.exec = Jvm.exec) (hb : c.code = cc) {a b : Int32} (h0 : b = 0) (d : decode cc pc = .ok (.idiv, 1)) (k : vx_Note p l e R s m args below meth c H locs cells slots Q (F0 m pc ls rest) "java/lang/ArithmeticException" "/ by zero") :
    W p l e R s m args below meth c H locs cells slots Q (F0 m pc ls (.int b :: .int a :: rest)) := by
  intro T hT X
  obtain ⟨t, st, q⟩ := k T hT X
  exact ⟨t, X.idivZero hexec (g := F0 m pc ls (.int b :: .int a :: rest)) rfl (a := a) (rest := rest) (by rw [h0]) (by rw [hb]; exact d) t st, q⟩
theorem vx_iremZ (hexec : p.tables.exec = Jvm.exec) (hb : c.code = cc) {a b : Int32} (h0 : b = 0) (d : decode cc pc = .ok (.irem, 1)) (k : vx_Note p l e R s m args below meth c H locs cells slots Q (F0 m pc ls rest) "java/lang/ArithmeticException" "/ by zero") :
    W p l e R s m args below meth c H locs cells slots Q (F0 m pc ls (.int b :: .int a :: rest)) := by
  intro T hT X
  obtain ⟨t, st, q⟩ := k T hT X
  exact ⟨t, X.iremZero hexec (g := F0 m pc ls (.int b :: .int a :: rest)) rfl (a := a) (rest := rest) (by rw [h0]) (by rw [hb]; exact d) t st, q⟩
theorem vx_ldivZ (hexec : p.tables.exec = Jvm.exec) (hb : c.code = cc) {a b : Int64} (h0 : b = 0) (d : decode cc pc = .ok (.ldiv, 1)) (k : vx_Note p l e R s m args below meth c H locs cells slots Q (F0 m pc ls rest) "java/lang/ArithmeticException" "/ by zero") :
    W p l e R s m args below meth c H locs cells slots Q (F0 m pc ls (.long b :: .long a :: rest)) := by
  intro T hT X
  obtain ⟨t, st, q⟩ := k T hT X
  exact ⟨t, X.ldivZero hexec (g := F0 m pc ls (.long b :: .long a :: rest)) rfl (a := a) (rest := rest) (by rw [h0]) (by rw [hb]; exact d) t st, q⟩
theorem vx_lremZ (hexec : p.tables.exec = Jvm.exec) (hb : c.code = cc) {a b : Int64} (h0 : b = 0) (d : decode cc pc = .ok (.lrem, 1)) (k : vx_Note p l e R s m args below meth c H locs cells slots Q (F0 m pc ls rest) "java/lang/ArithmeticException" "/ by zero") :
    W p l e R s m args below meth c H locs cells slots Q (F0 m pc ls (.long b :: .long a :: rest)) := by
  intro T hT X
  obtain ⟨t, st, q⟩ := k T hT X
  exact ⟨t, X.lremZero hexec (g := F0 m pc ls (.long b :: .long a :: rest)) rfl (a := a) (rest := rest) (by rw [h0]) (by rw [hb]; exact d) t st, q⟩
theorem vx_ialdZ {D : va_G} {cl : List vw_C} {ws : va_W} {tys : List (ClassId × FieldType)} {a : Nat} (hexec : p.tables.exec = Jvm.exec) (hb : c.code = cc) (hK : va_K D cl tys s) (hP : va_P D cl ws H) (q0 t0 : Nat) {cA : ClassId} {n : Nat} {f : Nat → Int32} (ha : ws[q0]? = some (a, .inl (cA, n, .inl f))) (ht : tys[t0]? = some (cA, .int)) {i : Int32} (hout : ¬ vp_in i n) (hdg : decode cc pc = .ok (.iaload, 1))
    (k : ∀ tx : String, tx = (toString "Index " ++ toString i ++ toString " out of bounds for length " ++ toString n : String) → vx_Note p l e R s m args below meth c H locs cells slots Q (F0 m pc ls rest) "java/lang/ArrayIndexOutOfBoundsException" tx) : W p l e R s m args below meth c H locs cells slots Q (F0 m pc ls (.int i :: .ref a :: rest)) := by
  intro T hT X
  obtain ⟨t, st, q⟩ := k _ rfl T hT X
  refine ⟨t, ?_, q⟩
  have h1 := X.ialoadOut hexec (by rw [hT]; exact hP q0 _ ha) ((hK.2 t0 _ ht).1 n (fun j => .int (f j))) (j := i) (by show (i < 0 ∨ (arrV _ _ _).slots.size ≤ _); rw [arrV_size]; exact Classical.byContradiction hout) (g := F0 m pc ls (.int i :: .ref a :: rest)) rfl (rest := rest) rfl (by rw [hb]; exact hdg) t
  simp only [arrV_size] at h1
  exact h1 st
theorem vx_iastZ {D : va_G} {cl : List vw_C} {ws : va_W} {tys : List (ClassId × FieldType)} {a : Nat} (hexec : p.tables.exec = Jvm.exec) (hb : c.code = cc) (hK : va_K D cl tys s) (hP : va_P D cl ws H) (q0 t0 : Nat) {cA : ClassId} {n : Nat} {f : Nat → Int32} (ha : ws[q0]? = some (a, .inl (cA, n, .inl f))) (ht : tys[t0]? = some (cA, .int)) {i : Int32} {x : Int32} (hout : ¬ vp_in i n) (hdg : decode cc pc = .ok (.iastore, 1))
    (k : ∀ tx : String, tx = (toString "Index " ++ toString i ++ toString " out of bounds for length " ++ toString n : String) → vx_Note p l e R s m args below meth c H locs cells slots Q (F0 m pc ls rest) "java/lang/ArrayIndexOutOfBoundsException" tx) : W p l e R s m args below meth c H locs cells slots Q (F0 m pc ls (.int x :: .int i :: .ref a :: rest)) := by
  intro T hT X
  obtain ⟨t, st, q⟩ := k _ rfl T hT X
  refine ⟨t, ?_, q⟩
  have h1 := X.iastoreOut hexec (by rw [hT]; exact hP q0 _ ha) ((hK.2 t0 _ ht).1 n (fun j => .int (f j))) (j := i) (by show (i < 0 ∨ (arrV _ _ _).slots.size ≤ _); rw [arrV_size]; exact Classical.byContradiction hout) (g := F0 m pc ls (.int x :: .int i :: .ref a :: rest)) rfl (rest := rest) rfl (by rw [hb]; exact hdg) t
  simp only [arrV_size] at h1
  exact h1 st
theorem vx_baldZ {D : va_G} {cl : List vw_C} {ws : va_W} {tys : List (ClassId × FieldType)} {a : Nat} (hexec : p.tables.exec = Jvm.exec) (hb : c.code = cc) (hK : va_K D cl tys s) (hP : va_P D cl ws H) (q0 t0 : Nat) {cA : ClassId} {n : Nat} {f : Nat → Int32} (ha : ws[q0]? = some (a, .inl (cA, n, .inl f))) (ht : tys[t0]? = some (cA, .byte)) {i : Int32} (hout : ¬ vp_in i n) (hdg : decode cc pc = .ok (.baload, 1))
    (k : ∀ tx : String, tx = (toString "Index " ++ toString i ++ toString " out of bounds for length " ++ toString n : String) → vx_Note p l e R s m args below meth c H locs cells slots Q (F0 m pc ls rest) "java/lang/ArrayIndexOutOfBoundsException" tx) : W p l e R s m args below meth c H locs cells slots Q (F0 m pc ls (.int i :: .ref a :: rest)) := by
  intro T hT X
  obtain ⟨t, st, q⟩ := k _ rfl T hT X
  refine ⟨t, ?_, q⟩
  have h1 := X.baloadOut hexec (by rw [hT]; exact hP q0 _ ha) ((hK.2 t0 _ ht).1 n (fun j => .int (f j))) (j := i) (by show (i < 0 ∨ (arrV _ _ _).slots.size ≤ _); rw [arrV_size]; exact Classical.byContradiction hout) (g := F0 m pc ls (.int i :: .ref a :: rest)) rfl (rest := rest) rfl (by rw [hb]; exact hdg) t
  simp only [arrV_size] at h1
  exact h1 st
theorem vx_bastZ {D : va_G} {cl : List vw_C} {ws : va_W} {tys : List (ClassId × FieldType)} {a : Nat} (hexec : p.tables.exec = Jvm.exec) (hb : c.code = cc) (hK : va_K D cl tys s) (hP : va_P D cl ws H) (q0 t0 : Nat) {cA : ClassId} {n : Nat} {f : Nat → Int32} (ha : ws[q0]? = some (a, .inl (cA, n, .inl f))) (ht : tys[t0]? = some (cA, .byte)) {i : Int32} {x : Int32} (hout : ¬ vp_in i n) (hdg : decode cc pc = .ok (.bastore, 1))
    (k : ∀ tx : String, tx = (toString "Index " ++ toString i ++ toString " out of bounds for length " ++ toString n : String) → vx_Note p l e R s m args below meth c H locs cells slots Q (F0 m pc ls rest) "java/lang/ArrayIndexOutOfBoundsException" tx) : W p l e R s m args below meth c H locs cells slots Q (F0 m pc ls (.int x :: .int i :: .ref a :: rest)) := by
  intro T hT X
  obtain ⟨t, st, q⟩ := k _ rfl T hT X
  refine ⟨t, ?_, q⟩
  have h1 := X.bastoreOut hexec (by rw [hT]; exact hP q0 _ ha) ((hK.2 t0 _ ht).1 n (fun j => .int (f j))) (j := i) (by show (i < 0 ∨ (arrV _ _ _).slots.size ≤ _); rw [arrV_size]; exact Classical.byContradiction hout) (g := F0 m pc ls (.int x :: .int i :: .ref a :: rest)) rfl (rest := rest) rfl (by rw [hb]; exact hdg) t
  simp only [arrV_size] at h1
  exact h1 st
theorem vx_zaldZ {D : va_G} {cl : List vw_C} {ws : va_W} {tys : List (ClassId × FieldType)} {a : Nat} (hexec : p.tables.exec = Jvm.exec) (hb : c.code = cc) (hK : va_K D cl tys s) (hP : va_P D cl ws H) (q0 t0 : Nat) {cA : ClassId} {n : Nat} {f : Nat → Int32} (ha : ws[q0]? = some (a, .inl (cA, n, .inl f))) (ht : tys[t0]? = some (cA, .boolean)) {i : Int32} (hout : ¬ vp_in i n) (hdg : decode cc pc = .ok (.baload, 1))
    (k : ∀ tx : String, tx = (toString "Index " ++ toString i ++ toString " out of bounds for length " ++ toString n : String) → vx_Note p l e R s m args below meth c H locs cells slots Q (F0 m pc ls rest) "java/lang/ArrayIndexOutOfBoundsException" tx) : W p l e R s m args below meth c H locs cells slots Q (F0 m pc ls (.int i :: .ref a :: rest)) := by
  intro T hT X
  obtain ⟨t, st, q⟩ := k _ rfl T hT X
  refine ⟨t, ?_, q⟩
  have h1 := X.baloadOut hexec (by rw [hT]; exact hP q0 _ ha) ((hK.2 t0 _ ht).1 n (fun j => .int (f j))) (j := i) (by show (i < 0 ∨ (arrV _ _ _).slots.size ≤ _); rw [arrV_size]; exact Classical.byContradiction hout) (g := F0 m pc ls (.int i :: .ref a :: rest)) rfl (rest := rest) rfl (by rw [hb]; exact hdg) t
  simp only [arrV_size] at h1
  exact h1 st
theorem vx_zastZ {D : va_G} {cl : List vw_C} {ws : va_W} {tys : List (ClassId × FieldType)} {a : Nat} (hexec : p.tables.exec = Jvm.exec) (hb : c.code = cc) (hK : va_K D cl tys s) (hP : va_P D cl ws H) (q0 t0 : Nat) {cA : ClassId} {n : Nat} {f : Nat → Int32} (ha : ws[q0]? = some (a, .inl (cA, n, .inl f))) (ht : tys[t0]? = some (cA, .boolean)) {i : Int32} {x : Int32} (hout : ¬ vp_in i n) (hdg : decode cc pc = .ok (.bastore, 1))
    (k : ∀ tx : String, tx = (toString "Index " ++ toString i ++ toString " out of bounds for length " ++ toString n : String) → vx_Note p l e R s m args below meth c H locs cells slots Q (F0 m pc ls rest) "java/lang/ArrayIndexOutOfBoundsException" tx) : W p l e R s m args below meth c H locs cells slots Q (F0 m pc ls (.int x :: .int i :: .ref a :: rest)) := by
  intro T hT X
  obtain ⟨t, st, q⟩ := k _ rfl T hT X
  refine ⟨t, ?_, q⟩
  have h1 := X.bastoreOut hexec (by rw [hT]; exact hP q0 _ ha) ((hK.2 t0 _ ht).1 n (fun j => .int (f j))) (j := i) (by show (i < 0 ∨ (arrV _ _ _).slots.size ≤ _); rw [arrV_size]; exact Classical.byContradiction hout) (g := F0 m pc ls (.int x :: .int i :: .ref a :: rest)) rfl (rest := rest) rfl (by rw [hb]; exact hdg) t
  simp only [arrV_size] at h1
  exact h1 st
theorem vx_caldZ {D : va_G} {cl : List vw_C} {ws : va_W} {tys : List (ClassId × FieldType)} {a : Nat} (hexec : p.tables.exec = Jvm.exec) (hb : c.code = cc) (hK : va_K D cl tys s) (hP : va_P D cl ws H) (q0 t0 : Nat) {cA : ClassId} {n : Nat} {f : Nat → Int32} (ha : ws[q0]? = some (a, .inl (cA, n, .inl f))) (ht : tys[t0]? = some (cA, .char)) {i : Int32} (hout : ¬ vp_in i n) (hdg : decode cc pc = .ok (.caload, 1))
    (k : ∀ tx : String, tx = (toString "Index " ++ toString i ++ toString " out of bounds for length " ++ toString n : String) → vx_Note p l e R s m args below meth c H locs cells slots Q (F0 m pc ls rest) "java/lang/ArrayIndexOutOfBoundsException" tx) : W p l e R s m args below meth c H locs cells slots Q (F0 m pc ls (.int i :: .ref a :: rest)) := by
  intro T hT X
  obtain ⟨t, st, q⟩ := k _ rfl T hT X
  refine ⟨t, ?_, q⟩
  have h1 := X.caloadOut hexec (by rw [hT]; exact hP q0 _ ha) ((hK.2 t0 _ ht).1 n (fun j => .int (f j))) (j := i) (by show (i < 0 ∨ (arrV _ _ _).slots.size ≤ _); rw [arrV_size]; exact Classical.byContradiction hout) (g := F0 m pc ls (.int i :: .ref a :: rest)) rfl (rest := rest) rfl (by rw [hb]; exact hdg) t
  simp only [arrV_size] at h1
  exact h1 st
theorem vx_castZ {D : va_G} {cl : List vw_C} {ws : va_W} {tys : List (ClassId × FieldType)} {a : Nat} (hexec : p.tables.exec = Jvm.exec) (hb : c.code = cc) (hK : va_K D cl tys s) (hP : va_P D cl ws H) (q0 t0 : Nat) {cA : ClassId} {n : Nat} {f : Nat → Int32} (ha : ws[q0]? = some (a, .inl (cA, n, .inl f))) (ht : tys[t0]? = some (cA, .char)) {i : Int32} {x : Int32} (hout : ¬ vp_in i n) (hdg : decode cc pc = .ok (.castore, 1))
    (k : ∀ tx : String, tx = (toString "Index " ++ toString i ++ toString " out of bounds for length " ++ toString n : String) → vx_Note p l e R s m args below meth c H locs cells slots Q (F0 m pc ls rest) "java/lang/ArrayIndexOutOfBoundsException" tx) : W p l e R s m args below meth c H locs cells slots Q (F0 m pc ls (.int x :: .int i :: .ref a :: rest)) := by
  intro T hT X
  obtain ⟨t, st, q⟩ := k _ rfl T hT X
  refine ⟨t, ?_, q⟩
  have h1 := X.castoreOut hexec (by rw [hT]; exact hP q0 _ ha) ((hK.2 t0 _ ht).1 n (fun j => .int (f j))) (j := i) (by show (i < 0 ∨ (arrV _ _ _).slots.size ≤ _); rw [arrV_size]; exact Classical.byContradiction hout) (g := F0 m pc ls (.int x :: .int i :: .ref a :: rest)) rfl (rest := rest) rfl (by rw [hb]; exact hdg) t
  simp only [arrV_size] at h1
  exact h1 st
theorem vx_saldZ {D : va_G} {cl : List vw_C} {ws : va_W} {tys : List (ClassId × FieldType)} {a : Nat} (hexec : p.tables.exec = Jvm.exec) (hb : c.code = cc) (hK : va_K D cl tys s) (hP : va_P D cl ws H) (q0 t0 : Nat) {cA : ClassId} {n : Nat} {f : Nat → Int32} (ha : ws[q0]? = some (a, .inl (cA, n, .inl f))) (ht : tys[t0]? = some (cA, .short)) {i : Int32} (hout : ¬ vp_in i n) (hdg : decode cc pc = .ok (.saload, 1))
    (k : ∀ tx : String, tx = (toString "Index " ++ toString i ++ toString " out of bounds for length " ++ toString n : String) → vx_Note p l e R s m args below meth c H locs cells slots Q (F0 m pc ls rest) "java/lang/ArrayIndexOutOfBoundsException" tx) : W p l e R s m args below meth c H locs cells slots Q (F0 m pc ls (.int i :: .ref a :: rest)) := by
  intro T hT X
  obtain ⟨t, st, q⟩ := k _ rfl T hT X
  refine ⟨t, ?_, q⟩
  have h1 := X.saloadOut hexec (by rw [hT]; exact hP q0 _ ha) ((hK.2 t0 _ ht).1 n (fun j => .int (f j))) (j := i) (by show (i < 0 ∨ (arrV _ _ _).slots.size ≤ _); rw [arrV_size]; exact Classical.byContradiction hout) (g := F0 m pc ls (.int i :: .ref a :: rest)) rfl (rest := rest) rfl (by rw [hb]; exact hdg) t
  simp only [arrV_size] at h1
  exact h1 st
theorem vx_sastZ {D : va_G} {cl : List vw_C} {ws : va_W} {tys : List (ClassId × FieldType)} {a : Nat} (hexec : p.tables.exec = Jvm.exec) (hb : c.code = cc) (hK : va_K D cl tys s) (hP : va_P D cl ws H) (q0 t0 : Nat) {cA : ClassId} {n : Nat} {f : Nat → Int32} (ha : ws[q0]? = some (a, .inl (cA, n, .inl f))) (ht : tys[t0]? = some (cA, .short)) {i : Int32} {x : Int32} (hout : ¬ vp_in i n) (hdg : decode cc pc = .ok (.sastore, 1))
    (k : ∀ tx : String, tx = (toString "Index " ++ toString i ++ toString " out of bounds for length " ++ toString n : String) → vx_Note p l e R s m args below meth c H locs cells slots Q (F0 m pc ls rest) "java/lang/ArrayIndexOutOfBoundsException" tx) : W p l e R s m args below meth c H locs cells slots Q (F0 m pc ls (.int x :: .int i :: .ref a :: rest)) := by
  intro T hT X
  obtain ⟨t, st, q⟩ := k _ rfl T hT X
  refine ⟨t, ?_, q⟩
  have h1 := X.sastoreOut hexec (by rw [hT]; exact hP q0 _ ha) ((hK.2 t0 _ ht).1 n (fun j => .int (f j))) (j := i) (by show (i < 0 ∨ (arrV _ _ _).slots.size ≤ _); rw [arrV_size]; exact Classical.byContradiction hout) (g := F0 m pc ls (.int x :: .int i :: .ref a :: rest)) rfl (rest := rest) rfl (by rw [hb]; exact hdg) t
  simp only [arrV_size] at h1
  exact h1 st
theorem vx_laldZ {D : va_G} {cl : List vw_C} {ws : va_W} {tys : List (ClassId × FieldType)} {a : Nat} (hexec : p.tables.exec = Jvm.exec) (hb : c.code = cc) (hK : va_K D cl tys s) (hP : va_P D cl ws H) (q0 t0 : Nat) {cA : ClassId} {n : Nat} {f : Nat → Int64} (ha : ws[q0]? = some (a, .inl (cA, n, .inr (.inl f)))) (ht : tys[t0]? = some (cA, .long)) {i : Int32} (hout : ¬ vp_in i n) (hdg : decode cc pc = .ok (.laload, 1))
    (k : ∀ tx : String, tx = (toString "Index " ++ toString i ++ toString " out of bounds for length " ++ toString n : String) → vx_Note p l e R s m args below meth c H locs cells slots Q (F0 m pc ls rest) "java/lang/ArrayIndexOutOfBoundsException" tx) : W p l e R s m args below meth c H locs cells slots Q (F0 m pc ls (.int i :: .ref a :: rest)) := by
  intro T hT X
  obtain ⟨t, st, q⟩ := k _ rfl T hT X
  refine ⟨t, ?_, q⟩
  have h1 := X.laloadOut hexec (by rw [hT]; exact hP q0 _ ha) ((hK.2 t0 _ ht).1 n (fun j => .long (f j))) (j := i) (by show (i < 0 ∨ (arrV _ _ _).slots.size ≤ _); rw [arrV_size]; exact Classical.byContradiction hout) (g := F0 m pc ls (.int i :: .ref a :: rest)) rfl (rest := rest) rfl (by rw [hb]; exact hdg) t
  simp only [arrV_size] at h1
  exact h1 st
theorem vx_lastZ {D : va_G} {cl : List vw_C} {ws : va_W} {tys : List (ClassId × FieldType)} {a : Nat} (hexec : p.tables.exec = Jvm.exec) (hb : c.code = cc) (hK : va_K D cl tys s) (hP : va_P D cl ws H) (q0 t0 : Nat) {cA : ClassId} {n : Nat} {f : Nat → Int64} (ha : ws[q0]? = some (a, .inl (cA, n, .inr (.inl f)))) (ht : tys[t0]? = some (cA, .long)) {i : Int32} {x : Int64} (hout : ¬ vp_in i n) (hdg : decode cc pc = .ok (.lastore, 1))
    (k : ∀ tx : String, tx = (toString "Index " ++ toString i ++ toString " out of bounds for length " ++ toString n : String) → vx_Note p l e R s m args below meth c H locs cells slots Q (F0 m pc ls rest) "java/lang/ArrayIndexOutOfBoundsException" tx) : W p l e R s m args below meth c H locs cells slots Q (F0 m pc ls (.long x :: .int i :: .ref a :: rest)) := by
  intro T hT X
  obtain ⟨t, st, q⟩ := k _ rfl T hT X
  refine ⟨t, ?_, q⟩
  have h1 := X.lastoreOut hexec (by rw [hT]; exact hP q0 _ ha) ((hK.2 t0 _ ht).1 n (fun j => .long (f j))) (j := i) (by show (i < 0 ∨ (arrV _ _ _).slots.size ≤ _); rw [arrV_size]; exact Classical.byContradiction hout) (g := F0 m pc ls (.long x :: .int i :: .ref a :: rest)) rfl (rest := rest) rfl (by rw [hb]; exact hdg) t
  simp only [arrV_size] at h1
  exact h1 st
theorem vx_faldZ {D : va_G} {cl : List vw_C} {ws : va_W} {tys : List (ClassId × FieldType)} {a : Nat} (hexec : p.tables.exec = Jvm.exec) (hb : c.code = cc) (hK : va_K D cl tys s) (hP : va_P D cl ws H) (q0 t0 : Nat) {cA : ClassId} {n : Nat} {f : Nat → UInt32} (ha : ws[q0]? = some (a, .inl (cA, n, .inr (.inr (.inl f))))) (ht : tys[t0]? = some (cA, .float)) {i : Int32} (hout : ¬ vp_in i n) (hdg : decode cc pc = .ok (.faload, 1))
    (k : ∀ tx : String, tx = (toString "Index " ++ toString i ++ toString " out of bounds for length " ++ toString n : String) → vx_Note p l e R s m args below meth c H locs cells slots Q (F0 m pc ls rest) "java/lang/ArrayIndexOutOfBoundsException" tx) : W p l e R s m args below meth c H locs cells slots Q (F0 m pc ls (.int i :: .ref a :: rest)) := by
  intro T hT X
  obtain ⟨t, st, q⟩ := k _ rfl T hT X
  refine ⟨t, ?_, q⟩
  have h1 := X.faloadOut hexec (by rw [hT]; exact hP q0 _ ha) ((hK.2 t0 _ ht).1 n (fun j => .float (f j))) (j := i) (by show (i < 0 ∨ (arrV _ _ _).slots.size ≤ _); rw [arrV_size]; exact Classical.byContradiction hout) (g := F0 m pc ls (.int i :: .ref a :: rest)) rfl (rest := rest) rfl (by rw [hb]; exact hdg) t
  simp only [arrV_size] at h1
  exact h1 st
theorem vx_fastZ {D : va_G} {cl : List vw_C} {ws : va_W} {tys : List (ClassId × FieldType)} {a : Nat} (hexec : p.tables.exec = Jvm.exec) (hb : c.code = cc) (hK : va_K D cl tys s) (hP : va_P D cl ws H) (q0 t0 : Nat) {cA : ClassId} {n : Nat} {f : Nat → UInt32} (ha : ws[q0]? = some (a, .inl (cA, n, .inr (.inr (.inl f))))) (ht : tys[t0]? = some (cA, .float)) {i : Int32} {x : UInt32} (hout : ¬ vp_in i n) (hdg : decode cc pc = .ok (.fastore, 1))
    (k : ∀ tx : String, tx = (toString "Index " ++ toString i ++ toString " out of bounds for length " ++ toString n : String) → vx_Note p l e R s m args below meth c H locs cells slots Q (F0 m pc ls rest) "java/lang/ArrayIndexOutOfBoundsException" tx) : W p l e R s m args below meth c H locs cells slots Q (F0 m pc ls (.float x :: .int i :: .ref a :: rest)) := by
  intro T hT X
  obtain ⟨t, st, q⟩ := k _ rfl T hT X
  refine ⟨t, ?_, q⟩
  have h1 := X.fastoreOut hexec (by rw [hT]; exact hP q0 _ ha) ((hK.2 t0 _ ht).1 n (fun j => .float (f j))) (j := i) (by show (i < 0 ∨ (arrV _ _ _).slots.size ≤ _); rw [arrV_size]; exact Classical.byContradiction hout) (g := F0 m pc ls (.float x :: .int i :: .ref a :: rest)) rfl (rest := rest) rfl (by rw [hb]; exact hdg) t
  simp only [arrV_size] at h1
  exact h1 st
theorem vx_daldZ {D : va_G} {cl : List vw_C} {ws : va_W} {tys : List (ClassId × FieldType)} {a : Nat} (hexec : p.tables.exec = Jvm.exec) (hb : c.code = cc) (hK : va_K D cl tys s) (hP : va_P D cl ws H) (q0 t0 : Nat) {cA : ClassId} {n : Nat} {f : Nat → UInt64} (ha : ws[q0]? = some (a, .inl (cA, n, .inr (.inr (.inr (.inl f)))))) (ht : tys[t0]? = some (cA, .double)) {i : Int32} (hout : ¬ vp_in i n) (hdg : decode cc pc = .ok (.daload, 1))
    (k : ∀ tx : String, tx = (toString "Index " ++ toString i ++ toString " out of bounds for length " ++ toString n : String) → vx_Note p l e R s m args below meth c H locs cells slots Q (F0 m pc ls rest) "java/lang/ArrayIndexOutOfBoundsException" tx) : W p l e R s m args below meth c H locs cells slots Q (F0 m pc ls (.int i :: .ref a :: rest)) := by
  intro T hT X
  obtain ⟨t, st, q⟩ := k _ rfl T hT X
  refine ⟨t, ?_, q⟩
  have h1 := X.daloadOut hexec (by rw [hT]; exact hP q0 _ ha) ((hK.2 t0 _ ht).1 n (fun j => .double (f j))) (j := i) (by show (i < 0 ∨ (arrV _ _ _).slots.size ≤ _); rw [arrV_size]; exact Classical.byContradiction hout) (g := F0 m pc ls (.int i :: .ref a :: rest)) rfl (rest := rest) rfl (by rw [hb]; exact hdg) t
  simp only [arrV_size] at h1
  exact h1 st
theorem vx_dastZ {D : va_G} {cl : List vw_C} {ws : va_W} {tys : List (ClassId × FieldType)} {a : Nat} (hexec : p.tables.exec = Jvm.exec) (hb : c.code = cc) (hK : va_K D cl tys s) (hP : va_P D cl ws H) (q0 t0 : Nat) {cA : ClassId} {n : Nat} {f : Nat → UInt64} (ha : ws[q0]? = some (a, .inl (cA, n, .inr (.inr (.inr (.inl f)))))) (ht : tys[t0]? = some (cA, .double)) {i : Int32} {x : UInt64} (hout : ¬ vp_in i n) (hdg : decode cc pc = .ok (.dastore, 1))
    (k : ∀ tx : String, tx = (toString "Index " ++ toString i ++ toString " out of bounds for length " ++ toString n : String) → vx_Note p l e R s m args below meth c H locs cells slots Q (F0 m pc ls rest) "java/lang/ArrayIndexOutOfBoundsException" tx) : W p l e R s m args below meth c H locs cells slots Q (F0 m pc ls (.double x :: .int i :: .ref a :: rest)) := by
  intro T hT X
  obtain ⟨t, st, q⟩ := k _ rfl T hT X
  refine ⟨t, ?_, q⟩
  have h1 := X.dastoreOut hexec (by rw [hT]; exact hP q0 _ ha) ((hK.2 t0 _ ht).1 n (fun j => .double (f j))) (j := i) (by show (i < 0 ∨ (arrV _ _ _).slots.size ≤ _); rw [arrV_size]; exact Classical.byContradiction hout) (g := F0 m pc ls (.double x :: .int i :: .ref a :: rest)) rfl (rest := rest) rfl (by rw [hb]; exact hdg) t
  simp only [arrV_size] at h1
  exact h1 st
theorem vx_arraylengthN (hexec : p.tables.exec = Jvm.exec) (hb : c.code = cc) (hdg : decode cc pc = .ok (.arraylength, 1)) (k : vx_NoteN p l e R s m args below meth c H locs cells slots Q (F0 m pc ls rest)) : W p l e R s m args below meth c H locs cells slots Q (F0 m pc ls (.null :: rest)) := by
  intro T hT X
  obtain ⟨t, st, q⟩ := k T hT X
  exact ⟨t, X.arraylengthNull hexec (g := F0 m pc ls (.null :: rest)) rfl (rest := rest) rfl (by rw [hb]; exact hdg) t st, q⟩
theorem vx_ialoadN (hexec : p.tables.exec = Jvm.exec) (hb : c.code = cc) {i : Int32} (hdg : decode cc pc = .ok (.iaload, 1)) (k : vx_NoteN p l e R s m args below meth c H locs cells slots Q (F0 m pc ls rest)) : W p l e R s m args below meth c H locs cells slots Q (F0 m pc ls (.int i :: .null :: rest)) := by
  intro T hT X
  obtain ⟨t, st, q⟩ := k T hT X
  exact ⟨t, X.ialoadNull hexec (g := F0 m pc ls (.int i :: .null :: rest)) rfl (rest := rest) rfl (by rw [hb]; exact hdg) t st, q⟩
theorem vx_laloadN (hexec : p.tables.exec = Jvm.exec) (hb : c.code = cc) {i : Int32} (hdg : decode cc pc = .ok (.laload, 1)) (k : vx_NoteN p l e R s m args below meth c H locs cells slots Q (F0 m pc ls rest)) : W p l e R s m args below meth c H locs cells slots Q (F0 m pc ls (.int i :: .null :: rest)) := by
  intro T hT X
  obtain ⟨t, st, q⟩ := k T hT X
  exact ⟨t, X.laloadNull hexec (g := F0 m pc ls (.int i :: .null :: rest)) rfl (rest := rest) rfl (by rw [hb]; exact hdg) t st, q⟩
theorem vx_faloadN (hexec : p.tables.exec = Jvm.exec) (hb : c.code = cc) {i : Int32} (hdg : decode cc pc = .ok (.faload, 1)) (k : vx_NoteN p l e R s m args below meth c H locs cells slots Q (F0 m pc ls rest)) : W p l e R s m args below meth c H locs cells slots Q (F0 m pc ls (.int i :: .null :: rest)) := by
  intro T hT X
  obtain ⟨t, st, q⟩ := k T hT X
  exact ⟨t, X.faloadNull hexec (g := F0 m pc ls (.int i :: .null :: rest)) rfl (rest := rest) rfl (by rw [hb]; exact hdg) t st, q⟩
theorem vx_daloadN (hexec : p.tables.exec = Jvm.exec) (hb : c.code = cc) {i : Int32} (hdg : decode cc pc = .ok (.daload, 1)) (k : vx_NoteN p l e R s m args below meth c H locs cells slots Q (F0 m pc ls rest)) : W p l e R s m args below meth c H locs cells slots Q (F0 m pc ls (.int i :: .null :: rest)) := by
  intro T hT X
  obtain ⟨t, st, q⟩ := k T hT X
  exact ⟨t, X.daloadNull hexec (g := F0 m pc ls (.int i :: .null :: rest)) rfl (rest := rest) rfl (by rw [hb]; exact hdg) t st, q⟩
theorem vx_aaloadN (hexec : p.tables.exec = Jvm.exec) (hb : c.code = cc) {i : Int32} (hdg : decode cc pc = .ok (.aaload, 1)) (k : vx_NoteN p l e R s m args below meth c H locs cells slots Q (F0 m pc ls rest)) : W p l e R s m args below meth c H locs cells slots Q (F0 m pc ls (.int i :: .null :: rest)) := by
  intro T hT X
  obtain ⟨t, st, q⟩ := k T hT X
  exact ⟨t, X.aaloadNull hexec (g := F0 m pc ls (.int i :: .null :: rest)) rfl (rest := rest) rfl (by rw [hb]; exact hdg) t st, q⟩
theorem vx_baloadN (hexec : p.tables.exec = Jvm.exec) (hb : c.code = cc) {i : Int32} (hdg : decode cc pc = .ok (.baload, 1)) (k : vx_NoteN p l e R s m args below meth c H locs cells slots Q (F0 m pc ls rest)) : W p l e R s m args below meth c H locs cells slots Q (F0 m pc ls (.int i :: .null :: rest)) := by
  intro T hT X
  obtain ⟨t, st, q⟩ := k T hT X
  exact ⟨t, X.baloadNull hexec (g := F0 m pc ls (.int i :: .null :: rest)) rfl (rest := rest) rfl (by rw [hb]; exact hdg) t st, q⟩
theorem vx_caloadN (hexec : p.tables.exec = Jvm.exec) (hb : c.code = cc) {i : Int32} (hdg : decode cc pc = .ok (.caload, 1)) (k : vx_NoteN p l e R s m args below meth c H locs cells slots Q (F0 m pc ls rest)) : W p l e R s m args below meth c H locs cells slots Q (F0 m pc ls (.int i :: .null :: rest)) := by
  intro T hT X
  obtain ⟨t, st, q⟩ := k T hT X
  exact ⟨t, X.caloadNull hexec (g := F0 m pc ls (.int i :: .null :: rest)) rfl (rest := rest) rfl (by rw [hb]; exact hdg) t st, q⟩
theorem vx_saloadN (hexec : p.tables.exec = Jvm.exec) (hb : c.code = cc) {i : Int32} (hdg : decode cc pc = .ok (.saload, 1)) (k : vx_NoteN p l e R s m args below meth c H locs cells slots Q (F0 m pc ls rest)) : W p l e R s m args below meth c H locs cells slots Q (F0 m pc ls (.int i :: .null :: rest)) := by
  intro T hT X
  obtain ⟨t, st, q⟩ := k T hT X
  exact ⟨t, X.saloadNull hexec (g := F0 m pc ls (.int i :: .null :: rest)) rfl (rest := rest) rfl (by rw [hb]; exact hdg) t st, q⟩
theorem vx_iastoreN (hexec : p.tables.exec = Jvm.exec) (hb : c.code = cc) {x : Int32} {i : Int32} (hdg : decode cc pc = .ok (.iastore, 1)) (k : vx_NoteN p l e R s m args below meth c H locs cells slots Q (F0 m pc ls rest)) : W p l e R s m args below meth c H locs cells slots Q (F0 m pc ls (.int x :: .int i :: .null :: rest)) := by
  intro T hT X
  obtain ⟨t, st, q⟩ := k T hT X
  exact ⟨t, X.iastoreNull hexec (g := F0 m pc ls (.int x :: .int i :: .null :: rest)) rfl (rest := rest) rfl (by rw [hb]; exact hdg) t st, q⟩
theorem vx_lastoreN (hexec : p.tables.exec = Jvm.exec) (hb : c.code = cc) {x : Int64} {i : Int32} (hdg : decode cc pc = .ok (.lastore, 1)) (k : vx_NoteN p l e R s m args below meth c H locs cells slots Q (F0 m pc ls rest)) : W p l e R s m args below meth c H locs cells slots Q (F0 m pc ls (.long x :: .int i :: .null :: rest)) := by
  intro T hT X
  obtain ⟨t, st, q⟩ := k T hT X
  exact ⟨t, X.lastoreNull hexec (g := F0 m pc ls (.long x :: .int i :: .null :: rest)) rfl (rest := rest) rfl (by rw [hb]; exact hdg) t st, q⟩
theorem vx_fastoreN (hexec : p.tables.exec = Jvm.exec) (hb : c.code = cc) {x : UInt32} {i : Int32} (hdg : decode cc pc = .ok (.fastore, 1)) (k : vx_NoteN p l e R s m args below meth c H locs cells slots Q (F0 m pc ls rest)) : W p l e R s m args below meth c H locs cells slots Q (F0 m pc ls (.float x :: .int i :: .null :: rest)) := by
  intro T hT X
  obtain ⟨t, st, q⟩ := k T hT X
  exact ⟨t, X.fastoreNull hexec (g := F0 m pc ls (.float x :: .int i :: .null :: rest)) rfl (rest := rest) rfl (by rw [hb]; exact hdg) t st, q⟩
theorem vx_dastoreN (hexec : p.tables.exec = Jvm.exec) (hb : c.code = cc) {x : UInt64} {i : Int32} (hdg : decode cc pc = .ok (.dastore, 1)) (k : vx_NoteN p l e R s m args below meth c H locs cells slots Q (F0 m pc ls rest)) : W p l e R s m args below meth c H locs cells slots Q (F0 m pc ls (.double x :: .int i :: .null :: rest)) := by
  intro T hT X
  obtain ⟨t, st, q⟩ := k T hT X
  exact ⟨t, X.dastoreNull hexec (g := F0 m pc ls (.double x :: .int i :: .null :: rest)) rfl (rest := rest) rfl (by rw [hb]; exact hdg) t st, q⟩
theorem vx_bastoreN (hexec : p.tables.exec = Jvm.exec) (hb : c.code = cc) {x : Int32} {i : Int32} (hdg : decode cc pc = .ok (.bastore, 1)) (k : vx_NoteN p l e R s m args below meth c H locs cells slots Q (F0 m pc ls rest)) : W p l e R s m args below meth c H locs cells slots Q (F0 m pc ls (.int x :: .int i :: .null :: rest)) := by
  intro T hT X
  obtain ⟨t, st, q⟩ := k T hT X
  exact ⟨t, X.bastoreNull hexec (g := F0 m pc ls (.int x :: .int i :: .null :: rest)) rfl (rest := rest) rfl (by rw [hb]; exact hdg) t st, q⟩
theorem vx_castoreN (hexec : p.tables.exec = Jvm.exec) (hb : c.code = cc) {x : Int32} {i : Int32} (hdg : decode cc pc = .ok (.castore, 1)) (k : vx_NoteN p l e R s m args below meth c H locs cells slots Q (F0 m pc ls rest)) : W p l e R s m args below meth c H locs cells slots Q (F0 m pc ls (.int x :: .int i :: .null :: rest)) := by
  intro T hT X
  obtain ⟨t, st, q⟩ := k T hT X
  exact ⟨t, X.castoreNull hexec (g := F0 m pc ls (.int x :: .int i :: .null :: rest)) rfl (rest := rest) rfl (by rw [hb]; exact hdg) t st, q⟩
theorem vx_sastoreN (hexec : p.tables.exec = Jvm.exec) (hb : c.code = cc) {x : Int32} {i : Int32} (hdg : decode cc pc = .ok (.sastore, 1)) (k : vx_NoteN p l e R s m args below meth c H locs cells slots Q (F0 m pc ls rest)) : W p l e R s m args below meth c H locs cells slots Q (F0 m pc ls (.int x :: .int i :: .null :: rest)) := by
  intro T hT X
  obtain ⟨t, st, q⟩ := k T hT X
  exact ⟨t, X.sastoreNull hexec (g := F0 m pc ls (.int x :: .int i :: .null :: rest)) rfl (rest := rest) rfl (by rw [hb]; exact hdg) t st, q⟩
theorem vx_invokeN {own C : String} {index maxL : Nat} {y : MethodName} {bytes : ByteArray} {ret : Option FieldType} (hexec : p.tables.exec = Jvm.exec) (hb : c.code = cc) (hown : s.vm.findClass own = some m.cls) (hlink : (Cond.methodLink own index y).before args s = true) (hinst : (Cond.instanceMethod y).before args s = true) (hcode : (Cond.code y bytes maxL ret).before args s = true) (hsel : (Cond.selects C y y).before args s = true)
    (hx : y.cls ≠ "java/lang/invoke/MethodHandle" ∧ y.cls ≠ "java/lang/invoke/VarHandle") {As : List Value} (hlen : (parseMethodDescriptor y.desc).map (fun d => d.parameters.length) = some As.length) (hdg : decode cc pc = .ok (.invokevirtual index, 3))
    (k : vx_NoteN p l e R s m args below meth c H locs cells slots Q (F0 m pc ls rest)) {st0 : List Value} (hst : st0 = As.reverse ++ .null :: rest) : W p l e R s m args below meth c H locs cells slots Q (F0 m pc ls st0) := by
  intro T hT X
  obtain ⟨r0, r, hn, hrm, hstR, hsigR⟩ := va_Decl.of hinst hcode
  obtain ⟨c2, r2, m2, q1, q2, q3, q4, kP, hkP, hkPi⟩ := Cond.selects_spec hsel
  cases hn.symm.trans q3
  have hl9 : As.length = r.sig.parameters.length := by
    rw [hsigR] at hlen
    exact (Option.some.inj hlen).symm
  obtain ⟨vm', X1, st1⟩ := X.invokevirtualNull hexec hown hlink hn hrm hstR hkP hkPi hx (g := F0 m pc ls st0) rfl (argsL := As) (rest := rest) hl9 hst (by rw [hb]; exact hdg)
  obtain ⟨t, st, q⟩ := k (T.setVm vm') hT X1
  exact ⟨t, st1 t st, q⟩
theorem vx_newarrayZ {atype : ArrayType} (hexec : p.tables.exec = Jvm.exec) (hb : c.code = cc) {n : Int32} (h0 : n < 0) (hdg : decode cc pc = .ok (.newarray atype, 2)) (k : ∀ tx : String, tx = toString n → vx_Note p l e R s m args below meth c H locs cells slots Q (F0 m pc ls rest) "java/lang/NegativeArraySizeException" tx) : W p l e R s m args below meth c H locs cells slots Q (F0 m pc ls (.int n :: rest)) := by
  intro T hT X
  obtain ⟨t, st, q⟩ := k _ rfl T hT X
  exact ⟨t, X.newarrayNegative hexec (g := F0 m pc ls (.int n :: rest)) rfl h0 (rest := rest) rfl (by rw [hb]; exact hdg) t st, q⟩
end
end VXM
/-! ===== END ===== -/
/-! ===== BEGIN an exception as an object: made, kept, thrown later (no traces kept) ===== -/
section VXK
variable {p : Program} {l : Launch} {e : Env} {R : Room} {s : State} {m₀ : MethodId} {args : Array Value} {below : List Frame} {meth : Method} {c : Code} {W : State} {locs : List Loc} {cells slots : Nat}
set_option maxHeartbeats 1000000 in
theorem vx_ctorMadeS (X : Stand p l e R s m₀ args below meth c W locs cells slots) (hexec : p.tables.exec = Jvm.exec) (htr : e.platform.stackTraces = false) {own cls : String} {names : List String} {ic : Nat}
    (hown : s.vm.findClass own = some m₀.cls) (hcls : Bundle.fit cls = true) (hnames : ∀ n ∈ names, Bundle.fit n = true)
    (h : ∀ a ∈ Bundle.ownAtoms own ic cls names, a.before args s = true)
    (hlocs : ∀ x ∈ locs, ∀ cell, s.heap[x.base]? = some cell → cell.vm.isStatics = false)
    {a : Addr} {cX : ClassId} {kX : Class} (hfoundX : s.vm.findClass cls = some cX) (hkX : s.vm.classes[cX]? = some kX) (hcell : W.heap[a]? = some (freshCell cX kX)) (hnew : s.heap.size ≤ a)
    {msg : Value} (hmsg : msg.isRef = true)
    {g : JFrame} (hg : g.method = m₀) (hsize : g.locals.size = c.maxLocals) {rest : List Value} (hstack : g.stack = msg :: .ref a :: .ref a :: rest)
    (hd6 : decode c.code g.pc = .ok (.invokespecial ic, 3))
    (hRframes : names.length + 3 < R.frames) (hRlocals : 2 * g.monitorRoom + ((Value.ref a :: rest).map fun v => v.category).sum + (13 * (names.length + 1) + 42) ≤ R.locals) :
    ∃ (V : State) (ce : Cell) (L : List Loc), Stand p l e R s m₀ args below meth c (V.setCell a ce) (locs ++ L) cells slots ∧ (∀ y ∈ L, y.base = a) ∧ a < V.heap.size ∧ ce.cls = cX ∧ ce.vm = .none ∧
      ∀ target, Steps p.tables e below ((V.setCell a ce).setTop { g with stack := .ref a :: rest, pc := g.pc + 3 }) target → Steps p.tables e below (W.setTop g) target := by
  have howns : e.platform.frameOwnsMonitors = true := by rw [X.admits.platform]
  have hfin : e.platform.finalization = false := by rw [X.admits.platform]
  have hpl : e.platform.magicAccessors = ({} : Platform).magicAccessors := by rw [X.admits.platform]
  have a' : ∀ x, x ∈ Bundle.ownAtoms own ic cls names → x.holds args s none s [] = true := fun x hx => h x hx
  obtain ⟨T, Z0, L, -, Y⟩ := ThrowableC.of_atoms (args := args) howns hfin hpl (fun x hx => h x (by simp [Bundle.ownAtoms, hx]))
  obtain ⟨Z, M, LZ, LM, hnZ⟩ := Init0T.ofS_atoms (args := args) hpl L Y (fun x hx => h x (by simp [Bundle.ownAtoms, hx]))
  obtain ⟨P1, Ps, hlen, L1, hL, hP1m, hlink1, hlink⟩ := Bundle.chainS (args := args) hpl hnZ names cls hcls hnames (fun x hx => h x (by simp [Bundle.ownAtoms, hx]))
  have hfound : s.vm.findClass cls = some P1.m.cls := findClass_of_methodNamed hP1m
  cases Option.some.inj (hfoundX.symm.trans hfound)
  obtain ⟨c1, kX', hc1, hk, hord, -, -, hn6⟩ := Cond.instantiable_spec (a' (.instantiable cls 6) (by simp [Bundle.ownAtoms]))
  cases Option.some.inj (hc1.symm.trans hfound)
  cases Option.some.inj (hkX.symm.trans hk)
  have hsel0 : selectMethod e.platform s.vm P1.m.cls T.fill0 = .method T.fill0 := by
    obtain ⟨c2, r2, m2, q1, q2, q3, q4, -⟩ := Cond.selects_spec (a' (.selects cls Bundle.tFill0 Bundle.tFill0) (by simp [Bundle.ownAtoms]))
    cases Option.some.inj (q1.symm.trans hfound)
    cases Option.some.inj (q2.symm.trans (State.methodFound?_of_named Y.fill0 (by decide)))
    cases Option.some.inj (q3.symm.trans Y.fill0)
    rw [Launch.admits_selectMethod X.admits]; exact q4
  have hselF : selectMethod e.platform s.vm P1.m.cls T.fill = .method T.fill := by
    obtain ⟨c2, r2, m2, q1, q2, q3, q4, -⟩ := Cond.selects_spec (a' (.selects cls Bundle.tFill Bundle.tFill) (by simp [Bundle.ownAtoms]))
    cases Option.some.inj (q1.symm.trans hfound)
    cases Option.some.inj (q2.symm.trans (State.methodFound?_of_named Y.fill (by decide)))
    cases Option.some.inj (q3.symm.trans Y.fill)
    rw [Launch.admits_selectMethod X.admits]; exact q4
  obtain ⟨cellS0, hcS0, hiss⟩ := Y.statics
  obtain ⟨u0, hu0⟩ := Cond.staticRefV Y.unassigned L.unassignedStatic L.statics hcS0 hiss (a' (.isRef (.static Bundle.tN "UNASSIGNED_STACK" Bundle.steD)) (by simp [Bundle.ownAtoms]))
  obtain ⟨sen, hsen⟩ := Cond.staticRefV Y.sentinel L.sentinelStatic L.statics hcS0 hiss (a' (.isRef (.static Bundle.tN "SUPPRESSED_SENTINEL" Bundle.listD)) (by simp [Bundle.ownAtoms]))
  obtain ⟨ci198, i198, fB, hk198, hg198, ha198, hsB, -, hnB, htB, hffB⟩ := Cond.ownField (t := .object "java/lang/Object") Y.found L.cls (by decide +kernel) (a' (.fieldLink Bundle.tN 198 Bundle.tN "backtrace" "Ljava/lang/Object;") (by simp [Bundle.ownAtoms])) (a' (.lays Bundle.tN Bundle.tN "backtrace" "Ljava/lang/Object;") (by simp [Bundle.ownAtoms])) e.platform hpl
  obtain ⟨cellS, hcS', heS, -, hkeep⟩ := X.same.2.2.2.2.2 T.aS cellS0 hcS0
  have hcellS : W.heap[T.aS]? = some cellS := hcS'
  have hout' : ∀ i, (⟨T.aS, i⟩ : Loc) ∉ locs := fun i hmem => by
    have := hlocs _ hmem cellS0 hcS0
    rw [hiss] at this; cases this
  have hknownS : cellS.vm ≠ .unknown := by
    rw [heS]; intro hu
    rw [show cellS0.vm = .unknown from hu] at hiss
    cases hiss
  have hneS : T.aS ≠ a := Nat.ne_of_lt (Nat.lt_of_lt_of_le (Array.getElem?_eq_some_iff.mp hcS0).1 hnew)
  obtain ⟨iM, hffM⟩ := Y.msg
  obtain ⟨tyC, dC, hdC, hdnC⟩ := Cond.laysAt hfound hk Y.cause (a' (.lays cls Bundle.tN "cause" "Ljava/lang/Throwable;") (by simp [Bundle.ownAtoms]))
  obtain ⟨tyS, dS, hdS, hdnS⟩ := Cond.laysAt hfound hk Y.stack (a' (.lays cls Bundle.tN "stackTrace" Bundle.steD) (by simp [Bundle.ownAtoms]))
  obtain ⟨tyP, dP, hdP, hdnP⟩ := Cond.laysAt hfound hk Y.supp (a' (.lays cls Bundle.tN "suppressedExceptions" Bundle.listD) (by simp [Bundle.ownAtoms]))
  obtain ⟨tyM, dM, hdM, hdnM⟩ := Cond.laysAt hfound hk hffM (a' (.lays cls Bundle.tN "detailMessage" "Ljava/lang/String;") (by simp [Bundle.ownAtoms]))
  obtain ⟨tyB, dB, hdB, hdnB⟩ := Cond.laysAt hfound hk hffB (a' (.lays cls Bundle.tN "backtrace" "Ljava/lang/Object;") (by simp [Bundle.ownAtoms]))
  have bC := Cond.laysApart hdB hdC hdnB hdnC (by rw [hnB, Y.causeName]; decide)
  have bS := Cond.laysApart hdB hdS hdnB hdnS (by rw [hnB, Y.stackName]; decide)
  have bP := Cond.laysApart hdB hdP hdnB hdnP (by rw [hnB, Y.suppName]; decide)
  have hskip : SkipFacts T e.platform s (fun u => u) u0 ((preparedCellV T.toThrowableT (freshCell P1.m.cls kX) a u0 sen).withEntry W.cur) :=
    ⟨{ ci198 := ci198, i198 := i198, fBack := fB }, ⟨hk198, hg198, ha198, hsB⟩, by
      have := fresh_default (c := P1.m.cls) tyB
      rw [htB] at this
      simpa [preparedCellV, Cell.setSlot, Cell.withEntry, Array.getElem?_setIfInBounds, bC, bS, bP, bC.symm, bS.symm, bP.symm, defaultValue] using this, fun _ _ => rfl⟩
  obtain ⟨tm, methC, cdC, kC, vm₁, hnC, -, -, -, -, -, -, -, hW₁, st1⟩ := Steps.initColdS (tb := p.tables) (e := e) (below := below) (s := s) (U := W) X.here hexec X.warmed hpl hown (t := Bundle.initS cls) rfl rfl (Bundle.fit_spec hcls).2
    (a' (.methodLink own ic (Bundle.initS cls)) (by simp [Bundle.ownAtoms])) (h (.instanceMethod (Bundle.initS cls)) (by cases names <;> simp [Bundle.ownAtoms, Bundle.chainSAtoms, Bundle.passSAtoms])) (bytes := Bundle.six) (maxL := 2) (h (.code (Bundle.initS cls) Bundle.six 2 none) (by cases names <;> simp [Bundle.ownAtoms, Bundle.chainSAtoms, Bundle.passSAtoms]))
    (f := g) hg (a := a) (msg := msg) (rest := .ref a :: rest) hstack hd6
  cases Option.some.inj (hnC.symm.trans hP1m)
  have X₁ := X.noted hW₁
  obtain ⟨vm₂, X₂, st2⟩ := X₁.ctorMessageOffV hexec (g := { g with stack := .ref a :: rest }) hg hsize T L Z LZ M LM (P1 :: Ps)
    (fun P hP => by rcases List.mem_cons.mp hP with rfl | hP; exact L1; exact hL P hP) ⟨hlink1, hlink⟩ (u0 := u0) (sen := sen) (self := a) hmsg (cell := freshCell P1.m.cls kX) (cellS := cellS)
    hcell (fun _ => by simp) (by simp) rfl rfl hsel0 hselF hcellS hneS hknownS (by rw [hkeep _ (hout' _)]; exact hu0) (by rw [hkeep _ (hout' _)]; exact hsen)
    (Takes.of_laid hk hord tyC (by rw [Y.causeType]; rfl)) (Takes.of_laid hk hord tyS (by rw [Y.stackType]; exact fits_refV_array _ u0)) (Takes.of_laid hk hord tyP (by rw [Y.suppType]; exact fits_refV_object _ sen))
    (Takes.of_laid hk hord tyM (by rw [Y.msgType]; exact fits_refV_object _ ⟨msg, hmsg⟩)) Y.objLocals hskip htr [] hd6
    (by simp only [List.length_cons, hlen]; omega) (by simp only [List.length_cons, hlen]; exact hRlocals)
  have hlt : a < ((W.setVm vm₁).setVm vm₂).heap.size := (Array.getElem?_eq_some_iff.mp hcell).1
  refine ⟨(W.setVm vm₁).setVm vm₂, _, _, X₂, fun y hy => ?_, hlt, rfl, rfl, fun target hwalk => st1 _ (fun acts => ?_)⟩
  · simp only [List.mem_cons, List.not_mem_nil, or_false] at hy
    rcases hy with rfl | rfl | rfl | rfl | rfl <;> rfl
  · rw [doInvoke_state]
    exact st2 _ hwalk
set_option maxHeartbeats 1000000 in
theorem vx_ctorMade0 (X : Stand p l e R s m₀ args below meth c W locs cells slots) (hexec : p.tables.exec = Jvm.exec) (htr : e.platform.stackTraces = false) {own cls : String} {names : List String} {ic : Nat}
    (hown : s.vm.findClass own = some m₀.cls) (hcls : Bundle.fit cls = true) (hnames : ∀ n ∈ names, Bundle.fit n = true)
    (h : ∀ a ∈ Bundle.ownAtoms0 own ic cls names, a.before args s = true)
    (hlocs : ∀ x ∈ locs, ∀ cell, s.heap[x.base]? = some cell → cell.vm.isStatics = false)
    {a : Addr} {cX : ClassId} {kX : Class} (hfoundX : s.vm.findClass cls = some cX) (hkX : s.vm.classes[cX]? = some kX) (hcell : W.heap[a]? = some (freshCell cX kX)) (hnew : s.heap.size ≤ a)
    {g : JFrame} (hg : g.method = m₀) (hsize : g.locals.size = c.maxLocals) {rest : List Value} (hstack : g.stack = .ref a :: .ref a :: rest)
    (hd6 : decode c.code g.pc = .ok (.invokespecial ic, 3))
    (hRframes : names.length + 3 < R.frames) (hRlocals : 2 * g.monitorRoom + ((Value.ref a :: rest).map fun v => v.category).sum + (13 * (names.length + 1) + 41) ≤ R.locals) :
    ∃ (V : State) (ce : Cell) (L : List Loc), Stand p l e R s m₀ args below meth c (V.setCell a ce) (locs ++ L) cells slots ∧ (∀ y ∈ L, y.base = a) ∧ a < V.heap.size ∧ ce.cls = cX ∧ ce.vm = .none ∧
      ∀ target, Steps p.tables e below ((V.setCell a ce).setTop { g with stack := .ref a :: rest, pc := g.pc + 3 }) target → Steps p.tables e below (W.setTop g) target := by
  have howns : e.platform.frameOwnsMonitors = true := by rw [X.admits.platform]
  have hfin : e.platform.finalization = false := by rw [X.admits.platform]
  have hpl : e.platform.magicAccessors = ({} : Platform).magicAccessors := by rw [X.admits.platform]
  have a' : ∀ x, x ∈ Bundle.ownAtoms0 own ic cls names → x.holds args s none s [] = true := fun x hx => h x hx
  obtain ⟨T, Z, L, LZ, Y⟩ := ThrowableC.of_atoms (args := args) howns hfin hpl (fun x hx => h x (by simp [Bundle.ownAtoms0, hx]))
  obtain ⟨P1, Ps, hlen, L1, hL, hP1m, hlink1, hlink⟩ := Bundle.chain0 (args := args) hpl Y.init0 names cls hcls hnames (fun x hx => h x (by simp [Bundle.ownAtoms0, hx]))
  have hfound : s.vm.findClass cls = some P1.m.cls := findClass_of_methodNamed hP1m
  cases Option.some.inj (hfoundX.symm.trans hfound)
  obtain ⟨c1, kX', hc1, hk, hord, -, -, hn6⟩ := Cond.instantiable_spec (a' (.instantiable cls 6) (by simp [Bundle.ownAtoms0]))
  cases Option.some.inj (hc1.symm.trans hfound)
  cases Option.some.inj (hkX.symm.trans hk)
  have hsel0 : selectMethod e.platform s.vm P1.m.cls T.fill0 = .method T.fill0 := by
    obtain ⟨c2, r2, m2, q1, q2, q3, q4, -⟩ := Cond.selects_spec (a' (.selects cls Bundle.tFill0 Bundle.tFill0) (by simp [Bundle.ownAtoms0]))
    cases Option.some.inj (q1.symm.trans hfound)
    cases Option.some.inj (q2.symm.trans (State.methodFound?_of_named Y.fill0 (by decide)))
    cases Option.some.inj (q3.symm.trans Y.fill0)
    rw [Launch.admits_selectMethod X.admits]; exact q4
  have hselF : selectMethod e.platform s.vm P1.m.cls T.fill = .method T.fill := by
    obtain ⟨c2, r2, m2, q1, q2, q3, q4, -⟩ := Cond.selects_spec (a' (.selects cls Bundle.tFill Bundle.tFill) (by simp [Bundle.ownAtoms0]))
    cases Option.some.inj (q1.symm.trans hfound)
    cases Option.some.inj (q2.symm.trans (State.methodFound?_of_named Y.fill (by decide)))
    cases Option.some.inj (q3.symm.trans Y.fill)
    rw [Launch.admits_selectMethod X.admits]; exact q4
  obtain ⟨cellS0, hcS0, hiss⟩ := Y.statics
  obtain ⟨u0, hu0⟩ := Cond.staticRefV Y.unassigned L.unassignedStatic L.statics hcS0 hiss (a' (.isRef (.static Bundle.tN "UNASSIGNED_STACK" Bundle.steD)) (by simp [Bundle.ownAtoms0]))
  obtain ⟨sen, hsen⟩ := Cond.staticRefV Y.sentinel L.sentinelStatic L.statics hcS0 hiss (a' (.isRef (.static Bundle.tN "SUPPRESSED_SENTINEL" Bundle.listD)) (by simp [Bundle.ownAtoms0]))
  obtain ⟨ci198, i198, fB, hk198, hg198, ha198, hsB, -, hnB, htB, hffB⟩ := Cond.ownField (t := .object "java/lang/Object") Y.found L.cls (by decide +kernel) (a' (.fieldLink Bundle.tN 198 Bundle.tN "backtrace" "Ljava/lang/Object;") (by simp [Bundle.ownAtoms0])) (a' (.lays Bundle.tN Bundle.tN "backtrace" "Ljava/lang/Object;") (by simp [Bundle.ownAtoms0])) e.platform hpl
  obtain ⟨cellS, hcS', heS, -, hkeep⟩ := X.same.2.2.2.2.2 T.aS cellS0 hcS0
  have hcellS : W.heap[T.aS]? = some cellS := hcS'
  have hout' : ∀ i, (⟨T.aS, i⟩ : Loc) ∉ locs := fun i hmem => by
    have := hlocs _ hmem cellS0 hcS0
    rw [hiss] at this; cases this
  have hknownS : cellS.vm ≠ .unknown := by
    rw [heS]; intro hu
    rw [show cellS0.vm = .unknown from hu] at hiss
    cases hiss
  have hneS : T.aS ≠ a := Nat.ne_of_lt (Nat.lt_of_lt_of_le (Array.getElem?_eq_some_iff.mp hcS0).1 hnew)
  obtain ⟨iM, hffM⟩ := Y.msg
  obtain ⟨tyC, dC, hdC, hdnC⟩ := Cond.laysAt hfound hk Y.cause (a' (.lays cls Bundle.tN "cause" "Ljava/lang/Throwable;") (by simp [Bundle.ownAtoms0]))
  obtain ⟨tyS, dS, hdS, hdnS⟩ := Cond.laysAt hfound hk Y.stack (a' (.lays cls Bundle.tN "stackTrace" Bundle.steD) (by simp [Bundle.ownAtoms0]))
  obtain ⟨tyP, dP, hdP, hdnP⟩ := Cond.laysAt hfound hk Y.supp (a' (.lays cls Bundle.tN "suppressedExceptions" Bundle.listD) (by simp [Bundle.ownAtoms0]))
  obtain ⟨tyM, dM, hdM, hdnM⟩ := Cond.laysAt hfound hk hffM (a' (.lays cls Bundle.tN "detailMessage" "Ljava/lang/String;") (by simp [Bundle.ownAtoms0]))
  obtain ⟨tyB, dB, hdB, hdnB⟩ := Cond.laysAt hfound hk hffB (a' (.lays cls Bundle.tN "backtrace" "Ljava/lang/Object;") (by simp [Bundle.ownAtoms0]))
  have bC := Cond.laysApart hdB hdC hdnB hdnC (by rw [hnB, Y.causeName]; decide)
  have bS := Cond.laysApart hdB hdS hdnB hdnS (by rw [hnB, Y.stackName]; decide)
  have bP := Cond.laysApart hdB hdP hdnB hdnP (by rw [hnB, Y.suppName]; decide)
  have hskip : SkipFacts T e.platform s (fun u => u) u0 ((preparedCellV T.toThrowableT (freshCell P1.m.cls kX) a u0 sen).withEntry W.cur) :=
    ⟨{ ci198 := ci198, i198 := i198, fBack := fB }, ⟨hk198, hg198, ha198, hsB⟩, by
      have := fresh_default (c := P1.m.cls) tyB
      rw [htB] at this
      simpa [preparedCellV, Cell.setSlot, Cell.withEntry, Array.getElem?_setIfInBounds, bC, bS, bP, bC.symm, bS.symm, bP.symm, defaultValue] using this, fun _ _ => rfl⟩
  obtain ⟨tm, methC, cdC, kC, vm₁, hnC, -, -, -, -, -, -, -, hW₁, st1⟩ := Steps.initCold (tb := p.tables) (e := e) (below := below) (s := s) (U := W) X.here hexec X.warmed hpl hown (t := Bundle.init0 cls) rfl rfl (Bundle.fit_spec hcls).2
    (a' (.methodLink own ic (Bundle.init0 cls)) (by simp [Bundle.ownAtoms0])) (h (.instanceMethod (Bundle.init0 cls)) (by cases names <;> simp [Bundle.ownAtoms0, Bundle.chain0Atoms, Bundle.passAtoms])) (bytes := Bundle.five) (maxL := 1) (h (.code (Bundle.init0 cls) Bundle.five 1 none) (by cases names <;> simp [Bundle.ownAtoms0, Bundle.chain0Atoms, Bundle.passAtoms]))
    (f := g) hg (a := a) (rest := .ref a :: rest) hstack hd6
  cases Option.some.inj (hnC.symm.trans hP1m)
  have X₁ := X.noted hW₁
  obtain ⟨vm₂, X₂, st2⟩ := X₁.ctorPlainOffV hexec (g := { g with stack := .ref a :: rest }) hg hsize T L Z LZ (P1 :: Ps)
    (fun P hP => by rcases List.mem_cons.mp hP with rfl | hP; exact L1; exact hL P hP) ⟨hlink1, hlink⟩ (u0 := u0) (sen := sen) (self := a) (cell := freshCell P1.m.cls kX) (cellS := cellS)
    hcell (fun _ => by simp) (by simp) rfl rfl hsel0 hselF hcellS hneS hknownS (by rw [hkeep _ (hout' _)]; exact hu0) (by rw [hkeep _ (hout' _)]; exact hsen)
    (Takes.of_laid hk hord tyC (by rw [Y.causeType]; rfl)) (Takes.of_laid hk hord tyS (by rw [Y.stackType]; exact fits_refV_array _ u0)) (Takes.of_laid hk hord tyP (by rw [Y.suppType]; exact fits_refV_object _ sen)) Y.objLocals hskip htr [] hd6
    (by simp only [List.length_cons, hlen]; omega) (by simp only [List.length_cons, hlen]; exact hRlocals)
  have hlt : a < ((W.setVm vm₁).setVm vm₂).heap.size := (Array.getElem?_eq_some_iff.mp hcell).1
  refine ⟨(W.setVm vm₁).setVm vm₂, _, _, X₂, fun y hy => ?_, hlt, rfl, rfl, fun target hwalk => st1 _ (fun acts => ?_)⟩
  · simp only [List.mem_cons, List.not_mem_nil, or_false] at hy
    rcases hy with rfl | rfl | rfl | rfl <;> rfl
  · rw [doInvoke_state]
    exact st2 _ hwalk
end VXK
section VXK2
variable {p : Program} {l : Launch} {e : Env} {R : Room} {s : State} {m : MethodId} {args : Array Value} {below : List Frame} {meth : Method} {c : Code} {H : Heap} {locs : List Loc} {cells slots : Nat} {Q : State → Prop}
variable {ls : Array Slot} {rest : List Value} {D : va_G} {cl : List vw_C} {tys : List (ClassId × FieldType)} {ws : va_W}
/-- 'new E("text")' that isn't thrown at once: the object goes on the stack -/
theorem vx_makeS {cc : ByteArray} {pc : Nat} (hexec : p.tables.exec = Jvm.exec) (hb : c.code = cc) (hl : l.stackTraces = false) {own cls text : String} {names : List String} {ik is ic sa ci : Nat} {A : Nat → Prop} {T0 : u_T}
    (hown : s.vm.findClass own = some m.cls) (hcls : Bundle.fit cls = true) (hnames : ∀ n ∈ names, Bundle.fit n = true)
    (hk : (Cond.classLink own ik cls).before args s = true) (hini : (Cond.initialized cls).before args s = true) (hstr : vk_R own is text sa s) (hat : ∀ w ∈ vx_atS own ic cls names, w.before args s = true)
    (hgood : ∀ w ∈ Cond.classLink own ik cls :: Cond.initialized cls :: vx_atS own ic cls names, vx_ot w = true)
    (hU : vx_Zq Bundle.tN "UNASSIGNED_STACK" Bundle.steD A s s.heap) (hN : vx_Zq Bundle.tN "SUPPRESSED_SENTINEL" Bundle.listD A s s.heap) (hS : va_S A s.heap H locs) (hsize : ls.size = c.maxLocals)
    (d0 : decode cc pc = .ok (.new ik, 3)) (d3 : decode cc (pc + 3) = .ok (.dup, 1)) (d4 : decode cc (pc + 4) = .ok (.ldc is, 2)) (d6 : decode cc (pc + 6) = .ok (.invokespecial ic, 3))
    (hK : va_K D cl tys s) (hP : va_P D cl ws H) (hD : va_D A ws) (hA : ∀ q, s.heap.size ≤ q → A q) (hc : cl[ci]? = some (cls, T0, 0))
    (hRframes : names.length + 3 < R.frames) (hRlocals : (rest.map fun v => v.category).sum + (13 * (names.length + 1) + 43) ≤ R.locals) (hRcells : cells + 1 ≤ R.cells) (hRslots : slots + 6 ≤ R.slots)
    (kk : ∀ (q : Nat) (H1 : Heap), va_P D cl (ws ++ [(q, .inr (ci, []))]) H1 → va_D A (ws ++ [(q, .inr (ci, []))]) → va_S A s.heap H1 locs → W p l e R s m args below meth c H1 locs (cells + 1) (slots + 6) Q (F0 m (pc + 9) ls (.ref q :: rest))) :
    W p l e R s m args below meth c H locs cells slots Q (F0 m pc ls rest) := by
  intro T hT X
  subst hT
  have htr : e.platform.stackTraces = false := (show e.platform.stackTraces = l.stackTraces by rw [X.admits.platform]).trans hl
  have Y := vx_rebase X (R' := { frames := R.frames, locals := R.locals, cells := 1, slots := 6 }) (Nat.le_refl _) (Nat.le_refl _) hRcells hRslots
  obtain ⟨s', hA'⟩ : ∃ z, z = (T.setVm s.vm).setFrames (.invoking m args :: below) := ⟨_, rfl⟩
  rw [← hA'] at Y
  have hvm : s'.vm = s.vm := by rw [hA']; rfl
  have hhp : s'.heap = T.heap := by rw [hA']; rfl
  have hW0 : s.WarmedH s'.vm := by rw [hvm]; exact State.WarmedH.refl s
  have hat' : ∀ w ∈ vx_atS own ic cls names, w.before args s' = true := fun w hw => vx_ot_at hW0 hvm.symm (hgood w (List.mem_cons_of_mem _ (List.mem_cons_of_mem _ hw))) (hat w hw)
  have hk' : (Cond.classLink own ik cls).before args s' = true := vx_ot_at hW0 hvm.symm (hgood _ List.mem_cons_self) hk
  have hini' : (Cond.initialized cls).before args s' = true := vx_ot_at hW0 hvm.symm (hgood _ (List.mem_cons_of_mem _ List.mem_cons_self)) hini
  have hU' : vx_Zq Bundle.tN "UNASSIGNED_STACK" Bundle.steD A s' s'.heap := by rw [hhp]; exact vx_Zq.moved hW0.alike (hU.kept hS.2.1)
  have hN' : vx_Zq Bundle.tN "SUPPRESSED_SENTINEL" Bundle.listD A s' s'.heap := by rw [hhp]; exact vx_Zq.moved hW0.alike (hN.kept hS.2.1)
  have h : ∀ w ∈ Bundle.ownAtoms own ic cls names, w.before args s' = true := vx_own hat' (vx_isRefq hU'.1) (vx_isRefq hN'.1) hU'.2.word hN'.2.word
  have hown' : s'.vm.findClass own = some m.cls := by rw [hvm]; exact hown
  have hins : (Cond.instantiable cls 6).before args s' = true := h _ (by simp [Bundle.ownAtoms])
  obtain ⟨vm₁, cX, kX, hfX, hkX, -, -, X₁, st1⟩ := Y.newCold hexec (own := own) (C := cls) (index := ik) (n := 6) hown' hk' hins hini'
    (g := F0 m pc ls rest) rfl (by rw [hb]; exact d0) (Nat.le_refl _) (Nat.le_refl _)
  generalize hT1 : (T.setVm vm₁).pushCell { cls := cX, slots := kX.instanceTypes.map defaultValue, vm := .none } = T1 at X₁ st1
  have hcat : (Value.ref T.heap.size).category = 1 := rfl
  have hcellA : T1.heap[T.heap.size]? = some (freshCell cX kX) := by rw [← hT1]; exact State.heap_pushCell_size _ _
  have d3' : decode c.code (pc + 3) = .ok (.dup, 1) := by rw [hb]; exact d3
  have d4' : decode c.code (pc + 4) = .ok (.ldc is, 2) := by rw [hb]; exact d4
  have hstr' : vk_R own is text sa s' := vk_R.warm hW0 hstr
  obtain ⟨V, ce, L, Z, hL, hlt, hcl9, hvm9, st⟩ := vx_ctorMadeS X₁ hexec htr (own := own) (cls := cls) (names := names) (ic := ic) hown' hcls hnames h (fun x hx => nomatch hx) hfX hkX hcellA (by rw [hhp]; exact Nat.le_refl _) (msg := .ref sa) rfl
    (g := { method := m, pc := pc + 6, locals := ls, stack := .ref sa :: .ref T.heap.size :: .ref T.heap.size :: rest, locked := none }) rfl hsize (rest := rest) rfl
    (by rw [hb]; exact d6) hRframes (by simp only [List.map_cons, List.sum_cons, hcat]; omega)
  have Z0 := Stand.forget (locs := []) Z (fun y hy => by rw [hL y hy, hhp]; exact Nat.le_refl _)
  obtain ⟨f1, f2⟩ := vx_frame Z0.same
  rw [hhp] at f1 f2
  have hcid : ce.cls = D.1 ci := by
    rw [hcl9]
    have h1 := (hK.1 ci _ hc).2.1
    rw [hvm] at hfX
    exact Option.some.inj (hfX.symm.trans h1)
  have hh : (V.setCell T.heap.size ce).heap[T.heap.size]? = some ce := heapAt_setCell_self (s := V) ce hlt
  subst hA'
  have X5 := vx_back9 X Y Z0
  have X6 : Stand p l e R s m args below meth c (V.setCell T.heap.size ce) locs (cells + 1) (slots + 6) := { X5 with same := X5.same.mono (by omega) (by omega) }
  have hk9 : ∀ (k : Nat) (x : Nat × va_E), ws[k]? = some x → (V.setCell T.heap.size ce).heap[x.1]? = T.heap[x.1]? := fun k x hx => f2 x.1 ((hP k x hx).lt) (fun z hz => nomatch hz)
  obtain ⟨t, a1, b1⟩ := kk T.heap.size (V.setCell T.heap.size ce).heap ((hP.kept hk9).app (fun k x hx => by
      have hz : k < 1 := (List.getElem?_eq_some_iff.mp hx).1
      rw [show k = 0 by omega] at hx
      cases hx
      exact ⟨_, hc, ce, hh, hcid, hvm9, fun k hk => absurd hk (Nat.not_lt_zero k)⟩)) (hD.push hP rfl (hA _ hS.1)) ⟨Nat.le_trans hS.1 f1, fun q h1 h2 => (f2 q (Nat.lt_of_lt_of_le h1 hS.1) (fun z hz => nomatch hz)).trans (hS.2.1 q h1 h2), hS.2.2⟩ _ rfl X6
  refine ⟨t, st1 _ ?_, b1⟩
  show Steps p.tables e below (T1.setTop { method := m, pc := pc + 3, locals := ls, stack := .ref T.heap.size :: rest, locked := none }) _
  jvm_step X₁.here [X₁.here.top, hexec, d3', Value.category]
  exact X₁.ldcString hexec (own := own) (text := text) (index := is) (a := sa) hown' hstr'.1 hstr'.2
    (g := { method := m, pc := pc + 4, locals := ls, stack := .ref T.heap.size :: .ref T.heap.size :: rest, locked := none }) rfl d4' _ (st _ a1)
/-- 'new E()' that isn't thrown at once: the object goes on the stack -/
theorem vx_make0 {cc : ByteArray} {pc : Nat} (hexec : p.tables.exec = Jvm.exec) (hb : c.code = cc) (hl : l.stackTraces = false) {own cls : String} {names : List String} {ik ic ci : Nat} {A : Nat → Prop} {T0 : u_T}
    (hown : s.vm.findClass own = some m.cls) (hcls : Bundle.fit cls = true) (hnames : ∀ n ∈ names, Bundle.fit n = true)
    (hk : (Cond.classLink own ik cls).before args s = true) (hini : (Cond.initialized cls).before args s = true) (hat : ∀ w ∈ vx_at0 own ic cls names, w.before args s = true)
    (hgood : ∀ w ∈ Cond.classLink own ik cls :: Cond.initialized cls :: vx_at0 own ic cls names, vx_ot w = true)
    (hU : vx_Zq Bundle.tN "UNASSIGNED_STACK" Bundle.steD A s s.heap) (hN : vx_Zq Bundle.tN "SUPPRESSED_SENTINEL" Bundle.listD A s s.heap) (hS : va_S A s.heap H locs) (hsize : ls.size = c.maxLocals)
    (d0 : decode cc pc = .ok (.new ik, 3)) (d3 : decode cc (pc + 3) = .ok (.dup, 1)) (d4 : decode cc (pc + 4) = .ok (.invokespecial ic, 3))
    (hK : va_K D cl tys s) (hP : va_P D cl ws H) (hD : va_D A ws) (hA : ∀ q, s.heap.size ≤ q → A q) (hc : cl[ci]? = some (cls, T0, 0))
    (hRframes : names.length + 3 < R.frames) (hRlocals : (rest.map fun v => v.category).sum + (13 * (names.length + 1) + 42) ≤ R.locals) (hRcells : cells + 1 ≤ R.cells) (hRslots : slots + 6 ≤ R.slots)
    (kk : ∀ (q : Nat) (H1 : Heap), va_P D cl (ws ++ [(q, .inr (ci, []))]) H1 → va_D A (ws ++ [(q, .inr (ci, []))]) → va_S A s.heap H1 locs → W p l e R s m args below meth c H1 locs (cells + 1) (slots + 6) Q (F0 m (pc + 7) ls (.ref q :: rest))) :
    W p l e R s m args below meth c H locs cells slots Q (F0 m pc ls rest) := by
  intro T hT X
  subst hT
  have htr : e.platform.stackTraces = false := (show e.platform.stackTraces = l.stackTraces by rw [X.admits.platform]).trans hl
  have Y := vx_rebase X (R' := { frames := R.frames, locals := R.locals, cells := 1, slots := 6 }) (Nat.le_refl _) (Nat.le_refl _) hRcells hRslots
  obtain ⟨s', hA'⟩ : ∃ z, z = (T.setVm s.vm).setFrames (.invoking m args :: below) := ⟨_, rfl⟩
  rw [← hA'] at Y
  have hvm : s'.vm = s.vm := by rw [hA']; rfl
  have hhp : s'.heap = T.heap := by rw [hA']; rfl
  have hW0 : s.WarmedH s'.vm := by rw [hvm]; exact State.WarmedH.refl s
  have hat' : ∀ w ∈ vx_at0 own ic cls names, w.before args s' = true := fun w hw => vx_ot_at hW0 hvm.symm (hgood w (List.mem_cons_of_mem _ (List.mem_cons_of_mem _ hw))) (hat w hw)
  have hk' : (Cond.classLink own ik cls).before args s' = true := vx_ot_at hW0 hvm.symm (hgood _ List.mem_cons_self) hk
  have hini' : (Cond.initialized cls).before args s' = true := vx_ot_at hW0 hvm.symm (hgood _ (List.mem_cons_of_mem _ List.mem_cons_self)) hini
  have hU' : vx_Zq Bundle.tN "UNASSIGNED_STACK" Bundle.steD A s' s'.heap := by rw [hhp]; exact vx_Zq.moved hW0.alike (hU.kept hS.2.1)
  have hN' : vx_Zq Bundle.tN "SUPPRESSED_SENTINEL" Bundle.listD A s' s'.heap := by rw [hhp]; exact vx_Zq.moved hW0.alike (hN.kept hS.2.1)
  have h : ∀ w ∈ Bundle.ownAtoms0 own ic cls names, w.before args s' = true := vx_own hat' (vx_isRefq hU'.1) (vx_isRefq hN'.1) hU'.2.word hN'.2.word
  have hown' : s'.vm.findClass own = some m.cls := by rw [hvm]; exact hown
  have hins : (Cond.instantiable cls 6).before args s' = true := h _ (by simp [Bundle.ownAtoms0])
  obtain ⟨vm₁, cX, kX, hfX, hkX, -, -, X₁, st1⟩ := Y.newCold hexec (own := own) (C := cls) (index := ik) (n := 6) hown' hk' hins hini'
    (g := F0 m pc ls rest) rfl (by rw [hb]; exact d0) (Nat.le_refl _) (Nat.le_refl _)
  generalize hT1 : (T.setVm vm₁).pushCell { cls := cX, slots := kX.instanceTypes.map defaultValue, vm := .none } = T1 at X₁ st1
  have hcat : (Value.ref T.heap.size).category = 1 := rfl
  have hcellA : T1.heap[T.heap.size]? = some (freshCell cX kX) := by rw [← hT1]; exact State.heap_pushCell_size _ _
  have d3' : decode c.code (pc + 3) = .ok (.dup, 1) := by rw [hb]; exact d3
  obtain ⟨V, ce, L, Z, hL, hlt, hcl9, hvm9, st⟩ := vx_ctorMade0 X₁ hexec htr (own := own) (cls := cls) (names := names) (ic := ic) hown' hcls hnames h (fun x hx => nomatch hx) hfX hkX hcellA (by rw [hhp]; exact Nat.le_refl _)
    (g := { method := m, pc := pc + 4, locals := ls, stack := .ref T.heap.size :: .ref T.heap.size :: rest, locked := none }) rfl hsize (rest := rest) rfl
    (by rw [hb]; exact d4) hRframes (by simp only [List.map_cons, List.sum_cons, hcat]; omega)
  have Z0 := Stand.forget (locs := []) Z (fun y hy => by rw [hL y hy, hhp]; exact Nat.le_refl _)
  obtain ⟨f1, f2⟩ := vx_frame Z0.same
  rw [hhp] at f1 f2
  have hcid : ce.cls = D.1 ci := by
    rw [hcl9]
    have h1 := (hK.1 ci _ hc).2.1
    rw [hvm] at hfX
    exact Option.some.inj (hfX.symm.trans h1)
  have hh : (V.setCell T.heap.size ce).heap[T.heap.size]? = some ce := heapAt_setCell_self (s := V) ce hlt
  subst hA'
  have X5 := vx_back9 X Y Z0
  have X6 : Stand p l e R s m args below meth c (V.setCell T.heap.size ce) locs (cells + 1) (slots + 6) := { X5 with same := X5.same.mono (by omega) (by omega) }
  have hk9 : ∀ (k : Nat) (x : Nat × va_E), ws[k]? = some x → (V.setCell T.heap.size ce).heap[x.1]? = T.heap[x.1]? := fun k x hx => f2 x.1 ((hP k x hx).lt) (fun z hz => nomatch hz)
  obtain ⟨t, a1, b1⟩ := kk T.heap.size (V.setCell T.heap.size ce).heap ((hP.kept hk9).app (fun k x hx => by
      have hz : k < 1 := (List.getElem?_eq_some_iff.mp hx).1
      rw [show k = 0 by omega] at hx
      cases hx
      exact ⟨_, hc, ce, hh, hcid, hvm9, fun k hk => absurd hk (Nat.not_lt_zero k)⟩)) (hD.push hP rfl (hA _ hS.1)) ⟨Nat.le_trans hS.1 f1, fun q h1 h2 => (f2 q (Nat.lt_of_lt_of_le h1 hS.1) (fun z hz => nomatch hz)).trans (hS.2.1 q h1 h2), hS.2.2⟩ _ rfl X6
  refine ⟨t, st1 _ ?_, b1⟩
  show Steps p.tables e below (T1.setTop { method := m, pc := pc + 3, locals := ls, stack := .ref T.heap.size :: rest, locked := none }) _
  jvm_step X₁.here [X₁.here.top, hexec, d3', Value.category]
  exact st _ a1
/-- 'throw x' of an object that was made before -/
theorem vx_athrow {cc : ByteArray} {pc : Nat} (hexec : p.tables.exec = Jvm.exec) (hb : c.code = cc) {q : Addr} (hdg : decode cc pc = .ok (.athrow, 1)) (k : vx_W p l e R s m args below meth c H locs cells slots Q (F0 m pc ls rest) q) : W p l e R s m args below meth c H locs cells slots Q (F0 m pc ls (.ref q :: rest)) := by
  intro T hT X
  obtain ⟨t, st, hq⟩ := k T hT X
  refine ⟨t, ?_, hq⟩
  have hdg' : decode c.code pc = .ok (.athrow, 1) := by rw [hb]; exact hdg
  jvm_step X.here [X.here.top, hexec, hdg', athrow.wp_sem]
  exact st
end VXK2
/-! ===== END ===== -/
/-! ===== BEGIN a constructor that throws (launches without stack traces) ===== -/
section VXIA
variable {p : Program} {l : Launch} {e : Env} {R : Room} {s : State} {m : MethodId} {args : Array Value} {below : List Frame} {meth : Method} {c : Code} {T : State} {locs : List Loc} {cells slots : Nat}
theorem vx_callI (X : Stand p l e R s m args below meth c T locs cells slots) (hexec : p.tables.exec = Jvm.exec) {own : String} {index : Nat} {y : MethodName} {bytes : ByteArray} {maxL : Nat}
    (hown : s.vm.findClass own = some m.cls) (hy1 : y.name = "<init>") (hlink : (Cond.methodLink own index y).before args s = true) (hinst : (Cond.instanceMethod y).before args s = true)
    (hcode : (Cond.code y bytes maxL none).before args s = true) (hy : y.cls ≠ "java/lang/invoke/MethodHandle" ∧ y.cls ≠ "java/lang/invoke/VarHandle")
    {W9 : Nat} {Pre : Pt → Array Value → Prop} {Post : Pt → Array Value → Option Value → Pt → Prop} {PostX : Pt → Array Value → Addr → Pt → Prop} (hK : vx_Back l R p e below s args y 3 W9 Pre Post PostX)
    {g : JFrame} (hg : g.method = m) (hsize : g.locals.size = c.maxLocals) {a : Addr} {argsL rest : List Value} (hlen : ∀ sig, parseMethodDescriptor y.desc = some sig → argsL.length = sig.parameters.length)
    (hstack : g.stack = argsL.reverse ++ .ref a :: rest) (hW : 2 * g.monitorRoom + (rest.map fun v => v.category).sum ≤ W9) (hdg : decode c.code g.pc = .ok (.invokespecial index, 3))
    (hpre : ∀ vm₁, s.WarmedH vm₁ → Pre ⟨T.setVm vm₁, locs, cells, slots⟩ (Value.ref a :: argsL).toArray) :
    (∃ (v : Option Value) (vm₁ : Vm) (B : Pt), s.WarmedH vm₁ ∧ Stand p l e R s m args below meth c B.U B.locs B.cells B.slots ∧ Post ⟨T.setVm vm₁, locs, cells, slots⟩ (Value.ref a :: argsL).toArray v B ∧
      ∀ target, Steps p.tables e below (B.U.setTop { g with pc := g.pc + 3, stack := v.toList ++ rest }) target → Steps p.tables e below (T.setTop g) target) ∨
    (∃ (q : Addr) (vm₁ : Vm) (B : Pt), s.WarmedH vm₁ ∧ Stand p l e R s m args below meth c B.U B.locs B.cells B.slots ∧ PostX ⟨T.setVm vm₁, locs, cells, slots⟩ (Value.ref a :: argsL).toArray q B ∧
      Steps p.tables e below (T.setTop g) ((B.U.setTop { g with stack := rest }).pushFrame (.throwing q))) := by
  subst hg
  have hpl : e.platform.magicAccessors = ({} : Platform).magicAccessors := by rw [X.admits.platform]
  obtain ⟨mk, methM, cM, kP, vm₁, hnamed, hmethM, hcodeM, -, hlocalsM, -, hkP, -, hW₁, hstep₁⟩ := Steps.initColdArgs (e := e) X.here hexec X.warmed hpl hown hy1 hy hlink hinst hcode (f := g) rfl hlen hstack hdg
  have X₁ := X.noted hW₁
  rcases hK g.method meth c ⟨T.setVm vm₁, locs, cells, slots⟩ { g with stack := rest } (.invokespecial index) mk (Value.ref a :: argsL).toArray X₁ rfl hsize hdg hW (X₁.named hnamed) (hpre vm₁ X₁.warmed) with ⟨v, B, X', hpost, hsteps⟩ | ⟨q, B, X', hpost, hsteps⟩
  · exact Or.inl ⟨v, vm₁, B, X₁.warmed, X', hpost, fun target h => hstep₁ _ fun acts => by rw [doInvoke_state]; exact hsteps.trans h⟩
  · exact Or.inr ⟨q, vm₁, B, X₁.warmed, X', hpost, hstep₁ _ fun acts => by rw [doInvoke_state]; exact hsteps⟩
end VXIA
section VXIB
variable {p : Program} {l : Launch} {e : Env} {R : Room} {s : State} {m : MethodId} {args : Array Value} {below : List Frame} {meth : Method} {c : Code} {H : Heap} {locs : List Loc} {cells slots : Nat}
variable {y : MethodName} {bytes cc : ByteArray} {maxL nL mc ms n index : Nat} {ret : Option FieldType} {ws : List Cond} {rm : Room} {Pc : Array Value → State → Prop} {Qc : Array Value → State → Outcome → State → Prop} {XC : String → State → State → Prop} {free : Addr → Prop} {Ts : List Cond} {own C : String} {b : Addr} {As rest : List Value} {g : JFrame}
theorem vx_runI (S : CallFix p m c cc nL s args Ts own) (hM : vx_Met l y ws rm Pc Qc XC mc ms free) (cw : CallB R s args own index y bytes maxL none ws rm mc ms n ∧ y.name = "<init>" ∧ (Cond.instanceMethod y).before args s = true) (hp : PreS s H Pc (.ref b :: As))
    (hg : g.method = m) (hn : As.length = n) (hsize : g.locals.size = nL) (hstack : g.stack = As.reverse ++ .ref b :: rest) (hW : 2 * g.monitorRoom + (rest.map fun v => v.category).sum ≤ 8) (hdg : decode cc g.pc = .ok (.invokespecial index, 3)) (hf : cells + mc ≤ R.cells ∧ slots + ms ≤ R.slots) :
    vx_Run p l e R s m args below meth c H locs cells slots mc ms g rest (Qc (Value.ref b :: As).toArray) XC free := by
  have hK : vx_Back l R p e below s args y 3 8 (PreOf R mc ms Pc) (PostOf Qc mc ms free) (vx_Post XC mc ms free) := vx_callBack cw.1 hM hp.1
  obtain ⟨⟨-, -, -, -, -, -, hcode, -, hy, hlen, hl⟩, hy1, hin⟩ := cw
  obtain ⟨hx, hb, hml, ho, -⟩ := S
  have hPc := hp.2
  intro T hT X
  rcases vx_callI X hx (bytes := bytes) (maxL := maxL) ho hy1 hl hin hcode hy hK hg (hsize.trans hml.symm) (a := b) (argsL := As) (rest := rest) (fun sig h => hn.trans (hlen sig h)) hstack hW (by rw [hb]; exact hdg)
    (fun vm₁ hW₁ => ⟨hf.1, hf.2, hPc (T.setVm vm₁) hT hW₁⟩) with ⟨v, vm₁, ⟨U', l2, c2, s2⟩, hW₁, X', ⟨g', mk, t, L, e1, e2, hq, h1, hL, h2, h3⟩, st⟩ | ⟨q, vm₁, ⟨U', l2, c2, s2⟩, hW₁, X', ⟨g', mk, t, L, E, ce, e1, e2, hq, hce, hcv, hcl, h1, hL, h2, h3⟩, st⟩
  · dsimp only [Pt.U, Pt.locs, Pt.cells, Pt.slots] at X' e1 e2 h1 h2 h3 st
    subst h1; subst h2; subst h3
    exact Or.inl ⟨v, (T.setVm vm₁).calling g' mk (Value.ref b :: As).toArray, t, U', L, hT, X', hL, e1, e2, hq, st⟩
  · dsimp only [Pt.U, Pt.locs, Pt.cells, Pt.slots] at X' e1 e2 h1 h2 h3 st hcl
    subst h1; subst h2; subst h3
    exact Or.inr ⟨q, (T.setVm vm₁).calling g' mk (Value.ref b :: As).toArray, t, U', L, E, ce, hT, X', hL, e1, e2, hq, hce, hcv, vx_cls hW₁ hcl, st⟩
end VXIB
/-! ===== END ===== -/
/-! ===== BEGIN a private constructor of a nest mate that throws ===== -/
section VXIC
variable {p : Program} {l : Launch} {e : Env} {R : Room} {s : State} {m : MethodId} {args : Array Value} {below : List Frame} {meth : Method} {c : Code} {T : State} {locs : List Loc} {cells slots : Nat}
theorem vx_callIN (X : Stand p l e R s m args below meth c T locs cells slots) (hexec : p.tables.exec = Jvm.exec) {own : String} {index : Nat} {host : String} {y : MethodName} {bytes : ByteArray} {maxL : Nat}
    (hown : s.vm.findClass own = some m.cls) (hy1 : y.name = "<init>") (hlink : (Cond.methodLinkNest own index y host).before args s = true) (hinst : (Cond.instanceMethod y).before args s = true)
    (hcode : (Cond.code y bytes maxL none).before args s = true) (hy : y.cls ≠ "java/lang/invoke/MethodHandle" ∧ y.cls ≠ "java/lang/invoke/VarHandle")
    {W9 : Nat} {Pre : Pt → Array Value → Prop} {Post : Pt → Array Value → Option Value → Pt → Prop} {PostX : Pt → Array Value → Addr → Pt → Prop} (hK : vx_Back l R p e below s args y 3 W9 Pre Post PostX)
    {g : JFrame} (hg : g.method = m) (hsize : g.locals.size = c.maxLocals) {a : Addr} {argsL rest : List Value} (hlen : ∀ sig, parseMethodDescriptor y.desc = some sig → argsL.length = sig.parameters.length)
    (hstack : g.stack = argsL.reverse ++ .ref a :: rest) (hW : 2 * g.monitorRoom + (rest.map fun v => v.category).sum ≤ W9) (hdg : decode c.code g.pc = .ok (.invokespecial index, 3))
    (hpre : ∀ vm₁, s.WarmedH vm₁ → Pre ⟨T.setVm vm₁, locs, cells, slots⟩ (Value.ref a :: argsL).toArray) :
    (∃ (v : Option Value) (vm₁ : Vm) (B : Pt), s.WarmedH vm₁ ∧ Stand p l e R s m args below meth c B.U B.locs B.cells B.slots ∧ Post ⟨T.setVm vm₁, locs, cells, slots⟩ (Value.ref a :: argsL).toArray v B ∧
      ∀ target, Steps p.tables e below (B.U.setTop { g with pc := g.pc + 3, stack := v.toList ++ rest }) target → Steps p.tables e below (T.setTop g) target) ∨
    (∃ (q : Addr) (vm₁ : Vm) (B : Pt), s.WarmedH vm₁ ∧ Stand p l e R s m args below meth c B.U B.locs B.cells B.slots ∧ PostX ⟨T.setVm vm₁, locs, cells, slots⟩ (Value.ref a :: argsL).toArray q B ∧
      Steps p.tables e below (T.setTop g) ((B.U.setTop { g with stack := rest }).pushFrame (.throwing q))) := by
  subst hg
  have hpl : e.platform.magicAccessors = ({} : Platform).magicAccessors := by rw [X.admits.platform]
  obtain ⟨mk, methM, cM, kP, vm₁, hnamed, hmethM, hcodeM, -, hlocalsM, -, hkP, -, hW₁, hstep₁⟩ := Steps.initColdArgsNest (e := e) X.here hexec X.warmed hpl hown hy1 hy hlink hinst hcode (f := g) rfl hlen hstack hdg
  have X₁ := X.noted hW₁
  rcases hK g.method meth c ⟨T.setVm vm₁, locs, cells, slots⟩ { g with stack := rest } (.invokespecial index) mk (Value.ref a :: argsL).toArray X₁ rfl hsize hdg hW (X₁.named hnamed) (hpre vm₁ X₁.warmed) with ⟨v, B, X', hpost, hsteps⟩ | ⟨q, B, X', hpost, hsteps⟩
  · exact Or.inl ⟨v, vm₁, B, X₁.warmed, X', hpost, fun target h => hstep₁ _ fun acts => by rw [doInvoke_state]; exact hsteps.trans h⟩
  · exact Or.inr ⟨q, vm₁, B, X₁.warmed, X', hpost, hstep₁ _ fun acts => by rw [doInvoke_state]; exact hsteps⟩
end VXIC
section VXID
variable {p : Program} {l : Launch} {e : Env} {R : Room} {s : State} {m : MethodId} {args : Array Value} {below : List Frame} {meth : Method} {c : Code} {H : Heap} {locs : List Loc} {cells slots : Nat}
theorem vx_runIN {y : MethodName} {bytes cc : ByteArray} {maxL nL mc ms n index : Nat} {ws : List Cond} {rm : Room} {Pc : Array Value → State → Prop} {Qc : Array Value → State → Outcome → State → Prop} {XC : String → State → State → Prop} {free : Addr → Prop} {Ts : List Cond} {own host : String} {b : Addr} {As rest : List Value} {g : JFrame}
    (S : CallFix p m c cc nL s args Ts own) (hM : vx_Met l y ws rm Pc Qc XC mc ms free) (cw : va_CN R s args own index y host bytes maxL none ws rm mc ms n ∧ y.name = "<init>" ∧ (Cond.instanceMethod y).before args s = true) (hp : PreS s H Pc (.ref b :: As))
    (hg : g.method = m) (hn : As.length = n) (hsize : g.locals.size = nL) (hstack : g.stack = As.reverse ++ .ref b :: rest) (hW : 2 * g.monitorRoom + (rest.map fun v => v.category).sum ≤ 8) (hdg : decode cc g.pc = .ok (.invokespecial index, 3)) (hf : cells + mc ≤ R.cells ∧ slots + ms ≤ R.slots) :
    vx_Run p l e R s m args below meth c H locs cells slots mc ms g rest (Qc (Value.ref b :: As).toArray) XC free := by
  obtain ⟨⟨⟨hrc, hrs, hfr, hlo, hws, hcw⟩, hcode, hini, hy, hlen, hl⟩, hx1, hx2⟩ := cw
  have hK : vx_Back l R p e below s args y 3 8 (PreOf R mc ms Pc) (PostOf Qc mc ms free) (vx_Post XC mc ms free) := vx_back (bytes := bytes) (maxL := maxL) (ret := none) hM hp.1 hrc hrs hfr hlo hws hcw (fun a' U hW => word_at hW (Or.inl (by first | rfl | simp [Cond.onTables, Cond.keeps, Cond.steady])) hini)
  obtain ⟨hx, hb, hml, ho, -⟩ := S
  have hPc := hp.2
  intro T hT X
  rcases vx_callIN X hx (bytes := bytes) (maxL := maxL) ho hx1 hl hx2 hcode hy hK hg (hsize.trans hml.symm) (a := b) (argsL := As) (rest := rest) (fun sig h => hn.trans (hlen sig h)) hstack hW (by rw [hb]; exact hdg)
    (fun vm₁ hW₁ => ⟨hf.1, hf.2, hPc (T.setVm vm₁) hT hW₁⟩) with ⟨v, vm₁, ⟨U', l2, c2, s2⟩, hW₁, X', ⟨g', mk, t, L, e1, e2, hq, h1, hL, h2, h3⟩, st⟩ | ⟨q, vm₁, ⟨U', l2, c2, s2⟩, hW₁, X', ⟨g', mk, t, L, E, ce, e1, e2, hq, hce, hcv, hcl, h1, hL, h2, h3⟩, st⟩
  · dsimp only [Pt.U, Pt.locs, Pt.cells, Pt.slots] at X' e1 e2 h1 h2 h3 st
    subst h1; subst h2; subst h3
    exact Or.inl ⟨v, (T.setVm vm₁).calling g' mk (Value.ref b :: As).toArray, t, U', L, hT, X', hL, e1, e2, hq, st⟩
  · dsimp only [Pt.U, Pt.locs, Pt.cells, Pt.slots] at X' e1 e2 h1 h2 h3 st hcl
    subst h1; subst h2; subst h3
    exact Or.inr ⟨q, (T.setVm vm₁).calling g' mk (Value.ref b :: As).toArray, t, U', L, E, ce, hT, X', hL, e1, e2, hq, hce, hcv, vx_cls hW₁ hcl, st⟩
end VXID
/-! ===== END ===== -/
/-! ===== BEGIN a method of a class above, found by the receiver, that may throw (follows va_callVU, va_runU of this kit) ===== -/
section
variable {p : Program} {l : Launch} {e : Env} {R : Room} {s : State} {m : MethodId} {args : Array Value} {below : List Frame} {meth : Method} {c : Code} {H : Heap} {locs : List Loc} {cells slots : Nat}
theorem vx_callVU {T : State} {locs : List Loc} {cells slots : Nat} (X : Stand p l e R s m args below meth c T locs cells slots) (hexec : p.tables.exec = Jvm.exec) {own C owner : String} {index : Nat} {x y : MethodName} {bytes : ByteArray} {maxL : Nat} {ret : Option FieldType}
    (hown : s.vm.findClass own = some m.cls) (hlink : (Cond.methodLink own index x).before args s = true) (hsame : (Cond.sameMethod x.cls owner x.name x.desc).before args s = true)
    (hd0 : va_Decl s ⟨owner, x.name, x.desc⟩) (howner : owner ≠ "java/lang/invoke/MethodHandle" ∧ owner ≠ "java/lang/invoke/VarHandle")
    (hsel : (Cond.selects C x y).before args s = true) (hinst : (Cond.instanceMethod y).before args s = true) (hcode : (Cond.code y bytes maxL ret).before args s = true)
    {W : Nat} {Pre : Pt → Array Value → Prop} {Post : Pt → Array Value → Option Value → Pt → Prop} {PostX : Pt → Array Value → Addr → Pt → Prop} (hK : vx_Back l R p e below s args y 3 W Pre Post PostX)
    {b : Addr} {cellB : Cell} (hcell : T.heap[b]? = some cellB) (hobj : cellB.vm.isStatics = false) (hcls : s.vm.findClass C = some cellB.cls)
    {g : JFrame} (hg : g.method = m) (hsize : g.locals.size = c.maxLocals) {argsL rest : List Value} (hlen : ∀ sig, parseMethodDescriptor x.desc = some sig → argsL.length = sig.parameters.length)
    (hstack : g.stack = argsL.reverse ++ .ref b :: rest) (hW : 2 * g.monitorRoom + (rest.map fun v => v.category).sum ≤ W) (hdg : decode c.code g.pc = .ok (.invokevirtual index, 3))
    (hpre : ∀ vm₁, s.WarmedH vm₁ → Pre ⟨T.setVm vm₁, locs, cells, slots⟩ (Value.ref b :: argsL).toArray) :
    (∃ (v : Option Value) (vm₁ : Vm) (B : Pt), s.WarmedH vm₁ ∧ Stand p l e R s m args below meth c B.U B.locs B.cells B.slots ∧ Post ⟨T.setVm vm₁, locs, cells, slots⟩ (Value.ref b :: argsL).toArray v B ∧
      ∀ target, Steps p.tables e below (B.U.setTop { g with pc := g.pc + 3, stack := v.toList ++ rest }) target → Steps p.tables e below (T.setTop g) target) ∨
    (∃ (q : Addr) (vm₁ : Vm) (B : Pt), s.WarmedH vm₁ ∧ Stand p l e R s m args below meth c B.U B.locs B.cells B.slots ∧ PostX ⟨T.setVm vm₁, locs, cells, slots⟩ (Value.ref b :: argsL).toArray q B ∧
      Steps p.tables e below (T.setTop g) ((B.U.setTop { g with stack := rest }).pushFrame (.throwing q))) := by
  obtain ⟨r0, r, hn, hrm, hstR, hsigR⟩ := hd0
  obtain ⟨cn, ck, r1, hcn, hck, hni, hf, hn1⟩ := Cond.sameMethod_found hsame
  cases hn.symm.trans hn1
  obtain ⟨mk, methM, hnamed, hmethM, -, habM⟩ := Cond.instanceMethod_spec hinst
  obtain ⟨c2, r2, m2, q1, q2, q3, q4, kP, hkP, hkPi⟩ := Cond.selects_spec hsel
  cases hcls.symm.trans q1
  cases hf.symm.trans q2
  cases hnamed.symm.trans q3
  have hselP : selectMethod e.platform s.vm cellB.cls r0 = .method mk := by rw [Launch.admits_selectMethod X.admits]; exact q4
  obtain ⟨vm₁, X₁, hstep₁⟩ := X.invokevirtualUp hexec hown hlink hsame howner hn hrm hstR (a := b) (cell := cellB) hcell
    (fun z h => by rw [h] at hobj; cases hobj) hselP hmethM habM hkP hkPi (g := g) hg (argsL := argsL) (rest := rest) (hlen _ hsigR) hstack hdg
  rcases hK m meth c ⟨T.setVm vm₁, locs, cells, slots⟩ { g with stack := rest } (.invokevirtual index) mk (Value.ref b :: argsL).toArray X₁ hg hsize hdg hW (X₁.named hnamed) (hpre vm₁ X₁.warmed) with ⟨v, B, X', hpost, hsteps⟩ | ⟨q, B, X', hpost, hsteps⟩
  · exact Or.inl ⟨v, vm₁, B, X₁.warmed, X', hpost, fun target h => hstep₁ _ fun acts => by rw [doInvoke_state]; exact hsteps.trans h⟩
  · exact Or.inr ⟨q, vm₁, B, X₁.warmed, X', hpost, hstep₁ _ fun acts => by rw [doInvoke_state]; exact hsteps⟩
theorem vx_runU {x y : MethodName} {bytes cc : ByteArray} {maxL nL mc ms n index : Nat} {ret : Option FieldType} {ws : List Cond} {rm : Room} {Pc : Array Value → State → Prop} {Qc : Array Value → State → Outcome → State → Prop} {XC : String → State → State → Prop} {free : Addr → Prop} {Ts : List Cond} {own C owner : String} {b : Addr} {As rest : List Value} {g : JFrame}
    (S : CallFix p m c cc nL s args Ts own) (hM : vx_Met l y ws rm Pc Qc XC mc ms free) (cw : va_CU R s args own C owner index x y bytes maxL ret ws rm mc ms n) (hp : PreV s H C b Pc As)
    (hg : g.method = m) (hn : As.length = n) (hsize : g.locals.size = nL) (hstack : g.stack = As.reverse ++ .ref b :: rest) (hW : 2 * g.monitorRoom + (rest.map fun v => v.category).sum ≤ 8) (hdg : decode cc g.pc = .ok (.invokevirtual index, 3)) (hf : cells + mc ≤ R.cells ∧ slots + ms ≤ R.slots) :
    vx_Run p l e R s m args below meth c H locs cells slots mc ms g rest (Qc (Value.ref b :: As).toArray) XC free := by
  obtain ⟨hrc, hrs, hfr, hlo, hws, hcw⟩ := cw.back
  have hini := cw.init
  have hK : vx_Back l R p e below s args y 3 8 (PreOf R mc ms Pc) (PostOf Qc mc ms free) (vx_Post XC mc ms free) := vx_back (bytes := bytes) (maxL := maxL) (ret := ret) hM hp.1 hrc hrs hfr hlo hws hcw (fun a' U hW => word_at hW (Or.inl (by first | rfl | simp [Cond.onTables, Cond.keeps, Cond.steady])) hini)
  obtain ⟨hx, hb, hml, ho, -⟩ := S
  obtain ⟨-, ⟨cellB, hcB, hoB, hclB⟩, hPc⟩ := hp
  intro T hT X
  rcases vx_callVU X hx (C := C) (owner := owner) (bytes := bytes) (maxL := maxL) (ret := ret) ho cw.link cw.same cw.decl cw.notMH cw.sel cw.inst cw.code hK (by rw [hT]; exact hcB) hoB hclB hg (hsize.trans hml.symm) (argsL := As) (rest := rest) (fun sig h => hn.trans (cw.len sig h)) hstack hW (by rw [hb]; exact hdg)
    (fun vm₁ hW₁ => ⟨hf.1, hf.2, hPc (T.setVm vm₁) hT hW₁⟩) with ⟨v, vm₁, ⟨U', l2, c2, s2⟩, hW₁, X', ⟨g', mk, t, L, e1, e2, hq, h1, hL, h2, h3⟩, st⟩ | ⟨q, vm₁, ⟨U', l2, c2, s2⟩, hW₁, X', ⟨g', mk, t, L, E, ce, e1, e2, hq, hce, hcv, hcl, h1, hL, h2, h3⟩, st⟩
  · dsimp only [Pt.U, Pt.locs, Pt.cells, Pt.slots] at X' e1 e2 h1 h2 h3 st
    subst h1; subst h2; subst h3
    exact Or.inl ⟨v, (T.setVm vm₁).calling g' mk (Value.ref b :: As).toArray, t, U', L, hT, X', hL, e1, e2, hq, st⟩
  · dsimp only [Pt.U, Pt.locs, Pt.cells, Pt.slots] at X' e1 e2 h1 h2 h3 st hcl
    subst h1; subst h2; subst h3
    exact Or.inr ⟨q, (T.setVm vm₁).calling g' mk (Value.ref b :: As).toArray, t, U', L, E, ce, hT, X', hL, e1, e2, hq, hce, hcv, vx_cls hW₁ hcl, st⟩
end
/-! ===== END ===== -/
/-! ===== BEGIN super.m(..) that may throw (follows va_callSU, va_runSU) ===== -/
section
variable {p : Program} {l : Launch} {e : Env} {R : Room} {s : State} {m : MethodId} {args : Array Value} {below : List Frame} {meth : Method} {c : Code} {H : Heap} {locs : List Loc} {cells slots : Nat}
theorem vx_callSU {T : State} {locs : List Loc} {cells slots : Nat} (X : Stand p l e R s m args below meth c T locs cells slots) (hexec : p.tables.exec = Jvm.exec) {own : String} {index : Nat} {y : MethodName} {bytes : ByteArray} {maxL : Nat} {ret : Option FieldType}
    (hown : s.vm.findClass own = some m.cls) (hlink : (Cond.methodLink own index y).before args s = true) (hsame : (Cond.sameMethod y.cls y.cls y.name y.desc).before args s = true) (hsup : (Cond.superclass own y.cls).before args s = true)
    (hinst : (Cond.instanceMethod y).before args s = true) (hcode : (Cond.code y bytes maxL ret).before args s = true) (hno : y.name ≠ "<init>")
    {W : Nat} {Pre : Pt → Array Value → Prop} {Post : Pt → Array Value → Option Value → Pt → Prop} {PostX : Pt → Array Value → Addr → Pt → Prop} (hK : vx_Back l R p e below s args y 3 W Pre Post PostX)
    {b : Addr} {cellB : Cell} {kB : Class} (hcell : T.heap[b]? = some cellB) (hobj : cellB.vm.isStatics = false) (hkB : s.vm.classes[cellB.cls]? = some kB)
    {g : JFrame} (hg : g.method = m) (hsize : g.locals.size = c.maxLocals) {argsL rest : List Value} (hlen : ∀ sig, parseMethodDescriptor y.desc = some sig → argsL.length = sig.parameters.length)
    (hstack : g.stack = argsL.reverse ++ .ref b :: rest) (hW : 2 * g.monitorRoom + (rest.map fun v => v.category).sum ≤ W) (hdg : decode c.code g.pc = .ok (.invokespecial index, 3))
    (hpre : ∀ vm₁, s.WarmedH vm₁ → Pre ⟨T.setVm vm₁, locs, cells, slots⟩ (Value.ref b :: argsL).toArray) :
    (∃ (v : Option Value) (vm₁ : Vm) (B : Pt), s.WarmedH vm₁ ∧ Stand p l e R s m args below meth c B.U B.locs B.cells B.slots ∧ Post ⟨T.setVm vm₁, locs, cells, slots⟩ (Value.ref b :: argsL).toArray v B ∧
      ∀ target, Steps p.tables e below (B.U.setTop { g with pc := g.pc + 3, stack := v.toList ++ rest }) target → Steps p.tables e below (T.setTop g) target) ∨
    (∃ (q : Addr) (vm₁ : Vm) (B : Pt), s.WarmedH vm₁ ∧ Stand p l e R s m args below meth c B.U B.locs B.cells B.slots ∧ PostX ⟨T.setVm vm₁, locs, cells, slots⟩ (Value.ref b :: argsL).toArray q B ∧
      Steps p.tables e below (T.setTop g) ((B.U.setTop { g with stack := rest }).pushFrame (.throwing q))) := by
  obtain ⟨mk, methM, hnamed, hmethM, hstM, habM⟩ := Cond.instanceMethod_spec hinst
  obtain ⟨methM', cM, hmethM', -, -, -, -, -, -, hsigM⟩ := Cond.code_spec hnamed hcode
  cases hmethM.symm.trans hmethM'
  obtain ⟨ps, dk, kp, hps, hdk, hkp, hsuper, -, -, hnid⟩ := Cond.superclass_spec hown hsup
  have hn : s.methodNamed? ⟨y.cls, y.name, y.desc⟩ = some mk := hnamed
  have hpm : ps = mk.cls := Option.some.inj (hps.symm.trans (findClass_of_methodNamed hnamed))
  have hsub : s.vm.isSubclass ps mk.cls = true := by rw [hpm]; simp [Vm.isSubclass, Vm.isSubclassAux]
  obtain ⟨vm₁, X₁, hstep₁⟩ := X.invokespecialUp hexec hown hlink hsame hn hmethM hstM habM hno hdk hnid hps hsuper hsub (a := b) (cell := cellB) hcell
    (fun z h => by rw [h] at hobj; cases hobj) hkB (g := g) hg (argsL := argsL) (rest := rest) (hlen _ hsigM) hstack hdg
  rcases hK m meth c ⟨T.setVm vm₁, locs, cells, slots⟩ { g with stack := rest } (.invokespecial index) mk (Value.ref b :: argsL).toArray X₁ hg hsize hdg hW (X₁.named hnamed) (hpre vm₁ X₁.warmed) with ⟨v, B, X', hpost, hsteps⟩ | ⟨q, B, X', hpost, hsteps⟩
  · exact Or.inl ⟨v, vm₁, B, X₁.warmed, X', hpost, fun target h => hstep₁ _ (by rw [doInvoke_state]; exact hsteps.trans h)⟩
  · exact Or.inr ⟨q, vm₁, B, X₁.warmed, X', hpost, hstep₁ _ (by rw [doInvoke_state]; exact hsteps)⟩
theorem vx_runSU {y : MethodName} {bytes cc : ByteArray} {maxL nL mc ms n index : Nat} {ret : Option FieldType} {ws : List Cond} {rm : Room} {Pc : Array Value → State → Prop} {Qc : Array Value → State → Outcome → State → Prop} {XC : String → State → State → Prop} {free : Addr → Prop} {Ts : List Cond} {own C : String} {cC : ClassId} {b : Addr} {As rest : List Value} {g : JFrame}
    (hat : ClassAt s C cC) (S : CallFix p m c cc nL s args Ts own) (hM : vx_Met l y ws rm Pc Qc XC mc ms free) (cw : va_CS R s args own index y bytes maxL ret ws rm mc ms n) (hp : PreV s H C b Pc As)
    (hg : g.method = m) (hn : As.length = n) (hsize : g.locals.size = nL) (hstack : g.stack = As.reverse ++ .ref b :: rest) (hW : 2 * g.monitorRoom + (rest.map fun v => v.category).sum ≤ 8) (hdg : decode cc g.pc = .ok (.invokespecial index, 3)) (hf : cells + mc ≤ R.cells ∧ slots + ms ≤ R.slots) :
    vx_Run p l e R s m args below meth c H locs cells slots mc ms g rest (Qc (Value.ref b :: As).toArray) XC free := by
  obtain ⟨⟨hrc, hrs, hfr, hlo, hws, hcw⟩, hl1, hl2, hl3, hl4, hini, hcode, hno, hlen⟩ := cw
  have hK : vx_Back l R p e below s args y 3 8 (PreOf R mc ms Pc) (PostOf Qc mc ms free) (vx_Post XC mc ms free) := vx_back (bytes := bytes) (maxL := maxL) (ret := ret) hM hp.1 hrc hrs hfr hlo hws hcw (fun a' U hW => word_at hW (Or.inl (by first | rfl | simp [Cond.onTables, Cond.keeps, Cond.steady])) hini)
  obtain ⟨hx, hb, hml, ho, -⟩ := S
  obtain ⟨-, ⟨cellB, hcB, hoB, hclB⟩, hPc⟩ := hp
  obtain ⟨hfc, kB, hkB, -⟩ := hat
  cases hfc.symm.trans hclB
  intro T hT X
  rcases vx_callSU X hx (bytes := bytes) (maxL := maxL) (ret := ret) ho hl1 hl2 hl3 hl4 hcode hno hK (by rw [hT]; exact hcB) hoB hkB hg (hsize.trans hml.symm) (argsL := As) (rest := rest) (fun sig h => hn.trans (hlen sig h)) hstack hW (by rw [hb]; exact hdg)
    (fun vm₁ hW₁ => ⟨hf.1, hf.2, hPc (T.setVm vm₁) hT hW₁⟩) with ⟨v, vm₁, ⟨U', l2, c2, s2⟩, hW₁, X', ⟨g', mk, t, L, e1, e2, hq, h1, hL, h2, h3⟩, st⟩ | ⟨q, vm₁, ⟨U', l2, c2, s2⟩, hW₁, X', ⟨g', mk, t, L, E, ce, e1, e2, hq, hce, hcv, hcl, h1, hL, h2, h3⟩, st⟩
  · dsimp only [Pt.U, Pt.locs, Pt.cells, Pt.slots] at X' e1 e2 h1 h2 h3 st
    subst h1; subst h2; subst h3
    exact Or.inl ⟨v, (T.setVm vm₁).calling g' mk (Value.ref b :: As).toArray, t, U', L, hT, X', hL, e1, e2, hq, st⟩
  · dsimp only [Pt.U, Pt.locs, Pt.cells, Pt.slots] at X' e1 e2 h1 h2 h3 st hcl
    subst h1; subst h2; subst h3
    exact Or.inr ⟨q, (T.setVm vm₁).calling g' mk (Value.ref b :: As).toArray, t, U', L, E, ce, hT, X', hL, e1, e2, hq, hce, hcv, vx_cls hW₁ hcl, st⟩
end
/-! ===== END ===== -/
/-! ===== BEGIN a private method of a nest mate that may throw (follows va_callVN, va_callSN, va_runVN, va_runSN) ===== -/
section
variable {p : Program} {l : Launch} {e : Env} {R : Room} {s : State} {m : MethodId} {args : Array Value} {below : List Frame} {meth : Method} {c : Code} {H : Heap} {locs : List Loc} {cells slots : Nat}
variable {T : State}
theorem vx_callVN (X : Stand p l e R s m args below meth c T locs cells slots) (hexec : p.tables.exec = Jvm.exec) {own C : String} {index : Nat} {host : String} {y : MethodName} {bytes : ByteArray} {maxL : Nat} {ret : Option FieldType}
    (hown : s.vm.findClass own = some m.cls) (hlink : (Cond.methodLinkNest own index y host).before args s = true) (hinst : (Cond.instanceMethod y).before args s = true) (hsel : (Cond.selects C y y).before args s = true)
    (hcode : (Cond.code y bytes maxL ret).before args s = true) (hy : y.cls ≠ "java/lang/invoke/MethodHandle" ∧ y.cls ≠ "java/lang/invoke/VarHandle")
    {W : Nat} {Pre : Pt → Array Value → Prop} {Post : Pt → Array Value → Option Value → Pt → Prop} {PostX : Pt → Array Value → Addr → Pt → Prop} (hK : vx_Back l R p e below s args y 3 W Pre Post PostX)
    {b : Addr} {cellB : Cell} (hcell : T.heap[b]? = some cellB) (hobj : cellB.vm.isStatics = false) (hcls : s.vm.findClass C = some cellB.cls)
    {g : JFrame} (hg : g.method = m) (hsize : g.locals.size = c.maxLocals) {argsL rest : List Value} (hlen : ∀ sig, parseMethodDescriptor y.desc = some sig → argsL.length = sig.parameters.length)
    (hstack : g.stack = argsL.reverse ++ .ref b :: rest) (hW : 2 * g.monitorRoom + (rest.map fun v => v.category).sum ≤ W) (hdg : decode c.code g.pc = .ok (.invokevirtual index, 3))
    (hpre : ∀ vm₁, s.WarmedH vm₁ → Pre ⟨T.setVm vm₁, locs, cells, slots⟩ (Value.ref b :: argsL).toArray) :
    (∃ (v : Option Value) (vm₁ : Vm) (B : Pt), s.WarmedH vm₁ ∧ Stand p l e R s m args below meth c B.U B.locs B.cells B.slots ∧ Post ⟨T.setVm vm₁, locs, cells, slots⟩ (Value.ref b :: argsL).toArray v B ∧
      ∀ target, Steps p.tables e below (B.U.setTop { g with pc := g.pc + 3, stack := v.toList ++ rest }) target → Steps p.tables e below (T.setTop g) target) ∨
    (∃ (q : Addr) (vm₁ : Vm) (B : Pt), s.WarmedH vm₁ ∧ Stand p l e R s m args below meth c B.U B.locs B.cells B.slots ∧ PostX ⟨T.setVm vm₁, locs, cells, slots⟩ (Value.ref b :: argsL).toArray q B ∧
      Steps p.tables e below (T.setTop g) ((B.U.setTop { g with stack := rest }).pushFrame (.throwing q))) := by
  obtain ⟨mk, methM, hnamed, hmethM, hstM, habM⟩ := Cond.instanceMethod_spec hinst
  obtain ⟨methM', cM, hmethM', -, -, -, -, -, -, hsigM⟩ := Cond.code_spec hnamed hcode
  cases hmethM.symm.trans hmethM'
  obtain ⟨c2, r2, m2, q1, q2, q3, q4, kP, hkP, hkPi⟩ := Cond.selects_spec hsel
  cases hcls.symm.trans q1
  cases (State.methodFound?_of_named hnamed hy).symm.trans q2
  cases hnamed.symm.trans q3
  have hselP : selectMethod e.platform s.vm cellB.cls mk = .method mk := by rw [Launch.admits_selectMethod X.admits]; exact q4
  obtain ⟨vm₁, X₁, hstep₁⟩ := X.invokevirtualNest hexec hown hlink hnamed hmethM hstM hkP hkPi hy (a := b) (cell := cellB) hcell
    (fun z h => by rw [h] at hobj; cases hobj) hselP hmethM habM hkP hkPi (g := g) hg (argsL := argsL) (rest := rest) (hlen _ hsigM) hstack hdg
  rcases hK m meth c ⟨T.setVm vm₁, locs, cells, slots⟩ { g with stack := rest } (.invokevirtual index) mk (Value.ref b :: argsL).toArray X₁ hg hsize hdg hW (X₁.named hnamed) (hpre vm₁ X₁.warmed) with ⟨v, B, X', hpost, hsteps⟩ | ⟨q, B, X', hpost, hsteps⟩
  · exact Or.inl ⟨v, vm₁, B, X₁.warmed, X', hpost, fun target h => hstep₁ _ fun acts => by rw [doInvoke_state]; exact hsteps.trans h⟩
  · exact Or.inr ⟨q, vm₁, B, X₁.warmed, X', hpost, hstep₁ _ fun acts => by rw [doInvoke_state]; exact hsteps⟩
theorem vx_callSN (X : Stand p l e R s m args below meth c T locs cells slots) (hexec : p.tables.exec = Jvm.exec) {own : String} {index : Nat} {host : String} {y : MethodName} {bytes : ByteArray} {maxL : Nat} {ret : Option FieldType}
    (hown : s.vm.findClass own = some m.cls) (hlink : (Cond.methodLinkNest own index y host).before args s = true) (hstat : (Cond.static y).before args s = true) (hinit : (Cond.initialized y.cls).before args s = true)
    (hcode : (Cond.code y bytes maxL ret).before args s = true) (hy : y.cls ≠ "java/lang/invoke/MethodHandle" ∧ y.cls ≠ "java/lang/invoke/VarHandle")
    {W : Nat} {Pre : Pt → Array Value → Prop} {Post : Pt → Array Value → Option Value → Pt → Prop} {PostX : Pt → Array Value → Addr → Pt → Prop} (hK : vx_Back l R p e below s args y 3 W Pre Post PostX)
    {g : JFrame} (hg : g.method = m) (hsize : g.locals.size = c.maxLocals) {argsL rest : List Value} (hlen : ∀ sig, parseMethodDescriptor y.desc = some sig → argsL.length = sig.parameters.length)
    (hstack : g.stack = argsL.reverse ++ rest) (hW : 2 * g.monitorRoom + (rest.map fun v => v.category).sum ≤ W) (hdg : decode c.code g.pc = .ok (.invokestatic index, 3))
    (hpre : ∀ vm₁, s.WarmedH vm₁ → Pre ⟨T.setVm vm₁, locs, cells, slots⟩ argsL.toArray) :
    (∃ (v : Option Value) (vm₁ : Vm) (B : Pt), s.WarmedH vm₁ ∧ Stand p l e R s m args below meth c B.U B.locs B.cells B.slots ∧ Post ⟨T.setVm vm₁, locs, cells, slots⟩ argsL.toArray v B ∧
      ∀ target, Steps p.tables e below (B.U.setTop { g with pc := g.pc + 3, stack := v.toList ++ rest }) target → Steps p.tables e below (T.setTop g) target) ∨
    (∃ (q : Addr) (vm₁ : Vm) (B : Pt), s.WarmedH vm₁ ∧ Stand p l e R s m args below meth c B.U B.locs B.cells B.slots ∧ PostX ⟨T.setVm vm₁, locs, cells, slots⟩ argsL.toArray q B ∧
      Steps p.tables e below (T.setTop g) ((B.U.setTop { g with stack := rest }).pushFrame (.throwing q))) := by
  obtain ⟨mk, hnamed⟩ := Cond.code_named hcode
  obtain ⟨methM, cM, hmethM, -, -, -, -, -, -, hsigM⟩ := Cond.code_spec hnamed hcode
  have hstatic : methM.isStatic = true := Cond.static_spec hnamed hmethM hstat
  obtain ⟨kP, hkP, -⟩ := className_of_methodNamed hnamed
  have hinitP : kP.init = .initialized := Cond.initialized_spec (findClass_of_methodNamed hnamed) hkP hinit
  obtain ⟨vm₁, X₁, hstep₁⟩ := X.invokestaticNest hexec hown hlink hnamed hmethM hstatic hkP hinitP hy (g := g) hg (argsL := argsL) (rest := rest) (hlen _ hsigM) hstack hdg
  rcases hK m meth c ⟨T.setVm vm₁, locs, cells, slots⟩ { g with stack := rest } (.invokestatic index) mk argsL.toArray X₁ hg hsize hdg hW (X₁.named hnamed) (hpre vm₁ X₁.warmed) with ⟨v, B, X', hpost, hsteps⟩ | ⟨q, B, X', hpost, hsteps⟩
  · exact Or.inl ⟨v, vm₁, B, X₁.warmed, X', hpost, fun target h => hstep₁ _ fun acts => by rw [doInvoke_state]; exact hsteps.trans h⟩
  · exact Or.inr ⟨q, vm₁, B, X₁.warmed, X', hpost, hstep₁ _ fun acts => by rw [doInvoke_state]; exact hsteps⟩
theorem vx_runVN {y : MethodName} {bytes cc : ByteArray} {maxL nL mc ms n index : Nat} {ret : Option FieldType} {ws : List Cond} {rm : Room} {Pc : Array Value → State → Prop} {Qc : Array Value → State → Outcome → State → Prop} {XC : String → State → State → Prop} {free : Addr → Prop} {Ts : List Cond} {own C host : String} {b : Addr} {As rest : List Value} {g : JFrame}
    (S : CallFix p m c cc nL s args Ts own) (hM : vx_Met l y ws rm Pc Qc XC mc ms free) (cw : va_CN R s args own index y host bytes maxL ret ws rm mc ms n ∧ (Cond.instanceMethod y).before args s = true ∧ (Cond.selects C y y).before args s = true) (hp : PreV s H C b Pc As)
    (hg : g.method = m) (hn : As.length = n) (hsize : g.locals.size = nL) (hstack : g.stack = As.reverse ++ .ref b :: rest) (hW : 2 * g.monitorRoom + (rest.map fun v => v.category).sum ≤ 8) (hdg : decode cc g.pc = .ok (.invokevirtual index, 3)) (hf : cells + mc ≤ R.cells ∧ slots + ms ≤ R.slots) :
    vx_Run p l e R s m args below meth c H locs cells slots mc ms g rest (Qc (Value.ref b :: As).toArray) XC free := by
  obtain ⟨⟨⟨hrc, hrs, hfr, hlo, hws, hcw⟩, hcode, hini, hy, hlen, hl⟩, hx1, hx2⟩ := cw
  have hK : vx_Back l R p e below s args y 3 8 (PreOf R mc ms Pc) (PostOf Qc mc ms free) (vx_Post XC mc ms free) := vx_back (bytes := bytes) (maxL := maxL) (ret := ret) hM hp.1 hrc hrs hfr hlo hws hcw (fun a' U hW => word_at hW (Or.inl (by first | rfl | simp [Cond.onTables, Cond.keeps, Cond.steady])) hini)
  obtain ⟨hx, hb, hml, ho, -⟩ := S
  obtain ⟨-, ⟨cellB, hcB, hoB, hclB⟩, hPc⟩ := hp
  intro T hT X
  rcases vx_callVN X hx (C := C) (bytes := bytes) (maxL := maxL) (ret := ret) ho hl hx1 hx2 hcode hy hK (by rw [hT]; exact hcB) hoB hclB hg (hsize.trans hml.symm) (argsL := As) (rest := rest) (fun sig h => hn.trans (hlen sig h)) hstack hW (by rw [hb]; exact hdg)
    (fun vm₁ hW₁ => ⟨hf.1, hf.2, hPc (T.setVm vm₁) hT hW₁⟩) with ⟨v, vm₁, ⟨U', l2, c2, s2⟩, hW₁, X', ⟨g', mk, t, L, e1, e2, hq, h1, hL, h2, h3⟩, st⟩ | ⟨q, vm₁, ⟨U', l2, c2, s2⟩, hW₁, X', ⟨g', mk, t, L, E, ce, e1, e2, hq, hce, hcv, hcl, h1, hL, h2, h3⟩, st⟩
  · dsimp only [Pt.U, Pt.locs, Pt.cells, Pt.slots] at X' e1 e2 h1 h2 h3 st
    subst h1; subst h2; subst h3
    exact Or.inl ⟨v, (T.setVm vm₁).calling g' mk (Value.ref b :: As).toArray, t, U', L, hT, X', hL, e1, e2, hq, st⟩
  · dsimp only [Pt.U, Pt.locs, Pt.cells, Pt.slots] at X' e1 e2 h1 h2 h3 st hcl
    subst h1; subst h2; subst h3
    exact Or.inr ⟨q, (T.setVm vm₁).calling g' mk (Value.ref b :: As).toArray, t, U', L, E, ce, hT, X', hL, e1, e2, hq, hce, hcv, vx_cls hW₁ hcl, st⟩
theorem vx_runSN {y : MethodName} {bytes cc : ByteArray} {maxL nL mc ms n index : Nat} {ret : Option FieldType} {ws : List Cond} {rm : Room} {Pc : Array Value → State → Prop} {Qc : Array Value → State → Outcome → State → Prop} {XC : String → State → State → Prop} {free : Addr → Prop} {Ts : List Cond} {own host : String} {As rest : List Value} {g : JFrame}
    (S : CallFix p m c cc nL s args Ts own) (hM : vx_Met l y ws rm Pc Qc XC mc ms free) (cw : va_CN R s args own index y host bytes maxL ret ws rm mc ms n ∧ (Cond.static y).before args s = true ∧ True) (hp : PreS s H Pc As)
    (hg : g.method = m) (hn : As.length = n) (hsize : g.locals.size = nL) (hstack : g.stack = As.reverse ++ rest) (hW : 2 * g.monitorRoom + (rest.map fun v => v.category).sum ≤ 8) (hdg : decode cc g.pc = .ok (.invokestatic index, 3)) (hf : cells + mc ≤ R.cells ∧ slots + ms ≤ R.slots) :
    vx_Run p l e R s m args below meth c H locs cells slots mc ms g rest (Qc As.toArray) XC free := by
  obtain ⟨⟨⟨hrc, hrs, hfr, hlo, hws, hcw⟩, hcode, hini, hy, hlen, hl⟩, hx1, hx2⟩ := cw
  have hK : vx_Back l R p e below s args y 3 8 (PreOf R mc ms Pc) (PostOf Qc mc ms free) (vx_Post XC mc ms free) := vx_back (bytes := bytes) (maxL := maxL) (ret := ret) hM hp.1 hrc hrs hfr hlo hws hcw (fun a' U hW => word_at hW (Or.inl (by first | rfl | simp [Cond.onTables, Cond.keeps, Cond.steady])) hini)
  obtain ⟨hx, hb, hml, ho, -⟩ := S
  have hPc := hp.2
  intro T hT X
  rcases vx_callSN X hx (bytes := bytes) (maxL := maxL) (ret := ret) ho hl hx1 hini hcode hy hK hg (hsize.trans hml.symm) (argsL := As) (rest := rest) (fun sig h => hn.trans (hlen sig h)) hstack hW (by rw [hb]; exact hdg)
    (fun vm₁ hW₁ => ⟨hf.1, hf.2, hPc (T.setVm vm₁) hT hW₁⟩) with ⟨v, vm₁, ⟨U', l2, c2, s2⟩, hW₁, X', ⟨g', mk, t, L, e1, e2, hq, h1, hL, h2, h3⟩, st⟩ | ⟨q, vm₁, ⟨U', l2, c2, s2⟩, hW₁, X', ⟨g', mk, t, L, E, ce, e1, e2, hq, hce, hcv, hcl, h1, hL, h2, h3⟩, st⟩
  · dsimp only [Pt.U, Pt.locs, Pt.cells, Pt.slots] at X' e1 e2 h1 h2 h3 st
    subst h1; subst h2; subst h3
    exact Or.inl ⟨v, (T.setVm vm₁).calling g' mk As.toArray, t, U', L, hT, X', hL, e1, e2, hq, st⟩
  · dsimp only [Pt.U, Pt.locs, Pt.cells, Pt.slots] at X' e1 e2 h1 h2 h3 st hcl
    subst h1; subst h2; subst h3
    exact Or.inr ⟨q, (T.setVm vm₁).calling g' mk As.toArray, t, U', L, E, ce, hT, X', hL, e1, e2, hq, hce, hcv, vx_cls hW₁ hcl, st⟩
end
/-! ===== END ===== -/
/-! ===== BEGIN calls by an interface of methods that may throw (vx_callIF, vx_runF follow va_callIF, va_runF of this kit) ===== -/
section
variable {p : Program} {l : Launch} {e : Env} {R : Room} {s : State} {m : MethodId} {args : Array Value} {below : List Frame} {meth : Method} {c : Code} {H : Heap} {locs : List Loc} {cells slots : Nat} {Q : State → Prop}
variable {mc ms : Nat} {free : Addr → Prop} {A0 A1 : Nat → Prop} {H0 : Heap} {a : Array Value} {pc : Nat} {ls : Array Slot} {st0 rest : List Value}
def vx_Run5 (p : Program) (l : Launch) (e : Env) (R : Room) (s : State) (m : MethodId) (args : Array Value) (below : List Frame) (meth : Method) (c : Code) (H : Heap) (locs : List Loc) (cells slots mc ms : Nat) (g : JFrame) (rest : List Value) (Qa : State → Outcome → State → Prop) (XC : String → State → State → Prop) (free : Addr → Prop) : Prop :=
  ∀ T : State, T.heap = H → Stand p l e R s m args below meth c T locs cells slots →
    (∃ (v : Option Value) (st₀ t T' : State) (L : List Loc), st₀.heap = H ∧ Stand p l e R s m args below meth c T' (locs ++ L) (cells + mc) (slots + ms) ∧ (∀ q ∈ L, free q.base) ∧ T'.heap = t.heap ∧ T'.vm = t.vm ∧ Qa st₀ (.returned v) t ∧
      Goes p e below T g T' { g with pc := g.pc + 5, stack := v.toList ++ rest }) ∨
    (∃ (q : Addr) (st₀ t T' : State) (L : List Loc) (E : String) (ce : Cell), st₀.heap = H ∧ Stand p l e R s m args below meth c T' (locs ++ L) (cells + mc) (slots + ms) ∧ (∀ z ∈ L, free z.base) ∧ T'.heap = t.heap ∧ T'.vm = t.vm ∧ XC E st₀ t ∧ t.heap[q]? = some ce ∧ ce.vm = .none ∧ s.vm.findClass E = some ce.cls ∧
      Steps p.tables e below (T.setTop g) ((T'.setTop { g with stack := rest }).pushFrame (.throwing q)))
theorem vx_callIF {T : State} (X : Stand p l e R s m args below meth c T locs cells slots) (hexec : p.tables.exec = Jvm.exec) {own C : String} {index count : Nat} {x y : MethodName} {bytes : ByteArray} {maxL : Nat} {ret : Option FieldType}
    (hown : s.vm.findClass own = some m.cls) (hlink : (Cond.methodLink own index x).before args s = true) (hdecl : (Cond.declares x).before args s = true) (hface : (Cond.interfaceMethod x.cls x.cls x.name x.desc).before args s = true)
    (hsel : (Cond.selects C x y).before args s = true) (hinst : (Cond.instanceMethod y).before args s = true) (hpub : (Cond.publicMethod y).before args s = true) (hunh : (Cond.unhidden C x.name x.desc).before args s = true)
    (hcast : (Cond.castable C x.cls).before args s = true) (hcode : (Cond.code y bytes maxL ret).before args s = true) (hx : x.cls ≠ "java/lang/invoke/MethodHandle" ∧ x.cls ≠ "java/lang/invoke/VarHandle")
    {W9 : Nat} {Pre : Pt → Array Value → Prop} {Post : Pt → Array Value → Option Value → Pt → Prop} {PostX : Pt → Array Value → Addr → Pt → Prop} (hK : vx_Back l R p e below s args y 5 W9 Pre Post PostX)
    {b : Addr} {cellB : Cell} {kB : Class} (hcell : T.heap[b]? = some cellB) (hobj : cellB.vm.isStatics = false) (hcls : s.vm.findClass C = some cellB.cls) (hkB : s.vm.classes[cellB.cls]? = some kB)
    {g : JFrame} (hg : g.method = m) (hsize : g.locals.size = c.maxLocals) {argsL rest : List Value} (hlen : ∀ sig, parseMethodDescriptor x.desc = some sig → argsL.length = sig.parameters.length)
    (hstack : g.stack = argsL.reverse ++ .ref b :: rest) (hW : 2 * g.monitorRoom + (rest.map fun v => v.category).sum ≤ W9) (hdg : decode c.code g.pc = .ok (.invokeinterface index count, 5))
    (hpre : ∀ vm₁, s.WarmedH vm₁ → Pre ⟨T.setVm vm₁, locs, cells, slots⟩ (Value.ref b :: argsL).toArray) :
    (∃ (v : Option Value) (vm₁ : Vm) (B : Pt), s.WarmedH vm₁ ∧ Stand p l e R s m args below meth c B.U B.locs B.cells B.slots ∧ Post ⟨T.setVm vm₁, locs, cells, slots⟩ (Value.ref b :: argsL).toArray v B ∧
      ∀ target, Steps p.tables e below (B.U.setTop { g with pc := g.pc + 5, stack := v.toList ++ rest }) target → Steps p.tables e below (T.setTop g) target) ∨
    (∃ (q : Addr) (vm₁ : Vm) (B : Pt), s.WarmedH vm₁ ∧ Stand p l e R s m args below meth c B.U B.locs B.cells B.slots ∧ PostX ⟨T.setVm vm₁, locs, cells, slots⟩ (Value.ref b :: argsL).toArray q B ∧
      Steps p.tables e below (T.setTop g) ((B.U.setTop { g with stack := rest }).pushFrame (.throwing q))) := by
  obtain ⟨r0, r, hn, hrm, hstR, hsigR⟩ := Cond.declares_spec hdecl
  obtain ⟨cL, kL, r1, hcL, hkL, hiL, hfoundL, hn1⟩ := Cond.interfaceMethod_spec hface
  cases hn.symm.trans hn1
  have hr0cls : r0.cls = cL := Option.some.inj ((findClass_of_methodNamed hn).symm.trans hcL)
  obtain ⟨hnameR, hdescR⟩ := name_of_methodNamed hn hrm
  obtain ⟨mk, methM, hnamed, hmethM, -, habM⟩ := Cond.instanceMethod_spec hinst
  obtain ⟨c2, r2, m2, q1, q2, q3, q4, -⟩ := Cond.selects_spec hsel
  cases hcls.symm.trans q1
  cases hfoundL.symm.trans q2
  cases hnamed.symm.trans q3
  have hselP : selectMethod e.platform s.vm cellB.cls r0 = .method mk := by rw [Launch.admits_selectMethod X.admits]; exact q4
  have hpubM : hasFlag methM.accessFlags Acc.public_ = true := Cond.publicMethod_spec hnamed hmethM hpub
  have hway : ((cellB.cls :: s.vm.superclasses cellB.cls).any fun k => (declaredIn s.vm r.name r.desc k).any fun (_, z) => z.isPrivate || z.isStatic) = false := by
    rw [hnameR, hdescR]; exact Cond.unhidden_spec hcls hunh
  obtain ⟨c3, t3, w1, w2, w3⟩ := Cond.castable_spec hcast
  cases hcls.symm.trans w1
  cases hcL.symm.trans w2
  obtain ⟨vm₁, X₁, hstep₁⟩ := X.invokeinterface hexec hown hlink hn hrm hstR (by rw [hr0cls]; exact hkL) hiL hx (a := b) (cell := cellB) (kcell := kB) hcell
    (fun z h => by rw [h] at hobj; cases hobj) hkB (by rw [hr0cls]; exact w3) hselP hmethM hway hpubM habM (g := g) hg (argsL := argsL) (rest := rest) (hlen _ hsigR) hstack hdg
  rcases hK m meth c ⟨T.setVm vm₁, locs, cells, slots⟩ { g with stack := rest } (.invokeinterface index count) mk (Value.ref b :: argsL).toArray X₁ hg hsize hdg hW (X₁.named hnamed) (hpre vm₁ X₁.warmed) with ⟨v, B, X', hpost, hsteps⟩ | ⟨q, B, X', hpost, hsteps⟩
  · exact Or.inl ⟨v, vm₁, B, X₁.warmed, X', hpost, fun target h => hstep₁ _ fun acts => by rw [doInvoke_state]; exact hsteps.trans h⟩
  · exact Or.inr ⟨q, vm₁, B, X₁.warmed, X', hpost, hstep₁ _ fun acts => by rw [doInvoke_state]; exact hsteps⟩
theorem vx_runF {x y : MethodName} {bytes cc : ByteArray} {maxL nL mc ms n index count : Nat} {ret : Option FieldType} {ws : List Cond} {rm : Room} {Pc : Array Value → State → Prop} {Qc : Array Value → State → Outcome → State → Prop} {XC : String → State → State → Prop} {free : Addr → Prop} {Ts : List Cond} {own C : String} {cC : ClassId} {b : Addr} {As rest : List Value} {g : JFrame}
    (hat : ClassAt s C cC) (S : CallFix p m c cc nL s args Ts own) (hM : vx_Met l y ws rm Pc Qc XC mc ms free) (cw : va_CI R s args own C index x y bytes maxL ret ws rm mc ms n) (hp : PreV s H C b Pc As)
    (hg : g.method = m) (hn : As.length = n) (hsize : g.locals.size = nL) (hstack : g.stack = As.reverse ++ .ref b :: rest) (hW : 2 * g.monitorRoom + (rest.map fun v => v.category).sum ≤ 8) (hdg : decode cc g.pc = .ok (.invokeinterface index count, 5)) (hf : cells + mc ≤ R.cells ∧ slots + ms ≤ R.slots) :
    vx_Run5 p l e R s m args below meth c H locs cells slots mc ms g rest (Qc (Value.ref b :: As).toArray) XC free := by
  obtain ⟨hrc, hrs, hfr, hlo, hws, hcw⟩ := cw.back
  have hini := cw.init
  have hK : vx_Back l R p e below s args y 5 8 (PreOf R mc ms Pc) (PostOf Qc mc ms free) (vx_Post XC mc ms free) := vx_back (bytes := bytes) (maxL := maxL) (ret := ret) hM hp.1 hrc hrs hfr hlo hws hcw (fun a' U hW => word_at hW (Or.inl (by first | rfl | simp [Cond.onTables, Cond.keeps, Cond.steady])) hini)
  obtain ⟨hx, hb, hml, ho, -⟩ := S
  obtain ⟨-, ⟨cellB, hcB, hoB, hclB⟩, hPc⟩ := hp
  obtain ⟨hfc, kB, hkB, -⟩ := hat
  cases hfc.symm.trans hclB
  intro T hT X
  rcases vx_callIF X hx (C := C) (bytes := bytes) (maxL := maxL) (ret := ret) ho cw.link cw.decl cw.face cw.sel cw.inst cw.pub cw.unh cw.cast cw.code cw.notMH hK (by rw [hT]; exact hcB) hoB hclB hkB hg (hsize.trans hml.symm) (argsL := As) (rest := rest) (fun sig h => hn.trans (cw.len sig h)) hstack hW (by rw [hb]; exact hdg)
    (fun vm₁ hW₁ => ⟨hf.1, hf.2, hPc (T.setVm vm₁) hT hW₁⟩) with ⟨v, vm₁, ⟨U', l2, c2, s2⟩, hW₁, X', ⟨g', mk, t, L, e1, e2, hq, h1, hL, h2, h3⟩, st⟩ | ⟨q, vm₁, ⟨U', l2, c2, s2⟩, hW₁, X', ⟨g', mk, t, L, E, ce, e1, e2, hq, hce, hcv, hcl, h1, hL, h2, h3⟩, st⟩
  · dsimp only [Pt.U, Pt.locs, Pt.cells, Pt.slots] at X' e1 e2 h1 h2 h3 st
    subst h1; subst h2; subst h3
    exact Or.inl ⟨v, (T.setVm vm₁).calling g' mk (Value.ref b :: As).toArray, t, U', L, hT, X', hL, e1, e2, hq, st⟩
  · dsimp only [Pt.U, Pt.locs, Pt.cells, Pt.slots] at X' e1 e2 h1 h2 h3 st hcl
    subst h1; subst h2; subst h3
    exact Or.inr ⟨q, (T.setVm vm₁).calling g' mk (Value.ref b :: As).toArray, t, U', L, E, ce, hT, X', hL, e1, e2, hq, hce, hcv, vx_cls hW₁ hcl, st⟩
theorem vx_callFv {S SX : Type} {post : S → Prop} {px : SX → Prop} {B : S → State → Prop} {BX : String → SX → State → Prop} {AX : Nat → Prop} (hr : vx_Run5 p l e R s m args below meth c H locs cells slots mc ms (F0 m pc ls st0) rest (va_Qv post B A1 a) (vx_X px BX AX) free) (hS : va_S A0 H0 H locs) (hA : ∀ q, q < H.size → A1 q → A0 q) (hf : ∀ q, free q → A0 q) (hAX : ∀ q, q < H.size → AX q → A0 q)
    (kx : ∀ (E : String) (ce : Cell) (q9 : Addr) (u : SX) (t : State) (H1 : Heap) (locs1 : List Loc), t.heap = H1 → s.vm.Alike t.vm → px u → BX E u t → H.size ≤ H1.size → (∀ q : Nat, q < H.size → ¬ AX q → H1[q]? = H[q]?) → va_S A0 H0 H1 locs1 → H1[q9]? = some ce → ce.vm = .none → s.vm.findClass E = some ce.cls → vx_W p l e R s m args below meth c H1 locs1 (cells + mc) (slots + ms) Q (F0 m pc ls rest) q9)
    (kk : ∀ (u : S) (t : State) (H1 : Heap) (locs1 : List Loc), t.heap = H1 → s.vm.Alike t.vm → post u → B u t → H.size ≤ H1.size → (∀ q : Nat, q < H.size → ¬ A1 q → H1[q]? = H[q]?) → va_S A0 H0 H1 locs1 → W p l e R s m args below meth c H1 locs1 (cells + mc) (slots + ms) Q (F0 m (pc + 5) ls (rest))) : W p l e R s m args below meth c H locs cells slots Q (F0 m pc ls st0) := by
  intro T hT X
  rcases hr T hT X with ⟨v, st₀, t, T', L, h0, X', hL, e1, e2, ⟨⟨u, hv, hp, hb⟩, hF⟩, st⟩ | ⟨q, st₀, t, T', L, E, ce, h0, X', hL, e1, e2, ⟨u, hp, hb, hF⟩, hce, hcv, hcl, st⟩
  · cases hv
    obtain ⟨k1, k2, k3⟩ := vx_keep h0 e1 hS hA hf hL hF
    obtain ⟨t2, a1, b1⟩ := kk u t T'.heap (locs ++ L) e1.symm (by rw [← e2]; exact X'.warmed.alike) hp hb k1 k2 k3 T' rfl X'
    exact ⟨t2, st t2 a1, b1⟩
  · obtain ⟨k1, k2, k3⟩ := vx_keep h0 e1 hS hAX hf hL hF
    obtain ⟨t2, a1, b1⟩ := kx E ce q u t T'.heap (locs ++ L) e1.symm (by rw [← e2]; exact X'.warmed.alike) hp hb k1 k2 k3 (by rw [e1]; exact hce) hcv hcl T' rfl X'
    exact ⟨t2, st.trans a1, b1⟩
theorem vx_callFi {S SX : Type} {post : Int32 → S → Prop} {px : SX → Prop} {B : S → State → Prop} {BX : String → SX → State → Prop} {AX : Nat → Prop} (hr : vx_Run5 p l e R s m args below meth c H locs cells slots mc ms (F0 m pc ls st0) rest (va_Qi post B A1 a) (vx_X px BX AX) free) (hS : va_S A0 H0 H locs) (hA : ∀ q, q < H.size → A1 q → A0 q) (hf : ∀ q, free q → A0 q) (hAX : ∀ q, q < H.size → AX q → A0 q)
    (kx : ∀ (E : String) (ce : Cell) (q9 : Addr) (u : SX) (t : State) (H1 : Heap) (locs1 : List Loc), t.heap = H1 → s.vm.Alike t.vm → px u → BX E u t → H.size ≤ H1.size → (∀ q : Nat, q < H.size → ¬ AX q → H1[q]? = H[q]?) → va_S A0 H0 H1 locs1 → H1[q9]? = some ce → ce.vm = .none → s.vm.findClass E = some ce.cls → vx_W p l e R s m args below meth c H1 locs1 (cells + mc) (slots + ms) Q (F0 m pc ls rest) q9)
    (kk : ∀ (r : Int32) (u : S) (t : State) (H1 : Heap) (locs1 : List Loc), t.heap = H1 → s.vm.Alike t.vm → post r u → B u t → H.size ≤ H1.size → (∀ q : Nat, q < H.size → ¬ A1 q → H1[q]? = H[q]?) → va_S A0 H0 H1 locs1 → W p l e R s m args below meth c H1 locs1 (cells + mc) (slots + ms) Q (F0 m (pc + 5) ls (.int r :: rest))) : W p l e R s m args below meth c H locs cells slots Q (F0 m pc ls st0) := by
  intro T hT X
  rcases hr T hT X with ⟨v, st₀, t, T', L, h0, X', hL, e1, e2, ⟨⟨r, u, hv, hp, hb⟩, hF⟩, st⟩ | ⟨q, st₀, t, T', L, E, ce, h0, X', hL, e1, e2, ⟨u, hp, hb, hF⟩, hce, hcv, hcl, st⟩
  · cases hv
    obtain ⟨k1, k2, k3⟩ := vx_keep h0 e1 hS hA hf hL hF
    obtain ⟨t2, a1, b1⟩ := kk r u t T'.heap (locs ++ L) e1.symm (by rw [← e2]; exact X'.warmed.alike) hp hb k1 k2 k3 T' rfl X'
    exact ⟨t2, st t2 a1, b1⟩
  · obtain ⟨k1, k2, k3⟩ := vx_keep h0 e1 hS hAX hf hL hF
    obtain ⟨t2, a1, b1⟩ := kx E ce q u t T'.heap (locs ++ L) e1.symm (by rw [← e2]; exact X'.warmed.alike) hp hb k1 k2 k3 (by rw [e1]; exact hce) hcv hcl T' rfl X'
    exact ⟨t2, st.trans a1, b1⟩
theorem vx_callFl {S SX : Type} {post : Int64 → S → Prop} {px : SX → Prop} {B : S → State → Prop} {BX : String → SX → State → Prop} {AX : Nat → Prop} (hr : vx_Run5 p l e R s m args below meth c H locs cells slots mc ms (F0 m pc ls st0) rest (va_Ql post B A1 a) (vx_X px BX AX) free) (hS : va_S A0 H0 H locs) (hA : ∀ q, q < H.size → A1 q → A0 q) (hf : ∀ q, free q → A0 q) (hAX : ∀ q, q < H.size → AX q → A0 q)
    (kx : ∀ (E : String) (ce : Cell) (q9 : Addr) (u : SX) (t : State) (H1 : Heap) (locs1 : List Loc), t.heap = H1 → s.vm.Alike t.vm → px u → BX E u t → H.size ≤ H1.size → (∀ q : Nat, q < H.size → ¬ AX q → H1[q]? = H[q]?) → va_S A0 H0 H1 locs1 → H1[q9]? = some ce → ce.vm = .none → s.vm.findClass E = some ce.cls → vx_W p l e R s m args below meth c H1 locs1 (cells + mc) (slots + ms) Q (F0 m pc ls rest) q9)
    (kk : ∀ (r : Int64) (u : S) (t : State) (H1 : Heap) (locs1 : List Loc), t.heap = H1 → s.vm.Alike t.vm → post r u → B u t → H.size ≤ H1.size → (∀ q : Nat, q < H.size → ¬ A1 q → H1[q]? = H[q]?) → va_S A0 H0 H1 locs1 → W p l e R s m args below meth c H1 locs1 (cells + mc) (slots + ms) Q (F0 m (pc + 5) ls (.long r :: rest))) : W p l e R s m args below meth c H locs cells slots Q (F0 m pc ls st0) := by
  intro T hT X
  rcases hr T hT X with ⟨v, st₀, t, T', L, h0, X', hL, e1, e2, ⟨⟨r, u, hv, hp, hb⟩, hF⟩, st⟩ | ⟨q, st₀, t, T', L, E, ce, h0, X', hL, e1, e2, ⟨u, hp, hb, hF⟩, hce, hcv, hcl, st⟩
  · cases hv
    obtain ⟨k1, k2, k3⟩ := vx_keep h0 e1 hS hA hf hL hF
    obtain ⟨t2, a1, b1⟩ := kk r u t T'.heap (locs ++ L) e1.symm (by rw [← e2]; exact X'.warmed.alike) hp hb k1 k2 k3 T' rfl X'
    exact ⟨t2, st t2 a1, b1⟩
  · obtain ⟨k1, k2, k3⟩ := vx_keep h0 e1 hS hAX hf hL hF
    obtain ⟨t2, a1, b1⟩ := kx E ce q u t T'.heap (locs ++ L) e1.symm (by rw [← e2]; exact X'.warmed.alike) hp hb k1 k2 k3 (by rw [e1]; exact hce) hcv hcl T' rfl X'
    exact ⟨t2, st.trans a1, b1⟩
theorem vx_callFf {S SX : Type} {post : UInt32 → S → Prop} {px : SX → Prop} {B : S → State → Prop} {BX : String → SX → State → Prop} {AX : Nat → Prop} (hr : vx_Run5 p l e R s m args below meth c H locs cells slots mc ms (F0 m pc ls st0) rest (va_Qf post B A1 a) (vx_X px BX AX) free) (hS : va_S A0 H0 H locs) (hA : ∀ q, q < H.size → A1 q → A0 q) (hf : ∀ q, free q → A0 q) (hAX : ∀ q, q < H.size → AX q → A0 q)
    (kx : ∀ (E : String) (ce : Cell) (q9 : Addr) (u : SX) (t : State) (H1 : Heap) (locs1 : List Loc), t.heap = H1 → s.vm.Alike t.vm → px u → BX E u t → H.size ≤ H1.size → (∀ q : Nat, q < H.size → ¬ AX q → H1[q]? = H[q]?) → va_S A0 H0 H1 locs1 → H1[q9]? = some ce → ce.vm = .none → s.vm.findClass E = some ce.cls → vx_W p l e R s m args below meth c H1 locs1 (cells + mc) (slots + ms) Q (F0 m pc ls rest) q9)
    (kk : ∀ (r : UInt32) (u : S) (t : State) (H1 : Heap) (locs1 : List Loc), t.heap = H1 → s.vm.Alike t.vm → post r u → B u t → H.size ≤ H1.size → (∀ q : Nat, q < H.size → ¬ A1 q → H1[q]? = H[q]?) → va_S A0 H0 H1 locs1 → W p l e R s m args below meth c H1 locs1 (cells + mc) (slots + ms) Q (F0 m (pc + 5) ls (.float r :: rest))) : W p l e R s m args below meth c H locs cells slots Q (F0 m pc ls st0) := by
  intro T hT X
  rcases hr T hT X with ⟨v, st₀, t, T', L, h0, X', hL, e1, e2, ⟨⟨r, u, hv, hp, hb⟩, hF⟩, st⟩ | ⟨q, st₀, t, T', L, E, ce, h0, X', hL, e1, e2, ⟨u, hp, hb, hF⟩, hce, hcv, hcl, st⟩
  · cases hv
    obtain ⟨k1, k2, k3⟩ := vx_keep h0 e1 hS hA hf hL hF
    obtain ⟨t2, a1, b1⟩ := kk r u t T'.heap (locs ++ L) e1.symm (by rw [← e2]; exact X'.warmed.alike) hp hb k1 k2 k3 T' rfl X'
    exact ⟨t2, st t2 a1, b1⟩
  · obtain ⟨k1, k2, k3⟩ := vx_keep h0 e1 hS hAX hf hL hF
    obtain ⟨t2, a1, b1⟩ := kx E ce q u t T'.heap (locs ++ L) e1.symm (by rw [← e2]; exact X'.warmed.alike) hp hb k1 k2 k3 (by rw [e1]; exact hce) hcv hcl T' rfl X'
    exact ⟨t2, st.trans a1, b1⟩
theorem vx_callFd {S SX : Type} {post : UInt64 → S → Prop} {px : SX → Prop} {B : S → State → Prop} {BX : String → SX → State → Prop} {AX : Nat → Prop} (hr : vx_Run5 p l e R s m args below meth c H locs cells slots mc ms (F0 m pc ls st0) rest (va_Qd post B A1 a) (vx_X px BX AX) free) (hS : va_S A0 H0 H locs) (hA : ∀ q, q < H.size → A1 q → A0 q) (hf : ∀ q, free q → A0 q) (hAX : ∀ q, q < H.size → AX q → A0 q)
    (kx : ∀ (E : String) (ce : Cell) (q9 : Addr) (u : SX) (t : State) (H1 : Heap) (locs1 : List Loc), t.heap = H1 → s.vm.Alike t.vm → px u → BX E u t → H.size ≤ H1.size → (∀ q : Nat, q < H.size → ¬ AX q → H1[q]? = H[q]?) → va_S A0 H0 H1 locs1 → H1[q9]? = some ce → ce.vm = .none → s.vm.findClass E = some ce.cls → vx_W p l e R s m args below meth c H1 locs1 (cells + mc) (slots + ms) Q (F0 m pc ls rest) q9)
    (kk : ∀ (r : UInt64) (u : S) (t : State) (H1 : Heap) (locs1 : List Loc), t.heap = H1 → s.vm.Alike t.vm → post r u → B u t → H.size ≤ H1.size → (∀ q : Nat, q < H.size → ¬ A1 q → H1[q]? = H[q]?) → va_S A0 H0 H1 locs1 → W p l e R s m args below meth c H1 locs1 (cells + mc) (slots + ms) Q (F0 m (pc + 5) ls (.double r :: rest))) : W p l e R s m args below meth c H locs cells slots Q (F0 m pc ls st0) := by
  intro T hT X
  rcases hr T hT X with ⟨v, st₀, t, T', L, h0, X', hL, e1, e2, ⟨⟨r, u, hv, hp, hb⟩, hF⟩, st⟩ | ⟨q, st₀, t, T', L, E, ce, h0, X', hL, e1, e2, ⟨u, hp, hb, hF⟩, hce, hcv, hcl, st⟩
  · cases hv
    obtain ⟨k1, k2, k3⟩ := vx_keep h0 e1 hS hA hf hL hF
    obtain ⟨t2, a1, b1⟩ := kk r u t T'.heap (locs ++ L) e1.symm (by rw [← e2]; exact X'.warmed.alike) hp hb k1 k2 k3 T' rfl X'
    exact ⟨t2, st t2 a1, b1⟩
  · obtain ⟨k1, k2, k3⟩ := vx_keep h0 e1 hS hAX hf hL hF
    obtain ⟨t2, a1, b1⟩ := kx E ce q u t T'.heap (locs ++ L) e1.symm (by rw [← e2]; exact X'.warmed.alike) hp hb k1 k2 k3 (by rw [e1]; exact hce) hcv hcl T' rfl X'
    exact ⟨t2, st.trans a1, b1⟩
end
/-! ===== END ===== -/
/-! ===== BEGIN by an interface, a method with a table of its own that may throw (follows va_callIFW, va_runFW) ===== -/
section
variable {p : Program} {l : Launch} {e : Env} {R : Room} {s : State} {m : MethodId} {args : Array Value} {below : List Frame} {meth : Method} {c : Code} {H : Heap} {locs : List Loc} {cells slots : Nat}
theorem vx_callIFW {T : State} (X : Stand p l e R s m args below meth c T locs cells slots) (hexec : p.tables.exec = Jvm.exec) {own C : String} {index count : Nat} {x y : MethodName} {bytes : ByteArray} {maxL : Nat} {ret : Option FieldType} {hh : List (Nat × Nat × Nat × Nat)}
    (hown : s.vm.findClass own = some m.cls) (hlink : (Cond.methodLink own index x).before args s = true) (hdecl : (Cond.declares x).before args s = true) (hface : (Cond.interfaceMethod x.cls x.cls x.name x.desc).before args s = true)
    (hsel : (Cond.selects C x y).before args s = true) (hinst : (Cond.instanceMethod y).before args s = true) (hpub : (Cond.publicMethod y).before args s = true) (hunh : (Cond.unhidden C x.name x.desc).before args s = true)
    (hcast : (Cond.castable C x.cls).before args s = true) (hcode : (Cond.codeWith y bytes maxL ret hh).before args s = true) (hx : x.cls ≠ "java/lang/invoke/MethodHandle" ∧ x.cls ≠ "java/lang/invoke/VarHandle")
    {W : Nat} {Pre : Pt → Array Value → Prop} {Post : Pt → Array Value → Option Value → Pt → Prop} {PostX : Pt → Array Value → Addr → Pt → Prop} (hK : vx_Back l R p e below s args y 5 W Pre Post PostX)
    {b : Addr} {cellB : Cell} {kB : Class} (hcell : T.heap[b]? = some cellB) (hobj : cellB.vm.isStatics = false) (hcls : s.vm.findClass C = some cellB.cls) (hkB : s.vm.classes[cellB.cls]? = some kB)
    {g : JFrame} (hg : g.method = m) (hsize : g.locals.size = c.maxLocals) {argsL rest : List Value} (hlen : ∀ sig, parseMethodDescriptor x.desc = some sig → argsL.length = sig.parameters.length)
    (hstack : g.stack = argsL.reverse ++ .ref b :: rest) (hW : 2 * g.monitorRoom + (rest.map fun v => v.category).sum ≤ W) (hdg : decode c.code g.pc = .ok (.invokeinterface index count, 5))
    (hpre : ∀ vm₁, s.WarmedH vm₁ → Pre ⟨T.setVm vm₁, locs, cells, slots⟩ (Value.ref b :: argsL).toArray) :
    (∃ (v : Option Value) (vm₁ : Vm) (B : Pt), s.WarmedH vm₁ ∧ Stand p l e R s m args below meth c B.U B.locs B.cells B.slots ∧ Post ⟨T.setVm vm₁, locs, cells, slots⟩ (Value.ref b :: argsL).toArray v B ∧
      ∀ target, Steps p.tables e below (B.U.setTop { g with pc := g.pc + 5, stack := v.toList ++ rest }) target → Steps p.tables e below (T.setTop g) target) ∨
    (∃ (q : Addr) (vm₁ : Vm) (B : Pt), s.WarmedH vm₁ ∧ Stand p l e R s m args below meth c B.U B.locs B.cells B.slots ∧ PostX ⟨T.setVm vm₁, locs, cells, slots⟩ (Value.ref b :: argsL).toArray q B ∧
      Steps p.tables e below (T.setTop g) ((B.U.setTop { g with stack := rest }).pushFrame (.throwing q))) := by
  obtain ⟨r0, r, hn, hrm, hstR, hsigR⟩ := Cond.declares_spec hdecl
  obtain ⟨cL, kL, r1, hcL, hkL, hiL, hfoundL, hn1⟩ := Cond.interfaceMethod_spec hface
  cases hn.symm.trans hn1
  have hr0cls : r0.cls = cL := Option.some.inj ((findClass_of_methodNamed hn).symm.trans hcL)
  obtain ⟨hnameR, hdescR⟩ := name_of_methodNamed hn hrm
  obtain ⟨mk, methM, hnamed, hmethM, -, habM⟩ := Cond.instanceMethod_spec hinst
  obtain ⟨c2, r2, m2, q1, q2, q3, q4, -⟩ := Cond.selects_spec hsel
  cases hcls.symm.trans q1
  cases hfoundL.symm.trans q2
  cases hnamed.symm.trans q3
  have hselP : selectMethod e.platform s.vm cellB.cls r0 = .method mk := by rw [Launch.admits_selectMethod X.admits]; exact q4
  have hpubM : hasFlag methM.accessFlags Acc.public_ = true := Cond.publicMethod_spec hnamed hmethM hpub
  have hway : ((cellB.cls :: s.vm.superclasses cellB.cls).any fun k => (declaredIn s.vm r.name r.desc k).any fun (_, z) => z.isPrivate || z.isStatic) = false := by
    rw [hnameR, hdescR]; exact Cond.unhidden_spec hcls hunh
  obtain ⟨c3, t3, w1, w2, w3⟩ := Cond.castable_spec hcast
  cases hcls.symm.trans w1
  cases hcL.symm.trans w2
  obtain ⟨vm₁, X₁, hstep₁⟩ := X.invokeinterface hexec hown hlink hn hrm hstR (by rw [hr0cls]; exact hkL) hiL hx (a := b) (cell := cellB) (kcell := kB) hcell
    (fun z h => by rw [h] at hobj; cases hobj) hkB (by rw [hr0cls]; exact w3) hselP hmethM hway hpubM habM (g := g) hg (argsL := argsL) (rest := rest) (hlen _ hsigR) hstack hdg
  rcases hK m meth c ⟨T.setVm vm₁, locs, cells, slots⟩ { g with stack := rest } (.invokeinterface index count) mk (Value.ref b :: argsL).toArray X₁ hg hsize hdg hW (X₁.named hnamed) (hpre vm₁ X₁.warmed) with ⟨v, B, X', hpost, hsteps⟩ | ⟨q, B, X', hpost, hsteps⟩
  · exact Or.inl ⟨v, vm₁, B, X₁.warmed, X', hpost, fun target h => hstep₁ _ fun acts => by rw [doInvoke_state]; exact hsteps.trans h⟩
  · exact Or.inr ⟨q, vm₁, B, X₁.warmed, X', hpost, hstep₁ _ fun acts => by rw [doInvoke_state]; exact hsteps⟩
theorem vx_runFW {x y : MethodName} {bytes cc : ByteArray} {maxL nL mc ms n index count : Nat} {ret : Option FieldType} {hh : List (Nat × Nat × Nat × Nat)} {ws : List Cond} {rm : Room} {Pc : Array Value → State → Prop} {Qc : Array Value → State → Outcome → State → Prop} {XC : String → State → State → Prop} {free : Addr → Prop} {Ts : List Cond} {own C : String} {cC : ClassId} {b : Addr} {As rest : List Value} {g : JFrame}
    (hat : ClassAt s C cC) (S : CallFix p m c cc nL s args Ts own) (hM : vx_Met l y ws rm Pc Qc XC mc ms free) (cw : va_CIW R s args own C index x y bytes maxL ret hh ws rm mc ms n) (hp : PreV s H C b Pc As)
    (hg : g.method = m) (hn : As.length = n) (hsize : g.locals.size = nL) (hstack : g.stack = As.reverse ++ .ref b :: rest) (hW : 2 * g.monitorRoom + (rest.map fun v => v.category).sum ≤ 8) (hdg : decode cc g.pc = .ok (.invokeinterface index count, 5)) (hf : cells + mc ≤ R.cells ∧ slots + ms ≤ R.slots) :
    vx_Run5 p l e R s m args below meth c H locs cells slots mc ms g rest (Qc (Value.ref b :: As).toArray) XC free := by
  obtain ⟨hrc, hrs, hfr, hlo, hws, hcw⟩ := cw.back
  have hini := cw.init
  have hK : vx_Back l R p e below s args y 5 8 (PreOf R mc ms Pc) (PostOf Qc mc ms free) (vx_Post XC mc ms free) := vx_backW (hh := hh) (bytes := bytes) (maxL := maxL) (ret := ret) hM hp.1 hrc hrs hfr hlo hws hcw (fun a' U hW => word_at hW (Or.inl (by first | rfl | simp [Cond.onTables, Cond.keeps, Cond.steady])) hini)
  obtain ⟨hx, hb, hml, ho, -⟩ := S
  obtain ⟨-, ⟨cellB, hcB, hoB, hclB⟩, hPc⟩ := hp
  obtain ⟨hfc, kB, hkB, -⟩ := hat
  cases hfc.symm.trans hclB
  intro T hT X
  rcases vx_callIFW X hx (C := C) (hh := hh) (bytes := bytes) (maxL := maxL) (ret := ret) ho cw.link cw.decl cw.face cw.sel cw.inst cw.pub cw.unh cw.cast cw.code cw.notMH hK (by rw [hT]; exact hcB) hoB hclB hkB hg (hsize.trans hml.symm) (argsL := As) (rest := rest) (fun sig h => hn.trans (cw.len sig h)) hstack hW (by rw [hb]; exact hdg)
    (fun vm₁ hW₁ => ⟨hf.1, hf.2, hPc (T.setVm vm₁) hT hW₁⟩) with ⟨v, vm₁, ⟨U', l2, c2, s2⟩, hW₁, X', ⟨g', mk, t, L, e1, e2, hq, h1, hL, h2, h3⟩, st⟩ | ⟨q, vm₁, ⟨U', l2, c2, s2⟩, hW₁, X', ⟨g', mk, t, L, E, ce, e1, e2, hq, hce, hcv, hcl, h1, hL, h2, h3⟩, st⟩
  · dsimp only [Pt.U, Pt.locs, Pt.cells, Pt.slots] at X' e1 e2 h1 h2 h3 st
    subst h1; subst h2; subst h3
    exact Or.inl ⟨v, (T.setVm vm₁).calling g' mk (Value.ref b :: As).toArray, t, U', L, hT, X', hL, e1, e2, hq, st⟩
  · dsimp only [Pt.U, Pt.locs, Pt.cells, Pt.slots] at X' e1 e2 h1 h2 h3 st hcl
    subst h1; subst h2; subst h3
    exact Or.inr ⟨q, (T.setVm vm₁).calling g' mk (Value.ref b :: As).toArray, t, U', L, E, ce, hT, X', hL, e1, e2, hq, hce, hcv, vx_cls hW₁ hcl, st⟩
end
/-! ===== END ===== -/
/-! ===== BEGIN .. of methods that hand back an object of the pool ===== -/
section
variable {p : Program} {l : Launch} {e : Env} {R : Room} {s : State} {m : MethodId} {args : Array Value} {below : List Frame} {meth : Method} {c : Code} {H : Heap} {locs : List Loc} {cells slots : Nat} {Q : State → Prop}
variable {mc ms : Nat} {free : Addr → Prop} {A0 A1 : Nat → Prop} {H0 : Heap} {a : Array Value} {pc : Nat} {ls : Array Slot} {st0 rest : List Value}
theorem vx_callq {S SX : Type} {post : Option Nat → S → Prop} {px : SX → Prop} {B : S → State → Prop} {BX : String → SX → State → Prop} {AX : Nat → Prop} (hr : vx_Run p l e R s m args below meth c H locs cells slots mc ms (F0 m pc ls st0) rest (va_Qq post B A1 a) (vx_X px BX AX) free) (hS : va_S A0 H0 H locs) (hA : ∀ q, q < H.size → A1 q → A0 q) (hf : ∀ q, free q → A0 q) (hAX : ∀ q, q < H.size → AX q → A0 q)
    (kx : ∀ (E : String) (ce : Cell) (q9 : Addr) (u : SX) (t : State) (H1 : Heap) (locs1 : List Loc), t.heap = H1 → s.vm.Alike t.vm → px u → BX E u t → H.size ≤ H1.size → (∀ q : Nat, q < H.size → ¬ AX q → H1[q]? = H[q]?) → va_S A0 H0 H1 locs1 → H1[q9]? = some ce → ce.vm = .none → s.vm.findClass E = some ce.cls → vx_W p l e R s m args below meth c H1 locs1 (cells + mc) (slots + ms) Q (F0 m pc ls rest) q9)
    (kk : ∀ (r : Option Nat) (u : S) (t : State) (H1 : Heap) (locs1 : List Loc), t.heap = H1 → s.vm.Alike t.vm → post r u → B u t → H.size ≤ H1.size → (∀ q : Nat, q < H.size → ¬ A1 q → H1[q]? = H[q]?) → va_S A0 H0 H1 locs1 → W p l e R s m args below meth c H1 locs1 (cells + mc) (slots + ms) Q (F0 m (pc + 3) ls (va_rf r :: rest))) : W p l e R s m args below meth c H locs cells slots Q (F0 m pc ls st0) := by
  intro T hT X
  rcases hr T hT X with ⟨v, st₀, t, T', L, h0, X', hL, e1, e2, ⟨⟨r, u, hv, hp, hb⟩, hF⟩, st⟩ | ⟨q, st₀, t, T', L, E, ce, h0, X', hL, e1, e2, ⟨u, hp, hb, hF⟩, hce, hcv, hcl, st⟩
  · cases hv
    obtain ⟨k1, k2, k3⟩ := vx_keep h0 e1 hS hA hf hL hF
    obtain ⟨t2, a1, b1⟩ := kk r u t T'.heap (locs ++ L) e1.symm (by rw [← e2]; exact X'.warmed.alike) hp hb k1 k2 k3 T' rfl X'
    exact ⟨t2, st t2 a1, b1⟩
  · obtain ⟨k1, k2, k3⟩ := vx_keep h0 e1 hS hAX hf hL hF
    obtain ⟨t2, a1, b1⟩ := kx E ce q u t T'.heap (locs ++ L) e1.symm (by rw [← e2]; exact X'.warmed.alike) hp hb k1 k2 k3 (by rw [e1]; exact hce) hcv hcl T' rfl X'
    exact ⟨t2, st.trans a1, b1⟩
end
/-! ===== END ===== -/
/-! ===== BEGIN .. a constant ===== -/
section
variable {p : Program} {l : Launch} {e : Env} {R : Room} {s : State} {m : MethodId} {args : Array Value} {below : List Frame} {meth : Method} {c : Code} {H : Heap} {locs : List Loc} {cells slots : Nat} {Q : State → Prop}
variable {mc ms : Nat} {free : Addr → Prop} {A0 A1 : Nat → Prop} {H0 : Heap} {a : Array Value} {pc : Nat} {ls : Array Slot} {st0 rest : List Value}
theorem vx_calle {ad : Nat → Nat} {S SX : Type} {post : Option Nat → S → Prop} {px : SX → Prop} {B : S → State → Prop} {BX : String → SX → State → Prop} {AX : Nat → Prop} (hr : vx_Run p l e R s m args below meth c H locs cells slots mc ms (F0 m pc ls st0) rest (va_Qe ad post B A1 a) (vx_X px BX AX) free) (hS : va_S A0 H0 H locs) (hA : ∀ q, q < H.size → A1 q → A0 q) (hf : ∀ q, free q → A0 q) (hAX : ∀ q, q < H.size → AX q → A0 q)
    (kx : ∀ (E : String) (ce : Cell) (q9 : Addr) (u : SX) (t : State) (H1 : Heap) (locs1 : List Loc), t.heap = H1 → s.vm.Alike t.vm → px u → BX E u t → H.size ≤ H1.size → (∀ q : Nat, q < H.size → ¬ AX q → H1[q]? = H[q]?) → va_S A0 H0 H1 locs1 → H1[q9]? = some ce → ce.vm = .none → s.vm.findClass E = some ce.cls → vx_W p l e R s m args below meth c H1 locs1 (cells + mc) (slots + ms) Q (F0 m pc ls rest) q9)
    (kk : ∀ (r : Option Nat) (u : S) (t : State) (H1 : Heap) (locs1 : List Loc), t.heap = H1 → s.vm.Alike t.vm → post r u → B u t → H.size ≤ H1.size → (∀ q : Nat, q < H.size → ¬ A1 q → H1[q]? = H[q]?) → va_S A0 H0 H1 locs1 → W p l e R s m args below meth c H1 locs1 (cells + mc) (slots + ms) Q (F0 m (pc + 3) ls (va_re ad r :: rest))) : W p l e R s m args below meth c H locs cells slots Q (F0 m pc ls st0) := by
  intro T hT X
  rcases hr T hT X with ⟨v, st₀, t, T', L, h0, X', hL, e1, e2, ⟨⟨r, u, hv, hp, hb⟩, hF⟩, st⟩ | ⟨q, st₀, t, T', L, E, ce, h0, X', hL, e1, e2, ⟨u, hp, hb, hF⟩, hce, hcv, hcl, st⟩
  · cases hv
    obtain ⟨k1, k2, k3⟩ := vx_keep h0 e1 hS hA hf hL hF
    obtain ⟨t2, a1, b1⟩ := kk r u t T'.heap (locs ++ L) e1.symm (by rw [← e2]; exact X'.warmed.alike) hp hb k1 k2 k3 T' rfl X'
    exact ⟨t2, st t2 a1, b1⟩
  · obtain ⟨k1, k2, k3⟩ := vx_keep h0 e1 hS hAX hf hL hF
    obtain ⟨t2, a1, b1⟩ := kx E ce q u t T'.heap (locs ++ L) e1.symm (by rw [← e2]; exact X'.warmed.alike) hp hb k1 k2 k3 (by rw [e1]; exact hce) hcv hcl T' rfl X'
    exact ⟨t2, st.trans a1, b1⟩
end
/-! ===== END ===== -/
/-! ===== BEGIN .. by an interface, an object ===== -/
section
variable {p : Program} {l : Launch} {e : Env} {R : Room} {s : State} {m : MethodId} {args : Array Value} {below : List Frame} {meth : Method} {c : Code} {H : Heap} {locs : List Loc} {cells slots : Nat} {Q : State → Prop}
variable {mc ms : Nat} {free : Addr → Prop} {A0 A1 : Nat → Prop} {H0 : Heap} {a : Array Value} {pc : Nat} {ls : Array Slot} {st0 rest : List Value}
theorem vx_callFq {S SX : Type} {post : Option Nat → S → Prop} {px : SX → Prop} {B : S → State → Prop} {BX : String → SX → State → Prop} {AX : Nat → Prop} (hr : vx_Run5 p l e R s m args below meth c H locs cells slots mc ms (F0 m pc ls st0) rest (va_Qq post B A1 a) (vx_X px BX AX) free) (hS : va_S A0 H0 H locs) (hA : ∀ q, q < H.size → A1 q → A0 q) (hf : ∀ q, free q → A0 q) (hAX : ∀ q, q < H.size → AX q → A0 q)
    (kx : ∀ (E : String) (ce : Cell) (q9 : Addr) (u : SX) (t : State) (H1 : Heap) (locs1 : List Loc), t.heap = H1 → s.vm.Alike t.vm → px u → BX E u t → H.size ≤ H1.size → (∀ q : Nat, q < H.size → ¬ AX q → H1[q]? = H[q]?) → va_S A0 H0 H1 locs1 → H1[q9]? = some ce → ce.vm = .none → s.vm.findClass E = some ce.cls → vx_W p l e R s m args below meth c H1 locs1 (cells + mc) (slots + ms) Q (F0 m pc ls rest) q9)
    (kk : ∀ (r : Option Nat) (u : S) (t : State) (H1 : Heap) (locs1 : List Loc), t.heap = H1 → s.vm.Alike t.vm → post r u → B u t → H.size ≤ H1.size → (∀ q : Nat, q < H.size → ¬ A1 q → H1[q]? = H[q]?) → va_S A0 H0 H1 locs1 → W p l e R s m args below meth c H1 locs1 (cells + mc) (slots + ms) Q (F0 m (pc + 5) ls (va_rf r :: rest))) : W p l e R s m args below meth c H locs cells slots Q (F0 m pc ls st0) := by
  intro T hT X
  rcases hr T hT X with ⟨v, st₀, t, T', L, h0, X', hL, e1, e2, ⟨⟨r, u, hv, hp, hb⟩, hF⟩, st⟩ | ⟨q, st₀, t, T', L, E, ce, h0, X', hL, e1, e2, ⟨u, hp, hb, hF⟩, hce, hcv, hcl, st⟩
  · cases hv
    obtain ⟨k1, k2, k3⟩ := vx_keep h0 e1 hS hA hf hL hF
    obtain ⟨t2, a1, b1⟩ := kk r u t T'.heap (locs ++ L) e1.symm (by rw [← e2]; exact X'.warmed.alike) hp hb k1 k2 k3 T' rfl X'
    exact ⟨t2, st t2 a1, b1⟩
  · obtain ⟨k1, k2, k3⟩ := vx_keep h0 e1 hS hAX hf hL hF
    obtain ⟨t2, a1, b1⟩ := kx E ce q u t T'.heap (locs ++ L) e1.symm (by rw [← e2]; exact X'.warmed.alike) hp hb k1 k2 k3 (by rw [e1]; exact hce) hcv hcl T' rfl X'
    exact ⟨t2, st.trans a1, b1⟩
end
/-! ===== END ===== -/
/-! ===== BEGIN .. by an interface, a constant ===== -/
section
variable {p : Program} {l : Launch} {e : Env} {R : Room} {s : State} {m : MethodId} {args : Array Value} {below : List Frame} {meth : Method} {c : Code} {H : Heap} {locs : List Loc} {cells slots : Nat} {Q : State → Prop}
variable {mc ms : Nat} {free : Addr → Prop} {A0 A1 : Nat → Prop} {H0 : Heap} {a : Array Value} {pc : Nat} {ls : Array Slot} {st0 rest : List Value}
theorem vx_callFe {ad : Nat → Nat} {S SX : Type} {post : Option Nat → S → Prop} {px : SX → Prop} {B : S → State → Prop} {BX : String → SX → State → Prop} {AX : Nat → Prop} (hr : vx_Run5 p l e R s m args below meth c H locs cells slots mc ms (F0 m pc ls st0) rest (va_Qe ad post B A1 a) (vx_X px BX AX) free) (hS : va_S A0 H0 H locs) (hA : ∀ q, q < H.size → A1 q → A0 q) (hf : ∀ q, free q → A0 q) (hAX : ∀ q, q < H.size → AX q → A0 q)
    (kx : ∀ (E : String) (ce : Cell) (q9 : Addr) (u : SX) (t : State) (H1 : Heap) (locs1 : List Loc), t.heap = H1 → s.vm.Alike t.vm → px u → BX E u t → H.size ≤ H1.size → (∀ q : Nat, q < H.size → ¬ AX q → H1[q]? = H[q]?) → va_S A0 H0 H1 locs1 → H1[q9]? = some ce → ce.vm = .none → s.vm.findClass E = some ce.cls → vx_W p l e R s m args below meth c H1 locs1 (cells + mc) (slots + ms) Q (F0 m pc ls rest) q9)
    (kk : ∀ (r : Option Nat) (u : S) (t : State) (H1 : Heap) (locs1 : List Loc), t.heap = H1 → s.vm.Alike t.vm → post r u → B u t → H.size ≤ H1.size → (∀ q : Nat, q < H.size → ¬ A1 q → H1[q]? = H[q]?) → va_S A0 H0 H1 locs1 → W p l e R s m args below meth c H1 locs1 (cells + mc) (slots + ms) Q (F0 m (pc + 5) ls (va_re ad r :: rest))) : W p l e R s m args below meth c H locs cells slots Q (F0 m pc ls st0) := by
  intro T hT X
  rcases hr T hT X with ⟨v, st₀, t, T', L, h0, X', hL, e1, e2, ⟨⟨r, u, hv, hp, hb⟩, hF⟩, st⟩ | ⟨q, st₀, t, T', L, E, ce, h0, X', hL, e1, e2, ⟨u, hp, hb, hF⟩, hce, hcv, hcl, st⟩
  · cases hv
    obtain ⟨k1, k2, k3⟩ := vx_keep h0 e1 hS hA hf hL hF
    obtain ⟨t2, a1, b1⟩ := kk r u t T'.heap (locs ++ L) e1.symm (by rw [← e2]; exact X'.warmed.alike) hp hb k1 k2 k3 T' rfl X'
    exact ⟨t2, st t2 a1, b1⟩
  · obtain ⟨k1, k2, k3⟩ := vx_keep h0 e1 hS hAX hf hL hF
    obtain ⟨t2, a1, b1⟩ := kx E ce q u t T'.heap (locs ++ L) e1.symm (by rw [← e2]; exact X'.warmed.alike) hp hb k1 k2 k3 (by rw [e1]; exact hce) hcv hcl T' rfl X'
    exact ⟨t2, st.trans a1, b1⟩
end
/-! ===== END ===== -/
/-! ===== BEGIN what the machine throws by itself: null at a field, at athrow ===== -/
section VXM2
variable {p : Program} {l : Launch} {e : Env} {R : Room} {s : State} {m : MethodId} {args : Array Value} {below : List Frame} {meth : Method} {c : Code} {H : Heap} {locs : List Loc} {cells slots : Nat}
variable {Q : State → Prop} {cc : ByteArray} {pc : Nat} {ls : Array Slot} {rest : List Value}
theorem vx_getfN {D cl tys} {own ref C : String} {T : u_T} {N ci index : Nat} {Ts : List Cond} (hexec : p.tables.exec = Jvm.exec) (hb : c.code = cc) (hts : ∀ w ∈ Ts, w.before args s = true) (hin : ∀ w ∈ u_ws C T N, w ∈ Ts) (hown : s.vm.findClass own = some m.cls) (hK : va_K D cl tys s) (hc : cl[ci]? = some (C, T, N)) (k : Nat) (hk : k < N) (hlink : (Cond.fieldLink own index ref (T k).2.1 (T k).2.2.1).before args s = true) (hsame : ∀ x, s.fieldFound? (T k).1 (T k).2.1 (T k).2.2.1 = some x → s.fieldFound? ref (T k).2.1 (T k).2.2.1 = some x) (hdg : decode cc pc = .ok (.getfield index, 3)) (kk : vx_NoteN p l e R s m args below meth c H locs cells slots Q (F0 m pc ls rest)) : W p l e R s m args below meth c H locs cells slots Q (F0 m pc ls (.null :: rest)) := by
  obtain ⟨hS, hfc, kC, hkC, -⟩ := hK.1 ci _ hc
  obtain ⟨cf, kf, fi, f, hi, -⟩ := hS k hk
  intro U hU X
  obtain ⟨vm', X1, st1⟩ := X.getfieldNull hexec hown hlink (hsame _ hi) (u_facts hfc hkC (u_lays hts hin hk) hi).1 (g := F0 m pc ls (.null :: rest)) rfl (rest := rest) rfl (by rw [hb]; exact hdg)
  obtain ⟨t, st, q⟩ := kk (U.setVm vm') hU X1
  exact ⟨t, st1 t st, q⟩
theorem vx_getfNN {D cl tys} {own ref C host : String} {T : u_T} {N ci index : Nat} {Ts : List Cond} (hexec : p.tables.exec = Jvm.exec) (hb : c.code = cc) (hts : ∀ w ∈ Ts, w.before args s = true) (hin : ∀ w ∈ u_ws C T N, w ∈ Ts) (hown : s.vm.findClass own = some m.cls) (hK : va_K D cl tys s) (hc : cl[ci]? = some (C, T, N)) (k : Nat) (hk : k < N) (hlink : (Cond.fieldLinkNest own index ref (T k).2.1 (T k).2.2.1 host).before args s = true) (hsame : ∀ x, s.fieldFound? (T k).1 (T k).2.1 (T k).2.2.1 = some x → s.fieldFound? ref (T k).2.1 (T k).2.2.1 = some x) (hdg : decode cc pc = .ok (.getfield index, 3)) (kk : vx_NoteN p l e R s m args below meth c H locs cells slots Q (F0 m pc ls rest)) : W p l e R s m args below meth c H locs cells slots Q (F0 m pc ls (.null :: rest)) := by
  obtain ⟨hS, hfc, kC, hkC, -⟩ := hK.1 ci _ hc
  obtain ⟨cf, kf, fi, f, hi, -⟩ := hS k hk
  intro U hU X
  obtain ⟨vm', X1, st1⟩ := X.getfieldNullNest hexec hown hlink (hsame _ hi) (u_facts hfc hkC (u_lays hts hin hk) hi).1 (g := F0 m pc ls (.null :: rest)) rfl (rest := rest) rfl (by rw [hb]; exact hdg)
  obtain ⟨t, st, q⟩ := kk (U.setVm vm') hU X1
  exact ⟨t, st1 t st, q⟩
theorem vx_putfN {D cl tys} {own ref C : String} {T : u_T} {N ci index : Nat} {Ts : List Cond} (hexec : p.tables.exec = Jvm.exec) (hb : c.code = cc) (hts : ∀ w ∈ Ts, w.before args s = true) (hin : ∀ w ∈ u_ws C T N, w ∈ Ts) (hown : s.vm.findClass own = some m.cls) (hK : va_K D cl tys s) (hc : cl[ci]? = some (C, T, N)) (k : Nat) (hk : k < N) (hlink : (Cond.fieldLink own index ref (T k).2.1 (T k).2.2.1).before args s = true) (hsame : ∀ x, s.fieldFound? (T k).1 (T k).2.1 (T k).2.2.1 = some x → s.fieldFound? ref (T k).2.1 (T k).2.2.1 = some x) (hfin : (T k).2.2.2 = false) {v : Value} (hdg : decode cc pc = .ok (.putfield index, 3)) (kk : vx_NoteN p l e R s m args below meth c H locs cells slots Q (F0 m pc ls rest)) : W p l e R s m args below meth c H locs cells slots Q (F0 m pc ls (v :: .null :: rest)) := by
  obtain ⟨hS, hfc, kC, hkC, -⟩ := hK.1 ci _ hc
  obtain ⟨cf, kf, fi, f, hi, -⟩ := hS k hk
  have hlay := hts _ (hin _ (u_in_lay hk))
  unfold u_lay at hlay
  rw [if_neg (by rw [hfin]; decide)] at hlay
  obtain ⟨c9, k9, cf9, kf9, fi9, f9, -, -, hi9, hst9, hnf9, -⟩ := Cond.lays_spec hlay
  cases hi.symm.trans hi9
  intro U hU X
  obtain ⟨vm', X1, st1⟩ := X.putfieldNull hexec hown hlink (hsame _ hi) hst9 hnf9 (g := F0 m pc ls (v :: .null :: rest)) rfl (v := v) (rest := rest) rfl (by rw [hb]; exact hdg)
  obtain ⟨t, st, q⟩ := kk (U.setVm vm') hU X1
  exact ⟨t, st1 t st, q⟩
theorem vx_putfNN {D cl tys} {own ref C host : String} {T : u_T} {N ci index : Nat} {Ts : List Cond} (hexec : p.tables.exec = Jvm.exec) (hb : c.code = cc) (hts : ∀ w ∈ Ts, w.before args s = true) (hin : ∀ w ∈ u_ws C T N, w ∈ Ts) (hown : s.vm.findClass own = some m.cls) (hK : va_K D cl tys s) (hc : cl[ci]? = some (C, T, N)) (k : Nat) (hk : k < N) (hlink : (Cond.fieldLinkNest own index ref (T k).2.1 (T k).2.2.1 host).before args s = true) (hsame : ∀ x, s.fieldFound? (T k).1 (T k).2.1 (T k).2.2.1 = some x → s.fieldFound? ref (T k).2.1 (T k).2.2.1 = some x) (hfin : (T k).2.2.2 = false) {v : Value} (hdg : decode cc pc = .ok (.putfield index, 3)) (kk : vx_NoteN p l e R s m args below meth c H locs cells slots Q (F0 m pc ls rest)) : W p l e R s m args below meth c H locs cells slots Q (F0 m pc ls (v :: .null :: rest)) := by
  obtain ⟨hS, hfc, kC, hkC, -⟩ := hK.1 ci _ hc
  obtain ⟨cf, kf, fi, f, hi, -⟩ := hS k hk
  have hlay := hts _ (hin _ (u_in_lay hk))
  unfold u_lay at hlay
  rw [if_neg (by rw [hfin]; decide)] at hlay
  obtain ⟨c9, k9, cf9, kf9, fi9, f9, -, -, hi9, hst9, hnf9, -⟩ := Cond.lays_spec hlay
  cases hi.symm.trans hi9
  intro U hU X
  obtain ⟨vm', X1, st1⟩ := X.putfieldNullNest hexec hown hlink (hsame _ hi) hst9 hnf9 (g := F0 m pc ls (v :: .null :: rest)) rfl (v := v) (rest := rest) rfl (by rw [hb]; exact hdg)
  obtain ⟨t, st, q⟩ := kk (U.setVm vm') hU X1
  exact ⟨t, st1 t st, q⟩
theorem vx_athrowN (hexec : p.tables.exec = Jvm.exec) (hb : c.code = cc) (hdg : decode cc pc = .ok (.athrow, 1)) (k : vx_NoteN p l e R s m args below meth c H locs cells slots Q (F0 m pc ls rest)) : W p l e R s m args below meth c H locs cells slots Q (F0 m pc ls (.null :: rest)) := by
  intro T hT X
  obtain ⟨t, st, q⟩ := k T hT X
  exact ⟨t, X.athrowNull hexec (g := F0 m pc ls (.null :: rest)) rfl (rest := rest) rfl (by rw [hb]; exact hdg) t st, q⟩
end VXM2
/-! ===== END ===== -/
end
section
/-! the own kinds: name, fields, how many -/
set_option maxRecDepth 100000
def tC0 : u_T := fun k => match k with
  | _ => ("QuorumLog", "group", "LQuorumLog$Group;", false)
def yC0 : Nat → FieldType := fun k => match k with
  | _ => .object "QuorumLog$Group"
def tC1 : u_T := fun k => match k with
  | 0 => ("QuorumLog$Group", "servers", "[LQuorumLog$Server;", true)
  | 1 => ("QuorumLog$Group", "isCut", "[[Z", true)
  | 2 => ("QuorumLog$Group", "messages", "Ljava/util/ArrayList;", true)
  | 3 => ("QuorumLog$Group", "clients", "[LQuorumLog$Client;", true)
  | 4 => ("QuorumLog$Group", "round", "I", false)
  | _ => ("QuorumLog$Group", "lost", "I", false)
def yC1 : Nat → FieldType := fun k => match k with
  | 0 => .array (.object "QuorumLog$Server")
  | 1 => .array (.array .boolean)
  | 2 => .object "java/util/ArrayList"
  | 3 => .array (.object "QuorumLog$Client")
  | 4 => .int
  | _ => .int
def tC2 : u_T := fun k => match k with
  | 0 => ("QuorumLog$Server", "group", "LQuorumLog$Group;", true)
  | 1 => ("QuorumLog$Server", "number", "I", true)
  | 2 => ("QuorumLog$Server", "log", "LQuorumLog$Log;", true)
  | 3 => ("QuorumLog$Server", "isUp", "Z", false)
  | 4 => ("QuorumLog$Server", "term", "I", false)
  | 5 => ("QuorumLog$Server", "voted", "I", false)
  | 6 => ("QuorumLog$Server", "role", "LQuorumLog$Role;", false)
  | 7 => ("QuorumLog$Server", "follows", "I", false)
  | 8 => ("QuorumLog$Server", "waited", "I", false)
  | 9 => ("QuorumLog$Server", "beat", "I", false)
  | 10 => ("QuorumLog$Server", "committed", "I", false)
  | 11 => ("QuorumLog$Server", "table", "LQuorumLog$Table;", false)
  | 12 => ("QuorumLog$Server", "yeses", "Ljava/util/BitSet;", false)
  | 13 => ("QuorumLog$Server", "next", "[I", true)
  | _ => ("QuorumLog$Server", "matched", "[I", true)
def yC2 : Nat → FieldType := fun k => match k with
  | 0 => .object "QuorumLog$Group"
  | 1 => .int
  | 2 => .object "QuorumLog$Log"
  | 3 => .boolean
  | 4 => .int
  | 5 => .int
  | 6 => .object "QuorumLog$Role"
  | 7 => .int
  | 8 => .int
  | 9 => .int
  | 10 => .int
  | 11 => .object "QuorumLog$Table"
  | 12 => .object "java/util/BitSet"
  | 13 => .array .int
  | _ => .array .int
def tC3 : u_T := fun k => match k with
  | 0 => ("QuorumLog$Log", "entries", "Ljava/util/ArrayList;", true)
  | _ => ("QuorumLog$Log", "snapshot", "LQuorumLog$Snapshot;", false)
def yC3 : Nat → FieldType := fun k => match k with
  | 0 => .object "java/util/ArrayList"
  | _ => .object "QuorumLog$Snapshot"
def tC4 : u_T := fun k => match k with
  | 0 => ("QuorumLog$Snapshot", "index", "I", true)
  | 1 => ("QuorumLog$Snapshot", "term", "I", true)
  | 2 => ("QuorumLog$Snapshot", "table", "LQuorumLog$Table;", true)
  | _ => ("QuorumLog$Snapshot", "members", "Ljava/util/BitSet;", true)
def yC4 : Nat → FieldType := fun k => match k with
  | 0 => .int
  | 1 => .int
  | 2 => .object "QuorumLog$Table"
  | _ => .object "java/util/BitSet"
def tC5 : u_T := fun k => match k with
  | 0 => ("QuorumLog$Table", "values", "[I", true)
  | 1 => ("QuorumLog$Table", "serials", "[I", true)
  | _ => ("QuorumLog$Table", "given", "[I", true)
def yC5 : Nat → FieldType := fun k => match k with
  | 0 => .array .int
  | 1 => .array .int
  | _ => .array .int
def tC6 : u_T := fun k => match k with
  | 0 => ("QuorumLog$Client", "request", "LQuorumLog$Request;", false)
  | 1 => ("QuorumLog$Client", "serial", "I", false)
  | 2 => ("QuorumLog$Client", "isAnswered", "Z", false)
  | _ => ("QuorumLog$Client", "answer", "I", false)
def yC6 : Nat → FieldType := fun k => match k with
  | 0 => .object "QuorumLog$Request"
  | 1 => .int
  | 2 => .boolean
  | _ => .int
def tC7 : u_T := fun k => match k with
  | 0 => ("QuorumLog$Request", "deed", "LQuorumLog$Deed;", true)
  | 1 => ("QuorumLog$Request", "client", "I", true)
  | 2 => ("QuorumLog$Request", "serial", "I", true)
  | 3 => ("QuorumLog$Request", "key", "I", true)
  | 4 => ("QuorumLog$Request", "value", "I", true)
  | _ => ("QuorumLog$Request", "expected", "I", true)
def yC7 : Nat → FieldType := fun k => match k with
  | 0 => .object "QuorumLog$Deed"
  | 1 => .int
  | 2 => .int
  | 3 => .int
  | 4 => .int
  | _ => .int
def tC8 : u_T := fun k => match k with
  | _ => ("QuorumLog$Entry", "term", "I", true)
def yC8 : Nat → FieldType := fun k => match k with
  | _ => .int
def tC9 : u_T := fun k => match k with
  | 0 => ("QuorumLog$Entry", "term", "I", true)
  | _ => ("QuorumLog$Joined", "members", "Ljava/util/BitSet;", true)
def yC9 : Nat → FieldType := fun k => match k with
  | 0 => .int
  | _ => .object "java/util/BitSet"
def tC10 : u_T := fun k => match k with
  | 0 => ("QuorumLog$Entry", "term", "I", true)
  | _ => ("QuorumLog$Asked", "request", "LQuorumLog$Request;", true)
def yC10 : Nat → FieldType := fun k => match k with
  | 0 => .int
  | _ => .object "QuorumLog$Request"
def tC11 : u_T := fun k => match k with
  | 0 => ("QuorumLog$Message", "from", "I", true)
  | 1 => ("QuorumLog$Message", "to", "I", true)
  | 2 => ("QuorumLog$Message", "term", "I", true)
  | 3 => ("QuorumLog$Asking", "last", "I", true)
  | _ => ("QuorumLog$Asking", "lastTerm", "I", true)
def yC11 : Nat → FieldType := fun k => match k with
  | 0 => .int
  | 1 => .int
  | 2 => .int
  | 3 => .int
  | _ => .int
def tC12 : u_T := fun k => match k with
  | 0 => ("QuorumLog$Message", "from", "I", true)
  | 1 => ("QuorumLog$Message", "to", "I", true)
  | 2 => ("QuorumLog$Message", "term", "I", true)
  | _ => ("QuorumLog$SoundReply", "isYes", "Z", true)
def yC12 : Nat → FieldType := fun k => match k with
  | 0 => .int
  | 1 => .int
  | 2 => .int
  | _ => .boolean
def tC13 : u_T := fun k => match k with
  | 0 => ("QuorumLog$Message", "from", "I", true)
  | 1 => ("QuorumLog$Message", "to", "I", true)
  | 2 => ("QuorumLog$Message", "term", "I", true)
  | 3 => ("QuorumLog$Asking", "last", "I", true)
  | _ => ("QuorumLog$Asking", "lastTerm", "I", true)
def yC13 : Nat → FieldType := fun k => match k with
  | 0 => .int
  | 1 => .int
  | 2 => .int
  | 3 => .int
  | _ => .int
def tC14 : u_T := fun k => match k with
  | 0 => ("QuorumLog$Message", "from", "I", true)
  | 1 => ("QuorumLog$Message", "to", "I", true)
  | 2 => ("QuorumLog$Message", "term", "I", true)
  | _ => ("QuorumLog$CallReply", "isYes", "Z", true)
def yC14 : Nat → FieldType := fun k => match k with
  | 0 => .int
  | 1 => .int
  | 2 => .int
  | _ => .boolean
def tC15 : u_T := fun k => match k with
  | 0 => ("QuorumLog$Message", "from", "I", true)
  | 1 => ("QuorumLog$Message", "to", "I", true)
  | 2 => ("QuorumLog$Message", "term", "I", true)
  | 3 => ("QuorumLog$Entries", "previous", "I", true)
  | 4 => ("QuorumLog$Entries", "previousTerm", "I", true)
  | 5 => ("QuorumLog$Entries", "entries", "Ljava/util/ArrayList;", true)
  | _ => ("QuorumLog$Entries", "committed", "I", true)
def yC15 : Nat → FieldType := fun k => match k with
  | 0 => .int
  | 1 => .int
  | 2 => .int
  | 3 => .int
  | 4 => .int
  | 5 => .object "java/util/ArrayList"
  | _ => .int
def tC16 : u_T := fun k => match k with
  | 0 => ("QuorumLog$Message", "from", "I", true)
  | 1 => ("QuorumLog$Message", "to", "I", true)
  | 2 => ("QuorumLog$Message", "term", "I", true)
  | 3 => ("QuorumLog$Answer", "isYes", "Z", true)
  | _ => ("QuorumLog$Answer", "index", "I", true)
def yC16 : Nat → FieldType := fun k => match k with
  | 0 => .int
  | 1 => .int
  | 2 => .int
  | 3 => .boolean
  | _ => .int
def tC17 : u_T := fun k => match k with
  | 0 => ("QuorumLog$Message", "from", "I", true)
  | 1 => ("QuorumLog$Message", "to", "I", true)
  | 2 => ("QuorumLog$Message", "term", "I", true)
  | _ => ("QuorumLog$Picture", "snapshot", "LQuorumLog$Snapshot;", true)
def yC17 : Nat → FieldType := fun k => match k with
  | 0 => .int
  | 1 => .int
  | 2 => .int
  | _ => .object "QuorumLog$Snapshot"
def tC18 : u_T := fun k => match k with
  | 0 => ("QuorumLog$Message", "from", "I", true)
  | 1 => ("QuorumLog$Message", "to", "I", true)
  | _ => ("QuorumLog$Message", "term", "I", true)
def yC18 : Nat → FieldType := fun k => match k with
  | 0 => .int
  | 1 => .int
  | _ => .int
def tC19 : u_T := fun k => match k with
  | 0 => ("java/util/AbstractList", "modCount", "I", false)
  | 1 => ("java/util/ArrayList", "elementData", "[Ljava/lang/Object;", false)
  | _ => ("java/util/ArrayList", "size", "I", false)
def yC19 : Nat → FieldType := fun k => match k with
  | 0 => .int
  | 1 => .array (.object "java/lang/Object")
  | _ => .int
def tC20 : u_T := fun k => match k with
  | 0 => ("java/util/BitSet", "words", "[J", false)
  | 1 => ("java/util/BitSet", "wordsInUse", "I", false)
  | _ => ("java/util/BitSet", "sizeIsSticky", "Z", false)
def yC20 : Nat → FieldType := fun k => match k with
  | 0 => .array .long
  | 1 => .int
  | _ => .boolean
def tC21 : u_T := fun k => match k with
  | 0 => ("QuorumLogModel", "now", "LQuorumLogModel$State;", true)
  | 1 => ("QuorumLogModel", "ahead", "LQuorumLogModel$State;", true)
  | 2 => ("QuorumLogModel", "thrown", "I", false)
  | _ => ("QuorumLogModel", "sum", "J", false)
def yC21 : Nat → FieldType := fun k => match k with
  | 0 => .object "QuorumLogModel$State"
  | 1 => .object "QuorumLogModel$State"
  | 2 => .int
  | _ => .long
def tC22 : u_T := fun k => match k with
  | 0 => ("QuorumLogModel$State", "round", "I", false)
  | 1 => ("QuorumLogModel$State", "lost", "I", false)
  | 2 => ("QuorumLogModel$State", "isUp", "[Z", true)
  | 3 => ("QuorumLogModel$State", "term", "[I", true)
  | 4 => ("QuorumLogModel$State", "voted", "[I", true)
  | 5 => ("QuorumLogModel$State", "role", "[I", true)
  | 6 => ("QuorumLogModel$State", "follows", "[I", true)
  | 7 => ("QuorumLogModel$State", "waited", "[I", true)
  | 8 => ("QuorumLogModel$State", "committed", "[I", true)
  | 9 => ("QuorumLogModel$State", "applied", "[I", true)
  | 10 => ("QuorumLogModel$State", "beats", "[I", true)
  | 11 => ("QuorumLogModel$State", "yes", "[I", true)
  | 12 => ("QuorumLogModel$State", "cuts", "[I", true)
  | 13 => ("QuorumLogModel$State", "snapIndex", "[I", true)
  | 14 => ("QuorumLogModel$State", "snapTerm", "[I", true)
  | 15 => ("QuorumLogModel$State", "snapMembers", "[I", true)
  | 16 => ("QuorumLogModel$State", "snapTable", "[[I", true)
  | 17 => ("QuorumLogModel$State", "table", "[[I", true)
  | 18 => ("QuorumLogModel$State", "size", "[I", true)
  | 19 => ("QuorumLogModel$State", "log", "[[I", true)
  | 20 => ("QuorumLogModel$State", "next", "[[I", true)
  | 21 => ("QuorumLogModel$State", "matched", "[[I", true)
  | 22 => ("QuorumLogModel$State", "many", "I", false)
  | 23 => ("QuorumLogModel$State", "post", "[I", true)
  | 24 => ("QuorumLogModel$State", "told", "[I", true)
  | 25 => ("QuorumLogModel$State", "request", "[I", true)
  | 26 => ("QuorumLogModel$State", "answered", "[I", true)
  | _ => ("QuorumLogModel$State", "answer", "[I", true)
def yC22 : Nat → FieldType := fun k => match k with
  | 0 => .int
  | 1 => .int
  | 2 => .array .boolean
  | 3 => .array .int
  | 4 => .array .int
  | 5 => .array .int
  | 6 => .array .int
  | 7 => .array .int
  | 8 => .array .int
  | 9 => .array .int
  | 10 => .array .int
  | 11 => .array .int
  | 12 => .array .int
  | 13 => .array .int
  | 14 => .array .int
  | 15 => .array .int
  | 16 => .array (.array .int)
  | 17 => .array (.array .int)
  | 18 => .array .int
  | 19 => .array (.array .int)
  | 20 => .array (.array .int)
  | 21 => .array (.array .int)
  | 22 => .int
  | 23 => .array .int
  | 24 => .array .int
  | 25 => .array .int
  | 26 => .array .int
  | _ => .array .int
def clL : List vw_C := [("QuorumLog", tC0, 1), ("QuorumLog$Group", tC1, 6), ("QuorumLog$Server", tC2, 15), ("QuorumLog$Log", tC3, 2), ("QuorumLog$Snapshot", tC4, 4), ("QuorumLog$Table", tC5, 3), ("QuorumLog$Client", tC6, 4), ("QuorumLog$Request", tC7, 6), ("QuorumLog$Empty", tC8, 1), ("QuorumLog$Joined", tC9, 2), ("QuorumLog$Asked", tC10, 2), ("QuorumLog$Sound", tC11, 5), ("QuorumLog$SoundReply", tC12, 4), ("QuorumLog$Call", tC13, 5), ("QuorumLog$CallReply", tC14, 4), ("QuorumLog$Entries", tC15, 7), ("QuorumLog$Answer", tC16, 5), ("QuorumLog$Picture", tC17, 4), ("QuorumLog$Hurry", tC18, 3), ("java/util/ArrayList", tC19, 3), ("java/util/BitSet", tC20, 3), ("QuorumLogModel", tC21, 4), ("QuorumLogModel$State", tC22, 28)]
def clT (ci : Nat) : Nat → FieldType := if ci = 0 then yC0 else if ci = 1 then yC1 else if ci = 2 then yC2 else if ci = 3 then yC3 else if ci = 4 then yC4 else if ci = 5 then yC5 else if ci = 6 then yC6 else if ci = 7 then yC7 else if ci = 8 then yC8 else if ci = 9 then yC9 else if ci = 10 then yC10 else if ci = 11 then yC11 else if ci = 12 then yC12 else if ci = 13 then yC13 else if ci = 14 then yC14 else if ci = 15 then yC15 else if ci = 16 then yC16 else if ci = 17 then yC17 else if ci = 18 then yC18 else if ci = 19 then yC19 else if ci = 20 then yC20 else if ci = 21 then yC21 else yC22
/-- how many fields, and their first values -/
def fdT (ci : Nat) : Nat × (Nat → Value) := ((clL.getD ci ("", fun _ => ("", "", "", false), 0)).2.2, fun k => defaultValue (clT ci k))
theorem iC0 : ∀ w ∈ u_ws "QuorumLog" tC0 1, w ∈ lw_all := lw_in (u_ws "QuorumLog" tC0 1) [764] (by decide +kernel) (by decide +kernel)
theorem oC0 : (∀ k, k < 1 → parseFieldDescriptor (tC0 k).2.2.1 = some (clT 0 k)) ∧ (∀ a, a < 1 → ∀ b, b < 1 → a ≠ b → (tC0 a).2.1 ≠ (tC0 b).2.1) := ⟨by decide +kernel, by decide +kernel⟩
theorem jC0 : Cond.instantiable "QuorumLog" 1 ∈ lw_all ∧ Cond.initialized "QuorumLog" ∈ lw_all := ⟨lw_w 115 (by decide +kernel) (by decide +kernel), lw_w 62 (by decide +kernel) (by decide +kernel)⟩
theorem iC1 : ∀ w ∈ u_ws "QuorumLog$Group" tC1 6, w ∈ lw_all := lw_in (u_ws "QuorumLog$Group" tC1 6) [176, 178, 180, 182, 184, 186] (by decide +kernel) (by decide +kernel)
theorem oC1 : (∀ k, k < 6 → parseFieldDescriptor (tC1 k).2.2.1 = some (clT 1 k)) ∧ (∀ a, a < 6 → ∀ b, b < 6 → a ≠ b → (tC1 a).2.1 ≠ (tC1 b).2.1) := ⟨by decide +kernel, by decide +kernel⟩
theorem jC1 : Cond.instantiable "QuorumLog$Group" 6 ∈ lw_all ∧ Cond.initialized "QuorumLog$Group" ∈ lw_all := ⟨lw_w 126 (by decide +kernel) (by decide +kernel), lw_w 63 (by decide +kernel) (by decide +kernel)⟩
theorem iC2 : ∀ w ∈ u_ws "QuorumLog$Server" tC2 15, w ∈ lw_all := lw_in (u_ws "QuorumLog$Server" tC2 15) [707, 709, 711, 713, 715, 717, 719, 721, 723, 725, 727, 729, 731, 733, 735] (by decide +kernel) (by decide +kernel)
theorem oC2 : (∀ k, k < 15 → parseFieldDescriptor (tC2 k).2.2.1 = some (clT 2 k)) ∧ (∀ a, a < 15 → ∀ b, b < 15 → a ≠ b → (tC2 a).2.1 ≠ (tC2 b).2.1) := ⟨by decide +kernel, by decide +kernel⟩
theorem jC2 : Cond.instantiable "QuorumLog$Server" 15 ∈ lw_all ∧ Cond.initialized "QuorumLog$Server" ∈ lw_all := ⟨lw_w 615 (by decide +kernel) (by decide +kernel), lw_w 87 (by decide +kernel) (by decide +kernel)⟩
theorem iC3 : ∀ w ∈ u_ws "QuorumLog$Log" tC3 2, w ∈ lw_all := lw_in (u_ws "QuorumLog$Log" tC3 2) [631, 633] (by decide +kernel) (by decide +kernel)
theorem oC3 : (∀ k, k < 2 → parseFieldDescriptor (tC3 k).2.2.1 = some (clT 3 k)) ∧ (∀ a, a < 2 → ∀ b, b < 2 → a ≠ b → (tC3 a).2.1 ≠ (tC3 b).2.1) := ⟨by decide +kernel, by decide +kernel⟩
theorem jC3 : Cond.instantiable "QuorumLog$Log" 2 ∈ lw_all ∧ Cond.initialized "QuorumLog$Log" ∈ lw_all := ⟨lw_w 617 (by decide +kernel) (by decide +kernel), lw_w 88 (by decide +kernel) (by decide +kernel)⟩
theorem iC4 : ∀ w ∈ u_ws "QuorumLog$Snapshot" tC4 4, w ∈ lw_all := lw_in (u_ws "QuorumLog$Snapshot" tC4 4) [606, 608, 610, 612] (by decide +kernel) (by decide +kernel)
theorem oC4 : (∀ k, k < 4 → parseFieldDescriptor (tC4 k).2.2.1 = some (clT 4 k)) ∧ (∀ a, a < 4 → ∀ b, b < 4 → a ≠ b → (tC4 a).2.1 ≠ (tC4 b).2.1) := ⟨by decide +kernel, by decide +kernel⟩
theorem jC4 : Cond.instantiable "QuorumLog$Snapshot" 4 ∈ lw_all ∧ Cond.initialized "QuorumLog$Snapshot" ∈ lw_all := ⟨lw_w 567 (by decide +kernel) (by decide +kernel), lw_w 85 (by decide +kernel) (by decide +kernel)⟩
theorem iC5 : ∀ w ∈ u_ws "QuorumLog$Table" tC5 3, w ∈ lw_all := lw_in (u_ws "QuorumLog$Table" tC5 3) [580, 582, 584] (by decide +kernel) (by decide +kernel)
theorem oC5 : (∀ k, k < 3 → parseFieldDescriptor (tC5 k).2.2.1 = some (clT 5 k)) ∧ (∀ a, a < 3 → ∀ b, b < 3 → a ≠ b → (tC5 a).2.1 ≠ (tC5 b).2.1) := ⟨by decide +kernel, by decide +kernel⟩
theorem jC5 : Cond.instantiable "QuorumLog$Table" 3 ∈ lw_all ∧ Cond.initialized "QuorumLog$Table" ∈ lw_all := ⟨lw_w 569 (by decide +kernel) (by decide +kernel), lw_w 86 (by decide +kernel) (by decide +kernel)⟩
theorem iC6 : ∀ w ∈ u_ws "QuorumLog$Client" tC6 4, w ∈ lw_all := lw_in (u_ws "QuorumLog$Client" tC6 4) [754, 756, 758, 760] (by decide +kernel) (by decide +kernel)
theorem oC6 : (∀ k, k < 4 → parseFieldDescriptor (tC6 k).2.2.1 = some (clT 6 k)) ∧ (∀ a, a < 4 → ∀ b, b < 4 → a ≠ b → (tC6 a).2.1 ≠ (tC6 b).2.1) := ⟨by decide +kernel, by decide +kernel⟩
theorem jC6 : Cond.instantiable "QuorumLog$Client" 4 ∈ lw_all ∧ Cond.initialized "QuorumLog$Client" ∈ lw_all := ⟨lw_w 738 (by decide +kernel) (by decide +kernel), lw_w 91 (by decide +kernel) (by decide +kernel)⟩
theorem iC7 : ∀ w ∈ u_ws "QuorumLog$Request" tC7 6, w ∈ lw_all := lw_in (u_ws "QuorumLog$Request" tC7 6) [2049, 2051, 2053, 2055, 2057, 2059] (by decide +kernel) (by decide +kernel)
theorem oC7 : (∀ k, k < 6 → parseFieldDescriptor (tC7 k).2.2.1 = some (clT 7 k)) ∧ (∀ a, a < 6 → ∀ b, b < 6 → a ≠ b → (tC7 a).2.1 ≠ (tC7 b).2.1) := ⟨by decide +kernel, by decide +kernel⟩
theorem jC7 : Cond.instantiable "QuorumLog$Request" 6 ∈ lw_all ∧ Cond.initialized "QuorumLog$Request" ∈ lw_all := ⟨lw_w 2024 (by decide +kernel) (by decide +kernel), lw_w 112 (by decide +kernel) (by decide +kernel)⟩
theorem iC8 : ∀ w ∈ u_ws "QuorumLog$Empty" tC8 1, w ∈ lw_all := lw_in (u_ws "QuorumLog$Empty" tC8 1) [1169] (by decide +kernel) (by decide +kernel)
theorem oC8 : (∀ k, k < 1 → parseFieldDescriptor (tC8 k).2.2.1 = some (clT 8 k)) ∧ (∀ a, a < 1 → ∀ b, b < 1 → a ≠ b → (tC8 a).2.1 ≠ (tC8 b).2.1) := ⟨by decide +kernel, by decide +kernel⟩
theorem jC8 : Cond.instantiable "QuorumLog$Empty" 1 ∈ lw_all ∧ Cond.initialized "QuorumLog$Empty" ∈ lw_all := ⟨lw_w 1155 (by decide +kernel) (by decide +kernel), lw_w 102 (by decide +kernel) (by decide +kernel)⟩
theorem iC9 : ∀ w ∈ u_ws "QuorumLog$Joined" tC9 2, w ∈ lw_all := lw_in (u_ws "QuorumLog$Joined" tC9 2) [1941, 1939] (by decide +kernel) (by decide +kernel)
theorem oC9 : (∀ k, k < 2 → parseFieldDescriptor (tC9 k).2.2.1 = some (clT 9 k)) ∧ (∀ a, a < 2 → ∀ b, b < 2 → a ≠ b → (tC9 a).2.1 ≠ (tC9 b).2.1) := ⟨by decide +kernel, by decide +kernel⟩
theorem jC9 : Cond.instantiable "QuorumLog$Joined" 2 ∈ lw_all ∧ Cond.initialized "QuorumLog$Joined" ∈ lw_all := ⟨lw_w 1932 (by decide +kernel) (by decide +kernel), lw_w 110 (by decide +kernel) (by decide +kernel)⟩
theorem iC10 : ∀ w ∈ u_ws "QuorumLog$Asked" tC10 2, w ∈ lw_all := lw_in (u_ws "QuorumLog$Asked" tC10 2) [2096, 2094] (by decide +kernel) (by decide +kernel)
theorem oC10 : (∀ k, k < 2 → parseFieldDescriptor (tC10 k).2.2.1 = some (clT 10 k)) ∧ (∀ a, a < 2 → ∀ b, b < 2 → a ≠ b → (tC10 a).2.1 ≠ (tC10 b).2.1) := ⟨by decide +kernel, by decide +kernel⟩
theorem jC10 : Cond.instantiable "QuorumLog$Asked" 2 ∈ lw_all ∧ Cond.initialized "QuorumLog$Asked" ∈ lw_all := ⟨lw_w 2088 (by decide +kernel) (by decide +kernel), lw_w 113 (by decide +kernel) (by decide +kernel)⟩
theorem iC11 : ∀ w ∈ u_ws "QuorumLog$Sound" tC11 5, w ∈ lw_all := lw_in (u_ws "QuorumLog$Sound" tC11 5) [1280, 1281, 1282, 1278, 1279] (by decide +kernel) (by decide +kernel)
theorem oC11 : (∀ k, k < 5 → parseFieldDescriptor (tC11 k).2.2.1 = some (clT 11 k)) ∧ (∀ a, a < 5 → ∀ b, b < 5 → a ≠ b → (tC11 a).2.1 ≠ (tC11 b).2.1) := ⟨by decide +kernel, by decide +kernel⟩
theorem jC11 : Cond.instantiable "QuorumLog$Sound" 5 ∈ lw_all ∧ Cond.initialized "QuorumLog$Sound" ∈ lw_all := ⟨lw_w 1273 (by decide +kernel) (by decide +kernel), lw_w 105 (by decide +kernel) (by decide +kernel)⟩
theorem iC12 : ∀ w ∈ u_ws "QuorumLog$SoundReply" tC12 4, w ∈ lw_all := lw_in (u_ws "QuorumLog$SoundReply" tC12 4) [1468, 1469, 1470, 1466] (by decide +kernel) (by decide +kernel)
theorem oC12 : (∀ k, k < 4 → parseFieldDescriptor (tC12 k).2.2.1 = some (clT 12 k)) ∧ (∀ a, a < 4 → ∀ b, b < 4 → a ≠ b → (tC12 a).2.1 ≠ (tC12 b).2.1) := ⟨by decide +kernel, by decide +kernel⟩
theorem jC12 : Cond.instantiable "QuorumLog$SoundReply" 4 ∈ lw_all ∧ Cond.initialized "QuorumLog$SoundReply" ∈ lw_all := ⟨lw_w 1460 (by decide +kernel) (by decide +kernel), lw_w 108 (by decide +kernel) (by decide +kernel)⟩
theorem iC13 : ∀ w ∈ u_ws "QuorumLog$Call" tC13 5, w ∈ lw_all := lw_in (u_ws "QuorumLog$Call" tC13 5) [1268, 1269, 1270, 1264, 1266] (by decide +kernel) (by decide +kernel)
theorem oC13 : (∀ k, k < 5 → parseFieldDescriptor (tC13 k).2.2.1 = some (clT 13 k)) ∧ (∀ a, a < 5 → ∀ b, b < 5 → a ≠ b → (tC13 a).2.1 ≠ (tC13 b).2.1) := ⟨by decide +kernel, by decide +kernel⟩
theorem jC13 : Cond.instantiable "QuorumLog$Call" 5 ∈ lw_all ∧ Cond.initialized "QuorumLog$Call" ∈ lw_all := ⟨lw_w 1248 (by decide +kernel) (by decide +kernel), lw_w 104 (by decide +kernel) (by decide +kernel)⟩
theorem iC14 : ∀ w ∈ u_ws "QuorumLog$CallReply" tC14 4, w ∈ lw_all := lw_in (u_ws "QuorumLog$CallReply" tC14 4) [1359, 1360, 1361, 1357] (by decide +kernel) (by decide +kernel)
theorem oC14 : (∀ k, k < 4 → parseFieldDescriptor (tC14 k).2.2.1 = some (clT 14 k)) ∧ (∀ a, a < 4 → ∀ b, b < 4 → a ≠ b → (tC14 a).2.1 ≠ (tC14 b).2.1) := ⟨by decide +kernel, by decide +kernel⟩
theorem jC14 : Cond.instantiable "QuorumLog$CallReply" 4 ∈ lw_all ∧ Cond.initialized "QuorumLog$CallReply" ∈ lw_all := ⟨lw_w 1351 (by decide +kernel) (by decide +kernel), lw_w 106 (by decide +kernel) (by decide +kernel)⟩
theorem iC15 : ∀ w ∈ u_ws "QuorumLog$Entries" tC15 7, w ∈ lw_all := lw_in (u_ws "QuorumLog$Entries" tC15 7) [1081, 1082, 1083, 1073, 1075, 1077, 1079] (by decide +kernel) (by decide +kernel)
theorem oC15 : (∀ k, k < 7 → parseFieldDescriptor (tC15 k).2.2.1 = some (clT 15 k)) ∧ (∀ a, a < 7 → ∀ b, b < 7 → a ≠ b → (tC15 a).2.1 ≠ (tC15 b).2.1) := ⟨by decide +kernel, by decide +kernel⟩
theorem jC15 : Cond.instantiable "QuorumLog$Entries" 7 ∈ lw_all ∧ Cond.initialized "QuorumLog$Entries" ∈ lw_all := ⟨lw_w 1044 (by decide +kernel) (by decide +kernel), lw_w 99 (by decide +kernel) (by decide +kernel)⟩
theorem iC16 : ∀ w ∈ u_ws "QuorumLog$Answer" tC16 5, w ∈ lw_all := lw_in (u_ws "QuorumLog$Answer" tC16 5) [1395, 1396, 1397, 1391, 1393] (by decide +kernel) (by decide +kernel)
theorem oC16 : (∀ k, k < 5 → parseFieldDescriptor (tC16 k).2.2.1 = some (clT 16 k)) ∧ (∀ a, a < 5 → ∀ b, b < 5 → a ≠ b → (tC16 a).2.1 ≠ (tC16 b).2.1) := ⟨by decide +kernel, by decide +kernel⟩
theorem jC16 : Cond.instantiable "QuorumLog$Answer" 5 ∈ lw_all ∧ Cond.initialized "QuorumLog$Answer" ∈ lw_all := ⟨lw_w 1384 (by decide +kernel) (by decide +kernel), lw_w 107 (by decide +kernel) (by decide +kernel)⟩
theorem iC17 : ∀ w ∈ u_ws "QuorumLog$Picture" tC17 4, w ∈ lw_all := lw_in (u_ws "QuorumLog$Picture" tC17 4) [1036, 1038, 1040, 1034] (by decide +kernel) (by decide +kernel)
theorem oC17 : (∀ k, k < 4 → parseFieldDescriptor (tC17 k).2.2.1 = some (clT 17 k)) ∧ (∀ a, a < 4 → ∀ b, b < 4 → a ≠ b → (tC17 a).2.1 ≠ (tC17 b).2.1) := ⟨by decide +kernel, by decide +kernel⟩
theorem jC17 : Cond.instantiable "QuorumLog$Picture" 4 ∈ lw_all ∧ Cond.initialized "QuorumLog$Picture" ∈ lw_all := ⟨lw_w 993 (by decide +kernel) (by decide +kernel), lw_w 98 (by decide +kernel) (by decide +kernel)⟩
theorem iC18 : ∀ w ∈ u_ws "QuorumLog$Hurry" tC18 3, w ∈ lw_all := lw_in (u_ws "QuorumLog$Hurry" tC18 3) [1903, 1904, 1905] (by decide +kernel) (by decide +kernel)
theorem oC18 : (∀ k, k < 3 → parseFieldDescriptor (tC18 k).2.2.1 = some (clT 18 k)) ∧ (∀ a, a < 3 → ∀ b, b < 3 → a ≠ b → (tC18 a).2.1 ≠ (tC18 b).2.1) := ⟨by decide +kernel, by decide +kernel⟩
theorem jC18 : Cond.instantiable "QuorumLog$Hurry" 3 ∈ lw_all ∧ Cond.initialized "QuorumLog$Hurry" ∈ lw_all := ⟨lw_w 1898 (by decide +kernel) (by decide +kernel), lw_w 109 (by decide +kernel) (by decide +kernel)⟩
theorem iC19 : ∀ w ∈ u_ws "java/util/ArrayList" tC19 3, w ∈ lw_all := lw_in (u_ws "java/util/ArrayList" tC19 3) [158, 154, 156] (by decide +kernel) (by decide +kernel)
theorem oC19 : (∀ k, k < 3 → parseFieldDescriptor (tC19 k).2.2.1 = some (clT 19 k)) ∧ (∀ a, a < 3 → ∀ b, b < 3 → a ≠ b → (tC19 a).2.1 ≠ (tC19 b).2.1) := ⟨by decide +kernel, by decide +kernel⟩
theorem jC19 : Cond.instantiable "java/util/ArrayList" 3 ∈ lw_all ∧ Cond.initialized "java/util/ArrayList" ∈ lw_all := ⟨lw_w 136 (by decide +kernel) (by decide +kernel), lw_w 66 (by decide +kernel) (by decide +kernel)⟩
theorem iC20 : ∀ w ∈ u_ws "java/util/BitSet" tC20 3, w ∈ lw_all := lw_in (u_ws "java/util/BitSet" tC20 3) [205, 207, 209] (by decide +kernel) (by decide +kernel)
theorem oC20 : (∀ k, k < 3 → parseFieldDescriptor (tC20 k).2.2.1 = some (clT 20 k)) ∧ (∀ a, a < 3 → ∀ b, b < 3 → a ≠ b → (tC20 a).2.1 ≠ (tC20 b).2.1) := ⟨by decide +kernel, by decide +kernel⟩
theorem jC20 : Cond.instantiable "java/util/BitSet" 3 ∈ lw_all ∧ Cond.initialized "java/util/BitSet" ∈ lw_all := ⟨lw_w 190 (by decide +kernel) (by decide +kernel), lw_w 67 (by decide +kernel) (by decide +kernel)⟩
theorem iC21 : ∀ w ∈ u_ws "QuorumLogModel" tC21 4, w ∈ lw_all := lw_in (u_ws "QuorumLogModel" tC21 4) [2441, 2443, 2445, 2447] (by decide +kernel) (by decide +kernel)
theorem oC21 : (∀ k, k < 4 → parseFieldDescriptor (tC21 k).2.2.1 = some (clT 21 k)) ∧ (∀ a, a < 4 → ∀ b, b < 4 → a ≠ b → (tC21 a).2.1 ≠ (tC21 b).2.1) := ⟨by decide +kernel, by decide +kernel⟩
theorem jC21 : Cond.instantiable "QuorumLogModel" 4 ∈ lw_all ∧ Cond.initialized "QuorumLogModel" ∈ lw_all := ⟨lw_w 2303 (by decide +kernel) (by decide +kernel), lw_w 92 (by decide +kernel) (by decide +kernel)⟩
theorem iC22 : ∀ w ∈ u_ws "QuorumLogModel$State" tC22 28, w ∈ lw_all := lw_in (u_ws "QuorumLogModel$State" tC22 28) [2368, 2370, 2372, 2374, 2376, 2378, 2380, 2382, 2384, 2386, 2388, 2390, 2392, 2394, 2396, 2398, 2400, 2402, 2404, 2406, 2408, 2410, 2412, 2414, 2416, 2418, 2420, 2422] (by decide +kernel) (by decide +kernel)
theorem oC22 : (∀ k, k < 28 → parseFieldDescriptor (tC22 k).2.2.1 = some (clT 22 k)) ∧ (∀ a, a < 28 → ∀ b, b < 28 → a ≠ b → (tC22 a).2.1 ≠ (tC22 b).2.1) := ⟨by decide +kernel, by decide +kernel⟩
theorem jC22 : Cond.instantiable "QuorumLogModel$State" 28 ∈ lw_all ∧ Cond.initialized "QuorumLogModel$State" ∈ lw_all := ⟨lw_w 2309 (by decide +kernel) (by decide +kernel), lw_w 93 (by decide +kernel) (by decide +kernel)⟩
def cl_row (ci : Nat) (q : vw_C) : Prop := (∀ w ∈ u_ws q.1 q.2.1 q.2.2, w ∈ lw_all) ∧ Cond.instantiable q.1 q.2.2 ∈ lw_all ∧ Cond.initialized q.1 ∈ lw_all ∧ (∀ k, k < q.2.2 → parseFieldDescriptor (q.2.1 k).2.2.1 = some (clT ci k)) ∧ (∀ a, a < q.2.2 → ∀ b, b < q.2.2 → a ≠ b → (q.2.1 a).2.1 ≠ (q.2.1 b).2.1)
theorem cl_all : ∀ (ci : Nat) (q : vw_C), clL[ci]? = some q → cl_row ci q := by
  intro ci q hq
  match ci, hq with
  | 0, hq => cases hq; exact ⟨iC0, jC0.1, jC0.2, oC0.1, oC0.2⟩
  | 1, hq => cases hq; exact ⟨iC1, jC1.1, jC1.2, oC1.1, oC1.2⟩
  | 2, hq => cases hq; exact ⟨iC2, jC2.1, jC2.2, oC2.1, oC2.2⟩
  | 3, hq => cases hq; exact ⟨iC3, jC3.1, jC3.2, oC3.1, oC3.2⟩
  | 4, hq => cases hq; exact ⟨iC4, jC4.1, jC4.2, oC4.1, oC4.2⟩
  | 5, hq => cases hq; exact ⟨iC5, jC5.1, jC5.2, oC5.1, oC5.2⟩
  | 6, hq => cases hq; exact ⟨iC6, jC6.1, jC6.2, oC6.1, oC6.2⟩
  | 7, hq => cases hq; exact ⟨iC7, jC7.1, jC7.2, oC7.1, oC7.2⟩
  | 8, hq => cases hq; exact ⟨iC8, jC8.1, jC8.2, oC8.1, oC8.2⟩
  | 9, hq => cases hq; exact ⟨iC9, jC9.1, jC9.2, oC9.1, oC9.2⟩
  | 10, hq => cases hq; exact ⟨iC10, jC10.1, jC10.2, oC10.1, oC10.2⟩
  | 11, hq => cases hq; exact ⟨iC11, jC11.1, jC11.2, oC11.1, oC11.2⟩
  | 12, hq => cases hq; exact ⟨iC12, jC12.1, jC12.2, oC12.1, oC12.2⟩
  | 13, hq => cases hq; exact ⟨iC13, jC13.1, jC13.2, oC13.1, oC13.2⟩
  | 14, hq => cases hq; exact ⟨iC14, jC14.1, jC14.2, oC14.1, oC14.2⟩
  | 15, hq => cases hq; exact ⟨iC15, jC15.1, jC15.2, oC15.1, oC15.2⟩
  | 16, hq => cases hq; exact ⟨iC16, jC16.1, jC16.2, oC16.1, oC16.2⟩
  | 17, hq => cases hq; exact ⟨iC17, jC17.1, jC17.2, oC17.1, oC17.2⟩
  | 18, hq => cases hq; exact ⟨iC18, jC18.1, jC18.2, oC18.1, oC18.2⟩
  | 19, hq => cases hq; exact ⟨iC19, jC19.1, jC19.2, oC19.1, oC19.2⟩
  | 20, hq => cases hq; exact ⟨iC20, jC20.1, jC20.2, oC20.1, oC20.2⟩
  | 21, hq => cases hq; exact ⟨iC21, jC21.1, jC21.2, oC21.1, oC21.2⟩
  | 22, hq => cases hq; exact ⟨iC22, jC22.1, jC22.2, oC22.1, oC22.2⟩
  | n + 23, hq => exact absurd hq (by simp [clL])
end
section
/-! THE ABSTRACT HEAP: (next address, elements used), the kind of each cell, its length, its fields or elements -/
abbrev Hp : Type := (Nat × Nat) × (Nat → Nat) × (Nat → Nat) × (Nat → Nat → Value)
abbrev Lo : Type := List (Nat × Value)
abbrev Rs : Type := Except Nat (Option Value)
abbrev Ent : Type := Instr × Nat × List Nat
abbrev Act : Type := (Nat × Lo × List Value × Hp) ⊕ ((Nat × List Value × List Value) ⊕ (Rs × Hp))
abbrev Env0 : Type := Nat × (Nat → Value)
def hp_top (h : Hp) : Nat := h.1.1
def hp_use (h : Hp) : Nat := h.1.2
def hp_kd (h : Hp) : Nat → Nat := h.2.1
def hp_ln (h : Hp) : Nat → Nat := h.2.2.1
def hp_at (h : Hp) : Nat → Nat → Value := h.2.2.2
def hp_put (h : Hp) (a k : Nat) (v : Value) : Hp := (h.1, h.2.1, h.2.2.1, fun b j => if b = a ∧ j = k then v else h.2.2.2 b j)
def hp_new (h : Hp) (kd ln : Nat) (f : Nat → Value) : Hp :=
  ((h.1.1 + 1, h.1.2 + ln), (fun b => if b = h.1.1 then kd else h.2.1 b), (fun b => if b = h.1.1 then ln else h.2.2.1 b), fun b j => if b = h.1.1 then f j else h.2.2.2 b j)
/-- an array of n1 rows of n2 places each: the outer one first, then the rows in their order -/
def hp_mul (h : Hp) (k1 k2 n1 n2 : Nat) (v : Value) : Hp :=
  ((h.1.1 + 1 + n1, h.1.2 + n1 + n1 * n2), (fun b => if b = h.1.1 then k1 else if h.1.1 < b ∧ b ≤ h.1.1 + n1 then k2 else h.2.1 b),
    (fun b => if b = h.1.1 then n1 else if h.1.1 < b ∧ b ≤ h.1.1 + n1 then n2 else h.2.2.1 b),
    fun b j => if b = h.1.1 then .ref (h.1.1 + 1 + j) else if h.1.1 < b ∧ b ≤ h.1.1 + n1 then v else h.2.2.2 b j)
/-- cells that are made but not looked at -/
def hp_skip (h : Hp) (c s : Nat) : Hp := ((h.1.1 + c, h.1.2 + s), (fun b => if h.1.1 ≤ b then 0 else h.2.1 b), h.2.2.1, h.2.2.2)
/-- n places from (a, i) to (b, j), as if through a copy -/
def hp_cpy (h : Hp) (a i b j n : Nat) : Hp := (h.1, h.2.1, h.2.2.1, fun c k => if c = b ∧ j ≤ k ∧ k < j + n then h.2.2.2 a (i + (k - j)) else h.2.2.2 c k)
def lo_get : Lo → Nat → Option Value
  | [], _ => none
  | q :: l, i => bif Nat.beq q.1 i then some q.2 else lo_get l i
def lo_set1 (l : Lo) (i : Nat) (v : Value) : Lo := (i, v) :: l.filter (fun q => !(q.1 == i) && !(q.1 + 1 == i && q.2.category == 2))
def lo_set2 (l : Lo) (i : Nat) (v : Value) : Lo := (i, v) :: l.filter (fun q => !(q.1 == i) && (!(q.1 == i + 1) && !(q.1 + 1 == i && q.2.category == 2)))
def lo_del (l : Lo) (i : Nat) : Lo := l.filter (fun q => !(q.1 == i) && !(q.1 + 1 == i && q.2.category == 2))
/-! what an instruction does: by its sort -/
def rn_con : Instr → List Nat → Option Value
  | .iconst n, _ => some (.int (Int32.ofInt n))
  | .bipush n, _ => some (.int (Int8.ofInt n).toInt32)
  | .sipush n, _ => some (.int (Int16.ofInt n).toInt32)
  | .lconst n, _ => some (.long (Int64.ofNat (n : Nat)))
  | .dconst n, _ => if n = 0 then some (.double FP.dconst0) else none
  | .aconst_null, _ => some .null
  | .ldc _, [0, n] => some (.int (Int32.ofNat n))
  | .ldc2_w _, [n] => some (.long (Int64.ofNat n))
  | _, _ => none
def rn_un : Instr → Value → Option Value
  | .ineg, .int x => some (.int (-x))
  | .i2l, .int x => some (.long x.toInt64)
  | .l2i, .long x => some (.int x.toInt32)
  | .i2d, .int x => some (.double (FP.i2d x))
  | _, _ => none
def rn_bin : Instr → Value → Value → Option Value
  | .iadd, .int y, .int x => some (.int (x + y))
  | .isub, .int y, .int x => some (.int (x - y))
  | .imul, .int y, .int x => some (.int (x * y))
  | .idiv, .int y, .int x => if y = 0 then none else some (.int (x / y))
  | .irem, .int y, .int x => if y = 0 then none else some (.int (x - x / y * y))
  | .iand, .int y, .int x => some (.int (x &&& y))
  | .ior, .int y, .int x => some (.int (x ||| y))
  | .ixor, .int y, .int x => some (.int (x ^^^ y))
  | .ishl, .int y, .int x => some (.int (x <<< (y &&& 31)))
  | .ishr, .int y, .int x => some (.int (x >>> (y &&& 31)))
  | .ladd, .long y, .long x => some (.long (x + y))
  | .lsub, .long y, .long x => some (.long (x - y))
  | .lmul, .long y, .long x => some (.long (x * y))
  | .land, .long y, .long x => some (.long (x &&& y))
  | .lor, .long y, .long x => some (.long (x ||| y))
  | .lxor, .long y, .long x => some (.long (x ^^^ y))
  | .lshl, .int y, .long x => some (.long (x <<< (y.toInt64 &&& 63)))
  | .lushr, .int y, .long x => some (.long (x.toUInt64 >>> (y.toInt64.toUInt64 &&& Int64.toUInt64 63)).toInt64)
  | .lcmp, .long y, .long x => some (.int (lg_cmp x y))
  | .dcmp o, .double y, .double x => some (.int (Op.cmpValue (FP.dcmp x y) o))
  | .ddiv, .double y, .double x => if FP.ddiv x y &&& 0x7fffffffffffffff ≤ 0x7ff0000000000000 then some (.double (FP.ddiv x y)) else none
  | _, _, _ => none
def rn_stk : Instr → List Value → Option (List Value)
  | .dup, v :: st => if v.category = 1 then some (v :: v :: st) else none
  | .dup_x1, v :: w :: st => if v.category = 1 ∧ w.category = 1 then some (v :: w :: v :: st) else none
  | .dup2, v :: w :: st => if v.category = 1 ∧ w.category = 1 then some (v :: w :: v :: w :: st) else none
  | .pop, v :: st => if v.category = 1 then some st else none
  | .invokespecial _, .ref _ :: st => if (st.map fun v => v.category).sum ≤ 8 then some st else none
  | _, _ => none
def rn_tag : Value → Nat
  | .int _ => 0
  | .ref _ => 1
  | .null => 1
  | .long _ => 2
  | .double _ => 3
  | _ => 9
def rn_ld : Instr → Option (Nat × Nat)
  | .iload i => some (i, 0)
  | .iload_n i => some (i, 0)
  | .aload i => some (i, 1)
  | .aload_n i => some (i, 1)
  | .lload i => some (i, 2)
  | .lload_n i => some (i, 2)
  | .dload i => some (i, 3)
  | _ => none
def rn_st : Instr → Option (Nat × Nat)
  | .istore i => some (i, 0)
  | .istore_n i => some (i, 0)
  | .astore i => some (i, 1)
  | .astore_n i => some (i, 1)
  | .lstore i => some (i, 2)
  | .lstore_n i => some (i, 2)
  | .dstore i => some (i, 3)
  | _ => none
def rn_ci : ClassFile.Cond → Int32 → Int32 → Bool
  | .eq, x, y => decide (x = y)
  | .ne, x, y => decide (¬ x = y)
  | .lt, x, y => decide (x < y)
  | .ge, x, y => decide (y ≤ x)
  | .gt, x, y => decide (y < x)
  | .le, x, y => decide (x ≤ y)
def rn_isr : Value → Bool
  | .ref _ => true
  | .null => true
  | _ => false
/-- a jump: where to, and the stack left -/
def rn_br : Instr → List Nat → Nat → List Value → Option (Nat × List Value)
  | .goto _, [t], _, st => some (t, st)
  | .ifCond c _, [t], n, .int x :: st => some (if rn_ci c x 0 then t else n, st)
  | .if_icmp c _, [t], n, .int y :: .int x :: st => some (if rn_ci c x y then t else n, st)
  | .ifnull _, [t], _, .null :: st => some (t, st)
  | .ifnull _, [_], n, .ref _ :: st => some (n, st)
  | .ifnonnull _, [_], n, .null :: st => some (n, st)
  | .ifnonnull _, [t], _, .ref _ :: st => some (t, st)
  | .if_acmp .eq _, [t], n, y :: x :: st => if rn_isr x && rn_isr y then some (if x = y then t else n, st) else none
  | .if_acmp .ne _, [t], n, y :: x :: st => if rn_isr x && rn_isr y then some (if x = y then n else t, st) else none
  | .tableswitch _ _ _ _, dt :: lo :: ts, _, .int x :: st => some (if x.toInt < lo then dt else ts.getD (x.toInt - lo).toNat dt, st)
  | _, _, _, _ => none
abbrev kI : Nat := 101
abbrev kZ : Nat := 102
abbrev kJ : Nat := 103
abbrev kO : Nat := 104
abbrev kS : Nat := 105
abbrev kC : Nat := 106
abbrev kII : Nat := 107
abbrev kZZ : Nat := 108
def rn_in (i : Int32) (n : Nat) : Bool := decide (¬ i < 0) && decide (i.toNatClampNeg < n)
/-- what is read of the heap: the stack behind it -/
def rn_rd (E : Env0) (h : Hp) : Instr → List Nat → List Value → Option (List Value)
  | .getfield _, k :: ks, .ref a :: st => bif ks.contains (hp_kd h a) then some (hp_at h a k :: st) else none
  | .iaload, _, .int i :: .ref a :: st => bif Nat.beq (hp_kd h a) kI && rn_in i (hp_ln h a) then some (hp_at h a i.toNatClampNeg :: st) else none
  | .baload, _, .int i :: .ref a :: st => bif Nat.beq (hp_kd h a) kZ && rn_in i (hp_ln h a) then some (hp_at h a i.toNatClampNeg :: st) else none
  | .laload, _, .int i :: .ref a :: st => bif Nat.beq (hp_kd h a) kJ && rn_in i (hp_ln h a) then some (hp_at h a i.toNatClampNeg :: st) else none
  | .aaload, _, .int i :: .ref a :: st => bif Nat.ble kO (hp_kd h a) && rn_in i (hp_ln h a) then some (hp_at h a i.toNatClampNeg :: st) else none
  | .arraylength, _, .ref a :: st => bif Nat.ble kI (hp_kd h a) then some (.int (Int32.ofNat (hp_ln h a)) :: st) else none
  | .getstatic _, [i], st => some (E.2 i :: st)
  | .ldc _, [1, i], st => some (E.2 i :: st)
  | .checkcast _, _, .null :: st => some (.null :: st)
  | .checkcast _, ks, .ref a :: st => bif ks.contains (hp_kd h a) then some (.ref a :: st) else none
  | .instanceof _, n :: ks, .ref a :: st => bif (ks.take n).contains (hp_kd h a) then some (.int 1 :: st) else bif (ks.drop n).contains (hp_kd h a) then some (.int 0 :: st) else none
  | .invokevirtual _, [i], .ref a :: st => bif Nat.beq (hp_kd h a) kO && decide ((st.map fun v => v.category).sum ≤ 8) then some (E.2 i :: st) else none
  | _, _, _ => none
/-- does the value fit a field of that type (0 int, 1 reference, 2 long, 3 boolean) -/
def rn_fit : Nat → Value → Bool
  | 0, .int _ => true
  | 1, .ref _ => true
  | 1, .null => true
  | 2, .long _ => true
  | 3, .int x => x == 0 || x == 1
  | _, _ => false
def rn_pair : List Nat → Nat → Nat → Bool
  | a :: b :: l, x, y => (Nat.beq a x && Nat.beq b y) || rn_pair l x y
  | _, _, _ => false
/-- what is written: the stack and the heap behind it -/
def rn_wr (E : Env0) (h : Hp) : Instr → List Nat → List Value → Option (List Value × Hp)
  | .putfield _, k :: t :: ks, v :: .ref a :: st => bif Nat.ble E.1 a && ks.contains (hp_kd h a) && rn_fit t v then some (st, hp_put h a k v) else none
  | .iastore, _, .int x :: .int i :: .ref a :: st => bif Nat.ble E.1 a && Nat.beq (hp_kd h a) kI && rn_in i (hp_ln h a) then some (st, hp_put h a i.toNatClampNeg (.int x)) else none
  | .bastore, _, .int x :: .int i :: .ref a :: st => bif Nat.ble E.1 a && Nat.beq (hp_kd h a) kZ && rn_in i (hp_ln h a) && (x == 0 || x == 1) then some (st, hp_put h a i.toNatClampNeg (.int x)) else none
  | .lastore, _, .long x :: .int i :: .ref a :: st => bif Nat.ble E.1 a && Nat.beq (hp_kd h a) kJ && rn_in i (hp_ln h a) then some (st, hp_put h a i.toNatClampNeg (.long x)) else none
  | .aastore, _, .null :: .int i :: .ref a :: st => bif Nat.ble E.1 a && Nat.beq (hp_kd h a) kO && rn_in i (hp_ln h a) then some (st, hp_put h a i.toNatClampNeg .null) else none
  | .aastore, ks, .ref b :: .int i :: .ref a :: st => bif Nat.ble E.1 a && Nat.ble E.1 b && rn_pair ks (hp_kd h a) (hp_kd h b) && rn_in i (hp_ln h a) then some (st, hp_put h a i.toNatClampNeg (.ref b)) else none
  | .invokestatic _, [5], .int n :: .int j :: .ref b :: .int i :: .ref a :: st =>
    bif Nat.ble E.1 b && Nat.beq (hp_kd h a) (hp_kd h b) && Nat.ble kI (hp_kd h b) && Nat.ble (hp_kd h b) kO && decide (¬ n < 0) && decide (¬ i < 0) && decide (¬ j < 0) && decide (i.toNatClampNeg + n.toNatClampNeg ≤ hp_ln h a) && decide (j.toNatClampNeg + n.toNatClampNeg ≤ hp_ln h b) && decide ((st.map fun v => v.category).sum ≤ 8)
    then some (st, hp_cpy h a i.toNatClampNeg b j.toNatClampNeg n.toNatClampNeg) else none
  | _, _, _ => none
def rn_cap (st : List Value) (n : Nat) : List Value := (st.take n).reverse
/-- what is made: the stack and the heap behind it; fd: the fields' first values -/
def rn_al (fd : Nat → Nat × (Nat → Value)) (h : Hp) : Instr → List Nat → List Value → Option (List Value × Hp)
  | .new _, [ci], st => some (.ref (hp_top h) :: st, hp_new h (ci + 1) (fd ci).1 (fd ci).2)
  | .newarray _, [k], .int n :: st => bif decide (¬ n < 0) && decide (n.toNatClampNeg ≤ 1000000) then some (.ref (hp_top h) :: st, hp_new h k n.toNatClampNeg (fun _ => if k = kJ then .long 0 else .int 0)) else none
  | .anewarray _, [k], .int n :: st => bif decide (¬ n < 0) && decide (n.toNatClampNeg ≤ 1000000) then some (.ref (hp_top h) :: st, hp_new h k n.toNatClampNeg (fun _ => .null)) else none
  | .multianewarray _ _, [k1, k2], .int m :: .int n :: st => bif decide (¬ n < 0) && decide (¬ m < 0) && decide (n.toNatClampNeg ≤ 1000) && decide (m.toNatClampNeg ≤ 1000) then some (.ref (hp_top h) :: st, hp_mul h k1 k2 n.toNatClampNeg m.toNatClampNeg (.int 0)) else none
  | .invokedynamic _, [k, n], st => bif decide ((st.map fun v => v.category).sum ≤ 8) && Nat.ble n st.length && (st.take n).all (fun v => Nat.beq (rn_tag v) 0) then some (.ref (hp_top h) :: st.drop n, hp_new h k n (fun j => (rn_cap st n).getD j .null)) else none
  | _, _, _ => none
def rn_sel : List Nat → Nat → Option Nat
  | a :: b :: l, x => bif Nat.beq a x then some b else rn_sel l x
  | _, _ => none
/-- a call: whom, with what, what stays; ops: how many arguments behind the receiver, then receiver's kind and callee in pairs (static: callee alone) -/
def rn_cl (h : Hp) : Instr → List Nat → List Value → Option (Nat × List Value × List Value)
  | .invokestatic _, [n, m], st => bif Nat.ble n st.length && decide (((st.drop n).map fun v => v.category).sum ≤ 8) then some (m, rn_cap st n, st.drop n) else none
  | .invokespecial _, [n, m], st => match st.drop n with
    | .ref a :: r => bif decide ((r.map fun v => v.category).sum ≤ 8) then some (m, .ref a :: rn_cap st n, r) else none
    | _ => none
  | .invokevirtual _, n :: p :: ps, st => match st.drop n with
    | .ref a :: r => match rn_sel (p :: ps) (hp_kd h a) with
      | some m => bif decide ((r.map fun v => v.category).sum ≤ 8) then some (m, .ref a :: rn_cap st n, r) else none
      | none => none
    | _ => none
  | .invokeinterface _ _, n :: ps, st => match st.drop n with
    | .ref a :: r => match rn_sel ps (hp_kd h a) with
      | some m => bif decide ((r.map fun v => v.category).sum ≤ 8) then
          some (m, (bif Nat.ble 60 (hp_kd h a) && Nat.ble (hp_kd h a) 69 then (List.range (hp_ln h a)).map (hp_at h a) ++ rn_cap st n else .ref a :: rn_cap st n), r) else none
      | none => none
    | _ => none
  | _, _, _ => none
/-- the end of a method -/
def rn_rt : Instr → List Nat → List Value → Option (Option Value)
  | .return_, _, [] => some none
  | .ireturn, [0], [.int x] => some (some (.int x))
  | .ireturn, [1], [.int x] => if x = 0 ∨ x = 1 then some (some (.int x)) else none
  | .lreturn, _, [.long x] => some (some (.long x))
  | .dreturn, _, [.double x] => some (some (.double x))
  | .areturn, _, [.ref a] => some (some (.ref a))
  | .areturn, _, [.null] => some (some .null)
  | _, _, _ => none
/-- the sort of an instruction: 0 constant, 1, 2 arithmetic, 3 stack, 4 load, 5 store, 6 count up, 7 jump, 8 read, 9 write, 10 make, 11 call, 12 end, 13 throw -/
def rn_opc : Instr → List Nat → Nat
  | .iconst _, _ => 0 | .bipush _, _ => 0 | .sipush _, _ => 0 | .lconst _, _ => 0 | .dconst _, _ => 0 | .aconst_null, _ => 0 | .ldc2_w _, _ => 0
  | .ldc _, 0 :: _ => 0 | .ldc _, _ => 8
  | .ineg, _ => 1 | .i2l, _ => 1 | .l2i, _ => 1 | .i2d, _ => 1
  | .iadd, _ => 2 | .isub, _ => 2 | .imul, _ => 2 | .idiv, _ => 2 | .irem, _ => 2 | .iand, _ => 2 | .ior, _ => 2 | .ixor, _ => 2 | .ishl, _ => 2 | .ishr, _ => 2
  | .ladd, _ => 2 | .lsub, _ => 2 | .lmul, _ => 2 | .land, _ => 2 | .lor, _ => 2 | .lxor, _ => 2 | .lshl, _ => 2 | .lushr, _ => 2 | .lcmp, _ => 2 | .dcmp _, _ => 2 | .ddiv, _ => 2
  | .dup, _ => 3 | .dup_x1, _ => 3 | .dup2, _ => 3 | .pop, _ => 3 | .invokespecial _, [] => 3
  | .iload _, _ => 4 | .iload_n _, _ => 4 | .aload _, _ => 4 | .aload_n _, _ => 4 | .lload _, _ => 4 | .lload_n _, _ => 4 | .dload _, _ => 4
  | .istore _, _ => 5 | .istore_n _, _ => 5 | .astore _, _ => 5 | .astore_n _, _ => 5 | .lstore _, _ => 5 | .lstore_n _, _ => 5 | .dstore _, _ => 5
  | .iinc _ _, _ => 6
  | .goto _, _ => 7 | .ifCond _ _, _ => 7 | .if_icmp _ _, _ => 7 | .ifnull _, _ => 7 | .ifnonnull _, _ => 7 | .if_acmp _ _, _ => 7 | .tableswitch _ _ _ _, _ => 7
  | .getfield _, _ => 8 | .iaload, _ => 8 | .baload, _ => 8 | .laload, _ => 8 | .aaload, _ => 8 | .arraylength, _ => 8 | .getstatic _, _ => 8 | .checkcast _, _ => 8 | .instanceof _, _ => 8 | .invokevirtual _, [_] => 8
  | .putfield _, _ => 9 | .iastore, _ => 9 | .bastore, _ => 9 | .lastore, _ => 9 | .aastore, _ => 9 | .invokestatic _, [_] => 9
  | .new _, [_] => 10 | .newarray _, _ => 10 | .anewarray _, _ => 10 | .multianewarray _ _, _ => 10 | .invokedynamic _, _ => 10
  | .invokestatic _, _ => 11 | .invokespecial _, _ => 11 | .invokevirtual _, _ => 11 | .invokeinterface _ _, _ => 11
  | .return_, _ => 12 | .ireturn, _ => 12 | .lreturn, _ => 12 | .dreturn, _ => 12 | .areturn, _ => 12
  | .new _, _ => 13
  | _, _ => 99
/-- one instruction -/
def rn_step (E : Env0) (fd : Nat → Nat × (Nat → Value)) (e : Ent) (pc : Nat) (lo : Lo) (st : List Value) (h : Hp) : Option Act :=
  match rn_opc e.1 e.2.2 with
  | 0 => (rn_con e.1 e.2.2).map fun v => .inl (pc + e.2.1, lo, v :: st, h)
  | 1 => match st with
    | v :: r => (rn_un e.1 v).map fun w => .inl (pc + e.2.1, lo, w :: r, h)
    | _ => none
  | 2 => match st with
    | y :: x :: r => (rn_bin e.1 y x).map fun w => .inl (pc + e.2.1, lo, w :: r, h)
    | _ => none
  | 3 => (rn_stk e.1 st).map fun r => .inl (pc + e.2.1, lo, r, h)
  | 4 => match rn_ld e.1 with
    | some (i, t) => match lo_get lo i with
      | some v => bif Nat.beq (rn_tag v) t then some (.inl (pc + e.2.1, lo, v :: st, h)) else none
      | none => none
    | none => none
  | 5 => match rn_st e.1, st with
    | some (i, t), v :: r => bif Nat.beq (rn_tag v) t then some (.inl (pc + e.2.1, (bif Nat.blt t 2 then lo_set1 lo i v else lo_set2 lo i v), r, h)) else none
    | _, _ => none
  | 6 => match e.1 with
    | .iinc i n => match lo_get lo i with
      | some (.int x) => some (.inl (pc + e.2.1, lo_set1 lo i (.int (x + Int32.ofInt n)), st, h))
      | _ => none
    | _ => none
  | 7 => (rn_br e.1 e.2.2 (pc + e.2.1) st).map fun q => .inl (q.1, lo, q.2, h)
  | 8 => (rn_rd E h e.1 e.2.2 st).map fun r => .inl (pc + e.2.1, lo, r, h)
  | 9 => (rn_wr E h e.1 e.2.2 st).map fun q => .inl (pc + e.2.1, lo, q.1, q.2)
  | 10 => (rn_al fd h e.1 e.2.2 st).map fun q => .inl (pc + e.2.1, lo, q.1, q.2)
  | 11 => (rn_cl h e.1 e.2.2 st).map fun q => .inr (.inl q)
  | 12 => (rn_rt e.1 e.2.2 st).map fun v => .inr (.inr (.ok v, h))
  | 13 => match e.2.2 with
    | [_, x] => bif decide ((st.map fun v => v.category).sum ≤ 8) then some (.inr (.inr (.error x, hp_skip h 1 6))) else none
    | _ => none
  | _ => none
/-- the whole program: I its instructions, mx how many places its methods have, fd the fields' first values, hd its handlers (method, pc, what is thrown: where to go on behind the store of the thrown, and that place) -/
def rn_run (I : Nat → Nat → Option Ent) (mx : Nat → Nat) (fd : Nat → Nat × (Nat → Value)) (hd : Nat → Nat → Nat → Option (Option (Nat × Nat))) (E : Env0) : Nat → Nat → Nat → Nat → Lo → List Value → Hp → Option (Rs × Hp)
  | 0, _, _, _, _, _, _ => none
  | n + 1, d, mi, pc, lo, st, h =>
    match I mi pc with
    | none => none
    | some e => match rn_step E fd e pc lo st h with
      | none => none
      | some (.inl q) => rn_run I mx fd hd E n d mi q.1 q.2.1 q.2.2.1 q.2.2.2
      | some (.inr (.inr r)) => some r
      | some (.inr (.inl q)) => match d with
        | 0 => none
        | d' + 1 => bif Nat.ble (q.2.1.map fun v => v.category).sum (mx q.1) then
          match rn_run I mx fd hd E n d' q.1 0 (lv_args 0 q.2.1) [] h with
          | none => none
          | some (.ok v, h') => rn_run I mx fd hd E n (d' + 1) mi (pc + e.2.1) lo (v.toList ++ q.2.2) h'
          | some (.error x, h') => match hd mi pc x with
            | some (some k) => rn_run I mx fd hd E n (d' + 1) mi k.1 (lo_del lo k.2) [] h'
            | some none => some (.error x, h')
            | none => none
          else none
end
section
/-! one lemma a sort of instruction: the machine goes where rn_step goes; here those that leave the heap alone -/
def rn_len : Instr → Nat
  | .iload _ => 2 | .aload _ => 2 | .lload _ => 2 | .dload _ => 2 | .istore _ => 2 | .astore _ => 2 | .lstore _ => 2 | .dstore _ => 2 | .bipush _ => 2 | .ldc _ => 2 | .newarray _ => 2
  | .sipush _ => 3 | .ldc2_w _ => 3 | .iinc _ _ => 3 | .goto _ => 3 | .ifCond _ _ => 3 | .if_icmp _ _ => 3 | .ifnull _ => 3 | .ifnonnull _ => 3 | .if_acmp _ _ => 3
  | .getfield _ => 3 | .putfield _ => 3 | .getstatic _ => 3 | .checkcast _ => 3 | .instanceof _ => 3 | .new _ => 3 | .anewarray _ => 3
  | .invokevirtual _ => 3 | .invokespecial _ => 3 | .invokestatic _ => 3 | .invokeinterface _ _ => 5 | .invokedynamic _ => 5 | .multianewarray _ _ => 4
  | _ => 1
theorem lo_mem : ∀ {l : Lo} {i : Nat} {v : Value}, lo_get l i = some v → (i, v) ∈ l
  | [], _, _, h => by cases h
  | q :: l, i, v, h => by
    unfold lo_get at h
    cases hq : Nat.beq q.1 i with
    | true =>
      rw [hq] at h
      have e : q.1 = i := Nat.eq_of_beq_eq_true hq
      have e2 : q.2 = v := Option.some.inj h
      rw [← e, ← e2]
      exact List.mem_cons_self
    | false =>
      rw [hq] at h
      exact List.mem_cons_of_mem _ (lo_mem h)
theorem lo_has {ls : Array Slot} {nL : Nat} {l : Lo} (h : lv_has ls nL l) {i : Nat} {v : Value} (hg : lo_get l i = some v) : ls[i]? = some (.val v) := h.2.2 (i, v) (lo_mem hg)
section SXA
variable {p : Program} {l : Launch} {e : Env} {R : Room} {s : State} {m : MethodId} {args : Array Value} {below : List Frame} {meth : Method} {c : Code} {H : Heap} {locs : List Loc} {cells slots : Nat} {Q : State → Prop}
variable {cc : ByteArray} {pc : Nat} {ls : Array Slot} {rest : List Value}
theorem sx_con (hx : p.tables.exec = Jvm.exec) (hb : c.code = cc) {own : String} (hown : s.vm.findClass own = some m.cls) {i : Instr} {len : Nat} {ops : List Nat} (hd : decode cc pc = .ok (i, len)) (hlen : len = rn_len i)
    (hldc : ∀ ix n, i = .ldc ix → ops = [0, n] → (Jvm.Cond.constant own ix (Int32.ofNat n)).before args s = true) (hldc2 : ∀ ix n, i = .ldc2_w ix → ops = [n] → (Jvm.Cond.constantLong own ix (Int64.ofNat n)).before args s = true)
    {w : Value} (h : rn_con i ops = some w) (k : W p l e R s m args below meth c H locs cells slots Q (F0 m (pc + len) ls (w :: rest))) : W p l e R s m args below meth c H locs cells slots Q (F0 m pc ls rest) := by
  subst hlen
  unfold rn_con at h
  split at h
  · cases h; exact lv_iconst hx hb hd rfl k
  · cases h; exact lv_bipush hx hb hd rfl k
  · cases h; exact lv_sipush hx hb hd rfl k
  · cases h; exact lv_lconst hx hb hd rfl k
  · split at h
    · next e => subst e; cases h; exact lv_dconst0 hx hb hd k
    · cases h
  · cases h; exact lv_null hx hb hd k
  · cases h; exact lv_ldc hx hb hown (hldc _ _ rfl rfl) hd k
  · cases h; exact lv_ldc2 hx hb hown (hldc2 _ _ rfl rfl) hd k
  · cases h
theorem sx_un (hx : p.tables.exec = Jvm.exec) (hb : c.code = cc) {i : Instr} {len : Nat} (hd : decode cc pc = .ok (i, len)) (hlen : len = rn_len i)
    {v w : Value} (h : rn_un i v = some w) (k : W p l e R s m args below meth c H locs cells slots Q (F0 m (pc + len) ls (w :: rest))) : W p l e R s m args below meth c H locs cells slots Q (F0 m pc ls (v :: rest)) := by
  subst hlen
  unfold rn_un at h
  split at h
  · cases h; exact lv_ineg hx hb hd k
  · cases h; exact lv_i2l hx hb hd rfl k
  · cases h; exact lv_l2i hx hb hd rfl k
  · cases h; exact lv_i2d hx hb hd k
  · cases h
theorem sx_bin (hx : p.tables.exec = Jvm.exec) (hb : c.code = cc) {i : Instr} {len : Nat} (hd : decode cc pc = .ok (i, len)) (hlen : len = rn_len i)
    {y x w : Value} (h : rn_bin i y x = some w) (k : W p l e R s m args below meth c H locs cells slots Q (F0 m (pc + len) ls (w :: rest))) : W p l e R s m args below meth c H locs cells slots Q (F0 m pc ls (y :: x :: rest)) := by
  subst hlen
  unfold rn_bin at h
  split at h
  · cases h; exact lv_iadd hx hb hd k
  · cases h; exact lv_isub hx hb hd k
  · cases h; exact lv_imul hx hb hd k
  · split at h
    · cases h
    · next hne => cases h; exact lv_idiv hx hb hd hne k
  · split at h
    · cases h
    · next hne => cases h; exact lv_irem hx hb hd hne k
  · cases h; exact lv_iand hx hb hd k
  · cases h; exact lv_ior hx hb hd k
  · cases h; exact lv_ixor hx hb hd k
  · cases h; exact lv_ishl hx hb hd k
  · cases h; exact lv_ishr hx hb hd k
  · cases h; exact lv_ladd hx hb hd k
  · cases h; exact lv_lsub hx hb hd k
  · cases h; exact lv_lmul hx hb hd k
  · cases h; exact lv_land hx hb hd k
  · cases h; exact lv_lor hx hb hd k
  · cases h; exact lv_lxor hx hb hd k
  · cases h; exact lv_lshl hx hb hd rfl k
  · cases h; exact lv_lushr hx hb hd rfl k
  · cases h; exact W.lcmp hx hb hd k
  · cases h; exact lv_dcmp hx hb hd k
  · split at h
    · next hne => cases h; exact lv_ddiv hx hb hd hne k
    · cases h
  · cases h
theorem sx_ld (hx : p.tables.exec = Jvm.exec) (hb : c.code = cc) {i : Instr} {len : Nat} (hd : decode cc pc = .ok (i, len)) (hlen : len = rn_len i) {j t nL : Nat} {lo : Lo} (hl : lv_has ls nL lo)
    (hi : rn_ld i = some (j, t)) {v : Value} (hg : lo_get lo j = some v) (ht : Nat.beq (rn_tag v) t = true) (k : W p l e R s m args below meth c H locs cells slots Q (F0 m (pc + len) ls (v :: rest))) : W p l e R s m args below meth c H locs cells slots Q (F0 m pc ls rest) := by
  subst hlen
  have hv := lo_has hl hg
  unfold rn_ld at hi
  split at hi <;> cases hi <;> cases v <;> first
    | exact absurd ht Bool.false_ne_true
    | exact lv_iload hx hb hd hv k
    | exact lv_iload_n hx hb hd rfl hv k
    | exact lv_aload hx hb hd hv k
    | exact lv_aload_n hx hb hd rfl hv k
    | exact lv_aloadN hx hb hd hv k
    | exact lv_aload_nN hx hb hd rfl hv k
    | exact lv_lload hx hb hd hv k
    | exact lv_lload_n hx hb hd rfl hv k
    | exact lv_dload hx hb hd hv k
theorem sx_st (hx : p.tables.exec = Jvm.exec) (hb : c.code = cc) {i : Instr} {len : Nat} (hd : decode cc pc = .ok (i, len)) (hlen : len = rn_len i) {j t nL : Nat} {lo : Lo} (hl : lv_has ls nL lo)
    (hi : rn_st i = some (j, t)) (hj : j < nL) (hj2 : 2 ≤ t → j + 1 < nL) {v : Value} (ht : Nat.beq (rn_tag v) t = true)
    (k : ∀ ls' : Array Slot, lv_has ls' nL (bif Nat.blt t 2 then lo_set1 lo j v else lo_set2 lo j v) → W p l e R s m args below meth c H locs cells slots Q (F0 m (pc + len) ls' rest)) : W p l e R s m args below meth c H locs cells slots Q (F0 m pc ls (v :: rest)) := by
  subst hlen
  unfold rn_st at hi
  split at hi <;> cases hi <;> cases v <;> first
    | exact absurd ht Bool.false_ne_true
    | exact lv_istore hx hb hd hl hj rfl k
    | exact lv_istore_n hx hb hd rfl hl hj rfl k
    | exact lv_astore hx hb hd hl hj rfl k
    | exact lv_astore_n hx hb hd rfl hl hj rfl k
    | exact lv_astoreN hx hb hd hl hj rfl k
    | exact lv_astore_nN hx hb hd rfl hl hj rfl k
    | exact lv_lstore hx hb hd hl (hj2 (Nat.le_refl 2)) rfl k
    | exact lv_lstore_n hx hb hd rfl hl (hj2 (Nat.le_refl 2)) rfl k
    | exact lv_dstore hx hb hd hl (hj2 (Nat.le_succ 2)) rfl k
theorem sx_inc (hx : p.tables.exec = Jvm.exec) (hb : c.code = cc) {j : Nat} {n : Int} {len : Nat} (hd : decode cc pc = .ok (.iinc j n, len)) (hlen : len = 3) {nL : Nat} {lo : Lo} (hl : lv_has ls nL lo)
    (hj : j < nL) {x : Int32} (hg : lo_get lo j = some (.int x))
    (k : ∀ ls' : Array Slot, lv_has ls' nL (lo_set1 lo j (.int (x + Int32.ofInt n))) → W p l e R s m args below meth c H locs cells slots Q (F0 m (pc + len) ls' rest)) : W p l e R s m args below meth c H locs cells slots Q (F0 m pc ls rest) := by
  subst hlen
  obtain ⟨q, hq⟩ := List.getElem?_of_mem (lo_mem hg)
  exact lv_iinc hx hb hd hl hq rfl hj rfl k
theorem sx_stk (hx : p.tables.exec = Jvm.exec) (hb : c.code = cc) {i : Instr} {len : Nat} {ops : List Nat} (hd : decode cc pc = .ok (i, len)) (hlen : len = rn_len i) {own : String} (hown : s.vm.findClass own = some m.cls)
    (hobj : ∀ ix, i = .invokespecial ix → (Cond.methodLink own ix Lib.objectInit).before args s = true ∧ (Cond.instanceMethod Lib.objectInit).before args s = true ∧ (Cond.code Lib.objectInit ⟨#[0xb1]⟩ 1 none).before args s = true)
    (hsz : ls.size = c.maxLocals) (hfr : 1 ≤ R.frames) (hlo : 20 ≤ R.locals)
    {st st' : List Value} (h : rn_stk i st = some st') (k : W p l e R s m args below meth c H locs cells slots Q (F0 m (pc + len) ls st')) : W p l e R s m args below meth c H locs cells slots Q (F0 m pc ls st) := by
  subst hlen
  unfold rn_stk at h
  split at h
  · split at h
    · next e => cases h; exact lv_dup hx hb hd e k
    · cases h
  · split at h
    · next e => cases h; exact lv_dup_x1 hx hb hd e.1 e.2 k
    · cases h
  · split at h
    · next e => cases h; exact lv_dup2_11 hx hb hd e.1 e.2 k
    · cases h
  · split at h
    · next e => cases h; exact lv_pop hx hb hd e k
    · cases h
  · split at h
    · next ix a r e =>
      cases h
      obtain ⟨h1, h2, h3⟩ := hobj _ rfl
      exact W.objInit hx hb hown h1 h2 h3 rfl hsz rfl hd hfr (by have := lv_room (m := m) (pc := pc) (ls := ls) (rest := []) e; show 2 * 0 + _ + 12 ≤ _; omega) k
    · cases h
  · cases h
end SXA
end
section
/-! THE TIE between the abstract heap and the machine's -/
def en_nm (kd : Nat) : String := if kd = 50 then "QuorumLog$Role" else if kd = 51 then "QuorumLog$Deed$1" else if kd = 52 then "QuorumLog$Deed$2" else "QuorumLog$Deed$3"
def ar_ty (kd : Nat) : FieldType := if kd = 101 then .int else if kd = 102 then .boolean else if kd = 103 then .long else if kd = 104 then .object "java/lang/Object" else if kd = 105 then .object "QuorumLog$Server" else if kd = 106 then .object "QuorumLog$Client" else if kd = 107 then .array .int else .array .boolean
def ar_nm (kd : Nat) : String := if kd = 101 then "[I" else if kd = 102 then "[Z" else if kd = 103 then "[J" else if kd = 104 then "[Ljava/lang/Object;" else if kd = 105 then "[LQuorumLog$Server;" else if kd = 106 then "[LQuorumLog$Client;" else if kd = 107 then "[[I" else "[[Z"
/-- the name of the component of an array of references -/
def ar_co (kd : Nat) : String := if kd = 104 then "java/lang/Object" else if kd = 105 then "QuorumLog$Server" else if kd = 106 then "QuorumLog$Client" else if kd = 107 then "[I" else "[Z"
def rl_ix (D : va_G) (kd k : Nat) : Nat := if kd < 50 then D.2 (kd - 1) k else if kd < 60 then D.2 50 0 else k
def rl_kd (D : va_G) (s : State) (B a kd ln : Nat) (cell : Cell) : Prop :=
  (kd < 50 → ∃ q : vw_C, clL[kd - 1]? = some q ∧ cell.cls = D.1 (kd - 1) ∧ ln = q.2.2) ∧
  (50 ≤ kd → kd < 60 → s.vm.findClass (en_nm kd) = some cell.cls ∧ ln = 1) ∧
  (60 ≤ kd → kd < 70 → cell.cls = D.1 kd) ∧
  (100 < kd → cell.slots.size = ln ∧ s.isArrayOf cell (ar_ty kd) ∧ (B ≤ a ∨ kd = 104 → s.vm.findClass (ar_nm kd) = some cell.cls) ∧ (B ≤ a → 103 < kd → ∃ (k : Class) (comp : ClassId) (kc : Class), s.vm.classes[cell.cls]? = some k ∧ k.kind = .array comp (ar_ty kd) ∧ s.vm.findClass (ar_co kd) = some comp ∧ s.vm.classes[comp]? = some kc))
def rl_cell (D : va_G) (s : State) (B : Nat) (h : Hp) (H : Heap) (a : Nat) : Prop :=
  ∃ cell : Cell, H[a]? = some cell ∧ cell.vm.isStatics = false ∧ cell.vm ≠ .unknown ∧ (B ≤ a → cell.vm = .none) ∧ rl_kd D s B a (hp_kd h a) (hp_ln h a) cell ∧ ∀ k, k < hp_ln h a → cell.slots[rl_ix D (hp_kd h a) k]? = some (hp_at h a k)
def rl_H (D : va_G) (s : State) (B : Nat) (h : Hp) (H : Heap) : Prop := H.size = hp_top h ∧ ∀ a, hp_kd h a ≠ 0 → rl_cell D s B h H a
theorem rl_kd_moved {D : va_G} {u U : State} {B a kd ln : Nat} {cell : Cell} (hvm : u.vm.Alike U.vm) (h : rl_kd D u B a kd ln cell) : rl_kd D U B a kd ln cell := by
  obtain ⟨h1, h2, h3, h4⟩ := h
  refine ⟨h1, fun a b => ⟨by rw [hvm.findClass]; exact (h2 a b).1, (h2 a b).2⟩, h3, fun a => ?_⟩
  obtain ⟨q1, q2, z1, z2⟩ := h4 a
  refine ⟨q1, State.isArrayOf_alike hvm q2, fun b => by rw [hvm.findClass]; exact z1 b, fun b c => ?_⟩
  obtain ⟨k, comp, kc, y1, y2, y3, y4⟩ := z2 b c
  obtain ⟨k', hk', e⟩ := hvm.2.2 _ _ y1
  obtain ⟨kc', hkc', ec⟩ := hvm.2.2 _ _ y4
  exact ⟨k', comp, kc', hk', by rw [e]; exact y2, by rw [hvm.findClass]; exact y3, hkc'⟩
theorem rl_H_moved {D : va_G} {u U : State} {B : Nat} {h : Hp} {H : Heap} (hvm : u.vm.Alike U.vm) (r : rl_H D u B h H) : rl_H D U B h H := by
  refine ⟨r.1, fun a ha => ?_⟩
  obtain ⟨cell, c1, c2, c3, c4, c5, c6⟩ := r.2 a ha
  exact ⟨cell, c1, c2, c3, c4, rl_kd_moved hvm c5, c6⟩
theorem rl_lt {D : va_G} {s : State} {B : Nat} {h : Hp} {H : Heap} (r : rl_H D s B h H) {a : Nat} (ha : hp_kd h a ≠ 0) : a < hp_top h := by
  obtain ⟨cell, c1, -⟩ := r.2 a ha
  rw [← r.1]
  exact (Array.getElem?_eq_some_iff.mp c1).1
/-! the frame: since the method's start only cells from B on were written -/
abbrev rl_A (B : Nat) : Nat → Prop := fun q => B ≤ q
/-- a cell is overwritten at a place -/
theorem rl_put {D : va_G} {s : State} {B : Nat} {h : Hp} {H H1 : Heap} (r : rl_H D s B h H) {a k j : Nat} {v : Value} {cell : Cell} (ha : hp_kd h a ≠ 0) (hk : k < hp_ln h a) (hj : rl_ix D (hp_kd h a) k = j)
    (hap : ∀ x, x < hp_ln h a → x ≠ k → rl_ix D (hp_kd h a) x ≠ j) (hcell : H[a]? = some cell) (hB : B ≤ a)
    (e1 : H1[a]? = some (cell.setSlot j v)) (e2 : H1.size = H.size) (e3 : ∀ q, q ≠ a → H1[q]? = H[q]?) : rl_H D s B (hp_put h a k v) H1 := by
  refine ⟨e2.trans r.1, fun b hb => ?_⟩
  have hb' : hp_kd h b ≠ 0 := hb
  obtain ⟨c, c1, c2, c3, c4, c5, c6⟩ := r.2 b hb'
  by_cases hba : b = a
  · subst hba
    cases hcell.symm.trans c1
    have hlt : j < cell.slots.size := by
      have := c6 k hk
      rw [hj] at this
      exact (Array.getElem?_eq_some_iff.mp this).1
    refine ⟨cell.setSlot j v, e1, c2, c3, c4, ?_, fun x hx => ?_⟩
    · obtain ⟨d1, d2, d3, d4⟩ := c5
      exact ⟨d1, d2, d3, fun z => ⟨(by show (cell.setSlot j v).slots.size = hp_ln h b; rw [← (d4 z).1]; simp [Cell.setSlot]), (d4 z).2.1, (d4 z).2.2⟩⟩
    · show (cell.setSlot j v).slots[rl_ix D (hp_kd h b) x]? = some (if b = b ∧ x = k then v else hp_at h b x)
      by_cases hxk : x = k
      · subst hxk
        rw [if_pos ⟨rfl, rfl⟩, hj]
        simp [Cell.setSlot, hlt]
      · rw [if_neg (fun z => hxk z.2)]
        have := hap x hx hxk
        simp only [Cell.setSlot]
        rw [Array.getElem?_setIfInBounds_ne (fun z => this z.symm)]
        exact c6 x hx
  · refine ⟨c, by rw [e3 b hba]; exact c1, c2, c3, c4, c5, fun x hx => ?_⟩
    show c.slots[rl_ix D (hp_kd h b) x]? = some (if b = a ∧ x = k then v else hp_at h b x)
    rw [if_neg (fun z => hba z.1)]
    exact c6 x hx
/-- a cell is made -/
theorem rl_new {D : va_G} {s : State} {B : Nat} {h : Hp} {H H1 : Heap} (r : rl_H D s B h H) {kd ln : Nat} {f : Nat → Value} {cell : Cell} (hB : B ≤ hp_top h)
    (e1 : H1[hp_top h]? = some cell) (e2 : H1.size = hp_top h + 1) (e3 : ∀ q, q < hp_top h → H1[q]? = H[q]?) (hv : cell.vm = .none)
    (hkd : rl_kd D s B (hp_top h) kd ln cell) (hs : ∀ k, k < ln → cell.slots[rl_ix D kd k]? = some (f k)) : rl_H D s B (hp_new h kd ln f) H1 := by
  refine ⟨e2, fun b hb => ?_⟩
  by_cases hba : b = hp_top h
  · subst hba
    have k1 : hp_kd (hp_new h kd ln f) (hp_top h) = kd := if_pos rfl
    have k2 : hp_ln (hp_new h kd ln f) (hp_top h) = ln := if_pos rfl
    refine ⟨cell, e1, (by rw [hv]; rfl), (by rw [hv]; exact fun z => nomatch z), fun _ => hv, (by rw [k1, k2]; exact hkd), fun x hx => ?_⟩
    rw [k2] at hx
    rw [k1]
    show _ = some (if hp_top h = hp_top h then f x else hp_at h (hp_top h) x)
    rw [if_pos rfl]
    exact hs x hx
  · have k1 : hp_kd (hp_new h kd ln f) b = hp_kd h b := if_neg hba
    have k2 : hp_ln (hp_new h kd ln f) b = hp_ln h b := if_neg hba
    rw [k1] at hb
    have hlt := rl_lt r hb
    obtain ⟨c, c1, c2, c3, c4, c5, c6⟩ := r.2 b hb
    refine ⟨c, by rw [e3 b hlt]; exact c1, c2, c3, c4, by rw [k1, k2]; exact c5, fun x hx => ?_⟩
    rw [k2] at hx
    rw [k1]
    show _ = some (if b = hp_top h then f x else hp_at h b x)
    rw [if_neg hba]
    exact c6 x hx
/-- cells are made that nobody looks at -/
theorem rl_skip {D : va_G} {s : State} {B : Nat} {h : Hp} {H H1 : Heap} (r : rl_H D s B h H) {n m : Nat} (e2 : H1.size = hp_top h + n) (e3 : ∀ q, q < hp_top h → H1[q]? = H[q]?) : rl_H D s B (hp_skip h n m) H1 := by
  refine ⟨e2, fun b hb => ?_⟩
  have hlt : ¬ hp_top h ≤ b := fun z => hb (if_pos z)
  have k1 : hp_kd (hp_skip h n m) b = hp_kd h b := if_neg hlt
  rw [k1] at hb
  obtain ⟨c, c1, c2, c3, c4, c5, c6⟩ := r.2 b hb
  exact ⟨c, by rw [e3 b (Nat.lt_of_not_le hlt)]; exact c1, c2, c3, c4, by rw [k1]; exact c5, fun x hx => by rw [k1]; exact c6 x hx⟩
end
section
/-! the four lambdas -/
abbrev lm_q : Type := MethodName × Nat × Nat × Lambda.Shape
def lm_sh (im : String) (cap ps : List FieldType) : Lambda.Shape :=
  { iface := "QuorumLog$Aim", name := "isMet", sam := { parameters := [.object "QuorumLog$Group"], returnType := some .boolean }, captured := cap, kind := 6, implClass := "QuorumLog", implName := im, implDesc := { parameters := ps, returnType := some .boolean }, implItf := false, inst := { parameters := [.object "QuorumLog$Group"], returnType := some .boolean } }
def lm_L : List lm_q := [(⟨"QuorumLog", "roundsToLeader", "()I"⟩, 7, 384, lm_sh "lambda$roundsToLeader$0" [] [.object "QuorumLog$Group"]), (⟨"QuorumLog", "roundsToAnswer", "(I)I"⟩, 21, 392, lm_sh "lambda$roundsToAnswer$1" [.int] [.int, .object "QuorumLog$Group"]),
  (⟨"QuorumLog", "roundsToAgree", "()I"⟩, 7, 395, lm_sh "lambda$roundsToAgree$2" [] [.object "QuorumLog$Group"]), (⟨"QuorumLog", "roundsWithout", "(I)I"⟩, 29, 396, lm_sh "lambda$roundsWithout$3" [] [.object "QuorumLog$Group"])]
abbrev y_aim : MethodName := ⟨"QuorumLog$Aim", "isMet", "(LQuorumLog$Group;)Z"⟩
def lm_ok (D : va_G) (E : Env0) (s : State) (j : Nat) (q : lm_q) : Prop := ∃ (m : MethodId) (k : Class) (cf : ClassFile) (i0 p0 : Nat) (l : Linked), s.methodNamed? q.1 = some m ∧ s.vm.classes[m.cls]? = some k ∧ k.cf = some cf ∧ Lambda.shapeOf? cf q.2.2.1 = some q.2.2.2 ∧
  (k.callSites.find? fun y => y.1 == m.idx && y.2.1 == q.2.1) = some (i0, p0, l) ∧ Lambda.isMade { classPath := fun _ => none } s.vm m.cls q.2.2.2 (D.1 (60 + j)) = true ∧ s.lambdaCallable q.2.2.2 (D.1 (60 + j)) = true ∧
  ((q.2.2.2.captured = [] ∧ ∃ a, l = .constant a ∧ E.2 (10 + j) = .ref a) ∨ (q.2.2.2.captured ≠ [] ∧ l = .makes (D.1 (60 + j))))
def kv_lam (D : va_G) (E : Env0) (s : State) : Prop := (∀ (j : Nat) (q : lm_q), lm_L[j]? = some q → lm_ok D E s j q) ∧ (Cond.interfaceMethod y_aim.cls y_aim.cls y_aim.name y_aim.desc).before #[] s = true ∧ (Cond.declares y_aim).before #[] s = true
theorem lm_tabs {s U : State} (hW : s.WarmedH U.vm) {q : Cond} (hq : q.tabsOnly = true) (h : q.before #[] s = true) : q.before #[] U = true := by
  have := Cond.tabsOnly_warm (args' := #[]) (T := U) hW q hq h
  rwa [show U.setVm U.vm = U from by cases U; rfl] at this
theorem lm_moved {D : va_G} {E : Env0} {s U : State} (hW : s.WarmedH U.vm) {j : Nat} {q : lm_q} (h : lm_ok D E s j q) : lm_ok D E U j q := by
  obtain ⟨m, k, cf, i0, p0, l, h1, h2, h3, h4, h5, h6, h7, h8⟩ := h
  have hA := hW.alike
  obtain ⟨k', h2', e⟩ := hA.2.2 _ _ h2
  have hm' : U.methodNamed? q.1 = some m := by
    have := State.methodNamed?_setVm (s := s) hA q.1
    rw [h1] at this
    exact this
  have h7' : U.lambdaCallable q.2.2.2 (D.1 (60 + j)) = true := by
    simp only [State.lambdaCallable, hA.findClass, hA.assignable, hA.superclasses, hA.declaredIn] at h7 ⊢
    exact h7
  exact ⟨m, k', cf, i0, p0, l, hm', h2', by rw [e]; exact h3, h4, by rw [e]; exact h5, Lambda.isMade_warmer hW h6, h7', h8⟩
theorem lam_moved {D : va_G} {E : Env0} {s U : State} (hW : s.WarmedH U.vm) (h : kv_lam D E s) : kv_lam D E U :=
  ⟨fun j q hq => lm_moved hW (h.1 j q hq), lm_tabs hW (by decide) h.2.1, lm_tabs hW (by decide) h.2.2⟩
end
section
/-! what a run knows of the tables, at every method's start -/
def nw_k : Jvm.Cond → Bool
  | .fieldLinkNest _ _ _ _ _ _ => true
  | .methodLinkNest _ _ _ _ => true
  | .castable _ _ => true
  | .declares _ => true
  | _ => false
theorem nw_warm {w : Jvm.Cond} (hk : nw_k w = true) {s U : State} (hW : s.WarmedH U.vm) (h : va_Nw w s) : va_Nw w U := by
  cases w <;> first
    | exact absurd hk Bool.false_ne_true
    | exact h.warmF hW
    | exact h.warmM hW
    | exact h.warmC hW
    | exact h.warmD hW
theorem nw_use {w : Jvm.Cond} (hk : nw_k w = true) {A : Array Value} {U : State} (h : va_Nw w U) : w.before A U = true := by
  cases w <;> first
    | exact absurd hk Bool.false_ne_true
    | exact va_Nw.use rfl h
theorem nw_of {w : Jvm.Cond} (hk : nw_k w = true) {A : Array Value} {U : State} (h : w.before A U = true) : va_Nw w U := by
  cases w <;> first
    | exact absurd hk Bool.false_ne_true
    | exact va_Nw.of rfl h
abbrev st_C : Type := String × String × String
def stL : List st_C := [("QuorumLog$Role", "FOLLOWER", "LQuorumLog$Role;"), ("QuorumLog$Role", "SOUNDER", "LQuorumLog$Role;"), ("QuorumLog$Role", "CANDIDATE", "LQuorumLog$Role;"), ("QuorumLog$Role", "LEADER", "LQuorumLog$Role;"),
  ("QuorumLog$Deed", "PUT", "LQuorumLog$Deed;"), ("QuorumLog$Deed", "ADD", "LQuorumLog$Deed;"), ("QuorumLog$Deed", "SWAP", "LQuorumLog$Deed;"), ("java/util/ArrayList", "DEFAULTCAPACITY_EMPTY_ELEMENTDATA", "[Ljava/lang/Object;"), ("java/util/BitSet", "$assertionsDisabled", "Z")]
def kv_cls (D : va_G) (s : State) : Prop := ∀ (ci : Nat) (q : vw_C), clL[ci]? = some q → u_Kn s q.1 q.2.1 q.2.2 (D.1 ci) (D.2 ci)
def kv_enum (D : va_G) (s : State) : Prop := ∃ (cf : ClassId) (kf : Class) (fi : Nat) (f : Field), s.fieldFound? "java/lang/Enum" "ordinal" "I" = some (cf, kf, fi, f) ∧ f.slot = D.2 50 0 ∧ f.isStatic = false
def kv_nest (s : State) : Prop := ∀ w ∈ lw_tbl, nw_k w = true → va_Nw w s
def kv_stat (E : Env0) (s : State) (H : Heap) : Prop := ∀ (i : Nat) (q : st_C), stL[i]? = some q → va_Z q.1 q.2.1 q.2.2 (E.2 i) (rl_A E.1) s H
def kv_mir (E : Env0) (s : State) : Prop := ∃ mi : Nat, E.2 9 = .ref mi ∧ va_Mi "[Ljava/lang/Object;" mi s
def ncL : List (String × String) := [("QuorumLog$Empty", "QuorumLog$Joined"), ("QuorumLog$Asked", "QuorumLog$Joined"), ("java/lang/IllegalStateException", "java/lang/IndexOutOfBoundsException"), ("java/lang/IllegalArgumentException", "java/lang/IndexOutOfBoundsException"), ("java/lang/IllegalStateException", "java/lang/IllegalArgumentException")]
def kv_not (s : State) : Prop := ∀ q ∈ ncL, va_Nc q.1 q.2 s
def kv_over (s : State) : Prop := va_AO "java/lang/Object" s ∧ va_AO "QuorumLog$Server" s ∧ va_AO "QuorumLog$Client" s
abbrev y_lsize : MethodName := ⟨"java/util/List", "size", "()I"⟩
abbrev y_lget : MethodName := ⟨"java/util/List", "get", "(I)Ljava/lang/Object;"⟩
abbrev y_ctoA : MethodName := ⟨"java/util/Collection", "toArray", "()[Ljava/lang/Object;"⟩
abbrev y_asize : MethodName := ⟨"java/util/ArrayList", "size", "()I"⟩
abbrev y_aget : MethodName := ⟨"java/util/ArrayList", "get", "(I)Ljava/lang/Object;"⟩
abbrev y_atoA : MethodName := ⟨"java/util/ArrayList", "toArray", "()[Ljava/lang/Object;"⟩
def kv_face (s : State) : Prop := va_Fw "java/util/ArrayList" y_lsize y_asize s ∧ va_Fw "java/util/ArrayList" y_lget y_aget s ∧ va_Fw "java/util/ArrayList" y_ctoA y_atoA s
def kv_exc (E : Env0) (s : State) (H : Heap) : Prop := vx_Zq Bundle.tN "UNASSIGNED_STACK" Bundle.steD (rl_A E.1) s H ∧ vx_Zq Bundle.tN "SUPPRESSED_SENTINEL" Bundle.listD (rl_A E.1) s H
/-! two dimensions -/
def ml_ok (t : FieldType) (s : State) : Prop := ∃ (comp cA : ClassId) (kA kc : Class) (comp2 : ClassId), s.vm.findClass (FieldType.array t).toString = some comp ∧ s.vm.findClass ("[" ++ (FieldType.array t).toString) = some cA ∧ s.vm.classes[cA]? = some kA ∧ kA.kind = .array comp (.array t) ∧ s.vm.classes[comp]? = some kc ∧ kc.kind = .array comp2 t
theorem ml_moved {t : FieldType} {u U : State} (hvm : u.vm.Alike U.vm) (h : ml_ok t u) : ml_ok t U := by
  obtain ⟨comp, cA, kA, kc, comp2, h1, h2, h3, h4, h5, h6⟩ := h
  obtain ⟨kA', a1, a2⟩ := hvm.2.2 _ _ h3
  obtain ⟨kc', b1, b2⟩ := hvm.2.2 _ _ h5
  exact ⟨comp, cA, kA', kc', comp2, by rw [hvm.findClass]; exact h1, by rw [hvm.findClass]; exact h2, a1, by rw [a2]; exact h4, b1, by rw [b2]; exact h6⟩
def kv_mul (s : State) : Prop := ml_ok .int s ∧ ml_ok .boolean s
def kv_ok (D : va_G) (E : Env0) (s : State) (H : Heap) : Prop := kv_cls D s ∧ kv_enum D s ∧ kv_nest s ∧ kv_stat E s H ∧ kv_mir E s ∧ kv_not s ∧ kv_over s ∧ kv_face s ∧ kv_exc E s H ∧ kv_mul s ∧ kv_lam D E s
/-- a field's link, plain or of a nest mate -/
def ek_lk (own : String) (ix : Nat) (ref nm ds : String) : Prop := Cond.fieldLink own ix ref nm ds ∈ lw_all ∨ ∃ host, Cond.fieldLinkNest own ix ref nm ds host ∈ lw_tbl
def ek_fld (own : String) (ix kd k : Nat) : Prop :=
  (kd < 50 ∧ ∃ (q : vw_C) (ref : String), clL[kd - 1]? = some q ∧ k < q.2.2 ∧ ek_lk own ix ref (q.2.1 k).2.1 (q.2.1 k).2.2.1 ∧ (ref = (q.2.1 k).1 ∨ Cond.sameField ref (q.2.1 k).1 (q.2.1 k).2.1 (q.2.1 k).2.2.1 ∈ lw_all)) ∨
  (50 ≤ kd ∧ kd < 60 ∧ k = 0 ∧ Cond.fieldLink own ix "java/lang/Enum" "ordinal" "I" ∈ lw_all)
def cl_ok : Prop := ∀ (ci : Nat) (q : vw_C), clL[ci]? = some q → cl_row ci q
section SXB
variable {p : Program} {l : Launch} {e : Env} {R : Room} {s : State} {m : MethodId} {args : Array Value} {below : List Frame} {meth : Method} {c : Code} {H : Heap} {locs : List Loc} {cells slots : Nat} {Q : State → Prop}
variable {cc : ByteArray} {pc : Nat} {ls : Array Slot} {rest : List Value} {D : va_G} {E : Env0} {h : Hp}
theorem sx_get (hx : p.tables.exec = Jvm.exec) (hb : c.code = cc) {own : String} (hown : s.vm.findClass own = some m.cls) (hts : ∀ w ∈ lw_all, w.before args s = true) (hcl : cl_ok) (hK : kv_cls D s) (hE : kv_enum D s) (hN : kv_nest s)
    (hr : rl_H D s E.1 h H) {ix a k : Nat} (h0 : hp_kd h a ≠ 0) (hf : ek_fld own ix (hp_kd h a) k) (hd : decode cc pc = .ok (.getfield ix, 3))
    (kk : W p l e R s m args below meth c H locs cells slots Q (F0 m (pc + 3) ls (hp_at h a k :: rest))) : W p l e R s m args below meth c H locs cells slots Q (F0 m pc ls (.ref a :: rest)) := by
  obtain ⟨cell, c1, c2, c3, c4, c5, c6⟩ := hr.2 a h0
  rcases hf with ⟨h1, q, ref, h2, h3, h4, h5⟩ | ⟨h1, h2, h3, h4⟩
  · obtain ⟨q', z1, z2, z3⟩ := c5.1 h1
    cases h2.symm.trans z1
    obtain ⟨hS, hfc, kC, hkC, hkind⟩ := hK _ q h2
    obtain ⟨cf, kf, fi, f, hi, hsl⟩ := hS k h3
    obtain ⟨hin, -⟩ := hcl _ q h2
    have hsame : s.fieldFound? ref (q.2.1 k).2.1 (q.2.1 k).2.2.1 = some (cf, kf, fi, f) := by
      rcases h5 with rfl | h5
      · exact hi
      · exact u_same (hts _ h5) _ hi
    have hst := (u_facts hfc hkC (u_lays hts hin h3) hi).1
    have hv : cell.slots[f.slot]? = some (hp_at h a k) := by
      rw [hsl]
      have := c6 k (by rw [z3]; exact h3)
      rw [show rl_ix D (hp_kd h a) k = D.2 (hp_kd h a - 1) k from if_pos h1] at this
      exact this
    rcases h4 with h4 | ⟨host, h4⟩
    · exact W.getf hx hb hown (hts _ h4) hsame hst c1 c3 hv rfl rfl hd kk
    · exact va_Wgetf hx hb hown (nw_use rfl (hN _ h4 rfl)) hsame hst c1 c3 hv rfl rfl hd kk
  · subst h3
    obtain ⟨z1, z2⟩ := c5.2.1 h1 h2
    obtain ⟨cf, kf, fi, f, hi, hsl, hst⟩ := hE
    have hv : cell.slots[f.slot]? = some (hp_at h a 0) := by
      rw [hsl]
      have := c6 0 (by rw [z2]; exact Nat.one_pos)
      rw [show rl_ix D (hp_kd h a) 0 = D.2 50 0 from by unfold rl_ix; rw [if_neg (by omega), if_pos h2]] at this
      exact this
    exact W.getf hx hb hown (hts _ h4) hi hst c1 c3 hv rfl rfl hd kk
theorem sx_in {i : Int32} {n : Nat} (h : rn_in i n = true) : ¬ (i < 0 ∨ n ≤ i.toNatClampNeg) := by
  unfold rn_in at h
  simp only [Bool.and_eq_true, decide_eq_true_eq] at h
  rintro (q | q)
  · exact h.1 q
  · omega
theorem rl_arr (hr : rl_H D s E.1 h H) {a : Nat} (hk : 100 < hp_kd h a) : ∃ cell : Cell, H[a]? = some cell ∧ s.isArrayOf cell (ar_ty (hp_kd h a)) ∧ cell.vm ≠ .unknown ∧ cell.slots.size = hp_ln h a ∧ ∀ k, k < hp_ln h a → cell.slots[k]? = some (hp_at h a k) := by
  obtain ⟨cell, c1, c2, c3, c4, c5, c6⟩ := hr.2 a (by omega)
  obtain ⟨z1, z2, z3⟩ := c5.2.2.2 hk
  refine ⟨cell, c1, z2, c3, z1, fun k hk' => ?_⟩
  have := c6 k hk'
  rw [show rl_ix D (hp_kd h a) k = k from by unfold rl_ix; rw [if_neg (by omega), if_neg (by omega)]] at this
  exact this
theorem sx_iald (hx : p.tables.exec = Jvm.exec) (hb : c.code = cc) (hr : rl_H D s E.1 h H) {a : Nat} {i : Int32} (hk : hp_kd h a = kI) (hin : rn_in i (hp_ln h a) = true) (hd : decode cc pc = .ok (.iaload, 1))
    (kk : W p l e R s m args below meth c H locs cells slots Q (F0 m (pc + 1) ls (hp_at h a i.toNatClampNeg :: rest))) : W p l e R s m args below meth c H locs cells slots Q (F0 m pc ls (.int i :: .ref a :: rest)) := by
  obtain ⟨cell, c1, c2, c3, c4, c5⟩ := rl_arr hr (a := a) (by rw [hk]; decide)
  rw [hk] at c2
  have h1 := sx_in hin
  exact W.iald hx hb c1 c2 c3 (by rw [c4]; exact h1) (c5 _ (by omega)) rfl rfl hd kk
theorem sx_zald (hx : p.tables.exec = Jvm.exec) (hb : c.code = cc) (hr : rl_H D s E.1 h H) {a : Nat} {i : Int32} (hk : hp_kd h a = kZ) (hin : rn_in i (hp_ln h a) = true) (hd : decode cc pc = .ok (.baload, 1))
    (kk : W p l e R s m args below meth c H locs cells slots Q (F0 m (pc + 1) ls (hp_at h a i.toNatClampNeg :: rest))) : W p l e R s m args below meth c H locs cells slots Q (F0 m pc ls (.int i :: .ref a :: rest)) := by
  obtain ⟨cell, c1, c2, c3, c4, c5⟩ := rl_arr hr (a := a) (by rw [hk]; decide)
  rw [hk] at c2
  have h1 := sx_in hin
  exact W.zald hx hb c1 c2 c3 (by rw [c4]; exact h1) (c5 _ (by omega)) rfl rfl hd kk
theorem sx_lald (hx : p.tables.exec = Jvm.exec) (hb : c.code = cc) (hr : rl_H D s E.1 h H) {a : Nat} {i : Int32} (hk : hp_kd h a = kJ) (hin : rn_in i (hp_ln h a) = true) (hd : decode cc pc = .ok (.laload, 1))
    (kk : W p l e R s m args below meth c H locs cells slots Q (F0 m (pc + 1) ls (hp_at h a i.toNatClampNeg :: rest))) : W p l e R s m args below meth c H locs cells slots Q (F0 m pc ls (.int i :: .ref a :: rest)) := by
  obtain ⟨cell, c1, c2, c3, c4, c5⟩ := rl_arr hr (a := a) (by rw [hk]; decide)
  rw [hk] at c2
  have h1 := sx_in hin
  exact W.lald hx hb c1 c2 c3 (by rw [c4]; exact h1) (c5 _ (by omega)) rfl rfl hd kk
theorem ar_ref {kd : Nat} (h : kO ≤ kd) : (ar_ty kd).isReference = true := by
  have h : 104 ≤ kd := h
  unfold ar_ty
  rw [if_neg (by omega), if_neg (by omega), if_neg (by omega)]
  split
  · rfl
  · split
    · rfl
    · split
      · rfl
      · split <;> rfl
theorem sx_aald (hx : p.tables.exec = Jvm.exec) (hb : c.code = cc) (hr : rl_H D s E.1 h H) {a : Nat} {i : Int32} (hk : kO ≤ hp_kd h a) (hin : rn_in i (hp_ln h a) = true) (hd : decode cc pc = .ok (.aaload, 1))
    (kk : W p l e R s m args below meth c H locs cells slots Q (F0 m (pc + 1) ls (hp_at h a i.toNatClampNeg :: rest))) : W p l e R s m args below meth c H locs cells slots Q (F0 m pc ls (.int i :: .ref a :: rest)) := by
  have hk' : 104 ≤ hp_kd h a := hk
  obtain ⟨cell, c1, c2, c3, c4, c5⟩ := rl_arr hr (a := a) (by omega)
  have h1 := sx_in hin
  exact W.aald hx hb c1 c2 (ar_ref hk) c3 (by rw [c4]; exact h1) (c5 _ (by omega)) rfl rfl hd kk
theorem sx_alen (hx : p.tables.exec = Jvm.exec) (hb : c.code = cc) (hr : rl_H D s E.1 h H) {a : Nat} (hk : kI ≤ hp_kd h a) (hd : decode cc pc = .ok (.arraylength, 1))
    (kk : W p l e R s m args below meth c H locs cells slots Q (F0 m (pc + 1) ls (.int (Int32.ofNat (hp_ln h a)) :: rest))) : W p l e R s m args below meth c H locs cells slots Q (F0 m pc ls (.ref a :: rest)) := by
  have hk' : 101 ≤ hp_kd h a := hk
  obtain ⟨cell, c1, c2, c3, c4, c5⟩ := rl_arr hr (a := a) (by omega)
  exact W.alen hx hb c1 c2 (n := Int32.ofNat (hp_ln h a)) (by rw [c4]) rfl rfl hd kk
theorem sx_gets (hx : p.tables.exec = Jvm.exec) (hb : c.code = cc) {own : String} (hown : s.vm.findClass own = some m.cls) (hts : ∀ w ∈ lw_all, w.before args s = true) (hZ : kv_stat E s s.heap) (hS : va_S (rl_A E.1) s.heap H locs)
    {ix i : Nat} {q : st_C} (hq : stL[i]? = some q) (hl : Cond.fieldLink own ix q.1 q.2.1 q.2.2 ∈ lw_all) (hd : decode cc pc = .ok (.getstatic ix, 3))
    (kk : W p l e R s m args below meth c H locs cells slots Q (F0 m (pc + 3) ls (E.2 i :: rest))) : W p l e R s m args below meth c H locs cells slots Q (F0 m pc ls rest) :=
  va_gets hx hb (hZ i q hq) hS hown (hts _ hl) (fun x hx => hx) hd kk
/-- a cell's kind by its name -/
def kd_nm (kd : Nat) : String := if kd < 50 then (clL.getD (kd - 1) ("", fun _ => ("", "", "", false), 0)).1 else en_nm kd
theorem rl_recv (hK : kv_cls D s) (hr : rl_H D s E.1 h H) {a : Nat} (h0 : hp_kd h a ≠ 0) (h6 : hp_kd h a < 60) : ∃ cell : Cell, H[a]? = some cell ∧ cell.vm.isStatics = false ∧ s.vm.findClass (kd_nm (hp_kd h a)) = some cell.cls := by
  obtain ⟨cell, c1, c2, c3, c4, c5, c6⟩ := hr.2 a h0
  refine ⟨cell, c1, c2, ?_⟩
  by_cases h5 : hp_kd h a < 50
  · obtain ⟨q, z1, z2, z3⟩ := c5.1 h5
    obtain ⟨hS, hfc, kC, hkC, hkind⟩ := hK _ q z1
    rw [show kd_nm (hp_kd h a) = q.1 from by unfold kd_nm; rw [if_pos h5, List.getD_eq_getElem?_getD, z1]; rfl, z2]
    exact hfc
  · rw [show kd_nm (hp_kd h a) = en_nm (hp_kd h a) from if_neg h5]
    exact (c5.2.1 (by omega) h6).1
theorem sx_cast (hx : p.tables.exec = Jvm.exec) (hb : c.code = cc) {own : String} (hown : s.vm.findClass own = some m.cls) (hts : ∀ w ∈ lw_all, w.before args s = true) (hK : kv_cls D s) (hN : kv_nest s) (hr : rl_H D s E.1 h H)
    {ix a : Nat} {nm : String} (h0 : hp_kd h a ≠ 0) (h6 : hp_kd h a < 60) (hl : Cond.classLink own ix nm ∈ lw_all) (hc : kd_nm (hp_kd h a) = nm ∧ hp_kd h a < 50 ∨ Cond.castable (kd_nm (hp_kd h a)) nm ∈ lw_tbl) (hd : decode cc pc = .ok (.checkcast ix, 3))
    (kk : W p l e R s m args below meth c H locs cells slots Q (F0 m (pc + 3) ls (.ref a :: rest))) : W p l e R s m args below meth c H locs cells slots Q (F0 m pc ls (.ref a :: rest)) := by
  have hrec := rl_recv hK hr h0 h6
  rcases hc with ⟨hc, h5⟩ | hc
  · obtain ⟨cell, c1, c2, c3, c4, c5, c6⟩ := hr.2 a h0
    obtain ⟨q, z1, z2, z3⟩ := c5.1 h5
    have hK1 := hK _ q z1
    rw [hc] at hrec
    have e : nm = q.1 := by rw [← hc]; unfold kd_nm; rw [if_pos h5, List.getD_eq_getElem?_getD, z1]; rfl
    exact va_castS hx hb hown (hts _ hl) (e ▸ hK1.2) hrec hd kk
  · exact va_castY hx hb hown (hts _ hl) (hN _ hc rfl) hrec hd kk
theorem sx_inst1 (hx : p.tables.exec = Jvm.exec) (hb : c.code = cc) {own : String} (hown : s.vm.findClass own = some m.cls) (hts : ∀ w ∈ lw_all, w.before args s = true) (hK : kv_cls D s) (hr : rl_H D s E.1 h H)
    {ix a : Nat} {nm : String} (h0 : hp_kd h a ≠ 0) (h5 : hp_kd h a < 50) (hl : Cond.classLink own ix nm ∈ lw_all) (hc : kd_nm (hp_kd h a) = nm) (hd : decode cc pc = .ok (.instanceof ix, 3))
    (kk : W p l e R s m args below meth c H locs cells slots Q (F0 m (pc + 3) ls (.int 1 :: rest))) : W p l e R s m args below meth c H locs cells slots Q (F0 m pc ls (.ref a :: rest)) := by
  have hrec := rl_recv hK hr h0 (by omega)
  obtain ⟨cell, c1, c2, c3, c4, c5, c6⟩ := hr.2 a h0
  obtain ⟨q, z1, z2, z3⟩ := c5.1 h5
  have hK1 := hK _ q z1
  rw [hc] at hrec
  have e : nm = q.1 := by rw [← hc]; unfold kd_nm; rw [if_pos h5, List.getD_eq_getElem?_getD, z1]; rfl
  exact va_instS hx hb hown (hts _ hl) (e ▸ hK1.2) hrec hd kk
theorem sx_inst0 (hx : p.tables.exec = Jvm.exec) (hb : c.code = cc) {own : String} (hown : s.vm.findClass own = some m.cls) (hts : ∀ w ∈ lw_all, w.before args s = true) (hK : kv_cls D s) (hr : rl_H D s E.1 h H)
    {ix a : Nat} {nm : String} (h0 : hp_kd h a ≠ 0) (h5 : hp_kd h a < 50) (hl : Cond.classLink own ix nm ∈ lw_all) (hc : va_Nc (kd_nm (hp_kd h a)) nm s) (hd : decode cc pc = .ok (.instanceof ix, 3))
    (kk : W p l e R s m args below meth c H locs cells slots Q (F0 m (pc + 3) ls (.int 0 :: rest))) : W p l e R s m args below meth c H locs cells slots Q (F0 m pc ls (.ref a :: rest)) :=
  va_instNo hx hb hown (hts _ hl) hc (rl_recv hK hr h0 (by omega)) hd kk
end SXB
end
section
/-! what stands in arrays is of their sort -/
def el_ok (h : Hp) (kd : Nat) (v : Value) : Prop :=
  (kd = kI → ∃ x, v = .int x) ∧ (kd = kZ → v = .int 0 ∨ v = .int 1) ∧ (kd = kJ → ∃ x, v = .long x) ∧ (kd = kO → v = .null ∨ ∃ y, v = .ref y ∧ 9 ≤ hp_kd h y ∧ hp_kd h y ≤ 19)
def hp_wf (h : Hp) : Prop := ∀ a k, 100 < hp_kd h a → k < hp_ln h a → el_ok h (hp_kd h a) (hp_at h a k)
theorem wf_put {h : Hp} (w : hp_wf h) {a k : Nat} {v : Value} (hv : 100 < hp_kd h a → el_ok h (hp_kd h a) v) : hp_wf (hp_put h a k v) := by
  intro b j hb hj
  have hb' : 100 < hp_kd h b := hb
  have hj' : j < hp_ln h b := hj
  show el_ok h (hp_kd h b) (if b = a ∧ j = k then v else hp_at h b j)
  by_cases hc : b = a ∧ j = k
  · rw [if_pos hc]
    obtain ⟨rfl, rfl⟩ := hc
    exact hv hb'
  · rw [if_neg hc]
    exact w b j hb' hj'
theorem el_mono {h h' : Hp} (hk : ∀ y, hp_kd h y ≠ 0 → hp_kd h' y = hp_kd h y) {kd : Nat} {v : Value} (e : el_ok h kd v) : el_ok h' kd v := by
  refine ⟨e.1, e.2.1, e.2.2.1, fun q => ?_⟩
  rcases e.2.2.2 q with z | ⟨y, z1, z2, z3⟩
  · exact Or.inl z
  · exact Or.inr ⟨y, z1, by rw [hk y (by omega)]; exact ⟨z2, z3⟩⟩
theorem wf_new {h : Hp} (w : hp_wf h) (ht : ∀ y, hp_kd h y ≠ 0 → y < hp_top h) {kd ln : Nat} {f : Nat → Value} (hf : 100 < kd → ∀ k, k < ln → el_ok h kd (f k)) : hp_wf (hp_new h kd ln f) := by
  have hk : ∀ y, hp_kd h y ≠ 0 → hp_kd (hp_new h kd ln f) y = hp_kd h y := fun y hy => if_neg (Nat.ne_of_lt (ht y hy))
  intro b j hb hj
  by_cases hc : b = hp_top h
  · subst hc
    have k1 : hp_kd (hp_new h kd ln f) (hp_top h) = kd := if_pos rfl
    have k2 : hp_ln (hp_new h kd ln f) (hp_top h) = ln := if_pos rfl
    rw [k1] at hb ⊢
    rw [k2] at hj
    show el_ok _ kd (if hp_top h = hp_top h then f j else hp_at h (hp_top h) j)
    rw [if_pos rfl]
    exact el_mono hk (hf hb j hj)
  · have k1 : hp_kd (hp_new h kd ln f) b = hp_kd h b := if_neg hc
    have k2 : hp_ln (hp_new h kd ln f) b = hp_ln h b := if_neg hc
    rw [k1] at hb ⊢
    rw [k2] at hj
    show el_ok _ (hp_kd h b) (if b = hp_top h then f j else hp_at h b j)
    rw [if_neg hc]
    exact el_mono hk (w b j hb hj)
theorem wf_skip {h : Hp} (w : hp_wf h) (ht : ∀ y, hp_kd h y ≠ 0 → y < hp_top h) {n m : Nat} : hp_wf (hp_skip h n m) := by
  have hk : ∀ y, hp_kd h y ≠ 0 → hp_kd (hp_skip h n m) y = hp_kd h y := fun y hy => if_neg (Nat.not_le_of_lt (ht y hy))
  intro b j hb hj
  have hlt : ¬ hp_top h ≤ b := fun z => by
    have : hp_kd (hp_skip h n m) b = 0 := if_pos z
    omega
  have k1 : hp_kd (hp_skip h n m) b = hp_kd h b := if_neg hlt
  rw [k1] at hb ⊢
  exact el_mono hk (w b j hb hj)
theorem wf_cpy {h : Hp} (w : hp_wf h) {a i b j n : Nat} (hk : hp_kd h a = hp_kd h b) (h1 : i + n ≤ hp_ln h a) : hp_wf (hp_cpy h a i b j n) := by
  intro c k hc hkl
  have hc' : 100 < hp_kd h c := hc
  have hk' : k < hp_ln h c := hkl
  show el_ok h (hp_kd h c) (if c = b ∧ j ≤ k ∧ k < j + n then hp_at h a (i + (k - j)) else hp_at h c k)
  by_cases q : c = b ∧ j ≤ k ∧ k < j + n
  · rw [if_pos q]
    obtain ⟨rfl, q1, q2⟩ := q
    rw [← hk] at hc' ⊢
    exact w a _ hc' (by omega)
  · rw [if_neg q]
    exact w c k hc' hk'
/-- types of fields by number -/
def tc_ok (ty : FieldType) (t : Nat) : Bool := match ty with
  | .int => t == 0
  | .long => t == 2
  | .boolean => t == 3
  | .object _ => t == 1
  | .array _ => t == 1
  | _ => false
theorem tc_fit {ty : FieldType} {t : Nat} {v : Value} (h1 : tc_ok ty t = true) (h2 : rn_fit t v = true) : narrow ty v = v ∧ fits ty v = true := by
  unfold tc_ok at h1
  split at h1 <;> first
    | (have e := eq_of_beq h1; subst e; unfold rn_fit at h2; split at h2 <;> first
        | (cases h2; done)
        | exact ⟨rfl, rfl⟩
        | (simp only [Bool.or_eq_true, beq_iff_eq] at h2; rcases h2 with h2 | h2 <;> subst h2 <;> exact ⟨by decide, by decide⟩)
        | simp_all)
    | cases h1
/-- a field may be written: not final, or final by its own maker -/
def ek_put (own : String) (init : Bool) (ix kd k t : Nat) : Prop :=
  kd < 50 ∧ kd ≠ 0 ∧ ∃ (q : vw_C) (ref : String), clL[kd - 1]? = some q ∧ k < q.2.2 ∧ tc_ok (clT (kd - 1) k) t = true ∧ (ref = (q.2.1 k).1 ∨ Cond.sameField ref (q.2.1 k).1 (q.2.1 k).2.1 (q.2.1 k).2.2.1 ∈ lw_all) ∧
    ((q.2.1 k).2.2.2 = false ∧ ek_lk own ix ref (q.2.1 k).2.1 (q.2.1 k).2.2.1 ∨ (q.2.1 k).2.2.2 = true ∧ init = true ∧ (q.2.1 k).1 = own ∧ Cond.fieldLink own ix ref (q.2.1 k).2.1 (q.2.1 k).2.2.1 ∈ lw_all)
section SXC
variable {p : Program} {l : Launch} {e : Env} {R : Room} {s : State} {m : MethodId} {args : Array Value} {below : List Frame} {meth : Method} {c : Code} {H : Heap} {locs : List Loc} {cells slots : Nat} {Q : State → Prop}
variable {cc : ByteArray} {pc : Nat} {ls : Array Slot} {rest : List Value} {D : va_G} {E : Env0} {h : Hp}
theorem sx_put (hx : p.tables.exec = Jvm.exec) (hb : c.code = cc) {own : String} (hown : s.vm.findClass own = some m.cls) (hts : ∀ w ∈ lw_all, w.before args s = true) (hcl : cl_ok) (hK : kv_cls D s) (hN : kv_nest s)
    (hr : rl_H D s E.1 h H) (hS0 : va_S (rl_A E.1) s.heap H locs) {init : Bool} (hin0 : init = true → meth.name = "<init>") {ix a k t : Nat} {v : Value} (hB : E.1 ≤ a) (hf : ek_put own init ix (hp_kd h a) k t) (hv : rn_fit t v = true) (hd : decode cc pc = .ok (.putfield ix, 3))
    (kk : ∀ (H1 : Heap) (locs1 : List Loc), rl_H D s E.1 (hp_put h a k v) H1 → va_S (rl_A E.1) s.heap H1 locs1 → W p l e R s m args below meth c H1 locs1 cells slots Q (F0 m (pc + 3) ls rest)) : W p l e R s m args below meth c H locs cells slots Q (F0 m pc ls (v :: .ref a :: rest)) := by
  obtain ⟨h1, h0, q, ref, h2, h3, htc, h5, h6⟩ := hf
  obtain ⟨cell, c1, c2, c3, c4, c5, c6⟩ := hr.2 a h0
  obtain ⟨q', z1, z2, z3⟩ := c5.1 h1
  cases h2.symm.trans z1
  obtain ⟨hS, hfc, kC, hkC, hkind⟩ := hK _ q h2
  obtain ⟨cf, kf, fi, f, hi, hsl⟩ := hS k h3
  obtain ⟨hin, -, -, hty, hnm⟩ := hcl _ q h2
  obtain ⟨hn, hfit⟩ := tc_fit htc hv
  have hvm := c4 hB
  have hKa : va_K D clL [] s := ⟨hK, fun k q hk => by cases hk⟩
  have hap := va_apart (own := own) hts hin (clT (hp_kd h a - 1)) hty hnm hKa h2
  have ixe : ∀ x, rl_ix D (hp_kd h a) x = D.2 (hp_kd h a - 1) x := fun x => if_pos h1
  have hsame : s.fieldFound? ref (q.2.1 k).2.1 (q.2.1 k).2.2.1 = some (cf, kf, fi, f) := by
    rcases h5 with rfl | h5
    · exact hi
    · exact u_same (hts _ h5) _ hi
  have hst := (u_facts hfc hkC (u_lays hts hin h3) hi).1
  have hlay := hts _ (hin _ (u_in_lay h3))
  have hsz : f.slot < cell.slots.size := by
    have := c6 k (by rw [z3]; exact h3)
    rw [ixe, ← hsl] at this
    exact k2_hasslot this
  have fin : ∀ H1 : Heap, H1[a]? = some (cell.setSlot f.slot v) → H1.size = H.size → (∀ q, q ≠ a → H1[q]? = H[q]?) → W p l e R s m args below meth c H1 (locs ++ [⟨a, f.slot⟩]) cells slots Q (F0 m (pc + 3) ls rest) := by
    intro H1 e1 e2 e3
    refine kk H1 _ (rl_put hr h0 (by rw [z3]; exact h3) (by rw [ixe, hsl]) (fun x hx hne => ?_) c1 hB e1 e2 e3) (hS0.put e2 e3 hB)
    rw [ixe, hsl]
    exact hap x k (by rw [← z3]; exact hx) h3 hne
  rcases h6 with ⟨g1, g2⟩ | ⟨g1, g2, g3, g4⟩
  · unfold u_lay at hlay
    rw [if_neg (by rw [g1]; decide)] at hlay
    have h7 := u_store hfc hkC hkind hlay hi (hty k h3) hn hfit
    rcases g2 with g2 | ⟨host, g2⟩
    · exact W.putK hx hb (f := f) ⟨hown, hts _ g2, ⟨_, _, _, hsame⟩, hst⟩ (by rw [z2]; exact h7) c1 hvm hsz rfl rfl hd fin
    · exact va_WputK hx hb (f := f) hown (nw_use rfl (hN _ g2 rfl)) hsame hst (by rw [z2]; exact h7) c1 hvm hsz rfl rfl hd fin
  · unfold u_lay at hlay
    rw [if_pos g1] at hlay
    have hcf : m.cls = cf := by
      obtain ⟨_, _, c', _, _, _, -, -, hf', -, -, -, hown2, -⟩ := Cond.laysFinal_spec hlay
      have e1 : c' = cf := by have := hi.symm.trans hf'; simp at this; exact this.1.symm
      rw [g3] at hown2
      rw [← e1]; exact Option.some.inj (hown.symm.trans hown2)
    have h7 := u_fits hfc hkC hkind (Or.inr hlay) hi (hty k h3) hn hfit
    exact W.putFinK hx hb hown (hts _ g4) hsame hst hcf (hin0 g2) (by rw [z2]; exact h7) c1 hvm hsz rfl rfl hd fin
theorem rl_arrB (hr : rl_H D s E.1 h H) {a : Nat} (hk : 100 < hp_kd h a) (hB : E.1 ≤ a) {j : Nat} {v : Value} (hj : j < hp_ln h a) : ∃ cell : Cell, H[a]? = some cell ∧ s.isArrayOf cell (ar_ty (hp_kd h a)) ∧ cell.vm ≠ .unknown ∧ cell.slots.size = hp_ln h a ∧
    ∀ H1 : Heap, H1[a]? = some (cell.setSlot j v) → H1.size = H.size → (∀ q, q ≠ a → H1[q]? = H[q]?) → rl_H D s E.1 (hp_put h a j v) H1 := by
  obtain ⟨cell, c1, c2, c3, c4, c5, c6⟩ := hr.2 a (by omega)
  obtain ⟨z1, z2, z3⟩ := c5.2.2.2 hk
  have ixe : ∀ x, rl_ix D (hp_kd h a) x = x := fun x => by unfold rl_ix; rw [if_neg (by omega), if_neg (by omega)]
  exact ⟨cell, c1, z2, c3, z1, fun H1 e1 e2 e3 => rl_put hr (by omega) hj (ixe j) (fun x _ hne => by rw [ixe]; exact hne) c1 hB e1 e2 e3⟩
theorem sx_iast (hx : p.tables.exec = Jvm.exec) (hb : c.code = cc) (hr : rl_H D s E.1 h H) (hS0 : va_S (rl_A E.1) s.heap H locs) {a : Nat} {i x : Int32} (hB : E.1 ≤ a) (hk : hp_kd h a = kI) (hin : rn_in i (hp_ln h a) = true) (hd : decode cc pc = .ok (.iastore, 1))
    (kk : ∀ (H1 : Heap) (locs1 : List Loc), rl_H D s E.1 (hp_put h a i.toNatClampNeg (.int x)) H1 → va_S (rl_A E.1) s.heap H1 locs1 → W p l e R s m args below meth c H1 locs1 cells slots Q (F0 m (pc + 1) ls rest)) : W p l e R s m args below meth c H locs cells slots Q (F0 m pc ls (.int x :: .int i :: .ref a :: rest)) := by
  have h1 := sx_in hin
  obtain ⟨cell, c1, c2, c3, c4, c5⟩ := rl_arrB hr (a := a) (j := i.toNatClampNeg) (v := .int x) (by rw [hk]; decide) hB (by omega)
  rw [hk] at c2
  exact W.iast hx hb c1 c2 c3 (by rw [c4]; exact h1) rfl rfl hd (fun H1 e1 e2 e3 => kk H1 _ (c5 H1 e1 e2 e3) (hS0.put e2 e3 hB))
theorem sx_zast (hx : p.tables.exec = Jvm.exec) (hb : c.code = cc) (hr : rl_H D s E.1 h H) (hS0 : va_S (rl_A E.1) s.heap H locs) {a : Nat} {i x : Int32} (hB : E.1 ≤ a) (hk : hp_kd h a = kZ) (hin : rn_in i (hp_ln h a) = true) (h01 : x = 0 ∨ x = 1) (hd : decode cc pc = .ok (.bastore, 1))
    (kk : ∀ (H1 : Heap) (locs1 : List Loc), rl_H D s E.1 (hp_put h a i.toNatClampNeg (.int x)) H1 → va_S (rl_A E.1) s.heap H1 locs1 → W p l e R s m args below meth c H1 locs1 cells slots Q (F0 m (pc + 1) ls rest)) : W p l e R s m args below meth c H locs cells slots Q (F0 m pc ls (.int x :: .int i :: .ref a :: rest)) := by
  have h1 := sx_in hin
  obtain ⟨cell, c1, c2, c3, c4, c5⟩ := rl_arrB hr (a := a) (j := i.toNatClampNeg) (v := .int x) (by rw [hk]; decide) hB (by omega)
  rw [hk] at c2
  have hn : narrow .boolean (.int x) = .int x := by rcases h01 with rfl | rfl <;> decide
  exact W.zast hx hb c1 c2 c3 (by rw [c4]; exact h1) rfl rfl hd (fun H1 e1 e2 e3 => kk H1 _ (c5 H1 (by rw [← hn]; exact e1) e2 e3) (hS0.put e2 e3 hB))
theorem sx_last (hx : p.tables.exec = Jvm.exec) (hb : c.code = cc) (hr : rl_H D s E.1 h H) (hS0 : va_S (rl_A E.1) s.heap H locs) {a : Nat} {i : Int32} {x : Int64} (hB : E.1 ≤ a) (hk : hp_kd h a = kJ) (hin : rn_in i (hp_ln h a) = true) (hd : decode cc pc = .ok (.lastore, 1))
    (kk : ∀ (H1 : Heap) (locs1 : List Loc), rl_H D s E.1 (hp_put h a i.toNatClampNeg (.long x)) H1 → va_S (rl_A E.1) s.heap H1 locs1 → W p l e R s m args below meth c H1 locs1 cells slots Q (F0 m (pc + 1) ls rest)) : W p l e R s m args below meth c H locs cells slots Q (F0 m pc ls (.long x :: .int i :: .ref a :: rest)) := by
  have h1 := sx_in hin
  obtain ⟨cell, c1, c2, c3, c4, c5⟩ := rl_arrB hr (a := a) (j := i.toNatClampNeg) (v := .long x) (by rw [hk]; decide) hB (by omega)
  rw [hk] at c2
  exact W.last hx hb c1 c2 c3 (by rw [c4]; exact h1) rfl rfl hd (fun H1 e1 e2 e3 => kk H1 _ (c5 H1 e1 e2 e3) (hS0.put e2 e3 hB))
theorem sx_aastN (hx : p.tables.exec = Jvm.exec) (hb : c.code = cc) (hr : rl_H D s E.1 h H) (hS0 : va_S (rl_A E.1) s.heap H locs) {a : Nat} {i : Int32} (hB : E.1 ≤ a) (hk : hp_kd h a = kO) (hin : rn_in i (hp_ln h a) = true) (hd : decode cc pc = .ok (.aastore, 1))
    (kk : ∀ (H1 : Heap) (locs1 : List Loc), rl_H D s E.1 (hp_put h a i.toNatClampNeg .null) H1 → va_S (rl_A E.1) s.heap H1 locs1 → W p l e R s m args below meth c H1 locs1 cells slots Q (F0 m (pc + 1) ls rest)) : W p l e R s m args below meth c H locs cells slots Q (F0 m pc ls (.null :: .int i :: .ref a :: rest)) := by
  have h1 := sx_in hin
  obtain ⟨cell, c1, c2, c3, c4, c5⟩ := rl_arrB hr (a := a) (j := i.toNatClampNeg) (v := .null) (by rw [hk]; decide) hB (by omega)
  rw [hk] at c2
  exact va_WaastN hx hb (C := "java/lang/Object") c1 c2 c3 (by rw [c4]; exact h1) rfl rfl hd (fun H1 e1 e2 e3 => kk H1 _ (c5 H1 e1 e2 e3) (hS0.put e2 e3 hB))
/-- a value of kind kb may stand in an array of kind ka -/
def ek_as (ka kb : Nat) : Prop := 104 ≤ ka ∧ kb ≠ 0 ∧ (kb < 50 ∧ (kd_nm kb = ar_co ka ∨ Cond.castable (kd_nm kb) (ar_co ka) ∈ lw_tbl) ∨ kb = 101 ∧ ka = 107)
theorem sx_aast (hx : p.tables.exec = Jvm.exec) (hb : c.code = cc) (hK : kv_cls D s) (hN : kv_nest s) (hr : rl_H D s E.1 h H) (hS0 : va_S (rl_A E.1) s.heap H locs) {a b : Nat} {i : Int32} (hB : E.1 ≤ a) (hB2 : E.1 ≤ b) (hk : ek_as (hp_kd h a) (hp_kd h b)) (hin : rn_in i (hp_ln h a) = true) (hd : decode cc pc = .ok (.aastore, 1))
    (kk : ∀ (H1 : Heap) (locs1 : List Loc), rl_H D s E.1 (hp_put h a i.toNatClampNeg (.ref b)) H1 → va_S (rl_A E.1) s.heap H1 locs1 → W p l e R s m args below meth c H1 locs1 cells slots Q (F0 m (pc + 1) ls rest)) : W p l e R s m args below meth c H locs cells slots Q (F0 m pc ls (.ref b :: .int i :: .ref a :: rest)) := by
  have h1 := sx_in hin
  obtain ⟨k4, kb0, kcase⟩ := hk
  obtain ⟨cell, c1, c2, c3, c4, c5⟩ := rl_arrB hr (a := a) (j := i.toNatClampNeg) (v := .ref b) (by omega) hB (by omega)
  obtain ⟨cell', y1, y2, y3, y4, y5, y6⟩ := hr.2 a (by omega)
  cases c1.symm.trans y1
  obtain ⟨-, -, -, w4⟩ := y5.2.2.2 (by omega)
  obtain ⟨k, comp, kc, g1, g2, g3, g4⟩ := w4 hB (by omega)
  obtain ⟨cb, b1, b2, b3, b4, b5, b6⟩ := hr.2 b kb0
  have hasg : s.vm.assignable cb.cls comp = true ∧ ∃ kv, s.vm.classes[cb.cls]? = some kv := by
    rcases kcase with ⟨z1, z2⟩ | ⟨z1, z2⟩
    · obtain ⟨cb', x1, x2, x3⟩ := rl_recv hK hr kb0 (by omega)
      cases b1.symm.trans x1
      obtain ⟨kv, hkv, -⟩ := Vm.findClass_spec x3
      refine ⟨?_, kv, hkv⟩
      rcases z2 with z2 | z2
      · rw [z2, g3] at x3
        cases x3
        exact va_asg _ _
      · obtain ⟨c0, t0, f1, f2, f3⟩ := Cond.castable_spec (nw_use (A := #[]) rfl (hN _ z2 rfl))
        cases x3.symm.trans f1
        cases g3.symm.trans f2
        exact f3
    · obtain ⟨-, -, v3, -⟩ := b5.2.2.2 (by omega)
      have v4 := v3 (Or.inl hB2)
      rw [z1] at v4
      rw [z2] at g3
      have e : some comp = some cb.cls := g3.symm.trans v4
      cases e
      exact ⟨va_asg _ _, kc, g4⟩
  obtain ⟨hasg, kv, hkv⟩ := hasg
  exact W.aast hx hb c1 (fun q z => by rw [z] at y2; cases y2) c3 g1 g2 (ar_ref k4) g4 ⟨fun z => h1 (Or.inl z), by omega⟩ b1 (fun q z => by rw [z] at b2; cases b2) hkv hasg rfl rfl hd (fun H1 e1 e2 e3 => kk H1 _ (c5 H1 e1 e2 e3) (hS0.put e2 e3 hB))
end SXC
end
section
theorem nn_clamp {z : Int32} (hz : ¬ z < 0) : z.toInt = (z.toNatClampNeg : Int) := by
  have hz0 : (0 : Int) ≤ z.toInt := by
    have := Int32.not_lt.mp hz
    simpa using Int32.le_iff_toInt_le.mp this
  show z.toInt = ((z.toInt.toNat : Nat) : Int)
  omega
section SXD
variable {p : Program} {l : Launch} {e : Env} {R : Room} {s : State} {m : MethodId} {args : Array Value} {below : List Frame} {meth : Method} {c : Code} {H : Heap} {locs : List Loc} {cells slots : Nat} {Q : State → Prop}
variable {cc : ByteArray} {pc : Nat} {ls : Array Slot} {rest : List Value} {D : va_G} {E : Env0} {h : Hp}
theorem sx_ldcM (hx : p.tables.exec = Jvm.exec) (hb : c.code = cc) {own : String} (hown : s.vm.findClass own = some m.cls) (hts : ∀ w ∈ lw_all, w.before args s = true) (hM : kv_mir E s) {ix : Nat} (hl : Cond.classLink own ix "[Ljava/lang/Object;" ∈ lw_all) (hd : decode cc pc = .ok (.ldc ix, 2))
    (kk : W p l e R s m args below meth c H locs cells slots Q (F0 m (pc + 2) ls (E.2 9 :: rest))) : W p l e R s m args below meth c H locs cells slots Q (F0 m pc ls rest) := by
  obtain ⟨mi, e1, hM⟩ := hM
  rw [e1] at kk
  exact va_ldcM hx hb hown (hts _ hl) hM hd kk
abbrev y_getClass : MethodName := ⟨"java/lang/Object", "getClass", "()Ljava/lang/Class;"⟩
def ek_gc (own : String) (ix : Nat) : Prop := Cond.methodLink own ix y_getClass ∈ lw_all ∧ Cond.declares y_getClass ∈ lw_tbl ∧ Cond.selects "[Ljava/lang/Object;" y_getClass y_getClass ∈ lw_all ∧ Cond.instanceMethod y_getClass ∈ lw_all ∧ Cond.native y_getClass ∈ lw_all
theorem sx_getC (hx : p.tables.exec = Jvm.exec) (hb : c.code = cc) (hsz : ls.size = c.maxLocals) {own : String} (hown : s.vm.findClass own = some m.cls) (hts : ∀ w ∈ lw_all, w.before args s = true) (hN : kv_nest s) (hM : kv_mir E s) (hr : rl_H D s E.1 h H) {ix a : Nat} (hl : ek_gc own ix) (hk : hp_kd h a = kO)
    (hfr : 1 ≤ R.frames) (hlo : (rest.map fun v => v.category).sum + 14 ≤ R.locals) (hd : decode cc pc = .ok (.invokevirtual ix, 3))
    (kk : W p l e R s m args below meth c H locs cells slots Q (F0 m (pc + 3) ls (E.2 9 :: rest))) : W p l e R s m args below meth c H locs cells slots Q (F0 m pc ls (.ref a :: rest)) := by
  obtain ⟨mi, e1, hM⟩ := hM
  obtain ⟨l1, l2, l3, l4, l5⟩ := hl
  rw [e1] at kk
  obtain ⟨cell, c1, c2, c3, c4, c5, c6⟩ := hr.2 a (by rw [hk]; decide)
  obtain ⟨-, -, z3, -⟩ := c5.2.2.2 (by rw [hk]; decide)
  have z4 := z3 (Or.inr hk)
  rw [hk] at z4
  exact va_getC hx hb hsz.symm hown (hts _ l1) (nw_use rfl (hN _ l2 rfl)) (hts _ l3) (hts _ l4) (hts _ l5) hM ⟨cell, c1, c2, z4⟩ hfr hlo hd kk
theorem sx_new (hx : p.tables.exec = Jvm.exec) (hb : c.code = cc) {own : String} (hown : s.vm.findClass own = some m.cls) (hts : ∀ w ∈ lw_all, w.before args s = true) (hcl : cl_ok) (hK : kv_cls D s) (hr : rl_H D s E.1 h H) (hS0 : va_S (rl_A E.1) s.heap H locs) (hB : E.1 ≤ s.heap.size)
    {ix ci : Nat} {q : vw_C} (hq : clL[ci]? = some q) (hci : ci < 49) (hl : Cond.classLink own ix q.1 ∈ lw_all) (hc : cells + 1 ≤ R.cells) (hs : slots + (fdT ci).1 ≤ R.slots) (hd : decode cc pc = .ok (.new ix, 3))
    (kk : ∀ H1 : Heap, rl_H D s E.1 (hp_new h (ci + 1) (fdT ci).1 (fdT ci).2) H1 → va_S (rl_A E.1) s.heap H1 locs → W p l e R s m args below meth c H1 locs (cells + 1) (slots + (fdT ci).1) Q (F0 m (pc + 3) ls (.ref (hp_top h) :: rest))) : W p l e R s m args below meth c H locs cells slots Q (F0 m pc ls rest) := by
  obtain ⟨hin, h2, h3, hty, hnm⟩ := hcl _ q hq
  have hK1 := hK _ q hq
  have hN : (fdT ci).1 = q.2.2 := by unfold fdT; simp only [List.getD_eq_getElem?_getD, hq]; rfl
  rw [hN] at hs kk
  refine W.newcK hx hb hown (hts _ hl) (hts _ h2) (hts _ h3) rfl hd hc hs hK1.2.1 (h := hp_top h) hr.1 fun H1 kC g1 g2 g3 g4 => ?_
  obtain ⟨cell, o1, o2, o3, o4⟩ := u_born (clT ci) hts hin hK1 g1 g2 hty
  refine kk H1 (rl_new hr (Nat.le_trans hB (by rw [← hr.1]; exact hS0.1)) o1 g3 g4 o3 ?_ fun k hk => ?_) ⟨?_, fun x h1 h2 => ?_, hS0.2.2⟩
  · refine ⟨fun _ => ⟨q, hq, o2, rfl⟩, fun a => by omega, fun a => by omega, fun a => by omega⟩
  · rw [show rl_ix D (ci + 1) k = D.2 ci k from if_pos (by omega)]
    exact o4 k hk
  · exact Nat.le_trans hS0.1 (by rw [g3, hr.1]; exact Nat.le_succ _)
  · exact (g4 x (by rw [← hr.1]; exact Nat.lt_of_lt_of_le h1 hS0.1)).trans (hS0.2.1 x h1 h2)
theorem push_facts {cell : Cell} : (H.push cell)[H.size]? = some cell ∧ (H.push cell).size = H.size + 1 ∧ ∀ q : Nat, q < H.size → (H.push cell)[q]? = H[q]? :=
  ⟨Array.getElem?_push_size, Array.size_push .., fun q hq => by rw [Array.getElem?_push, if_neg (Nat.ne_of_lt hq)]⟩
def ek_na (t : ArrayType) (k : Nat) : Prop := (t = .int ∧ k = kI ∨ t = .boolean ∧ k = kZ ∨ t = .long ∧ k = kJ) ∧ Cond.arrayClass (newarray.typeOf t) ∈ lw_all
theorem sx_newa (hx : p.tables.exec = Jvm.exec) (hb : c.code = cc) (hts : ∀ w ∈ lw_all, w.before args s = true) (hr : rl_H D s E.1 h H) (hS0 : va_S (rl_A E.1) s.heap H locs) (hB : E.1 ≤ s.heap.size)
    {t : ArrayType} {k : Nat} {n : Int32} (hk : ek_na t k) (hn : ¬ n < 0) (hn2 : n.toNatClampNeg ≤ 1000000) (hc : cells + 1 ≤ R.cells) (hs : slots + n.toNatClampNeg ≤ R.slots) (hd : decode cc pc = .ok (.newarray t, 2))
    (kk : ∀ H1 : Heap, rl_H D s E.1 (hp_new h k n.toNatClampNeg (fun _ => if k = kJ then .long 0 else .int 0)) H1 → va_S (rl_A E.1) s.heap H1 locs → W p l e R s m args below meth c H1 locs (cells + 1) (slots + n.toNatClampNeg) Q (F0 m (pc + 2) ls (.ref (hp_top h) :: rest))) : W p l e R s m args below meth c H locs cells slots Q (F0 m pc ls (.int n :: rest)) := by
  obtain ⟨hk, hw⟩ := hk
  have hbytes : n.toNatClampNeg * componentBytes (newarray.typeOf t) ≤ 536870912 := by
    have : componentBytes (newarray.typeOf t) ≤ 8 := by rcases hk with ⟨rfl, -⟩ | ⟨rfl, -⟩ | ⟨rfl, -⟩ <;> decide
    calc n.toNatClampNeg * componentBytes (newarray.typeOf t) ≤ 1000000 * 8 := Nat.mul_le_mul hn2 this
      _ ≤ 536870912 := by decide
  refine W.newa hx hb (hts _ hw) rfl hd rfl hn hbytes hc hs fun cA kA comp f1 f2 f3 => ?_
  rw [hr.1]
  obtain ⟨g1, g2, g3⟩ := push_facts (H := H) (cell := { cls := cA, slots := Array.replicate n.toNatClampNeg (defaultValue (newarray.typeOf t)), vm := .none })
  rw [hr.1] at g1 g2 g3
  refine kk _ (rl_new hr (Nat.le_trans hB (by rw [← hr.1]; exact hS0.1)) g1 g2 g3 rfl ?_ fun j hj => ?_) ⟨?_, fun x h1 h2 => ?_, hS0.2.2⟩
  · rcases hk with ⟨rfl, rfl⟩ | ⟨rfl, rfl⟩ | ⟨rfl, rfl⟩ <;>
    exact ⟨fun a => absurd a (by decide), fun _ a => absurd a (by decide), fun _ a => absurd a (by decide), fun _ => ⟨by simp, ⟨fun z q => (nomatch q), kA, f2, comp, f3⟩, fun _ => f1, fun _ a => absurd a (by decide)⟩⟩
  · rw [show rl_ix D k j = j from by unfold rl_ix; rcases hk with ⟨-, rfl⟩ | ⟨-, rfl⟩ | ⟨-, rfl⟩ <;> rfl]
    simp only [Array.getElem?_replicate, hj, if_true]
    rcases hk with ⟨rfl, rfl⟩ | ⟨rfl, rfl⟩ | ⟨rfl, rfl⟩ <;> rfl
  · exact Nat.le_trans hS0.1 (by rw [g2, hr.1]; exact Nat.le_succ _)
  · exact (g3 x (by rw [← hr.1]; exact Nat.lt_of_lt_of_le h1 hS0.1)).trans (hS0.2.1 x h1 h2)
def ek_aa (own : String) (ix k : Nat) : Prop := (k = kO ∨ k = kS ∨ k = kC) ∧ Cond.classLink own ix (ar_co k) ∈ lw_all
theorem sx_anew (hx : p.tables.exec = Jvm.exec) (hb : c.code = cc) {own : String} (hown : s.vm.findClass own = some m.cls) (hts : ∀ w ∈ lw_all, w.before args s = true) (hO : kv_over s) (hr : rl_H D s E.1 h H) (hS0 : va_S (rl_A E.1) s.heap H locs) (hB : E.1 ≤ s.heap.size)
    {ix k : Nat} {n : Int32} (hk : ek_aa own ix k) (hn : ¬ n < 0) (hn2 : n.toNatClampNeg ≤ 1000000) (hc : cells + 1 ≤ R.cells) (hs : slots + n.toNatClampNeg ≤ R.slots) (hd : decode cc pc = .ok (.anewarray ix, 3))
    (kk : ∀ H1 : Heap, rl_H D s E.1 (hp_new h k n.toNatClampNeg (fun _ => .null)) H1 → va_S (rl_A E.1) s.heap H1 locs → W p l e R s m args below meth c H1 locs (cells + 1) (slots + n.toNatClampNeg) Q (F0 m (pc + 3) ls (.ref (hp_top h) :: rest))) : W p l e R s m args below meth c H locs cells slots Q (F0 m pc ls (.int n :: rest)) := by
  obtain ⟨hk, hw⟩ := hk
  have ho : va_AO (ar_co k) s := by rcases hk with rfl | rfl | rfl; exact hO.1; exact hO.2.1; exact hO.2.2
  refine W.anew hx hb hown (hts _ hw) (va_AO.use ho) rfl hd rfl hn (by omega) hc hs fun cA kA comp f1 f2 f3 f4 => ?_
  rw [hr.1]
  obtain ⟨g1, g2, g3⟩ := push_facts (H := H) (cell := { cls := cA, slots := Array.replicate n.toNatClampNeg .null, vm := .none })
  rw [hr.1] at g1 g2 g3
  obtain ⟨kc, hkc, -⟩ := Vm.findClass_spec f4
  refine kk _ (rl_new hr (Nat.le_trans hB (by rw [← hr.1]; exact hS0.1)) g1 g2 g3 rfl ?_ fun j hj => ?_) ⟨?_, fun x h1 h2 => ?_, hS0.2.2⟩
  · rcases hk with rfl | rfl | rfl <;>
    exact ⟨fun a => absurd a (by decide), fun _ a => absurd a (by decide), fun _ a => absurd a (by decide), fun _ => ⟨by simp, ⟨fun z q => (nomatch q), kA, f2, comp, f3⟩, fun _ => f1, fun _ _ => ⟨kA, comp, kc, f2, f3, f4, hkc⟩⟩⟩
  · rw [show rl_ix D k j = j from by unfold rl_ix; rcases hk with rfl | rfl | rfl <;> rfl]
    simp only [Array.getElem?_replicate, hj, if_true]
  · exact Nat.le_trans hS0.1 (by rw [g2, hr.1]; exact Nat.le_succ _)
  · exact (g3 x (by rw [← hr.1]; exact Nat.lt_of_lt_of_le h1 hS0.1)).trans (hS0.2.1 x h1 h2)
end SXD
end
section
section SXE
variable {p : Program} {l : Launch} {e : Env} {R : Room} {s : State} {m : MethodId} {args : Array Value} {below : List Frame} {meth : Method} {c : Code} {H : Heap} {locs : List Loc} {cells slots : Nat} {Q : State → Prop}
variable {cc : ByteArray} {pc : Nat} {ls : Array Slot} {rest : List Value} {D : va_G} {E : Env0} {h : Hp}
def ek_ac (own : String) (ix : Nat) : Prop := Cond.methodLink own ix arraycopyName ∈ lw_all ∧ Cond.native arraycopyName ∈ lw_all ∧ Cond.static arraycopyName ∈ lw_all ∧ Cond.initialized "java/lang/System" ∈ lw_all
/-- the kinds that may stand in an array of Object: castable to it -/
def ob_ok : Prop := ∀ kd, 9 ≤ kd → kd ≤ 19 → Cond.castable (kd_nm kd) "java/lang/Object" ∈ lw_tbl
theorem sx_copy (hx : p.tables.exec = Jvm.exec) (hb : c.code = cc) (hsz : ls.size = c.maxLocals) {own : String} (hown : s.vm.findClass own = some m.cls) (hts : ∀ w ∈ lw_all, w.before args s = true) (hob : ob_ok) (hK : kv_cls D s) (hN : kv_nest s) (hr : rl_H D s E.1 h H) (hw : hp_wf h) (hS0 : va_S (rl_A E.1) s.heap H locs)
    {ix a b : Nat} {i j n : Int32} (hl : ek_ac own ix) (hB : E.1 ≤ b) (hk : hp_kd h a = hp_kd h b) (k1 : kI ≤ hp_kd h b) (k2 : hp_kd h b ≤ kO) (h1 : ¬ i < 0) (h2 : ¬ j < 0) (h3 : ¬ n < 0) (h4 : i.toNatClampNeg + n.toNatClampNeg ≤ hp_ln h a) (h5 : j.toNatClampNeg + n.toNatClampNeg ≤ hp_ln h b)
    (hfr : 1 ≤ R.frames) (hlo : (rest.map fun v => v.category).sum + 20 ≤ R.locals) (hd : decode cc pc = .ok (.invokestatic ix, 3))
    (kk : ∀ (H1 : Heap) (locs1 : List Loc), rl_H D s E.1 (hp_cpy h a i.toNatClampNeg b j.toNatClampNeg n.toNatClampNeg) H1 → va_S (rl_A E.1) s.heap H1 locs1 → W p l e R s m args below meth c H1 locs1 cells slots Q (F0 m (pc + 3) ls rest)) : W p l e R s m args below meth c H locs cells slots Q (F0 m pc ls (.int n :: .int j :: .ref b :: .int i :: .ref a :: rest)) := by
  have k1' : 101 ≤ hp_kd h b := k1
  have k2' : hp_kd h b ≤ 104 := k2
  obtain ⟨l1, l2, l3, l4⟩ := hl
  intro T hT X
  obtain ⟨ca, a1, a2, a3, a4, a5, a6⟩ := hr.2 a (by omega)
  obtain ⟨cb, b1, b2, b3, b4, b5, b6⟩ := hr.2 b (by omega)
  obtain ⟨za1, za2, -, -⟩ := a5.2.2.2 (by omega)
  obtain ⟨zb1, zb2, zb3, zb4⟩ := b5.2.2.2 (by omega)
  obtain ⟨oa, ka, hka, cma, hkka⟩ := za2
  obtain ⟨ob, kb, hkb, cmb, hkkb⟩ := zb2
  have ixa : ∀ x, rl_ix D (hp_kd h a) x = x := fun x => by unfold rl_ix; rw [if_neg (by omega), if_neg (by omega)]
  have ixb : ∀ x, rl_ix D (hp_kd h b) x = x := fun x => by unfold rl_ix; rw [if_neg (by omega), if_neg (by omega)]
  have hel : ∀ q, q < n.toNatClampNeg → ca.slots.getD (i.toNatClampNeg + q) .null = hp_at h a (i.toNatClampNeg + q) := fun q hq => by
    have := a6 (i.toNatClampNeg + q) (by omega)
    rw [ixa] at this
    rw [Array.getD_eq_getD_getElem?, this]
    rfl
  obtain ⟨vm', X', step⟩ := X.arraycopy hx hown (hts _ l1) (hts _ l2) (hts _ l3) (hts _ l4) (src := a) (dst := b) (cs := ca) (cd := cb) (srcPos := i) (destPos := j) (n := n) (by rw [hT]; exact a1) (by rw [hT]; exact b1)
    oa ob a3 b3 hka hkb hkka hkkb (by rw [hk]; simp) h1 h2 h3 (by rw [nn_clamp h1, nn_clamp h3, za1]; omega) (by rw [nn_clamp h2, nn_clamp h3, zb1]; omega)
    (fun vm₁ hal q hq => by
      rw [hel q hq]
      have hv := hw a (i.toNatClampNeg + q) (by omega) (by omega)
      rw [hk] at hv
      obtain ⟨v1, v2, v3, v4⟩ := hv
      rcases (by omega : hp_kd h b = 101 ∨ hp_kd h b = 102 ∨ hp_kd h b = 103 ∨ hp_kd h b = 104) with z | z | z | z
      · obtain ⟨x, e⟩ := v1 z
        rw [e, z]
        exact ⟨rfl, trivial⟩
      · rcases v2 z with e | e <;> rw [e, z] <;> exact ⟨rfl, trivial⟩
      · obtain ⟨x, e⟩ := v3 z
        rw [e, z]
        exact ⟨rfl, trivial⟩
      · rcases v4 z with e | ⟨y, e, y1, y2⟩
        · rw [e, z]
          exact ⟨rfl, trivial⟩
        · rw [e, z]
          obtain ⟨kA, comp, kc, g1, g2, g3, g4⟩ := zb4 hB (by omega)
          cases hkb.symm.trans g1
          rw [hkkb] at g2
          cases g2
          rw [z] at g3
          obtain ⟨cy, w1, w2, w3⟩ := rl_recv hK hr (a := y) (by omega) (by omega)
          obtain ⟨c0, t0, f1, f2, f3⟩ := Cond.castable_spec (nw_use (A := #[]) rfl (hN _ (hob _ y1 y2) rfl))
          cases w3.symm.trans f1
          cases g3.symm.trans f2
          obtain ⟨kC, hkC, -⟩ := Vm.findClass_spec w3
          obtain ⟨kC', hkC', -⟩ := hal.2.2 _ _ hkC
          obtain ⟨kE', hkE', -⟩ := hal.2.2 _ _ g4
          refine ⟨rfl, cy, (show T.heap[y]? = some cy by rw [hT]; exact w1), (fun q z => by rw [z] at w2; cases w2), ⟨kC', hkC'⟩, ⟨kE', hkE'⟩, ?_⟩
          show vm₁.assignable _ _ = true
          rw [hal.assignable]
          exact f3)
    (g := F0 m pc ls (.int n :: .int j :: .ref b :: .int i :: .ref a :: rest)) rfl hsz (rest := rest) rfl (by rw [hb]; exact hd) hfr (by show 2 * 0 + _ + (7 + 11) ≤ _; omega)
  have hlt : b < H.size := (Array.getElem?_eq_some_iff.mp b1).1
  obtain ⟨sr1, sr2, sr3, -, -⟩ := Cell.storeRun_facts cb j.toNatClampNeg (ca.stretch i.toNatClampNeg n.toNatClampNeg)
  have hlen : (ca.stretch i.toNatClampNeg n.toNatClampNeg).length = n.toNatClampNeg := Cell.stretch_length ..
  have hheap : ((T.setVm vm').setCell b (copied ca cb i j n)).heap = H.setIfInBounds b (copied ca cb i j n) := by rw [← hT]; rfl
  have oq : ∀ q : Nat, q ≠ b → (H.setIfInBounds b (copied ca cb i j n))[q]? = H[q]? := fun q hq => by simp [Array.getElem?_setIfInBounds, Ne.symm hq]
  have ob' : (H.setIfInBounds b (copied ca cb i j n))[b]? = some (copied ca cb i j n) := by simp [Array.getElem?_setIfInBounds, hlt]
  have hR : rl_H D s E.1 (hp_cpy h a i.toNatClampNeg b j.toNatClampNeg n.toNatClampNeg) (H.setIfInBounds b (copied ca cb i j n)) := by
    refine ⟨by simp; exact hr.1, fun x hx0 => ?_⟩
    have hx1 : hp_kd h x ≠ 0 := hx0
    obtain ⟨cx, x1, x2, x3, x4, x5, x6⟩ := hr.2 x hx1
    by_cases hxb : x = b
    · subst hxb
      cases b1.symm.trans x1
      refine ⟨copied ca cb i j n, ob', by rw [sr2]; exact x2, by rw [sr2]; exact x3, fun z => by rw [sr2]; exact x4 z, ?_, fun k hkk => ?_⟩
      · obtain ⟨d1, d2, d3, d4⟩ := x5
        refine ⟨fun z => absurd (show hp_kd h x < 50 from z) (by omega), fun _ z => absurd (show hp_kd h x < 60 from z) (by omega), fun _ z => absurd (show hp_kd h x < 70 from z) (by omega), fun z => ?_⟩
        obtain ⟨t1, t2, t3, t4⟩ := d4 z
        obtain ⟨u1, u2⟩ := t2
        refine ⟨by rw [sr3]; exact t1, ⟨fun q => by rw [sr2]; exact u1 q, by rw [sr1]; exact u2⟩, fun q => by rw [sr1]; exact t3 q, fun q r => by rw [sr1]; exact t4 q r⟩
      · have hkk' : k < hp_ln h x := hkk
        show (cb.storeRun j.toNatClampNeg (ca.stretch i.toNatClampNeg n.toNatClampNeg)).slots[rl_ix D (hp_kd h x) k]? = some (if x = x ∧ j.toNatClampNeg ≤ k ∧ k < j.toNatClampNeg + n.toNatClampNeg then hp_at h a (i.toNatClampNeg + (k - j.toNatClampNeg)) else hp_at h x k)
        rw [ixb, Cell.storeRun_get _ _ _ _ (by rw [hlen, zb1]; exact h5), hlen]
        by_cases hc : j.toNatClampNeg ≤ k ∧ k < j.toNatClampNeg + n.toNatClampNeg
        · rw [if_pos hc, if_pos ⟨rfl, hc⟩]
          have hq : k - j.toNatClampNeg < n.toNatClampNeg := by omega
          rw [← hel _ hq]
          simp only [Cell.stretch, List.getElem?_map, List.getElem?_range hq, Option.map_some]
        · rw [if_neg hc, if_neg (fun z => hc z.2)]
          have := x6 k hkk'
          rw [ixb] at this
          exact this
    · refine ⟨cx, by rw [oq x hxb]; exact x1, x2, x3, x4, x5, fun k hkk => ?_⟩
      show cx.slots[rl_ix D (hp_kd h x) k]? = some (if x = b ∧ j.toNatClampNeg ≤ k ∧ k < j.toNatClampNeg + n.toNatClampNeg then hp_at h a (i.toNatClampNeg + (k - j.toNatClampNeg)) else hp_at h x k)
      rw [if_neg (fun z => hxb z.1)]
      exact x6 k hkk
  obtain ⟨t, t1, t2⟩ := kk _ _ hR ⟨by simp; exact hS0.1, fun q g1 g2 => by
      rw [oq q (fun e => g2 (by rw [e]; exact hB))]
      exact hS0.2.1 q g1 g2, fun q hq => by
      rcases List.mem_append.mp hq with z | z
      · exact hS0.2.2 q z
      · obtain ⟨y, -, rfl⟩ := List.mem_map.mp z
        exact hB⟩ _ hheap X'
  exact ⟨t, step t t1, t2⟩
end SXE
end
section
def ek_br (pc : Nat) : Instr → List Nat → Prop
  | .goto o, [t] => (pc : Int) + o = (t : Int)
  | .ifCond _ o, [t] => (pc : Int) + o = (t : Int)
  | .if_icmp _ o, [t] => (pc : Int) + o = (t : Int)
  | .ifnull o, [t] => (pc : Int) + o = (t : Int)
  | .ifnonnull o, [t] => (pc : Int) + o = (t : Int)
  | .if_acmp _ o, [t] => (pc : Int) + o = (t : Int)
  | .tableswitch d lo hi offs, dt :: l :: ts => (pc : Int) + d = (dt : Int) ∧ lo = (l : Int) ∧ hi = (l : Int) + (ts.length : Int) - 1 ∧ ∀ j, j < ts.length → ∃ off, offs[j]? = some off ∧ (pc : Int) + off = ((ts.getD j 0 : Nat) : Int)
  | _, _ => True
theorem isr_rf {v : Value} (h : rn_isr v = true) : ∃ r : Option Nat, v = va_rf r := by
  cases v <;> first
    | exact absurd h Bool.false_ne_true
    | exact ⟨none, rfl⟩
    | exact ⟨some _, rfl⟩
theorem rf_inj {x y : Option Nat} (h : va_rf x = va_rf y) : x = y := by
  cases x <;> cases y <;> simp_all [va_rf]
section SXF
variable {p : Program} {l : Launch} {e : Env} {R : Room} {s : State} {m : MethodId} {args : Array Value} {below : List Frame} {meth : Method} {c : Code} {H : Heap} {locs : List Loc} {cells slots : Nat} {Q : State → Prop}
variable {cc : ByteArray} {pc : Nat} {ls : Array Slot}
theorem sx_if1 (hx : p.tables.exec = Jvm.exec) (hb : c.code = cc) {cd : ClassFile.Cond} {o : Int} {t : Nat} {x : Int32} {r : List Value} (hd : decode cc pc = .ok (.ifCond cd o, 3)) (ht : (pc : Int) + o = (t : Int))
    (k : W p l e R s m args below meth c H locs cells slots Q (F0 m (if rn_ci cd x 0 = true then t else pc + 3) ls r)) : W p l e R s m args below meth c H locs cells slots Q (F0 m pc ls (.int x :: r)) := by
  cases cd <;> simp only [rn_ci, decide_eq_true_eq] at k
  · exact lv_if_eq hx hb hd ht (fun z => by rw [if_pos z] at k; exact k) (fun z => by rw [if_neg z] at k; exact k)
  · exact lv_if_ne hx hb hd ht (fun z => by rw [if_pos z] at k; exact k) (fun z => by rw [if_neg (fun q => q z)] at k; exact k)
  · exact lv_if_lt hx hb hd ht (fun z => by rw [if_pos z] at k; exact k) (fun z => by rw [if_neg z] at k; exact k)
  · exact lv_if_ge hx hb hd ht (fun z => by rw [if_pos z] at k; exact k) (fun z => by rw [if_neg z] at k; exact k)
  · exact lv_if_gt hx hb hd ht (fun z => by rw [if_pos z] at k; exact k) (fun z => by rw [if_neg z] at k; exact k)
  · exact lv_if_le hx hb hd ht (fun z => by rw [if_pos z] at k; exact k) (fun z => by rw [if_neg z] at k; exact k)
theorem sx_if2 (hx : p.tables.exec = Jvm.exec) (hb : c.code = cc) {cd : ClassFile.Cond} {o : Int} {t : Nat} {x y : Int32} {r : List Value} (hd : decode cc pc = .ok (.if_icmp cd o, 3)) (ht : (pc : Int) + o = (t : Int))
    (k : W p l e R s m args below meth c H locs cells slots Q (F0 m (if rn_ci cd x y = true then t else pc + 3) ls r)) : W p l e R s m args below meth c H locs cells slots Q (F0 m pc ls (.int y :: .int x :: r)) := by
  cases cd <;> simp only [rn_ci, decide_eq_true_eq] at k
  · exact lv_icmp_eq hx hb hd ht (fun z => by rw [if_pos z] at k; exact k) (fun z => by rw [if_neg z] at k; exact k)
  · exact lv_icmp_ne hx hb hd ht (fun z => by rw [if_pos z] at k; exact k) (fun z => by rw [if_neg (fun q => q z)] at k; exact k)
  · exact lv_icmp_lt hx hb hd ht (fun z => by rw [if_pos z] at k; exact k) (fun z => by rw [if_neg z] at k; exact k)
  · exact lv_icmp_ge hx hb hd ht (fun z => by rw [if_pos z] at k; exact k) (fun z => by rw [if_neg z] at k; exact k)
  · exact lv_icmp_gt hx hb hd ht (fun z => by rw [if_pos z] at k; exact k) (fun z => by rw [if_neg z] at k; exact k)
  · exact lv_icmp_le hx hb hd ht (fun z => by rw [if_pos z] at k; exact k) (fun z => by rw [if_neg z] at k; exact k)
theorem sx_tsw (hx : p.tables.exec = Jvm.exec) (hb : c.code = cc) {d lo hi : Int} {offs : Array Int} {len dt l0 : Nat} {ts : List Nat} {x : Int32} {r : List Value} (hd : decode cc pc = .ok (.tableswitch d lo hi offs, len)) (ht : ek_br pc (.tableswitch d lo hi offs) (dt :: l0 :: ts))
    (k : W p l e R s m args below meth c H locs cells slots Q (F0 m (if x.toInt < (l0 : Int) then dt else ts.getD (x.toInt - l0).toNat dt) ls r)) : W p l e R s m args below meth c H locs cells slots Q (F0 m pc ls (.int x :: r)) := by
  obtain ⟨t1, rfl, rfl, t4⟩ := ht
  by_cases hlo : x.toInt < (l0 : Int)
  · rw [if_pos hlo] at k
    exact lv_tableOut hx hb hd (Or.inl hlo) t1 k
  · rw [if_neg hlo] at k
    by_cases hhi : (l0 : Int) + (ts.length : Int) - 1 < x.toInt
    · rw [show ts.getD (x.toInt - l0).toNat dt = dt from by rw [List.getD_eq_getElem?_getD, List.getElem?_eq_none (by omega)]; rfl] at k
      exact lv_tableOut hx hb hd (Or.inr hhi) t1 k
    · obtain ⟨off, o1, o2⟩ := t4 (x.toInt - l0).toNat (by omega)
      rw [show ts.getD (x.toInt - l0).toNat dt = ts.getD (x.toInt - l0).toNat 0 from by
        rw [List.getD_eq_getElem?_getD, List.getD_eq_getElem?_getD, List.getElem?_eq_getElem (by omega)]; rfl] at k
      exact lv_tableIn hx hb hd hlo hhi o1 o2 k
theorem sx_br (hx : p.tables.exec = Jvm.exec) (hb : c.code = cc) {i : Instr} {len : Nat} {ops : List Nat} (hd : decode cc pc = .ok (i, len)) (hlen : len = rn_len i ∨ ∃ a b c d, i = .tableswitch a b c d) (ht : ek_br pc i ops)
    {st : List Value} {q : Nat × List Value} (h : rn_br i ops (pc + len) st = some q) (k : W p l e R s m args below meth c H locs cells slots Q (F0 m q.1 ls q.2)) : W p l e R s m args below meth c H locs cells slots Q (F0 m pc ls st) := by
  unfold rn_br at h
  split at h
  · cases h
    have e1 : len = 3 := by rcases hlen with z | ⟨_, _, _, _, z⟩; exact z; cases z
    subst e1
    exact lv_goto hx hb hd ht k
  · cases h
    have e1 : len = 3 := by rcases hlen with z | ⟨_, _, _, _, z⟩; exact z; cases z
    subst e1
    exact sx_if1 hx hb hd ht k
  · cases h
    have e1 : len = 3 := by rcases hlen with z | ⟨_, _, _, _, z⟩; exact z; cases z
    subst e1
    exact sx_if2 hx hb hd ht k
  · cases h
    have e1 : len = 3 := by rcases hlen with z | ⟨_, _, _, _, z⟩; exact z; cases z
    subst e1
    exact lv_ifnullN hx hb hd ht k
  · cases h
    have e1 : len = 3 := by rcases hlen with z | ⟨_, _, _, _, z⟩; exact z; cases z
    subst e1
    exact lv_ifnull hx hb hd k
  · cases h
    have e1 : len = 3 := by rcases hlen with z | ⟨_, _, _, _, z⟩; exact z; cases z
    subst e1
    exact lv_ifnonnullN hx hb hd k
  · cases h
    have e1 : len = 3 := by rcases hlen with z | ⟨_, _, _, _, z⟩; exact z; cases z
    subst e1
    exact lv_ifnonnull hx hb hd ht k
  · split at h
    · next hr =>
      cases h
      have e1 : len = 3 := by rcases hlen with z | ⟨_, _, _, _, z⟩; exact z; cases z
      subst e1
      simp only [Bool.and_eq_true] at hr
      obtain ⟨rx, rfl⟩ := isr_rf hr.1
      obtain ⟨ry, rfl⟩ := isr_rf hr.2
      exact lv_acmp_eq hx hb hd ht (fun z => by rw [if_pos (by rw [z])] at k; exact k) (fun z => by rw [if_neg (fun q => z (rf_inj q))] at k; exact k)
    · cases h
  · split at h
    · next hr =>
      cases h
      have e1 : len = 3 := by rcases hlen with z | ⟨_, _, _, _, z⟩; exact z; cases z
      subst e1
      simp only [Bool.and_eq_true] at hr
      obtain ⟨rx, rfl⟩ := isr_rf hr.1
      obtain ⟨ry, rfl⟩ := isr_rf hr.2
      exact lv_acmp_ne hx hb hd ht (fun z => by rw [if_neg (fun q => z (rf_inj q))] at k; exact k) (fun z => by rw [if_pos (by rw [z])] at k; exact k)
    · cases h
  · cases h
    exact sx_tsw hx hb hd ht k
  · cases h
end SXF
end
section
/-! a method's contract, out of a run -/
abbrev MI : Type := MethodName × ByteArray × Nat × Option FieldType × List (Nat × Nat × Nat × Nat)
def mi_ws (q : MI) : List Jvm.Cond := match q.2.2.2.2 with
  | [] => ws_ q.1 q.2.1 q.2.2.1 q.2.2.2.1
  | hh => wsW_ q.1 q.2.1 q.2.2.1 q.2.2.2.1 hh
def cx_room (d mc ms : Nat) : Room := { frames := 8 * d + 16, cells := mc, slots := ms, locals := 1000 * d + 5000 }
def ex_nm (x : Nat) : String := if x = 1 then "java/lang/IllegalArgumentException" else if x = 2 then "java/lang/IllegalStateException" else "java/lang/IndexOutOfBoundsException"
def cx_Q (D : va_G) (E : Env0) (r : Rs × Hp) : Array Value → State → Outcome → State → Prop := fun _ st o t => (∃ v, r.1 = .ok v ∧ o = .returned v) ∧ rl_H D t E.1 r.2 t.heap ∧ va_F (rl_A E.1) st t
def cx_X (D : va_G) (E : Env0) (r : Rs × Hp) : String → State → State → Prop := fun nm st t => (∃ x, r.1 = .error x ∧ nm = ex_nm x) ∧ rl_H D t E.1 r.2 t.heap ∧ va_F (rl_A E.1) st t
def cx_P (D : va_G) (E : Env0) (h : Hp) (as : List Value) : Array Value → State → Prop := va_Pc as (fun U => kv_ok D E U U.heap ∧ rl_H D U E.1 h U.heap ∧ E.1 ≤ U.heap.size)
def cx_M (l : Launch) (D : va_G) (E : Env0) (q : MI) (d : Nat) (as : List Value) (h : Hp) (r : Rs × Hp) : Prop :=
  vx_Met l q.1 (mi_ws q) (cx_room d (hp_top r.2 - hp_top h) (hp_use r.2 - hp_use h)) (cx_P D E h as) (cx_Q D E r) (cx_X D E r) (hp_top r.2 - hp_top h) (hp_use r.2 - hp_use h) (rl_A E.1)
theorem kv_move {D : va_G} {E : Env0} {s U : State} {H0 H : Heap} (h : kv_ok D E s H0) (hW : s.WarmedH U.vm) (hk : ∀ q : Nat, q < H0.size → ¬ rl_A E.1 q → H[q]? = H0[q]?) : kv_ok D E U H := by
  obtain ⟨h1, h2, h3, h4, h5, h6, h7, h8, h9, h10, h11⟩ := h
  have hA := hW.alike
  refine ⟨fun ci q hq => u_Kn_moved hA (h1 ci q hq), ?_, fun w hw hk => nw_warm hk hW (h3 w hw hk), fun i q hq => ((h4 i q hq).kept hk).moved hA, ?_, fun q hq => (h6 q hq).moved hA, ⟨h7.1.moved hA, h7.2.1.moved hA, h7.2.2.moved hA⟩, ⟨h8.1.moved (by decide) hA, h8.2.1.moved (by decide) hA, h8.2.2.moved (by decide) hA⟩, ⟨(h9.1.kept hk).moved hA, (h9.2.kept hk).moved hA⟩, ⟨ml_moved hA h10.1, ml_moved hA h10.2⟩, lam_moved hW h11⟩
  · obtain ⟨cf, kf, fi, f, hi, hs, hst⟩ := h2
    obtain ⟨kf', hi', -⟩ := State.fieldFound?_setVm (s := s) hA hi
    exact ⟨cf, kf', fi, f, by simpa only [State.fieldFound?, State.vm_setVm] using hi', hs, hst⟩
  · obtain ⟨mi, e1, hM⟩ := h5
    exact ⟨mi, e1, hM.moved hA⟩
theorem cx_blind {D : va_G} {E : Env0} {h : Hp} {as : List Value} : FrameBlind (cx_P D E h as) := by
  intro a U g mk ⟨h1, h2, h3, h4⟩
  have hA : U.vm.Alike (U.calling g mk a).vm := Vm.Alike.refl U.vm
  have hW : U.WarmedH (U.calling g mk a).vm := State.WarmedH.refl U
  exact ⟨h1, kv_move h2 hW (fun _ _ _ => rfl), rl_H_moved hA h3, h4⟩
section SXG
variable {p : Program} {l : Launch} {e : Env} {R : Room} {s : State} {m : MethodId} {args : Array Value} {below : List Frame} {meth : Method} {c : Code} {H : Heap} {locs : List Loc} {cells slots : Nat} {Q : State → Prop}
variable {cc : ByteArray} {pc : Nat} {ls : Array Slot} {rest st0 : List Value} {D : va_G} {E : Env0} {h : Hp} {r : Rs × Hp} {mc ms : Nat} {a : Array Value}
theorem cx_pre (hK : kv_ok D E s s.heap) (hr : rl_H D s E.1 h H) (hS : va_S (rl_A E.1) s.heap H locs) (hB : E.1 ≤ s.heap.size) (as : List Value) : ∀ U : State, U.heap = H → s.WarmedH U.vm → cx_P D E h as as.toArray U := by
  intro U hU hW
  subst hU
  exact ⟨rfl, kv_move hK hW hS.2.1, rl_H_moved hW.alike hr, Nat.le_trans hB hS.1⟩
/-- behind a call -/
theorem sx_call (hr : vx_Run p l e R s m args below meth c H locs cells slots mc ms (F0 m pc ls st0) rest (cx_Q D E r a) (cx_X D E r) (rl_A E.1)) (hS : va_S (rl_A E.1) s.heap H locs)
    (ko : ∀ v, r.1 = .ok v → ∀ (H1 : Heap) (locs1 : List Loc), rl_H D s E.1 r.2 H1 → va_S (rl_A E.1) s.heap H1 locs1 → W p l e R s m args below meth c H1 locs1 (cells + mc) (slots + ms) Q (F0 m (pc + 3) ls (v.toList ++ rest)))
    (kx : ∀ x, r.1 = .error x → ∀ (q : Nat) (ce : Cell) (H1 : Heap) (locs1 : List Loc), H1[q]? = some ce → ce.vm = .none → s.vm.findClass (ex_nm x) = some ce.cls → rl_H D s E.1 r.2 H1 → va_S (rl_A E.1) s.heap H1 locs1 → vx_W p l e R s m args below meth c H1 locs1 (cells + mc) (slots + ms) Q (F0 m pc ls rest) q) :
    W p l e R s m args below meth c H locs cells slots Q (F0 m pc ls st0) := by
  intro T hT X
  have key : ∀ {T' t st₀ : State} {L : List Loc}, st₀.heap = H → Stand p l e R s m args below meth c T' (locs ++ L) (cells + mc) (slots + ms) → (∀ q ∈ L, rl_A E.1 q.base) → T'.heap = t.heap → T'.vm = t.vm → rl_H D t E.1 r.2 t.heap → va_F (rl_A E.1) st₀ t →
      rl_H D s E.1 r.2 T'.heap ∧ va_S (rl_A E.1) s.heap T'.heap (locs ++ L) := by
    intro T' t st₀ L h0 X' hL e1 e2 g1 g2
    have hA : t.vm.Alike s.vm := by rw [← e2]; exact X'.warmed.alike.symm
    refine ⟨by rw [e1]; exact rl_H_moved hA g1, ?_, fun q z1 z2 => ?_, fun q hq => ?_⟩
    · rw [e1]; exact Nat.le_trans hS.1 (by rw [← h0]; exact g2.1)
    · rw [e1, g2.2 q (by rw [h0]; exact Nat.lt_of_lt_of_le z1 hS.1) z2, h0]
      exact hS.2.1 q z1 z2
    · rcases List.mem_append.mp hq with z | z
      · exact hS.2.2 q z
      · exact hL q z
  rcases hr T hT X with ⟨v, st₀, t, T', L, h0, X', hL, e1, e2, ⟨⟨v', hv, ho⟩, g1, g2⟩, st⟩ | ⟨q, st₀, t, T', L, En, ce, h0, X', hL, e1, e2, ⟨⟨x, hx, hn⟩, g1, g2⟩, hce, hcv, hcl, st⟩
  · cases ho
    obtain ⟨w1, w2⟩ := key h0 X' hL e1 e2 g1 g2
    obtain ⟨t2, a1, b1⟩ := ko v hv T'.heap (locs ++ L) w1 w2 T' rfl X'
    exact ⟨t2, st t2 a1, b1⟩
  · obtain ⟨w1, w2⟩ := key h0 X' hL e1 e2 g1 g2
    subst hn
    obtain ⟨t2, a1, b1⟩ := kx x hx q ce T'.heap (locs ++ L) (by rw [e1]; exact hce) hcv hcl w1 w2 T' rfl X'
    exact ⟨t2, st.trans a1, b1⟩
theorem sx_call5 (hr : vx_Run5 p l e R s m args below meth c H locs cells slots mc ms (F0 m pc ls st0) rest (cx_Q D E r a) (cx_X D E r) (rl_A E.1)) (hS : va_S (rl_A E.1) s.heap H locs)
    (ko : ∀ v, r.1 = .ok v → ∀ (H1 : Heap) (locs1 : List Loc), rl_H D s E.1 r.2 H1 → va_S (rl_A E.1) s.heap H1 locs1 → W p l e R s m args below meth c H1 locs1 (cells + mc) (slots + ms) Q (F0 m (pc + 5) ls (v.toList ++ rest)))
    (kx : ∀ x, r.1 = .error x → ∀ (q : Nat) (ce : Cell) (H1 : Heap) (locs1 : List Loc), H1[q]? = some ce → ce.vm = .none → s.vm.findClass (ex_nm x) = some ce.cls → rl_H D s E.1 r.2 H1 → va_S (rl_A E.1) s.heap H1 locs1 → vx_W p l e R s m args below meth c H1 locs1 (cells + mc) (slots + ms) Q (F0 m pc ls rest) q) :
    W p l e R s m args below meth c H locs cells slots Q (F0 m pc ls st0) := by
  intro T hT X
  have key : ∀ {T' t st₀ : State} {L : List Loc}, st₀.heap = H → Stand p l e R s m args below meth c T' (locs ++ L) (cells + mc) (slots + ms) → (∀ q ∈ L, rl_A E.1 q.base) → T'.heap = t.heap → T'.vm = t.vm → rl_H D t E.1 r.2 t.heap → va_F (rl_A E.1) st₀ t →
      rl_H D s E.1 r.2 T'.heap ∧ va_S (rl_A E.1) s.heap T'.heap (locs ++ L) := by
    intro T' t st₀ L h0 X' hL e1 e2 g1 g2
    have hA : t.vm.Alike s.vm := by rw [← e2]; exact X'.warmed.alike.symm
    refine ⟨by rw [e1]; exact rl_H_moved hA g1, ?_, fun q z1 z2 => ?_, fun q hq => ?_⟩
    · rw [e1]; exact Nat.le_trans hS.1 (by rw [← h0]; exact g2.1)
    · rw [e1, g2.2 q (by rw [h0]; exact Nat.lt_of_lt_of_le z1 hS.1) z2, h0]
      exact hS.2.1 q z1 z2
    · rcases List.mem_append.mp hq with z | z
      · exact hS.2.2 q z
      · exact hL q z
  rcases hr T hT X with ⟨v, st₀, t, T', L, h0, X', hL, e1, e2, ⟨⟨v', hv, ho⟩, g1, g2⟩, st⟩ | ⟨q, st₀, t, T', L, En, ce, h0, X', hL, e1, e2, ⟨⟨x, hx, hn⟩, g1, g2⟩, hce, hcv, hcl, st⟩
  · cases ho
    obtain ⟨w1, w2⟩ := key h0 X' hL e1 e2 g1 g2
    obtain ⟨t2, a1, b1⟩ := ko v hv T'.heap (locs ++ L) w1 w2 T' rfl X'
    exact ⟨t2, st t2 a1, b1⟩
  · obtain ⟨w1, w2⟩ := key h0 X' hL e1 e2 g1 g2
    subst hn
    obtain ⟨t2, a1, b1⟩ := kx x hx q ce T'.heap (locs ++ L) (by rw [e1]; exact hce) hcv hcl w1 w2 T' rfl X'
    exact ⟨t2, st.trans a1, b1⟩
end SXG
end
section
/-! what the tables must say of a callee and of a call -/
def mi_code (q : MI) : Jvm.Cond := match q.2.2.2.2 with
  | [] => Cond.code q.1 q.2.1 q.2.2.1 q.2.2.2.1
  | hh => Cond.codeWith q.1 q.2.1 q.2.2.1 q.2.2.2.1 hh
def mi_ok (q : MI) : Prop := mi_code q ∈ lw_all ∧ Cond.initialized q.1.cls ∈ lw_all ∧ (q.1.cls ≠ "java/lang/invoke/MethodHandle" ∧ q.1.cls ≠ "java/lang/invoke/VarHandle") ∧ plainName q.1.cls = true ∧ q.2.2.1 ≤ 60
def mi_n (q : MI) (n : Nat) : Prop := (parseMethodDescriptor q.1.desc).map (fun d => d.parameters.length) = some n
theorem mi_len {q : MI} {n : Nat} (h : mi_n q n) : ∀ sig, parseMethodDescriptor q.1.desc = some sig → n = sig.parameters.length := by
  intro sig hs
  unfold mi_n at h
  rw [hs] at h
  exact (Option.some.inj h).symm
theorem mi_good {q : MI} (h : mi_ok q) {args : Array Value} {s : State} (hts : ∀ w ∈ lw_all, w.before args s = true) : (∀ w ∈ mi_ws q, ∀ (a' : Array Value) (U : State), s.WarmedH U.vm → w.before a' U = true) := by
  have hG : GoodIn lw_all (mi_ws q) := by
    have h1 := h.1
    unfold mi_code at h1
    unfold mi_ws
    split at h1
    · next e => rw [e]; exact lw_meth h1
    · next e =>
      split
      · next e2 => exact absurd e2 (by assumption)
      · exact lw_methW h1
  intro w hw a' U hW
  exact word_at hW (hG w hw).2 (hts w (hG w hw).1)
/-- plain callee (no handlers) -/
def mi_pl (q : MI) : Prop := q.2.2.2.2 = []
theorem mi_plc {q : MI} (h : mi_ok q) (hp : mi_pl q) : Cond.code q.1 q.2.1 q.2.2.1 q.2.2.2.1 ∈ lw_all := by
  have := h.1
  unfold mi_code at this
  rw [hp] at this
  exact this
theorem mi_plw {q : MI} (hp : mi_pl q) : mi_ws q = ws_ q.1 q.2.1 q.2.2.1 q.2.2.2.1 := by
  unfold mi_ws
  rw [hp]
section SXH
variable {p : Program} {l : Launch} {e : Env} {R : Room} {s : State} {m : MethodId} {args : Array Value} {below : List Frame} {meth : Method} {c : Code} {H : Heap} {locs : List Loc} {cells slots : Nat} {Q : State → Prop}
variable {cc : ByteArray} {pc nL : Nat} {ls : Array Slot} {rest As : List Value} {D : va_G} {E : Env0} {h : Hp} {r : Rs × Hp} {q : MI} {own : String} {ix n d mc0 ms0 : Nat}
/-- a static call -/
def ek_cs (own : String) (ix n : Nat) (q : MI) : Prop := mi_ok q ∧ mi_n q n ∧ Cond.static q.1 ∈ lw_all ∧ (Cond.methodLink own ix q.1 ∈ lw_all ∨ mi_pl q ∧ ∃ host, Cond.methodLinkNest own ix q.1 host ∈ lw_tbl)
theorem sx_cs (hx : p.tables.exec = Jvm.exec) (hb : c.code = cc) (hml : c.maxLocals = nL) (hown : s.vm.findClass own = some m.cls) (hts : ∀ w ∈ lw_all, w.before args s = true) (hK : kv_ok D E s s.heap) (hr : rl_H D s E.1 h H) (hS : va_S (rl_A E.1) s.heap H locs) (hB : E.1 ≤ s.heap.size) (hsz : ls.size = nL)
    (hek : ek_cs own ix n q) (hM : cx_M l D E q d As h r) (hn : As.length = n) (hW : (rest.map fun v => v.category).sum ≤ 8) (hd : decode cc pc = .ok (.invokestatic ix, 3))
    (hf : cells + (hp_top r.2 - hp_top h) ≤ mc0 ∧ slots + (hp_use r.2 - hp_use h) ≤ ms0) :
    vx_Run p l e (cx_room (d + 1) mc0 ms0) s m args below meth c H locs cells slots (hp_top r.2 - hp_top h) (hp_use r.2 - hp_use h) (F0 m pc ls (As.reverse ++ rest)) rest (cx_Q D E r As.toArray) (cx_X D E r) (rl_A E.1) := by
  obtain ⟨hok, hlen, hst, hlk⟩ := hek
  obtain ⟨o1, o2, o3, o4, o5⟩ := id hok
  have hfr : (cx_room d (hp_top r.2 - hp_top h) (hp_use r.2 - hp_use h)).frames + 1 ≤ (cx_room (d + 1) mc0 ms0).frames := by show 8 * d + 16 + 1 ≤ 8 * (d + 1) + 16; omega
  have hlo : 8 + (q.2.2.1 + 11) + (cx_room d (hp_top r.2 - hp_top h) (hp_use r.2 - hp_use h)).locals ≤ (cx_room (d + 1) mc0 ms0).locals := by show 8 + (q.2.2.1 + 11) + (1000 * d + 5000) ≤ 1000 * (d + 1) + 5000; omega
  by_cases hp : q.2.2.2.2 = []
  · have hc := mi_plc hok hp
    have hw : Cond.code q.1 q.2.1 q.2.2.1 q.2.2.2.1 ∈ mi_ws q := by rw [mi_plw hp]; exact List.mem_cons_self
    rcases hlk with hlk | ⟨-, host, hlk⟩
    · exact vx_runS (Ts := lw_all) ⟨hx, hb, hml, hown, hts⟩ hM ⟨⟨rfl, rfl, hfr, hlo, mi_good hok hts, hw, hts _ hc, hts _ o2, o3, mi_len hlen, hts _ hlk⟩, hts _ hst⟩ ⟨cx_blind, cx_pre hK hr hS hB As⟩ rfl hn hsz rfl (lv_room hW) hd hf
    · exact vx_runSN (Ts := lw_all) ⟨hx, hb, hml, hown, hts⟩ hM ⟨⟨⟨rfl, rfl, hfr, hlo, mi_good hok hts, hw⟩, hts _ hc, hts _ o2, o3, mi_len hlen, nw_use rfl (hK.2.2.1 _ hlk rfl)⟩, hts _ hst, trivial⟩ ⟨cx_blind, cx_pre hK hr hS hB As⟩ rfl hn hsz rfl (lv_room hW) hd hf
  · have hc : Cond.codeWith q.1 q.2.1 q.2.2.1 q.2.2.2.1 q.2.2.2.2 ∈ lw_all := by
      unfold mi_code at o1
      split at o1
      · next e => exact absurd e hp
      · exact o1
    have hw : Cond.codeWith q.1 q.2.1 q.2.2.1 q.2.2.2.1 q.2.2.2.2 ∈ mi_ws q := by
      unfold mi_ws
      split
      · next e => exact absurd e hp
      · exact List.mem_cons_self
    rcases hlk with hlk | ⟨hpl, -⟩
    · exact vx_runSX (Ts := lw_all) (hh := q.2.2.2.2) ⟨hx, hb, hml, hown, hts⟩ hM ⟨⟨rfl, rfl, hfr, hlo, mi_good hok hts, hw⟩, hts _ hc, hts _ o2, o3, mi_len hlen, hts _ hlk, hts _ hst⟩ ⟨cx_blind, cx_pre hK hr hS hB As⟩ rfl hn hsz rfl (lv_room hW) hd hf
    · exact absurd hpl hp
/-- a maker's call -/
def ek_ci (own : String) (ix n : Nat) (q : MI) : Prop := mi_ok q ∧ mi_pl q ∧ mi_n q n ∧ q.1.name = "<init>" ∧ q.2.2.2.1 = none ∧ Cond.instanceMethod q.1 ∈ lw_all ∧ (Cond.methodLink own ix q.1 ∈ lw_all ∨ ∃ host, Cond.methodLinkNest own ix q.1 host ∈ lw_tbl)
theorem sx_ci (hx : p.tables.exec = Jvm.exec) (hb : c.code = cc) (hml : c.maxLocals = nL) (hown : s.vm.findClass own = some m.cls) (hts : ∀ w ∈ lw_all, w.before args s = true) (hK : kv_ok D E s s.heap) (hr : rl_H D s E.1 h H) (hS : va_S (rl_A E.1) s.heap H locs) (hB : E.1 ≤ s.heap.size) (hsz : ls.size = nL)
    (hek : ek_ci own ix n q) {b : Nat} (hM : cx_M l D E q d (.ref b :: As) h r) (hn : As.length = n) (hW : (rest.map fun v => v.category).sum ≤ 8) (hd : decode cc pc = .ok (.invokespecial ix, 3))
    (hf : cells + (hp_top r.2 - hp_top h) ≤ mc0 ∧ slots + (hp_use r.2 - hp_use h) ≤ ms0) :
    vx_Run p l e (cx_room (d + 1) mc0 ms0) s m args below meth c H locs cells slots (hp_top r.2 - hp_top h) (hp_use r.2 - hp_use h) (F0 m pc ls (As.reverse ++ .ref b :: rest)) rest (cx_Q D E r (Value.ref b :: As).toArray) (cx_X D E r) (rl_A E.1) := by
  obtain ⟨hok, hp, hlen, hnm, hret, hin, hlk⟩ := hek
  obtain ⟨o1, o2, o3, o4, o5⟩ := id hok
  have hfr : (cx_room d (hp_top r.2 - hp_top h) (hp_use r.2 - hp_use h)).frames + 1 ≤ (cx_room (d + 1) mc0 ms0).frames := by show 8 * d + 16 + 1 ≤ 8 * (d + 1) + 16; omega
  have hlo : 8 + (q.2.2.1 + 11) + (cx_room d (hp_top r.2 - hp_top h) (hp_use r.2 - hp_use h)).locals ≤ (cx_room (d + 1) mc0 ms0).locals := by show 8 + (q.2.2.1 + 11) + (1000 * d + 5000) ≤ 1000 * (d + 1) + 5000; omega
  have hc := mi_plc hok hp
  have hw : Cond.code q.1 q.2.1 q.2.2.1 q.2.2.2.1 ∈ mi_ws q := by rw [mi_plw hp]; exact List.mem_cons_self
  rw [hret] at hc hw
  rcases hlk with hlk | ⟨host, hlk⟩
  · exact vx_runI (Ts := lw_all) ⟨hx, hb, hml, hown, hts⟩ hM ⟨⟨rfl, rfl, hfr, hlo, mi_good hok hts, hw, hts _ hc, hts _ o2, o3, mi_len hlen, hts _ hlk⟩, hnm, hts _ hin⟩ ⟨cx_blind, cx_pre hK hr hS hB (.ref b :: As)⟩ rfl hn hsz rfl (lv_room hW) hd hf
  · exact vx_runIN (Ts := lw_all) ⟨hx, hb, hml, hown, hts⟩ hM ⟨⟨⟨rfl, rfl, hfr, hlo, mi_good hok hts, hw⟩, hts _ hc, hts _ o2, o3, mi_len hlen, nw_use rfl (hK.2.2.1 _ hlk rfl)⟩, hnm, hts _ hin⟩ ⟨cx_blind, cx_pre hK hr hS hB (.ref b :: As)⟩ rfl hn hsz rfl (lv_room hW) hd hf
/-- a call through an object of kind kd -/
def ek_cv (own : String) (ix n kd : Nat) (q : MI) : Prop := mi_ok q ∧ mi_pl q ∧ kd ≠ 0 ∧ kd < 60 ∧ Cond.instanceMethod q.1 ∈ lw_all ∧
  ((mi_n q n ∧ Cond.selects (kd_nm kd) q.1 q.1 ∈ lw_all ∧ (Cond.methodLink own ix q.1 ∈ lw_all ∨ ∃ host, Cond.methodLinkNest own ix q.1 host ∈ lw_tbl)) ∨
   ∃ (x : MethodName) (ow : String), (parseMethodDescriptor x.desc).map (fun d => d.parameters.length) = some n ∧ (ow ≠ "java/lang/invoke/MethodHandle" ∧ ow ≠ "java/lang/invoke/VarHandle") ∧ Cond.methodLink own ix x ∈ lw_all ∧ Cond.sameMethod x.cls ow x.name x.desc ∈ lw_all ∧ Cond.selects (kd_nm kd) x q.1 ∈ lw_all ∧
     ((Cond.instanceMethod ⟨ow, x.name, x.desc⟩ ∈ lw_all ∧ ∃ (b0 : ByteArray) (L0 : Nat) (r0 : Option FieldType), Cond.code ⟨ow, x.name, x.desc⟩ b0 L0 r0 ∈ lw_all) ∨ Cond.declares ⟨ow, x.name, x.desc⟩ ∈ lw_tbl))
theorem sx_cv (hx : p.tables.exec = Jvm.exec) (hb : c.code = cc) (hml : c.maxLocals = nL) (hown : s.vm.findClass own = some m.cls) (hts : ∀ w ∈ lw_all, w.before args s = true) (hK : kv_ok D E s s.heap) (hr : rl_H D s E.1 h H) (hS : va_S (rl_A E.1) s.heap H locs) (hB : E.1 ≤ s.heap.size) (hsz : ls.size = nL)
    {b : Nat} (hek : ek_cv own ix n (hp_kd h b) q) (hM : cx_M l D E q d (.ref b :: As) h r) (hn : As.length = n) (hW : (rest.map fun v => v.category).sum ≤ 8) (hd : decode cc pc = .ok (.invokevirtual ix, 3))
    (hf : cells + (hp_top r.2 - hp_top h) ≤ mc0 ∧ slots + (hp_use r.2 - hp_use h) ≤ ms0) :
    vx_Run p l e (cx_room (d + 1) mc0 ms0) s m args below meth c H locs cells slots (hp_top r.2 - hp_top h) (hp_use r.2 - hp_use h) (F0 m pc ls (As.reverse ++ .ref b :: rest)) rest (cx_Q D E r (Value.ref b :: As).toArray) (cx_X D E r) (rl_A E.1) := by
  obtain ⟨hok, hp, hk0, hk6, hin, hcase⟩ := hek
  obtain ⟨o1, o2, o3, o4, o5⟩ := id hok
  have hfr : (cx_room d (hp_top r.2 - hp_top h) (hp_use r.2 - hp_use h)).frames + 1 ≤ (cx_room (d + 1) mc0 ms0).frames := by show 8 * d + 16 + 1 ≤ 8 * (d + 1) + 16; omega
  have hlo : 8 + (q.2.2.1 + 11) + (cx_room d (hp_top r.2 - hp_top h) (hp_use r.2 - hp_use h)).locals ≤ (cx_room (d + 1) mc0 ms0).locals := by show 8 + (q.2.2.1 + 11) + (1000 * d + 5000) ≤ 1000 * (d + 1) + 5000; omega
  have hc := mi_plc hok hp
  have hw : Cond.code q.1 q.2.1 q.2.2.1 q.2.2.2.1 ∈ mi_ws q := by rw [mi_plw hp]; exact List.mem_cons_self
  have hrec := rl_recv hK.1 hr hk0 hk6
  rcases hcase with ⟨hlen, hsel, hlk⟩ | ⟨x, ow, hlen, how, hlk, hsame, hsel, hdecl⟩
  · rcases hlk with hlk | ⟨host, hlk⟩
    · exact vx_runV (Ts := lw_all) (C := kd_nm (hp_kd h b)) ⟨hx, hb, hml, hown, hts⟩ hM ⟨⟨rfl, rfl, hfr, hlo, mi_good hok hts, hw, hts _ hc, hts _ o2, o3, mi_len hlen, hts _ hlk⟩, hts _ hin, hts _ hsel⟩ ⟨cx_blind, hrec, cx_pre hK hr hS hB (.ref b :: As)⟩ rfl hn hsz rfl (lv_room hW) hd hf
    · exact vx_runVN (Ts := lw_all) (C := kd_nm (hp_kd h b)) ⟨hx, hb, hml, hown, hts⟩ hM ⟨⟨⟨rfl, rfl, hfr, hlo, mi_good hok hts, hw⟩, hts _ hc, hts _ o2, o3, mi_len hlen, nw_use rfl (hK.2.2.1 _ hlk rfl)⟩, hts _ hin, hts _ hsel⟩ ⟨cx_blind, hrec, cx_pre hK hr hS hB (.ref b :: As)⟩ rfl hn hsz rfl (lv_room hW) hd hf
  · have hD : va_Decl s ⟨ow, x.name, x.desc⟩ := by
      rcases hdecl with ⟨h1, b0, L0, r0, h2⟩ | h1
      · exact va_Decl.of (hts _ h1) (hts _ h2)
      · exact va_Decl.abs (hK.2.2.1 _ h1 rfl)
    have hlen' : ∀ sig, parseMethodDescriptor x.desc = some sig → n = sig.parameters.length := fun sig hs => by
      rw [hs] at hlen
      exact (Option.some.inj hlen).symm
    exact vx_runU (Ts := lw_all) (C := kd_nm (hp_kd h b)) (owner := ow) ⟨hx, hb, hml, hown, hts⟩ hM ⟨⟨rfl, rfl, hfr, hlo, mi_good hok hts, hw⟩, hts _ hc, hts _ o2, how, hlen', hts _ hlk, hts _ hsame, hD, hts _ hsel, hts _ hin⟩ ⟨cx_blind, hrec, cx_pre hK hr hS hB (.ref b :: As)⟩ rfl hn hsz rfl (lv_room hW) hd hf
end SXH
end
section
section SXI
variable {p : Program} {l : Launch} {e : Env} {R : Room} {s : State} {m : MethodId} {args : Array Value} {below : List Frame} {meth : Method} {c : Code} {H : Heap} {locs : List Loc} {cells slots : Nat} {Q : State → Prop}
variable {cc : ByteArray} {pc nL : Nat} {ls : Array Slot} {rest As : List Value} {D : va_G} {E : Env0} {h : Hp} {r : Rs × Hp} {q : MI} {own : String} {ix n d mc0 ms0 : Nat}
/-- a call through an interface: lists alone -/
def ek_cf (own : String) (ix n kd : Nat) (q : MI) : Prop := mi_ok q ∧ mi_pl q ∧ kd = 20 ∧ Cond.instanceMethod q.1 ∈ lw_all ∧
  ∃ x : MethodName, (x = y_lsize ∧ q.1 = y_asize ∨ x = y_lget ∧ q.1 = y_aget ∨ x = y_ctoA ∧ q.1 = y_atoA) ∧ (parseMethodDescriptor x.desc).map (fun d => d.parameters.length) = some n ∧ Cond.methodLink own ix x ∈ lw_all ∧ Cond.selects "java/util/ArrayList" x q.1 ∈ lw_all
theorem sx_cf (hx : p.tables.exec = Jvm.exec) (hb : c.code = cc) (hml : c.maxLocals = nL) (hown : s.vm.findClass own = some m.cls) (hts : ∀ w ∈ lw_all, w.before args s = true) (hK : kv_ok D E s s.heap) (hr : rl_H D s E.1 h H) (hS : va_S (rl_A E.1) s.heap H locs) (hB : E.1 ≤ s.heap.size) (hsz : ls.size = nL)
    {b count : Nat} (hek : ek_cf own ix n (hp_kd h b) q) (hM : cx_M l D E q d (.ref b :: As) h r) (hn : As.length = n) (hW : (rest.map fun v => v.category).sum ≤ 8) (hd : decode cc pc = .ok (.invokeinterface ix count, 5))
    (hf : cells + (hp_top r.2 - hp_top h) ≤ mc0 ∧ slots + (hp_use r.2 - hp_use h) ≤ ms0) :
    vx_Run5 p l e (cx_room (d + 1) mc0 ms0) s m args below meth c H locs cells slots (hp_top r.2 - hp_top h) (hp_use r.2 - hp_use h) (F0 m pc ls (As.reverse ++ .ref b :: rest)) rest (cx_Q D E r (Value.ref b :: As).toArray) (cx_X D E r) (rl_A E.1) := by
  obtain ⟨hok, hp, hk, hin, x, hxy, hlen, hlk, hsel⟩ := hek
  obtain ⟨o1, o2, o3, o4, o5⟩ := id hok
  have hfr : (cx_room d (hp_top r.2 - hp_top h) (hp_use r.2 - hp_use h)).frames + 1 ≤ (cx_room (d + 1) mc0 ms0).frames := by show 8 * d + 16 + 1 ≤ 8 * (d + 1) + 16; omega
  have hlo : 8 + (q.2.2.1 + 11) + (cx_room d (hp_top r.2 - hp_top h) (hp_use r.2 - hp_use h)).locals ≤ (cx_room (d + 1) mc0 ms0).locals := by show 8 + (q.2.2.1 + 11) + (1000 * d + 5000) ≤ 1000 * (d + 1) + 5000; omega
  have hc := mi_plc hok hp
  have hw : Cond.code q.1 q.2.1 q.2.2.1 q.2.2.2.1 ∈ mi_ws q := by rw [mi_plw hp]; exact List.mem_cons_self
  have hrec := rl_recv hK.1 hr (a := b) (by rw [hk]; decide) (by rw [hk]; decide)
  rw [hk] at hrec
  have hFw : va_Fw "java/util/ArrayList" x q.1 s := by
    obtain ⟨f1, f2, f3⟩ := hK.2.2.2.2.2.2.2.1
    rcases hxy with ⟨rfl, e⟩ | ⟨rfl, e⟩ | ⟨rfl, e⟩ <;> rw [e] <;> assumption
  obtain ⟨w1, w2, w3, w4, w5⟩ := hFw
  have hlen' : ∀ sig, parseMethodDescriptor x.desc = some sig → n = sig.parameters.length := fun sig hs => by
    rw [hs] at hlen
    exact (Option.some.inj hlen).symm
  have hxc : x.cls ≠ "java/lang/invoke/MethodHandle" ∧ x.cls ≠ "java/lang/invoke/VarHandle" := by rcases hxy with ⟨rfl, -⟩ | ⟨rfl, -⟩ | ⟨rfl, -⟩ <;> decide
  have hat : ClassAt s "java/util/ArrayList" (D.1 19) := (hK.1 19 _ rfl).2
  exact vx_runF (Ts := lw_all) (C := "java/util/ArrayList") hat ⟨hx, hb, hml, hown, hts⟩ hM ⟨⟨rfl, rfl, hfr, hlo, mi_good hok hts, hw⟩, hts _ hlk, va_any rfl w1, va_any rfl w2, hts _ hsel, hts _ hin, va_any rfl w3, va_any rfl w4, va_any rfl w5, hts _ o2, hts _ hc, hxc, hlen'⟩ ⟨cx_blind, hrec, cx_pre hK hr hS hB (.ref b :: As)⟩ rfl hn hsz rfl (lv_room hW) hd hf
/-- a method's end -/
def ek_rt (rt : Option FieldType) : Instr → List Nat → Prop
  | .return_, _ => rt = none
  | .ireturn, [0] => rt = some .int
  | .ireturn, [1] => rt = some .boolean
  | .lreturn, _ => rt = some .long
  | .dreturn, _ => rt = some .double
  | .areturn, _ => ∃ t, rt = some t ∧ ((∃ n, t = .object n) ∨ ∃ u, t = .array u)
  | _, _ => True
theorem cx_end (hr : rl_H D s E.1 h H) (hS : va_S (rl_A E.1) s.heap H locs) (v : Option Value) : ∀ t : State, t.heap = H → s.WarmedH t.vm → cx_Q D E (.ok v, h) args s (.returned v) t := by
  intro t ht hW
  subst ht
  exact ⟨⟨v, rfl, rfl⟩, rl_H_moved hW.alike hr, hS.F rfl⟩
theorem sx_rt (hx : p.tables.exec = Jvm.exec) (hb : c.code = cc) (hlk : meth.locks = false) {rt : Option FieldType} (hrt : meth.sig.returnType = rt) {i : Instr} {ops : List Nat} {st : List Value} {v : Option Value} (hek : ek_rt rt i ops) (hr : rl_H D s E.1 h H) (hS : va_S (rl_A E.1) s.heap H locs)
    (hh : rn_rt i ops st = some v) (hd : decode cc pc = .ok (i, 1)) {mc ms : Nat} (hc : cells ≤ mc) (hs : slots ≤ ms) : W p l e R s m args below meth c H locs cells slots (vx_MQ below (cx_Q D E (.ok v, h)) (cx_X D E (.ok v, h)) args s mc ms (rl_A E.1)) (F0 m pc ls st) := by
  refine vx_ret ?_
  refine W.widen hc hs ?_
  have he := cx_end (args := args) hr hS v
  unfold rn_rt at hh
  split at hh
  · cases hh
    exact W.vret hx hb (hrt.trans hek) he hS.2.2 hd hlk
  · cases hh
    exact W.iret hx hb (hrt.trans hek) he hS.2.2 hd hlk
  · split at hh
    · next h01 =>
      cases hh
      exact W.zret hx hb (hrt.trans hek) (by rcases h01 with rfl | rfl <;> decide) he hS.2.2 hd hlk
    · cases hh
  · cases hh
    exact W.lret hx hb (hrt.trans hek) he hS.2.2 hd hlk
  · cases hh
    exact W.dret hx hb (hrt.trans hek) he hS.2.2 hd hlk
  · cases hh
    obtain ⟨t, e1, e2⟩ := hek
    exact W.aret hx hb (hrt.trans e1) e2 (Or.inr ⟨_, rfl⟩) he hS.2.2 hd hlk
  · cases hh
    obtain ⟨t, e1, e2⟩ := hek
    exact W.aret hx hb (hrt.trans e1) e2 (Or.inl rfl) he hS.2.2 hd hlk
  · cases hh
/-- a handler: what is thrown is put away, and the run goes on behind that -/
def ek_hd (own : String) (nL : Nat) (bytes : ByteArray) (hs : List (Nat × Nat × Nat × Nat)) (pc x : Nat) (k : Nat × Nat) : Prop :=
  ∃ (pre : List (Nat × Nat × Nat × Nat)) (z : Nat × Nat × Nat × Nat) (suf : List (Nat × Nat × Nat × Nat)) (nm : String) (len : Nat), hs = pre ++ z :: suf ∧
    (∀ y ∈ pre, y.2.2.2 ≠ 0 ∧ ∃ ny : String, Cond.classLink own y.2.2.2 ny ∈ lw_all ∧ (ex_nm x, ny) ∈ ncL) ∧ z.1 ≤ pc ∧ pc < z.2.1 ∧ z.2.2.2 ≠ 0 ∧ Cond.classLink own z.2.2.2 nm ∈ lw_all ∧ Cond.castable (ex_nm x) nm ∈ lw_tbl ∧ k.2 < nL ∧ k.1 = z.2.2.1 + len ∧
    (decode bytes z.2.2.1 = .ok (.astore k.2, 2) ∧ len = 2 ∨ ∃ j : Fin 4, (j : Nat) = k.2 ∧ decode bytes z.2.2.1 = .ok (.astore_n j, 1) ∧ len = 1)
theorem lo_del_has {ls' : Array Slot} {lo : Lo} {j : Nat} {v : Value} (hl : lv_has ls' nL ((j, v) :: lo.filter (fun q => !(q.1 == j) && !(q.1 + 1 == j && q.2.category == 2)))) : lv_has ls' nL (lo_del lo j) :=
  ⟨hl.1, hl.2.1, fun q hq => hl.2.2 q (List.mem_cons_of_mem _ hq)⟩
theorem sx_catch (hx : p.tables.exec = Jvm.exec) (hb : c.code = cc) (hown : s.vm.findClass own = some m.cls) (hts : ∀ w ∈ lw_all, w.before args s = true) (hK : kv_ok D E s s.heap) {hs : List (Nat × Nat × Nat × Nat)} (htab : c.exceptionTable.toList = tableOf hs) {x : Nat} {k : Nat × Nat} (hek : ek_hd own nL cc hs pc x k) {lo : Lo} (hl : lv_has ls nL lo)
    {q0 : Nat} {ce : Cell} (hce : H[q0]? = some ce) (hv : ce.vm = .none) (hcl : s.vm.findClass (ex_nm x) = some ce.cls)
    (kk : ∀ ls' : Array Slot, lv_has ls' nL (lo_del lo k.2) → W p l e R s m args below meth c H locs cells slots Q (F0 m k.1 ls' [])) : vx_W p l e R s m args below meth c H locs cells slots Q (F0 m pc ls rest) q0 := by
  obtain ⟨pre, z, suf, nm, len, e1, e2, e3, e4, e5, e6, e7, e8, e9, e10⟩ := hek
  have hsplit : c.exceptionTable.toList = tableOf pre ++ ⟨z.1, z.2.1, z.2.2.1, z.2.2.2⟩ :: tableOf suf := by
    rw [htab, e1]
    simp [tableOf]
  refine vx_catch (name := nm) hown (tableOf pre) ⟨z.1, z.2.1, z.2.2.1, z.2.2.2⟩ (tableOf suf) hsplit (fun y hy => ?_) ?_ e5 (hts _ e6) (nw_use rfl (hK.2.2.1 _ e7 rfl)) hce hv hcl ?_
  · obtain ⟨y', hy', rfl⟩ := List.mem_map.mp hy
    obtain ⟨g1, ny, g2, g3⟩ := e2 y' hy'
    exact Or.inr ⟨g1, ny, hts _ g2, hK.2.2.2.2.2.1 _ g3⟩
  · simp [covers, e3, e4]
  · show W p l e R s m args below meth c H locs cells slots Q (F0 m z.2.2.1 ls [.ref q0])
    rcases e10 with ⟨g1, g2⟩ | ⟨j, g0, g1, g2⟩
    · subst g2
      exact lv_astore hx hb g1 hl e8 rfl (fun ls' hl' => by rw [← e9]; exact kk ls' (lo_del_has hl'))
    · subst g2
      exact lv_astore_n hx hb g1 g0 hl e8 rfl (fun ls' hl' => by rw [← e9]; exact kk ls' (lo_del_has hl'))
end SXI
end
section
/-! what is thrown: vx_throw0 with the heap's size said exactly (its text turned) -/
section SXJ
variable {p : Program} {l : Launch} {e : Env} {R : Room} {s : State} {m : MethodId} {args : Array Value} {below : List Frame} {meth : Method} {c : Code} {H : Heap} {locs : List Loc} {cells slots : Nat} {Q : State → Prop}
variable {mc ms : Nat} {free : Addr → Prop} {A0 A1 : Nat → Prop} {H0 : Heap} {a : Array Value} {ls : Array Slot} {st0 rest : List Value}
variable {Qc : Array Value → State → Outcome → State → Prop} {XC : String → State → State → Prop}
theorem sx_throw0 {cc : ByteArray} {pc : Nat} (hexec : p.tables.exec = Jvm.exec) (hb : c.code = cc) (hl : l.stackTraces = false) {own cls : String} {names : List String} {ik ic mc ms : Nat} {A : Nat → Prop}
    (hown : s.vm.findClass own = some m.cls) (hcls : Bundle.fit cls = true) (hnames : ∀ n ∈ names, Bundle.fit n = true)
    (hk : (Cond.classLink own ik cls).before args s = true) (hini : (Cond.initialized cls).before args s = true) (hat : ∀ w ∈ vx_at0 own ic cls names, w.before args s = true)
    (hgood : ∀ w ∈ Cond.classLink own ik cls :: Cond.initialized cls :: vx_at0 own ic cls names, vx_ot w = true)
    (hU : vx_Zq Bundle.tN "UNASSIGNED_STACK" Bundle.steD A s s.heap) (hN : vx_Zq Bundle.tN "SUPPRESSED_SENTINEL" Bundle.listD A s s.heap) (hS : va_S A s.heap H locs) (hsize : ls.size = c.maxLocals)
    (d0 : decode cc pc = .ok (.new ik, 3)) (d3 : decode cc (pc + 3) = .ok (.dup, 1)) (d4 : decode cc (pc + 4) = .ok (.invokespecial ic, 3)) (d7 : decode cc (pc + 7) = .ok (.athrow, 1))
    (hout : ∀ x ∈ c.exceptionTable.toList, covers x (pc + 7) = false)
    (hRframes : names.length + 3 < R.frames) (hRlocals : (rest.map fun v => v.category).sum + (13 * (names.length + 1) + 42) ≤ R.locals) (hRcells : cells + 1 ≤ R.cells) (hRslots : slots + 6 ≤ R.slots) (hlocks : meth.locks = false)
    (hx : ∀ t : State, s.vm.Alike t.vm → t.heap.size = H.size + 1 → (∀ q : Nat, q < H.size → t.heap[q]? = H[q]?) → XC cls s t)
    (hf : ∀ z ∈ locs, free z.base) (hc : cells + 1 ≤ mc) (hs : slots + 6 ≤ ms) :
    W p l e R s m args below meth c H locs cells slots (vx_MQ below Qc XC args s mc ms free) (F0 m pc ls rest) := by
  intro T hT X
  have htr : e.platform.stackTraces = false := (show e.platform.stackTraces = l.stackTraces by rw [X.admits.platform]).trans hl
  have Y := vx_rebase X (R' := { frames := R.frames, locals := R.locals, cells := 1, slots := 6 }) (Nat.le_refl _) (Nat.le_refl _) hRcells hRslots
  obtain ⟨s', hA⟩ : ∃ z, z = (T.setVm s.vm).setFrames (.invoking m args :: below) := ⟨_, rfl⟩
  rw [← hA] at Y
  have hvm : s'.vm = s.vm := by rw [hA]; rfl
  have hhp : s'.heap = H := by rw [hA]; exact hT
  have hW0 : s.WarmedH s'.vm := by rw [hvm]; exact State.WarmedH.refl s
  have hat' : ∀ w ∈ vx_at0 own ic cls names, w.before args s' = true := fun w hw => vx_ot_at hW0 hvm.symm (hgood w (List.mem_cons_of_mem _ (List.mem_cons_of_mem _ hw))) (hat w hw)
  have hk' : (Cond.classLink own ik cls).before args s' = true := vx_ot_at hW0 hvm.symm (hgood _ List.mem_cons_self) hk
  have hini' : (Cond.initialized cls).before args s' = true := vx_ot_at hW0 hvm.symm (hgood _ (List.mem_cons_of_mem _ List.mem_cons_self)) hini
  have hU' : vx_Zq Bundle.tN "UNASSIGNED_STACK" Bundle.steD A s' s'.heap := by rw [hhp]; exact vx_Zq.moved hW0.alike (hU.kept hS.2.1)
  have hN' : vx_Zq Bundle.tN "SUPPRESSED_SENTINEL" Bundle.listD A s' s'.heap := by rw [hhp]; exact vx_Zq.moved hW0.alike (hN.kept hS.2.1)
  have h : ∀ w ∈ Bundle.ownAtoms0 own ic cls names, w.before args s' = true := vx_own hat' (vx_isRefq hU'.1) (vx_isRefq hN'.1) hU'.2.word hN'.2.word
  have hown' : s'.vm.findClass own = some m.cls := by rw [hvm]; exact hown
  have hins : (Cond.instantiable cls 6).before args s' = true := h _ (by simp [Bundle.ownAtoms0])
  obtain ⟨vm₁, cX, kX, hfX, hkX, -, -, X₁, st1⟩ := Y.newCold hexec (own := own) (C := cls) (index := ik) (n := 6) hown' hk' hins hini'
    (g := F0 m pc ls rest) rfl (by rw [hb]; exact d0) (Nat.le_refl _) (Nat.le_refl _)
  generalize hT1 : (T.setVm vm₁).pushCell { cls := cX, slots := kX.instanceTypes.map defaultValue, vm := .none } = T1 at X₁ st1
  have hcat : (Value.ref T.heap.size).category = 1 := rfl
  have hcellA : T1.heap[T.heap.size]? = some (freshCell cX kX) := by rw [← hT1]; exact State.heap_pushCell_size _ _
  have d3' : decode c.code (pc + 3) = .ok (.dup, 1) := by rw [hb]; exact d3
  obtain ⟨U, hsteps, hrun, hend, hW, hsame, ce, hce, hO⟩ := X₁.ctorThrow0 hexec htr (own := own) (cls := cls) (names := names) (ic := ic) hown' hcls hnames h (fun x hx => nomatch hx) hfX hkX hcellA (by rw [hhp, hT]; exact Nat.le_refl _)
    (g := { method := m, pc := pc + 4, locals := ls, stack := .ref T.heap.size :: .ref T.heap.size :: rest, locked := none }) rfl hsize rfl rfl (rest := rest) rfl
    (by rw [hb]; exact d4) (by rw [hb]; exact d7) hout hRframes (by simp only [List.map_cons, List.sum_cons, hcat]; omega) hlocks
  obtain ⟨f1, f2⟩ := vx_frame hsame
  rw [hhp] at f1 f2
  have hWs : s.WarmedH U.vm := State.WarmedH.trans hW0 hW
  have fsz : U.heap.size = H.size + 1 := by
    have g1 : U.heap.size ≤ s'.heap.size + (0 + 1) := hsame.2.2.1
    have g2 : T.heap.size < U.heap.size := (Array.getElem?_eq_some_iff.mp hce).1
    rw [hhp] at g1
    rw [hT] at g2
    omega
  have hcl : s.vm.findClass cls = some ce.cls := by
    have h9 := hO.cls
    rw [hvm] at h9
    exact h9
  have hall : s.sameButNew ({ U with vm := s.vm } : State) locs mc ms := by
    subst hA
    obtain ⟨e1, e2⟩ := hsame
    rw [State.setFrames_setFrames] at e1
    have h2 : (T.setVm s.vm).sameButNew ({ U with vm := s.vm } : State) [] (0 + 1) (0 + 6) := ⟨e1, e2⟩
    have h3 := X.same.trans h2
    rw [List.append_nil] at h3
    exact h3.mono hc hs
  refine ⟨U, ?_, .threw T.heap.size, hrun, hend, Or.inr ⟨T.heap.size, rfl, cls, ce, locs, hx U hWs.alike fsz (fun q hq => f2 q hq (fun z hz => nomatch hz)), hce, hO.vm, hcl, hWs, hall, hf⟩⟩
  refine st1 _ ?_
  show Steps p.tables e below (T1.setTop { method := m, pc := pc + 3, locals := ls, stack := .ref T.heap.size :: rest, locked := none }) _
  jvm_step X₁.here [X₁.here.top, hexec, d3', Value.category]
  exact hsteps
end SXJ

/-- new; dup; <init>; athrow -/
def ek_thr (own : String) (bytes : ByteArray) (pc x : Nat) : Prop := ∃ (ik ic : Nat) (names : List String), Bundle.fit (ex_nm x) = true ∧ (∀ n ∈ names, Bundle.fit n = true) ∧ names.length ≤ 5 ∧ Cond.classLink own ik (ex_nm x) ∈ lw_all ∧ Cond.initialized (ex_nm x) ∈ lw_all ∧
  (∀ w ∈ vx_at0 own ic (ex_nm x) names, w ∈ lw_all ∨ w ∈ lw_tbl ∧ nw_k w = true) ∧ (∀ w ∈ Cond.classLink own ik (ex_nm x) :: Cond.initialized (ex_nm x) :: vx_at0 own ic (ex_nm x) names, vx_ot w = true) ∧
  decode bytes pc = .ok (.new ik, 3) ∧ decode bytes (pc + 3) = .ok (.dup, 1) ∧ decode bytes (pc + 4) = .ok (.invokespecial ic, 3) ∧ decode bytes (pc + 7) = .ok (.athrow, 1)
section SXK
variable {p : Program} {l : Launch} {e : Env} {s : State} {m : MethodId} {args : Array Value} {below : List Frame} {meth : Method} {c : Code} {H : Heap} {locs : List Loc} {cells slots : Nat}
variable {cc : ByteArray} {pc : Nat} {ls : Array Slot} {rest : List Value} {D : va_G} {E : Env0} {h : Hp} {own : String} {d mc ms : Nat}
theorem sx_thr (hx : p.tables.exec = Jvm.exec) (hb : c.code = cc) (hl : l.stackTraces = false) (hown : s.vm.findClass own = some m.cls) (hts : ∀ w ∈ lw_all, w.before args s = true) (hK : kv_ok D E s s.heap) (hlk : meth.locks = false) (htab : ∀ x ∈ c.exceptionTable.toList, False) {x : Nat} (hek : ek_thr own cc pc x)
    (hr : rl_H D s E.1 h H) (hS : va_S (rl_A E.1) s.heap H locs) (hsz : ls.size = c.maxLocals) (hW : (rest.map fun v => v.category).sum ≤ 8) (hc : cells + 1 ≤ mc) (hs : slots + 6 ≤ ms) :
    W p l e (cx_room d mc ms) s m args below meth c H locs cells slots (vx_MQ below (cx_Q D E (.error x, hp_skip h 1 6)) (cx_X D E (.error x, hp_skip h 1 6)) args s mc ms (rl_A E.1)) (F0 m pc ls rest) := by
  obtain ⟨ik, ic, names, g1, g2, g3, g4, g5, g6, g7, g8, g9, g10, g11⟩ := hek
  refine sx_throw0 (A := rl_A E.1) hx hb hl hown g1 g2 (hts _ g4) (hts _ g5) (fun w hw => ?_) g7 hK.2.2.2.2.2.2.2.2.1.1 hK.2.2.2.2.2.2.2.2.1.2 hS hsz g8 g9 g10 g11 (fun x hx => (htab x hx).elim) ?_ ?_ hc hs hlk (fun t hA hz hq => ?_) hS.2.2 hc hs
  · rcases g6 w hw with z | ⟨z1, z2⟩
    · exact hts _ z
    · exact nw_use z2 (hK.2.2.1 w z1 z2)
  · show names.length + 3 < 8 * d + 16
    omega
  · show _ + _ ≤ 1000 * d + 5000
    omega
  · refine ⟨⟨x, rfl, rfl⟩, rl_H_moved hA (rl_skip hr (by rw [hz, hr.1]) (fun q hq' => hq q (by rw [hr.1]; exact hq'))), ?_, fun q z1 z2 => ?_⟩
    · rw [hz]; exact Nat.le_trans hS.1 (Nat.le_succ _)
    · rw [hq q (Nat.lt_of_lt_of_le z1 hS.1)]
      exact hS.2.1 q z1 z2
end SXK
end
section
/-! multianewarray of two dimensions -/
section MUL
variable {p : Program} {l : Launch} {e : Env} {R : Room} {s : State} {m : MethodId} {args : Array Value} {below : List Frame} {meth : Method} {c : Code}
def ml_in (comp : ClassId) (t : FieldType) (len : Nat) : Cell := { cls := comp, slots := Array.replicate len (defaultValue t), vm := .none }
theorem mk1_wp {comp comp2 : Nat} {kc : Class} {t : FieldType} {cnt : Int32} {U : State} {Q : Addr → Pre} {Ec : CtlPost} {d : Bool} {acts : List Action} (hkc : U.vm.classes[comp]? = some kc) (hkind : kc.kind = .array comp2 t) (hn : ¬ cnt < 0) (hl1 : ¬ cnt.toNatClampNeg > e.platform.arrayLengthLimit) (hl2 : ¬ cnt.toNatClampNeg * componentBytes t > e.platform.maxHeapBytes)
    (hcells : U.heap.size < e.platform.maxCells) (hslots : U.slotsUsed + cnt.toNatClampNeg ≤ e.platform.maxSlots) (hfd : fits t (defaultValue t) = true) (hq : ∀ acts', Q U.heap.size d acts' (U.pushCell (ml_in comp t cnt.toNatClampNeg))) : wp (Op.multianewarray.make comp [cnt]) Q Ec e d acts U := by
  unfold Op.multianewarray.make
  simp only [wp_bind', W.ite, hn, if_false, wp_pure', W.theClass, hkc, Option.some.injEq, exists_eq_left', hkind]
  exact W.newArray_of (k := kc) hkc hkind hl1 hl2 hcells hslots hfd hq
theorem mul_loop {a comp comp2 : Nat} {kc : Class} {t : FieldType} {cnt : Int32} (hkc : s.vm.classes[comp]? = some kc) (hkind : kc.kind = .array comp2 t) {kA : Class} {cA compA : ClassId} {tA : FieldType} (hkA : s.vm.classes[cA]? = some kA) (hkindA : kA.kind = .array compA tA) (hrefA : ∀ x, fits tA (.ref x) = true) (hn : ¬ cnt < 0) (hb : cnt.toNatClampNeg ≤ 1000) (hcb : componentBytes t ≤ 8) (hfd : fits t (defaultValue t) = true) :
    ∀ (k i : Nat) (U : State) (locs : List Loc) (cells slots : Nat) (cell : Cell), Stand p l e R s m args below meth c U locs cells slots → U.heap[a]? = some cell → cell.vm = .none → cell.cls = cA → i + k ≤ cell.slots.size → cells + k ≤ R.cells → slots + k * cnt.toNatClampNeg ≤ R.slots →
    ∃ (U' : State) (locs' : List Loc) (cell' : Cell), Stand p l e R s m args below meth c U' locs' (cells + k) (slots + k * cnt.toNatClampNeg) ∧ U'.heap[a]? = some cell' ∧ cell'.vm = .none ∧ cell'.cls = cA ∧ cell'.slots.size = cell.slots.size ∧
      (∀ j, cell'.slots[j]? = if i ≤ j ∧ j < i + k then some (.ref (U.heap.size + (j - i))) else cell.slots[j]?) ∧ U'.heap.size = U.heap.size + k ∧ (∀ q, q < U.heap.size → q ≠ a → U'.heap[q]? = U.heap[q]?) ∧
      (∀ q, U.heap.size ≤ q → q < U.heap.size + k → U'.heap[q]? = some (ml_in comp t cnt.toNatClampNeg)) ∧ (∀ z ∈ locs', z ∈ locs ∨ z.base = a) ∧
      ∀ (f : Nat → PUnit → Sem (ForInStep PUnit)), (∀ i u, f i u = (do let x ← Op.multianewarray.make comp [cnt]; Jvm.writeLoc a i (.ref x); Pure.pure (ForInStep.yield PUnit.unit))) →
        ∀ (Q : PUnit → Pre) (Ec : CtlPost) (d : Bool) (acts : List Action) (g : JFrame), (∀ d' acts', Q PUnit.unit d' acts' (U'.setTop g)) → wp (forIn (List.range' i k) PUnit.unit f) Q Ec e d acts (U.setTop g) := by
  intro k
  induction k with
  | zero =>
    intro i U locs cells slots cell X h1 h2 h3 h4 h5 h6
    refine ⟨U, locs, cell, by simpa using X, h1, h2, h3, rfl, fun j => ?_, rfl, fun _ _ _ => rfl, fun q z1 z2 => by omega, fun z hz => Or.inl hz, fun f hf Q Ec d acts g hq => ?_⟩
    · rw [if_neg (by omega)]
    · simp only [List.range'_zero, List.forIn_nil, wp_pure']
      exact hq d acts
  | succ k ih =>
    intro i U locs cells slots cell X h1 h2 h3 h4 h5 h6
    have hmul : (k + 1) * cnt.toNatClampNeg = cnt.toNatClampNeg + k * cnt.toNatClampNeg := by rw [Nat.add_mul]; omega
    have hlt : a < U.heap.size := (Array.getElem?_eq_some_iff.mp h1).1
    have X1 := X.pushed (ml_in comp t cnt.toNatClampNeg)
    have hsz1 : (ml_in comp t cnt.toNatClampNeg).slots.size = cnt.toNatClampNeg := by simp [ml_in]
    rw [hsz1] at X1
    have g1 : (U.pushCell (ml_in comp t cnt.toNatClampNeg)).heap[a]? = some cell := by
      show (U.heap.push _)[a]? = _
      rw [Array.getElem?_push, if_neg (Nat.ne_of_lt hlt)]
      exact h1
    have X2 := X1.stored g1 i (.ref U.heap.size)
    obtain ⟨r1, r2⟩ := X.roomAbove (a := 1) (b := cnt.toNatClampNeg) (by omega) (by omega)
    have hV := X.warmed.alike
    obtain ⟨kc', hkc', ekc⟩ := hV.2.2 _ _ hkc
    obtain ⟨kA', hkA', ekA⟩ := hV.2.2 _ _ hkA
    have hl1 : ¬ cnt.toNatClampNeg > e.platform.arrayLengthLimit := by rw [Launch.admits_arrayLengthLimit X.admits]; omega
    have hl2 : ¬ cnt.toNatClampNeg * componentBytes t > e.platform.maxHeapBytes := by
      rw [Launch.admits_maxHeapBytes X.admits]
      have : cnt.toNatClampNeg * componentBytes t ≤ 1000 * 8 := Nat.mul_le_mul hb hcb
      omega
    have hilt : i < cell.slots.size := by omega
    have z1 : ((U.pushCell (ml_in comp t cnt.toNatClampNeg)).setCell a (cell.setSlot i (.ref U.heap.size))).heap[a]? = some (cell.setSlot i (.ref U.heap.size)) := by
      show ((U.heap.push _).setIfInBounds a _)[a]? = _
      simp [Nat.lt_succ_of_lt hlt]
    have zs : ((U.pushCell (ml_in comp t cnt.toNatClampNeg)).setCell a (cell.setSlot i (.ref U.heap.size))).heap.size = U.heap.size + 1 := by
      show ((U.heap.push _).setIfInBounds a _).size = _
      simp
    have zo : ∀ q, q ≠ a → ((U.pushCell (ml_in comp t cnt.toNatClampNeg)).setCell a (cell.setSlot i (.ref U.heap.size))).heap[q]? = (U.heap.push (ml_in comp t cnt.toNatClampNeg))[q]? := fun q hq => by
      show ((U.heap.push _).setIfInBounds a _)[q]? = _
      simp [Array.getElem?_setIfInBounds, Ne.symm hq]
    obtain ⟨U', locs', cell', i1, i2, i3, i4, i5, i6, i7, i8, i9, i10, i11⟩ := ih (i + 1) _ _ _ _ _ X2 z1 h2 h3 (by simp [Cell.setSlot]; omega) (by omega) (by omega)
    refine ⟨U', locs', cell', by rw [hmul, Nat.add_comm k 1, ← Nat.add_assoc, ← Nat.add_assoc]; exact i1, i2, i3, i4, by rw [i5]; simp [Cell.setSlot], fun j => ?_, by rw [i7, zs]; omega, fun q w1 w2 => ?_, fun q w1 w2 => ?_, fun z hz => ?_, fun f hf Q Ec d acts g hq => ?_⟩
    · rw [i6 j, zs]
      by_cases hj : j = i
      · subst hj
        rw [if_neg (by omega), if_pos (by omega)]
        simp [Cell.setSlot, hilt]
      · by_cases hj2 : i + 1 ≤ j ∧ j < i + 1 + k
        · rw [if_pos hj2, if_pos (by omega)]
          rw [show U.heap.size + 1 + (j - (i + 1)) = U.heap.size + (j - i) by omega]
        · rw [if_neg hj2, if_neg (by omega)]
          simp only [Cell.setSlot]
          rw [Array.getElem?_setIfInBounds_ne (fun z => hj z.symm)]
    · rw [i8 q (by rw [zs]; omega) w2, zo q w2, Array.getElem?_push, if_neg (by omega)]
    · by_cases hq0 : q = U.heap.size
      · subst hq0
        rw [i8 _ (by rw [zs]; omega) (by omega), zo _ (by omega), Array.getElem?_push, if_pos rfl]
      · exact i9 q (by rw [zs]; omega) (by rw [zs]; omega)
    · rcases i10 z hz with w | w
      · rcases List.mem_append.mp w with w | w
        · exact Or.inl w
        · rw [List.mem_singleton.mp w]; exact Or.inr rfl
      · exact Or.inr w
    · rw [List.range'_succ]
      simp only [List.forIn_cons, hf, wp_bind']
      refine mk1_wp (kc := kc') (comp2 := comp2) (t := t) hkc' (by rw [ekc]; exact hkind) hn hl1 hl2 (by show U.heap.size < _; omega) (by show U.slotsUsed + _ ≤ _; exact r2) hfd fun acts' => ?_
      simp only [wp_bind', W.writeLoc, wp_pure']
      refine ⟨cell, g1, (by rw [h2]; exact fun z => nomatch z), hilt, ?_, ?_⟩
      · have hkk : kA'.kind = .array compA tA := by rw [ekA]; exact hkindA
        show State.fitsSlot U cell.cls cell.vm i (.ref U.heap.size) = true
        simp only [State.fitsSlot, State.slotType?, h2, h3, hkA', Option.bind_eq_bind, Option.bind_some, hkk]
        exact hrefA _
      · exact i11 f hf Q Ec _ _ g hq
theorem mul_step {T : State} {locs : List Loc} {cells slots : Nat} (X : Stand p l e R s m args below meth c T locs cells slots) (hexec : p.tables.exec = Jvm.exec) {own : String} {index : Nat} {t : FieldType} (hown : s.vm.findClass own = some m.cls) (hclink : (Cond.classLink own index ("[" ++ (FieldType.array t).toString)).before args s = true) (hml : ml_ok t s)
    {g : JFrame} (hg : g.method = m) (hdg : decode c.code g.pc = .ok (.multianewarray index 2, 4)) {n cnt : Int32} {rest : List Value} (hstack : g.stack = .int cnt :: .int n :: rest) (hn0 : ¬ n < 0) (hn1 : n.toNatClampNeg ≤ 1000) (hn : ¬ cnt < 0) (hb : cnt.toNatClampNeg ≤ 1000) (hcb : componentBytes t ≤ 8) (hfd : fits t (defaultValue t) = true)
    (hcells : cells + (1 + n.toNatClampNeg) ≤ R.cells) (hslots : slots + (n.toNatClampNeg + n.toNatClampNeg * cnt.toNatClampNeg) ≤ R.slots) :
    ∃ (U' : State) (locs' : List Loc) (comp cA : ClassId) (cell' : Cell), s.vm.findClass (FieldType.array t).toString = some comp ∧ s.vm.findClass ("[" ++ (FieldType.array t).toString) = some cA ∧ Stand p l e R s m args below meth c U' locs' (cells + (1 + n.toNatClampNeg)) (slots + (n.toNatClampNeg + n.toNatClampNeg * cnt.toNatClampNeg)) ∧
      U'.heap[T.heap.size]? = some cell' ∧ cell'.vm = .none ∧ cell'.cls = cA ∧ cell'.slots.size = n.toNatClampNeg ∧ (∀ j, j < n.toNatClampNeg → cell'.slots[j]? = some (.ref (T.heap.size + 1 + j))) ∧ U'.heap.size = T.heap.size + 1 + n.toNatClampNeg ∧ (∀ q, q < T.heap.size → U'.heap[q]? = T.heap[q]?) ∧
      (∀ q, T.heap.size < q → q ≤ T.heap.size + n.toNatClampNeg → U'.heap[q]? = some (ml_in comp t cnt.toNatClampNeg)) ∧ (∀ z ∈ locs', z ∈ locs ∨ z.base = T.heap.size) ∧
      ∀ target, Steps p.tables e below (U'.setTop { g with pc := g.pc + 4, stack := .ref T.heap.size :: rest }) target → Steps p.tables e below (T.setTop g) target := by
  subst hg
  have hpl : e.platform.magicAccessors = ({} : Platform).magicAccessors := by rw [X.admits.platform]
  obtain ⟨comp, cA, kA, kc, comp2, m1, m2, m3, m4, m5, m6⟩ := hml
  obtain ⟨cc', hfcc, hcl⟩ := Cond.classLink_spec hown hclink e.platform hpl
  cases m2.symm.trans hfcc
  obtain ⟨hg₁, hwarm₁, hready₁⟩ := State.classEntry (e := e) X.warmed hcl
  generalize T.vm.noted g.method.cls index (.cls cA) = vm₁ at hg₁ hwarm₁ hready₁
  have hal : s.vm.Alike vm₁ := hwarm₁.alike
  obtain ⟨kA₁, hkA₁, heA⟩ := hal.2.2 _ _ m3
  have hkindA₁ : kA₁.kind = .array comp (.array t) := by rw [heA]; exact m4
  have X₁ := X.noted hwarm₁
  have X₂ := X₁.pushed { cls := cA, slots := Array.replicate n.toNatClampNeg .null, vm := .none }
  have hsz2 : ({ cls := cA, slots := Array.replicate n.toNatClampNeg .null, vm := .none } : Cell).slots.size = n.toNatClampNeg := by simp
  rw [hsz2] at X₂
  have hc2 : ((T.setVm vm₁).pushCell { cls := cA, slots := Array.replicate n.toNatClampNeg .null, vm := .none }).heap[T.heap.size]? = some { cls := cA, slots := Array.replicate n.toNatClampNeg .null, vm := .none } := by
    show (T.heap.push _)[T.heap.size]? = _
    exact Array.getElem?_push_size
  have hs2 : ((T.setVm vm₁).pushCell { cls := cA, slots := Array.replicate n.toNatClampNeg .null, vm := .none }).heap.size = T.heap.size + 1 := by
    show (T.heap.push _).size = _
    simp
  obtain ⟨r1, r2⟩ := X.roomAbove (a := 1 + n.toNatClampNeg) (b := n.toNatClampNeg + n.toNatClampNeg * cnt.toNatClampNeg) hcells hslots
  obtain ⟨U', locs', cell', i1, i2, i3, i4, i5, i6, i7, i8, i9, i10, i11⟩ := mul_loop (a := T.heap.size) m5 m6 m3 m4 (fun _ => rfl) hn hb hcb hfd n.toNatClampNeg 0 _ _ _ _ _ X₂ hc2 rfl rfl (by simp) (by omega) (by omega)
  refine ⟨U', locs', comp, cA, cell', m1, m2, by rw [← Nat.add_assoc, ← Nat.add_assoc]; exact i1, i2, i3, i4, by rw [i5]; simp, fun j hj => ?_, by rw [i7, hs2], fun q hq => ?_, fun q h1 h2 => i9 q (by rw [hs2]; omega) (by rw [hs2]; omega), i10, fun target hrest => ?_⟩
  · rw [i6 j, if_pos (by omega), hs2]
    simp
  · rw [i8 q (by rw [hs2]; omega) (by omega)]
    show (T.heap.push _)[q]? = _
    rw [Array.getElem?_push, if_neg (by omega)]
  · have hlim : ¬ n.toNatClampNeg > e.platform.arrayLengthLimit := by rw [Launch.admits_arrayLengthLimit X.admits]; omega
    have hhp : ¬ n.toNatClampNeg * componentBytes (.array t) > e.platform.maxHeapBytes := by
      rw [Launch.admits_maxHeapBytes X.admits]; show ¬ n.toNatClampNeg * 4 > 536870912; omega
    refine Steps.instr (c := c) (by simpa using X.here) ?_
    rw [hdg]
    dsimp only
    rw [hexec]
    show wp (Op.multianewarray.sem index 2) _ _ e false [] (T.setTop g)
    unfold Op.multianewarray.sem
    simp only [wp_bind']
    refine (W.resolveClassAt_transfer (s := T.setTop g) (State.method?_setTop g X.here.top) hg₁ hready₁ (by no_record)).mpr ?_
    refine (W.resolveClassAt_ready (s := (T.setVm vm₁).setTop g) (State.method?_setTop g X.here.top) hready₁).mpr ?_
    simp only [Jvm.popN, wp_bind', W.pop, State.topJava?_setTop' g X₁.here.top, Option.some.injEq, exists_eq_left', hstack, List.cons.injEq, exists_cons_eq, State.setTop_setTop, wp_pure', List.nil_append, List.cons_append, List.mapM_cons, List.mapM_nil]
    refine ⟨_, State.topJava?_setTop' _ X₁.here.top, .int n, rest, rfl, ?_⟩
    simp only [wp_bind', wp_pure', State.setTop_setTop]
    unfold Op.multianewarray.make
    simp only [wp_bind', W.ite, hn0, if_false, wp_pure', W.theClass, State.vm_setTop, State.vm_setVm, hkA₁, Option.some.injEq, exists_eq_left', hkindA₁]
    refine W.newArray_of (s := (T.setVm vm₁).setTop _) (k := kA₁) hkA₁ hkindA₁ hlim hhp (by show T.heap.size < _; omega) (by show T.slotsUsed + _ ≤ _; omega) rfl fun acts' => ?_
    have hfnd : List.find? (fun x : Int32 => decide (x < 0)) [cnt] = none := by simp [hn]
    rw [hfnd]
    dsimp only
    rw [ite_self]
    simp only [wp_bind', Std.Legacy.Range.forIn_eq_forIn_range', Std.Legacy.Range.size, Nat.sub_zero, Nat.add_sub_cancel, Nat.div_one]
    refine i11 _ (fun i u => rfl) _ _ _ _ _ (fun d' acts'' => ?_)
    simp only [wp_pure', W.mark, wp_bind', W.pushRef]
    refine ⟨_, State.topJava?_setTop' _ i1.here.top, fun acts3 => ?_⟩
    rw [State.setTop_setTop, afterInstr_ok]
    exact hrest
variable {H : Heap} {locs : List Loc} {cells slots : Nat} {Q : State → Prop}
variable {cc : ByteArray} {pc : Nat} {ls : Array Slot} {rest : List Value} {D : va_G} {E : Env0} {h : Hp}
def ek_mu (own : String) (ix dm k1 k2 : Nat) : Prop := dm = 2 ∧ (k1 = kII ∧ k2 = kI ∨ k1 = kZZ ∧ k2 = kZ) ∧ Cond.classLink own ix (ar_nm k1) ∈ lw_all
theorem sx_mul (hx : p.tables.exec = Jvm.exec) (hb : c.code = cc) {own : String} (hown : s.vm.findClass own = some m.cls) (hts : ∀ w ∈ lw_all, w.before args s = true) (hM : kv_mul s) (hr : rl_H D s E.1 h H) (hS0 : va_S (rl_A E.1) s.heap H locs) (hB : E.1 ≤ s.heap.size)
    {ix dm k1 k2 : Nat} {n cnt : Int32} (hk : ek_mu own ix dm k1 k2) (hn0 : ¬ n < 0) (hn1 : n.toNatClampNeg ≤ 1000) (hn : ¬ cnt < 0) (hb1 : cnt.toNatClampNeg ≤ 1000) (hc : cells + (1 + n.toNatClampNeg) ≤ R.cells) (hs : slots + (n.toNatClampNeg + n.toNatClampNeg * cnt.toNatClampNeg) ≤ R.slots) (hd : decode cc pc = .ok (.multianewarray ix dm, 4))
    (kk : ∀ (H1 : Heap) (locs1 : List Loc), rl_H D s E.1 (hp_mul h k1 k2 n.toNatClampNeg cnt.toNatClampNeg (.int 0)) H1 → va_S (rl_A E.1) s.heap H1 locs1 → W p l e R s m args below meth c H1 locs1 (cells + (1 + n.toNatClampNeg)) (slots + (n.toNatClampNeg + n.toNatClampNeg * cnt.toNatClampNeg)) Q (F0 m (pc + 4) ls (.ref (hp_top h) :: rest))) : W p l e R s m args below meth c H locs cells slots Q (F0 m pc ls (.int cnt :: .int n :: rest)) := by
  obtain ⟨rfl, hkk, hcl⟩ := hk
  obtain ⟨t, ht1, ht2, ht3, ht4, ht5⟩ : ∃ t : FieldType, ml_ok t s ∧ ar_nm k1 = "[" ++ (FieldType.array t).toString ∧ ar_ty k2 = t ∧ ar_ty k1 = .array t ∧ (componentBytes t ≤ 8 ∧ fits t (defaultValue t) = true ∧ defaultValue t = .int 0 ∧ ar_co k1 = (FieldType.array t).toString ∧ ar_nm k2 = (FieldType.array t).toString) := by
    rcases hkk with ⟨rfl, rfl⟩ | ⟨rfl, rfl⟩
    · exact ⟨.int, hM.1, by decide +kernel, rfl, rfl, by decide, by decide, rfl, by decide +kernel, by decide +kernel⟩
    · exact ⟨.boolean, hM.2, by decide +kernel, rfl, rfl, by decide, by decide, rfl, by decide +kernel, by decide +kernel⟩
  obtain ⟨q1, q2, q3, q4, q5⟩ := ht5
  rw [ht2] at hcl
  have hk1 : 106 < k1 := by rcases hkk with ⟨rfl, -⟩ | ⟨rfl, -⟩ <;> decide
  have hk2 : 100 < k2 ∧ k2 < 103 := by rcases hkk with ⟨-, rfl⟩ | ⟨-, rfl⟩ <;> decide
  have hml := ht1
  intro T hT X
  subst hb
  obtain ⟨U', locs', comp, cA, cell', m1, m2, i1, i2, i3, i4, i5, i6, i7, i8, i9, i10, i11⟩ := mul_step X hx (t := t) hown (hts _ hcl) ht1 (g := F0 m pc ls (.int cnt :: .int n :: rest)) rfl hd rfl hn0 hn1 hn hb1 q1 q2 hc hs
  obtain ⟨comp', cA', kA, kc, comp2, w1, w2, w3, w4, w5, w6⟩ := hml
  cases m1.symm.trans w1
  cases m2.symm.trans w2
  have htop : T.heap.size = hp_top h := by rw [hT]; exact hr.1
  have hBt : E.1 ≤ hp_top h := Nat.le_trans hB (by rw [← hr.1]; exact hS0.1)
  have hR : rl_H D s E.1 (hp_mul h k1 k2 n.toNatClampNeg cnt.toNatClampNeg (.int 0)) U'.heap := by
    refine ⟨by rw [i7, htop]; rfl, fun b hb0 => ?_⟩
    by_cases hb1 : b = hp_top h
    · subst hb1
      have e1 : hp_kd (hp_mul h k1 k2 n.toNatClampNeg cnt.toNatClampNeg (.int 0)) (hp_top h) = k1 := if_pos rfl
      have e2 : hp_ln (hp_mul h k1 k2 n.toNatClampNeg cnt.toNatClampNeg (.int 0)) (hp_top h) = n.toNatClampNeg := if_pos rfl
      refine ⟨cell', by rw [← htop]; exact i2, by rw [i3]; rfl, (by rw [i3]; exact fun z => nomatch z), fun _ => i3, ?_, fun x hx => ?_⟩
      · rw [e1, e2]
        refine ⟨fun z => by omega, fun _ z => by omega, fun _ z => by omega, fun _ => ⟨i5, ⟨fun z => (by rw [i3]; exact fun y => nomatch y), kA, by rw [i4]; exact w3, comp, by rw [ht4]; exact w4⟩, fun _ => by rw [ht2, i4]; exact m2, fun _ _ => ⟨kA, comp, kc, by rw [i4]; exact w3, by rw [ht4]; exact w4, by rw [q4]; exact m1, w5⟩⟩⟩
      · rw [e2] at hx
        rw [e1, show rl_ix D k1 x = x from by unfold rl_ix; rw [if_neg (by omega), if_neg (by omega)]]
        show _ = some (if hp_top h = hp_top h then Value.ref (hp_top h + 1 + x) else _)
        rw [if_pos rfl, i6 x hx, htop]
    · by_cases hb2 : hp_top h < b ∧ b ≤ hp_top h + n.toNatClampNeg
      · have e1 : hp_kd (hp_mul h k1 k2 n.toNatClampNeg cnt.toNatClampNeg (.int 0)) b = k2 := (if_neg hb1).trans (if_pos hb2)
        have e2 : hp_ln (hp_mul h k1 k2 n.toNatClampNeg cnt.toNatClampNeg (.int 0)) b = cnt.toNatClampNeg := (if_neg hb1).trans (if_pos hb2)
        refine ⟨ml_in comp t cnt.toNatClampNeg, i9 b (by rw [htop]; exact hb2.1) (by rw [htop]; exact hb2.2), rfl, (fun z => nomatch z), fun _ => rfl, ?_, fun x hx => ?_⟩
        · rw [e1, e2]
          refine ⟨fun z => by omega, fun _ z => by omega, fun _ z => by omega, fun _ => ⟨by simp [ml_in], ⟨fun z y => (nomatch y), kc, w5, comp2, by rw [ht3]; exact w6⟩, fun _ => by rw [q5]; exact m1, fun _ z => by omega⟩⟩
        · rw [e2] at hx
          rw [e1, show rl_ix D k2 x = x from by unfold rl_ix; rw [if_neg (by omega), if_neg (by omega)]]
          show _ = some (if b = hp_top h then _ else if hp_top h < b ∧ b ≤ hp_top h + n.toNatClampNeg then Value.int 0 else _)
          rw [if_neg hb1, if_pos hb2]
          simp only [ml_in, Array.getElem?_replicate, hx, if_true, q3]
      · have e1 : hp_kd (hp_mul h k1 k2 n.toNatClampNeg cnt.toNatClampNeg (.int 0)) b = hp_kd h b := (if_neg hb1).trans (if_neg hb2)
        have e2 : hp_ln (hp_mul h k1 k2 n.toNatClampNeg cnt.toNatClampNeg (.int 0)) b = hp_ln h b := (if_neg hb1).trans (if_neg hb2)
        rw [e1] at hb0
        have hlt := rl_lt hr hb0
        obtain ⟨cx, x1, x2, x3, x4, x5, x6⟩ := hr.2 b hb0
        refine ⟨cx, by rw [i8 b (by rw [htop]; exact hlt), hT]; exact x1, x2, x3, x4, by rw [e1, e2]; exact x5, fun x hx => ?_⟩
        rw [e2] at hx
        rw [e1]
        show _ = some (if b = hp_top h then _ else if hp_top h < b ∧ b ≤ hp_top h + n.toNatClampNeg then Value.int 0 else hp_at h b x)
        rw [if_neg hb1, if_neg hb2]
        exact x6 x hx
  have hS1 : va_S (rl_A E.1) s.heap U'.heap locs' := by
    refine ⟨by rw [i7, hT]; exact Nat.le_trans hS0.1 (by omega), fun q g1 g2 => ?_, fun z hz => ?_⟩
    · rw [i8 q (by rw [hT]; exact Nat.lt_of_lt_of_le g1 hS0.1), hT]
      exact hS0.2.1 q g1 g2
    · rcases i10 z hz with y | y
      · exact hS0.2.2 z y
      · rw [y, htop]; exact hBt
  obtain ⟨t2, a1, b1⟩ := kk _ _ hR hS1 U' rfl i1
  rw [← htop] at a1
  exact ⟨t2, i11 t2 a1, b1⟩
end MUL
end
section
/-! lambdas: their making, their calls -/
section LAM

def lm_D (σ : Lambda.Shape) : ClassFile := (σ.file "QuorumLog").getD { minorVersion := 0, majorVersion := 0, constantPool := #[], accessFlags := 0, thisClass := 0, superClass := 0, interfaces := #[], fields := #[], methods := #[], attributes := #[] }
def lm_fw (σ : Lambda.Shape) : Method := ((layoutMethods (lm_D σ)).bind (·[1]?)).getD default
def lm_lay (σ : Lambda.Shape) : Array Field × Array FieldType × Array FieldType := (layoutFields (lm_D σ) 0).getD (#[], #[], #[])
/-- what is decided of a shape -/
def lm_chk (σ : Lambda.Shape) (fwd : ByteArray) (mi ci cn nt : Nat) : Prop :=
  (σ.file "QuorumLog").isSome = true ∧ ((layoutMethods (lm_D σ)).bind (·[1]?)).isSome = true ∧ ((lm_fw σ).code.map fun c => (c.code.data, c.maxLocals)) = some (fwd.data, 2) ∧
  ((lm_fw σ).accessFlags, (lm_fw σ).name, (lm_fw σ).sig.returnType) = (0x0001, "isMet", (some .boolean : Option FieldType)) ∧
  ((lm_D σ).constantPool[mi]? = some (.methodref ci nt) ∧ (lm_D σ).constantPool.className? ci = some "QuorumLog" ∧ (lm_D σ).constantPool.nameAndType? nt = some (σ.implName, σ.implDesc.toString)) ∧
  ((lm_D σ).constantPool[ci]? = some (.class_ cn) ∧ (lm_D σ).constantPool.string? cn = some "QuorumLog" ∧ ci ≠ (lm_D σ).thisClass) ∧ (layoutFields (lm_D σ) 0).isSome = true ∧ σ.implClass = "QuorumLog"
theorem lm_made {σ : Lambda.Shape} {fwd : ByteArray} {mi ci cn nt : Nat} (hch : lm_chk σ fwd mi ci cn nt) {e : Setting} {vm : Vm} {d c : ClassId} {dk : Class} (hd : vm.classes[d]? = some dk) (hname : dk.name = "QuorumLog") (h : Lambda.isMade e vm d σ c = true)
    (hO : ∀ o ok, vm.findClass "java/lang/Object" = some o → vm.classes[o]? = some ok → ok.instanceTypes.size = 0) :
    ∃ (k tk : Class) (file : ClassFile) (methk : Method) (ck : Code) (toy : ClassId) (t : MethodId),
      vm.classes[c]? = some k ∧ k.name = "QuorumLog$$Lambda" ∧ k.cf = some file ∧ file.constantPool = (lm_D σ).constantPool ∧
      vm.method? ⟨c, 1⟩ = some methk ∧ methk.code = some ck ∧ ck.code = fwd ∧ ck.maxLocals = 2 ∧ methk.locks = false ∧ methk.accessFlags = 0x0001 ∧ methk.sig.returnType = some .boolean ∧
      vm.findClass "QuorumLog" = some toy ∧ vm.classes[toy]? = some tk ∧ ((methodIn toy σ.implName σ.implDesc.toString tk.isInterface none).ask e vm).1 = .ok t ∧
      vm.methodReady c mi t ∧ vm.classReady c ci toy ∧ k.kind = .ordinary ∧ k.instanceTypes = (lm_lay σ).2.1 ∧ (∀ (i x : Nat) (g0 : Field), (lm_lay σ).1[i]? = some g0 → ∀ (a b : Nat) (nm ds : String), (lm_D σ).constantPool[x]? = some (.fieldref a b) → (lm_D σ).constantPool.nameAndType? b = some (nm, ds) → (lm_lay σ).1.findIdx? (·.name == nm) = some i → vm.fieldReady c x c g0) := by
  obtain ⟨k1, k2, fc, ff, eM, eC, k7, k8⟩ := hch
  have file_is : σ.file "QuorumLog" = some (lm_D σ) := by
    obtain ⟨x, hx⟩ := Option.isSome_iff_exists.mp k1
    simp [lm_D, hx]
  have second_is : ∀ ms, layoutMethods (lm_D σ) = some ms → ms[1]? = some (lm_fw σ) := by
    intro ms hms
    obtain ⟨x, hx⟩ := Option.isSome_iff_exists.mp k2
    have hf : lm_fw σ = x := by simp [lm_fw, hx]
    rw [hms] at hx
    rw [hf]
    exact hx
  have laid_is : layoutFields (lm_D σ) 0 = some (lm_lay σ) := by
    obtain ⟨x, hx⟩ := Option.isSome_iff_exists.mp k7
    simp [lm_lay, hx]
  obtain ⟨dk', k, ok, tk, file, cf, object, iface, toy, lay, methods, target, found, hd', hk, hfile, hcf, hobj, -, hok, hlay, hms, ht, htk, hg, -, hrec, -, -, -, hitf, hpool, hmeth, hfields, hty, hres, -⟩ := Lambda.isMade_spec h
  cases hd.symm.trans hd'
  rw [hname, file_is] at hcf
  cases hcf
  rw [k8] at ht
  have hok0 : ok.instanceTypes = #[] := Array.eq_empty_of_size_eq_zero (hO object ok hobj hok)
  rw [hO object ok hobj hok, laid_is] at hlay
  cases hlay
  obtain ⟨b, hb, hsame⟩ := hmeth 1 (lm_fw σ) (second_is methods hms)
  simp only [Lambda.sameMethod, Bool.and_eq_true, decide_eq_true_eq] at hsame
  obtain ⟨⟨hn, -, hsig, hfl⟩, hcode⟩ := hsame
  simp only [Prod.mk.injEq] at ff
  cases hfc : (lm_fw σ).code with
  | none => rw [hfc] at fc; cases fc
  | some x =>
    cases hbc : b.code with
    | none => simp [hfc, hbc] at hcode
    | some y =>
      simp only [hfc, hbc, Bool.and_eq_true, decide_eq_true_eq] at hcode
      simp only [hfc, Option.map_some, Option.some.injEq, Prod.mk.injEq] at fc
      refine ⟨k, tk, file, b, y, toy, target, hk, by rw [hrec.1, hname]; rfl, hfile, hpool.2.1, by simp [Vm.method?, hk, hb], hbc, ?_, by rw [← hcode.1.1.1.1.2.1]; exact fc.2, ?_, by rw [← hfl]; exact ff.1, by rw [← hsig]; exact ff.2.2, ht, htk, hg,
        ⟨k, hk, hres mi _ (Lambda.resolvedOf_method eM.1 eM.2.1 ht htk eM.2.2 hg)⟩, ⟨k, hk, hres ci _ (Lambda.resolvedOf_class eC.1 eC.2.2 eC.2.1 ht)⟩, hrec.2.1, by rw [hty.1, hok0]; simp, fun i x g0 h1 a' b' nm ds h2 h3 h4 => ⟨k, i, k, hk, hres x _ (Lambda.resolvedOf_field h2 h3 h4), hk, hfields i _ h1⟩⟩
      · rw [← hcode.1.1.1.1.2.2]
        exact ByteArray.ext fc.1
      · simp [Method.locks, Method.isSynchronized, ← hfl, ff.1, hasFlag, Acc.synchronized]
def lm_b0 : ByteArray := ⟨#[43, 184, 0, 17, 172]⟩
def lm_b1 : ByteArray := ⟨#[42, 180, 0, 15, 43, 184, 0, 23, 172]⟩
theorem lm_c0 : lm_chk (lm_sh "lambda$roundsToLeader$0" [] [.object "QuorumLog$Group"]) lm_b0 17 14 13 16 := by unfold lm_chk; decide +kernel
theorem lm_c1 : lm_chk (lm_sh "lambda$roundsToAnswer$1" [.int] [.int, .object "QuorumLog$Group"]) lm_b1 23 19 18 22 := by unfold lm_chk; decide +kernel
theorem lm_c2 : lm_chk (lm_sh "lambda$roundsToAgree$2" [] [.object "QuorumLog$Group"]) lm_b0 17 14 13 16 := by unfold lm_chk; decide +kernel
theorem lm_c3 : lm_chk (lm_sh "lambda$roundsWithout$3" [] [.object "QuorumLog$Group"]) lm_b0 17 14 13 16 := by unfold lm_chk; decide +kernel
theorem lm_f1 : (lm_D (lm_sh "lambda$roundsToAnswer$1" [.int] [.int, .object "QuorumLog$Group"])).constantPool[15]? = some (.fieldref 2 14) ∧ (lm_D (lm_sh "lambda$roundsToAnswer$1" [.int] [.int, .object "QuorumLog$Group"])).constantPool.nameAndType? 14 = some ("arg$1", "I") ∧
    (lm_lay (lm_sh "lambda$roundsToAnswer$1" [.int] [.int, .object "QuorumLog$Group"])).1.findIdx? (·.name == "arg$1") = some 0 ∧ ((lm_lay (lm_sh "lambda$roundsToAnswer$1" [.int] [.int, .object "QuorumLog$Group"])).1[0]?).map (fun f => (f.isStatic, f.slot)) = some (false, 0) := by decide +kernel
theorem lm_t1 : (lm_lay (lm_sh "lambda$roundsToAnswer$1" [.int] [.int, .object "QuorumLog$Group"])).2.1 = #[.int] := by decide +kernel
theorem lm_warmO {s : State} {vm : Vm} (hW : s.WarmedH vm) (h4 : ∀ o ok, s.vm.findClass "java/lang/Object" = some o → s.vm.classes[o]? = some ok → ok.instanceTypes.size = 0) : ∀ o ok, vm.findClass "java/lang/Object" = some o → vm.classes[o]? = some ok → ok.instanceTypes.size = 0 := by
  intro o ok ho hok
  rw [hW.alike.findClass] at ho
  obtain ⟨ok0, hok0⟩ : ∃ ok0, s.vm.classes[o]? = some ok0 := by
    cases hq : s.vm.classes[o]? with
    | none => rw [hW.alike.none hq] at hok; cases hok
    | some x => exact ⟨x, rfl⟩
  obtain ⟨ok', hok', e3⟩ := hW.alike.2.2 _ _ hok0
  cases hok.symm.trans hok'
  rw [e3]
  exact h4 o ok0 ho hok0
theorem lm_obj {args : Array Value} {s : State} (h : (Cond.instantiable "java/lang/Object" 0).before args s = true) : ∀ o ok, s.vm.findClass "java/lang/Object" = some o → s.vm.classes[o]? = some ok → ok.instanceTypes.size = 0 := by
  intro o ok ho hok
  obtain ⟨c, k, h1, h2, -, -, -, h3⟩ := Cond.instantiable_spec h
  cases ho.symm.trans h1
  cases hok.symm.trans h2
  exact h3
theorem lm_d00 : decode lm_b0 0 = .ok (.aload_n 1, 1) := by decide +kernel
theorem lm_d01 : decode lm_b0 1 = .ok (.invokestatic 17, 3) := by decide +kernel
theorem lm_d04 : decode lm_b0 4 = .ok (.ireturn, 1) := by decide +kernel
theorem lm_d10 : decode lm_b1 0 = .ok (.aload_n 0, 1) := by decide +kernel
theorem lm_d11 : decode lm_b1 1 = .ok (.getfield 15, 3) := by decide +kernel
theorem lm_d14 : decode lm_b1 4 = .ok (.aload_n 1, 1) := by decide +kernel
theorem lm_d15 : decode lm_b1 5 = .ok (.invokestatic 23, 3) := by decide +kernel
theorem lm_d18 : decode lm_b1 8 = .ok (.ireturn, 1) := by decide +kernel
/-- the two forms of a made class -/
def lm_form (j : Nat) (lq : lm_q) (q : MI) (ncap pcI mi : Nat) (fwd : ByteArray) : Prop := lm_L[j]? = some lq ∧ lq.1.cls = "QuorumLog" ∧ q.1 = ⟨"QuorumLog", lq.2.2.2.implName, lq.2.2.2.implDesc.toString⟩ ∧ (∃ ci cn nt, lm_chk lq.2.2.2 fwd mi ci cn nt) ∧ lq.2.2.2.iface = "QuorumLog$Aim" ∧ lq.2.2.2.name = "isMet" ∧ lq.2.2.2.sam.toString = "(LQuorumLog$Group;)Z" ∧
  (ncap = 0 ∧ pcI = 1 ∧ mi = 17 ∧ fwd = lm_b0 ∨ ncap = 1 ∧ pcI = 5 ∧ mi = 23 ∧ fwd = lm_b1 ∧ lq.2.2.2 = lm_sh "lambda$roundsToAnswer$1" [.int] [.int, .object "QuorumLog$Group"])
section
variable {p : Program} {l : Launch} {e : Env} {R : Room} {s : State} {m : MethodId} {args : Array Value} {below : List Frame} {meth : Method} {c : Code} {H : Heap} {locs : List Loc} {cells slots : Nat} {Q : State → Prop}
variable {cc : ByteArray} {pc nL : Nat} {ls : Array Slot} {rest As : List Value} {D : va_G} {E : Env0} {h : Hp} {r : Rs × Hp} {q : MI} {own : String} {ix n d mc0 ms0 : Nat}
theorem lm_weaken {tb : Tables} {mid : List Frame} {a b : State} (h : Steps tb e (mid ++ below) a b) : Steps tb e below a b := by
  obtain ⟨n, hn, w⟩ := h
  exact ⟨n, hn, fun k hk => (w k hk).weaken⟩
set_option maxHeartbeats 1000000 in
theorem sx_lam (hx : p.tables.exec = Jvm.exec) (hb : c.code = cc) (hml : c.maxLocals = nL) (hown : s.vm.findClass own = some m.cls) (hts : ∀ w ∈ lw_all, w.before args s = true) (hK : kv_ok D E s s.heap) (hr : rl_H D s E.1 h H) (hS : va_S (rl_A E.1) s.heap H locs) (hB : E.1 ≤ s.heap.size) (hsz : ls.size = nL)
    {a gr count j ncap pcI mi : Nat} {lq : lm_q} {fwd : ByteArray} (hfm : lm_form j lq q ncap pcI mi fwd) (hj : j < 10) (hka : hp_kd h a = 60 + j) (hln : hp_ln h a = ncap) (hok : mi_ok q) (hpl : mi_pl q) (hst : Cond.static q.1 ∈ lw_all) (hmn : mi_n q (ncap + 1)) (hlk : Cond.methodLink own ix y_aim ∈ lw_all) (hob : Cond.instantiable "java/lang/Object" 0 ∈ lw_all)
    (hM : cx_M l D E q d ((List.range ncap).map (hp_at h a) ++ [Value.ref gr]) h r) {x0 : Int32} (hr1 : r.1 = .ok (some (.int x0))) (h01 : x0 = 0 ∨ x0 = 1) (hW : (rest.map fun v => v.category).sum ≤ 8) (hd : decode cc pc = .ok (.invokeinterface ix count, 5))
    (hf : cells + (hp_top r.2 - hp_top h) ≤ mc0 ∧ slots + (hp_use r.2 - hp_use h) ≤ ms0) (az : Array Value) :
    vx_Run5 p l e (cx_room (d + 1) mc0 ms0) s m args below meth c H locs cells slots (hp_top r.2 - hp_top h) (hp_use r.2 - hp_use h) (F0 m pc ls (.ref gr :: .ref a :: rest)) rest (cx_Q D E r az) (cx_X D E r) (rl_A E.1) := by
  obtain ⟨hlj, hlc, hq1, ⟨ci, cn, nt, hch⟩, hif, hnm, hsam, hcase⟩ := hfm
  intro T hT X
  obtain ⟨cell, c1, c2, c3, c4, c5, c6⟩ := hr.2 a (by omega)
  have hcls : cell.cls = D.1 (60 + j) := by
    have := c5.2.2.1 (by omega) (by omega)
    rw [hka] at this
    exact this
  obtain ⟨hL, hface, hdecl⟩ := hK.2.2.2.2.2.2.2.2.2.2
  obtain ⟨mS, kS, cfS, i0, p0, lk, hmS, hkS, hcfS, hsh, hfind, hmade, hcan, -⟩ := hL j lq hlj
  rw [← hcls] at hmade hcan
  obtain ⟨kS', hkS', hnameS⟩ := className_of_methodNamed hmS
  cases hkS.symm.trans hkS'
  rw [hlc] at hnameS
  have hO := lm_obj (hts _ hob)
  obtain ⟨kK, tk, file, methk, ckK, toy, t, hkK, hkn, hfile, hpool, hmk, hckK, hbytes, hmlK, hlkK, hfl, hretk, htoy, htk, hlook, hready, hclsR, hkind, hity, hfrd⟩ := lm_made hch hkS hnameS hmade hO
  obtain ⟨r0, rM, hn, hrm, hstR, hsigR⟩ := Cond.declares_spec hdecl
  obtain ⟨cL, kL, r1, hcL, hkL, hiL, hfoundL, hn1⟩ := Cond.interfaceMethod_spec hface
  cases hn.symm.trans hn1
  have hr0cls : r0.cls = cL := Option.some.inj ((findClass_of_methodNamed hn).symm.trans hcL)
  obtain ⟨hnameR, hdescR⟩ := name_of_methodNamed hn hrm
  obtain ⟨-, -, -, -, -, -, -, iface', -, -, -, -, found, -, -, -, -, -, hi', -, -, -, -, -, -, hfound', -, -, -, -, -, -, -, -, -, -, hsel⟩ := Lambda.isMade_spec hmade
  rw [hif] at hi'
  cases hcL.symm.trans hi'
  have hfr : found = r0 := by
    have h1 : s.methodFound? "QuorumLog$Aim" "isMet" "(LQuorumLog$Group;)Z" = some r0 := hfoundL
    have hcL' : s.vm.findClass "QuorumLog$Aim" = some cL := hcL
    simp only [State.methodFound?, hcL', hkL, hiL, Option.bind_eq_bind, Option.bind_some] at h1
    have h2 : ((methodIn cL "isMet" "(LQuorumLog$Group;)Z" true none).ask { classPath := fun _ => none } s.vm).1 = .ok found := by rw [← hsam, ← hnm]; exact hfound'
    rw [h2] at h1
    exact Option.some.inj h1
  subst hfr
  obtain ⟨i2, hi2, hasg, hway⟩ := State.lambdaCallable_spec hcan
  rw [hif] at hi2
  cases hcL.symm.trans hi2
  rw [hnm, hsam] at hway
  have hcellT : T.heap[a]? = some cell := by rw [hT]; exact c1
  have hparR : rM.sig.parameters.length = 1 := by
    have h2 : (parseMethodDescriptor "(LQuorumLog$Group;)Z").map (fun d => d.parameters.length) = some 1 := by decide +kernel
    have h1 : parseMethodDescriptor "(LQuorumLog$Group;)Z" = some rM.sig := hsigR
    rw [h1] at h2
    exact Option.some.inj h2
  obtain ⟨vm₁, X₁, hstep₁⟩ := X.invokeinterface hx hown (hts _ hlk) hn hrm hstR (by rw [hr0cls]; exact hkL) hiL (by decide) (a := a) (cell := cell) (kcell := kK) hcellT (fun z h => by rw [h] at c2; cases c2) hkK (by rw [hr0cls]; exact hasg)
    (m' := ⟨cell.cls, 1⟩) (meth' := methk) (by rw [Launch.admits_selectMethod X.admits]; exact hsel) hmk (by rw [hnameR, hdescR]; exact hway) (by rw [hfl]; decide) (by simp [Method.isAbstract, hfl, hasFlag, Acc.abstract])
    (g := F0 m pc ls (.ref gr :: .ref a :: rest)) rfl (argsL := [.ref gr]) (rest := rest) (by rw [hparR]; rfl) rfl (by rw [hb]; exact hd)
  have hW₁ : s.WarmedH vm₁ := X₁.warmed
  obtain ⟨kS₁, hkS₁, heS₁⟩ := hW₁.alike.2.2 _ _ hkS
  have hnameS₁ : kS₁.name = "QuorumLog" := by rw [heS₁]; exact hnameS
  obtain ⟨kK₁, tk₁, file₁, methk₁, ckK₁, toy₁, t₁, hkK₁, hkn₁, hfile₁, hpool₁, hmk₁, hckK₁, hbytes₁, hml₁, hlk₁, hfl₁, hretk₁, htoy₁, htk₁, hlook₁, hready₁, hclsR₁, hkind₁, hity₁, hfrd₁⟩ := lm_made hch hkS₁ hnameS₁ (Lambda.isMade_warmer hW₁ hmade) (lm_warmO hW₁ hO)
  have hcd := hts _ (mi_plc hok hpl)
  have hqc : q.1.cls = "QuorumLog" := by rw [hq1]
  have hqn : q.1.name = lq.2.2.2.implName := by rw [hq1]
  have hqd : q.1.desc = lq.2.2.2.implDesc.toString := by rw [hq1]
  obtain ⟨mT, hmT⟩ := Cond.code_named hcd
  obtain ⟨methT, cT, hmethT, hcT, hbytesT, hlocT, hretT, hlocksT, -, hsigT⟩ := Cond.code_spec hmT hcd
  have hstaticT : methT.isStatic = true := Cond.static_spec hmT hmethT (hts _ hst)
  obtain ⟨kT, hkT, hnameT⟩ := className_of_methodNamed hmT
  have hfT : s.vm.findClass q.1.cls = some mT.cls := findClass_of_methodNamed hmT
  have hinitK : kT.init = .initialized := Cond.initialized_spec hfT hkT (hts _ hok.2.1)
  rw [hqc] at hfT hnameT
  have hfT₁ : vm₁.findClass "QuorumLog" = some mT.cls := by rw [hW₁.alike.findClass]; exact hfT
  cases htoy₁.symm.trans hfT₁
  have ht₁ : t₁ = mT := by
    have h1 : (s.setVm vm₁).methodFound? q.1.cls q.1.name q.1.desc = some mT := by rw [State.methodFound?_setVm hW₁.alike]; exact State.methodFound?_of_named hmT hok.2.2.1
    rw [hqc, hqn, hqd] at h1
    simp only [State.methodFound?, State.vm_setVm, hfT₁, htk₁, Option.bind_eq_bind, Option.bind_some] at h1
    rw [hlook₁] at h1
    exact Option.some.inj h1
  subst ht₁
  have hmethT₁ : vm₁.method? t₁ = some methT := by rw [hW₁.alike.method?]; exact hmethT
  obtain ⟨kT₁, hkT₁, heT₁⟩ := hW₁.alike.2.2 _ _ hkT
  cases htk₁.symm.trans hkT₁
  have hnmT : tk₁.name ≠ "java/lang/invoke/MethodHandle" ∧ tk₁.name ≠ "java/lang/invoke/VarHandle" := by
    have : tk₁.name = "QuorumLog" := by rw [heT₁]; exact hnameT
    rw [this]; decide
  have hsp : ∀ y : Method, signaturePolymorphic tk₁ y = false := fun y => by simp [signaturePolymorphic, hnmT.1, hnmT.2]
  obtain ⟨bM, hmem⟩ := memberRef_ask' (e := e) (vm := vm₁) (d := cell.cls) (index := mi) hkK₁ hfile₁ (Or.inl (by rw [hpool₁]; exact hch.2.2.2.2.1.1)) (by rw [hpool₁]; exact hch.2.2.2.2.1.2.2)
  have hpk : (T.setVm vm₁).plainMethod ⟨cell.cls, 1⟩ := State.plainMethod.of_name (fun k' hk' => by cases hkK₁.symm.trans hk'; rw [hkn₁]; decide)
  have hd' : decode c.code pc = .ok (.invokeinterface ix count, 5) := by rw [hb]; exact hd
  obtain ⟨mc, hmc⟩ : ∃ z, z = hp_top r.2 - hp_top h := ⟨_, rfl⟩
  obtain ⟨ms, hms⟩ : ∃ z, z = hp_use r.2 - hp_use h := ⟨_, rfl⟩
  rw [← hmc, ← hms] at hf ⊢
  obtain ⟨Y₀, hin⟩ := X₁.into (g := F0 m pc ls rest) rfl (hsz.trans hml.symm) hd' #[.ref a, .ref gr] (R' := { frames := 8 * d + 20, cells := mc, slots := ms, locals := 1000 * d + 5100 }) hmk₁ hckK₁ hlk₁ hpk
    (by show 8 * d + 20 + 1 ≤ 8 * (d + 1) + 16; omega) (by rw [hml₁]; show 2 * 0 + (rest.map fun v => v.category).sum + (2 + 11) + (1000 * d + 5100) ≤ 1000 * (d + 1) + 5000; omega) hf.1 hf.2
  obtain ⟨s', hs'⟩ : ∃ z, z = (T.setVm vm₁).calling (F0 m pc ls rest) ⟨cell.cls, 1⟩ #[.ref a, .ref gr] := ⟨_, rfl⟩
  rw [← hs'] at Y₀
  obtain ⟨U₀, hU₀⟩ : ∃ z, z = ((T.setVm vm₁).setTop (F0 m pc ls rest)).pushFrame (.java (entryFrame ⟨cell.cls, 1⟩ #[.ref a, .ref gr] ckK₁.maxLocals)) := ⟨_, rfl⟩
  rw [← hU₀] at Y₀ hin
  have hvm : U₀.vm = vm₁ := by rw [hU₀]; rfl
  have hheap : U₀.heap = H := by rw [hU₀]; exact hT
  have hWs : s.WarmedH s'.vm := by rw [hs']; exact hW₁
  have hentry : entryFrame ⟨cell.cls, 1⟩ #[.ref a, .ref gr] ckK₁.maxLocals = { method := ⟨cell.cls, 1⟩, pc := 0, locals := #[.val (.ref a), .val (.ref gr)], stack := [], locked := none } := by rw [hml₁]; rfl
  rw [hentry] at hin
  have htop₀ : U₀.topJava?.isSome := Y₀.here.top
  have hpre : Steps p.tables e (.java (F0 m pc ls rest) :: below) (U₀.setTop { method := ⟨cell.cls, 1⟩, pc := 0, locals := #[.val (.ref a), .val (.ref gr)], stack := [], locked := none })
      (U₀.setTop { method := ⟨cell.cls, 1⟩, pc := pcI, locals := #[.val (.ref a), .val (.ref gr)], stack := ((List.range ncap).map (hp_at h a) ++ [Value.ref gr]).reverse, locked := none }) ∧ decode ckK₁.code pcI = .ok (.invokestatic mi, 3) ∧ decode ckK₁.code (pcI + 3) = .ok (.ireturn, 1) := by
    rcases hcase with ⟨rfl, rfl, rfl, rfl⟩ | ⟨rfl, rfl, rfl, rfl, hlq⟩
    · refine ⟨?_, by rw [hbytes₁]; exact lm_d01, by rw [hbytes₁]; exact lm_d04⟩
      jvm_step Y₀.here [hx, hbytes₁, lm_d00, Value.isRef]
      exact Steps.refl _
    · refine ⟨?_, by rw [hbytes₁]; exact lm_d15, by rw [hbytes₁]; exact lm_d18⟩
      rw [hlq] at hfrd₁
      obtain ⟨f1, f2, f3, f4⟩ := lm_f1
      obtain ⟨fld, hfld, hfp⟩ := Option.map_eq_some_iff.mp f4
      simp only [Prod.mk.injEq] at hfp
      have hfr := hfrd₁ 0 15 fld hfld 2 14 _ _ f1 f2 f3
      have hv0 : cell.slots[fld.slot]? = some (hp_at h a 0) := by
        rw [hfp.2]
        have := c6 0 (by rw [hln]; exact Nat.one_pos)
        rw [show rl_ix D (hp_kd h a) 0 = 0 from by unfold rl_ix; rw [if_neg (by omega), if_neg (by omega)]] at this
        exact this
      jvm_step Y₀.here [hx, hbytes₁, lm_d10, Value.isRef]
      jvm_step Y₀.here [hx, hbytes₁, lm_d11, getfield.wp_ready (e := e) (s := U₀) (f := { method := ⟨cell.cls, 1⟩, pc := 1, locals := #[.val (.ref a), .val (.ref gr)], stack := [.ref a], locked := none }) (index := 15) (c := cell.cls) (a := a) (field := fld) (rest := []) (cell := cell) (v := hp_at h a 0) htop₀ (by rw [hvm]; exact hfr) hfp.1 rfl (by rw [hheap]; exact c1) c3 hv0]
      jvm_step Y₀.here [hx, hbytes₁, lm_d14, Value.isRef]
      exact Steps.refl _
  obtain ⟨hpre, hdI, hdR⟩ := hpre
  have hback : vx_Back l { frames := 8 * d + 20, cells := mc, slots := ms, locals := 1000 * d + 5100 } p e (.java (F0 m pc ls rest) :: below) s' #[.ref a, .ref gr] q.1 3 8 (PreOf { frames := 8 * d + 20, cells := mc, slots := ms, locals := 1000 * d + 5100 } mc ms (cx_P D E h ((List.range ncap).map (hp_at h a) ++ [Value.ref gr]))) (PostOf (cx_Q D E r) mc ms (rl_A E.1)) (vx_Post (cx_X D E r) mc ms (rl_A E.1)) := by
    subst hmc hms
    exact vx_back (bytes := q.2.1) (maxL := q.2.2.1) (ret := q.2.2.2.1) hM cx_blind rfl rfl (by show 8 * d + 16 + 1 ≤ 8 * d + 20; omega) (by have := hok.2.2.2.2; show 8 + (q.2.2.1 + 11) + (1000 * d + 5000) ≤ 1000 * d + 5100; omega)
      (fun w hw a' U hWU => mi_good hok hts w hw a' U (State.WarmedH.trans hWs hWU)) (by rw [mi_plw hpl]; exact List.mem_cons_self) (fun a' U hWU => word_at (State.WarmedH.trans hWs hWU) (Or.inl (by first | rfl | simp [Cond.onTables, Cond.keeps, Cond.steady])) (hts _ hok.2.1))
  have hnamed₀ : U₀.methodNamed? q.1 = some t₁ := by
    have := State.methodNamed?_setVm (s := s) hW₁.alike q.1
    rw [hmT] at this
    rw [← this]
    simp only [State.methodNamed?, hvm, State.vm_setVm]
  have hPc : cx_P D E h ((List.range ncap).map (hp_at h a) ++ [Value.ref gr]) ((List.range ncap).map (hp_at h a) ++ [Value.ref gr]).toArray U₀ := cx_pre hK hr hS hB _ U₀ hheap (by rw [hvm]; exact hW₁)
  have hlenA : ((List.range ncap).map (hp_at h a) ++ [Value.ref gr]).length = methT.sig.parameters.length := by
    rw [List.length_append, List.length_map, List.length_range]
    exact mi_len hmn _ hsigT
  have hcallS : ∀ As : List Value, As.length = methT.sig.parameters.length → ∀ target, Steps p.tables e (.java (F0 m pc ls rest) :: below) (doInvoke e (U₀.setTop { method := ⟨cell.cls, 1⟩, pc := pcI, locals := #[.val (.ref a), .val (.ref gr)], stack := [], locked := none }) [] t₁ As.toArray).1 target →
      Steps p.tables e (.java (F0 m pc ls rest) :: below) (U₀.setTop { method := ⟨cell.cls, 1⟩, pc := pcI, locals := #[.val (.ref a), .val (.ref gr)], stack := As.reverse, locked := none }) target := by
    intro As hlenA target htg
    jvm_step Y₀.here [hx, hdI, invokestatic.wp_ready (e := e) (s := U₀) (m := t₁) (k := tk₁) (meth := methT) (args := As) (rest := [])
      (f := { method := ⟨cell.cls, 1⟩, pc := pcI, locals := #[.val (.ref a), .val (.ref gr)], stack := As.reverse, locked := none }) htop₀ ⟨ci, _, _, bM, t₁.cls, tk₁, by rw [hvm]; exact hmem, by rw [hvm]; exact hclsR₁, by rw [hvm]; exact htk₁, by simp [hsp]⟩ (by rw [hvm]; exact hready₁) (by rw [hvm]; exact htk₁) (by rw [hvm]; exact hmethT₁) (hsp _) hstaticT (by rw [heT₁]; exact hinitK) hlenA (by rw [List.append_nil])]
    intro acts'
    rw [doInvoke_state]
    exact htg
  rcases hback ⟨cell.cls, 1⟩ methk₁ ckK₁ ⟨U₀, [], 0, 0⟩ { method := ⟨cell.cls, 1⟩, pc := pcI, locals := #[.val (.ref a), .val (.ref gr)], stack := [], locked := none } (.invokestatic mi) t₁ ((List.range ncap).map (hp_at h a) ++ [Value.ref gr]).toArray Y₀ rfl (by rw [hml₁]; rfl) hdI (by show 2 * 0 + 0 ≤ 8; omega) hnamed₀
    ⟨by show 0 + mc ≤ mc; omega, by show 0 + ms ≤ ms; omega, hPc⟩ with ⟨v, ⟨U', l2, c2', s2⟩, Y₁, ⟨g', mk, t, L, z1, z2, hq, z3, hLf, z4, z5⟩, hsteps⟩ | ⟨qx, ⟨U', l2, c2', s2⟩, Y₁, ⟨g', mk, t, L, En, ce, z1, z2, ⟨⟨y, hy, -⟩, -⟩, -⟩, hsteps⟩
  · dsimp only [Pt.U, Pt.locs, Pt.cells, Pt.slots] at Y₁ z1 z2 z3 z4 z5 hsteps
    subst z3; subst z4; subst z5
    obtain ⟨⟨v', hv1, hv2⟩, hq2⟩ := id hq
    rw [hr1] at hv1
    cases hv1
    cases hv2
    obtain ⟨fs, hleave, -, hended, hWe, hsame⟩ := Y₁.leave (v := some (.int x0)) (fun h => by rw [hretk₁] at h; cases h) hlk₁
    rw [hs'] at hWe hsame
    obtain ⟨T', X', hW', -, ht⟩ := X₁.outOf (g := F0 m pc ls rest) rfl hd' hended hWe hsame
    simp only [Nat.zero_add, List.nil_append] at X'
    have hT'h : T'.heap = U'.heap := (congrArg State.heap ht).symm
    have hT'v : T'.vm = U'.vm := (congrArg State.vm ht).symm
    refine Or.inl ⟨some (.int x0), U₀.calling g' mk ((List.range ncap).map (hp_at h a) ++ [Value.ref gr]).toArray, t, T', _, hheap, X', hLf, hT'h.trans z1, hT'v.trans z2, hq, ?_⟩
    intro target hrest
    refine hstep₁ target fun acts => ?_
    rw [show (T.setVm vm₁).setTop { F0 m pc ls (.ref gr :: .ref a :: rest) with stack := rest } = (T.setVm vm₁).setTop (F0 m pc ls rest) from rfl]
    rw [show ([Value.ref a, Value.ref gr].toArray) = #[Value.ref a, Value.ref gr] from rfl, hin acts]
    have main : Steps p.tables e (.java (F0 m pc ls rest) :: below) (U₀.setTop { method := ⟨cell.cls, 1⟩, pc := 0, locals := #[.val (.ref a), .val (.ref gr)], stack := [], locked := none }) (U'.setFrames fs) := by
      refine hpre.trans (hcallS _ hlenA _ (hsteps.trans ?_))
      have htopU' : U'.topJava?.isSome := Y₁.here.top
      have hnar : narrow .boolean (.int x0) = .int x0 := by rcases h01 with rfl | rfl <;> decide
      show Steps p.tables e (.java (F0 m pc ls rest) :: below) (U'.setTop { method := ⟨cell.cls, 1⟩, pc := pcI + 3, locals := #[.val (.ref a), .val (.ref gr)], stack := [.int x0], locked := none }) _
      jvm_step Y₁.here [htopU', hx, hdR, (show U'.vm.method? ⟨cell.cls, 1⟩ = some methk₁ from Y₁.method'), hretk₁, hnar]
      intro acts''
      rw [hleave { method := ⟨cell.cls, 1⟩, pc := pcI + 3, locals := #[.val (.ref a), .val (.ref gr)], stack := [], locked := none } acts'' rfl rfl rfl]
      exact Steps.refl _
    refine (lm_weaken (mid := [.java (F0 m pc ls rest)]) main).trans ?_
    rw [ht]
    exact hrest
  · rw [hr1] at hy
    cases hy
theorem sx_lcon (hx : p.tables.exec = Jvm.exec) (hb : c.code = cc) (hml : c.maxLocals = nL) (hK : kv_lam D E s) (hsz : ls.size = nL) {j : Nat} {lq : lm_q} (hlj : lm_L[j]? = some lq) (hcap : lq.2.2.2.captured = []) (hmn : s.methodNamed? lq.1 = some m) (hpc : pc = lq.2.1) (hR : 3080 ≤ R.locals) (hW : (rest.map fun v => v.category).sum ≤ 8) (hd : decode cc pc = .ok (.invokedynamic ix, 5))
    (kk : W p l e R s m args below meth c H locs cells slots Q (F0 m (pc + 5) ls (E.2 (10 + j) :: rest))) : W p l e R s m args below meth c H locs cells slots Q (F0 m pc ls rest) := by
  intro T hT X
  obtain ⟨mS, kS, cfS, i0, p0, lk, hmS, hkS, hcfS, hsh, hfind, hmade, hcan, hcase⟩ := hK.1 j lq hlj
  cases hmn.symm.trans hmS
  rcases hcase with ⟨-, a, rfl, hE⟩ | ⟨hne, -⟩
  · obtain ⟨t, h1, h2⟩ := kk T hT X
    refine ⟨t, ?_, h2⟩
    rw [hE] at h1
    exact X.lambdaConstant hx (g := F0 m pc ls rest) rfl (hsz.trans hml.symm) (by rw [hb]; exact hd) hkS (by rw [show (F0 m pc ls rest).pc = lq.2.1 from hpc]; exact hfind) (by rw [X.admits.platform]; show 2 * 0 + (rest.map fun v => v.category).sum + 3072 ≤ R.locals; omega) h1
  · exact absurd hcap hne
theorem lm_arr {α : Type} (arr : Array Nat) (K : Nat → Nat → Nat → Option α) (σ : α) (h : (match arr with | #[a0, a1, a2] => K a0 a1 a2 | _ => none) = some σ) : ∃ a0 a1 a2, K a0 a1 a2 = some σ := by
  obtain ⟨l⟩ := arr
  rcases l with _ | ⟨a0, _ | ⟨a1, _ | ⟨a2, _ | ⟨a3, l⟩⟩⟩⟩
  · exact absurd (show none = some σ from h) (by simp)
  · exact absurd (show none = some σ from h) (by simp)
  · exact absurd (show none = some σ from h) (by simp)
  · exact ⟨a0, a1, a2, h⟩
  · exact absurd (show none = some σ from h) (by simp)
theorem lm_pool {cf : ClassFile} {index : Nat} {σ : Lambda.Shape} (h : Lambda.shapeOf? cf index = some σ) : ∃ bsm nt name desc sig, cf.constantPool[index]? = some (.invokeDynamic bsm nt) ∧ cf.constantPool.nameAndType? nt = some (name, desc) ∧ parseMethodDescriptor desc = some sig ∧ sig.parameters = σ.captured := by
  unfold Lambda.shapeOf? at h
  split at h
  · next b nt hcp =>
    obtain ⟨entries, -, h⟩ := Option.bind_eq_some_iff.mp h
    obtain ⟨bm, -, h⟩ := Option.bind_eq_some_iff.mp h
    split at h
    · obtain ⟨u, -, h⟩ := Option.bind_eq_some_iff.mp h
      obtain ⟨a0, a1, a2, h⟩ := lm_arr _ _ _ h
      split at h
      · split at h
        · split at h
          · obtain ⟨nd, hnd, h⟩ := Option.bind_eq_some_iff.mp h
            obtain ⟨site, hsite, h⟩ := Option.bind_eq_some_iff.mp h
            split at h
            · simp only [Option.bind_eq_bind, Option.bind_eq_some_iff, Option.pure_def, Option.some.injEq] at h
              obtain ⟨im, -, w1, -, w2, -, w3, -, w4, -, w5, -, rfl⟩ := h
              exact ⟨b, nt, nd.1, nd.2, site, hcp, hnd, hsite, rfl⟩
            · cases h
          · cases h
        · cases h
      · cases h
    · cases h
  · cases h
end
end LAM
end
