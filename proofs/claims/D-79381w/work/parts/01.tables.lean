-- ===== PART A: goes FIRST, ahead of the names: the tables' words, and 'selects' of the private methods out of them =====
/-- a private method of a class that the tables say can be made, by its rows of tables_1 -/
def lw_okq (q : MethodName × Nat) : Prop := (q.1.cls ≠ "java/lang/invoke/MethodHandle" ∧ q.1.cls ≠ "java/lang/invoke/VarHandle") ∧ Cond.instantiable q.1.cls q.2 ∈ tables_1 ∧ Cond.privateMethod q.1 ∈ tables_1 ∧ Cond.instanceMethod q.1 ∈ tables_1
set_option maxRecDepth 100000
theorem lw_t1 {w : Cond} (h : w ∈ tables_1_1) : w ∈ tables_1 := List.mem_append_left _ h
theorem lw_t2 {w : Cond} (h : w ∈ tables_1_2) : w ∈ tables_1 := List.mem_append_right _ (List.mem_append_left _ h)
theorem lw_t3 {w : Cond} (h : w ∈ tables_1_3) : w ∈ tables_1 := List.mem_append_right _ (List.mem_append_right _ (List.mem_append_left _ h))
theorem lw_t4 {w : Cond} (h : w ∈ tables_1_4) : w ∈ tables_1 := List.mem_append_right _ (List.mem_append_right _ (List.mem_append_right _ (List.mem_append_left _ h)))
theorem lw_t5 {w : Cond} (h : w ∈ tables_1_5) : w ∈ tables_1 := List.mem_append_right _ (List.mem_append_right _ (List.mem_append_right _ (List.mem_append_right _ (List.mem_append_left _ h))))
theorem lw_t6 {w : Cond} (h : w ∈ tables_1_6) : w ∈ tables_1 := List.mem_append_right _ (List.mem_append_right _ (List.mem_append_right _ (List.mem_append_right _ (List.mem_append_right _ (List.mem_append_left _ h)))))
theorem lw_t7 {w : Cond} (h : w ∈ tables_1_7) : w ∈ tables_1 := List.mem_append_right _ (List.mem_append_right _ (List.mem_append_right _ (List.mem_append_right _ (List.mem_append_right _ (List.mem_append_right _ (List.mem_append_left _ h))))))
theorem lw_t8 {w : Cond} (h : w ∈ tables_1_8) : w ∈ tables_1 := List.mem_append_right _ (List.mem_append_right _ (List.mem_append_right _ (List.mem_append_right _ (List.mem_append_right _ (List.mem_append_right _ (List.mem_append_right _ (List.mem_append_left _ h)))))))
theorem lw_t9 {w : Cond} (h : w ∈ tables_1_9) : w ∈ tables_1 := List.mem_append_right _ (List.mem_append_right _ (List.mem_append_right _ (List.mem_append_right _ (List.mem_append_right _ (List.mem_append_right _ (List.mem_append_right _ (List.mem_append_right _ (List.mem_append_left _ h))))))))
theorem lw_t10 {w : Cond} (h : w ∈ tables_1_10) : w ∈ tables_1 := List.mem_append_right _ (List.mem_append_right _ (List.mem_append_right _ (List.mem_append_right _ (List.mem_append_right _ (List.mem_append_right _ (List.mem_append_right _ (List.mem_append_right _ (List.mem_append_right _ h))))))))
theorem lw_p0 : lw_okq (⟨"java/util/ArrayList", "add", "(Ljava/lang/Object;[Ljava/lang/Object;I)V"⟩, 3) := ⟨⟨by decide +kernel, by decide +kernel⟩, lw_t1 (List.mem_of_getElem? (i := 65) rfl), lw_t1 (List.mem_of_getElem? (i := 239) rfl), lw_t2 (List.mem_of_getElem? (i := 0) rfl)⟩
theorem lw_p1 : lw_okq (⟨"java/util/ArrayList", "grow", "()[Ljava/lang/Object;"⟩, 3) := ⟨⟨by decide +kernel, by decide +kernel⟩, lw_t1 (List.mem_of_getElem? (i := 65) rfl), lw_t2 (List.mem_of_getElem? (i := 3) rfl), lw_t2 (List.mem_of_getElem? (i := 4) rfl)⟩
theorem lw_p2 : lw_okq (⟨"java/util/ArrayList", "grow", "(I)[Ljava/lang/Object;"⟩, 3) := ⟨⟨by decide +kernel, by decide +kernel⟩, lw_t1 (List.mem_of_getElem? (i := 65) rfl), lw_t2 (List.mem_of_getElem? (i := 7) rfl), lw_t2 (List.mem_of_getElem? (i := 8) rfl)⟩
theorem lw_p3 : lw_okq (⟨"java/lang/Throwable", "fillInStackTrace", "(I)Ljava/lang/Throwable;"⟩, 6) := ⟨⟨by decide +kernel, by decide +kernel⟩, lw_t2 (List.mem_of_getElem? (i := 165) rfl), lw_t2 (List.mem_of_getElem? (i := 163) rfl), lw_t2 (List.mem_of_getElem? (i := 164) rfl)⟩
theorem lw_p4 : lw_okq (⟨"RobotAisles$Reader", "row", "(I)I"⟩, 4) := ⟨⟨by decide +kernel, by decide +kernel⟩, lw_t2 (List.mem_of_getElem? (i := 200) rfl), lw_t2 (List.mem_of_getElem? (i := 223) rfl), lw_t2 (List.mem_of_getElem? (i := 224) rfl)⟩
theorem lw_p5 : lw_okq (⟨"RobotAisles$Reader", "kindHere", "()I"⟩, 4) := ⟨⟨by decide +kernel, by decide +kernel⟩, lw_t2 (List.mem_of_getElem? (i := 200) rfl), lw_t2 (List.mem_of_getElem? (i := 227) rfl), lw_t2 (List.mem_of_getElem? (i := 228) rfl)⟩
theorem lw_p6 : lw_okq (⟨"RobotAisles$Reader", "must", "(Z)V"⟩, 4) := ⟨⟨by decide +kernel, by decide +kernel⟩, lw_t2 (List.mem_of_getElem? (i := 200) rfl), lw_t3 (List.mem_of_getElem? (i := 74) rfl), lw_t3 (List.mem_of_getElem? (i := 75) rfl)⟩
theorem lw_p7 : lw_okq (⟨"RobotAisles", "come", "(LRobotAisles$Core;I)I"⟩, 8) := ⟨⟨by decide +kernel, by decide +kernel⟩, lw_t1 (List.mem_of_getElem? (i := 51) rfl), lw_t3 (List.mem_of_getElem? (i := 111) rfl), lw_t3 (List.mem_of_getElem? (i := 112) rfl)⟩
theorem lw_p8 : lw_okq (⟨"java/util/ArrayList", "fastRemove", "([Ljava/lang/Object;I)V"⟩, 3) := ⟨⟨by decide +kernel, by decide +kernel⟩, lw_t1 (List.mem_of_getElem? (i := 65) rfl), lw_t3 (List.mem_of_getElem? (i := 119) rfl), lw_t3 (List.mem_of_getElem? (i := 120) rfl)⟩
theorem lw_p9 : lw_okq (⟨"RobotAisles$Core", "refuseOccupied", "(II)V"⟩, 8) := ⟨⟨by decide +kernel, by decide +kernel⟩, lw_t1 (List.mem_of_getElem? (i := 59) rfl), lw_t3 (List.mem_of_getElem? (i := 198) rfl), lw_t3 (List.mem_of_getElem? (i := 199) rfl)⟩
theorem lw_p10 : lw_okq (⟨"RobotAisles", "keep", "(LRobotAisles$RefusedException;)Ljava/lang/UnsupportedOperationException;"⟩, 8) := ⟨⟨by decide +kernel, by decide +kernel⟩, lw_t1 (List.mem_of_getElem? (i := 51) rfl), lw_t3 (List.mem_of_getElem? (i := 216) rfl), lw_t3 (List.mem_of_getElem? (i := 217) rfl)⟩
theorem lw_p11 : lw_okq (⟨"RobotAisles$Planner", "isReached", "(II)Z"⟩, 7) := ⟨⟨by decide +kernel, by decide +kernel⟩, lw_t4 (List.mem_of_getElem? (i := 117) rfl), lw_t4 (List.mem_of_getElem? (i := 159) rfl), lw_t4 (List.mem_of_getElem? (i := 160) rfl)⟩
theorem lw_p12 : lw_okq (⟨"RobotAisles$Planner", "cellBy", "(II)I"⟩, 7) := ⟨⟨by decide +kernel, by decide +kernel⟩, lw_t4 (List.mem_of_getElem? (i := 117) rfl), lw_t4 (List.mem_of_getElem? (i := 163) rfl), lw_t4 (List.mem_of_getElem? (i := 164) rfl)⟩
theorem lw_p13 : lw_okq (⟨"RobotAisles$Planner", "isEnd", "(II)Z"⟩, 7) := ⟨⟨by decide +kernel, by decide +kernel⟩, lw_t4 (List.mem_of_getElem? (i := 117) rfl), lw_t4 (List.mem_of_getElem? (i := 171) rfl), lw_t4 (List.mem_of_getElem? (i := 172) rfl)⟩
theorem lw_p14 : lw_okq (⟨"RobotAisles$Planner", "mayGo", "(III)Z"⟩, 7) := ⟨⟨by decide +kernel, by decide +kernel⟩, lw_t4 (List.mem_of_getElem? (i := 117) rfl), lw_t4 (List.mem_of_getElem? (i := 175) rfl), lw_t4 (List.mem_of_getElem? (i := 176) rfl)⟩
theorem lw_p15 : lw_okq (⟨"RobotAisles$Planner", "robotAt", "(II)I"⟩, 7) := ⟨⟨by decide +kernel, by decide +kernel⟩, lw_t4 (List.mem_of_getElem? (i := 117) rfl), lw_t4 (List.mem_of_getElem? (i := 179) rfl), lw_t4 (List.mem_of_getElem? (i := 180) rfl)⟩
def lw_privs_1 : List (MethodName × Nat) := [(⟨"java/util/ArrayList", "add", "(Ljava/lang/Object;[Ljava/lang/Object;I)V"⟩, 3), (⟨"java/util/ArrayList", "grow", "()[Ljava/lang/Object;"⟩, 3), (⟨"java/util/ArrayList", "grow", "(I)[Ljava/lang/Object;"⟩, 3), (⟨"java/lang/Throwable", "fillInStackTrace", "(I)Ljava/lang/Throwable;"⟩, 6), (⟨"RobotAisles$Reader", "row", "(I)I"⟩, 4), (⟨"RobotAisles$Reader", "kindHere", "()I"⟩, 4), (⟨"RobotAisles$Reader", "must", "(Z)V"⟩, 4), (⟨"RobotAisles", "come", "(LRobotAisles$Core;I)I"⟩, 8), (⟨"java/util/ArrayList", "fastRemove", "([Ljava/lang/Object;I)V"⟩, 3), (⟨"RobotAisles$Core", "refuseOccupied", "(II)V"⟩, 8), (⟨"RobotAisles", "keep", "(LRobotAisles$RefusedException;)Ljava/lang/UnsupportedOperationException;"⟩, 8), (⟨"RobotAisles$Planner", "isReached", "(II)Z"⟩, 7), (⟨"RobotAisles$Planner", "cellBy", "(II)I"⟩, 7), (⟨"RobotAisles$Planner", "isEnd", "(II)Z"⟩, 7), (⟨"RobotAisles$Planner", "mayGo", "(III)Z"⟩, 7), (⟨"RobotAisles$Planner", "robotAt", "(II)I"⟩, 7)]
theorem lw_r1 : ∀ q ∈ lw_privs_1, lw_okq q := List.forall_mem_cons.mpr ⟨lw_p0, List.forall_mem_cons.mpr ⟨lw_p1, List.forall_mem_cons.mpr ⟨lw_p2, List.forall_mem_cons.mpr ⟨lw_p3, List.forall_mem_cons.mpr ⟨lw_p4, List.forall_mem_cons.mpr ⟨lw_p5, List.forall_mem_cons.mpr ⟨lw_p6, List.forall_mem_cons.mpr ⟨lw_p7, List.forall_mem_cons.mpr ⟨lw_p8, List.forall_mem_cons.mpr ⟨lw_p9, List.forall_mem_cons.mpr ⟨lw_p10, List.forall_mem_cons.mpr ⟨lw_p11, List.forall_mem_cons.mpr ⟨lw_p12, List.forall_mem_cons.mpr ⟨lw_p13, List.forall_mem_cons.mpr ⟨lw_p14, List.forall_mem_cons.mpr ⟨lw_p15, fun _ h => absurd h List.not_mem_nil⟩⟩⟩⟩⟩⟩⟩⟩⟩⟩⟩⟩⟩⟩⟩⟩
theorem lw_p16 : lw_okq (⟨"RobotAisles$Planner", "mayStay", "(I)Z"⟩, 7) := ⟨⟨by decide +kernel, by decide +kernel⟩, lw_t4 (List.mem_of_getElem? (i := 117) rfl), lw_t4 (List.mem_of_getElem? (i := 183) rfl), lw_t4 (List.mem_of_getElem? (i := 184) rfl)⟩
theorem lw_p17 : lw_okq (⟨"RobotAisles$Planner", "isBeside", "(II)Z"⟩, 7) := ⟨⟨by decide +kernel, by decide +kernel⟩, lw_t4 (List.mem_of_getElem? (i := 117) rfl), lw_t4 (List.mem_of_getElem? (i := 187) rfl), lw_t4 (List.mem_of_getElem? (i := 188) rfl)⟩
theorem lw_p18 : lw_okq (⟨"RobotAisles$Planner", "nextFrom", "(IIJ)I"⟩, 7) := ⟨⟨by decide +kernel, by decide +kernel⟩, lw_t4 (List.mem_of_getElem? (i := 117) rfl), lw_t4 (List.mem_of_getElem? (i := 191) rfl), lw_t4 (List.mem_of_getElem? (i := 192) rfl)⟩
theorem lw_p19 : lw_okq (⟨"RobotAisles$Core", "tick", "()I"⟩, 8) := ⟨⟨by decide +kernel, by decide +kernel⟩, lw_t1 (List.mem_of_getElem? (i := 59) rfl), lw_t4 (List.mem_of_getElem? (i := 228) rfl), lw_t4 (List.mem_of_getElem? (i := 229) rfl)⟩
theorem lw_p20 : lw_okq (⟨"RobotAisles$Core", "arrive", "(LRobotAisles$Robot;)I"⟩, 8) := ⟨⟨by decide +kernel, by decide +kernel⟩, lw_t1 (List.mem_of_getElem? (i := 59) rfl), lw_t5 (List.mem_of_getElem? (i := 1) rfl), lw_t5 (List.mem_of_getElem? (i := 2) rfl)⟩
theorem lw_p21 : lw_okq (⟨"RobotAisles", "requireCell", "(I)V"⟩, 8) := ⟨⟨by decide +kernel, by decide +kernel⟩, lw_t1 (List.mem_of_getElem? (i := 51) rfl), lw_t5 (List.mem_of_getElem? (i := 44) rfl), lw_t5 (List.mem_of_getElem? (i := 45) rfl)⟩
theorem lw_p22 : lw_okq (⟨"RobotAisles", "neighbors", "(I)I"⟩, 8) := ⟨⟨by decide +kernel, by decide +kernel⟩, lw_t1 (List.mem_of_getElem? (i := 51) rfl), lw_t5 (List.mem_of_getElem? (i := 72) rfl), lw_t5 (List.mem_of_getElem? (i := 73) rfl)⟩
theorem lw_p23 : lw_okq (⟨"RobotAisles", "distancesFrom", "(I)[I"⟩, 8) := ⟨⟨by decide +kernel, by decide +kernel⟩, lw_t1 (List.mem_of_getElem? (i := 51) rfl), lw_t5 (List.mem_of_getElem? (i := 112) rfl), lw_t5 (List.mem_of_getElem? (i := 113) rfl)⟩
theorem lw_p24 : lw_okq (⟨"RobotAisles", "getRobot", "(I)LRobotAisles$Robot;"⟩, 8) := ⟨⟨by decide +kernel, by decide +kernel⟩, lw_t1 (List.mem_of_getElem? (i := 51) rfl), lw_t5 (List.mem_of_getElem? (i := 165) rfl), lw_t5 (List.mem_of_getElem? (i := 166) rfl)⟩
theorem lw_p25 : lw_okq (⟨"RobotAisles", "arrival", "(IIZ)I"⟩, 8) := ⟨⟨by decide +kernel, by decide +kernel⟩, lw_t1 (List.mem_of_getElem? (i := 51) rfl), lw_t5 (List.mem_of_getElem? (i := 197) rfl), lw_t5 (List.mem_of_getElem? (i := 198) rfl)⟩
theorem lw_p26 : lw_okq (⟨"java/util/PriorityQueue", "grow", "(I)V"⟩, 4) := ⟨⟨by decide +kernel, by decide +kernel⟩, lw_t5 (List.mem_of_getElem? (i := 208) rfl), lw_t6 (List.mem_of_getElem? (i := 25) rfl), lw_t6 (List.mem_of_getElem? (i := 26) rfl)⟩
theorem lw_p27 : lw_okq (⟨"java/util/PriorityQueue", "siftUp", "(ILjava/lang/Object;)V"⟩, 4) := ⟨⟨by decide +kernel, by decide +kernel⟩, lw_t5 (List.mem_of_getElem? (i := 208) rfl), lw_t6 (List.mem_of_getElem? (i := 31) rfl), lw_t6 (List.mem_of_getElem? (i := 32) rfl)⟩
theorem lw_p28 : lw_okq (⟨"RobotAisles", "getOrder", "(I)LRobotAisles$Order;"⟩, 8) := ⟨⟨by decide +kernel, by decide +kernel⟩, lw_t1 (List.mem_of_getElem? (i := 51) rfl), lw_t7 (List.mem_of_getElem? (i := 34) rfl), lw_t7 (List.mem_of_getElem? (i := 35) rfl)⟩
theorem lw_p29 : lw_okq (⟨"RobotAisles", "robotWith", "(I)I"⟩, 8) := ⟨⟨by decide +kernel, by decide +kernel⟩, lw_t1 (List.mem_of_getElem? (i := 51) rfl), lw_t7 (List.mem_of_getElem? (i := 40) rfl), lw_t7 (List.mem_of_getElem? (i := 41) rfl)⟩
theorem lw_p30 : lw_okq (⟨"java/util/TreeMap", "put", "(Ljava/lang/Object;Ljava/lang/Object;Z)Ljava/lang/Object;"⟩, 9) := ⟨⟨by decide +kernel, by decide +kernel⟩, lw_t7 (List.mem_of_getElem? (i := 63) rfl), lw_t7 (List.mem_of_getElem? (i := 122) rfl), lw_t7 (List.mem_of_getElem? (i := 123) rfl)⟩
theorem lw_p31 : lw_okq (⟨"java/util/TreeMap", "addEntryToEmptyMap", "(Ljava/lang/Object;Ljava/lang/Object;)V"⟩, 9) := ⟨⟨by decide +kernel, by decide +kernel⟩, lw_t7 (List.mem_of_getElem? (i := 63) rfl), lw_t7 (List.mem_of_getElem? (i := 126) rfl), lw_t7 (List.mem_of_getElem? (i := 127) rfl)⟩
def lw_privs_2 : List (MethodName × Nat) := [(⟨"RobotAisles$Planner", "mayStay", "(I)Z"⟩, 7), (⟨"RobotAisles$Planner", "isBeside", "(II)Z"⟩, 7), (⟨"RobotAisles$Planner", "nextFrom", "(IIJ)I"⟩, 7), (⟨"RobotAisles$Core", "tick", "()I"⟩, 8), (⟨"RobotAisles$Core", "arrive", "(LRobotAisles$Robot;)I"⟩, 8), (⟨"RobotAisles", "requireCell", "(I)V"⟩, 8), (⟨"RobotAisles", "neighbors", "(I)I"⟩, 8), (⟨"RobotAisles", "distancesFrom", "(I)[I"⟩, 8), (⟨"RobotAisles", "getRobot", "(I)LRobotAisles$Robot;"⟩, 8), (⟨"RobotAisles", "arrival", "(IIZ)I"⟩, 8), (⟨"java/util/PriorityQueue", "grow", "(I)V"⟩, 4), (⟨"java/util/PriorityQueue", "siftUp", "(ILjava/lang/Object;)V"⟩, 4), (⟨"RobotAisles", "getOrder", "(I)LRobotAisles$Order;"⟩, 8), (⟨"RobotAisles", "robotWith", "(I)I"⟩, 8), (⟨"java/util/TreeMap", "put", "(Ljava/lang/Object;Ljava/lang/Object;Z)Ljava/lang/Object;"⟩, 9), (⟨"java/util/TreeMap", "addEntryToEmptyMap", "(Ljava/lang/Object;Ljava/lang/Object;)V"⟩, 9)]
theorem lw_r2 : ∀ q ∈ lw_privs_2, lw_okq q := List.forall_mem_cons.mpr ⟨lw_p16, List.forall_mem_cons.mpr ⟨lw_p17, List.forall_mem_cons.mpr ⟨lw_p18, List.forall_mem_cons.mpr ⟨lw_p19, List.forall_mem_cons.mpr ⟨lw_p20, List.forall_mem_cons.mpr ⟨lw_p21, List.forall_mem_cons.mpr ⟨lw_p22, List.forall_mem_cons.mpr ⟨lw_p23, List.forall_mem_cons.mpr ⟨lw_p24, List.forall_mem_cons.mpr ⟨lw_p25, List.forall_mem_cons.mpr ⟨lw_p26, List.forall_mem_cons.mpr ⟨lw_p27, List.forall_mem_cons.mpr ⟨lw_p28, List.forall_mem_cons.mpr ⟨lw_p29, List.forall_mem_cons.mpr ⟨lw_p30, List.forall_mem_cons.mpr ⟨lw_p31, fun _ h => absurd h List.not_mem_nil⟩⟩⟩⟩⟩⟩⟩⟩⟩⟩⟩⟩⟩⟩⟩⟩
theorem lw_p32 : lw_okq (⟨"java/util/TreeMap", "addEntry", "(Ljava/lang/Object;Ljava/lang/Object;Ljava/util/TreeMap$Entry;Z)V"⟩, 9) := ⟨⟨by decide +kernel, by decide +kernel⟩, lw_t7 (List.mem_of_getElem? (i := 63) rfl), lw_t7 (List.mem_of_getElem? (i := 172) rfl), lw_t7 (List.mem_of_getElem? (i := 173) rfl)⟩
theorem lw_p33 : lw_okq (⟨"java/util/TreeMap", "fixAfterInsertion", "(Ljava/util/TreeMap$Entry;)V"⟩, 9) := ⟨⟨by decide +kernel, by decide +kernel⟩, lw_t7 (List.mem_of_getElem? (i := 63) rfl), lw_t7 (List.mem_of_getElem? (i := 176) rfl), lw_t7 (List.mem_of_getElem? (i := 177) rfl)⟩
theorem lw_p34 : lw_okq (⟨"java/util/TreeMap", "rotateLeft", "(Ljava/util/TreeMap$Entry;)V"⟩, 9) := ⟨⟨by decide +kernel, by decide +kernel⟩, lw_t7 (List.mem_of_getElem? (i := 63) rfl), lw_t7 (List.mem_of_getElem? (i := 195) rfl), lw_t7 (List.mem_of_getElem? (i := 196) rfl)⟩
theorem lw_p35 : lw_okq (⟨"java/util/TreeMap", "rotateRight", "(Ljava/util/TreeMap$Entry;)V"⟩, 9) := ⟨⟨by decide +kernel, by decide +kernel⟩, lw_t7 (List.mem_of_getElem? (i := 63) rfl), lw_t7 (List.mem_of_getElem? (i := 199) rfl), lw_t7 (List.mem_of_getElem? (i := 200) rfl)⟩
theorem lw_p36 : lw_okq (⟨"RobotAisles", "toStation", "(I)I"⟩, 8) := ⟨⟨by decide +kernel, by decide +kernel⟩, lw_t1 (List.mem_of_getElem? (i := 51) rfl), lw_t8 (List.mem_of_getElem? (i := 85) rfl), lw_t8 (List.mem_of_getElem? (i := 86) rfl)⟩
theorem lw_p37 : lw_okq (⟨"RobotAisles", "inState", "(I)I"⟩, 8) := ⟨⟨by decide +kernel, by decide +kernel⟩, lw_t1 (List.mem_of_getElem? (i := 51) rfl), lw_t8 (List.mem_of_getElem? (i := 125) rfl), lw_t8 (List.mem_of_getElem? (i := 126) rfl)⟩
theorem lw_p38 : lw_okq (⟨"RobotAisles", "sumOverRobots", "(Z)I"⟩, 8) := ⟨⟨by decide +kernel, by decide +kernel⟩, lw_t1 (List.mem_of_getElem? (i := 51) rfl), lw_t8 (List.mem_of_getElem? (i := 144) rfl), lw_t8 (List.mem_of_getElem? (i := 145) rfl)⟩
theorem lw_p39 : lw_okq (⟨"RobotAisles", "picked", "()I"⟩, 8) := ⟨⟨by decide +kernel, by decide +kernel⟩, lw_t1 (List.mem_of_getElem? (i := 51) rfl), lw_t8 (List.mem_of_getElem? (i := 148) rfl), lw_t8 (List.mem_of_getElem? (i := 149) rfl)⟩
theorem lw_p40 : lw_okq (⟨"RobotAislesModel", "isCell", "(I)Z"⟩, 20) := ⟨⟨by decide +kernel, by decide +kernel⟩, lw_t8 (List.mem_of_getElem? (i := 174) rfl), lw_t9 (List.mem_of_getElem? (i := 10) rfl), lw_t9 (List.mem_of_getElem? (i := 11) rfl)⟩
theorem lw_p41 : lw_okq (⟨"RobotAislesModel", "cells", "()I"⟩, 20) := ⟨⟨by decide +kernel, by decide +kernel⟩, lw_t8 (List.mem_of_getElem? (i := 174) rfl), lw_t9 (List.mem_of_getElem? (i := 14) rfl), lw_t9 (List.mem_of_getElem? (i := 15) rfl)⟩
theorem lw_p42 : lw_okq (⟨"RobotAislesModel", "refuse", "(II)I"⟩, 20) := ⟨⟨by decide +kernel, by decide +kernel⟩, lw_t8 (List.mem_of_getElem? (i := 174) rfl), lw_t9 (List.mem_of_getElem? (i := 21) rfl), lw_t9 (List.mem_of_getElem? (i := 22) rfl)⟩
theorem lw_p43 : lw_okq (⟨"RobotAislesModel", "canEnter", "(I)Z"⟩, 20) := ⟨⟨by decide +kernel, by decide +kernel⟩, lw_t8 (List.mem_of_getElem? (i := 174) rfl), lw_t9 (List.mem_of_getElem? (i := 25) rfl), lw_t9 (List.mem_of_getElem? (i := 26) rfl)⟩
theorem lw_p44 : lw_okq (⟨"RobotAislesModel", "willBe", "(III)I"⟩, 20) := ⟨⟨by decide +kernel, by decide +kernel⟩, lw_t8 (List.mem_of_getElem? (i := 174) rfl), lw_t9 (List.mem_of_getElem? (i := 29) rfl), lw_t9 (List.mem_of_getElem? (i := 30) rfl)⟩
theorem lw_p45 : lw_okq (⟨"RobotAislesModel", "cellOf", "(II)I"⟩, 20) := ⟨⟨by decide +kernel, by decide +kernel⟩, lw_t8 (List.mem_of_getElem? (i := 174) rfl), lw_t9 (List.mem_of_getElem? (i := 33) rfl), lw_t9 (List.mem_of_getElem? (i := 34) rfl)⟩
theorem lw_p46 : lw_okq (⟨"RobotAislesModel", "of", "(II)I"⟩, 20) := ⟨⟨by decide +kernel, by decide +kernel⟩, lw_t8 (List.mem_of_getElem? (i := 174) rfl), lw_t9 (List.mem_of_getElem? (i := 37) rfl), lw_t9 (List.mem_of_getElem? (i := 38) rfl)⟩
theorem lw_p47 : lw_okq (⟨"RobotAislesModel", "change", "()V"⟩, 20) := ⟨⟨by decide +kernel, by decide +kernel⟩, lw_t8 (List.mem_of_getElem? (i := 174) rfl), lw_t9 (List.mem_of_getElem? (i := 44) rfl), lw_t9 (List.mem_of_getElem? (i := 45) rfl)⟩
def lw_privs_3 : List (MethodName × Nat) := [(⟨"java/util/TreeMap", "addEntry", "(Ljava/lang/Object;Ljava/lang/Object;Ljava/util/TreeMap$Entry;Z)V"⟩, 9), (⟨"java/util/TreeMap", "fixAfterInsertion", "(Ljava/util/TreeMap$Entry;)V"⟩, 9), (⟨"java/util/TreeMap", "rotateLeft", "(Ljava/util/TreeMap$Entry;)V"⟩, 9), (⟨"java/util/TreeMap", "rotateRight", "(Ljava/util/TreeMap$Entry;)V"⟩, 9), (⟨"RobotAisles", "toStation", "(I)I"⟩, 8), (⟨"RobotAisles", "inState", "(I)I"⟩, 8), (⟨"RobotAisles", "sumOverRobots", "(Z)I"⟩, 8), (⟨"RobotAisles", "picked", "()I"⟩, 8), (⟨"RobotAislesModel", "isCell", "(I)Z"⟩, 20), (⟨"RobotAislesModel", "cells", "()I"⟩, 20), (⟨"RobotAislesModel", "refuse", "(II)I"⟩, 20), (⟨"RobotAislesModel", "canEnter", "(I)Z"⟩, 20), (⟨"RobotAislesModel", "willBe", "(III)I"⟩, 20), (⟨"RobotAislesModel", "cellOf", "(II)I"⟩, 20), (⟨"RobotAislesModel", "of", "(II)I"⟩, 20), (⟨"RobotAislesModel", "change", "()V"⟩, 20)]
theorem lw_r3 : ∀ q ∈ lw_privs_3, lw_okq q := List.forall_mem_cons.mpr ⟨lw_p32, List.forall_mem_cons.mpr ⟨lw_p33, List.forall_mem_cons.mpr ⟨lw_p34, List.forall_mem_cons.mpr ⟨lw_p35, List.forall_mem_cons.mpr ⟨lw_p36, List.forall_mem_cons.mpr ⟨lw_p37, List.forall_mem_cons.mpr ⟨lw_p38, List.forall_mem_cons.mpr ⟨lw_p39, List.forall_mem_cons.mpr ⟨lw_p40, List.forall_mem_cons.mpr ⟨lw_p41, List.forall_mem_cons.mpr ⟨lw_p42, List.forall_mem_cons.mpr ⟨lw_p43, List.forall_mem_cons.mpr ⟨lw_p44, List.forall_mem_cons.mpr ⟨lw_p45, List.forall_mem_cons.mpr ⟨lw_p46, List.forall_mem_cons.mpr ⟨lw_p47, fun _ h => absurd h List.not_mem_nil⟩⟩⟩⟩⟩⟩⟩⟩⟩⟩⟩⟩⟩⟩⟩⟩
theorem lw_p48 : lw_okq (⟨"RobotAislesModel", "isRobot", "(I)Z"⟩, 20) := ⟨⟨by decide +kernel, by decide +kernel⟩, lw_t8 (List.mem_of_getElem? (i := 174) rfl), lw_t9 (List.mem_of_getElem? (i := 53) rfl), lw_t9 (List.mem_of_getElem? (i := 54) rfl)⟩
theorem lw_p49 : lw_okq (⟨"RobotAislesModel", "isOrder", "(I)Z"⟩, 20) := ⟨⟨by decide +kernel, by decide +kernel⟩, lw_t8 (List.mem_of_getElem? (i := 174) rfl), lw_t9 (List.mem_of_getElem? (i := 68) rfl), lw_t9 (List.mem_of_getElem? (i := 69) rfl)⟩
theorem lw_p50 : lw_okq (⟨"RobotAislesModel", "stateOf", "(I)I"⟩, 20) := ⟨⟨by decide +kernel, by decide +kernel⟩, lw_t8 (List.mem_of_getElem? (i := 174) rfl), lw_t9 (List.mem_of_getElem? (i := 72) rfl), lw_t9 (List.mem_of_getElem? (i := 73) rfl)⟩
theorem lw_p51 : lw_okq (⟨"RobotAislesModel", "get", "(II)I"⟩, 20) := ⟨⟨by decide +kernel, by decide +kernel⟩, lw_t8 (List.mem_of_getElem? (i := 174) rfl), lw_t9 (List.mem_of_getElem? (i := 76) rfl), lw_t9 (List.mem_of_getElem? (i := 77) rfl)⟩
theorem lw_p52 : lw_okq (⟨"RobotAislesModel", "closedCells", "()I"⟩, 20) := ⟨⟨by decide +kernel, by decide +kernel⟩, lw_t8 (List.mem_of_getElem? (i := 174) rfl), lw_t9 (List.mem_of_getElem? (i := 88) rfl), lw_t9 (List.mem_of_getElem? (i := 89) rfl)⟩
theorem lw_p53 : lw_okq (⟨"RobotAislesModel", "fewest", "(II)I"⟩, 20) := ⟨⟨by decide +kernel, by decide +kernel⟩, lw_t8 (List.mem_of_getElem? (i := 174) rfl), lw_t9 (List.mem_of_getElem? (i := 107) rfl), lw_t9 (List.mem_of_getElem? (i := 108) rfl)⟩
theorem lw_p54 : lw_okq (⟨"RobotAislesModel", "findComing", "(I)V"⟩, 20) := ⟨⟨by decide +kernel, by decide +kernel⟩, lw_t8 (List.mem_of_getElem? (i := 174) rfl), lw_t9 (List.mem_of_getElem? (i := 111) rfl), lw_t9 (List.mem_of_getElem? (i := 112) rfl)⟩
theorem lw_p55 : lw_okq (⟨"RobotAislesModel", "beside", "(II)I"⟩, 20) := ⟨⟨by decide +kernel, by decide +kernel⟩, lw_t8 (List.mem_of_getElem? (i := 174) rfl), lw_t9 (List.mem_of_getElem? (i := 115) rfl), lw_t9 (List.mem_of_getElem? (i := 116) rfl)⟩
theorem lw_p56 : lw_okq (⟨"RobotAislesModel", "mayGo", "(IIII)Z"⟩, 20) := ⟨⟨by decide +kernel, by decide +kernel⟩, lw_t8 (List.mem_of_getElem? (i := 174) rfl), lw_t9 (List.mem_of_getElem? (i := 119) rfl), lw_t9 (List.mem_of_getElem? (i := 120) rfl)⟩
theorem lw_p57 : lw_okq (⟨"RobotAislesModel", "canEnd", "(III)Z"⟩, 20) := ⟨⟨by decide +kernel, by decide +kernel⟩, lw_t8 (List.mem_of_getElem? (i := 174) rfl), lw_t9 (List.mem_of_getElem? (i := 123) rfl), lw_t9 (List.mem_of_getElem? (i := 124) rfl)⟩
theorem lw_p58 : lw_okq (⟨"RobotAislesModel", "isLoaded", "(I)Z"⟩, 20) := ⟨⟨by decide +kernel, by decide +kernel⟩, lw_t8 (List.mem_of_getElem? (i := 174) rfl), lw_t9 (List.mem_of_getElem? (i := 127) rfl), lw_t9 (List.mem_of_getElem? (i := 128) rfl)⟩
theorem lw_p59 : lw_okq (⟨"RobotAislesModel", "findPath", "(III)I"⟩, 20) := ⟨⟨by decide +kernel, by decide +kernel⟩, lw_t8 (List.mem_of_getElem? (i := 174) rfl), lw_t9 (List.mem_of_getElem? (i := 131) rfl), lw_t9 (List.mem_of_getElem? (i := 132) rfl)⟩
theorem lw_p60 : lw_okq (⟨"RobotAislesModel", "findGoing", "(III)V"⟩, 20) := ⟨⟨by decide +kernel, by decide +kernel⟩, lw_t8 (List.mem_of_getElem? (i := 174) rfl), lw_t9 (List.mem_of_getElem? (i := 135) rfl), lw_t9 (List.mem_of_getElem? (i := 136) rfl)⟩
theorem lw_p61 : lw_okq (⟨"RobotAislesModel", "tick", "()I"⟩, 20) := ⟨⟨by decide +kernel, by decide +kernel⟩, lw_t8 (List.mem_of_getElem? (i := 174) rfl), lw_t9 (List.mem_of_getElem? (i := 147) rfl), lw_t9 (List.mem_of_getElem? (i := 148) rfl)⟩
theorem lw_p62 : lw_okq (⟨"RobotAislesModel", "ends", "(I)I"⟩, 20) := ⟨⟨by decide +kernel, by decide +kernel⟩, lw_t8 (List.mem_of_getElem? (i := 174) rfl), lw_t9 (List.mem_of_getElem? (i := 152) rfl), lw_t9 (List.mem_of_getElem? (i := 153) rfl)⟩
theorem lw_p63 : lw_okq (⟨"RobotAislesModel", "farOf", "(II)I"⟩, 20) := ⟨⟨by decide +kernel, by decide +kernel⟩, lw_t8 (List.mem_of_getElem? (i := 174) rfl), lw_t9 (List.mem_of_getElem? (i := 160) rfl), lw_t9 (List.mem_of_getElem? (i := 161) rfl)⟩
def lw_privs_4 : List (MethodName × Nat) := [(⟨"RobotAislesModel", "isRobot", "(I)Z"⟩, 20), (⟨"RobotAislesModel", "isOrder", "(I)Z"⟩, 20), (⟨"RobotAislesModel", "stateOf", "(I)I"⟩, 20), (⟨"RobotAislesModel", "get", "(II)I"⟩, 20), (⟨"RobotAislesModel", "closedCells", "()I"⟩, 20), (⟨"RobotAislesModel", "fewest", "(II)I"⟩, 20), (⟨"RobotAislesModel", "findComing", "(I)V"⟩, 20), (⟨"RobotAislesModel", "beside", "(II)I"⟩, 20), (⟨"RobotAislesModel", "mayGo", "(IIII)Z"⟩, 20), (⟨"RobotAislesModel", "canEnd", "(III)Z"⟩, 20), (⟨"RobotAislesModel", "isLoaded", "(I)Z"⟩, 20), (⟨"RobotAislesModel", "findPath", "(III)I"⟩, 20), (⟨"RobotAislesModel", "findGoing", "(III)V"⟩, 20), (⟨"RobotAislesModel", "tick", "()I"⟩, 20), (⟨"RobotAislesModel", "ends", "(I)I"⟩, 20), (⟨"RobotAislesModel", "farOf", "(II)I"⟩, 20)]
theorem lw_r4 : ∀ q ∈ lw_privs_4, lw_okq q := List.forall_mem_cons.mpr ⟨lw_p48, List.forall_mem_cons.mpr ⟨lw_p49, List.forall_mem_cons.mpr ⟨lw_p50, List.forall_mem_cons.mpr ⟨lw_p51, List.forall_mem_cons.mpr ⟨lw_p52, List.forall_mem_cons.mpr ⟨lw_p53, List.forall_mem_cons.mpr ⟨lw_p54, List.forall_mem_cons.mpr ⟨lw_p55, List.forall_mem_cons.mpr ⟨lw_p56, List.forall_mem_cons.mpr ⟨lw_p57, List.forall_mem_cons.mpr ⟨lw_p58, List.forall_mem_cons.mpr ⟨lw_p59, List.forall_mem_cons.mpr ⟨lw_p60, List.forall_mem_cons.mpr ⟨lw_p61, List.forall_mem_cons.mpr ⟨lw_p62, List.forall_mem_cons.mpr ⟨lw_p63, fun _ h => absurd h List.not_mem_nil⟩⟩⟩⟩⟩⟩⟩⟩⟩⟩⟩⟩⟩⟩⟩⟩
theorem lw_p64 : lw_okq (⟨"RobotAislesModel", "findFar", "(I)V"⟩, 20) := ⟨⟨by decide +kernel, by decide +kernel⟩, lw_t8 (List.mem_of_getElem? (i := 174) rfl), lw_t9 (List.mem_of_getElem? (i := 164) rfl), lw_t9 (List.mem_of_getElem? (i := 165) rfl)⟩
theorem lw_p65 : lw_okq (⟨"RobotAislesModel", "robotIn", "(II)I"⟩, 20) := ⟨⟨by decide +kernel, by decide +kernel⟩, lw_t8 (List.mem_of_getElem? (i := 174) rfl), lw_t9 (List.mem_of_getElem? (i := 184) rfl), lw_t9 (List.mem_of_getElem? (i := 185) rfl)⟩
theorem lw_p66 : lw_okq (⟨"RobotAislesModel", "isAhead", "(II)Z"⟩, 20) := ⟨⟨by decide +kernel, by decide +kernel⟩, lw_t8 (List.mem_of_getElem? (i := 174) rfl), lw_t9 (List.mem_of_getElem? (i := 227) rfl), lw_t9 (List.mem_of_getElem? (i := 228) rfl)⟩
theorem lw_p67 : lw_okq (⟨"RobotAislesModel", "overOrders", "(I)I"⟩, 20) := ⟨⟨by decide +kernel, by decide +kernel⟩, lw_t8 (List.mem_of_getElem? (i := 174) rfl), lw_t10 (List.mem_of_getElem? (i := 15) rfl), lw_t10 (List.mem_of_getElem? (i := 16) rfl)⟩
theorem lw_p68 : lw_okq (⟨"RobotAislesModel", "overRobots", "(I)I"⟩, 20) := ⟨⟨by decide +kernel, by decide +kernel⟩, lw_t8 (List.mem_of_getElem? (i := 174) rfl), lw_t10 (List.mem_of_getElem? (i := 19) rfl), lw_t10 (List.mem_of_getElem? (i := 20) rfl)⟩
theorem lw_p69 : lw_okq (⟨"RobotAislesModel", "wrongPlace", "()I"⟩, 20) := ⟨⟨by decide +kernel, by decide +kernel⟩, lw_t8 (List.mem_of_getElem? (i := 174) rfl), lw_t10 (List.mem_of_getElem? (i := 31) rfl), lw_t10 (List.mem_of_getElem? (i := 32) rfl)⟩
def lw_privs_5 : List (MethodName × Nat) := [(⟨"RobotAislesModel", "findFar", "(I)V"⟩, 20), (⟨"RobotAislesModel", "robotIn", "(II)I"⟩, 20), (⟨"RobotAislesModel", "isAhead", "(II)Z"⟩, 20), (⟨"RobotAislesModel", "overOrders", "(I)I"⟩, 20), (⟨"RobotAislesModel", "overRobots", "(I)I"⟩, 20), (⟨"RobotAislesModel", "wrongPlace", "()I"⟩, 20)]
theorem lw_r5 : ∀ q ∈ lw_privs_5, lw_okq q := List.forall_mem_cons.mpr ⟨lw_p64, List.forall_mem_cons.mpr ⟨lw_p65, List.forall_mem_cons.mpr ⟨lw_p66, List.forall_mem_cons.mpr ⟨lw_p67, List.forall_mem_cons.mpr ⟨lw_p68, List.forall_mem_cons.mpr ⟨lw_p69, fun _ h => absurd h List.not_mem_nil⟩⟩⟩⟩⟩⟩
def lw_privs : List (MethodName × Nat) := lw_privs_1 ++ (lw_privs_2 ++ (lw_privs_3 ++ (lw_privs_4 ++ (lw_privs_5))))
def lw_tbl : List Cond := k2_sels lw_privs ++ tables_1
theorem lw_privs_ok : ∀ q ∈ lw_privs, lw_okq q := by
  show ∀ q ∈ lw_privs_1 ++ (lw_privs_2 ++ (lw_privs_3 ++ (lw_privs_4 ++ (lw_privs_5)))), lw_okq q
  exact List.forall_mem_append.mpr ⟨lw_r1, List.forall_mem_append.mpr ⟨lw_r2, List.forall_mem_append.mpr ⟨lw_r3, List.forall_mem_append.mpr ⟨lw_r4, lw_r5⟩⟩⟩⟩
-- ===== ONE list of words for every method: the tables' words that hold all through a run =====
def lw_all : List Cond := lw_tbl.filter goodWord
/-- a word of the tables by its place: claim/WORDS.tsv -/
theorem lw_w {w : Cond} (i : Nat) (h : lw_tbl[i]? = some w) (g : goodWord w = true) : w ∈ lw_all := List.mem_filter.mpr ⟨List.mem_of_getElem? h, g⟩
theorem lw_all_tbl {w : Cond} (h : w ∈ lw_all) : w ∈ lw_tbl := (List.mem_filter.mp h).1
theorem lw_self : GoodIn lw_all lw_all := fun w h => ⟨h, good_of_word (List.mem_filter.mp h).2⟩
/-- a class's field words, by their places -/
theorem lw_in (ws : List Cond) (ps : List Nat) (hp : ws = ps.filterMap (fun i => lw_tbl[i]?)) (hg : ws.all goodWord = true) : ∀ w ∈ ws, w ∈ lw_all := by
  intro w h
  have h1 := List.all_eq_true.mp hg w h
  rw [hp] at h
  obtain ⟨i, -, hi⟩ := List.mem_filterMap.mp h
  exact lw_w i hi h1
/-- the words of a contract for the method y with code b, L locals, answer r -/
abbrev ws_ (y : MethodName) (b : ByteArray) (L : Nat) (r : Option FieldType) : List Cond := Cond.code y b L r :: lw_all
theorem lw_meth {y : MethodName} {b : ByteArray} {L : Nat} {r : Option FieldType} (h : Cond.code y b L r ∈ lw_all) : GoodIn lw_all (ws_ y b L r) := by
  intro w hw
  rcases List.mem_cons.mp hw with e | e
  · rw [e]
    exact lw_self _ h
  · exact lw_self _ e
theorem lw_app {a c : List Cond} (ha : ∀ w ∈ a, w ∈ lw_all) (hc : GoodIn lw_all c) : GoodIn lw_all (a ++ c) := by
  intro w hw
  rcases List.mem_append.mp hw with e | e
  · exact lw_self w (ha w e)
  · exact hc w e
/-- what a call through an object asks: cwV n hts (lw_V ..) -/
theorem lw_V {own : String} {idx : Nat} {C : String} {y : MethodName} {b : ByteArray} {L : Nat} {r : Option FieldType} (h1 : Cond.methodLink own idx y ∈ lw_all) (h2 : Cond.instanceMethod y ∈ lw_all) (h3 : Cond.selects C y y ∈ lw_all) (h4 : Cond.initialized C ∈ lw_all) (h5 : Cond.code y b L r ∈ lw_all) : GoodIn lw_all (wsV own idx C y (ws_ y b L r)) := by
  refine lw_app ?_ (lw_meth h5)
  intro w hw
  simp only [List.mem_cons, List.not_mem_nil, or_false] at hw
  rcases hw with e | e | e | e
  · rw [e]; exact h1
  · rw [e]; exact h2
  · rw [e]; exact h3
  · rw [e]; exact h4
/-- what a static call asks: va_cwS n hts (lw_S ..) -/
theorem lw_S {own : String} {idx : Nat} {y : MethodName} {b : ByteArray} {L : Nat} {r : Option FieldType} (h1 : Cond.methodLink own idx y ∈ lw_all) (h2 : Cond.static y ∈ lw_all) (h3 : Cond.initialized y.cls ∈ lw_all) (h4 : Cond.code y b L r ∈ lw_all) : GoodIn lw_all (va_wsS own idx y (ws_ y b L r)) := by
  refine lw_app ?_ (lw_meth h4)
  intro w hw
  simp only [List.mem_cons, List.not_mem_nil, or_false] at hw
  rcases hw with e | e | e
  · rw [e]; exact h1
  · rw [e]; exact h2
  · rw [e]; exact h3
/-- the words of a contract for a method WITH HANDLERS (hh: its table) -/
abbrev wsW_ (y : MethodName) (b : ByteArray) (L : Nat) (r : Option FieldType) (hh : List (Nat × Nat × Nat × Nat)) : List Cond := Cond.codeWith y b L r hh :: lw_all
theorem lw_methW {y : MethodName} {b : ByteArray} {L : Nat} {r : Option FieldType} {hh : List (Nat × Nat × Nat × Nat)} (h : Cond.codeWith y b L r hh ∈ lw_all) : GoodIn lw_all (wsW_ y b L r hh) := by
  intro w hw
  rcases List.mem_cons.mp hw with e | e
  · rw [e]
    exact lw_self _ h
  · exact lw_self _ e
/-- any list of words by their places (lw_in), good -/
theorem lw_good {ws : List Cond} (h : ∀ w ∈ ws, w ∈ lw_all) : GoodIn lw_all ws := fun w hw => lw_self w (h w hw)
/-- what a call of a method with handlers asks: vx_cwVW n hts (lw_VW ..), vx_cwSW n hts (lw_SW ..) -/
theorem lw_VW {own : String} {idx : Nat} {C : String} {y : MethodName} {b : ByteArray} {L : Nat} {r : Option FieldType} {hh : List (Nat × Nat × Nat × Nat)} (h1 : Cond.methodLink own idx y ∈ lw_all) (h2 : Cond.instanceMethod y ∈ lw_all) (h3 : Cond.selects C y y ∈ lw_all) (h4 : Cond.initialized C ∈ lw_all) (h5 : Cond.codeWith y b L r hh ∈ lw_all) : GoodIn lw_all (wsV own idx C y (wsW_ y b L r hh)) := by
  refine lw_app ?_ (lw_methW h5)
  intro w hw
  simp only [List.mem_cons, List.not_mem_nil, or_false] at hw
  rcases hw with e | e | e | e
  · rw [e]; exact h1
  · rw [e]; exact h2
  · rw [e]; exact h3
  · rw [e]; exact h4
theorem lw_SW {own : String} {idx : Nat} {y : MethodName} {b : ByteArray} {L : Nat} {r : Option FieldType} {hh : List (Nat × Nat × Nat × Nat)} (h1 : Cond.methodLink own idx y ∈ lw_all) (h2 : Cond.static y ∈ lw_all) (h3 : Cond.initialized y.cls ∈ lw_all) (h4 : Cond.codeWith y b L r hh ∈ lw_all) : GoodIn lw_all (va_wsS own idx y (wsW_ y b L r hh)) := by
  refine lw_app ?_ (lw_methW h4)
  intro w hw
  simp only [List.mem_cons, List.not_mem_nil, or_false] at hw
  rcases hw with e | e | e
  · rw [e]; exact h1
  · rw [e]; exact h2
  · rw [e]; exact h3
/-- a word by its place in its run of the tables -/
theorem lw_at {r : List Cond} (hr : ∀ w ∈ r, w ∈ lw_tbl) {w : Cond} (i : Nat) (h : r[i]? = some w) : w ∈ lw_tbl := hr w (List.mem_of_getElem? h)
theorem lw_g {w : Cond} (h : w ∈ lw_tbl) (g : goodWord w = true) : w ∈ lw_all := List.mem_filter.mpr ⟨h, g⟩
theorem lw_ms : ∀ w ∈ k2_sels lw_privs, w ∈ lw_tbl := fun w h => show w ∈ k2_sels lw_privs ++ tables_1 from List.mem_append_left _ h
theorem lw_m1 : ∀ w ∈ tables_1_1, w ∈ lw_tbl := fun w h => show w ∈ k2_sels lw_privs ++ tables_1 from List.mem_append_right (k2_sels lw_privs) (show w ∈ tables_1 from List.mem_append_left _ h)
theorem lw_m2 : ∀ w ∈ tables_1_2, w ∈ lw_tbl := fun w h => show w ∈ k2_sels lw_privs ++ tables_1 from List.mem_append_right (k2_sels lw_privs) (show w ∈ tables_1 from List.mem_append_right _ (List.mem_append_left _ h))
theorem lw_m3 : ∀ w ∈ tables_1_3, w ∈ lw_tbl := fun w h => show w ∈ k2_sels lw_privs ++ tables_1 from List.mem_append_right (k2_sels lw_privs) (show w ∈ tables_1 from List.mem_append_right _ (List.mem_append_right _ (List.mem_append_left _ h)))
theorem lw_m4 : ∀ w ∈ tables_1_4, w ∈ lw_tbl := fun w h => show w ∈ k2_sels lw_privs ++ tables_1 from List.mem_append_right (k2_sels lw_privs) (show w ∈ tables_1 from List.mem_append_right _ (List.mem_append_right _ (List.mem_append_right _ (List.mem_append_left _ h))))
theorem lw_m5 : ∀ w ∈ tables_1_5, w ∈ lw_tbl := fun w h => show w ∈ k2_sels lw_privs ++ tables_1 from List.mem_append_right (k2_sels lw_privs) (show w ∈ tables_1 from List.mem_append_right _ (List.mem_append_right _ (List.mem_append_right _ (List.mem_append_right _ (List.mem_append_left _ h)))))
theorem lw_m6 : ∀ w ∈ tables_1_6, w ∈ lw_tbl := fun w h => show w ∈ k2_sels lw_privs ++ tables_1 from List.mem_append_right (k2_sels lw_privs) (show w ∈ tables_1 from List.mem_append_right _ (List.mem_append_right _ (List.mem_append_right _ (List.mem_append_right _ (List.mem_append_right _ (List.mem_append_left _ h))))))
theorem lw_m7 : ∀ w ∈ tables_1_7, w ∈ lw_tbl := fun w h => show w ∈ k2_sels lw_privs ++ tables_1 from List.mem_append_right (k2_sels lw_privs) (show w ∈ tables_1 from List.mem_append_right _ (List.mem_append_right _ (List.mem_append_right _ (List.mem_append_right _ (List.mem_append_right _ (List.mem_append_right _ (List.mem_append_left _ h)))))))
theorem lw_m8 : ∀ w ∈ tables_1_8, w ∈ lw_tbl := fun w h => show w ∈ k2_sels lw_privs ++ tables_1 from List.mem_append_right (k2_sels lw_privs) (show w ∈ tables_1 from List.mem_append_right _ (List.mem_append_right _ (List.mem_append_right _ (List.mem_append_right _ (List.mem_append_right _ (List.mem_append_right _ (List.mem_append_right _ (List.mem_append_left _ h))))))))
theorem lw_m9 : ∀ w ∈ tables_1_9, w ∈ lw_tbl := fun w h => show w ∈ k2_sels lw_privs ++ tables_1 from List.mem_append_right (k2_sels lw_privs) (show w ∈ tables_1 from List.mem_append_right _ (List.mem_append_right _ (List.mem_append_right _ (List.mem_append_right _ (List.mem_append_right _ (List.mem_append_right _ (List.mem_append_right _ (List.mem_append_right _ (List.mem_append_left _ h)))))))))
theorem lw_m10 : ∀ w ∈ tables_1_10, w ∈ lw_tbl := fun w h => show w ∈ k2_sels lw_privs ++ tables_1 from List.mem_append_right (k2_sels lw_privs) (show w ∈ tables_1 from List.mem_append_right _ (List.mem_append_right _ (List.mem_append_right _ (List.mem_append_right _ (List.mem_append_right _ (List.mem_append_right _ (List.mem_append_right _ (List.mem_append_right _ (List.mem_append_right _ h)))))))))
theorem qs0 : (Cond.selects "java/util/ArrayList" ⟨"java/util/ArrayList", "add", "(Ljava/lang/Object;[Ljava/lang/Object;I)V"⟩ ⟨"java/util/ArrayList", "add", "(Ljava/lang/Object;[Ljava/lang/Object;I)V"⟩) ∈ lw_all := lw_g (lw_at lw_ms 0 rfl) rfl
theorem qs1 : (Cond.selects "java/util/ArrayList" ⟨"java/util/ArrayList", "grow", "()[Ljava/lang/Object;"⟩ ⟨"java/util/ArrayList", "grow", "()[Ljava/lang/Object;"⟩) ∈ lw_all := lw_g (lw_at lw_ms 1 rfl) rfl
theorem qs2 : (Cond.selects "java/util/ArrayList" ⟨"java/util/ArrayList", "grow", "(I)[Ljava/lang/Object;"⟩ ⟨"java/util/ArrayList", "grow", "(I)[Ljava/lang/Object;"⟩) ∈ lw_all := lw_g (lw_at lw_ms 2 rfl) rfl
theorem qs3 : (Cond.selects "java/lang/Throwable" ⟨"java/lang/Throwable", "fillInStackTrace", "(I)Ljava/lang/Throwable;"⟩ ⟨"java/lang/Throwable", "fillInStackTrace", "(I)Ljava/lang/Throwable;"⟩) ∈ lw_all := lw_g (lw_at lw_ms 3 rfl) rfl
theorem qs4 : (Cond.selects "RobotAisles$Reader" ⟨"RobotAisles$Reader", "row", "(I)I"⟩ ⟨"RobotAisles$Reader", "row", "(I)I"⟩) ∈ lw_all := lw_g (lw_at lw_ms 4 rfl) rfl
theorem qs5 : (Cond.selects "RobotAisles$Reader" ⟨"RobotAisles$Reader", "kindHere", "()I"⟩ ⟨"RobotAisles$Reader", "kindHere", "()I"⟩) ∈ lw_all := lw_g (lw_at lw_ms 5 rfl) rfl
theorem qs6 : (Cond.selects "RobotAisles$Reader" ⟨"RobotAisles$Reader", "must", "(Z)V"⟩ ⟨"RobotAisles$Reader", "must", "(Z)V"⟩) ∈ lw_all := lw_g (lw_at lw_ms 6 rfl) rfl
theorem qs7 : (Cond.selects "RobotAisles" ⟨"RobotAisles", "come", "(LRobotAisles$Core;I)I"⟩ ⟨"RobotAisles", "come", "(LRobotAisles$Core;I)I"⟩) ∈ lw_all := lw_g (lw_at lw_ms 7 rfl) rfl
theorem qs8 : (Cond.selects "java/util/ArrayList" ⟨"java/util/ArrayList", "fastRemove", "([Ljava/lang/Object;I)V"⟩ ⟨"java/util/ArrayList", "fastRemove", "([Ljava/lang/Object;I)V"⟩) ∈ lw_all := lw_g (lw_at lw_ms 8 rfl) rfl
theorem qs9 : (Cond.selects "RobotAisles$Core" ⟨"RobotAisles$Core", "refuseOccupied", "(II)V"⟩ ⟨"RobotAisles$Core", "refuseOccupied", "(II)V"⟩) ∈ lw_all := lw_g (lw_at lw_ms 9 rfl) rfl
theorem qs10 : (Cond.selects "RobotAisles" ⟨"RobotAisles", "keep", "(LRobotAisles$RefusedException;)Ljava/lang/UnsupportedOperationException;"⟩ ⟨"RobotAisles", "keep", "(LRobotAisles$RefusedException;)Ljava/lang/UnsupportedOperationException;"⟩) ∈ lw_all := lw_g (lw_at lw_ms 10 rfl) rfl
theorem qs11 : (Cond.selects "RobotAisles$Planner" ⟨"RobotAisles$Planner", "isReached", "(II)Z"⟩ ⟨"RobotAisles$Planner", "isReached", "(II)Z"⟩) ∈ lw_all := lw_g (lw_at lw_ms 11 rfl) rfl
theorem qs12 : (Cond.selects "RobotAisles$Planner" ⟨"RobotAisles$Planner", "cellBy", "(II)I"⟩ ⟨"RobotAisles$Planner", "cellBy", "(II)I"⟩) ∈ lw_all := lw_g (lw_at lw_ms 12 rfl) rfl
theorem qs13 : (Cond.selects "RobotAisles$Planner" ⟨"RobotAisles$Planner", "isEnd", "(II)Z"⟩ ⟨"RobotAisles$Planner", "isEnd", "(II)Z"⟩) ∈ lw_all := lw_g (lw_at lw_ms 13 rfl) rfl
theorem qs14 : (Cond.selects "RobotAisles$Planner" ⟨"RobotAisles$Planner", "mayGo", "(III)Z"⟩ ⟨"RobotAisles$Planner", "mayGo", "(III)Z"⟩) ∈ lw_all := lw_g (lw_at lw_ms 14 rfl) rfl
theorem qs15 : (Cond.selects "RobotAisles$Planner" ⟨"RobotAisles$Planner", "robotAt", "(II)I"⟩ ⟨"RobotAisles$Planner", "robotAt", "(II)I"⟩) ∈ lw_all := lw_g (lw_at lw_ms 15 rfl) rfl
theorem qs16 : (Cond.selects "RobotAisles$Planner" ⟨"RobotAisles$Planner", "mayStay", "(I)Z"⟩ ⟨"RobotAisles$Planner", "mayStay", "(I)Z"⟩) ∈ lw_all := lw_g (lw_at lw_ms 16 rfl) rfl
theorem qs17 : (Cond.selects "RobotAisles$Planner" ⟨"RobotAisles$Planner", "isBeside", "(II)Z"⟩ ⟨"RobotAisles$Planner", "isBeside", "(II)Z"⟩) ∈ lw_all := lw_g (lw_at lw_ms 17 rfl) rfl
theorem qs18 : (Cond.selects "RobotAisles$Planner" ⟨"RobotAisles$Planner", "nextFrom", "(IIJ)I"⟩ ⟨"RobotAisles$Planner", "nextFrom", "(IIJ)I"⟩) ∈ lw_all := lw_g (lw_at lw_ms 18 rfl) rfl
theorem qs19 : (Cond.selects "RobotAisles$Core" ⟨"RobotAisles$Core", "tick", "()I"⟩ ⟨"RobotAisles$Core", "tick", "()I"⟩) ∈ lw_all := lw_g (lw_at lw_ms 19 rfl) rfl
theorem qs20 : (Cond.selects "RobotAisles$Core" ⟨"RobotAisles$Core", "arrive", "(LRobotAisles$Robot;)I"⟩ ⟨"RobotAisles$Core", "arrive", "(LRobotAisles$Robot;)I"⟩) ∈ lw_all := lw_g (lw_at lw_ms 20 rfl) rfl
theorem qs21 : (Cond.selects "RobotAisles" ⟨"RobotAisles", "requireCell", "(I)V"⟩ ⟨"RobotAisles", "requireCell", "(I)V"⟩) ∈ lw_all := lw_g (lw_at lw_ms 21 rfl) rfl
theorem qs22 : (Cond.selects "RobotAisles" ⟨"RobotAisles", "neighbors", "(I)I"⟩ ⟨"RobotAisles", "neighbors", "(I)I"⟩) ∈ lw_all := lw_g (lw_at lw_ms 22 rfl) rfl
theorem qs23 : (Cond.selects "RobotAisles" ⟨"RobotAisles", "distancesFrom", "(I)[I"⟩ ⟨"RobotAisles", "distancesFrom", "(I)[I"⟩) ∈ lw_all := lw_g (lw_at lw_ms 23 rfl) rfl
theorem qs24 : (Cond.selects "RobotAisles" ⟨"RobotAisles", "getRobot", "(I)LRobotAisles$Robot;"⟩ ⟨"RobotAisles", "getRobot", "(I)LRobotAisles$Robot;"⟩) ∈ lw_all := lw_g (lw_at lw_ms 24 rfl) rfl
theorem qs25 : (Cond.selects "RobotAisles" ⟨"RobotAisles", "arrival", "(IIZ)I"⟩ ⟨"RobotAisles", "arrival", "(IIZ)I"⟩) ∈ lw_all := lw_g (lw_at lw_ms 25 rfl) rfl
theorem qs26 : (Cond.selects "java/util/PriorityQueue" ⟨"java/util/PriorityQueue", "grow", "(I)V"⟩ ⟨"java/util/PriorityQueue", "grow", "(I)V"⟩) ∈ lw_all := lw_g (lw_at lw_ms 26 rfl) rfl
theorem qs27 : (Cond.selects "java/util/PriorityQueue" ⟨"java/util/PriorityQueue", "siftUp", "(ILjava/lang/Object;)V"⟩ ⟨"java/util/PriorityQueue", "siftUp", "(ILjava/lang/Object;)V"⟩) ∈ lw_all := lw_g (lw_at lw_ms 27 rfl) rfl
theorem qs28 : (Cond.selects "RobotAisles" ⟨"RobotAisles", "getOrder", "(I)LRobotAisles$Order;"⟩ ⟨"RobotAisles", "getOrder", "(I)LRobotAisles$Order;"⟩) ∈ lw_all := lw_g (lw_at lw_ms 28 rfl) rfl
theorem qs29 : (Cond.selects "RobotAisles" ⟨"RobotAisles", "robotWith", "(I)I"⟩ ⟨"RobotAisles", "robotWith", "(I)I"⟩) ∈ lw_all := lw_g (lw_at lw_ms 29 rfl) rfl
theorem qs30 : (Cond.selects "java/util/TreeMap" ⟨"java/util/TreeMap", "put", "(Ljava/lang/Object;Ljava/lang/Object;Z)Ljava/lang/Object;"⟩ ⟨"java/util/TreeMap", "put", "(Ljava/lang/Object;Ljava/lang/Object;Z)Ljava/lang/Object;"⟩) ∈ lw_all := lw_g (lw_at lw_ms 30 rfl) rfl
theorem qs31 : (Cond.selects "java/util/TreeMap" ⟨"java/util/TreeMap", "addEntryToEmptyMap", "(Ljava/lang/Object;Ljava/lang/Object;)V"⟩ ⟨"java/util/TreeMap", "addEntryToEmptyMap", "(Ljava/lang/Object;Ljava/lang/Object;)V"⟩) ∈ lw_all := lw_g (lw_at lw_ms 31 rfl) rfl
theorem qs32 : (Cond.selects "java/util/TreeMap" ⟨"java/util/TreeMap", "addEntry", "(Ljava/lang/Object;Ljava/lang/Object;Ljava/util/TreeMap$Entry;Z)V"⟩ ⟨"java/util/TreeMap", "addEntry", "(Ljava/lang/Object;Ljava/lang/Object;Ljava/util/TreeMap$Entry;Z)V"⟩) ∈ lw_all := lw_g (lw_at lw_ms 32 rfl) rfl
theorem qs33 : (Cond.selects "java/util/TreeMap" ⟨"java/util/TreeMap", "fixAfterInsertion", "(Ljava/util/TreeMap$Entry;)V"⟩ ⟨"java/util/TreeMap", "fixAfterInsertion", "(Ljava/util/TreeMap$Entry;)V"⟩) ∈ lw_all := lw_g (lw_at lw_ms 33 rfl) rfl
theorem qs34 : (Cond.selects "java/util/TreeMap" ⟨"java/util/TreeMap", "rotateLeft", "(Ljava/util/TreeMap$Entry;)V"⟩ ⟨"java/util/TreeMap", "rotateLeft", "(Ljava/util/TreeMap$Entry;)V"⟩) ∈ lw_all := lw_g (lw_at lw_ms 34 rfl) rfl
theorem qs35 : (Cond.selects "java/util/TreeMap" ⟨"java/util/TreeMap", "rotateRight", "(Ljava/util/TreeMap$Entry;)V"⟩ ⟨"java/util/TreeMap", "rotateRight", "(Ljava/util/TreeMap$Entry;)V"⟩) ∈ lw_all := lw_g (lw_at lw_ms 35 rfl) rfl
theorem qs36 : (Cond.selects "RobotAisles" ⟨"RobotAisles", "toStation", "(I)I"⟩ ⟨"RobotAisles", "toStation", "(I)I"⟩) ∈ lw_all := lw_g (lw_at lw_ms 36 rfl) rfl
theorem qs37 : (Cond.selects "RobotAisles" ⟨"RobotAisles", "inState", "(I)I"⟩ ⟨"RobotAisles", "inState", "(I)I"⟩) ∈ lw_all := lw_g (lw_at lw_ms 37 rfl) rfl
theorem qs38 : (Cond.selects "RobotAisles" ⟨"RobotAisles", "sumOverRobots", "(Z)I"⟩ ⟨"RobotAisles", "sumOverRobots", "(Z)I"⟩) ∈ lw_all := lw_g (lw_at lw_ms 38 rfl) rfl
theorem qs39 : (Cond.selects "RobotAisles" ⟨"RobotAisles", "picked", "()I"⟩ ⟨"RobotAisles", "picked", "()I"⟩) ∈ lw_all := lw_g (lw_at lw_ms 39 rfl) rfl
theorem qs40 : (Cond.selects "RobotAislesModel" ⟨"RobotAislesModel", "isCell", "(I)Z"⟩ ⟨"RobotAislesModel", "isCell", "(I)Z"⟩) ∈ lw_all := lw_g (lw_at lw_ms 40 rfl) rfl
theorem qs41 : (Cond.selects "RobotAislesModel" ⟨"RobotAislesModel", "cells", "()I"⟩ ⟨"RobotAislesModel", "cells", "()I"⟩) ∈ lw_all := lw_g (lw_at lw_ms 41 rfl) rfl
theorem qs42 : (Cond.selects "RobotAislesModel" ⟨"RobotAislesModel", "refuse", "(II)I"⟩ ⟨"RobotAislesModel", "refuse", "(II)I"⟩) ∈ lw_all := lw_g (lw_at lw_ms 42 rfl) rfl
theorem qs43 : (Cond.selects "RobotAislesModel" ⟨"RobotAislesModel", "canEnter", "(I)Z"⟩ ⟨"RobotAislesModel", "canEnter", "(I)Z"⟩) ∈ lw_all := lw_g (lw_at lw_ms 43 rfl) rfl
theorem qs44 : (Cond.selects "RobotAislesModel" ⟨"RobotAislesModel", "willBe", "(III)I"⟩ ⟨"RobotAislesModel", "willBe", "(III)I"⟩) ∈ lw_all := lw_g (lw_at lw_ms 44 rfl) rfl
theorem qs45 : (Cond.selects "RobotAislesModel" ⟨"RobotAislesModel", "cellOf", "(II)I"⟩ ⟨"RobotAislesModel", "cellOf", "(II)I"⟩) ∈ lw_all := lw_g (lw_at lw_ms 45 rfl) rfl
theorem qs46 : (Cond.selects "RobotAislesModel" ⟨"RobotAislesModel", "of", "(II)I"⟩ ⟨"RobotAislesModel", "of", "(II)I"⟩) ∈ lw_all := lw_g (lw_at lw_ms 46 rfl) rfl
theorem qs47 : (Cond.selects "RobotAislesModel" ⟨"RobotAislesModel", "change", "()V"⟩ ⟨"RobotAislesModel", "change", "()V"⟩) ∈ lw_all := lw_g (lw_at lw_ms 47 rfl) rfl
theorem qs48 : (Cond.selects "RobotAislesModel" ⟨"RobotAislesModel", "isRobot", "(I)Z"⟩ ⟨"RobotAislesModel", "isRobot", "(I)Z"⟩) ∈ lw_all := lw_g (lw_at lw_ms 48 rfl) rfl
theorem qs49 : (Cond.selects "RobotAislesModel" ⟨"RobotAislesModel", "isOrder", "(I)Z"⟩ ⟨"RobotAislesModel", "isOrder", "(I)Z"⟩) ∈ lw_all := lw_g (lw_at lw_ms 49 rfl) rfl
theorem qs50 : (Cond.selects "RobotAislesModel" ⟨"RobotAislesModel", "stateOf", "(I)I"⟩ ⟨"RobotAislesModel", "stateOf", "(I)I"⟩) ∈ lw_all := lw_g (lw_at lw_ms 50 rfl) rfl
theorem qs51 : (Cond.selects "RobotAislesModel" ⟨"RobotAislesModel", "get", "(II)I"⟩ ⟨"RobotAislesModel", "get", "(II)I"⟩) ∈ lw_all := lw_g (lw_at lw_ms 51 rfl) rfl
theorem qs52 : (Cond.selects "RobotAislesModel" ⟨"RobotAislesModel", "closedCells", "()I"⟩ ⟨"RobotAislesModel", "closedCells", "()I"⟩) ∈ lw_all := lw_g (lw_at lw_ms 52 rfl) rfl
theorem qs53 : (Cond.selects "RobotAislesModel" ⟨"RobotAislesModel", "fewest", "(II)I"⟩ ⟨"RobotAislesModel", "fewest", "(II)I"⟩) ∈ lw_all := lw_g (lw_at lw_ms 53 rfl) rfl
theorem qs54 : (Cond.selects "RobotAislesModel" ⟨"RobotAislesModel", "findComing", "(I)V"⟩ ⟨"RobotAislesModel", "findComing", "(I)V"⟩) ∈ lw_all := lw_g (lw_at lw_ms 54 rfl) rfl
theorem qs55 : (Cond.selects "RobotAislesModel" ⟨"RobotAislesModel", "beside", "(II)I"⟩ ⟨"RobotAislesModel", "beside", "(II)I"⟩) ∈ lw_all := lw_g (lw_at lw_ms 55 rfl) rfl
theorem qs56 : (Cond.selects "RobotAislesModel" ⟨"RobotAislesModel", "mayGo", "(IIII)Z"⟩ ⟨"RobotAislesModel", "mayGo", "(IIII)Z"⟩) ∈ lw_all := lw_g (lw_at lw_ms 56 rfl) rfl
theorem qs57 : (Cond.selects "RobotAislesModel" ⟨"RobotAislesModel", "canEnd", "(III)Z"⟩ ⟨"RobotAislesModel", "canEnd", "(III)Z"⟩) ∈ lw_all := lw_g (lw_at lw_ms 57 rfl) rfl
theorem qs58 : (Cond.selects "RobotAislesModel" ⟨"RobotAislesModel", "isLoaded", "(I)Z"⟩ ⟨"RobotAislesModel", "isLoaded", "(I)Z"⟩) ∈ lw_all := lw_g (lw_at lw_ms 58 rfl) rfl
theorem qs59 : (Cond.selects "RobotAislesModel" ⟨"RobotAislesModel", "findPath", "(III)I"⟩ ⟨"RobotAislesModel", "findPath", "(III)I"⟩) ∈ lw_all := lw_g (lw_at lw_ms 59 rfl) rfl
theorem qs60 : (Cond.selects "RobotAislesModel" ⟨"RobotAislesModel", "findGoing", "(III)V"⟩ ⟨"RobotAislesModel", "findGoing", "(III)V"⟩) ∈ lw_all := lw_g (lw_at lw_ms 60 rfl) rfl
theorem qs61 : (Cond.selects "RobotAislesModel" ⟨"RobotAislesModel", "tick", "()I"⟩ ⟨"RobotAislesModel", "tick", "()I"⟩) ∈ lw_all := lw_g (lw_at lw_ms 61 rfl) rfl
theorem qs62 : (Cond.selects "RobotAislesModel" ⟨"RobotAislesModel", "ends", "(I)I"⟩ ⟨"RobotAislesModel", "ends", "(I)I"⟩) ∈ lw_all := lw_g (lw_at lw_ms 62 rfl) rfl
theorem qs63 : (Cond.selects "RobotAislesModel" ⟨"RobotAislesModel", "farOf", "(II)I"⟩ ⟨"RobotAislesModel", "farOf", "(II)I"⟩) ∈ lw_all := lw_g (lw_at lw_ms 63 rfl) rfl
theorem qs64 : (Cond.selects "RobotAislesModel" ⟨"RobotAislesModel", "findFar", "(I)V"⟩ ⟨"RobotAislesModel", "findFar", "(I)V"⟩) ∈ lw_all := lw_g (lw_at lw_ms 64 rfl) rfl
theorem qs65 : (Cond.selects "RobotAislesModel" ⟨"RobotAislesModel", "robotIn", "(II)I"⟩ ⟨"RobotAislesModel", "robotIn", "(II)I"⟩) ∈ lw_all := lw_g (lw_at lw_ms 65 rfl) rfl
theorem qs66 : (Cond.selects "RobotAislesModel" ⟨"RobotAislesModel", "isAhead", "(II)Z"⟩ ⟨"RobotAislesModel", "isAhead", "(II)Z"⟩) ∈ lw_all := lw_g (lw_at lw_ms 66 rfl) rfl
theorem qs67 : (Cond.selects "RobotAislesModel" ⟨"RobotAislesModel", "overOrders", "(I)I"⟩ ⟨"RobotAislesModel", "overOrders", "(I)I"⟩) ∈ lw_all := lw_g (lw_at lw_ms 67 rfl) rfl
theorem qs68 : (Cond.selects "RobotAislesModel" ⟨"RobotAislesModel", "overRobots", "(I)I"⟩ ⟨"RobotAislesModel", "overRobots", "(I)I"⟩) ∈ lw_all := lw_g (lw_at lw_ms 68 rfl) rfl
theorem qs69 : (Cond.selects "RobotAislesModel" ⟨"RobotAislesModel", "wrongPlace", "()I"⟩ ⟨"RobotAislesModel", "wrongPlace", "()I"⟩) ∈ lw_all := lw_g (lw_at lw_ms 69 rfl) rfl
