-- ===== PART A: goes FIRST, ahead of the names: the tables' words, and 'selects' of the private methods out of them =====
/-- a private method of a class that the tables say can be made, by its rows of tables_1 -/
def lw_okq (q : MethodName × Nat) : Prop := (q.1.cls ≠ "java/lang/invoke/MethodHandle" ∧ q.1.cls ≠ "java/lang/invoke/VarHandle") ∧ Cond.instantiable q.1.cls q.2 ∈ tables_1 ∧ Cond.privateMethod q.1 ∈ tables_1 ∧ Cond.instanceMethod q.1 ∈ tables_1
set_option maxRecDepth 100000
theorem lw_t1 {w : Cond} (h : w ∈ tables_1_1) : w ∈ tables_1 := List.mem_append_left _ h
theorem lw_t2 {w : Cond} (h : w ∈ tables_1_2) : w ∈ tables_1 := List.mem_append_right _ (List.mem_append_left _ h)
theorem lw_t3 {w : Cond} (h : w ∈ tables_1_3) : w ∈ tables_1 := List.mem_append_right _ (List.mem_append_right _ (List.mem_append_left _ h))
theorem lw_t4 {w : Cond} (h : w ∈ tables_1_4) : w ∈ tables_1 := List.mem_append_right _ (List.mem_append_right _ (List.mem_append_right _ (List.mem_append_left _ h)))
theorem lw_t5 {w : Cond} (h : w ∈ tables_1_5) : w ∈ tables_1 := List.mem_append_right _ (List.mem_append_right _ (List.mem_append_right _ (List.mem_append_right _ (List.mem_append_left _ h))))
theorem lw_t6 {w : Cond} (h : w ∈ tables_1_6) : w ∈ tables_1 := List.mem_append_right _ (List.mem_append_right _ (List.mem_append_right _ (List.mem_append_right _ (List.mem_append_right _ (List.mem_append_left _ h)))))
theorem lw_t7 {w : Cond} (h : w ∈ tables_1_7) : w ∈ tables_1 := List.mem_append_right _ (List.mem_append_right _ (List.mem_append_right _ (List.mem_append_right _ (List.mem_append_right _ (List.mem_append_right _ (List.mem_append_left _ h))))))
theorem lw_t8 {w : Cond} (h : w ∈ tables_1_8) : w ∈ tables_1 := List.mem_append_right _ (List.mem_append_right _ (List.mem_append_right _ (List.mem_append_right _ (List.mem_append_right _ (List.mem_append_right _ (List.mem_append_right _ h))))))
theorem lw_p0 : lw_okq (⟨"MissedTrains", "push", "(I)V"⟩, 22) := ⟨⟨by decide +kernel, by decide +kernel⟩, lw_t1 (List.mem_of_getElem? (i := 28) rfl), lw_t2 (List.mem_of_getElem? (i := 89) rfl), lw_t2 (List.mem_of_getElem? (i := 90) rfl)⟩
theorem lw_p1 : lw_okq (⟨"MissedTrains$Reader", "isGood", "()Z"⟩, 7) := ⟨⟨by decide +kernel, by decide +kernel⟩, lw_t2 (List.mem_of_getElem? (i := 97) rfl), lw_t2 (List.mem_of_getElem? (i := 132) rfl), lw_t2 (List.mem_of_getElem? (i := 133) rfl)⟩
theorem lw_p2 : lw_okq (⟨"MissedTrains$Reader", "clause", "()V"⟩, 7) := ⟨⟨by decide +kernel, by decide +kernel⟩, lw_t2 (List.mem_of_getElem? (i := 97) rfl), lw_t2 (List.mem_of_getElem? (i := 136) rfl), lw_t2 (List.mem_of_getElem? (i := 137) rfl)⟩
theorem lw_p3 : lw_okq (⟨"MissedTrains$Reader", "here", "()I"⟩, 7) := ⟨⟨by decide +kernel, by decide +kernel⟩, lw_t2 (List.mem_of_getElem? (i := 97) rfl), lw_t2 (List.mem_of_getElem? (i := 140) rfl), lw_t2 (List.mem_of_getElem? (i := 141) rfl)⟩
theorem lw_p4 : lw_okq (⟨"MissedTrains$Reader", "bad", "(II)V"⟩, 7) := ⟨⟨by decide +kernel, by decide +kernel⟩, lw_t2 (List.mem_of_getElem? (i := 97) rfl), lw_t2 (List.mem_of_getElem? (i := 231) rfl), lw_t2 (List.mem_of_getElem? (i := 232) rfl)⟩
theorem lw_p5 : lw_okq (⟨"MissedTrains$Reader", "sum", "()LMissedTrains$Sum;"⟩, 7) := ⟨⟨by decide +kernel, by decide +kernel⟩, lw_t2 (List.mem_of_getElem? (i := 97) rfl), lw_t2 (List.mem_of_getElem? (i := 235) rfl), lw_t2 (List.mem_of_getElem? (i := 236) rfl)⟩
theorem lw_p6 : lw_okq (⟨"MissedTrains$Reader", "product", "()LMissedTrains$Sum;"⟩, 7) := ⟨⟨by decide +kernel, by decide +kernel⟩, lw_t2 (List.mem_of_getElem? (i := 97) rfl), lw_t3 (List.mem_of_getElem? (i := 1) rfl), lw_t3 (List.mem_of_getElem? (i := 2) rfl)⟩
theorem lw_p7 : lw_okq (⟨"MissedTrains$Reader", "factor", "()LMissedTrains$Sum;"⟩, 7) := ⟨⟨by decide +kernel, by decide +kernel⟩, lw_t2 (List.mem_of_getElem? (i := 97) rfl), lw_t3 (List.mem_of_getElem? (i := 5) rfl), lw_t3 (List.mem_of_getElem? (i := 6) rfl)⟩
theorem lw_p8 : lw_okq (⟨"MissedTrains$Reader", "opens", "()V"⟩, 7) := ⟨⟨by decide +kernel, by decide +kernel⟩, lw_t2 (List.mem_of_getElem? (i := 97) rfl), lw_t3 (List.mem_of_getElem? (i := 9) rfl), lw_t3 (List.mem_of_getElem? (i := 10) rfl)⟩
theorem lw_p9 : lw_okq (⟨"MissedTrains$Reader", "must", "(I)V"⟩, 7) := ⟨⟨by decide +kernel, by decide +kernel⟩, lw_t2 (List.mem_of_getElem? (i := 97) rfl), lw_t3 (List.mem_of_getElem? (i := 13) rfl), lw_t3 (List.mem_of_getElem? (i := 14) rfl)⟩
theorem lw_p10 : lw_okq (⟨"MissedTrains$Reader", "seesDigit", "()Z"⟩, 7) := ⟨⟨by decide +kernel, by decide +kernel⟩, lw_t2 (List.mem_of_getElem? (i := 97) rfl), lw_t3 (List.mem_of_getElem? (i := 17) rfl), lw_t3 (List.mem_of_getElem? (i := 18) rfl)⟩
theorem lw_p11 : lw_okq (⟨"MissedTrains$Reader", "number", "()I"⟩, 7) := ⟨⟨by decide +kernel, by decide +kernel⟩, lw_t2 (List.mem_of_getElem? (i := 97) rfl), lw_t3 (List.mem_of_getElem? (i := 23) rfl), lw_t3 (List.mem_of_getElem? (i := 24) rfl)⟩
theorem lw_p12 : lw_okq (⟨"MissedTrains$Reader", "condition", "()LMissedTrains$Condition;"⟩, 7) := ⟨⟨by decide +kernel, by decide +kernel⟩, lw_t2 (List.mem_of_getElem? (i := 97) rfl), lw_t3 (List.mem_of_getElem? (i := 64) rfl), lw_t3 (List.mem_of_getElem? (i := 65) rfl)⟩
theorem lw_p13 : lw_okq (⟨"MissedTrains$Reader", "pieces", "()LMissedTrains$Condition;"⟩, 7) := ⟨⟨by decide +kernel, by decide +kernel⟩, lw_t2 (List.mem_of_getElem? (i := 97) rfl), lw_t3 (List.mem_of_getElem? (i := 70) rfl), lw_t3 (List.mem_of_getElem? (i := 71) rfl)⟩
theorem lw_p14 : lw_okq (⟨"MissedTrains$Reader", "piece", "()LMissedTrains$Condition;"⟩, 7) := ⟨⟨by decide +kernel, by decide +kernel⟩, lw_t2 (List.mem_of_getElem? (i := 97) rfl), lw_t3 (List.mem_of_getElem? (i := 74) rfl), lw_t3 (List.mem_of_getElem? (i := 75) rfl)⟩
theorem lw_p15 : lw_okq (⟨"MissedTrains$Clerk", "seesStation", "()Z"⟩, 10) := ⟨⟨by decide +kernel, by decide +kernel⟩, lw_t3 (List.mem_of_getElem? (i := 126) rfl), lw_t3 (List.mem_of_getElem? (i := 185) rfl), lw_t3 (List.mem_of_getElem? (i := 186) rfl)⟩
def lw_privs_1 : List (MethodName × Nat) := [(⟨"MissedTrains", "push", "(I)V"⟩, 22), (⟨"MissedTrains$Reader", "isGood", "()Z"⟩, 7), (⟨"MissedTrains$Reader", "clause", "()V"⟩, 7), (⟨"MissedTrains$Reader", "here", "()I"⟩, 7), (⟨"MissedTrains$Reader", "bad", "(II)V"⟩, 7), (⟨"MissedTrains$Reader", "sum", "()LMissedTrains$Sum;"⟩, 7), (⟨"MissedTrains$Reader", "product", "()LMissedTrains$Sum;"⟩, 7), (⟨"MissedTrains$Reader", "factor", "()LMissedTrains$Sum;"⟩, 7), (⟨"MissedTrains$Reader", "opens", "()V"⟩, 7), (⟨"MissedTrains$Reader", "must", "(I)V"⟩, 7), (⟨"MissedTrains$Reader", "seesDigit", "()Z"⟩, 7), (⟨"MissedTrains$Reader", "number", "()I"⟩, 7), (⟨"MissedTrains$Reader", "condition", "()LMissedTrains$Condition;"⟩, 7), (⟨"MissedTrains$Reader", "pieces", "()LMissedTrains$Condition;"⟩, 7), (⟨"MissedTrains$Reader", "piece", "()LMissedTrains$Condition;"⟩, 7), (⟨"MissedTrains$Clerk", "seesStation", "()Z"⟩, 10)]
theorem lw_r1 : ∀ q ∈ lw_privs_1, lw_okq q := List.forall_mem_cons.mpr ⟨lw_p0, List.forall_mem_cons.mpr ⟨lw_p1, List.forall_mem_cons.mpr ⟨lw_p2, List.forall_mem_cons.mpr ⟨lw_p3, List.forall_mem_cons.mpr ⟨lw_p4, List.forall_mem_cons.mpr ⟨lw_p5, List.forall_mem_cons.mpr ⟨lw_p6, List.forall_mem_cons.mpr ⟨lw_p7, List.forall_mem_cons.mpr ⟨lw_p8, List.forall_mem_cons.mpr ⟨lw_p9, List.forall_mem_cons.mpr ⟨lw_p10, List.forall_mem_cons.mpr ⟨lw_p11, List.forall_mem_cons.mpr ⟨lw_p12, List.forall_mem_cons.mpr ⟨lw_p13, List.forall_mem_cons.mpr ⟨lw_p14, List.forall_mem_cons.mpr ⟨lw_p15, fun _ h => absurd h List.not_mem_nil⟩⟩⟩⟩⟩⟩⟩⟩⟩⟩⟩⟩⟩⟩⟩⟩
theorem lw_p16 : lw_okq (⟨"MissedTrains$Clerk", "stop", "(LMissedTrains$Train;)V"⟩, 10) := ⟨⟨by decide +kernel, by decide +kernel⟩, lw_t3 (List.mem_of_getElem? (i := 126) rfl), lw_t3 (List.mem_of_getElem? (i := 214) rfl), lw_t3 (List.mem_of_getElem? (i := 215) rfl)⟩
theorem lw_p17 : lw_okq (⟨"MissedTrains$Clerk", "repeats", "(I)V"⟩, 10) := ⟨⟨by decide +kernel, by decide +kernel⟩, lw_t3 (List.mem_of_getElem? (i := 126) rfl), lw_t4 (List.mem_of_getElem? (i := 2) rfl), lw_t4 (List.mem_of_getElem? (i := 3) rfl)⟩
theorem lw_p18 : lw_okq (⟨"MissedTrains", "isTrain", "(I)Z"⟩, 22) := ⟨⟨by decide +kernel, by decide +kernel⟩, lw_t1 (List.mem_of_getElem? (i := 28) rfl), lw_t4 (List.mem_of_getElem? (i := 28) rfl), lw_t4 (List.mem_of_getElem? (i := 29) rfl)⟩
theorem lw_p19 : lw_okq (⟨"MissedTrains", "laysEvents", "()V"⟩, 22) := ⟨⟨by decide +kernel, by decide +kernel⟩, lw_t1 (List.mem_of_getElem? (i := 28) rfl), lw_t4 (List.mem_of_getElem? (i := 46) rfl), lw_t4 (List.mem_of_getElem? (i := 47) rfl)⟩
theorem lw_p20 : lw_okq (⟨"MissedTrains", "minuteOf", "(I)I"⟩, 22) := ⟨⟨by decide +kernel, by decide +kernel⟩, lw_t1 (List.mem_of_getElem? (i := 28) rfl), lw_t4 (List.mem_of_getElem? (i := 50) rfl), lw_t4 (List.mem_of_getElem? (i := 51) rfl)⟩
theorem lw_p21 : lw_okq (⟨"MissedTrains$Platform", "dayGoes", "()V"⟩, 9) := ⟨⟨by decide +kernel, by decide +kernel⟩, lw_t1 (List.mem_of_getElem? (i := 81) rfl), lw_t4 (List.mem_of_getElem? (i := 94) rfl), lw_t4 (List.mem_of_getElem? (i := 95) rfl)⟩
theorem lw_p22 : lw_okq (⟨"MissedTrains$Platform", "stops", "(II)V"⟩, 9) := ⟨⟨by decide +kernel, by decide +kernel⟩, lw_t1 (List.mem_of_getElem? (i := 81) rfl), lw_t4 (List.mem_of_getElem? (i := 98) rfl), lw_t4 (List.mem_of_getElem? (i := 99) rfl)⟩
theorem lw_p23 : lw_okq (⟨"MissedTrains$Platform", "draw", "()I"⟩, 9) := ⟨⟨by decide +kernel, by decide +kernel⟩, lw_t1 (List.mem_of_getElem? (i := 81) rfl), lw_t4 (List.mem_of_getElem? (i := 102) rfl), lw_t4 (List.mem_of_getElem? (i := 103) rfl)⟩
theorem lw_p24 : lw_okq (⟨"MissedTrains$Platform", "waiting", "(I)I"⟩, 9) := ⟨⟨by decide +kernel, by decide +kernel⟩, lw_t1 (List.mem_of_getElem? (i := 81) rfl), lw_t4 (List.mem_of_getElem? (i := 107) rfl), lw_t4 (List.mem_of_getElem? (i := 108) rfl)⟩
theorem lw_p25 : lw_okq (⟨"MissedTrains", "tells", "(II)I"⟩, 22) := ⟨⟨by decide +kernel, by decide +kernel⟩, lw_t1 (List.mem_of_getElem? (i := 28) rfl), lw_t4 (List.mem_of_getElem? (i := 115) rfl), lw_t4 (List.mem_of_getElem? (i := 116) rfl)⟩
theorem lw_p26 : lw_okq (⟨"MissedTrains$Platform", "arrives", "(II)V"⟩, 9) := ⟨⟨by decide +kernel, by decide +kernel⟩, lw_t1 (List.mem_of_getElem? (i := 81) rfl), lw_t4 (List.mem_of_getElem? (i := 174) rfl), lw_t4 (List.mem_of_getElem? (i := 175) rfl)⟩
theorem lw_p27 : lw_okq (⟨"MissedTrains$Platform", "boards", "(IIIII)V"⟩, 9) := ⟨⟨by decide +kernel, by decide +kernel⟩, lw_t1 (List.mem_of_getElem? (i := 81) rfl), lw_t4 (List.mem_of_getElem? (i := 180) rfl), lw_t4 (List.mem_of_getElem? (i := 181) rfl)⟩
theorem lw_p28 : lw_okq (⟨"MissedTrains", "isTold", "(I)Z"⟩, 22) := ⟨⟨by decide +kernel, by decide +kernel⟩, lw_t1 (List.mem_of_getElem? (i := 28) rfl), lw_t4 (List.mem_of_getElem? (i := 196) rfl), lw_t4 (List.mem_of_getElem? (i := 197) rfl)⟩
theorem lw_p29 : lw_okq (⟨"MissedTrains", "laysThere", "(III)I"⟩, 22) := ⟨⟨by decide +kernel, by decide +kernel⟩, lw_t1 (List.mem_of_getElem? (i := 28) rfl), lw_t4 (List.mem_of_getElem? (i := 234) rfl), lw_t4 (List.mem_of_getElem? (i := 235) rfl)⟩
theorem lw_p30 : lw_okq (⟨"MissedTrains", "ridesIn", "(LMissedTrains$Train;I)V"⟩, 22) := ⟨⟨by decide +kernel, by decide +kernel⟩, lw_t1 (List.mem_of_getElem? (i := 28) rfl), lw_t4 (List.mem_of_getElem? (i := 239) rfl), lw_t5 (List.mem_of_getElem? (i := 0) rfl)⟩
theorem lw_p31 : lw_okq (⟨"MissedTrains", "arrivalFrom", "(III)I"⟩, 22) := ⟨⟨by decide +kernel, by decide +kernel⟩, lw_t1 (List.mem_of_getElem? (i := 28) rfl), lw_t5 (List.mem_of_getElem? (i := 16) rfl), lw_t5 (List.mem_of_getElem? (i := 17) rfl)⟩
def lw_privs_2 : List (MethodName × Nat) := [(⟨"MissedTrains$Clerk", "stop", "(LMissedTrains$Train;)V"⟩, 10), (⟨"MissedTrains$Clerk", "repeats", "(I)V"⟩, 10), (⟨"MissedTrains", "isTrain", "(I)Z"⟩, 22), (⟨"MissedTrains", "laysEvents", "()V"⟩, 22), (⟨"MissedTrains", "minuteOf", "(I)I"⟩, 22), (⟨"MissedTrains$Platform", "dayGoes", "()V"⟩, 9), (⟨"MissedTrains$Platform", "stops", "(II)V"⟩, 9), (⟨"MissedTrains$Platform", "draw", "()I"⟩, 9), (⟨"MissedTrains$Platform", "waiting", "(I)I"⟩, 9), (⟨"MissedTrains", "tells", "(II)I"⟩, 22), (⟨"MissedTrains$Platform", "arrives", "(II)V"⟩, 9), (⟨"MissedTrains$Platform", "boards", "(IIIII)V"⟩, 9), (⟨"MissedTrains", "isTold", "(I)Z"⟩, 22), (⟨"MissedTrains", "laysThere", "(III)I"⟩, 22), (⟨"MissedTrains", "ridesIn", "(LMissedTrains$Train;I)V"⟩, 22), (⟨"MissedTrains", "arrivalFrom", "(III)I"⟩, 22)]
theorem lw_r2 : ∀ q ∈ lw_privs_2, lw_okq q := List.forall_mem_cons.mpr ⟨lw_p16, List.forall_mem_cons.mpr ⟨lw_p17, List.forall_mem_cons.mpr ⟨lw_p18, List.forall_mem_cons.mpr ⟨lw_p19, List.forall_mem_cons.mpr ⟨lw_p20, List.forall_mem_cons.mpr ⟨lw_p21, List.forall_mem_cons.mpr ⟨lw_p22, List.forall_mem_cons.mpr ⟨lw_p23, List.forall_mem_cons.mpr ⟨lw_p24, List.forall_mem_cons.mpr ⟨lw_p25, List.forall_mem_cons.mpr ⟨lw_p26, List.forall_mem_cons.mpr ⟨lw_p27, List.forall_mem_cons.mpr ⟨lw_p28, List.forall_mem_cons.mpr ⟨lw_p29, List.forall_mem_cons.mpr ⟨lw_p30, List.forall_mem_cons.mpr ⟨lw_p31, fun _ h => absurd h List.not_mem_nil⟩⟩⟩⟩⟩⟩⟩⟩⟩⟩⟩⟩⟩⟩⟩⟩
theorem lw_p32 : lw_okq (⟨"MissedTrains", "laysBest", "(II)I"⟩, 22) := ⟨⟨by decide +kernel, by decide +kernel⟩, lw_t1 (List.mem_of_getElem? (i := 28) rfl), lw_t5 (List.mem_of_getElem? (i := 28) rfl), lw_t5 (List.mem_of_getElem? (i := 29) rfl)⟩
theorem lw_p33 : lw_okq (⟨"MissedTrains", "isAt", "(II)Z"⟩, 22) := ⟨⟨by decide +kernel, by decide +kernel⟩, lw_t1 (List.mem_of_getElem? (i := 28) rfl), lw_t5 (List.mem_of_getElem? (i := 56) rfl), lw_t5 (List.mem_of_getElem? (i := 57) rfl)⟩
theorem lw_p34 : lw_okq (⟨"MissedTrains", "running", "()I"⟩, 22) := ⟨⟨by decide +kernel, by decide +kernel⟩, lw_t1 (List.mem_of_getElem? (i := 28) rfl), lw_t5 (List.mem_of_getElem? (i := 65) rfl), lw_t5 (List.mem_of_getElem? (i := 66) rfl)⟩
theorem lw_p35 : lw_okq (⟨"MissedTrains", "finds", "(I)Z"⟩, 22) := ⟨⟨by decide +kernel, by decide +kernel⟩, lw_t1 (List.mem_of_getElem? (i := 28) rfl), lw_t5 (List.mem_of_getElem? (i := 69) rfl), lw_t5 (List.mem_of_getElem? (i := 70) rfl)⟩
theorem lw_p36 : lw_okq (⟨"MissedTrains", "canFollow", "(II)Z"⟩, 22) := ⟨⟨by decide +kernel, by decide +kernel⟩, lw_t1 (List.mem_of_getElem? (i := 28) rfl), lw_t5 (List.mem_of_getElem? (i := 73) rfl), lw_t5 (List.mem_of_getElem? (i := 74) rfl)⟩
theorem lw_p37 : lw_okq (⟨"MissedTrains", "doMeet", "(LMissedTrains$Train;LMissedTrains$Train;)Z"⟩, 22) := ⟨⟨by decide +kernel, by decide +kernel⟩, lw_t1 (List.mem_of_getElem? (i := 28) rfl), lw_t5 (List.mem_of_getElem? (i := 81) rfl), lw_t5 (List.mem_of_getElem? (i := 82) rfl)⟩
theorem lw_p38 : lw_okq (⟨"MissedTrains", "ridesFrom", "(III)I"⟩, 22) := ⟨⟨by decide +kernel, by decide +kernel⟩, lw_t1 (List.mem_of_getElem? (i := 28) rfl), lw_t5 (List.mem_of_getElem? (i := 89) rfl), lw_t5 (List.mem_of_getElem? (i := 90) rfl)⟩
theorem lw_p39 : lw_okq (⟨"MissedTrains", "stopping", "(I)I"⟩, 22) := ⟨⟨by decide +kernel, by decide +kernel⟩, lw_t1 (List.mem_of_getElem? (i := 28) rfl), lw_t5 (List.mem_of_getElem? (i := 101) rfl), lw_t5 (List.mem_of_getElem? (i := 102) rfl)⟩
theorem lw_p40 : lw_okq (⟨"MissedTrains", "leavesAt", "(II)I"⟩, 22) := ⟨⟨by decide +kernel, by decide +kernel⟩, lw_t1 (List.mem_of_getElem? (i := 28) rfl), lw_t5 (List.mem_of_getElem? (i := 113) rfl), lw_t5 (List.mem_of_getElem? (i := 114) rfl)⟩
theorem lw_p41 : lw_okq (⟨"MissedTrains", "told", "()I"⟩, 22) := ⟨⟨by decide +kernel, by decide +kernel⟩, lw_t1 (List.mem_of_getElem? (i := 28) rfl), lw_t5 (List.mem_of_getElem? (i := 150) rfl), lw_t5 (List.mem_of_getElem? (i := 151) rfl)⟩
theorem lw_p42 : lw_okq (⟨"MissedTrains", "countedOfAll", "(Z)I"⟩, 22) := ⟨⟨by decide +kernel, by decide +kernel⟩, lw_t1 (List.mem_of_getElem? (i := 28) rfl), lw_t5 (List.mem_of_getElem? (i := 154) rfl), lw_t5 (List.mem_of_getElem? (i := 155) rfl)⟩
theorem lw_p43 : lw_okq (⟨"MissedTrainsModel", "types", "(I)V"⟩, 66) := ⟨⟨by decide +kernel, by decide +kernel⟩, lw_t5 (List.mem_of_getElem? (i := 158) rfl), lw_t6 (List.mem_of_getElem? (i := 144) rfl), lw_t6 (List.mem_of_getElem? (i := 145) rfl)⟩
theorem lw_p44 : lw_okq (⟨"MissedTrainsModel", "beginsText", "(I)V"⟩, 66) := ⟨⟨by decide +kernel, by decide +kernel⟩, lw_t5 (List.mem_of_getElem? (i := 158) rfl), lw_t6 (List.mem_of_getElem? (i := 152) rfl), lw_t6 (List.mem_of_getElem? (i := 153) rfl)⟩
theorem lw_p45 : lw_okq (⟨"MissedTrainsModel", "readsRule", "()Z"⟩, 66) := ⟨⟨by decide +kernel, by decide +kernel⟩, lw_t5 (List.mem_of_getElem? (i := 158) rfl), lw_t6 (List.mem_of_getElem? (i := 156) rfl), lw_t6 (List.mem_of_getElem? (i := 157) rfl)⟩
theorem lw_p46 : lw_okq (⟨"MissedTrainsModel", "here", "()I"⟩, 66) := ⟨⟨by decide +kernel, by decide +kernel⟩, lw_t5 (List.mem_of_getElem? (i := 158) rfl), lw_t6 (List.mem_of_getElem? (i := 160) rfl), lw_t6 (List.mem_of_getElem? (i := 161) rfl)⟩
theorem lw_p47 : lw_okq (⟨"MissedTrainsModel", "wrongAt", "(II)Z"⟩, 66) := ⟨⟨by decide +kernel, by decide +kernel⟩, lw_t5 (List.mem_of_getElem? (i := 158) rfl), lw_t6 (List.mem_of_getElem? (i := 164) rfl), lw_t6 (List.mem_of_getElem? (i := 165) rfl)⟩
def lw_privs_3 : List (MethodName × Nat) := [(⟨"MissedTrains", "laysBest", "(II)I"⟩, 22), (⟨"MissedTrains", "isAt", "(II)Z"⟩, 22), (⟨"MissedTrains", "running", "()I"⟩, 22), (⟨"MissedTrains", "finds", "(I)Z"⟩, 22), (⟨"MissedTrains", "canFollow", "(II)Z"⟩, 22), (⟨"MissedTrains", "doMeet", "(LMissedTrains$Train;LMissedTrains$Train;)Z"⟩, 22), (⟨"MissedTrains", "ridesFrom", "(III)I"⟩, 22), (⟨"MissedTrains", "stopping", "(I)I"⟩, 22), (⟨"MissedTrains", "leavesAt", "(II)I"⟩, 22), (⟨"MissedTrains", "told", "()I"⟩, 22), (⟨"MissedTrains", "countedOfAll", "(Z)I"⟩, 22), (⟨"MissedTrainsModel", "types", "(I)V"⟩, 66), (⟨"MissedTrainsModel", "beginsText", "(I)V"⟩, 66), (⟨"MissedTrainsModel", "readsRule", "()Z"⟩, 66), (⟨"MissedTrainsModel", "here", "()I"⟩, 66), (⟨"MissedTrainsModel", "wrongAt", "(II)Z"⟩, 66)]
theorem lw_r3 : ∀ q ∈ lw_privs_3, lw_okq q := List.forall_mem_cons.mpr ⟨lw_p32, List.forall_mem_cons.mpr ⟨lw_p33, List.forall_mem_cons.mpr ⟨lw_p34, List.forall_mem_cons.mpr ⟨lw_p35, List.forall_mem_cons.mpr ⟨lw_p36, List.forall_mem_cons.mpr ⟨lw_p37, List.forall_mem_cons.mpr ⟨lw_p38, List.forall_mem_cons.mpr ⟨lw_p39, List.forall_mem_cons.mpr ⟨lw_p40, List.forall_mem_cons.mpr ⟨lw_p41, List.forall_mem_cons.mpr ⟨lw_p42, List.forall_mem_cons.mpr ⟨lw_p43, List.forall_mem_cons.mpr ⟨lw_p44, List.forall_mem_cons.mpr ⟨lw_p45, List.forall_mem_cons.mpr ⟨lw_p46, List.forall_mem_cons.mpr ⟨lw_p47, fun _ h => absurd h List.not_mem_nil⟩⟩⟩⟩⟩⟩⟩⟩⟩⟩⟩⟩⟩⟩⟩⟩
theorem lw_p48 : lw_okq (⟨"MissedTrainsModel", "readsSum", "()Z"⟩, 66) := ⟨⟨by decide +kernel, by decide +kernel⟩, lw_t5 (List.mem_of_getElem? (i := 158) rfl), lw_t6 (List.mem_of_getElem? (i := 168) rfl), lw_t6 (List.mem_of_getElem? (i := 169) rfl)⟩
theorem lw_p49 : lw_okq (⟨"MissedTrainsModel", "readsFactor", "()Z"⟩, 66) := ⟨⟨by decide +kernel, by decide +kernel⟩, lw_t5 (List.mem_of_getElem? (i := 158) rfl), lw_t6 (List.mem_of_getElem? (i := 172) rfl), lw_t6 (List.mem_of_getElem? (i := 173) rfl)⟩
theorem lw_p50 : lw_okq (⟨"MissedTrainsModel", "opens", "(I)Z"⟩, 66) := ⟨⟨by decide +kernel, by decide +kernel⟩, lw_t5 (List.mem_of_getElem? (i := 158) rfl), lw_t6 (List.mem_of_getElem? (i := 176) rfl), lw_t6 (List.mem_of_getElem? (i := 177) rfl)⟩
theorem lw_p51 : lw_okq (⟨"MissedTrainsModel", "isDigit", "()Z"⟩, 66) := ⟨⟨by decide +kernel, by decide +kernel⟩, lw_t5 (List.mem_of_getElem? (i := 158) rfl), lw_t6 (List.mem_of_getElem? (i := 181) rfl), lw_t6 (List.mem_of_getElem? (i := 182) rfl)⟩
theorem lw_p52 : lw_okq (⟨"MissedTrainsModel", "readsNumber", "()Z"⟩, 66) := ⟨⟨by decide +kernel, by decide +kernel⟩, lw_t5 (List.mem_of_getElem? (i := 158) rfl), lw_t6 (List.mem_of_getElem? (i := 185) rfl), lw_t6 (List.mem_of_getElem? (i := 186) rfl)⟩
theorem lw_p53 : lw_okq (⟨"MissedTrainsModel", "notes", "(II)V"⟩, 66) := ⟨⟨by decide +kernel, by decide +kernel⟩, lw_t5 (List.mem_of_getElem? (i := 158) rfl), lw_t6 (List.mem_of_getElem? (i := 189) rfl), lw_t6 (List.mem_of_getElem? (i := 190) rfl)⟩
theorem lw_p54 : lw_okq (⟨"MissedTrainsModel", "closesSums", "(Z)V"⟩, 66) := ⟨⟨by decide +kernel, by decide +kernel⟩, lw_t5 (List.mem_of_getElem? (i := 158) rfl), lw_t6 (List.mem_of_getElem? (i := 199) rfl), lw_t6 (List.mem_of_getElem? (i := 200) rfl)⟩
theorem lw_p55 : lw_okq (⟨"MissedTrainsModel", "waitTop", "()I"⟩, 66) := ⟨⟨by decide +kernel, by decide +kernel⟩, lw_t5 (List.mem_of_getElem? (i := 158) rfl), lw_t6 (List.mem_of_getElem? (i := 203) rfl), lw_t6 (List.mem_of_getElem? (i := 204) rfl)⟩
theorem lw_p56 : lw_okq (⟨"MissedTrainsModel", "hasOpenSum", "(I)Z"⟩, 66) := ⟨⟨by decide +kernel, by decide +kernel⟩, lw_t5 (List.mem_of_getElem? (i := 158) rfl), lw_t6 (List.mem_of_getElem? (i := 207) rfl), lw_t6 (List.mem_of_getElem? (i := 208) rfl)⟩
theorem lw_p57 : lw_okq (⟨"MissedTrainsModel", "readsCondition", "()Z"⟩, 66) := ⟨⟨by decide +kernel, by decide +kernel⟩, lw_t5 (List.mem_of_getElem? (i := 158) rfl), lw_t6 (List.mem_of_getElem? (i := 211) rfl), lw_t6 (List.mem_of_getElem? (i := 212) rfl)⟩
theorem lw_p58 : lw_okq (⟨"MissedTrainsModel", "readsCompared", "()Z"⟩, 66) := ⟨⟨by decide +kernel, by decide +kernel⟩, lw_t5 (List.mem_of_getElem? (i := 158) rfl), lw_t6 (List.mem_of_getElem? (i := 215) rfl), lw_t6 (List.mem_of_getElem? (i := 216) rfl)⟩
theorem lw_p59 : lw_okq (⟨"MissedTrainsModel", "endsPiece", "()V"⟩, 66) := ⟨⟨by decide +kernel, by decide +kernel⟩, lw_t5 (List.mem_of_getElem? (i := 158) rfl), lw_t6 (List.mem_of_getElem? (i := 219) rfl), lw_t6 (List.mem_of_getElem? (i := 220) rfl)⟩
theorem lw_p60 : lw_okq (⟨"MissedTrainsModel", "lands", "(Z)V"⟩, 66) := ⟨⟨by decide +kernel, by decide +kernel⟩, lw_t5 (List.mem_of_getElem? (i := 158) rfl), lw_t6 (List.mem_of_getElem? (i := 223) rfl), lw_t6 (List.mem_of_getElem? (i := 224) rfl)⟩
theorem lw_p61 : lw_okq (⟨"MissedTrainsModel", "jumps", "(I)V"⟩, 66) := ⟨⟨by decide +kernel, by decide +kernel⟩, lw_t5 (List.mem_of_getElem? (i := 158) rfl), lw_t6 (List.mem_of_getElem? (i := 227) rfl), lw_t6 (List.mem_of_getElem? (i := 228) rfl)⟩
theorem lw_p62 : lw_okq (⟨"MissedTrainsModel", "takes", "(I)Z"⟩, 66) := ⟨⟨by decide +kernel, by decide +kernel⟩, lw_t5 (List.mem_of_getElem? (i := 158) rfl), lw_t6 (List.mem_of_getElem? (i := 231) rfl), lw_t6 (List.mem_of_getElem? (i := 232) rfl)⟩
theorem lw_p63 : lw_okq (⟨"MissedTrainsModel", "readsService", "()Z"⟩, 66) := ⟨⟨by decide +kernel, by decide +kernel⟩, lw_t5 (List.mem_of_getElem? (i := 158) rfl), lw_t6 (List.mem_of_getElem? (i := 239) rfl), lw_t7 (List.mem_of_getElem? (i := 0) rfl)⟩
def lw_privs_4 : List (MethodName × Nat) := [(⟨"MissedTrainsModel", "readsSum", "()Z"⟩, 66), (⟨"MissedTrainsModel", "readsFactor", "()Z"⟩, 66), (⟨"MissedTrainsModel", "opens", "(I)Z"⟩, 66), (⟨"MissedTrainsModel", "isDigit", "()Z"⟩, 66), (⟨"MissedTrainsModel", "readsNumber", "()Z"⟩, 66), (⟨"MissedTrainsModel", "notes", "(II)V"⟩, 66), (⟨"MissedTrainsModel", "closesSums", "(Z)V"⟩, 66), (⟨"MissedTrainsModel", "waitTop", "()I"⟩, 66), (⟨"MissedTrainsModel", "hasOpenSum", "(I)Z"⟩, 66), (⟨"MissedTrainsModel", "readsCondition", "()Z"⟩, 66), (⟨"MissedTrainsModel", "readsCompared", "()Z"⟩, 66), (⟨"MissedTrainsModel", "endsPiece", "()V"⟩, 66), (⟨"MissedTrainsModel", "lands", "(Z)V"⟩, 66), (⟨"MissedTrainsModel", "jumps", "(I)V"⟩, 66), (⟨"MissedTrainsModel", "takes", "(I)Z"⟩, 66), (⟨"MissedTrainsModel", "readsService", "()Z"⟩, 66)]
theorem lw_r4 : ∀ q ∈ lw_privs_4, lw_okq q := List.forall_mem_cons.mpr ⟨lw_p48, List.forall_mem_cons.mpr ⟨lw_p49, List.forall_mem_cons.mpr ⟨lw_p50, List.forall_mem_cons.mpr ⟨lw_p51, List.forall_mem_cons.mpr ⟨lw_p52, List.forall_mem_cons.mpr ⟨lw_p53, List.forall_mem_cons.mpr ⟨lw_p54, List.forall_mem_cons.mpr ⟨lw_p55, List.forall_mem_cons.mpr ⟨lw_p56, List.forall_mem_cons.mpr ⟨lw_p57, List.forall_mem_cons.mpr ⟨lw_p58, List.forall_mem_cons.mpr ⟨lw_p59, List.forall_mem_cons.mpr ⟨lw_p60, List.forall_mem_cons.mpr ⟨lw_p61, List.forall_mem_cons.mpr ⟨lw_p62, List.forall_mem_cons.mpr ⟨lw_p63, fun _ h => absurd h List.not_mem_nil⟩⟩⟩⟩⟩⟩⟩⟩⟩⟩⟩⟩⟩⟩⟩⟩
theorem lw_p64 : lw_okq (⟨"MissedTrainsModel", "isLetter", "()Z"⟩, 66) := ⟨⟨by decide +kernel, by decide +kernel⟩, lw_t5 (List.mem_of_getElem? (i := 158) rfl), lw_t7 (List.mem_of_getElem? (i := 3) rfl), lw_t7 (List.mem_of_getElem? (i := 4) rfl)⟩
theorem lw_p65 : lw_okq (⟨"MissedTrainsModel", "readsStop", "(I)Z"⟩, 66) := ⟨⟨by decide +kernel, by decide +kernel⟩, lw_t5 (List.mem_of_getElem? (i := 158) rfl), lw_t7 (List.mem_of_getElem? (i := 7) rfl), lw_t7 (List.mem_of_getElem? (i := 8) rfl)⟩
theorem lw_p66 : lw_okq (⟨"MissedTrainsModel", "readsWithin", "(III)Z"⟩, 66) := ⟨⟨by decide +kernel, by decide +kernel⟩, lw_t5 (List.mem_of_getElem? (i := 158) rfl), lw_t7 (List.mem_of_getElem? (i := 11) rfl), lw_t7 (List.mem_of_getElem? (i := 12) rfl)⟩
theorem lw_p67 : lw_okq (⟨"MissedTrainsModel", "sortsEvents", "()V"⟩, 66) := ⟨⟨by decide +kernel, by decide +kernel⟩, lw_t5 (List.mem_of_getElem? (i := 158) rfl), lw_t7 (List.mem_of_getElem? (i := 18) rfl), lw_t7 (List.mem_of_getElem? (i := 19) rfl)⟩
theorem lw_p68 : lw_okq (⟨"MissedTrainsModel", "readsOrder", "()Z"⟩, 66) := ⟨⟨by decide +kernel, by decide +kernel⟩, lw_t5 (List.mem_of_getElem? (i := 158) rfl), lw_t7 (List.mem_of_getElem? (i := 26) rfl), lw_t7 (List.mem_of_getElem? (i := 27) rfl)⟩
theorem lw_p69 : lw_okq (⟨"MissedTrainsModel", "daysGo", "(I)V"⟩, 66) := ⟨⟨by decide +kernel, by decide +kernel⟩, lw_t5 (List.mem_of_getElem? (i := 158) rfl), lw_t7 (List.mem_of_getElem? (i := 34) rfl), lw_t7 (List.mem_of_getElem? (i := 35) rfl)⟩
theorem lw_p70 : lw_okq (⟨"MissedTrainsModel", "dayGoes", "()V"⟩, 66) := ⟨⟨by decide +kernel, by decide +kernel⟩, lw_t5 (List.mem_of_getElem? (i := 158) rfl), lw_t7 (List.mem_of_getElem? (i := 38) rfl), lw_t7 (List.mem_of_getElem? (i := 39) rfl)⟩
theorem lw_p71 : lw_okq (⟨"MissedTrainsModel", "runs", "(I)Z"⟩, 66) := ⟨⟨by decide +kernel, by decide +kernel⟩, lw_t5 (List.mem_of_getElem? (i := 158) rfl), lw_t7 (List.mem_of_getElem? (i := 42) rfl), lw_t7 (List.mem_of_getElem? (i := 43) rfl)⟩
theorem lw_p72 : lw_okq (⟨"MissedTrainsModel", "stops", "(II)V"⟩, 66) := ⟨⟨by decide +kernel, by decide +kernel⟩, lw_t5 (List.mem_of_getElem? (i := 158) rfl), lw_t7 (List.mem_of_getElem? (i := 46) rfl), lw_t7 (List.mem_of_getElem? (i := 47) rfl)⟩
theorem lw_p73 : lw_okq (⟨"MissedTrainsModel", "feels", "(III)V"⟩, 66) := ⟨⟨by decide +kernel, by decide +kernel⟩, lw_t5 (List.mem_of_getElem? (i := 158) rfl), lw_t7 (List.mem_of_getElem? (i := 51) rfl), lw_t7 (List.mem_of_getElem? (i := 52) rfl)⟩
theorem lw_p74 : lw_okq (⟨"MissedTrainsModel", "waitersAt", "(I)I"⟩, 66) := ⟨⟨by decide +kernel, by decide +kernel⟩, lw_t5 (List.mem_of_getElem? (i := 158) rfl), lw_t7 (List.mem_of_getElem? (i := 55) rfl), lw_t7 (List.mem_of_getElem? (i := 56) rfl)⟩
theorem lw_p75 : lw_okq (⟨"MissedTrainsModel", "byLaw", "(II)I"⟩, 66) := ⟨⟨by decide +kernel, by decide +kernel⟩, lw_t5 (List.mem_of_getElem? (i := 158) rfl), lw_t7 (List.mem_of_getElem? (i := 59) rfl), lw_t7 (List.mem_of_getElem? (i := 60) rfl)⟩
theorem lw_p76 : lw_okq (⟨"MissedTrainsModel", "reckonsTo", "(II)I"⟩, 66) := ⟨⟨by decide +kernel, by decide +kernel⟩, lw_t5 (List.mem_of_getElem? (i := 158) rfl), lw_t7 (List.mem_of_getElem? (i := 63) rfl), lw_t7 (List.mem_of_getElem? (i := 64) rfl)⟩
theorem lw_p77 : lw_okq (⟨"MissedTrainsModel", "leavesTrain", "(II)V"⟩, 66) := ⟨⟨by decide +kernel, by decide +kernel⟩, lw_t5 (List.mem_of_getElem? (i := 158) rfl), lw_t7 (List.mem_of_getElem? (i := 76) rfl), lw_t7 (List.mem_of_getElem? (i := 77) rfl)⟩
theorem lw_p78 : lw_okq (⟨"MissedTrainsModel", "mayRide", "(IIII)V"⟩, 66) := ⟨⟨by decide +kernel, by decide +kernel⟩, lw_t5 (List.mem_of_getElem? (i := 158) rfl), lw_t7 (List.mem_of_getElem? (i := 80) rfl), lw_t7 (List.mem_of_getElem? (i := 81) rfl)⟩
theorem lw_p79 : lw_okq (⟨"MissedTrainsModel", "stopAt", "(II)I"⟩, 66) := ⟨⟨by decide +kernel, by decide +kernel⟩, lw_t5 (List.mem_of_getElem? (i := 158) rfl), lw_t7 (List.mem_of_getElem? (i := 84) rfl), lw_t7 (List.mem_of_getElem? (i := 85) rfl)⟩
def lw_privs_5 : List (MethodName × Nat) := [(⟨"MissedTrainsModel", "isLetter", "()Z"⟩, 66), (⟨"MissedTrainsModel", "readsStop", "(I)Z"⟩, 66), (⟨"MissedTrainsModel", "readsWithin", "(III)Z"⟩, 66), (⟨"MissedTrainsModel", "sortsEvents", "()V"⟩, 66), (⟨"MissedTrainsModel", "readsOrder", "()Z"⟩, 66), (⟨"MissedTrainsModel", "daysGo", "(I)V"⟩, 66), (⟨"MissedTrainsModel", "dayGoes", "()V"⟩, 66), (⟨"MissedTrainsModel", "runs", "(I)Z"⟩, 66), (⟨"MissedTrainsModel", "stops", "(II)V"⟩, 66), (⟨"MissedTrainsModel", "feels", "(III)V"⟩, 66), (⟨"MissedTrainsModel", "waitersAt", "(I)I"⟩, 66), (⟨"MissedTrainsModel", "byLaw", "(II)I"⟩, 66), (⟨"MissedTrainsModel", "reckonsTo", "(II)I"⟩, 66), (⟨"MissedTrainsModel", "leavesTrain", "(II)V"⟩, 66), (⟨"MissedTrainsModel", "mayRide", "(IIII)V"⟩, 66), (⟨"MissedTrainsModel", "stopAt", "(II)I"⟩, 66)]
theorem lw_r5 : ∀ q ∈ lw_privs_5, lw_okq q := List.forall_mem_cons.mpr ⟨lw_p64, List.forall_mem_cons.mpr ⟨lw_p65, List.forall_mem_cons.mpr ⟨lw_p66, List.forall_mem_cons.mpr ⟨lw_p67, List.forall_mem_cons.mpr ⟨lw_p68, List.forall_mem_cons.mpr ⟨lw_p69, List.forall_mem_cons.mpr ⟨lw_p70, List.forall_mem_cons.mpr ⟨lw_p71, List.forall_mem_cons.mpr ⟨lw_p72, List.forall_mem_cons.mpr ⟨lw_p73, List.forall_mem_cons.mpr ⟨lw_p74, List.forall_mem_cons.mpr ⟨lw_p75, List.forall_mem_cons.mpr ⟨lw_p76, List.forall_mem_cons.mpr ⟨lw_p77, List.forall_mem_cons.mpr ⟨lw_p78, List.forall_mem_cons.mpr ⟨lw_p79, fun _ h => absurd h List.not_mem_nil⟩⟩⟩⟩⟩⟩⟩⟩⟩⟩⟩⟩⟩⟩⟩⟩
theorem lw_p80 : lw_okq (⟨"MissedTrainsModel", "holdsAny", "(I)Z"⟩, 66) := ⟨⟨by decide +kernel, by decide +kernel⟩, lw_t5 (List.mem_of_getElem? (i := 158) rfl), lw_t7 (List.mem_of_getElem? (i := 88) rfl), lw_t7 (List.mem_of_getElem? (i := 89) rfl)⟩
theorem lw_p81 : lw_okq (⟨"MissedTrainsModel", "isPerson", "(I)Z"⟩, 66) := ⟨⟨by decide +kernel, by decide +kernel⟩, lw_t5 (List.mem_of_getElem? (i := 158) rfl), lw_t7 (List.mem_of_getElem? (i := 96) rfl), lw_t7 (List.mem_of_getElem? (i := 97) rfl)⟩
theorem lw_p82 : lw_okq (⟨"MissedTrainsModel", "soonest", "(III)I"⟩, 66) := ⟨⟨by decide +kernel, by decide +kernel⟩, lw_t5 (List.mem_of_getElem? (i := 158) rfl), lw_t7 (List.mem_of_getElem? (i := 119) rfl), lw_t7 (List.mem_of_getElem? (i := 120) rfl)⟩
theorem lw_p83 : lw_okq (⟨"MissedTrainsModel", "beginsAt", "(II)V"⟩, 66) := ⟨⟨by decide +kernel, by decide +kernel⟩, lw_t5 (List.mem_of_getElem? (i := 158) rfl), lw_t7 (List.mem_of_getElem? (i := 123) rfl), lw_t7 (List.mem_of_getElem? (i := 124) rfl)⟩
theorem lw_p84 : lw_okq (⟨"MissedTrainsModel", "oneRideMore", "(I)V"⟩, 66) := ⟨⟨by decide +kernel, by decide +kernel⟩, lw_t5 (List.mem_of_getElem? (i := 158) rfl), lw_t7 (List.mem_of_getElem? (i := 128) rfl), lw_t7 (List.mem_of_getElem? (i := 129) rfl)⟩
theorem lw_p85 : lw_okq (⟨"MissedTrainsModel", "leavesFrom", "(II)Z"⟩, 66) := ⟨⟨by decide +kernel, by decide +kernel⟩, lw_t5 (List.mem_of_getElem? (i := 158) rfl), lw_t7 (List.mem_of_getElem? (i := 136) rfl), lw_t7 (List.mem_of_getElem? (i := 137) rfl)⟩
theorem lw_p86 : lw_okq (⟨"MissedTrainsModel", "minuteAt", "(II)I"⟩, 66) := ⟨⟨by decide +kernel, by decide +kernel⟩, lw_t5 (List.mem_of_getElem? (i := 158) rfl), lw_t7 (List.mem_of_getElem? (i := 144) rfl), lw_t7 (List.mem_of_getElem? (i := 145) rfl)⟩
theorem lw_p87 : lw_okq (⟨"MissedTrainsModel", "laysBest", "(II)I"⟩, 66) := ⟨⟨by decide +kernel, by decide +kernel⟩, lw_t5 (List.mem_of_getElem? (i := 158) rfl), lw_t7 (List.mem_of_getElem? (i := 152) rfl), lw_t7 (List.mem_of_getElem? (i := 153) rfl)⟩
theorem lw_p88 : lw_okq (⟨"MissedTrainsModel", "clearsMinutes", "()V"⟩, 66) := ⟨⟨by decide +kernel, by decide +kernel⟩, lw_t5 (List.mem_of_getElem? (i := 158) rfl), lw_t7 (List.mem_of_getElem? (i := 164) rfl), lw_t7 (List.mem_of_getElem? (i := 165) rfl)⟩
theorem lw_p89 : lw_okq (⟨"MissedTrainsModel", "goesFromTo", "(III)Z"⟩, 66) := ⟨⟨by decide +kernel, by decide +kernel⟩, lw_t5 (List.mem_of_getElem? (i := 158) rfl), lw_t7 (List.mem_of_getElem? (i := 168) rfl), lw_t7 (List.mem_of_getElem? (i := 169) rfl)⟩
theorem lw_p90 : lw_okq (⟨"MissedTrainsModel", "longestBetween", "()I"⟩, 66) := ⟨⟨by decide +kernel, by decide +kernel⟩, lw_t5 (List.mem_of_getElem? (i := 158) rfl), lw_t7 (List.mem_of_getElem? (i := 172) rfl), lw_t7 (List.mem_of_getElem? (i := 173) rfl)⟩
theorem lw_p91 : lw_okq (⟨"MissedTrainsModel", "comesTo", "(II)Z"⟩, 66) := ⟨⟨by decide +kernel, by decide +kernel⟩, lw_t5 (List.mem_of_getElem? (i := 158) rfl), lw_t7 (List.mem_of_getElem? (i := 184) rfl), lw_t7 (List.mem_of_getElem? (i := 185) rfl)⟩
theorem lw_p92 : lw_okq (⟨"MissedTrainsModel", "findsNext", "(I)Z"⟩, 66) := ⟨⟨by decide +kernel, by decide +kernel⟩, lw_t5 (List.mem_of_getElem? (i := 158) rfl), lw_t7 (List.mem_of_getElem? (i := 196) rfl), lw_t7 (List.mem_of_getElem? (i := 197) rfl)⟩
theorem lw_p93 : lw_okq (⟨"MissedTrainsModel", "goesOn", "(II)Z"⟩, 66) := ⟨⟨by decide +kernel, by decide +kernel⟩, lw_t5 (List.mem_of_getElem? (i := 158) rfl), lw_t7 (List.mem_of_getElem? (i := 200) rfl), lw_t7 (List.mem_of_getElem? (i := 201) rfl)⟩
theorem lw_p94 : lw_okq (⟨"MissedTrainsModel", "changesAlong", "(II)V"⟩, 66) := ⟨⟨by decide +kernel, by decide +kernel⟩, lw_t5 (List.mem_of_getElem? (i := 158) rfl), lw_t7 (List.mem_of_getElem? (i := 205) rfl), lw_t7 (List.mem_of_getElem? (i := 206) rfl)⟩
theorem lw_p95 : lw_okq (⟨"MissedTrainsModel", "areMet", "(II)Z"⟩, 66) := ⟨⟨by decide +kernel, by decide +kernel⟩, lw_t5 (List.mem_of_getElem? (i := 158) rfl), lw_t7 (List.mem_of_getElem? (i := 213) rfl), lw_t7 (List.mem_of_getElem? (i := 214) rfl)⟩
def lw_privs_6 : List (MethodName × Nat) := [(⟨"MissedTrainsModel", "holdsAny", "(I)Z"⟩, 66), (⟨"MissedTrainsModel", "isPerson", "(I)Z"⟩, 66), (⟨"MissedTrainsModel", "soonest", "(III)I"⟩, 66), (⟨"MissedTrainsModel", "beginsAt", "(II)V"⟩, 66), (⟨"MissedTrainsModel", "oneRideMore", "(I)V"⟩, 66), (⟨"MissedTrainsModel", "leavesFrom", "(II)Z"⟩, 66), (⟨"MissedTrainsModel", "minuteAt", "(II)I"⟩, 66), (⟨"MissedTrainsModel", "laysBest", "(II)I"⟩, 66), (⟨"MissedTrainsModel", "clearsMinutes", "()V"⟩, 66), (⟨"MissedTrainsModel", "goesFromTo", "(III)Z"⟩, 66), (⟨"MissedTrainsModel", "longestBetween", "()I"⟩, 66), (⟨"MissedTrainsModel", "comesTo", "(II)Z"⟩, 66), (⟨"MissedTrainsModel", "findsNext", "(I)Z"⟩, 66), (⟨"MissedTrainsModel", "goesOn", "(II)Z"⟩, 66), (⟨"MissedTrainsModel", "changesAlong", "(II)V"⟩, 66), (⟨"MissedTrainsModel", "areMet", "(II)Z"⟩, 66)]
theorem lw_r6 : ∀ q ∈ lw_privs_6, lw_okq q := List.forall_mem_cons.mpr ⟨lw_p80, List.forall_mem_cons.mpr ⟨lw_p81, List.forall_mem_cons.mpr ⟨lw_p82, List.forall_mem_cons.mpr ⟨lw_p83, List.forall_mem_cons.mpr ⟨lw_p84, List.forall_mem_cons.mpr ⟨lw_p85, List.forall_mem_cons.mpr ⟨lw_p86, List.forall_mem_cons.mpr ⟨lw_p87, List.forall_mem_cons.mpr ⟨lw_p88, List.forall_mem_cons.mpr ⟨lw_p89, List.forall_mem_cons.mpr ⟨lw_p90, List.forall_mem_cons.mpr ⟨lw_p91, List.forall_mem_cons.mpr ⟨lw_p92, List.forall_mem_cons.mpr ⟨lw_p93, List.forall_mem_cons.mpr ⟨lw_p94, List.forall_mem_cons.mpr ⟨lw_p95, fun _ h => absurd h List.not_mem_nil⟩⟩⟩⟩⟩⟩⟩⟩⟩⟩⟩⟩⟩⟩⟩⟩
theorem lw_p96 : lw_okq (⟨"MissedTrainsModel", "mostAt", "(II)I"⟩, 66) := ⟨⟨by decide +kernel, by decide +kernel⟩, lw_t5 (List.mem_of_getElem? (i := 158) rfl), lw_t7 (List.mem_of_getElem? (i := 221) rfl), lw_t7 (List.mem_of_getElem? (i := 222) rfl)⟩
theorem lw_p97 : lw_okq (⟨"MissedTrainsModel", "octet", "(I)I"⟩, 66) := ⟨⟨by decide +kernel, by decide +kernel⟩, lw_t5 (List.mem_of_getElem? (i := 158) rfl), lw_t8 (List.mem_of_getElem? (i := 2) rfl), lw_t8 (List.mem_of_getElem? (i := 3) rfl)⟩
theorem lw_p98 : lw_okq (⟨"MissedTrainsModel", "toldSet", "()I"⟩, 66) := ⟨⟨by decide +kernel, by decide +kernel⟩, lw_t5 (List.mem_of_getElem? (i := 158) rfl), lw_t8 (List.mem_of_getElem? (i := 30) rfl), lw_t8 (List.mem_of_getElem? (i := 31) rfl)⟩
theorem lw_p99 : lw_okq (⟨"MissedTrainsModel", "running", "()I"⟩, 66) := ⟨⟨by decide +kernel, by decide +kernel⟩, lw_t5 (List.mem_of_getElem? (i := 158) rfl), lw_t8 (List.mem_of_getElem? (i := 34) rfl), lw_t8 (List.mem_of_getElem? (i := 35) rfl)⟩
theorem lw_p100 : lw_okq (⟨"MissedTrainsModel", "allOf", "(I)I"⟩, 66) := ⟨⟨by decide +kernel, by decide +kernel⟩, lw_t5 (List.mem_of_getElem? (i := 158) rfl), lw_t8 (List.mem_of_getElem? (i := 38) rfl), lw_t8 (List.mem_of_getElem? (i := 39) rfl)⟩
def lw_privs_7 : List (MethodName × Nat) := [(⟨"MissedTrainsModel", "mostAt", "(II)I"⟩, 66), (⟨"MissedTrainsModel", "octet", "(I)I"⟩, 66), (⟨"MissedTrainsModel", "toldSet", "()I"⟩, 66), (⟨"MissedTrainsModel", "running", "()I"⟩, 66), (⟨"MissedTrainsModel", "allOf", "(I)I"⟩, 66)]
theorem lw_r7 : ∀ q ∈ lw_privs_7, lw_okq q := List.forall_mem_cons.mpr ⟨lw_p96, List.forall_mem_cons.mpr ⟨lw_p97, List.forall_mem_cons.mpr ⟨lw_p98, List.forall_mem_cons.mpr ⟨lw_p99, List.forall_mem_cons.mpr ⟨lw_p100, fun _ h => absurd h List.not_mem_nil⟩⟩⟩⟩⟩
def lw_privs : List (MethodName × Nat) := lw_privs_1 ++ (lw_privs_2 ++ (lw_privs_3 ++ (lw_privs_4 ++ (lw_privs_5 ++ (lw_privs_6 ++ (lw_privs_7))))))
def lw_tbl : List Cond := k2_sels lw_privs ++ tables_1
theorem lw_privs_ok : ∀ q ∈ lw_privs, lw_okq q := by
  show ∀ q ∈ lw_privs_1 ++ (lw_privs_2 ++ (lw_privs_3 ++ (lw_privs_4 ++ (lw_privs_5 ++ (lw_privs_6 ++ (lw_privs_7)))))), lw_okq q
  exact List.forall_mem_append.mpr ⟨lw_r1, List.forall_mem_append.mpr ⟨lw_r2, List.forall_mem_append.mpr ⟨lw_r3, List.forall_mem_append.mpr ⟨lw_r4, List.forall_mem_append.mpr ⟨lw_r5, List.forall_mem_append.mpr ⟨lw_r6, lw_r7⟩⟩⟩⟩⟩⟩
-- ===== ONE list of words for every method: the tables' words that hold all through a run =====
def lw_all : List Cond := lw_tbl.filter goodWord
/-- a word of the tables by its place: claim/WORDS.tsv -/
theorem lw_w {w : Cond} (i : Nat) (h : lw_tbl[i]? = some w) (g : goodWord w = true) : w ∈ lw_all := List.mem_filter.mpr ⟨List.mem_of_getElem? h, g⟩
theorem lw_all_tbl {w : Cond} (h : w ∈ lw_all) : w ∈ lw_tbl := (List.mem_filter.mp h).1
theorem lw_self : GoodIn lw_all lw_all := fun w h => ⟨h, good_of_word (List.mem_filter.mp h).2⟩
/-- a class's field words, by their places -/
theorem lw_in (ws : List Cond) (ps : List Nat) (hp : ws = ps.filterMap (fun i => lw_tbl[i]?)) (hg : ws.all goodWord = true) : ∀ w ∈ ws, w ∈ lw_all := by
  intro w h
  have h1 := List.all_eq_true.mp hg w h
  rw [hp] at h
  obtain ⟨i, -, hi⟩ := List.mem_filterMap.mp h
  exact lw_w i hi h1
/-- the words of a contract for the method y with code b, L locals, answer r -/
abbrev ws_ (y : MethodName) (b : ByteArray) (L : Nat) (r : Option FieldType) : List Cond := Cond.code y b L r :: lw_all
theorem lw_meth {y : MethodName} {b : ByteArray} {L : Nat} {r : Option FieldType} (h : Cond.code y b L r ∈ lw_all) : GoodIn lw_all (ws_ y b L r) := by
  intro w hw
  rcases List.mem_cons.mp hw with e | e
  · rw [e]
    exact lw_self _ h
  · exact lw_self _ e
theorem lw_app {a c : List Cond} (ha : ∀ w ∈ a, w ∈ lw_all) (hc : GoodIn lw_all c) : GoodIn lw_all (a ++ c) := by
  intro w hw
  rcases List.mem_append.mp hw with e | e
  · exact lw_self w (ha w e)
  · exact hc w e
/-- what a call through an object asks: cwV n hts (lw_V ..) -/
theorem lw_V {own : String} {idx : Nat} {C : String} {y : MethodName} {b : ByteArray} {L : Nat} {r : Option FieldType} (h1 : Cond.methodLink own idx y ∈ lw_all) (h2 : Cond.instanceMethod y ∈ lw_all) (h3 : Cond.selects C y y ∈ lw_all) (h4 : Cond.initialized C ∈ lw_all) (h5 : Cond.code y b L r ∈ lw_all) : GoodIn lw_all (wsV own idx C y (ws_ y b L r)) := by
  refine lw_app ?_ (lw_meth h5)
  intro w hw
  simp only [List.mem_cons, List.not_mem_nil, or_false] at hw
  rcases hw with e | e | e | e
  · rw [e]; exact h1
  · rw [e]; exact h2
  · rw [e]; exact h3
  · rw [e]; exact h4
/-- what a static call asks: va_cwS n hts (lw_S ..) -/
theorem lw_S {own : String} {idx : Nat} {y : MethodName} {b : ByteArray} {L : Nat} {r : Option FieldType} (h1 : Cond.methodLink own idx y ∈ lw_all) (h2 : Cond.static y ∈ lw_all) (h3 : Cond.initialized y.cls ∈ lw_all) (h4 : Cond.code y b L r ∈ lw_all) : GoodIn lw_all (va_wsS own idx y (ws_ y b L r)) := by
  refine lw_app ?_ (lw_meth h4)
  intro w hw
  simp only [List.mem_cons, List.not_mem_nil, or_false] at hw
  rcases hw with e | e | e
  · rw [e]; exact h1
  · rw [e]; exact h2
  · rw [e]; exact h3
/-- the words of a contract for a method WITH HANDLERS (hh: its table) -/
abbrev wsW_ (y : MethodName) (b : ByteArray) (L : Nat) (r : Option FieldType) (hh : List (Nat × Nat × Nat × Nat)) : List Cond := Cond.codeWith y b L r hh :: lw_all
theorem lw_methW {y : MethodName} {b : ByteArray} {L : Nat} {r : Option FieldType} {hh : List (Nat × Nat × Nat × Nat)} (h : Cond.codeWith y b L r hh ∈ lw_all) : GoodIn lw_all (wsW_ y b L r hh) := by
  intro w hw
  rcases List.mem_cons.mp hw with e | e
  · rw [e]
    exact lw_self _ h
  · exact lw_self _ e
/-- any list of words by their places (lw_in), good -/
theorem lw_good {ws : List Cond} (h : ∀ w ∈ ws, w ∈ lw_all) : GoodIn lw_all ws := fun w hw => lw_self w (h w hw)
/-- what a call of a method with handlers asks: vx_cwVW n hts (lw_VW ..), vx_cwSW n hts (lw_SW ..) -/
theorem lw_VW {own : String} {idx : Nat} {C : String} {y : MethodName} {b : ByteArray} {L : Nat} {r : Option FieldType} {hh : List (Nat × Nat × Nat × Nat)} (h1 : Cond.methodLink own idx y ∈ lw_all) (h2 : Cond.instanceMethod y ∈ lw_all) (h3 : Cond.selects C y y ∈ lw_all) (h4 : Cond.initialized C ∈ lw_all) (h5 : Cond.codeWith y b L r hh ∈ lw_all) : GoodIn lw_all (wsV own idx C y (wsW_ y b L r hh)) := by
  refine lw_app ?_ (lw_methW h5)
  intro w hw
  simp only [List.mem_cons, List.not_mem_nil, or_false] at hw
  rcases hw with e | e | e | e
  · rw [e]; exact h1
  · rw [e]; exact h2
  · rw [e]; exact h3
  · rw [e]; exact h4
theorem lw_SW {own : String} {idx : Nat} {y : MethodName} {b : ByteArray} {L : Nat} {r : Option FieldType} {hh : List (Nat × Nat × Nat × Nat)} (h1 : Cond.methodLink own idx y ∈ lw_all) (h2 : Cond.static y ∈ lw_all) (h3 : Cond.initialized y.cls ∈ lw_all) (h4 : Cond.codeWith y b L r hh ∈ lw_all) : GoodIn lw_all (va_wsS own idx y (wsW_ y b L r hh)) := by
  refine lw_app ?_ (lw_methW h4)
  intro w hw
  simp only [List.mem_cons, List.not_mem_nil, or_false] at hw
  rcases hw with e | e | e
  · rw [e]; exact h1
  · rw [e]; exact h2
  · rw [e]; exact h3
/-- a word by its place in its run of the tables -/
theorem lw_at {r : List Cond} (hr : ∀ w ∈ r, w ∈ lw_tbl) {w : Cond} (i : Nat) (h : r[i]? = some w) : w ∈ lw_tbl := hr w (List.mem_of_getElem? h)
theorem lw_g {w : Cond} (h : w ∈ lw_tbl) (g : goodWord w = true) : w ∈ lw_all := List.mem_filter.mpr ⟨h, g⟩
theorem lw_ms : ∀ w ∈ k2_sels lw_privs, w ∈ lw_tbl := fun w h => show w ∈ k2_sels lw_privs ++ tables_1 from List.mem_append_left _ h
theorem lw_m1 : ∀ w ∈ tables_1_1, w ∈ lw_tbl := fun w h => show w ∈ k2_sels lw_privs ++ tables_1 from List.mem_append_right (k2_sels lw_privs) (show w ∈ tables_1 from List.mem_append_left _ h)
theorem lw_m2 : ∀ w ∈ tables_1_2, w ∈ lw_tbl := fun w h => show w ∈ k2_sels lw_privs ++ tables_1 from List.mem_append_right (k2_sels lw_privs) (show w ∈ tables_1 from List.mem_append_right _ (List.mem_append_left _ h))
theorem lw_m3 : ∀ w ∈ tables_1_3, w ∈ lw_tbl := fun w h => show w ∈ k2_sels lw_privs ++ tables_1 from List.mem_append_right (k2_sels lw_privs) (show w ∈ tables_1 from List.mem_append_right _ (List.mem_append_right _ (List.mem_append_left _ h)))
theorem lw_m4 : ∀ w ∈ tables_1_4, w ∈ lw_tbl := fun w h => show w ∈ k2_sels lw_privs ++ tables_1 from List.mem_append_right (k2_sels lw_privs) (show w ∈ tables_1 from List.mem_append_right _ (List.mem_append_right _ (List.mem_append_right _ (List.mem_append_left _ h))))
theorem lw_m5 : ∀ w ∈ tables_1_5, w ∈ lw_tbl := fun w h => show w ∈ k2_sels lw_privs ++ tables_1 from List.mem_append_right (k2_sels lw_privs) (show w ∈ tables_1 from List.mem_append_right _ (List.mem_append_right _ (List.mem_append_right _ (List.mem_append_right _ (List.mem_append_left _ h)))))
theorem lw_m6 : ∀ w ∈ tables_1_6, w ∈ lw_tbl := fun w h => show w ∈ k2_sels lw_privs ++ tables_1 from List.mem_append_right (k2_sels lw_privs) (show w ∈ tables_1 from List.mem_append_right _ (List.mem_append_right _ (List.mem_append_right _ (List.mem_append_right _ (List.mem_append_right _ (List.mem_append_left _ h))))))
theorem lw_m7 : ∀ w ∈ tables_1_7, w ∈ lw_tbl := fun w h => show w ∈ k2_sels lw_privs ++ tables_1 from List.mem_append_right (k2_sels lw_privs) (show w ∈ tables_1 from List.mem_append_right _ (List.mem_append_right _ (List.mem_append_right _ (List.mem_append_right _ (List.mem_append_right _ (List.mem_append_right _ (List.mem_append_left _ h)))))))
theorem lw_m8 : ∀ w ∈ tables_1_8, w ∈ lw_tbl := fun w h => show w ∈ k2_sels lw_privs ++ tables_1 from List.mem_append_right (k2_sels lw_privs) (show w ∈ tables_1 from List.mem_append_right _ (List.mem_append_right _ (List.mem_append_right _ (List.mem_append_right _ (List.mem_append_right _ (List.mem_append_right _ (List.mem_append_right _ h)))))))
theorem qs0 : (Cond.selects "MissedTrains" ⟨"MissedTrains", "push", "(I)V"⟩ ⟨"MissedTrains", "push", "(I)V"⟩) ∈ lw_all := lw_g (lw_at lw_ms 0 rfl) rfl
theorem qs1 : (Cond.selects "MissedTrains$Reader" ⟨"MissedTrains$Reader", "isGood", "()Z"⟩ ⟨"MissedTrains$Reader", "isGood", "()Z"⟩) ∈ lw_all := lw_g (lw_at lw_ms 1 rfl) rfl
theorem qs2 : (Cond.selects "MissedTrains$Reader" ⟨"MissedTrains$Reader", "clause", "()V"⟩ ⟨"MissedTrains$Reader", "clause", "()V"⟩) ∈ lw_all := lw_g (lw_at lw_ms 2 rfl) rfl
theorem qs3 : (Cond.selects "MissedTrains$Reader" ⟨"MissedTrains$Reader", "here", "()I"⟩ ⟨"MissedTrains$Reader", "here", "()I"⟩) ∈ lw_all := lw_g (lw_at lw_ms 3 rfl) rfl
theorem qs4 : (Cond.selects "MissedTrains$Reader" ⟨"MissedTrains$Reader", "bad", "(II)V"⟩ ⟨"MissedTrains$Reader", "bad", "(II)V"⟩) ∈ lw_all := lw_g (lw_at lw_ms 4 rfl) rfl
theorem qs5 : (Cond.selects "MissedTrains$Reader" ⟨"MissedTrains$Reader", "sum", "()LMissedTrains$Sum;"⟩ ⟨"MissedTrains$Reader", "sum", "()LMissedTrains$Sum;"⟩) ∈ lw_all := lw_g (lw_at lw_ms 5 rfl) rfl
theorem qs6 : (Cond.selects "MissedTrains$Reader" ⟨"MissedTrains$Reader", "product", "()LMissedTrains$Sum;"⟩ ⟨"MissedTrains$Reader", "product", "()LMissedTrains$Sum;"⟩) ∈ lw_all := lw_g (lw_at lw_ms 6 rfl) rfl
theorem qs7 : (Cond.selects "MissedTrains$Reader" ⟨"MissedTrains$Reader", "factor", "()LMissedTrains$Sum;"⟩ ⟨"MissedTrains$Reader", "factor", "()LMissedTrains$Sum;"⟩) ∈ lw_all := lw_g (lw_at lw_ms 7 rfl) rfl
theorem qs8 : (Cond.selects "MissedTrains$Reader" ⟨"MissedTrains$Reader", "opens", "()V"⟩ ⟨"MissedTrains$Reader", "opens", "()V"⟩) ∈ lw_all := lw_g (lw_at lw_ms 8 rfl) rfl
theorem qs9 : (Cond.selects "MissedTrains$Reader" ⟨"MissedTrains$Reader", "must", "(I)V"⟩ ⟨"MissedTrains$Reader", "must", "(I)V"⟩) ∈ lw_all := lw_g (lw_at lw_ms 9 rfl) rfl
theorem qs10 : (Cond.selects "MissedTrains$Reader" ⟨"MissedTrains$Reader", "seesDigit", "()Z"⟩ ⟨"MissedTrains$Reader", "seesDigit", "()Z"⟩) ∈ lw_all := lw_g (lw_at lw_ms 10 rfl) rfl
theorem qs11 : (Cond.selects "MissedTrains$Reader" ⟨"MissedTrains$Reader", "number", "()I"⟩ ⟨"MissedTrains$Reader", "number", "()I"⟩) ∈ lw_all := lw_g (lw_at lw_ms 11 rfl) rfl
theorem qs12 : (Cond.selects "MissedTrains$Reader" ⟨"MissedTrains$Reader", "condition", "()LMissedTrains$Condition;"⟩ ⟨"MissedTrains$Reader", "condition", "()LMissedTrains$Condition;"⟩) ∈ lw_all := lw_g (lw_at lw_ms 12 rfl) rfl
theorem qs13 : (Cond.selects "MissedTrains$Reader" ⟨"MissedTrains$Reader", "pieces", "()LMissedTrains$Condition;"⟩ ⟨"MissedTrains$Reader", "pieces", "()LMissedTrains$Condition;"⟩) ∈ lw_all := lw_g (lw_at lw_ms 13 rfl) rfl
theorem qs14 : (Cond.selects "MissedTrains$Reader" ⟨"MissedTrains$Reader", "piece", "()LMissedTrains$Condition;"⟩ ⟨"MissedTrains$Reader", "piece", "()LMissedTrains$Condition;"⟩) ∈ lw_all := lw_g (lw_at lw_ms 14 rfl) rfl
theorem qs15 : (Cond.selects "MissedTrains$Clerk" ⟨"MissedTrains$Clerk", "seesStation", "()Z"⟩ ⟨"MissedTrains$Clerk", "seesStation", "()Z"⟩) ∈ lw_all := lw_g (lw_at lw_ms 15 rfl) rfl
theorem qs16 : (Cond.selects "MissedTrains$Clerk" ⟨"MissedTrains$Clerk", "stop", "(LMissedTrains$Train;)V"⟩ ⟨"MissedTrains$Clerk", "stop", "(LMissedTrains$Train;)V"⟩) ∈ lw_all := lw_g (lw_at lw_ms 16 rfl) rfl
theorem qs17 : (Cond.selects "MissedTrains$Clerk" ⟨"MissedTrains$Clerk", "repeats", "(I)V"⟩ ⟨"MissedTrains$Clerk", "repeats", "(I)V"⟩) ∈ lw_all := lw_g (lw_at lw_ms 17 rfl) rfl
theorem qs18 : (Cond.selects "MissedTrains" ⟨"MissedTrains", "isTrain", "(I)Z"⟩ ⟨"MissedTrains", "isTrain", "(I)Z"⟩) ∈ lw_all := lw_g (lw_at lw_ms 18 rfl) rfl
theorem qs19 : (Cond.selects "MissedTrains" ⟨"MissedTrains", "laysEvents", "()V"⟩ ⟨"MissedTrains", "laysEvents", "()V"⟩) ∈ lw_all := lw_g (lw_at lw_ms 19 rfl) rfl
theorem qs20 : (Cond.selects "MissedTrains" ⟨"MissedTrains", "minuteOf", "(I)I"⟩ ⟨"MissedTrains", "minuteOf", "(I)I"⟩) ∈ lw_all := lw_g (lw_at lw_ms 20 rfl) rfl
theorem qs21 : (Cond.selects "MissedTrains$Platform" ⟨"MissedTrains$Platform", "dayGoes", "()V"⟩ ⟨"MissedTrains$Platform", "dayGoes", "()V"⟩) ∈ lw_all := lw_g (lw_at lw_ms 21 rfl) rfl
theorem qs22 : (Cond.selects "MissedTrains$Platform" ⟨"MissedTrains$Platform", "stops", "(II)V"⟩ ⟨"MissedTrains$Platform", "stops", "(II)V"⟩) ∈ lw_all := lw_g (lw_at lw_ms 22 rfl) rfl
theorem qs23 : (Cond.selects "MissedTrains$Platform" ⟨"MissedTrains$Platform", "draw", "()I"⟩ ⟨"MissedTrains$Platform", "draw", "()I"⟩) ∈ lw_all := lw_g (lw_at lw_ms 23 rfl) rfl
theorem qs24 : (Cond.selects "MissedTrains$Platform" ⟨"MissedTrains$Platform", "waiting", "(I)I"⟩ ⟨"MissedTrains$Platform", "waiting", "(I)I"⟩) ∈ lw_all := lw_g (lw_at lw_ms 24 rfl) rfl
theorem qs25 : (Cond.selects "MissedTrains" ⟨"MissedTrains", "tells", "(II)I"⟩ ⟨"MissedTrains", "tells", "(II)I"⟩) ∈ lw_all := lw_g (lw_at lw_ms 25 rfl) rfl
theorem qs26 : (Cond.selects "MissedTrains$Platform" ⟨"MissedTrains$Platform", "arrives", "(II)V"⟩ ⟨"MissedTrains$Platform", "arrives", "(II)V"⟩) ∈ lw_all := lw_g (lw_at lw_ms 26 rfl) rfl
theorem qs27 : (Cond.selects "MissedTrains$Platform" ⟨"MissedTrains$Platform", "boards", "(IIIII)V"⟩ ⟨"MissedTrains$Platform", "boards", "(IIIII)V"⟩) ∈ lw_all := lw_g (lw_at lw_ms 27 rfl) rfl
theorem qs28 : (Cond.selects "MissedTrains" ⟨"MissedTrains", "isTold", "(I)Z"⟩ ⟨"MissedTrains", "isTold", "(I)Z"⟩) ∈ lw_all := lw_g (lw_at lw_ms 28 rfl) rfl
theorem qs29 : (Cond.selects "MissedTrains" ⟨"MissedTrains", "laysThere", "(III)I"⟩ ⟨"MissedTrains", "laysThere", "(III)I"⟩) ∈ lw_all := lw_g (lw_at lw_ms 29 rfl) rfl
theorem qs30 : (Cond.selects "MissedTrains" ⟨"MissedTrains", "ridesIn", "(LMissedTrains$Train;I)V"⟩ ⟨"MissedTrains", "ridesIn", "(LMissedTrains$Train;I)V"⟩) ∈ lw_all := lw_g (lw_at lw_ms 30 rfl) rfl
theorem qs31 : (Cond.selects "MissedTrains" ⟨"MissedTrains", "arrivalFrom", "(III)I"⟩ ⟨"MissedTrains", "arrivalFrom", "(III)I"⟩) ∈ lw_all := lw_g (lw_at lw_ms 31 rfl) rfl
theorem qs32 : (Cond.selects "MissedTrains" ⟨"MissedTrains", "laysBest", "(II)I"⟩ ⟨"MissedTrains", "laysBest", "(II)I"⟩) ∈ lw_all := lw_g (lw_at lw_ms 32 rfl) rfl
theorem qs33 : (Cond.selects "MissedTrains" ⟨"MissedTrains", "isAt", "(II)Z"⟩ ⟨"MissedTrains", "isAt", "(II)Z"⟩) ∈ lw_all := lw_g (lw_at lw_ms 33 rfl) rfl
theorem qs34 : (Cond.selects "MissedTrains" ⟨"MissedTrains", "running", "()I"⟩ ⟨"MissedTrains", "running", "()I"⟩) ∈ lw_all := lw_g (lw_at lw_ms 34 rfl) rfl
theorem qs35 : (Cond.selects "MissedTrains" ⟨"MissedTrains", "finds", "(I)Z"⟩ ⟨"MissedTrains", "finds", "(I)Z"⟩) ∈ lw_all := lw_g (lw_at lw_ms 35 rfl) rfl
theorem qs36 : (Cond.selects "MissedTrains" ⟨"MissedTrains", "canFollow", "(II)Z"⟩ ⟨"MissedTrains", "canFollow", "(II)Z"⟩) ∈ lw_all := lw_g (lw_at lw_ms 36 rfl) rfl
theorem qs37 : (Cond.selects "MissedTrains" ⟨"MissedTrains", "doMeet", "(LMissedTrains$Train;LMissedTrains$Train;)Z"⟩ ⟨"MissedTrains", "doMeet", "(LMissedTrains$Train;LMissedTrains$Train;)Z"⟩) ∈ lw_all := lw_g (lw_at lw_ms 37 rfl) rfl
theorem qs38 : (Cond.selects "MissedTrains" ⟨"MissedTrains", "ridesFrom", "(III)I"⟩ ⟨"MissedTrains", "ridesFrom", "(III)I"⟩) ∈ lw_all := lw_g (lw_at lw_ms 38 rfl) rfl
theorem qs39 : (Cond.selects "MissedTrains" ⟨"MissedTrains", "stopping", "(I)I"⟩ ⟨"MissedTrains", "stopping", "(I)I"⟩) ∈ lw_all := lw_g (lw_at lw_ms 39 rfl) rfl
theorem qs40 : (Cond.selects "MissedTrains" ⟨"MissedTrains", "leavesAt", "(II)I"⟩ ⟨"MissedTrains", "leavesAt", "(II)I"⟩) ∈ lw_all := lw_g (lw_at lw_ms 40 rfl) rfl
theorem qs41 : (Cond.selects "MissedTrains" ⟨"MissedTrains", "told", "()I"⟩ ⟨"MissedTrains", "told", "()I"⟩) ∈ lw_all := lw_g (lw_at lw_ms 41 rfl) rfl
theorem qs42 : (Cond.selects "MissedTrains" ⟨"MissedTrains", "countedOfAll", "(Z)I"⟩ ⟨"MissedTrains", "countedOfAll", "(Z)I"⟩) ∈ lw_all := lw_g (lw_at lw_ms 42 rfl) rfl
theorem qs43 : (Cond.selects "MissedTrainsModel" ⟨"MissedTrainsModel", "types", "(I)V"⟩ ⟨"MissedTrainsModel", "types", "(I)V"⟩) ∈ lw_all := lw_g (lw_at lw_ms 43 rfl) rfl
theorem qs44 : (Cond.selects "MissedTrainsModel" ⟨"MissedTrainsModel", "beginsText", "(I)V"⟩ ⟨"MissedTrainsModel", "beginsText", "(I)V"⟩) ∈ lw_all := lw_g (lw_at lw_ms 44 rfl) rfl
theorem qs45 : (Cond.selects "MissedTrainsModel" ⟨"MissedTrainsModel", "readsRule", "()Z"⟩ ⟨"MissedTrainsModel", "readsRule", "()Z"⟩) ∈ lw_all := lw_g (lw_at lw_ms 45 rfl) rfl
theorem qs46 : (Cond.selects "MissedTrainsModel" ⟨"MissedTrainsModel", "here", "()I"⟩ ⟨"MissedTrainsModel", "here", "()I"⟩) ∈ lw_all := lw_g (lw_at lw_ms 46 rfl) rfl
theorem qs47 : (Cond.selects "MissedTrainsModel" ⟨"MissedTrainsModel", "wrongAt", "(II)Z"⟩ ⟨"MissedTrainsModel", "wrongAt", "(II)Z"⟩) ∈ lw_all := lw_g (lw_at lw_ms 47 rfl) rfl
theorem qs48 : (Cond.selects "MissedTrainsModel" ⟨"MissedTrainsModel", "readsSum", "()Z"⟩ ⟨"MissedTrainsModel", "readsSum", "()Z"⟩) ∈ lw_all := lw_g (lw_at lw_ms 48 rfl) rfl
theorem qs49 : (Cond.selects "MissedTrainsModel" ⟨"MissedTrainsModel", "readsFactor", "()Z"⟩ ⟨"MissedTrainsModel", "readsFactor", "()Z"⟩) ∈ lw_all := lw_g (lw_at lw_ms 49 rfl) rfl
theorem qs50 : (Cond.selects "MissedTrainsModel" ⟨"MissedTrainsModel", "opens", "(I)Z"⟩ ⟨"MissedTrainsModel", "opens", "(I)Z"⟩) ∈ lw_all := lw_g (lw_at lw_ms 50 rfl) rfl
theorem qs51 : (Cond.selects "MissedTrainsModel" ⟨"MissedTrainsModel", "isDigit", "()Z"⟩ ⟨"MissedTrainsModel", "isDigit", "()Z"⟩) ∈ lw_all := lw_g (lw_at lw_ms 51 rfl) rfl
theorem qs52 : (Cond.selects "MissedTrainsModel" ⟨"MissedTrainsModel", "readsNumber", "()Z"⟩ ⟨"MissedTrainsModel", "readsNumber", "()Z"⟩) ∈ lw_all := lw_g (lw_at lw_ms 52 rfl) rfl
theorem qs53 : (Cond.selects "MissedTrainsModel" ⟨"MissedTrainsModel", "notes", "(II)V"⟩ ⟨"MissedTrainsModel", "notes", "(II)V"⟩) ∈ lw_all := lw_g (lw_at lw_ms 53 rfl) rfl
theorem qs54 : (Cond.selects "MissedTrainsModel" ⟨"MissedTrainsModel", "closesSums", "(Z)V"⟩ ⟨"MissedTrainsModel", "closesSums", "(Z)V"⟩) ∈ lw_all := lw_g (lw_at lw_ms 54 rfl) rfl
theorem qs55 : (Cond.selects "MissedTrainsModel" ⟨"MissedTrainsModel", "waitTop", "()I"⟩ ⟨"MissedTrainsModel", "waitTop", "()I"⟩) ∈ lw_all := lw_g (lw_at lw_ms 55 rfl) rfl
theorem qs56 : (Cond.selects "MissedTrainsModel" ⟨"MissedTrainsModel", "hasOpenSum", "(I)Z"⟩ ⟨"MissedTrainsModel", "hasOpenSum", "(I)Z"⟩) ∈ lw_all := lw_g (lw_at lw_ms 56 rfl) rfl
theorem qs57 : (Cond.selects "MissedTrainsModel" ⟨"MissedTrainsModel", "readsCondition", "()Z"⟩ ⟨"MissedTrainsModel", "readsCondition", "()Z"⟩) ∈ lw_all := lw_g (lw_at lw_ms 57 rfl) rfl
theorem qs58 : (Cond.selects "MissedTrainsModel" ⟨"MissedTrainsModel", "readsCompared", "()Z"⟩ ⟨"MissedTrainsModel", "readsCompared", "()Z"⟩) ∈ lw_all := lw_g (lw_at lw_ms 58 rfl) rfl
theorem qs59 : (Cond.selects "MissedTrainsModel" ⟨"MissedTrainsModel", "endsPiece", "()V"⟩ ⟨"MissedTrainsModel", "endsPiece", "()V"⟩) ∈ lw_all := lw_g (lw_at lw_ms 59 rfl) rfl
theorem qs60 : (Cond.selects "MissedTrainsModel" ⟨"MissedTrainsModel", "lands", "(Z)V"⟩ ⟨"MissedTrainsModel", "lands", "(Z)V"⟩) ∈ lw_all := lw_g (lw_at lw_ms 60 rfl) rfl
theorem qs61 : (Cond.selects "MissedTrainsModel" ⟨"MissedTrainsModel", "jumps", "(I)V"⟩ ⟨"MissedTrainsModel", "jumps", "(I)V"⟩) ∈ lw_all := lw_g (lw_at lw_ms 61 rfl) rfl
theorem qs62 : (Cond.selects "MissedTrainsModel" ⟨"MissedTrainsModel", "takes", "(I)Z"⟩ ⟨"MissedTrainsModel", "takes", "(I)Z"⟩) ∈ lw_all := lw_g (lw_at lw_ms 62 rfl) rfl
theorem qs63 : (Cond.selects "MissedTrainsModel" ⟨"MissedTrainsModel", "readsService", "()Z"⟩ ⟨"MissedTrainsModel", "readsService", "()Z"⟩) ∈ lw_all := lw_g (lw_at lw_ms 63 rfl) rfl
theorem qs64 : (Cond.selects "MissedTrainsModel" ⟨"MissedTrainsModel", "isLetter", "()Z"⟩ ⟨"MissedTrainsModel", "isLetter", "()Z"⟩) ∈ lw_all := lw_g (lw_at lw_ms 64 rfl) rfl
theorem qs65 : (Cond.selects "MissedTrainsModel" ⟨"MissedTrainsModel", "readsStop", "(I)Z"⟩ ⟨"MissedTrainsModel", "readsStop", "(I)Z"⟩) ∈ lw_all := lw_g (lw_at lw_ms 65 rfl) rfl
theorem qs66 : (Cond.selects "MissedTrainsModel" ⟨"MissedTrainsModel", "readsWithin", "(III)Z"⟩ ⟨"MissedTrainsModel", "readsWithin", "(III)Z"⟩) ∈ lw_all := lw_g (lw_at lw_ms 66 rfl) rfl
theorem qs67 : (Cond.selects "MissedTrainsModel" ⟨"MissedTrainsModel", "sortsEvents", "()V"⟩ ⟨"MissedTrainsModel", "sortsEvents", "()V"⟩) ∈ lw_all := lw_g (lw_at lw_ms 67 rfl) rfl
theorem qs68 : (Cond.selects "MissedTrainsModel" ⟨"MissedTrainsModel", "readsOrder", "()Z"⟩ ⟨"MissedTrainsModel", "readsOrder", "()Z"⟩) ∈ lw_all := lw_g (lw_at lw_ms 68 rfl) rfl
theorem qs69 : (Cond.selects "MissedTrainsModel" ⟨"MissedTrainsModel", "daysGo", "(I)V"⟩ ⟨"MissedTrainsModel", "daysGo", "(I)V"⟩) ∈ lw_all := lw_g (lw_at lw_ms 69 rfl) rfl
theorem qs70 : (Cond.selects "MissedTrainsModel" ⟨"MissedTrainsModel", "dayGoes", "()V"⟩ ⟨"MissedTrainsModel", "dayGoes", "()V"⟩) ∈ lw_all := lw_g (lw_at lw_ms 70 rfl) rfl
theorem qs71 : (Cond.selects "MissedTrainsModel" ⟨"MissedTrainsModel", "runs", "(I)Z"⟩ ⟨"MissedTrainsModel", "runs", "(I)Z"⟩) ∈ lw_all := lw_g (lw_at lw_ms 71 rfl) rfl
theorem qs72 : (Cond.selects "MissedTrainsModel" ⟨"MissedTrainsModel", "stops", "(II)V"⟩ ⟨"MissedTrainsModel", "stops", "(II)V"⟩) ∈ lw_all := lw_g (lw_at lw_ms 72 rfl) rfl
theorem qs73 : (Cond.selects "MissedTrainsModel" ⟨"MissedTrainsModel", "feels", "(III)V"⟩ ⟨"MissedTrainsModel", "feels", "(III)V"⟩) ∈ lw_all := lw_g (lw_at lw_ms 73 rfl) rfl
theorem qs74 : (Cond.selects "MissedTrainsModel" ⟨"MissedTrainsModel", "waitersAt", "(I)I"⟩ ⟨"MissedTrainsModel", "waitersAt", "(I)I"⟩) ∈ lw_all := lw_g (lw_at lw_ms 74 rfl) rfl
theorem qs75 : (Cond.selects "MissedTrainsModel" ⟨"MissedTrainsModel", "byLaw", "(II)I"⟩ ⟨"MissedTrainsModel", "byLaw", "(II)I"⟩) ∈ lw_all := lw_g (lw_at lw_ms 75 rfl) rfl
theorem qs76 : (Cond.selects "MissedTrainsModel" ⟨"MissedTrainsModel", "reckonsTo", "(II)I"⟩ ⟨"MissedTrainsModel", "reckonsTo", "(II)I"⟩) ∈ lw_all := lw_g (lw_at lw_ms 76 rfl) rfl
theorem qs77 : (Cond.selects "MissedTrainsModel" ⟨"MissedTrainsModel", "leavesTrain", "(II)V"⟩ ⟨"MissedTrainsModel", "leavesTrain", "(II)V"⟩) ∈ lw_all := lw_g (lw_at lw_ms 77 rfl) rfl
theorem qs78 : (Cond.selects "MissedTrainsModel" ⟨"MissedTrainsModel", "mayRide", "(IIII)V"⟩ ⟨"MissedTrainsModel", "mayRide", "(IIII)V"⟩) ∈ lw_all := lw_g (lw_at lw_ms 78 rfl) rfl
theorem qs79 : (Cond.selects "MissedTrainsModel" ⟨"MissedTrainsModel", "stopAt", "(II)I"⟩ ⟨"MissedTrainsModel", "stopAt", "(II)I"⟩) ∈ lw_all := lw_g (lw_at lw_ms 79 rfl) rfl
theorem qs80 : (Cond.selects "MissedTrainsModel" ⟨"MissedTrainsModel", "holdsAny", "(I)Z"⟩ ⟨"MissedTrainsModel", "holdsAny", "(I)Z"⟩) ∈ lw_all := lw_g (lw_at lw_ms 80 rfl) rfl
theorem qs81 : (Cond.selects "MissedTrainsModel" ⟨"MissedTrainsModel", "isPerson", "(I)Z"⟩ ⟨"MissedTrainsModel", "isPerson", "(I)Z"⟩) ∈ lw_all := lw_g (lw_at lw_ms 81 rfl) rfl
theorem qs82 : (Cond.selects "MissedTrainsModel" ⟨"MissedTrainsModel", "soonest", "(III)I"⟩ ⟨"MissedTrainsModel", "soonest", "(III)I"⟩) ∈ lw_all := lw_g (lw_at lw_ms 82 rfl) rfl
theorem qs83 : (Cond.selects "MissedTrainsModel" ⟨"MissedTrainsModel", "beginsAt", "(II)V"⟩ ⟨"MissedTrainsModel", "beginsAt", "(II)V"⟩) ∈ lw_all := lw_g (lw_at lw_ms 83 rfl) rfl
theorem qs84 : (Cond.selects "MissedTrainsModel" ⟨"MissedTrainsModel", "oneRideMore", "(I)V"⟩ ⟨"MissedTrainsModel", "oneRideMore", "(I)V"⟩) ∈ lw_all := lw_g (lw_at lw_ms 84 rfl) rfl
theorem qs85 : (Cond.selects "MissedTrainsModel" ⟨"MissedTrainsModel", "leavesFrom", "(II)Z"⟩ ⟨"MissedTrainsModel", "leavesFrom", "(II)Z"⟩) ∈ lw_all := lw_g (lw_at lw_ms 85 rfl) rfl
theorem qs86 : (Cond.selects "MissedTrainsModel" ⟨"MissedTrainsModel", "minuteAt", "(II)I"⟩ ⟨"MissedTrainsModel", "minuteAt", "(II)I"⟩) ∈ lw_all := lw_g (lw_at lw_ms 86 rfl) rfl
theorem qs87 : (Cond.selects "MissedTrainsModel" ⟨"MissedTrainsModel", "laysBest", "(II)I"⟩ ⟨"MissedTrainsModel", "laysBest", "(II)I"⟩) ∈ lw_all := lw_g (lw_at lw_ms 87 rfl) rfl
theorem qs88 : (Cond.selects "MissedTrainsModel" ⟨"MissedTrainsModel", "clearsMinutes", "()V"⟩ ⟨"MissedTrainsModel", "clearsMinutes", "()V"⟩) ∈ lw_all := lw_g (lw_at lw_ms 88 rfl) rfl
theorem qs89 : (Cond.selects "MissedTrainsModel" ⟨"MissedTrainsModel", "goesFromTo", "(III)Z"⟩ ⟨"MissedTrainsModel", "goesFromTo", "(III)Z"⟩) ∈ lw_all := lw_g (lw_at lw_ms 89 rfl) rfl
theorem qs90 : (Cond.selects "MissedTrainsModel" ⟨"MissedTrainsModel", "longestBetween", "()I"⟩ ⟨"MissedTrainsModel", "longestBetween", "()I"⟩) ∈ lw_all := lw_g (lw_at lw_ms 90 rfl) rfl
theorem qs91 : (Cond.selects "MissedTrainsModel" ⟨"MissedTrainsModel", "comesTo", "(II)Z"⟩ ⟨"MissedTrainsModel", "comesTo", "(II)Z"⟩) ∈ lw_all := lw_g (lw_at lw_ms 91 rfl) rfl
theorem qs92 : (Cond.selects "MissedTrainsModel" ⟨"MissedTrainsModel", "findsNext", "(I)Z"⟩ ⟨"MissedTrainsModel", "findsNext", "(I)Z"⟩) ∈ lw_all := lw_g (lw_at lw_ms 92 rfl) rfl
theorem qs93 : (Cond.selects "MissedTrainsModel" ⟨"MissedTrainsModel", "goesOn", "(II)Z"⟩ ⟨"MissedTrainsModel", "goesOn", "(II)Z"⟩) ∈ lw_all := lw_g (lw_at lw_ms 93 rfl) rfl
theorem qs94 : (Cond.selects "MissedTrainsModel" ⟨"MissedTrainsModel", "changesAlong", "(II)V"⟩ ⟨"MissedTrainsModel", "changesAlong", "(II)V"⟩) ∈ lw_all := lw_g (lw_at lw_ms 94 rfl) rfl
theorem qs95 : (Cond.selects "MissedTrainsModel" ⟨"MissedTrainsModel", "areMet", "(II)Z"⟩ ⟨"MissedTrainsModel", "areMet", "(II)Z"⟩) ∈ lw_all := lw_g (lw_at lw_ms 95 rfl) rfl
theorem qs96 : (Cond.selects "MissedTrainsModel" ⟨"MissedTrainsModel", "mostAt", "(II)I"⟩ ⟨"MissedTrainsModel", "mostAt", "(II)I"⟩) ∈ lw_all := lw_g (lw_at lw_ms 96 rfl) rfl
theorem qs97 : (Cond.selects "MissedTrainsModel" ⟨"MissedTrainsModel", "octet", "(I)I"⟩ ⟨"MissedTrainsModel", "octet", "(I)I"⟩) ∈ lw_all := lw_g (lw_at lw_ms 97 rfl) rfl
theorem qs98 : (Cond.selects "MissedTrainsModel" ⟨"MissedTrainsModel", "toldSet", "()I"⟩ ⟨"MissedTrainsModel", "toldSet", "()I"⟩) ∈ lw_all := lw_g (lw_at lw_ms 98 rfl) rfl
theorem qs99 : (Cond.selects "MissedTrainsModel" ⟨"MissedTrainsModel", "running", "()I"⟩ ⟨"MissedTrainsModel", "running", "()I"⟩) ∈ lw_all := lw_g (lw_at lw_ms 99 rfl) rfl
theorem qs100 : (Cond.selects "MissedTrainsModel" ⟨"MissedTrainsModel", "allOf", "(I)I"⟩ ⟨"MissedTrainsModel", "allOf", "(I)I"⟩) ∈ lw_all := lw_g (lw_at lw_ms 100 rfl) rfl
-- ===== end of PART A; then your names; then what follows =====
