-- ===== PART A: goes FIRST, ahead of the names: the tables' words, and 'selects' of the private methods out of them =====
/-- a private method of a class that the tables say can be made, by its rows of tables_1 -/
def lw_okq (q : MethodName × Nat) : Prop := (q.1.cls ≠ "java/lang/invoke/MethodHandle" ∧ q.1.cls ≠ "java/lang/invoke/VarHandle") ∧ Cond.instantiable q.1.cls q.2 ∈ tables_1 ∧ Cond.privateMethod q.1 ∈ tables_1 ∧ Cond.instanceMethod q.1 ∈ tables_1
set_option maxRecDepth 100000
theorem lw_t1 {w : Cond} (h : w ∈ tables_1_1) : w ∈ tables_1 := List.mem_append_left _ h
theorem lw_t2 {w : Cond} (h : w ∈ tables_1_2) : w ∈ tables_1 := List.mem_append_right _ (List.mem_append_left _ h)
theorem lw_t3 {w : Cond} (h : w ∈ tables_1_3) : w ∈ tables_1 := List.mem_append_right _ (List.mem_append_right _ (List.mem_append_left _ h))
theorem lw_t4 {w : Cond} (h : w ∈ tables_1_4) : w ∈ tables_1 := List.mem_append_right _ (List.mem_append_right _ (List.mem_append_right _ (List.mem_append_left _ h)))
theorem lw_t5 {w : Cond} (h : w ∈ tables_1_5) : w ∈ tables_1 := List.mem_append_right _ (List.mem_append_right _ (List.mem_append_right _ (List.mem_append_right _ (List.mem_append_left _ h))))
theorem lw_t6 {w : Cond} (h : w ∈ tables_1_6) : w ∈ tables_1 := List.mem_append_right _ (List.mem_append_right _ (List.mem_append_right _ (List.mem_append_right _ (List.mem_append_right _ (List.mem_append_left _ h)))))
theorem lw_t7 {w : Cond} (h : w ∈ tables_1_7) : w ∈ tables_1 := List.mem_append_right _ (List.mem_append_right _ (List.mem_append_right _ (List.mem_append_right _ (List.mem_append_right _ (List.mem_append_right _ (List.mem_append_left _ h))))))
theorem lw_t8 {w : Cond} (h : w ∈ tables_1_8) : w ∈ tables_1 := List.mem_append_right _ (List.mem_append_right _ (List.mem_append_right _ (List.mem_append_right _ (List.mem_append_right _ (List.mem_append_right _ (List.mem_append_right _ (List.mem_append_left _ h)))))))
theorem lw_t9 {w : Cond} (h : w ∈ tables_1_9) : w ∈ tables_1 := List.mem_append_right _ (List.mem_append_right _ (List.mem_append_right _ (List.mem_append_right _ (List.mem_append_right _ (List.mem_append_right _ (List.mem_append_right _ (List.mem_append_right _ (List.mem_append_left _ h))))))))
theorem lw_t10 {w : Cond} (h : w ∈ tables_1_10) : w ∈ tables_1 := List.mem_append_right _ (List.mem_append_right _ (List.mem_append_right _ (List.mem_append_right _ (List.mem_append_right _ (List.mem_append_right _ (List.mem_append_right _ (List.mem_append_right _ (List.mem_append_right _ (List.mem_append_left _ h)))))))))
theorem lw_t11 {w : Cond} (h : w ∈ tables_1_11) : w ∈ tables_1 := List.mem_append_right _ (List.mem_append_right _ (List.mem_append_right _ (List.mem_append_right _ (List.mem_append_right _ (List.mem_append_right _ (List.mem_append_right _ (List.mem_append_right _ (List.mem_append_right _ (List.mem_append_right _ h)))))))))
theorem lw_p0 : lw_okq (⟨"SoftWheels", "refused", "(I)I"⟩, 16) := ⟨⟨by decide +kernel, by decide +kernel⟩, lw_t1 (List.mem_of_getElem? (i := 46) rfl), lw_t1 (List.mem_of_getElem? (i := 180) rfl), lw_t1 (List.mem_of_getElem? (i := 181) rfl)⟩
theorem lw_p1 : lw_okq (⟨"SoftWheels", "reader", "(I)LSoftWheels$Reader;"⟩, 16) := ⟨⟨by decide +kernel, by decide +kernel⟩, lw_t1 (List.mem_of_getElem? (i := 46) rfl), lw_t1 (List.mem_of_getElem? (i := 233) rfl), lw_t1 (List.mem_of_getElem? (i := 234) rfl)⟩
theorem lw_p2 : lw_okq (⟨"SoftWheels$Reader", "here", "()I"⟩, 8) := ⟨⟨by decide +kernel, by decide +kernel⟩, lw_t1 (List.mem_of_getElem? (i := 237) rfl), lw_t2 (List.mem_of_getElem? (i := 7) rfl), lw_t2 (List.mem_of_getElem? (i := 8) rfl)⟩
theorem lw_p3 : lw_okq (⟨"SoftWheels$Reader", "nextWord", "()V"⟩, 8) := ⟨⟨by decide +kernel, by decide +kernel⟩, lw_t1 (List.mem_of_getElem? (i := 237) rfl), lw_t2 (List.mem_of_getElem? (i := 18) rfl), lw_t2 (List.mem_of_getElem? (i := 19) rfl)⟩
theorem lw_p4 : lw_okq (⟨"SoftWheels$Reader", "nextWhole", "()V"⟩, 8) := ⟨⟨by decide +kernel, by decide +kernel⟩, lw_t1 (List.mem_of_getElem? (i := 237) rfl), lw_t2 (List.mem_of_getElem? (i := 216) rfl), lw_t2 (List.mem_of_getElem? (i := 217) rfl)⟩
theorem lw_p5 : lw_okq (⟨"SoftWheels$Book", "readGround", "(LSoftWheels$Reader;)V"⟩, 8) := ⟨⟨by decide +kernel, by decide +kernel⟩, lw_t1 (List.mem_of_getElem? (i := 184) rfl), lw_t3 (List.mem_of_getElem? (i := 118) rfl), lw_t3 (List.mem_of_getElem? (i := 119) rfl)⟩
theorem lw_p6 : lw_okq (⟨"java/lang/Throwable", "fillInStackTrace", "(I)Ljava/lang/Throwable;"⟩, 6) := ⟨⟨by decide +kernel, by decide +kernel⟩, lw_t4 (List.mem_of_getElem? (i := 3) rfl), lw_t4 (List.mem_of_getElem? (i := 1) rfl), lw_t4 (List.mem_of_getElem? (i := 2) rfl)⟩
theorem lw_p7 : lw_okq (⟨"java/util/ArrayList", "add", "(Ljava/lang/Object;[Ljava/lang/Object;I)V"⟩, 3) := ⟨⟨by decide +kernel, by decide +kernel⟩, lw_t1 (List.mem_of_getElem? (i := 93) rfl), lw_t4 (List.mem_of_getElem? (i := 122) rfl), lw_t4 (List.mem_of_getElem? (i := 123) rfl)⟩
theorem lw_p8 : lw_okq (⟨"java/util/ArrayList", "grow", "()[Ljava/lang/Object;"⟩, 3) := ⟨⟨by decide +kernel, by decide +kernel⟩, lw_t1 (List.mem_of_getElem? (i := 93) rfl), lw_t4 (List.mem_of_getElem? (i := 126) rfl), lw_t4 (List.mem_of_getElem? (i := 127) rfl)⟩
theorem lw_p9 : lw_okq (⟨"java/util/ArrayList", "grow", "(I)[Ljava/lang/Object;"⟩, 3) := ⟨⟨by decide +kernel, by decide +kernel⟩, lw_t1 (List.mem_of_getElem? (i := 93) rfl), lw_t4 (List.mem_of_getElem? (i := 130) rfl), lw_t4 (List.mem_of_getElem? (i := 131) rfl)⟩
theorem lw_p10 : lw_okq (⟨"SoftWheels$Book", "readRover", "(LSoftWheels$Reader;)V"⟩, 8) := ⟨⟨by decide +kernel, by decide +kernel⟩, lw_t1 (List.mem_of_getElem? (i := 184) rfl), lw_t4 (List.mem_of_getElem? (i := 178) rfl), lw_t4 (List.mem_of_getElem? (i := 179) rfl)⟩
theorem lw_p11 : lw_okq (⟨"SoftWheels$Book", "readAttempt", "(LSoftWheels$Reader;)V"⟩, 8) := ⟨⟨by decide +kernel, by decide +kernel⟩, lw_t1 (List.mem_of_getElem? (i := 184) rfl), lw_t4 (List.mem_of_getElem? (i := 189) rfl), lw_t4 (List.mem_of_getElem? (i := 190) rfl)⟩
theorem lw_p12 : lw_okq (⟨"SoftWheels$Book", "hasAttempt", "(Ljava/lang/String;)Z"⟩, 8) := ⟨⟨by decide +kernel, by decide +kernel⟩, lw_t1 (List.mem_of_getElem? (i := 184) rfl), lw_t4 (List.mem_of_getElem? (i := 193) rfl), lw_t4 (List.mem_of_getElem? (i := 194) rfl)⟩
theorem lw_p13 : lw_okq (⟨"SoftWheels", "failed", "(LSoftWheels$Fault;)I"⟩, 16) := ⟨⟨by decide +kernel, by decide +kernel⟩, lw_t1 (List.mem_of_getElem? (i := 46) rfl), lw_t4 (List.mem_of_getElem? (i := 236) rfl), lw_t4 (List.mem_of_getElem? (i := 237) rfl)⟩
theorem lw_p14 : lw_okq (⟨"SoftWheels", "done", "(I)I"⟩, 16) := ⟨⟨by decide +kernel, by decide +kernel⟩, lw_t1 (List.mem_of_getElem? (i := 46) rfl), lw_t5 (List.mem_of_getElem? (i := 8) rfl), lw_t5 (List.mem_of_getElem? (i := 9) rfl)⟩
theorem lw_p15 : lw_okq (⟨"SoftWheels", "isGround", "(I)Z"⟩, 16) := ⟨⟨by decide +kernel, by decide +kernel⟩, lw_t1 (List.mem_of_getElem? (i := 46) rfl), lw_t5 (List.mem_of_getElem? (i := 24) rfl), lw_t5 (List.mem_of_getElem? (i := 25) rfl)⟩
def lw_privs_1 : List (MethodName × Nat) := [(⟨"SoftWheels", "refused", "(I)I"⟩, 16), (⟨"SoftWheels", "reader", "(I)LSoftWheels$Reader;"⟩, 16), (⟨"SoftWheels$Reader", "here", "()I"⟩, 8), (⟨"SoftWheels$Reader", "nextWord", "()V"⟩, 8), (⟨"SoftWheels$Reader", "nextWhole", "()V"⟩, 8), (⟨"SoftWheels$Book", "readGround", "(LSoftWheels$Reader;)V"⟩, 8), (⟨"java/lang/Throwable", "fillInStackTrace", "(I)Ljava/lang/Throwable;"⟩, 6), (⟨"java/util/ArrayList", "add", "(Ljava/lang/Object;[Ljava/lang/Object;I)V"⟩, 3), (⟨"java/util/ArrayList", "grow", "()[Ljava/lang/Object;"⟩, 3), (⟨"java/util/ArrayList", "grow", "(I)[Ljava/lang/Object;"⟩, 3), (⟨"SoftWheels$Book", "readRover", "(LSoftWheels$Reader;)V"⟩, 8), (⟨"SoftWheels$Book", "readAttempt", "(LSoftWheels$Reader;)V"⟩, 8), (⟨"SoftWheels$Book", "hasAttempt", "(Ljava/lang/String;)Z"⟩, 8), (⟨"SoftWheels", "failed", "(LSoftWheels$Fault;)I"⟩, 16), (⟨"SoftWheels", "done", "(I)I"⟩, 16), (⟨"SoftWheels", "isGround", "(I)Z"⟩, 16)]
theorem lw_r1 : ∀ q ∈ lw_privs_1, lw_okq q := List.forall_mem_cons.mpr ⟨lw_p0, List.forall_mem_cons.mpr ⟨lw_p1, List.forall_mem_cons.mpr ⟨lw_p2, List.forall_mem_cons.mpr ⟨lw_p3, List.forall_mem_cons.mpr ⟨lw_p4, List.forall_mem_cons.mpr ⟨lw_p5, List.forall_mem_cons.mpr ⟨lw_p6, List.forall_mem_cons.mpr ⟨lw_p7, List.forall_mem_cons.mpr ⟨lw_p8, List.forall_mem_cons.mpr ⟨lw_p9, List.forall_mem_cons.mpr ⟨lw_p10, List.forall_mem_cons.mpr ⟨lw_p11, List.forall_mem_cons.mpr ⟨lw_p12, List.forall_mem_cons.mpr ⟨lw_p13, List.forall_mem_cons.mpr ⟨lw_p14, List.forall_mem_cons.mpr ⟨lw_p15, fun _ h => absurd h List.not_mem_nil⟩⟩⟩⟩⟩⟩⟩⟩⟩⟩⟩⟩⟩⟩⟩⟩
theorem lw_p16 : lw_okq (⟨"SoftWheels", "denied", "(I)Z"⟩, 16) := ⟨⟨by decide +kernel, by decide +kernel⟩, lw_t1 (List.mem_of_getElem? (i := 46) rfl), lw_t5 (List.mem_of_getElem? (i := 45) rfl), lw_t5 (List.mem_of_getElem? (i := 46) rfl)⟩
theorem lw_p17 : lw_okq (⟨"SoftWheels", "granted", "()Z"⟩, 16) := ⟨⟨by decide +kernel, by decide +kernel⟩, lw_t1 (List.mem_of_getElem? (i := 46) rfl), lw_t5 (List.mem_of_getElem? (i := 49) rfl), lw_t5 (List.mem_of_getElem? (i := 50) rfl)⟩
theorem lw_p18 : lw_okq (⟨"SoftWheels", "isCell", "(I)Z"⟩, 16) := ⟨⟨by decide +kernel, by decide +kernel⟩, lw_t1 (List.mem_of_getElem? (i := 46) rfl), lw_t5 (List.mem_of_getElem? (i := 138) rfl), lw_t5 (List.mem_of_getElem? (i := 139) rfl)⟩
theorem lw_p19 : lw_okq (⟨"SoftWheels", "isDoubt", "(I)Z"⟩, 16) := ⟨⟨by decide +kernel, by decide +kernel⟩, lw_t1 (List.mem_of_getElem? (i := 46) rfl), lw_t5 (List.mem_of_getElem? (i := 180) rfl), lw_t5 (List.mem_of_getElem? (i := 181) rfl)⟩
theorem lw_p20 : lw_okq (⟨"SoftWheels", "areCells", "(II)Z"⟩, 16) := ⟨⟨by decide +kernel, by decide +kernel⟩, lw_t1 (List.mem_of_getElem? (i := 46) rfl), lw_t5 (List.mem_of_getElem? (i := 229) rfl), lw_t5 (List.mem_of_getElem? (i := 230) rfl)⟩
theorem lw_p21 : lw_okq (⟨"SoftWheels", "solver", "(IZ)LSoftWheels$Solver;"⟩, 16) := ⟨⟨by decide +kernel, by decide +kernel⟩, lw_t1 (List.mem_of_getElem? (i := 46) rfl), lw_t5 (List.mem_of_getElem? (i := 233) rfl), lw_t5 (List.mem_of_getElem? (i := 234) rfl)⟩
theorem lw_p22 : lw_okq (⟨"SoftWheels$Solver", "solve", "(I)V"⟩, 9) := ⟨⟨by decide +kernel, by decide +kernel⟩, lw_t1 (List.mem_of_getElem? (i := 54) rfl), lw_t6 (List.mem_of_getElem? (i := 52) rfl), lw_t6 (List.mem_of_getElem? (i := 53) rfl)⟩
theorem lw_p23 : lw_okq (⟨"SoftWheels$Solver", "unknown", "(I)I"⟩, 9) := ⟨⟨by decide +kernel, by decide +kernel⟩, lw_t1 (List.mem_of_getElem? (i := 54) rfl), lw_t6 (List.mem_of_getElem? (i := 56) rfl), lw_t6 (List.mem_of_getElem? (i := 57) rfl)⟩
theorem lw_p24 : lw_okq (⟨"SoftWheels$Solver", "seen", "(III)J"⟩, 9) := ⟨⟨by decide +kernel, by decide +kernel⟩, lw_t1 (List.mem_of_getElem? (i := 54) rfl), lw_t6 (List.mem_of_getElem? (i := 63) rfl), lw_t6 (List.mem_of_getElem? (i := 64) rfl)⟩
theorem lw_p25 : lw_okq (⟨"SoftWheels$Solver", "cost", "(ILSoftWheels$Way;I)I"⟩, 9) := ⟨⟨by decide +kernel, by decide +kernel⟩, lw_t1 (List.mem_of_getElem? (i := 54) rfl), lw_t6 (List.mem_of_getElem? (i := 103) rfl), lw_t6 (List.mem_of_getElem? (i := 104) rfl)⟩
theorem lw_p26 : lw_okq (⟨"SoftWheels$Solver", "groundOf", "(II)I"⟩, 9) := ⟨⟨by decide +kernel, by decide +kernel⟩, lw_t1 (List.mem_of_getElem? (i := 54) rfl), lw_t6 (List.mem_of_getElem? (i := 107) rfl), lw_t6 (List.mem_of_getElem? (i := 108) rfl)⟩
theorem lw_p27 : lw_okq (⟨"SoftWheels", "lost", "(I)J"⟩, 16) := ⟨⟨by decide +kernel, by decide +kernel⟩, lw_t1 (List.mem_of_getElem? (i := 46) rfl), lw_t6 (List.mem_of_getElem? (i := 133) rfl), lw_t6 (List.mem_of_getElem? (i := 134) rfl)⟩
theorem lw_p28 : lw_okq (⟨"SoftWheels", "part", "(JJZ)J"⟩, 16) := ⟨⟨by decide +kernel, by decide +kernel⟩, lw_t1 (List.mem_of_getElem? (i := 46) rfl), lw_t6 (List.mem_of_getElem? (i := 139) rfl), lw_t6 (List.mem_of_getElem? (i := 140) rfl)⟩
theorem lw_p29 : lw_okq (⟨"SoftWheels", "told", "(J)J"⟩, 16) := ⟨⟨by decide +kernel, by decide +kernel⟩, lw_t1 (List.mem_of_getElem? (i := 46) rfl), lw_t6 (List.mem_of_getElem? (i := 146) rfl), lw_t6 (List.mem_of_getElem? (i := 147) rfl)⟩
theorem lw_p30 : lw_okq (⟨"SoftWheels$Planner", "plan", "()Ljava/util/List;"⟩, 5) := ⟨⟨by decide +kernel, by decide +kernel⟩, lw_t7 (List.mem_of_getElem? (i := 3) rfl), lw_t7 (List.mem_of_getElem? (i := 29) rfl), lw_t7 (List.mem_of_getElem? (i := 30) rfl)⟩
theorem lw_p31 : lw_okq (⟨"SoftWheels$Planner", "step", "()LSoftWheels$Doing;"⟩, 5) := ⟨⟨by decide +kernel, by decide +kernel⟩, lw_t7 (List.mem_of_getElem? (i := 3) rfl), lw_t7 (List.mem_of_getElem? (i := 35) rfl), lw_t7 (List.mem_of_getElem? (i := 36) rfl)⟩
def lw_privs_2 : List (MethodName × Nat) := [(⟨"SoftWheels", "denied", "(I)Z"⟩, 16), (⟨"SoftWheels", "granted", "()Z"⟩, 16), (⟨"SoftWheels", "isCell", "(I)Z"⟩, 16), (⟨"SoftWheels", "isDoubt", "(I)Z"⟩, 16), (⟨"SoftWheels", "areCells", "(II)Z"⟩, 16), (⟨"SoftWheels", "solver", "(IZ)LSoftWheels$Solver;"⟩, 16), (⟨"SoftWheels$Solver", "solve", "(I)V"⟩, 9), (⟨"SoftWheels$Solver", "unknown", "(I)I"⟩, 9), (⟨"SoftWheels$Solver", "seen", "(III)J"⟩, 9), (⟨"SoftWheels$Solver", "cost", "(ILSoftWheels$Way;I)I"⟩, 9), (⟨"SoftWheels$Solver", "groundOf", "(II)I"⟩, 9), (⟨"SoftWheels", "lost", "(I)J"⟩, 16), (⟨"SoftWheels", "part", "(JJZ)J"⟩, 16), (⟨"SoftWheels", "told", "(J)J"⟩, 16), (⟨"SoftWheels$Planner", "plan", "()Ljava/util/List;"⟩, 5), (⟨"SoftWheels$Planner", "step", "()LSoftWheels$Doing;"⟩, 5)]
theorem lw_r2 : ∀ q ∈ lw_privs_2, lw_okq q := List.forall_mem_cons.mpr ⟨lw_p16, List.forall_mem_cons.mpr ⟨lw_p17, List.forall_mem_cons.mpr ⟨lw_p18, List.forall_mem_cons.mpr ⟨lw_p19, List.forall_mem_cons.mpr ⟨lw_p20, List.forall_mem_cons.mpr ⟨lw_p21, List.forall_mem_cons.mpr ⟨lw_p22, List.forall_mem_cons.mpr ⟨lw_p23, List.forall_mem_cons.mpr ⟨lw_p24, List.forall_mem_cons.mpr ⟨lw_p25, List.forall_mem_cons.mpr ⟨lw_p26, List.forall_mem_cons.mpr ⟨lw_p27, List.forall_mem_cons.mpr ⟨lw_p28, List.forall_mem_cons.mpr ⟨lw_p29, List.forall_mem_cons.mpr ⟨lw_p30, List.forall_mem_cons.mpr ⟨lw_p31, fun _ h => absurd h List.not_mem_nil⟩⟩⟩⟩⟩⟩⟩⟩⟩⟩⟩⟩⟩⟩⟩⟩
theorem lw_p32 : lw_okq (⟨"SoftWheels$Planner", "inner", "()Ljava/util/List;"⟩, 5) := ⟨⟨by decide +kernel, by decide +kernel⟩, lw_t7 (List.mem_of_getElem? (i := 3) rfl), lw_t7 (List.mem_of_getElem? (i := 65) rfl), lw_t7 (List.mem_of_getElem? (i := 66) rfl)⟩
theorem lw_p33 : lw_okq (⟨"SoftWheels", "isPlan", "(I)Z"⟩, 16) := ⟨⟨by decide +kernel, by decide +kernel⟩, lw_t1 (List.mem_of_getElem? (i := 46) rfl), lw_t7 (List.mem_of_getElem? (i := 100) rfl), lw_t7 (List.mem_of_getElem? (i := 101) rfl)⟩
theorem lw_p34 : lw_okq (⟨"SoftWheels", "walk", "(III)LSoftWheels$Walk;"⟩, 16) := ⟨⟨by decide +kernel, by decide +kernel⟩, lw_t1 (List.mem_of_getElem? (i := 46) rfl), lw_t7 (List.mem_of_getElem? (i := 105) rfl), lw_t7 (List.mem_of_getElem? (i := 106) rfl)⟩
theorem lw_p35 : lw_okq (⟨"SoftWheels$Walk", "groundOf", "(I)I"⟩, 8) := ⟨⟨by decide +kernel, by decide +kernel⟩, lw_t7 (List.mem_of_getElem? (i := 109) rfl), lw_t7 (List.mem_of_getElem? (i := 180) rfl), lw_t7 (List.mem_of_getElem? (i := 181) rfl)⟩
theorem lw_p36 : lw_okq (⟨"SoftWheels", "pit", "()LSoftWheels$Pit;"⟩, 16) := ⟨⟨by decide +kernel, by decide +kernel⟩, lw_t1 (List.mem_of_getElem? (i := 46) rfl), lw_t7 (List.mem_of_getElem? (i := 218) rfl), lw_t7 (List.mem_of_getElem? (i := 219) rfl)⟩
theorem lw_p37 : lw_okq (⟨"SoftWheels$Pit", "lowers", "()Z"⟩, 2) := ⟨⟨by decide +kernel, by decide +kernel⟩, lw_t7 (List.mem_of_getElem? (i := 222) rfl), lw_t7 (List.mem_of_getElem? (i := 232) rfl), lw_t7 (List.mem_of_getElem? (i := 233) rfl)⟩
theorem lw_p38 : lw_okq (⟨"SoftWheels", "state", "()I"⟩, 16) := ⟨⟨by decide +kernel, by decide +kernel⟩, lw_t1 (List.mem_of_getElem? (i := 46) rfl), lw_t8 (List.mem_of_getElem? (i := 37) rfl), lw_t8 (List.mem_of_getElem? (i := 38) rfl)⟩
theorem lw_p39 : lw_okq (⟨"SoftWheels", "deepest", "()I"⟩, 16) := ⟨⟨by decide +kernel, by decide +kernel⟩, lw_t1 (List.mem_of_getElem? (i := 46) rfl), lw_t8 (List.mem_of_getElem? (i := 58) rfl), lw_t8 (List.mem_of_getElem? (i := 59) rfl)⟩
theorem lw_p40 : lw_okq (⟨"SoftWheelsModel", "good", "()V"⟩, 75) := ⟨⟨by decide +kernel, by decide +kernel⟩, lw_t8 (List.mem_of_getElem? (i := 110) rfl), lw_t9 (List.mem_of_getElem? (i := 115) rfl), lw_t9 (List.mem_of_getElem? (i := 116) rfl)⟩
theorem lw_p41 : lw_okq (⟨"SoftWheelsModel", "no", "(I)I"⟩, 75) := ⟨⟨by decide +kernel, by decide +kernel⟩, lw_t8 (List.mem_of_getElem? (i := 110) rfl), lw_t9 (List.mem_of_getElem? (i := 122) rfl), lw_t9 (List.mem_of_getElem? (i := 123) rfl)⟩
theorem lw_p42 : lw_okq (⟨"SoftWheelsModel", "store", "(Z)V"⟩, 75) := ⟨⟨by decide +kernel, by decide +kernel⟩, lw_t8 (List.mem_of_getElem? (i := 110) rfl), lw_t9 (List.mem_of_getElem? (i := 126) rfl), lw_t9 (List.mem_of_getElem? (i := 127) rfl)⟩
theorem lw_p43 : lw_okq (⟨"SoftWheelsModel", "cell", "([IIIZ)I"⟩, 75) := ⟨⟨by decide +kernel, by decide +kernel⟩, lw_t8 (List.mem_of_getElem? (i := 110) rfl), lw_t9 (List.mem_of_getElem? (i := 130) rfl), lw_t9 (List.mem_of_getElem? (i := 131) rfl)⟩
theorem lw_p44 : lw_okq (⟨"SoftWheelsModel", "begins", "(I)V"⟩, 75) := ⟨⟨by decide +kernel, by decide +kernel⟩, lw_t8 (List.mem_of_getElem? (i := 110) rfl), lw_t9 (List.mem_of_getElem? (i := 134) rfl), lw_t9 (List.mem_of_getElem? (i := 135) rfl)⟩
theorem lw_p45 : lw_okq (⟨"SoftWheelsModel", "next", "()V"⟩, 75) := ⟨⟨by decide +kernel, by decide +kernel⟩, lw_t8 (List.mem_of_getElem? (i := 110) rfl), lw_t9 (List.mem_of_getElem? (i := 138) rfl), lw_t9 (List.mem_of_getElem? (i := 139) rfl)⟩
theorem lw_p46 : lw_okq (⟨"SoftWheelsModel", "look", "(I)I"⟩, 75) := ⟨⟨by decide +kernel, by decide +kernel⟩, lw_t8 (List.mem_of_getElem? (i := 110) rfl), lw_t9 (List.mem_of_getElem? (i := 142) rfl), lw_t9 (List.mem_of_getElem? (i := 143) rfl)⟩
theorem lw_p47 : lw_okq (⟨"SoftWheelsModel", "line", "()V"⟩, 75) := ⟨⟨by decide +kernel, by decide +kernel⟩, lw_t8 (List.mem_of_getElem? (i := 110) rfl), lw_t9 (List.mem_of_getElem? (i := 152) rfl), lw_t9 (List.mem_of_getElem? (i := 153) rfl)⟩
def lw_privs_3 : List (MethodName × Nat) := [(⟨"SoftWheels$Planner", "inner", "()Ljava/util/List;"⟩, 5), (⟨"SoftWheels", "isPlan", "(I)Z"⟩, 16), (⟨"SoftWheels", "walk", "(III)LSoftWheels$Walk;"⟩, 16), (⟨"SoftWheels$Walk", "groundOf", "(I)I"⟩, 8), (⟨"SoftWheels", "pit", "()LSoftWheels$Pit;"⟩, 16), (⟨"SoftWheels$Pit", "lowers", "()Z"⟩, 2), (⟨"SoftWheels", "state", "()I"⟩, 16), (⟨"SoftWheels", "deepest", "()I"⟩, 16), (⟨"SoftWheelsModel", "good", "()V"⟩, 75), (⟨"SoftWheelsModel", "no", "(I)I"⟩, 75), (⟨"SoftWheelsModel", "store", "(Z)V"⟩, 75), (⟨"SoftWheelsModel", "cell", "([IIIZ)I"⟩, 75), (⟨"SoftWheelsModel", "begins", "(I)V"⟩, 75), (⟨"SoftWheelsModel", "next", "()V"⟩, 75), (⟨"SoftWheelsModel", "look", "(I)I"⟩, 75), (⟨"SoftWheelsModel", "line", "()V"⟩, 75)]
theorem lw_r3 : ∀ q ∈ lw_privs_3, lw_okq q := List.forall_mem_cons.mpr ⟨lw_p32, List.forall_mem_cons.mpr ⟨lw_p33, List.forall_mem_cons.mpr ⟨lw_p34, List.forall_mem_cons.mpr ⟨lw_p35, List.forall_mem_cons.mpr ⟨lw_p36, List.forall_mem_cons.mpr ⟨lw_p37, List.forall_mem_cons.mpr ⟨lw_p38, List.forall_mem_cons.mpr ⟨lw_p39, List.forall_mem_cons.mpr ⟨lw_p40, List.forall_mem_cons.mpr ⟨lw_p41, List.forall_mem_cons.mpr ⟨lw_p42, List.forall_mem_cons.mpr ⟨lw_p43, List.forall_mem_cons.mpr ⟨lw_p44, List.forall_mem_cons.mpr ⟨lw_p45, List.forall_mem_cons.mpr ⟨lw_p46, List.forall_mem_cons.mpr ⟨lw_p47, fun _ h => absurd h List.not_mem_nil⟩⟩⟩⟩⟩⟩⟩⟩⟩⟩⟩⟩⟩⟩⟩⟩
theorem lw_p48 : lw_okq (⟨"SoftWheelsModel", "word", "(Ljava/lang/String;)Z"⟩, 75) := ⟨⟨by decide +kernel, by decide +kernel⟩, lw_t8 (List.mem_of_getElem? (i := 110) rfl), lw_t9 (List.mem_of_getElem? (i := 157) rfl), lw_t9 (List.mem_of_getElem? (i := 158) rfl)⟩
theorem lw_p49 : lw_okq (⟨"SoftWheelsModel", "groundLine", "()V"⟩, 75) := ⟨⟨by decide +kernel, by decide +kernel⟩, lw_t8 (List.mem_of_getElem? (i := 110) rfl), lw_t9 (List.mem_of_getElem? (i := 163) rfl), lw_t9 (List.mem_of_getElem? (i := 164) rfl)⟩
theorem lw_p50 : lw_okq (⟨"SoftWheelsModel", "isName", "()Z"⟩, 75) := ⟨⟨by decide +kernel, by decide +kernel⟩, lw_t8 (List.mem_of_getElem? (i := 110) rfl), lw_t9 (List.mem_of_getElem? (i := 167) rfl), lw_t9 (List.mem_of_getElem? (i := 168) rfl)⟩
theorem lw_p51 : lw_okq (⟨"SoftWheelsModel", "wrong", "(II)Z"⟩, 75) := ⟨⟨by decide +kernel, by decide +kernel⟩, lw_t8 (List.mem_of_getElem? (i := 110) rfl), lw_t9 (List.mem_of_getElem? (i := 180) rfl), lw_t9 (List.mem_of_getElem? (i := 181) rfl)⟩
theorem lw_p52 : lw_okq (⟨"SoftWheelsModel", "find", "([I[II)I"⟩, 75) := ⟨⟨by decide +kernel, by decide +kernel⟩, lw_t8 (List.mem_of_getElem? (i := 110) rfl), lw_t9 (List.mem_of_getElem? (i := 184) rfl), lw_t9 (List.mem_of_getElem? (i := 185) rfl)⟩
theorem lw_p53 : lw_okq (⟨"SoftWheelsModel", "must", "(Ljava/lang/String;)Z"⟩, 75) := ⟨⟨by decide +kernel, by decide +kernel⟩, lw_t8 (List.mem_of_getElem? (i := 110) rfl), lw_t9 (List.mem_of_getElem? (i := 189) rfl), lw_t9 (List.mem_of_getElem? (i := 190) rfl)⟩
theorem lw_p54 : lw_okq (⟨"SoftWheelsModel", "pairs", "([IZ)I"⟩, 75) := ⟨⟨by decide +kernel, by decide +kernel⟩, lw_t8 (List.mem_of_getElem? (i := 110) rfl), lw_t9 (List.mem_of_getElem? (i := 193) rfl), lw_t9 (List.mem_of_getElem? (i := 194) rfl)⟩
theorem lw_p55 : lw_okq (⟨"SoftWheelsModel", "number", "(II)I"⟩, 75) := ⟨⟨by decide +kernel, by decide +kernel⟩, lw_t8 (List.mem_of_getElem? (i := 110) rfl), lw_t9 (List.mem_of_getElem? (i := 197) rfl), lw_t9 (List.mem_of_getElem? (i := 198) rfl)⟩
theorem lw_p56 : lw_okq (⟨"SoftWheelsModel", "tryLine", "()V"⟩, 75) := ⟨⟨by decide +kernel, by decide +kernel⟩, lw_t8 (List.mem_of_getElem? (i := 110) rfl), lw_t9 (List.mem_of_getElem? (i := 207) rfl), lw_t9 (List.mem_of_getElem? (i := 208) rfl)⟩
theorem lw_p57 : lw_okq (⟨"SoftWheelsModel", "signed", "(II)I"⟩, 75) := ⟨⟨by decide +kernel, by decide +kernel⟩, lw_t8 (List.mem_of_getElem? (i := 110) rfl), lw_t9 (List.mem_of_getElem? (i := 212) rfl), lw_t9 (List.mem_of_getElem? (i := 213) rfl)⟩
theorem lw_p58 : lw_okq (⟨"SoftWheelsModel", "isGround", "(I)Z"⟩, 75) := ⟨⟨by decide +kernel, by decide +kernel⟩, lw_t8 (List.mem_of_getElem? (i := 110) rfl), lw_t9 (List.mem_of_getElem? (i := 230) rfl), lw_t9 (List.mem_of_getElem? (i := 231) rfl)⟩
theorem lw_p59 : lw_okq (⟨"SoftWheelsModel", "not", "(I)Z"⟩, 75) := ⟨⟨by decide +kernel, by decide +kernel⟩, lw_t8 (List.mem_of_getElem? (i := 110) rfl), lw_t10 (List.mem_of_getElem? (i := 8) rfl), lw_t10 (List.mem_of_getElem? (i := 9) rfl)⟩
theorem lw_p60 : lw_okq (⟨"SoftWheelsModel", "isCell", "(I)Z"⟩, 75) := ⟨⟨by decide +kernel, by decide +kernel⟩, lw_t8 (List.mem_of_getElem? (i := 110) rfl), lw_t10 (List.mem_of_getElem? (i := 20) rfl), lw_t10 (List.mem_of_getElem? (i := 21) rfl)⟩
theorem lw_p61 : lw_okq (⟨"SoftWheelsModel", "isDoubt", "(I)Z"⟩, 75) := ⟨⟨by decide +kernel, by decide +kernel⟩, lw_t8 (List.mem_of_getElem? (i := 110) rfl), lw_t10 (List.mem_of_getElem? (i := 36) rfl), lw_t10 (List.mem_of_getElem? (i := 37) rfl)⟩
theorem lw_p62 : lw_okq (⟨"SoftWheelsModel", "barred", "(III)I"⟩, 75) := ⟨⟨by decide +kernel, by decide +kernel⟩, lw_t8 (List.mem_of_getElem? (i := 110) rfl), lw_t10 (List.mem_of_getElem? (i := 56) rfl), lw_t10 (List.mem_of_getElem? (i := 57) rfl)⟩
theorem lw_p63 : lw_okq (⟨"SoftWheelsModel", "beside", "(II)I"⟩, 75) := ⟨⟨by decide +kernel, by decide +kernel⟩, lw_t8 (List.mem_of_getElem? (i := 110) rfl), lw_t10 (List.mem_of_getElem? (i := 60) rfl), lw_t10 (List.mem_of_getElem? (i := 61) rfl)⟩
def lw_privs_4 : List (MethodName × Nat) := [(⟨"SoftWheelsModel", "word", "(Ljava/lang/String;)Z"⟩, 75), (⟨"SoftWheelsModel", "groundLine", "()V"⟩, 75), (⟨"SoftWheelsModel", "isName", "()Z"⟩, 75), (⟨"SoftWheelsModel", "wrong", "(II)Z"⟩, 75), (⟨"SoftWheelsModel", "find", "([I[II)I"⟩, 75), (⟨"SoftWheelsModel", "must", "(Ljava/lang/String;)Z"⟩, 75), (⟨"SoftWheelsModel", "pairs", "([IZ)I"⟩, 75), (⟨"SoftWheelsModel", "number", "(II)I"⟩, 75), (⟨"SoftWheelsModel", "tryLine", "()V"⟩, 75), (⟨"SoftWheelsModel", "signed", "(II)I"⟩, 75), (⟨"SoftWheelsModel", "isGround", "(I)Z"⟩, 75), (⟨"SoftWheelsModel", "not", "(I)Z"⟩, 75), (⟨"SoftWheelsModel", "isCell", "(I)Z"⟩, 75), (⟨"SoftWheelsModel", "isDoubt", "(I)Z"⟩, 75), (⟨"SoftWheelsModel", "barred", "(III)I"⟩, 75), (⟨"SoftWheelsModel", "beside", "(II)I"⟩, 75)]
theorem lw_r4 : ∀ q ∈ lw_privs_4, lw_okq q := List.forall_mem_cons.mpr ⟨lw_p48, List.forall_mem_cons.mpr ⟨lw_p49, List.forall_mem_cons.mpr ⟨lw_p50, List.forall_mem_cons.mpr ⟨lw_p51, List.forall_mem_cons.mpr ⟨lw_p52, List.forall_mem_cons.mpr ⟨lw_p53, List.forall_mem_cons.mpr ⟨lw_p54, List.forall_mem_cons.mpr ⟨lw_p55, List.forall_mem_cons.mpr ⟨lw_p56, List.forall_mem_cons.mpr ⟨lw_p57, List.forall_mem_cons.mpr ⟨lw_p58, List.forall_mem_cons.mpr ⟨lw_p59, List.forall_mem_cons.mpr ⟨lw_p60, List.forall_mem_cons.mpr ⟨lw_p61, List.forall_mem_cons.mpr ⟨lw_p62, List.forall_mem_cons.mpr ⟨lw_p63, fun _ h => absurd h List.not_mem_nil⟩⟩⟩⟩⟩⟩⟩⟩⟩⟩⟩⟩⟩⟩⟩⟩
theorem lw_p64 : lw_okq (⟨"SoftWheelsModel", "need", "(II)I"⟩, 75) := ⟨⟨by decide +kernel, by decide +kernel⟩, lw_t8 (List.mem_of_getElem? (i := 110) rfl), lw_t10 (List.mem_of_getElem? (i := 64) rfl), lw_t10 (List.mem_of_getElem? (i := 65) rfl)⟩
theorem lw_p65 : lw_okq (⟨"SoftWheelsModel", "slip", "(II)I"⟩, 75) := ⟨⟨by decide +kernel, by decide +kernel⟩, lw_t8 (List.mem_of_getElem? (i := 110) rfl), lw_t10 (List.mem_of_getElem? (i := 68) rfl), lw_t10 (List.mem_of_getElem? (i := 69) rfl)⟩
theorem lw_p66 : lw_okq (⟨"SoftWheelsModel", "cost", "(III)I"⟩, 75) := ⟨⟨by decide +kernel, by decide +kernel⟩, lw_t8 (List.mem_of_getElem? (i := 110) rfl), lw_t10 (List.mem_of_getElem? (i := 72) rfl), lw_t10 (List.mem_of_getElem? (i := 73) rfl)⟩
theorem lw_p67 : lw_okq (⟨"SoftWheelsModel", "from", "(IIZ)J"⟩, 75) := ⟨⟨by decide +kernel, by decide +kernel⟩, lw_t8 (List.mem_of_getElem? (i := 110) rfl), lw_t10 (List.mem_of_getElem? (i := 80) rfl), lw_t10 (List.mem_of_getElem? (i := 81) rfl)⟩
theorem lw_p68 : lw_okq (⟨"SoftWheelsModel", "solve", "(IZ)V"⟩, 75) := ⟨⟨by decide +kernel, by decide +kernel⟩, lw_t8 (List.mem_of_getElem? (i := 110) rfl), lw_t10 (List.mem_of_getElem? (i := 84) rfl), lw_t10 (List.mem_of_getElem? (i := 85) rfl)⟩
theorem lw_p69 : lw_okq (⟨"SoftWheelsModel", "prepares", "()V"⟩, 75) := ⟨⟨by decide +kernel, by decide +kernel⟩, lw_t8 (List.mem_of_getElem? (i := 110) rfl), lw_t10 (List.mem_of_getElem? (i := 88) rfl), lw_t10 (List.mem_of_getElem? (i := 89) rfl)⟩
theorem lw_p70 : lw_okq (⟨"SoftWheelsModel", "lists", "()V"⟩, 75) := ⟨⟨by decide +kernel, by decide +kernel⟩, lw_t8 (List.mem_of_getElem? (i := 110) rfl), lw_t10 (List.mem_of_getElem? (i := 92) rfl), lw_t10 (List.mem_of_getElem? (i := 93) rfl)⟩
theorem lw_p71 : lw_okq (⟨"SoftWheelsModel", "isNear", "(II)Z"⟩, 75) := ⟨⟨by decide +kernel, by decide +kernel⟩, lw_t8 (List.mem_of_getElem? (i := 110) rfl), lw_t10 (List.mem_of_getElem? (i := 96) rfl), lw_t10 (List.mem_of_getElem? (i := 97) rfl)⟩
theorem lw_p72 : lw_okq (⟨"SoftWheelsModel", "canBe", "(I)Z"⟩, 75) := ⟨⟨by decide +kernel, by decide +kernel⟩, lw_t8 (List.mem_of_getElem? (i := 110) rfl), lw_t10 (List.mem_of_getElem? (i := 100) rfl), lw_t10 (List.mem_of_getElem? (i := 101) rfl)⟩
theorem lw_p73 : lw_okq (⟨"SoftWheelsModel", "lays", "(I)V"⟩, 75) := ⟨⟨by decide +kernel, by decide +kernel⟩, lw_t8 (List.mem_of_getElem? (i := 110) rfl), lw_t10 (List.mem_of_getElem? (i := 107) rfl), lw_t10 (List.mem_of_getElem? (i := 108) rfl)⟩
theorem lw_p74 : lw_okq (⟨"SoftWheelsModel", "floorOf", "(II)I"⟩, 75) := ⟨⟨by decide +kernel, by decide +kernel⟩, lw_t8 (List.mem_of_getElem? (i := 110) rfl), lw_t10 (List.mem_of_getElem? (i := 111) rfl), lw_t10 (List.mem_of_getElem? (i := 112) rfl)⟩
theorem lw_p75 : lw_okq (⟨"SoftWheelsModel", "news", "(II)I"⟩, 75) := ⟨⟨by decide +kernel, by decide +kernel⟩, lw_t8 (List.mem_of_getElem? (i := 110) rfl), lw_t10 (List.mem_of_getElem? (i := 115) rfl), lw_t10 (List.mem_of_getElem? (i := 116) rfl)⟩
theorem lw_p76 : lw_okq (⟨"SoftWheelsModel", "over", "(IIIZ)J"⟩, 75) := ⟨⟨by decide +kernel, by decide +kernel⟩, lw_t8 (List.mem_of_getElem? (i := 110) rfl), lw_t10 (List.mem_of_getElem? (i := 120) rfl), lw_t10 (List.mem_of_getElem? (i := 121) rfl)⟩
theorem lw_p77 : lw_okq (⟨"SoftWheelsModel", "weightOf", "(II)I"⟩, 75) := ⟨⟨by decide +kernel, by decide +kernel⟩, lw_t8 (List.mem_of_getElem? (i := 110) rfl), lw_t10 (List.mem_of_getElem? (i := 127) rfl), lw_t10 (List.mem_of_getElem? (i := 128) rfl)⟩
theorem lw_p78 : lw_okq (⟨"SoftWheelsModel", "left", "(I)J"⟩, 75) := ⟨⟨by decide +kernel, by decide +kernel⟩, lw_t8 (List.mem_of_getElem? (i := 110) rfl), lw_t10 (List.mem_of_getElem? (i := 131) rfl), lw_t10 (List.mem_of_getElem? (i := 132) rfl)⟩
theorem lw_p79 : lw_okq (⟨"SoftWheelsModel", "allOf", "(I)J"⟩, 75) := ⟨⟨by decide +kernel, by decide +kernel⟩, lw_t8 (List.mem_of_getElem? (i := 110) rfl), lw_t10 (List.mem_of_getElem? (i := 135) rfl), lw_t10 (List.mem_of_getElem? (i := 136) rfl)⟩
def lw_privs_5 : List (MethodName × Nat) := [(⟨"SoftWheelsModel", "need", "(II)I"⟩, 75), (⟨"SoftWheelsModel", "slip", "(II)I"⟩, 75), (⟨"SoftWheelsModel", "cost", "(III)I"⟩, 75), (⟨"SoftWheelsModel", "from", "(IIZ)J"⟩, 75), (⟨"SoftWheelsModel", "solve", "(IZ)V"⟩, 75), (⟨"SoftWheelsModel", "prepares", "()V"⟩, 75), (⟨"SoftWheelsModel", "lists", "()V"⟩, 75), (⟨"SoftWheelsModel", "isNear", "(II)Z"⟩, 75), (⟨"SoftWheelsModel", "canBe", "(I)Z"⟩, 75), (⟨"SoftWheelsModel", "lays", "(I)V"⟩, 75), (⟨"SoftWheelsModel", "floorOf", "(II)I"⟩, 75), (⟨"SoftWheelsModel", "news", "(II)I"⟩, 75), (⟨"SoftWheelsModel", "over", "(IIIZ)J"⟩, 75), (⟨"SoftWheelsModel", "weightOf", "(II)I"⟩, 75), (⟨"SoftWheelsModel", "left", "(I)J"⟩, 75), (⟨"SoftWheelsModel", "allOf", "(I)J"⟩, 75)]
theorem lw_r5 : ∀ q ∈ lw_privs_5, lw_okq q := List.forall_mem_cons.mpr ⟨lw_p64, List.forall_mem_cons.mpr ⟨lw_p65, List.forall_mem_cons.mpr ⟨lw_p66, List.forall_mem_cons.mpr ⟨lw_p67, List.forall_mem_cons.mpr ⟨lw_p68, List.forall_mem_cons.mpr ⟨lw_p69, List.forall_mem_cons.mpr ⟨lw_p70, List.forall_mem_cons.mpr ⟨lw_p71, List.forall_mem_cons.mpr ⟨lw_p72, List.forall_mem_cons.mpr ⟨lw_p73, List.forall_mem_cons.mpr ⟨lw_p74, List.forall_mem_cons.mpr ⟨lw_p75, List.forall_mem_cons.mpr ⟨lw_p76, List.forall_mem_cons.mpr ⟨lw_p77, List.forall_mem_cons.mpr ⟨lw_p78, List.forall_mem_cons.mpr ⟨lw_p79, fun _ h => absurd h List.not_mem_nil⟩⟩⟩⟩⟩⟩⟩⟩⟩⟩⟩⟩⟩⟩⟩⟩
theorem lw_p80 : lw_okq (⟨"SoftWheelsModel", "lower", "(IIJ)J"⟩, 75) := ⟨⟨by decide +kernel, by decide +kernel⟩, lw_t8 (List.mem_of_getElem? (i := 110) rfl), lw_t10 (List.mem_of_getElem? (i := 139) rfl), lw_t10 (List.mem_of_getElem? (i := 140) rfl)⟩
theorem lw_p81 : lw_okq (⟨"SoftWheelsModel", "base", "()I"⟩, 75) := ⟨⟨by decide +kernel, by decide +kernel⟩, lw_t8 (List.mem_of_getElem? (i := 110) rfl), lw_t10 (List.mem_of_getElem? (i := 143) rfl), lw_t10 (List.mem_of_getElem? (i := 144) rfl)⟩
theorem lw_p82 : lw_okq (⟨"SoftWheelsModel", "stepOf", "(II)I"⟩, 75) := ⟨⟨by decide +kernel, by decide +kernel⟩, lw_t8 (List.mem_of_getElem? (i := 110) rfl), lw_t10 (List.mem_of_getElem? (i := 163) rfl), lw_t10 (List.mem_of_getElem? (i := 164) rfl)⟩
theorem lw_p83 : lw_okq (⟨"SoftWheelsModel", "truthMany", "()I"⟩, 75) := ⟨⟨by decide +kernel, by decide +kernel⟩, lw_t8 (List.mem_of_getElem? (i := 110) rfl), lw_t10 (List.mem_of_getElem? (i := 171) rfl), lw_t10 (List.mem_of_getElem? (i := 172) rfl)⟩
theorem lw_p84 : lw_okq (⟨"SoftWheelsModel", "all", "(I)I"⟩, 75) := ⟨⟨by decide +kernel, by decide +kernel⟩, lw_t8 (List.mem_of_getElem? (i := 110) rfl), lw_t10 (List.mem_of_getElem? (i := 179) rfl), lw_t10 (List.mem_of_getElem? (i := 180) rfl)⟩
theorem lw_p85 : lw_okq (⟨"SoftWheelsModel", "goes", "(II)I"⟩, 75) := ⟨⟨by decide +kernel, by decide +kernel⟩, lw_t8 (List.mem_of_getElem? (i := 110) rfl), lw_t10 (List.mem_of_getElem? (i := 187) rfl), lw_t10 (List.mem_of_getElem? (i := 188) rfl)⟩
theorem lw_p86 : lw_okq (⟨"SoftWheelsModel", "sees", "(III)I"⟩, 75) := ⟨⟨by decide +kernel, by decide +kernel⟩, lw_t8 (List.mem_of_getElem? (i := 110) rfl), lw_t10 (List.mem_of_getElem? (i := 191) rfl), lw_t10 (List.mem_of_getElem? (i := 192) rfl)⟩
theorem lw_p87 : lw_okq (⟨"SoftWheelsModel", "reads", "()V"⟩, 75) := ⟨⟨by decide +kernel, by decide +kernel⟩, lw_t8 (List.mem_of_getElem? (i := 110) rfl), lw_t10 (List.mem_of_getElem? (i := 215) rfl), lw_t10 (List.mem_of_getElem? (i := 216) rfl)⟩
theorem lw_p88 : lw_okq (⟨"SoftWheelsModel", "opens", "(I)Z"⟩, 75) := ⟨⟨by decide +kernel, by decide +kernel⟩, lw_t8 (List.mem_of_getElem? (i := 110) rfl), lw_t10 (List.mem_of_getElem? (i := 219) rfl), lw_t10 (List.mem_of_getElem? (i := 220) rfl)⟩
theorem lw_p89 : lw_okq (⟨"SoftWheelsModel", "wayWord", "()I"⟩, 75) := ⟨⟨by decide +kernel, by decide +kernel⟩, lw_t8 (List.mem_of_getElem? (i := 110) rfl), lw_t10 (List.mem_of_getElem? (i := 223) rfl), lw_t10 (List.mem_of_getElem? (i := 224) rfl)⟩
theorem lw_p90 : lw_okq (⟨"SoftWheelsModel", "order", "(IIII)I"⟩, 75) := ⟨⟨by decide +kernel, by decide +kernel⟩, lw_t8 (List.mem_of_getElem? (i := 110) rfl), lw_t10 (List.mem_of_getElem? (i := 227) rfl), lw_t10 (List.mem_of_getElem? (i := 228) rfl)⟩
theorem lw_p91 : lw_okq (⟨"SoftWheelsModel", "lands", "(I)V"⟩, 75) := ⟨⟨by decide +kernel, by decide +kernel⟩, lw_t8 (List.mem_of_getElem? (i := 110) rfl), lw_t10 (List.mem_of_getElem? (i := 231) rfl), lw_t10 (List.mem_of_getElem? (i := 232) rfl)⟩
theorem lw_p92 : lw_okq (⟨"SoftWheelsModel", "acts", "(IIII)I"⟩, 75) := ⟨⟨by decide +kernel, by decide +kernel⟩, lw_t8 (List.mem_of_getElem? (i := 110) rfl), lw_t11 (List.mem_of_getElem? (i := 0) rfl), lw_t11 (List.mem_of_getElem? (i := 1) rfl)⟩
theorem lw_p93 : lw_okq (⟨"SoftWheelsModel", "digs", "()V"⟩, 75) := ⟨⟨by decide +kernel, by decide +kernel⟩, lw_t8 (List.mem_of_getElem? (i := 110) rfl), lw_t11 (List.mem_of_getElem? (i := 20) rfl), lw_t11 (List.mem_of_getElem? (i := 21) rfl)⟩
theorem lw_p94 : lw_okq (⟨"SoftWheelsModel", "behind", "(III)I"⟩, 75) := ⟨⟨by decide +kernel, by decide +kernel⟩, lw_t8 (List.mem_of_getElem? (i := 110) rfl), lw_t11 (List.mem_of_getElem? (i := 25) rfl), lw_t11 (List.mem_of_getElem? (i := 26) rfl)⟩
theorem lw_p95 : lw_okq (⟨"SoftWheelsModel", "digState", "()I"⟩, 75) := ⟨⟨by decide +kernel, by decide +kernel⟩, lw_t8 (List.mem_of_getElem? (i := 110) rfl), lw_t11 (List.mem_of_getElem? (i := 29) rfl), lw_t11 (List.mem_of_getElem? (i := 30) rfl)⟩
def lw_privs_6 : List (MethodName × Nat) := [(⟨"SoftWheelsModel", "lower", "(IIJ)J"⟩, 75), (⟨"SoftWheelsModel", "base", "()I"⟩, 75), (⟨"SoftWheelsModel", "stepOf", "(II)I"⟩, 75), (⟨"SoftWheelsModel", "truthMany", "()I"⟩, 75), (⟨"SoftWheelsModel", "all", "(I)I"⟩, 75), (⟨"SoftWheelsModel", "goes", "(II)I"⟩, 75), (⟨"SoftWheelsModel", "sees", "(III)I"⟩, 75), (⟨"SoftWheelsModel", "reads", "()V"⟩, 75), (⟨"SoftWheelsModel", "opens", "(I)Z"⟩, 75), (⟨"SoftWheelsModel", "wayWord", "()I"⟩, 75), (⟨"SoftWheelsModel", "order", "(IIII)I"⟩, 75), (⟨"SoftWheelsModel", "lands", "(I)V"⟩, 75), (⟨"SoftWheelsModel", "acts", "(IIII)I"⟩, 75), (⟨"SoftWheelsModel", "digs", "()V"⟩, 75), (⟨"SoftWheelsModel", "behind", "(III)I"⟩, 75), (⟨"SoftWheelsModel", "digState", "()I"⟩, 75)]
theorem lw_r6 : ∀ q ∈ lw_privs_6, lw_okq q := List.forall_mem_cons.mpr ⟨lw_p80, List.forall_mem_cons.mpr ⟨lw_p81, List.forall_mem_cons.mpr ⟨lw_p82, List.forall_mem_cons.mpr ⟨lw_p83, List.forall_mem_cons.mpr ⟨lw_p84, List.forall_mem_cons.mpr ⟨lw_p85, List.forall_mem_cons.mpr ⟨lw_p86, List.forall_mem_cons.mpr ⟨lw_p87, List.forall_mem_cons.mpr ⟨lw_p88, List.forall_mem_cons.mpr ⟨lw_p89, List.forall_mem_cons.mpr ⟨lw_p90, List.forall_mem_cons.mpr ⟨lw_p91, List.forall_mem_cons.mpr ⟨lw_p92, List.forall_mem_cons.mpr ⟨lw_p93, List.forall_mem_cons.mpr ⟨lw_p94, List.forall_mem_cons.mpr ⟨lw_p95, fun _ h => absurd h List.not_mem_nil⟩⟩⟩⟩⟩⟩⟩⟩⟩⟩⟩⟩⟩⟩⟩⟩
theorem lw_p96 : lw_okq (⟨"SoftWheelsModel", "mostDug", "()I"⟩, 75) := ⟨⟨by decide +kernel, by decide +kernel⟩, lw_t8 (List.mem_of_getElem? (i := 110) rfl), lw_t11 (List.mem_of_getElem? (i := 41) rfl), lw_t11 (List.mem_of_getElem? (i := 42) rfl)⟩
def lw_privs_7 : List (MethodName × Nat) := [(⟨"SoftWheelsModel", "mostDug", "()I"⟩, 75)]
theorem lw_r7 : ∀ q ∈ lw_privs_7, lw_okq q := List.forall_mem_cons.mpr ⟨lw_p96, fun _ h => absurd h List.not_mem_nil⟩
def lw_privs : List (MethodName × Nat) := lw_privs_1 ++ (lw_privs_2 ++ (lw_privs_3 ++ (lw_privs_4 ++ (lw_privs_5 ++ (lw_privs_6 ++ (lw_privs_7))))))
def lw_tbl : List Cond := k2_sels lw_privs ++ tables_1
theorem lw_privs_ok : ∀ q ∈ lw_privs, lw_okq q := by
  show ∀ q ∈ lw_privs_1 ++ (lw_privs_2 ++ (lw_privs_3 ++ (lw_privs_4 ++ (lw_privs_5 ++ (lw_privs_6 ++ (lw_privs_7)))))), lw_okq q
  exact List.forall_mem_append.mpr ⟨lw_r1, List.forall_mem_append.mpr ⟨lw_r2, List.forall_mem_append.mpr ⟨lw_r3, List.forall_mem_append.mpr ⟨lw_r4, List.forall_mem_append.mpr ⟨lw_r5, List.forall_mem_append.mpr ⟨lw_r6, lw_r7⟩⟩⟩⟩⟩⟩
-- ===== ONE list of words for every method: the tables' words that hold all through a run =====
def lw_all : List Cond := lw_tbl.filter goodWord
/-- a word of the tables by its place: claim/WORDS.tsv -/
theorem lw_w {w : Cond} (i : Nat) (h : lw_tbl[i]? = some w) (g : goodWord w = true) : w ∈ lw_all := List.mem_filter.mpr ⟨List.mem_of_getElem? h, g⟩
theorem lw_all_tbl {w : Cond} (h : w ∈ lw_all) : w ∈ lw_tbl := (List.mem_filter.mp h).1
theorem lw_self : GoodIn lw_all lw_all := fun w h => ⟨h, good_of_word (List.mem_filter.mp h).2⟩
/-- a class's field words, by their places -/
theorem lw_in (ws : List Cond) (ps : List Nat) (hp : ws = ps.filterMap (fun i => lw_tbl[i]?)) (hg : ws.all goodWord = true) : ∀ w ∈ ws, w ∈ lw_all := by
  intro w h
  have h1 := List.all_eq_true.mp hg w h
  rw [hp] at h
  obtain ⟨i, -, hi⟩ := List.mem_filterMap.mp h
  exact lw_w i hi h1
/-- the words of a contract for the method y with code b, L locals, answer r -/
abbrev ws_ (y : MethodName) (b : ByteArray) (L : Nat) (r : Option FieldType) : List Cond := Cond.code y b L r :: lw_all
theorem lw_meth {y : MethodName} {b : ByteArray} {L : Nat} {r : Option FieldType} (h : Cond.code y b L r ∈ lw_all) : GoodIn lw_all (ws_ y b L r) := by
  intro w hw
  rcases List.mem_cons.mp hw with e | e
  · rw [e]
    exact lw_self _ h
  · exact lw_self _ e
theorem lw_app {a c : List Cond} (ha : ∀ w ∈ a, w ∈ lw_all) (hc : GoodIn lw_all c) : GoodIn lw_all (a ++ c) := by
  intro w hw
  rcases List.mem_append.mp hw with e | e
  · exact lw_self w (ha w e)
  · exact hc w e
/-- what a call through an object asks: cwV n hts (lw_V ..) -/
theorem lw_V {own : String} {idx : Nat} {C : String} {y : MethodName} {b : ByteArray} {L : Nat} {r : Option FieldType} (h1 : Cond.methodLink own idx y ∈ lw_all) (h2 : Cond.instanceMethod y ∈ lw_all) (h3 : Cond.selects C y y ∈ lw_all) (h4 : Cond.initialized C ∈ lw_all) (h5 : Cond.code y b L r ∈ lw_all) : GoodIn lw_all (wsV own idx C y (ws_ y b L r)) := by
  refine lw_app ?_ (lw_meth h5)
  intro w hw
  simp only [List.mem_cons, List.not_mem_nil, or_false] at hw
  rcases hw with e | e | e | e
  · rw [e]; exact h1
  · rw [e]; exact h2
  · rw [e]; exact h3
  · rw [e]; exact h4
/-- what a static call asks: va_cwS n hts (lw_S ..) -/
theorem lw_S {own : String} {idx : Nat} {y : MethodName} {b : ByteArray} {L : Nat} {r : Option FieldType} (h1 : Cond.methodLink own idx y ∈ lw_all) (h2 : Cond.static y ∈ lw_all) (h3 : Cond.initialized y.cls ∈ lw_all) (h4 : Cond.code y b L r ∈ lw_all) : GoodIn lw_all (va_wsS own idx y (ws_ y b L r)) := by
  refine lw_app ?_ (lw_meth h4)
  intro w hw
  simp only [List.mem_cons, List.not_mem_nil, or_false] at hw
  rcases hw with e | e | e
  · rw [e]; exact h1
  · rw [e]; exact h2
  · rw [e]; exact h3
/-- the words of a contract for a method WITH HANDLERS (hh: its table) -/
abbrev wsW_ (y : MethodName) (b : ByteArray) (L : Nat) (r : Option FieldType) (hh : List (Nat × Nat × Nat × Nat)) : List Cond := Cond.codeWith y b L r hh :: lw_all
theorem lw_methW {y : MethodName} {b : ByteArray} {L : Nat} {r : Option FieldType} {hh : List (Nat × Nat × Nat × Nat)} (h : Cond.codeWith y b L r hh ∈ lw_all) : GoodIn lw_all (wsW_ y b L r hh) := by
  intro w hw
  rcases List.mem_cons.mp hw with e | e
  · rw [e]
    exact lw_self _ h
  · exact lw_self _ e
/-- any list of words by their places (lw_in), good -/
theorem lw_good {ws : List Cond} (h : ∀ w ∈ ws, w ∈ lw_all) : GoodIn lw_all ws := fun w hw => lw_self w (h w hw)
/-- what a call of a method with handlers asks: vx_cwVW n hts (lw_VW ..), vx_cwSW n hts (lw_SW ..) -/
theorem lw_VW {own : String} {idx : Nat} {C : String} {y : MethodName} {b : ByteArray} {L : Nat} {r : Option FieldType} {hh : List (Nat × Nat × Nat × Nat)} (h1 : Cond.methodLink own idx y ∈ lw_all) (h2 : Cond.instanceMethod y ∈ lw_all) (h3 : Cond.selects C y y ∈ lw_all) (h4 : Cond.initialized C ∈ lw_all) (h5 : Cond.codeWith y b L r hh ∈ lw_all) : GoodIn lw_all (wsV own idx C y (wsW_ y b L r hh)) := by
  refine lw_app ?_ (lw_methW h5)
  intro w hw
  simp only [List.mem_cons, List.not_mem_nil, or_false] at hw
  rcases hw with e | e | e | e
  · rw [e]; exact h1
  · rw [e]; exact h2
  · rw [e]; exact h3
  · rw [e]; exact h4
theorem lw_SW {own : String} {idx : Nat} {y : MethodName} {b : ByteArray} {L : Nat} {r : Option FieldType} {hh : List (Nat × Nat × Nat × Nat)} (h1 : Cond.methodLink own idx y ∈ lw_all) (h2 : Cond.static y ∈ lw_all) (h3 : Cond.initialized y.cls ∈ lw_all) (h4 : Cond.codeWith y b L r hh ∈ lw_all) : GoodIn lw_all (va_wsS own idx y (wsW_ y b L r hh)) := by
  refine lw_app ?_ (lw_methW h4)
  intro w hw
  simp only [List.mem_cons, List.not_mem_nil, or_false] at hw
  rcases hw with e | e | e
  · rw [e]; exact h1
  · rw [e]; exact h2
  · rw [e]; exact h3
/-- a word by its place in its run of the tables -/
theorem lw_at {r : List Cond} (hr : ∀ w ∈ r, w ∈ lw_tbl) {w : Cond} (i : Nat) (h : r[i]? = some w) : w ∈ lw_tbl := hr w (List.mem_of_getElem? h)
theorem lw_g {w : Cond} (h : w ∈ lw_tbl) (g : goodWord w = true) : w ∈ lw_all := List.mem_filter.mpr ⟨h, g⟩
theorem lw_ms : ∀ w ∈ k2_sels lw_privs, w ∈ lw_tbl := fun w h => show w ∈ k2_sels lw_privs ++ tables_1 from List.mem_append_left _ h
theorem lw_m1 : ∀ w ∈ tables_1_1, w ∈ lw_tbl := fun w h => show w ∈ k2_sels lw_privs ++ tables_1 from List.mem_append_right (k2_sels lw_privs) (show w ∈ tables_1 from List.mem_append_left _ h)
theorem lw_m2 : ∀ w ∈ tables_1_2, w ∈ lw_tbl := fun w h => show w ∈ k2_sels lw_privs ++ tables_1 from List.mem_append_right (k2_sels lw_privs) (show w ∈ tables_1 from List.mem_append_right _ (List.mem_append_left _ h))
theorem lw_m3 : ∀ w ∈ tables_1_3, w ∈ lw_tbl := fun w h => show w ∈ k2_sels lw_privs ++ tables_1 from List.mem_append_right (k2_sels lw_privs) (show w ∈ tables_1 from List.mem_append_right _ (List.mem_append_right _ (List.mem_append_left _ h)))
theorem lw_m4 : ∀ w ∈ tables_1_4, w ∈ lw_tbl := fun w h => show w ∈ k2_sels lw_privs ++ tables_1 from List.mem_append_right (k2_sels lw_privs) (show w ∈ tables_1 from List.mem_append_right _ (List.mem_append_right _ (List.mem_append_right _ (List.mem_append_left _ h))))
theorem lw_m5 : ∀ w ∈ tables_1_5, w ∈ lw_tbl := fun w h => show w ∈ k2_sels lw_privs ++ tables_1 from List.mem_append_right (k2_sels lw_privs) (show w ∈ tables_1 from List.mem_append_right _ (List.mem_append_right _ (List.mem_append_right _ (List.mem_append_right _ (List.mem_append_left _ h)))))
theorem lw_m6 : ∀ w ∈ tables_1_6, w ∈ lw_tbl := fun w h => show w ∈ k2_sels lw_privs ++ tables_1 from List.mem_append_right (k2_sels lw_privs) (show w ∈ tables_1 from List.mem_append_right _ (List.mem_append_right _ (List.mem_append_right _ (List.mem_append_right _ (List.mem_append_right _ (List.mem_append_left _ h))))))
theorem lw_m7 : ∀ w ∈ tables_1_7, w ∈ lw_tbl := fun w h => show w ∈ k2_sels lw_privs ++ tables_1 from List.mem_append_right (k2_sels lw_privs) (show w ∈ tables_1 from List.mem_append_right _ (List.mem_append_right _ (List.mem_append_right _ (List.mem_append_right _ (List.mem_append_right _ (List.mem_append_right _ (List.mem_append_left _ h)))))))
theorem lw_m8 : ∀ w ∈ tables_1_8, w ∈ lw_tbl := fun w h => show w ∈ k2_sels lw_privs ++ tables_1 from List.mem_append_right (k2_sels lw_privs) (show w ∈ tables_1 from List.mem_append_right _ (List.mem_append_right _ (List.mem_append_right _ (List.mem_append_right _ (List.mem_append_right _ (List.mem_append_right _ (List.mem_append_right _ (List.mem_append_left _ h))))))))
theorem lw_m9 : ∀ w ∈ tables_1_9, w ∈ lw_tbl := fun w h => show w ∈ k2_sels lw_privs ++ tables_1 from List.mem_append_right (k2_sels lw_privs) (show w ∈ tables_1 from List.mem_append_right _ (List.mem_append_right _ (List.mem_append_right _ (List.mem_append_right _ (List.mem_append_right _ (List.mem_append_right _ (List.mem_append_right _ (List.mem_append_right _ (List.mem_append_left _ h)))))))))
theorem lw_m10 : ∀ w ∈ tables_1_10, w ∈ lw_tbl := fun w h => show w ∈ k2_sels lw_privs ++ tables_1 from List.mem_append_right (k2_sels lw_privs) (show w ∈ tables_1 from List.mem_append_right _ (List.mem_append_right _ (List.mem_append_right _ (List.mem_append_right _ (List.mem_append_right _ (List.mem_append_right _ (List.mem_append_right _ (List.mem_append_right _ (List.mem_append_right _ (List.mem_append_left _ h))))))))))
theorem lw_m11 : ∀ w ∈ tables_1_11, w ∈ lw_tbl := fun w h => show w ∈ k2_sels lw_privs ++ tables_1 from List.mem_append_right (k2_sels lw_privs) (show w ∈ tables_1 from List.mem_append_right _ (List.mem_append_right _ (List.mem_append_right _ (List.mem_append_right _ (List.mem_append_right _ (List.mem_append_right _ (List.mem_append_right _ (List.mem_append_right _ (List.mem_append_right _ (List.mem_append_right _ h))))))))))
theorem qs0 : (Cond.selects "SoftWheels" ⟨"SoftWheels", "refused", "(I)I"⟩ ⟨"SoftWheels", "refused", "(I)I"⟩) ∈ lw_all := lw_g (lw_at lw_ms 0 rfl) rfl
theorem qs1 : (Cond.selects "SoftWheels" ⟨"SoftWheels", "reader", "(I)LSoftWheels$Reader;"⟩ ⟨"SoftWheels", "reader", "(I)LSoftWheels$Reader;"⟩) ∈ lw_all := lw_g (lw_at lw_ms 1 rfl) rfl
theorem qs2 : (Cond.selects "SoftWheels$Reader" ⟨"SoftWheels$Reader", "here", "()I"⟩ ⟨"SoftWheels$Reader", "here", "()I"⟩) ∈ lw_all := lw_g (lw_at lw_ms 2 rfl) rfl
theorem qs3 : (Cond.selects "SoftWheels$Reader" ⟨"SoftWheels$Reader", "nextWord", "()V"⟩ ⟨"SoftWheels$Reader", "nextWord", "()V"⟩) ∈ lw_all := lw_g (lw_at lw_ms 3 rfl) rfl
theorem qs4 : (Cond.selects "SoftWheels$Reader" ⟨"SoftWheels$Reader", "nextWhole", "()V"⟩ ⟨"SoftWheels$Reader", "nextWhole", "()V"⟩) ∈ lw_all := lw_g (lw_at lw_ms 4 rfl) rfl
theorem qs5 : (Cond.selects "SoftWheels$Book" ⟨"SoftWheels$Book", "readGround", "(LSoftWheels$Reader;)V"⟩ ⟨"SoftWheels$Book", "readGround", "(LSoftWheels$Reader;)V"⟩) ∈ lw_all := lw_g (lw_at lw_ms 5 rfl) rfl
theorem qs6 : (Cond.selects "java/lang/Throwable" ⟨"java/lang/Throwable", "fillInStackTrace", "(I)Ljava/lang/Throwable;"⟩ ⟨"java/lang/Throwable", "fillInStackTrace", "(I)Ljava/lang/Throwable;"⟩) ∈ lw_all := lw_g (lw_at lw_ms 6 rfl) rfl
theorem qs7 : (Cond.selects "java/util/ArrayList" ⟨"java/util/ArrayList", "add", "(Ljava/lang/Object;[Ljava/lang/Object;I)V"⟩ ⟨"java/util/ArrayList", "add", "(Ljava/lang/Object;[Ljava/lang/Object;I)V"⟩) ∈ lw_all := lw_g (lw_at lw_ms 7 rfl) rfl
theorem qs8 : (Cond.selects "java/util/ArrayList" ⟨"java/util/ArrayList", "grow", "()[Ljava/lang/Object;"⟩ ⟨"java/util/ArrayList", "grow", "()[Ljava/lang/Object;"⟩) ∈ lw_all := lw_g (lw_at lw_ms 8 rfl) rfl
theorem qs9 : (Cond.selects "java/util/ArrayList" ⟨"java/util/ArrayList", "grow", "(I)[Ljava/lang/Object;"⟩ ⟨"java/util/ArrayList", "grow", "(I)[Ljava/lang/Object;"⟩) ∈ lw_all := lw_g (lw_at lw_ms 9 rfl) rfl
theorem qs10 : (Cond.selects "SoftWheels$Book" ⟨"SoftWheels$Book", "readRover", "(LSoftWheels$Reader;)V"⟩ ⟨"SoftWheels$Book", "readRover", "(LSoftWheels$Reader;)V"⟩) ∈ lw_all := lw_g (lw_at lw_ms 10 rfl) rfl
theorem qs11 : (Cond.selects "SoftWheels$Book" ⟨"SoftWheels$Book", "readAttempt", "(LSoftWheels$Reader;)V"⟩ ⟨"SoftWheels$Book", "readAttempt", "(LSoftWheels$Reader;)V"⟩) ∈ lw_all := lw_g (lw_at lw_ms 11 rfl) rfl
theorem qs12 : (Cond.selects "SoftWheels$Book" ⟨"SoftWheels$Book", "hasAttempt", "(Ljava/lang/String;)Z"⟩ ⟨"SoftWheels$Book", "hasAttempt", "(Ljava/lang/String;)Z"⟩) ∈ lw_all := lw_g (lw_at lw_ms 12 rfl) rfl
theorem qs13 : (Cond.selects "SoftWheels" ⟨"SoftWheels", "failed", "(LSoftWheels$Fault;)I"⟩ ⟨"SoftWheels", "failed", "(LSoftWheels$Fault;)I"⟩) ∈ lw_all := lw_g (lw_at lw_ms 13 rfl) rfl
theorem qs14 : (Cond.selects "SoftWheels" ⟨"SoftWheels", "done", "(I)I"⟩ ⟨"SoftWheels", "done", "(I)I"⟩) ∈ lw_all := lw_g (lw_at lw_ms 14 rfl) rfl
theorem qs15 : (Cond.selects "SoftWheels" ⟨"SoftWheels", "isGround", "(I)Z"⟩ ⟨"SoftWheels", "isGround", "(I)Z"⟩) ∈ lw_all := lw_g (lw_at lw_ms 15 rfl) rfl
theorem qs16 : (Cond.selects "SoftWheels" ⟨"SoftWheels", "denied", "(I)Z"⟩ ⟨"SoftWheels", "denied", "(I)Z"⟩) ∈ lw_all := lw_g (lw_at lw_ms 16 rfl) rfl
theorem qs17 : (Cond.selects "SoftWheels" ⟨"SoftWheels", "granted", "()Z"⟩ ⟨"SoftWheels", "granted", "()Z"⟩) ∈ lw_all := lw_g (lw_at lw_ms 17 rfl) rfl
theorem qs18 : (Cond.selects "SoftWheels" ⟨"SoftWheels", "isCell", "(I)Z"⟩ ⟨"SoftWheels", "isCell", "(I)Z"⟩) ∈ lw_all := lw_g (lw_at lw_ms 18 rfl) rfl
theorem qs19 : (Cond.selects "SoftWheels" ⟨"SoftWheels", "isDoubt", "(I)Z"⟩ ⟨"SoftWheels", "isDoubt", "(I)Z"⟩) ∈ lw_all := lw_g (lw_at lw_ms 19 rfl) rfl
theorem qs20 : (Cond.selects "SoftWheels" ⟨"SoftWheels", "areCells", "(II)Z"⟩ ⟨"SoftWheels", "areCells", "(II)Z"⟩) ∈ lw_all := lw_g (lw_at lw_ms 20 rfl) rfl
theorem qs21 : (Cond.selects "SoftWheels" ⟨"SoftWheels", "solver", "(IZ)LSoftWheels$Solver;"⟩ ⟨"SoftWheels", "solver", "(IZ)LSoftWheels$Solver;"⟩) ∈ lw_all := lw_g (lw_at lw_ms 21 rfl) rfl
theorem qs22 : (Cond.selects "SoftWheels$Solver" ⟨"SoftWheels$Solver", "solve", "(I)V"⟩ ⟨"SoftWheels$Solver", "solve", "(I)V"⟩) ∈ lw_all := lw_g (lw_at lw_ms 22 rfl) rfl
theorem qs23 : (Cond.selects "SoftWheels$Solver" ⟨"SoftWheels$Solver", "unknown", "(I)I"⟩ ⟨"SoftWheels$Solver", "unknown", "(I)I"⟩) ∈ lw_all := lw_g (lw_at lw_ms 23 rfl) rfl
theorem qs24 : (Cond.selects "SoftWheels$Solver" ⟨"SoftWheels$Solver", "seen", "(III)J"⟩ ⟨"SoftWheels$Solver", "seen", "(III)J"⟩) ∈ lw_all := lw_g (lw_at lw_ms 24 rfl) rfl
theorem qs25 : (Cond.selects "SoftWheels$Solver" ⟨"SoftWheels$Solver", "cost", "(ILSoftWheels$Way;I)I"⟩ ⟨"SoftWheels$Solver", "cost", "(ILSoftWheels$Way;I)I"⟩) ∈ lw_all := lw_g (lw_at lw_ms 25 rfl) rfl
theorem qs26 : (Cond.selects "SoftWheels$Solver" ⟨"SoftWheels$Solver", "groundOf", "(II)I"⟩ ⟨"SoftWheels$Solver", "groundOf", "(II)I"⟩) ∈ lw_all := lw_g (lw_at lw_ms 26 rfl) rfl
theorem qs27 : (Cond.selects "SoftWheels" ⟨"SoftWheels", "lost", "(I)J"⟩ ⟨"SoftWheels", "lost", "(I)J"⟩) ∈ lw_all := lw_g (lw_at lw_ms 27 rfl) rfl
theorem qs28 : (Cond.selects "SoftWheels" ⟨"SoftWheels", "part", "(JJZ)J"⟩ ⟨"SoftWheels", "part", "(JJZ)J"⟩) ∈ lw_all := lw_g (lw_at lw_ms 28 rfl) rfl
theorem qs29 : (Cond.selects "SoftWheels" ⟨"SoftWheels", "told", "(J)J"⟩ ⟨"SoftWheels", "told", "(J)J"⟩) ∈ lw_all := lw_g (lw_at lw_ms 29 rfl) rfl
theorem qs30 : (Cond.selects "SoftWheels$Planner" ⟨"SoftWheels$Planner", "plan", "()Ljava/util/List;"⟩ ⟨"SoftWheels$Planner", "plan", "()Ljava/util/List;"⟩) ∈ lw_all := lw_g (lw_at lw_ms 30 rfl) rfl
theorem qs31 : (Cond.selects "SoftWheels$Planner" ⟨"SoftWheels$Planner", "step", "()LSoftWheels$Doing;"⟩ ⟨"SoftWheels$Planner", "step", "()LSoftWheels$Doing;"⟩) ∈ lw_all := lw_g (lw_at lw_ms 31 rfl) rfl
theorem qs32 : (Cond.selects "SoftWheels$Planner" ⟨"SoftWheels$Planner", "inner", "()Ljava/util/List;"⟩ ⟨"SoftWheels$Planner", "inner", "()Ljava/util/List;"⟩) ∈ lw_all := lw_g (lw_at lw_ms 32 rfl) rfl
theorem qs33 : (Cond.selects "SoftWheels" ⟨"SoftWheels", "isPlan", "(I)Z"⟩ ⟨"SoftWheels", "isPlan", "(I)Z"⟩) ∈ lw_all := lw_g (lw_at lw_ms 33 rfl) rfl
theorem qs34 : (Cond.selects "SoftWheels" ⟨"SoftWheels", "walk", "(III)LSoftWheels$Walk;"⟩ ⟨"SoftWheels", "walk", "(III)LSoftWheels$Walk;"⟩) ∈ lw_all := lw_g (lw_at lw_ms 34 rfl) rfl
theorem qs35 : (Cond.selects "SoftWheels$Walk" ⟨"SoftWheels$Walk", "groundOf", "(I)I"⟩ ⟨"SoftWheels$Walk", "groundOf", "(I)I"⟩) ∈ lw_all := lw_g (lw_at lw_ms 35 rfl) rfl
theorem qs36 : (Cond.selects "SoftWheels" ⟨"SoftWheels", "pit", "()LSoftWheels$Pit;"⟩ ⟨"SoftWheels", "pit", "()LSoftWheels$Pit;"⟩) ∈ lw_all := lw_g (lw_at lw_ms 36 rfl) rfl
theorem qs37 : (Cond.selects "SoftWheels$Pit" ⟨"SoftWheels$Pit", "lowers", "()Z"⟩ ⟨"SoftWheels$Pit", "lowers", "()Z"⟩) ∈ lw_all := lw_g (lw_at lw_ms 37 rfl) rfl
theorem qs38 : (Cond.selects "SoftWheels" ⟨"SoftWheels", "state", "()I"⟩ ⟨"SoftWheels", "state", "()I"⟩) ∈ lw_all := lw_g (lw_at lw_ms 38 rfl) rfl
theorem qs39 : (Cond.selects "SoftWheels" ⟨"SoftWheels", "deepest", "()I"⟩ ⟨"SoftWheels", "deepest", "()I"⟩) ∈ lw_all := lw_g (lw_at lw_ms 39 rfl) rfl
theorem qs40 : (Cond.selects "SoftWheelsModel" ⟨"SoftWheelsModel", "good", "()V"⟩ ⟨"SoftWheelsModel", "good", "()V"⟩) ∈ lw_all := lw_g (lw_at lw_ms 40 rfl) rfl
theorem qs41 : (Cond.selects "SoftWheelsModel" ⟨"SoftWheelsModel", "no", "(I)I"⟩ ⟨"SoftWheelsModel", "no", "(I)I"⟩) ∈ lw_all := lw_g (lw_at lw_ms 41 rfl) rfl
theorem qs42 : (Cond.selects "SoftWheelsModel" ⟨"SoftWheelsModel", "store", "(Z)V"⟩ ⟨"SoftWheelsModel", "store", "(Z)V"⟩) ∈ lw_all := lw_g (lw_at lw_ms 42 rfl) rfl
theorem qs43 : (Cond.selects "SoftWheelsModel" ⟨"SoftWheelsModel", "cell", "([IIIZ)I"⟩ ⟨"SoftWheelsModel", "cell", "([IIIZ)I"⟩) ∈ lw_all := lw_g (lw_at lw_ms 43 rfl) rfl
theorem qs44 : (Cond.selects "SoftWheelsModel" ⟨"SoftWheelsModel", "begins", "(I)V"⟩ ⟨"SoftWheelsModel", "begins", "(I)V"⟩) ∈ lw_all := lw_g (lw_at lw_ms 44 rfl) rfl
theorem qs45 : (Cond.selects "SoftWheelsModel" ⟨"SoftWheelsModel", "next", "()V"⟩ ⟨"SoftWheelsModel", "next", "()V"⟩) ∈ lw_all := lw_g (lw_at lw_ms 45 rfl) rfl
theorem qs46 : (Cond.selects "SoftWheelsModel" ⟨"SoftWheelsModel", "look", "(I)I"⟩ ⟨"SoftWheelsModel", "look", "(I)I"⟩) ∈ lw_all := lw_g (lw_at lw_ms 46 rfl) rfl
theorem qs47 : (Cond.selects "SoftWheelsModel" ⟨"SoftWheelsModel", "line", "()V"⟩ ⟨"SoftWheelsModel", "line", "()V"⟩) ∈ lw_all := lw_g (lw_at lw_ms 47 rfl) rfl
theorem qs48 : (Cond.selects "SoftWheelsModel" ⟨"SoftWheelsModel", "word", "(Ljava/lang/String;)Z"⟩ ⟨"SoftWheelsModel", "word", "(Ljava/lang/String;)Z"⟩) ∈ lw_all := lw_g (lw_at lw_ms 48 rfl) rfl
theorem qs49 : (Cond.selects "SoftWheelsModel" ⟨"SoftWheelsModel", "groundLine", "()V"⟩ ⟨"SoftWheelsModel", "groundLine", "()V"⟩) ∈ lw_all := lw_g (lw_at lw_ms 49 rfl) rfl
theorem qs50 : (Cond.selects "SoftWheelsModel" ⟨"SoftWheelsModel", "isName", "()Z"⟩ ⟨"SoftWheelsModel", "isName", "()Z"⟩) ∈ lw_all := lw_g (lw_at lw_ms 50 rfl) rfl
theorem qs51 : (Cond.selects "SoftWheelsModel" ⟨"SoftWheelsModel", "wrong", "(II)Z"⟩ ⟨"SoftWheelsModel", "wrong", "(II)Z"⟩) ∈ lw_all := lw_g (lw_at lw_ms 51 rfl) rfl
theorem qs52 : (Cond.selects "SoftWheelsModel" ⟨"SoftWheelsModel", "find", "([I[II)I"⟩ ⟨"SoftWheelsModel", "find", "([I[II)I"⟩) ∈ lw_all := lw_g (lw_at lw_ms 52 rfl) rfl
theorem qs53 : (Cond.selects "SoftWheelsModel" ⟨"SoftWheelsModel", "must", "(Ljava/lang/String;)Z"⟩ ⟨"SoftWheelsModel", "must", "(Ljava/lang/String;)Z"⟩) ∈ lw_all := lw_g (lw_at lw_ms 53 rfl) rfl
theorem qs54 : (Cond.selects "SoftWheelsModel" ⟨"SoftWheelsModel", "pairs", "([IZ)I"⟩ ⟨"SoftWheelsModel", "pairs", "([IZ)I"⟩) ∈ lw_all := lw_g (lw_at lw_ms 54 rfl) rfl
theorem qs55 : (Cond.selects "SoftWheelsModel" ⟨"SoftWheelsModel", "number", "(II)I"⟩ ⟨"SoftWheelsModel", "number", "(II)I"⟩) ∈ lw_all := lw_g (lw_at lw_ms 55 rfl) rfl
theorem qs56 : (Cond.selects "SoftWheelsModel" ⟨"SoftWheelsModel", "tryLine", "()V"⟩ ⟨"SoftWheelsModel", "tryLine", "()V"⟩) ∈ lw_all := lw_g (lw_at lw_ms 56 rfl) rfl
theorem qs57 : (Cond.selects "SoftWheelsModel" ⟨"SoftWheelsModel", "signed", "(II)I"⟩ ⟨"SoftWheelsModel", "signed", "(II)I"⟩) ∈ lw_all := lw_g (lw_at lw_ms 57 rfl) rfl
theorem qs58 : (Cond.selects "SoftWheelsModel" ⟨"SoftWheelsModel", "isGround", "(I)Z"⟩ ⟨"SoftWheelsModel", "isGround", "(I)Z"⟩) ∈ lw_all := lw_g (lw_at lw_ms 58 rfl) rfl
theorem qs59 : (Cond.selects "SoftWheelsModel" ⟨"SoftWheelsModel", "not", "(I)Z"⟩ ⟨"SoftWheelsModel", "not", "(I)Z"⟩) ∈ lw_all := lw_g (lw_at lw_ms 59 rfl) rfl
theorem qs60 : (Cond.selects "SoftWheelsModel" ⟨"SoftWheelsModel", "isCell", "(I)Z"⟩ ⟨"SoftWheelsModel", "isCell", "(I)Z"⟩) ∈ lw_all := lw_g (lw_at lw_ms 60 rfl) rfl
theorem qs61 : (Cond.selects "SoftWheelsModel" ⟨"SoftWheelsModel", "isDoubt", "(I)Z"⟩ ⟨"SoftWheelsModel", "isDoubt", "(I)Z"⟩) ∈ lw_all := lw_g (lw_at lw_ms 61 rfl) rfl
theorem qs62 : (Cond.selects "SoftWheelsModel" ⟨"SoftWheelsModel", "barred", "(III)I"⟩ ⟨"SoftWheelsModel", "barred", "(III)I"⟩) ∈ lw_all := lw_g (lw_at lw_ms 62 rfl) rfl
theorem qs63 : (Cond.selects "SoftWheelsModel" ⟨"SoftWheelsModel", "beside", "(II)I"⟩ ⟨"SoftWheelsModel", "beside", "(II)I"⟩) ∈ lw_all := lw_g (lw_at lw_ms 63 rfl) rfl
theorem qs64 : (Cond.selects "SoftWheelsModel" ⟨"SoftWheelsModel", "need", "(II)I"⟩ ⟨"SoftWheelsModel", "need", "(II)I"⟩) ∈ lw_all := lw_g (lw_at lw_ms 64 rfl) rfl
theorem qs65 : (Cond.selects "SoftWheelsModel" ⟨"SoftWheelsModel", "slip", "(II)I"⟩ ⟨"SoftWheelsModel", "slip", "(II)I"⟩) ∈ lw_all := lw_g (lw_at lw_ms 65 rfl) rfl
theorem qs66 : (Cond.selects "SoftWheelsModel" ⟨"SoftWheelsModel", "cost", "(III)I"⟩ ⟨"SoftWheelsModel", "cost", "(III)I"⟩) ∈ lw_all := lw_g (lw_at lw_ms 66 rfl) rfl
theorem qs67 : (Cond.selects "SoftWheelsModel" ⟨"SoftWheelsModel", "from", "(IIZ)J"⟩ ⟨"SoftWheelsModel", "from", "(IIZ)J"⟩) ∈ lw_all := lw_g (lw_at lw_ms 67 rfl) rfl
theorem qs68 : (Cond.selects "SoftWheelsModel" ⟨"SoftWheelsModel", "solve", "(IZ)V"⟩ ⟨"SoftWheelsModel", "solve", "(IZ)V"⟩) ∈ lw_all := lw_g (lw_at lw_ms 68 rfl) rfl
theorem qs69 : (Cond.selects "SoftWheelsModel" ⟨"SoftWheelsModel", "prepares", "()V"⟩ ⟨"SoftWheelsModel", "prepares", "()V"⟩) ∈ lw_all := lw_g (lw_at lw_ms 69 rfl) rfl
theorem qs70 : (Cond.selects "SoftWheelsModel" ⟨"SoftWheelsModel", "lists", "()V"⟩ ⟨"SoftWheelsModel", "lists", "()V"⟩) ∈ lw_all := lw_g (lw_at lw_ms 70 rfl) rfl
theorem qs71 : (Cond.selects "SoftWheelsModel" ⟨"SoftWheelsModel", "isNear", "(II)Z"⟩ ⟨"SoftWheelsModel", "isNear", "(II)Z"⟩) ∈ lw_all := lw_g (lw_at lw_ms 71 rfl) rfl
theorem qs72 : (Cond.selects "SoftWheelsModel" ⟨"SoftWheelsModel", "canBe", "(I)Z"⟩ ⟨"SoftWheelsModel", "canBe", "(I)Z"⟩) ∈ lw_all := lw_g (lw_at lw_ms 72 rfl) rfl
theorem qs73 : (Cond.selects "SoftWheelsModel" ⟨"SoftWheelsModel", "lays", "(I)V"⟩ ⟨"SoftWheelsModel", "lays", "(I)V"⟩) ∈ lw_all := lw_g (lw_at lw_ms 73 rfl) rfl
theorem qs74 : (Cond.selects "SoftWheelsModel" ⟨"SoftWheelsModel", "floorOf", "(II)I"⟩ ⟨"SoftWheelsModel", "floorOf", "(II)I"⟩) ∈ lw_all := lw_g (lw_at lw_ms 74 rfl) rfl
theorem qs75 : (Cond.selects "SoftWheelsModel" ⟨"SoftWheelsModel", "news", "(II)I"⟩ ⟨"SoftWheelsModel", "news", "(II)I"⟩) ∈ lw_all := lw_g (lw_at lw_ms 75 rfl) rfl
theorem qs76 : (Cond.selects "SoftWheelsModel" ⟨"SoftWheelsModel", "over", "(IIIZ)J"⟩ ⟨"SoftWheelsModel", "over", "(IIIZ)J"⟩) ∈ lw_all := lw_g (lw_at lw_ms 76 rfl) rfl
theorem qs77 : (Cond.selects "SoftWheelsModel" ⟨"SoftWheelsModel", "weightOf", "(II)I"⟩ ⟨"SoftWheelsModel", "weightOf", "(II)I"⟩) ∈ lw_all := lw_g (lw_at lw_ms 77 rfl) rfl
theorem qs78 : (Cond.selects "SoftWheelsModel" ⟨"SoftWheelsModel", "left", "(I)J"⟩ ⟨"SoftWheelsModel", "left", "(I)J"⟩) ∈ lw_all := lw_g (lw_at lw_ms 78 rfl) rfl
theorem qs79 : (Cond.selects "SoftWheelsModel" ⟨"SoftWheelsModel", "allOf", "(I)J"⟩ ⟨"SoftWheelsModel", "allOf", "(I)J"⟩) ∈ lw_all := lw_g (lw_at lw_ms 79 rfl) rfl
theorem qs80 : (Cond.selects "SoftWheelsModel" ⟨"SoftWheelsModel", "lower", "(IIJ)J"⟩ ⟨"SoftWheelsModel", "lower", "(IIJ)J"⟩) ∈ lw_all := lw_g (lw_at lw_ms 80 rfl) rfl
theorem qs81 : (Cond.selects "SoftWheelsModel" ⟨"SoftWheelsModel", "base", "()I"⟩ ⟨"SoftWheelsModel", "base", "()I"⟩) ∈ lw_all := lw_g (lw_at lw_ms 81 rfl) rfl
theorem qs82 : (Cond.selects "SoftWheelsModel" ⟨"SoftWheelsModel", "stepOf", "(II)I"⟩ ⟨"SoftWheelsModel", "stepOf", "(II)I"⟩) ∈ lw_all := lw_g (lw_at lw_ms 82 rfl) rfl
theorem qs83 : (Cond.selects "SoftWheelsModel" ⟨"SoftWheelsModel", "truthMany", "()I"⟩ ⟨"SoftWheelsModel", "truthMany", "()I"⟩) ∈ lw_all := lw_g (lw_at lw_ms 83 rfl) rfl
theorem qs84 : (Cond.selects "SoftWheelsModel" ⟨"SoftWheelsModel", "all", "(I)I"⟩ ⟨"SoftWheelsModel", "all", "(I)I"⟩) ∈ lw_all := lw_g (lw_at lw_ms 84 rfl) rfl
theorem qs85 : (Cond.selects "SoftWheelsModel" ⟨"SoftWheelsModel", "goes", "(II)I"⟩ ⟨"SoftWheelsModel", "goes", "(II)I"⟩) ∈ lw_all := lw_g (lw_at lw_ms 85 rfl) rfl
theorem qs86 : (Cond.selects "SoftWheelsModel" ⟨"SoftWheelsModel", "sees", "(III)I"⟩ ⟨"SoftWheelsModel", "sees", "(III)I"⟩) ∈ lw_all := lw_g (lw_at lw_ms 86 rfl) rfl
theorem qs87 : (Cond.selects "SoftWheelsModel" ⟨"SoftWheelsModel", "reads", "()V"⟩ ⟨"SoftWheelsModel", "reads", "()V"⟩) ∈ lw_all := lw_g (lw_at lw_ms 87 rfl) rfl
theorem qs88 : (Cond.selects "SoftWheelsModel" ⟨"SoftWheelsModel", "opens", "(I)Z"⟩ ⟨"SoftWheelsModel", "opens", "(I)Z"⟩) ∈ lw_all := lw_g (lw_at lw_ms 88 rfl) rfl
theorem qs89 : (Cond.selects "SoftWheelsModel" ⟨"SoftWheelsModel", "wayWord", "()I"⟩ ⟨"SoftWheelsModel", "wayWord", "()I"⟩) ∈ lw_all := lw_g (lw_at lw_ms 89 rfl) rfl
theorem qs90 : (Cond.selects "SoftWheelsModel" ⟨"SoftWheelsModel", "order", "(IIII)I"⟩ ⟨"SoftWheelsModel", "order", "(IIII)I"⟩) ∈ lw_all := lw_g (lw_at lw_ms 90 rfl) rfl
theorem qs91 : (Cond.selects "SoftWheelsModel" ⟨"SoftWheelsModel", "lands", "(I)V"⟩ ⟨"SoftWheelsModel", "lands", "(I)V"⟩) ∈ lw_all := lw_g (lw_at lw_ms 91 rfl) rfl
theorem qs92 : (Cond.selects "SoftWheelsModel" ⟨"SoftWheelsModel", "acts", "(IIII)I"⟩ ⟨"SoftWheelsModel", "acts", "(IIII)I"⟩) ∈ lw_all := lw_g (lw_at lw_ms 92 rfl) rfl
theorem qs93 : (Cond.selects "SoftWheelsModel" ⟨"SoftWheelsModel", "digs", "()V"⟩ ⟨"SoftWheelsModel", "digs", "()V"⟩) ∈ lw_all := lw_g (lw_at lw_ms 93 rfl) rfl
theorem qs94 : (Cond.selects "SoftWheelsModel" ⟨"SoftWheelsModel", "behind", "(III)I"⟩ ⟨"SoftWheelsModel", "behind", "(III)I"⟩) ∈ lw_all := lw_g (lw_at lw_ms 94 rfl) rfl
theorem qs95 : (Cond.selects "SoftWheelsModel" ⟨"SoftWheelsModel", "digState", "()I"⟩ ⟨"SoftWheelsModel", "digState", "()I"⟩) ∈ lw_all := lw_g (lw_at lw_ms 95 rfl) rfl
theorem qs96 : (Cond.selects "SoftWheelsModel" ⟨"SoftWheelsModel", "mostDug", "()I"⟩ ⟨"SoftWheelsModel", "mostDug", "()I"⟩) ∈ lw_all := lw_g (lw_at lw_ms 96 rfl) rfl
