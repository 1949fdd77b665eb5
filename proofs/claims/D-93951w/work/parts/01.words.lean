-- ===== PART A: goes FIRST, ahead of the names: the tables' words, and 'selects' of the private methods out of them =====
/-- a private method of a class that the tables say can be made, by its rows of tables_1 -/
def lw_okq (q : MethodName × Nat) : Prop := (q.1.cls ≠ "java/lang/invoke/MethodHandle" ∧ q.1.cls ≠ "java/lang/invoke/VarHandle") ∧ Cond.instantiable q.1.cls q.2 ∈ tables_1 ∧ Cond.privateMethod q.1 ∈ tables_1 ∧ Cond.instanceMethod q.1 ∈ tables_1
set_option maxRecDepth 100000
theorem lw_t1 {w : Cond} (h : w ∈ tables_1_1) : w ∈ tables_1 := List.mem_append_left _ h
theorem lw_t2 {w : Cond} (h : w ∈ tables_1_2) : w ∈ tables_1 := List.mem_append_right _ (List.mem_append_left _ h)
theorem lw_t3 {w : Cond} (h : w ∈ tables_1_3) : w ∈ tables_1 := List.mem_append_right _ (List.mem_append_right _ (List.mem_append_left _ h))
theorem lw_t4 {w : Cond} (h : w ∈ tables_1_4) : w ∈ tables_1 := List.mem_append_right _ (List.mem_append_right _ (List.mem_append_right _ (List.mem_append_left _ h)))
theorem lw_t5 {w : Cond} (h : w ∈ tables_1_5) : w ∈ tables_1 := List.mem_append_right _ (List.mem_append_right _ (List.mem_append_right _ (List.mem_append_right _ (List.mem_append_left _ h))))
theorem lw_t6 {w : Cond} (h : w ∈ tables_1_6) : w ∈ tables_1 := List.mem_append_right _ (List.mem_append_right _ (List.mem_append_right _ (List.mem_append_right _ (List.mem_append_right _ (List.mem_append_left _ h)))))
theorem lw_t7 {w : Cond} (h : w ∈ tables_1_7) : w ∈ tables_1 := List.mem_append_right _ (List.mem_append_right _ (List.mem_append_right _ (List.mem_append_right _ (List.mem_append_right _ (List.mem_append_right _ (List.mem_append_left _ h))))))
theorem lw_t8 {w : Cond} (h : w ∈ tables_1_8) : w ∈ tables_1 := List.mem_append_right _ (List.mem_append_right _ (List.mem_append_right _ (List.mem_append_right _ (List.mem_append_right _ (List.mem_append_right _ (List.mem_append_right _ (List.mem_append_left _ h)))))))
theorem lw_t9 {w : Cond} (h : w ∈ tables_1_9) : w ∈ tables_1 := List.mem_append_right _ (List.mem_append_right _ (List.mem_append_right _ (List.mem_append_right _ (List.mem_append_right _ (List.mem_append_right _ (List.mem_append_right _ (List.mem_append_right _ h)))))))
theorem lw_p0 : lw_okq (⟨"java/lang/NullPointerException", "getExtendedNPEMessage", "()Ljava/lang/String;"⟩, 8) := ⟨⟨by decide +kernel, by decide +kernel⟩, lw_t1 (List.mem_of_getElem? (i := 212) rfl), lw_t1 (List.mem_of_getElem? (i := 210) rfl), lw_t1 (List.mem_of_getElem? (i := 211) rfl)⟩
theorem lw_p1 : lw_okq (⟨"java/lang/Throwable", "fillInStackTrace", "(I)Ljava/lang/Throwable;"⟩, 6) := ⟨⟨by decide +kernel, by decide +kernel⟩, lw_t1 (List.mem_of_getElem? (i := 224) rfl), lw_t1 (List.mem_of_getElem? (i := 222) rfl), lw_t1 (List.mem_of_getElem? (i := 223) rfl)⟩
theorem lw_p2 : lw_okq (⟨"StairOnSticks", "no", "(I)I"⟩, 7) := ⟨⟨by decide +kernel, by decide +kernel⟩, lw_t1 (List.mem_of_getElem? (i := 38) rfl), lw_t2 (List.mem_of_getElem? (i := 34) rfl), lw_t2 (List.mem_of_getElem? (i := 35) rfl)⟩
theorem lw_p3 : lw_okq (⟨"StairOnSticks", "rowIn", "(I)Ljava/lang/Object;"⟩, 7) := ⟨⟨by decide +kernel, by decide +kernel⟩, lw_t1 (List.mem_of_getElem? (i := 38) rfl), lw_t2 (List.mem_of_getElem? (i := 68) rfl), lw_t2 (List.mem_of_getElem? (i := 69) rfl)⟩
theorem lw_p4 : lw_okq (⟨"StairOnSticks", "isWay", "(I)Z"⟩, 7) := ⟨⟨by decide +kernel, by decide +kernel⟩, lw_t1 (List.mem_of_getElem? (i := 38) rfl), lw_t2 (List.mem_of_getElem? (i := 172) rfl), lw_t2 (List.mem_of_getElem? (i := 173) rfl)⟩
theorem lw_p5 : lw_okq (⟨"StairOnSticks", "first", "(LStairOnSticks$Move;I)I"⟩, 7) := ⟨⟨by decide +kernel, by decide +kernel⟩, lw_t1 (List.mem_of_getElem? (i := 38) rfl), lw_t2 (List.mem_of_getElem? (i := 195) rfl), lw_t2 (List.mem_of_getElem? (i := 196) rfl)⟩
theorem lw_p6 : lw_okq (⟨"StairOnSticks", "isStep", "(I)Z"⟩, 7) := ⟨⟨by decide +kernel, by decide +kernel⟩, lw_t1 (List.mem_of_getElem? (i := 38) rfl), lw_t3 (List.mem_of_getElem? (i := 190) rfl), lw_t3 (List.mem_of_getElem? (i := 191) rfl)⟩
theorem lw_p7 : lw_okq (⟨"StairOnSticks$Reader", "next", "()V"⟩, 7) := ⟨⟨by decide +kernel, by decide +kernel⟩, lw_t3 (List.mem_of_getElem? (i := 219) rfl), lw_t4 (List.mem_of_getElem? (i := 25) rfl), lw_t4 (List.mem_of_getElem? (i := 26) rfl)⟩
theorem lw_p8 : lw_okq (⟨"StairOnSticks$Reader", "isIn", "(II)Z"⟩, 7) := ⟨⟨by decide +kernel, by decide +kernel⟩, lw_t3 (List.mem_of_getElem? (i := 219) rfl), lw_t4 (List.mem_of_getElem? (i := 29) rfl), lw_t4 (List.mem_of_getElem? (i := 30) rfl)⟩
theorem lw_p9 : lw_okq (⟨"StairOnSticks$Reader", "item", "()V"⟩, 7) := ⟨⟨by decide +kernel, by decide +kernel⟩, lw_t3 (List.mem_of_getElem? (i := 219) rfl), lw_t4 (List.mem_of_getElem? (i := 220) rfl), lw_t4 (List.mem_of_getElem? (i := 221) rfl)⟩
theorem lw_p10 : lw_okq (⟨"StairOnSticks$Reader", "wrong", "()LStairOnSticks$Fault;"⟩, 7) := ⟨⟨by decide +kernel, by decide +kernel⟩, lw_t3 (List.mem_of_getElem? (i := 219) rfl), lw_t4 (List.mem_of_getElem? (i := 224) rfl), lw_t4 (List.mem_of_getElem? (i := 225) rfl)⟩
theorem lw_p11 : lw_okq (⟨"StairOnSticks$Reader", "room", "(II)V"⟩, 7) := ⟨⟨by decide +kernel, by decide +kernel⟩, lw_t3 (List.mem_of_getElem? (i := 219) rfl), lw_t5 (List.mem_of_getElem? (i := 75) rfl), lw_t5 (List.mem_of_getElem? (i := 76) rfl)⟩
theorem lw_p12 : lw_okq (⟨"StairOnSticks$Reader", "number", "(II)I"⟩, 7) := ⟨⟨by decide +kernel, by decide +kernel⟩, lw_t3 (List.mem_of_getElem? (i := 219) rfl), lw_t5 (List.mem_of_getElem? (i := 79) rfl), lw_t5 (List.mem_of_getElem? (i := 80) rfl)⟩
theorem lw_p13 : lw_okq (⟨"StairOnSticks$Reader", "takes", "(Ljava/lang/String;)Z"⟩, 7) := ⟨⟨by decide +kernel, by decide +kernel⟩, lw_t3 (List.mem_of_getElem? (i := 219) rfl), lw_t5 (List.mem_of_getElem? (i := 84) rfl), lw_t5 (List.mem_of_getElem? (i := 85) rfl)⟩
theorem lw_p14 : lw_okq (⟨"StairOnSticks$Reader", "told", "(III)V"⟩, 7) := ⟨⟨by decide +kernel, by decide +kernel⟩, lw_t3 (List.mem_of_getElem? (i := 219) rfl), lw_t5 (List.mem_of_getElem? (i := 93) rfl), lw_t5 (List.mem_of_getElem? (i := 94) rfl)⟩
theorem lw_p15 : lw_okq (⟨"StairOnSticks", "climb", "(I)[I"⟩, 7) := ⟨⟨by decide +kernel, by decide +kernel⟩, lw_t1 (List.mem_of_getElem? (i := 38) rfl), lw_t5 (List.mem_of_getElem? (i := 217) rfl), lw_t5 (List.mem_of_getElem? (i := 218) rfl)⟩
def lw_privs_1 : List (MethodName × Nat) := [(⟨"java/lang/NullPointerException", "getExtendedNPEMessage", "()Ljava/lang/String;"⟩, 8), (⟨"java/lang/Throwable", "fillInStackTrace", "(I)Ljava/lang/Throwable;"⟩, 6), (⟨"StairOnSticks", "no", "(I)I"⟩, 7), (⟨"StairOnSticks", "rowIn", "(I)Ljava/lang/Object;"⟩, 7), (⟨"StairOnSticks", "isWay", "(I)Z"⟩, 7), (⟨"StairOnSticks", "first", "(LStairOnSticks$Move;I)I"⟩, 7), (⟨"StairOnSticks", "isStep", "(I)Z"⟩, 7), (⟨"StairOnSticks$Reader", "next", "()V"⟩, 7), (⟨"StairOnSticks$Reader", "isIn", "(II)Z"⟩, 7), (⟨"StairOnSticks$Reader", "item", "()V"⟩, 7), (⟨"StairOnSticks$Reader", "wrong", "()LStairOnSticks$Fault;"⟩, 7), (⟨"StairOnSticks$Reader", "room", "(II)V"⟩, 7), (⟨"StairOnSticks$Reader", "number", "(II)I"⟩, 7), (⟨"StairOnSticks$Reader", "takes", "(Ljava/lang/String;)Z"⟩, 7), (⟨"StairOnSticks$Reader", "told", "(III)V"⟩, 7), (⟨"StairOnSticks", "climb", "(I)[I"⟩, 7)]
theorem lw_r1 : ∀ q ∈ lw_privs_1, lw_okq q := List.forall_mem_cons.mpr ⟨lw_p0, List.forall_mem_cons.mpr ⟨lw_p1, List.forall_mem_cons.mpr ⟨lw_p2, List.forall_mem_cons.mpr ⟨lw_p3, List.forall_mem_cons.mpr ⟨lw_p4, List.forall_mem_cons.mpr ⟨lw_p5, List.forall_mem_cons.mpr ⟨lw_p6, List.forall_mem_cons.mpr ⟨lw_p7, List.forall_mem_cons.mpr ⟨lw_p8, List.forall_mem_cons.mpr ⟨lw_p9, List.forall_mem_cons.mpr ⟨lw_p10, List.forall_mem_cons.mpr ⟨lw_p11, List.forall_mem_cons.mpr ⟨lw_p12, List.forall_mem_cons.mpr ⟨lw_p13, List.forall_mem_cons.mpr ⟨lw_p14, List.forall_mem_cons.mpr ⟨lw_p15, fun _ h => absurd h List.not_mem_nil⟩⟩⟩⟩⟩⟩⟩⟩⟩⟩⟩⟩⟩⟩⟩⟩
theorem lw_p16 : lw_okq (⟨"StairOnSticks", "wrongIn", "([I)I"⟩, 7) := ⟨⟨by decide +kernel, by decide +kernel⟩, lw_t1 (List.mem_of_getElem? (i := 38) rfl), lw_t5 (List.mem_of_getElem? (i := 221) rfl), lw_t5 (List.mem_of_getElem? (i := 222) rfl)⟩
theorem lw_p17 : lw_okq (⟨"StairOnSticks", "goodClimb", "(I)[I"⟩, 7) := ⟨⟨by decide +kernel, by decide +kernel⟩, lw_t1 (List.mem_of_getElem? (i := 38) rfl), lw_t6 (List.mem_of_getElem? (i := 3) rfl), lw_t6 (List.mem_of_getElem? (i := 4) rfl)⟩
theorem lw_p18 : lw_okq (⟨"StairOnSticks", "sumOf", "([II)I"⟩, 7) := ⟨⟨by decide +kernel, by decide +kernel⟩, lw_t1 (List.mem_of_getElem? (i := 38) rfl), lw_t6 (List.mem_of_getElem? (i := 7) rfl), lw_t6 (List.mem_of_getElem? (i := 8) rfl)⟩
theorem lw_p19 : lw_okq (⟨"StairOnSticks$Best", "tells", "(II)V"⟩, 6) := ⟨⟨by decide +kernel, by decide +kernel⟩, lw_t1 (List.mem_of_getElem? (i := 116) rfl), lw_t6 (List.mem_of_getElem? (i := 25) rfl), lw_t6 (List.mem_of_getElem? (i := 26) rfl)⟩
theorem lw_p20 : lw_okq (⟨"StairOnSticks$Best", "isLess", "(IIII)Z"⟩, 6) := ⟨⟨by decide +kernel, by decide +kernel⟩, lw_t1 (List.mem_of_getElem? (i := 116) rfl), lw_t6 (List.mem_of_getElem? (i := 37) rfl), lw_t6 (List.mem_of_getElem? (i := 38) rfl)⟩
theorem lw_p21 : lw_okq (⟨"StairOnSticks", "bestOf", "(LStairOnSticks$Best;I)I"⟩, 7) := ⟨⟨by decide +kernel, by decide +kernel⟩, lw_t1 (List.mem_of_getElem? (i := 38) rfl), lw_t6 (List.mem_of_getElem? (i := 44) rfl), lw_t6 (List.mem_of_getElem? (i := 45) rfl)⟩
theorem lw_p22 : lw_okq (⟨"StairOnSticks", "slipsOf", "(LStairOnSticks$Stair;)I"⟩, 7) := ⟨⟨by decide +kernel, by decide +kernel⟩, lw_t1 (List.mem_of_getElem? (i := 38) rfl), lw_t6 (List.mem_of_getElem? (i := 95) rfl), lw_t6 (List.mem_of_getElem? (i := 96) rfl)⟩
theorem lw_p23 : lw_okq (⟨"StairOnSticks", "slipsWith", "(II)I"⟩, 7) := ⟨⟨by decide +kernel, by decide +kernel⟩, lw_t1 (List.mem_of_getElem? (i := 38) rfl), lw_t6 (List.mem_of_getElem? (i := 99) rfl), lw_t6 (List.mem_of_getElem? (i := 100) rfl)⟩
theorem lw_p24 : lw_okq (⟨"StairOnSticks", "whereOf", "(I)I"⟩, 7) := ⟨⟨by decide +kernel, by decide +kernel⟩, lw_t1 (List.mem_of_getElem? (i := 38) rfl), lw_t6 (List.mem_of_getElem? (i := 113) rfl), lw_t6 (List.mem_of_getElem? (i := 114) rfl)⟩
theorem lw_p25 : lw_okq (⟨"StairOnSticks", "wetSteps", "()I"⟩, 7) := ⟨⟨by decide +kernel, by decide +kernel⟩, lw_t1 (List.mem_of_getElem? (i := 38) rfl), lw_t6 (List.mem_of_getElem? (i := 121) rfl), lw_t6 (List.mem_of_getElem? (i := 122) rfl)⟩
theorem lw_p26 : lw_okq (⟨"StairOnSticks", "tries", "(III[I[I[I)V"⟩, 7) := ⟨⟨by decide +kernel, by decide +kernel⟩, lw_t1 (List.mem_of_getElem? (i := 38) rfl), lw_t6 (List.mem_of_getElem? (i := 129) rfl), lw_t6 (List.mem_of_getElem? (i := 130) rfl)⟩
theorem lw_p27 : lw_okq (⟨"StairOnSticks", "does", "(LStairOnSticks$Stair;I[I)V"⟩, 7) := ⟨⟨by decide +kernel, by decide +kernel⟩, lw_t1 (List.mem_of_getElem? (i := 38) rfl), lw_t6 (List.mem_of_getElem? (i := 136) rfl), lw_t6 (List.mem_of_getElem? (i := 137) rfl)⟩
theorem lw_p28 : lw_okq (⟨"StairOnSticks", "told", "(III)[I"⟩, 7) := ⟨⟨by decide +kernel, by decide +kernel⟩, lw_t1 (List.mem_of_getElem? (i := 38) rfl), lw_t6 (List.mem_of_getElem? (i := 153) rfl), lw_t6 (List.mem_of_getElem? (i := 154) rfl)⟩
theorem lw_p29 : lw_okq (⟨"StairOnSticks", "weeksBy", "(I)I"⟩, 7) := ⟨⟨by decide +kernel, by decide +kernel⟩, lw_t1 (List.mem_of_getElem? (i := 38) rfl), lw_t6 (List.mem_of_getElem? (i := 175) rfl), lw_t6 (List.mem_of_getElem? (i := 176) rfl)⟩
theorem lw_p30 : lw_okq (⟨"StairOnSticks", "high", "()I"⟩, 7) := ⟨⟨by decide +kernel, by decide +kernel⟩, lw_t1 (List.mem_of_getElem? (i := 38) rfl), lw_t6 (List.mem_of_getElem? (i := 221) rfl), lw_t6 (List.mem_of_getElem? (i := 222) rfl)⟩
theorem lw_p31 : lw_okq (⟨"StairOnSticks", "held", "()I"⟩, 7) := ⟨⟨by decide +kernel, by decide +kernel⟩, lw_t1 (List.mem_of_getElem? (i := 38) rfl), lw_t6 (List.mem_of_getElem? (i := 225) rfl), lw_t6 (List.mem_of_getElem? (i := 226) rfl)⟩
def lw_privs_2 : List (MethodName × Nat) := [(⟨"StairOnSticks", "wrongIn", "([I)I"⟩, 7), (⟨"StairOnSticks", "goodClimb", "(I)[I"⟩, 7), (⟨"StairOnSticks", "sumOf", "([II)I"⟩, 7), (⟨"StairOnSticks$Best", "tells", "(II)V"⟩, 6), (⟨"StairOnSticks$Best", "isLess", "(IIII)Z"⟩, 6), (⟨"StairOnSticks", "bestOf", "(LStairOnSticks$Best;I)I"⟩, 7), (⟨"StairOnSticks", "slipsOf", "(LStairOnSticks$Stair;)I"⟩, 7), (⟨"StairOnSticks", "slipsWith", "(II)I"⟩, 7), (⟨"StairOnSticks", "whereOf", "(I)I"⟩, 7), (⟨"StairOnSticks", "wetSteps", "()I"⟩, 7), (⟨"StairOnSticks", "tries", "(III[I[I[I)V"⟩, 7), (⟨"StairOnSticks", "does", "(LStairOnSticks$Stair;I[I)V"⟩, 7), (⟨"StairOnSticks", "told", "(III)[I"⟩, 7), (⟨"StairOnSticks", "weeksBy", "(I)I"⟩, 7), (⟨"StairOnSticks", "high", "()I"⟩, 7), (⟨"StairOnSticks", "held", "()I"⟩, 7)]
theorem lw_r2 : ∀ q ∈ lw_privs_2, lw_okq q := List.forall_mem_cons.mpr ⟨lw_p16, List.forall_mem_cons.mpr ⟨lw_p17, List.forall_mem_cons.mpr ⟨lw_p18, List.forall_mem_cons.mpr ⟨lw_p19, List.forall_mem_cons.mpr ⟨lw_p20, List.forall_mem_cons.mpr ⟨lw_p21, List.forall_mem_cons.mpr ⟨lw_p22, List.forall_mem_cons.mpr ⟨lw_p23, List.forall_mem_cons.mpr ⟨lw_p24, List.forall_mem_cons.mpr ⟨lw_p25, List.forall_mem_cons.mpr ⟨lw_p26, List.forall_mem_cons.mpr ⟨lw_p27, List.forall_mem_cons.mpr ⟨lw_p28, List.forall_mem_cons.mpr ⟨lw_p29, List.forall_mem_cons.mpr ⟨lw_p30, List.forall_mem_cons.mpr ⟨lw_p31, fun _ h => absurd h List.not_mem_nil⟩⟩⟩⟩⟩⟩⟩⟩⟩⟩⟩⟩⟩⟩⟩⟩
theorem lw_p32 : lw_okq (⟨"StairOnSticksModel", "refuse", "(I)I"⟩, 36) := ⟨⟨by decide +kernel, by decide +kernel⟩, lw_t6 (List.mem_of_getElem? (i := 229) rfl), lw_t7 (List.mem_of_getElem? (i := 117) rfl), lw_t7 (List.mem_of_getElem? (i := 118) rfl)⟩
theorem lw_p33 : lw_okq (⟨"StairOnSticksModel", "noRow", "(I)I"⟩, 36) := ⟨⟨by decide +kernel, by decide +kernel⟩, lw_t6 (List.mem_of_getElem? (i := 229) rfl), lw_t7 (List.mem_of_getElem? (i := 125) rfl), lw_t7 (List.mem_of_getElem? (i := 126) rfl)⟩
theorem lw_p34 : lw_okq (⟨"StairOnSticksModel", "isWay", "(J)Z"⟩, 36) := ⟨⟨by decide +kernel, by decide +kernel⟩, lw_t6 (List.mem_of_getElem? (i := 229) rfl), lw_t7 (List.mem_of_getElem? (i := 148) rfl), lw_t7 (List.mem_of_getElem? (i := 149) rfl)⟩
theorem lw_p35 : lw_okq (⟨"StairOnSticksModel", "slips", "(II)I"⟩, 36) := ⟨⟨by decide +kernel, by decide +kernel⟩, lw_t6 (List.mem_of_getElem? (i := 229) rfl), lw_t7 (List.mem_of_getElem? (i := 160) rfl), lw_t7 (List.mem_of_getElem? (i := 161) rfl)⟩
theorem lw_p36 : lw_okq (⟨"StairOnSticksModel", "isRailed", "(II)Z"⟩, 36) := ⟨⟨by decide +kernel, by decide +kernel⟩, lw_t6 (List.mem_of_getElem? (i := 229) rfl), lw_t7 (List.mem_of_getElem? (i := 164) rfl), lw_t7 (List.mem_of_getElem? (i := 165) rfl)⟩
theorem lw_p37 : lw_okq (⟨"StairOnSticksModel", "tires", "(II)I"⟩, 36) := ⟨⟨by decide +kernel, by decide +kernel⟩, lw_t6 (List.mem_of_getElem? (i := 229) rfl), lw_t7 (List.mem_of_getElem? (i := 168) rfl), lw_t7 (List.mem_of_getElem? (i := 169) rfl)⟩
theorem lw_p38 : lw_okq (⟨"StairOnSticksModel", "load", "(II)I"⟩, 36) := ⟨⟨by decide +kernel, by decide +kernel⟩, lw_t6 (List.mem_of_getElem? (i := 229) rfl), lw_t7 (List.mem_of_getElem? (i := 172) rfl), lw_t7 (List.mem_of_getElem? (i := 173) rfl)⟩
theorem lw_p39 : lw_okq (⟨"StairOnSticksModel", "leastOf", "(I)I"⟩, 36) := ⟨⟨by decide +kernel, by decide +kernel⟩, lw_t6 (List.mem_of_getElem? (i := 229) rfl), lw_t7 (List.mem_of_getElem? (i := 191) rfl), lw_t7 (List.mem_of_getElem? (i := 192) rfl)⟩
theorem lw_p40 : lw_okq (⟨"StairOnSticksModel", "mostOf", "(I)I"⟩, 36) := ⟨⟨by decide +kernel, by decide +kernel⟩, lw_t6 (List.mem_of_getElem? (i := 229) rfl), lw_t7 (List.mem_of_getElem? (i := 195) rfl), lw_t7 (List.mem_of_getElem? (i := 196) rfl)⟩
theorem lw_p41 : lw_okq (⟨"StairOnSticksModel", "isStep", "(I)Z"⟩, 36) := ⟨⟨by decide +kernel, by decide +kernel⟩, lw_t6 (List.mem_of_getElem? (i := 229) rfl), lw_t7 (List.mem_of_getElem? (i := 203) rfl), lw_t7 (List.mem_of_getElem? (i := 204) rfl)⟩
theorem lw_p42 : lw_okq (⟨"StairOnSticksModel", "fresh", "()LStairOnSticksModel;"⟩, 36) := ⟨⟨by decide +kernel, by decide +kernel⟩, lw_t6 (List.mem_of_getElem? (i := 229) rfl), lw_t7 (List.mem_of_getElem? (i := 225) rfl), lw_t7 (List.mem_of_getElem? (i := 226) rfl)⟩
theorem lw_p43 : lw_okq (⟨"StairOnSticksModel", "takeFrom", "(LStairOnSticksModel;)V"⟩, 36) := ⟨⟨by decide +kernel, by decide +kernel⟩, lw_t6 (List.mem_of_getElem? (i := 229) rfl), lw_t7 (List.mem_of_getElem? (i := 231) rfl), lw_t7 (List.mem_of_getElem? (i := 232) rfl)⟩
theorem lw_p44 : lw_okq (⟨"StairOnSticksModel", "readAll", "()Z"⟩, 36) := ⟨⟨by decide +kernel, by decide +kernel⟩, lw_t6 (List.mem_of_getElem? (i := 229) rfl), lw_t7 (List.mem_of_getElem? (i := 235) rfl), lw_t7 (List.mem_of_getElem? (i := 236) rfl)⟩
theorem lw_p45 : lw_okq (⟨"StairOnSticksModel", "look", "()V"⟩, 36) := ⟨⟨by decide +kernel, by decide +kernel⟩, lw_t6 (List.mem_of_getElem? (i := 229) rfl), lw_t7 (List.mem_of_getElem? (i := 239) rfl), lw_t8 (List.mem_of_getElem? (i := 0) rfl)⟩
theorem lw_p46 : lw_okq (⟨"StairOnSticksModel", "statement", "()Z"⟩, 36) := ⟨⟨by decide +kernel, by decide +kernel⟩, lw_t6 (List.mem_of_getElem? (i := 229) rfl), lw_t8 (List.mem_of_getElem? (i := 10) rfl), lw_t8 (List.mem_of_getElem? (i := 11) rfl)⟩
theorem lw_p47 : lw_okq (⟨"StairOnSticksModel", "isWord", "(Ljava/lang/String;)Z"⟩, 36) := ⟨⟨by decide +kernel, by decide +kernel⟩, lw_t6 (List.mem_of_getElem? (i := 229) rfl), lw_t8 (List.mem_of_getElem? (i := 15) rfl), lw_t8 (List.mem_of_getElem? (i := 16) rfl)⟩
def lw_privs_3 : List (MethodName × Nat) := [(⟨"StairOnSticksModel", "refuse", "(I)I"⟩, 36), (⟨"StairOnSticksModel", "noRow", "(I)I"⟩, 36), (⟨"StairOnSticksModel", "isWay", "(J)Z"⟩, 36), (⟨"StairOnSticksModel", "slips", "(II)I"⟩, 36), (⟨"StairOnSticksModel", "isRailed", "(II)Z"⟩, 36), (⟨"StairOnSticksModel", "tires", "(II)I"⟩, 36), (⟨"StairOnSticksModel", "load", "(II)I"⟩, 36), (⟨"StairOnSticksModel", "leastOf", "(I)I"⟩, 36), (⟨"StairOnSticksModel", "mostOf", "(I)I"⟩, 36), (⟨"StairOnSticksModel", "isStep", "(I)Z"⟩, 36), (⟨"StairOnSticksModel", "fresh", "()LStairOnSticksModel;"⟩, 36), (⟨"StairOnSticksModel", "takeFrom", "(LStairOnSticksModel;)V"⟩, 36), (⟨"StairOnSticksModel", "readAll", "()Z"⟩, 36), (⟨"StairOnSticksModel", "look", "()V"⟩, 36), (⟨"StairOnSticksModel", "statement", "()Z"⟩, 36), (⟨"StairOnSticksModel", "isWord", "(Ljava/lang/String;)Z"⟩, 36)]
theorem lw_r3 : ∀ q ∈ lw_privs_3, lw_okq q := List.forall_mem_cons.mpr ⟨lw_p32, List.forall_mem_cons.mpr ⟨lw_p33, List.forall_mem_cons.mpr ⟨lw_p34, List.forall_mem_cons.mpr ⟨lw_p35, List.forall_mem_cons.mpr ⟨lw_p36, List.forall_mem_cons.mpr ⟨lw_p37, List.forall_mem_cons.mpr ⟨lw_p38, List.forall_mem_cons.mpr ⟨lw_p39, List.forall_mem_cons.mpr ⟨lw_p40, List.forall_mem_cons.mpr ⟨lw_p41, List.forall_mem_cons.mpr ⟨lw_p42, List.forall_mem_cons.mpr ⟨lw_p43, List.forall_mem_cons.mpr ⟨lw_p44, List.forall_mem_cons.mpr ⟨lw_p45, List.forall_mem_cons.mpr ⟨lw_p46, List.forall_mem_cons.mpr ⟨lw_p47, fun _ h => absurd h List.not_mem_nil⟩⟩⟩⟩⟩⟩⟩⟩⟩⟩⟩⟩⟩⟩⟩⟩
theorem lw_p48 : lw_okq (⟨"StairOnSticksModel", "stepTold", "()Z"⟩, 36) := ⟨⟨by decide +kernel, by decide +kernel⟩, lw_t6 (List.mem_of_getElem? (i := 229) rfl), lw_t8 (List.mem_of_getElem? (i := 38) rfl), lw_t8 (List.mem_of_getElem? (i := 39) rfl)⟩
theorem lw_p49 : lw_okq (⟨"StairOnSticksModel", "tells", "(Ljava/lang/String;II)Z"⟩, 36) := ⟨⟨by decide +kernel, by decide +kernel⟩, lw_t6 (List.mem_of_getElem? (i := 229) rfl), lw_t8 (List.mem_of_getElem? (i := 42) rfl), lw_t8 (List.mem_of_getElem? (i := 43) rfl)⟩
theorem lw_p50 : lw_okq (⟨"StairOnSticksModel", "wrong", "()Z"⟩, 36) := ⟨⟨by decide +kernel, by decide +kernel⟩, lw_t6 (List.mem_of_getElem? (i := 229) rfl), lw_t8 (List.mem_of_getElem? (i := 46) rfl), lw_t8 (List.mem_of_getElem? (i := 47) rfl)⟩
theorem lw_p51 : lw_okq (⟨"StairOnSticksModel", "number", "(II)Z"⟩, 36) := ⟨⟨by decide +kernel, by decide +kernel⟩, lw_t6 (List.mem_of_getElem? (i := 229) rfl), lw_t8 (List.mem_of_getElem? (i := 50) rfl), lw_t8 (List.mem_of_getElem? (i := 51) rfl)⟩
theorem lw_p52 : lw_okq (⟨"StairOnSticksModel", "perhaps", "(Ljava/lang/String;)Z"⟩, 36) := ⟨⟨by decide +kernel, by decide +kernel⟩, lw_t6 (List.mem_of_getElem? (i := 229) rfl), lw_t8 (List.mem_of_getElem? (i := 55) rfl), lw_t8 (List.mem_of_getElem? (i := 56) rfl)⟩
theorem lw_p53 : lw_okq (⟨"StairOnSticksModel", "askedTold", "(Ljava/lang/String;I)Z"⟩, 36) := ⟨⟨by decide +kernel, by decide +kernel⟩, lw_t6 (List.mem_of_getElem? (i := 229) rfl), lw_t8 (List.mem_of_getElem? (i := 65) rfl), lw_t8 (List.mem_of_getElem? (i := 66) rfl)⟩
theorem lw_p54 : lw_okq (⟨"StairOnSticksModel", "hands", "(I)I"⟩, 36) := ⟨⟨by decide +kernel, by decide +kernel⟩, lw_t6 (List.mem_of_getElem? (i := 229) rfl), lw_t8 (List.mem_of_getElem? (i := 90) rfl), lw_t8 (List.mem_of_getElem? (i := 91) rfl)⟩
theorem lw_p55 : lw_okq (⟨"StairOnSticksModel", "canBe", "(III)Z"⟩, 36) := ⟨⟨by decide +kernel, by decide +kernel⟩, lw_t6 (List.mem_of_getElem? (i := 229) rfl), lw_t8 (List.mem_of_getElem? (i := 99) rfl), lw_t8 (List.mem_of_getElem? (i := 100) rfl)⟩
theorem lw_p56 : lw_okq (⟨"StairOnSticksModel", "noClimb", "(I)I"⟩, 36) := ⟨⟨by decide +kernel, by decide +kernel⟩, lw_t6 (List.mem_of_getElem? (i := 229) rfl), lw_t8 (List.mem_of_getElem? (i := 115) rfl), lw_t8 (List.mem_of_getElem? (i := 116) rfl)⟩
theorem lw_p57 : lw_okq (⟨"StairOnSticksModel", "goThrough", "(I)I"⟩, 36) := ⟨⟨by decide +kernel, by decide +kernel⟩, lw_t6 (List.mem_of_getElem? (i := 229) rfl), lw_t8 (List.mem_of_getElem? (i := 119) rfl), lw_t8 (List.mem_of_getElem? (i := 120) rfl)⟩
theorem lw_p58 : lw_okq (⟨"StairOnSticksModel", "armsBehind", "(III)I"⟩, 36) := ⟨⟨by decide +kernel, by decide +kernel⟩, lw_t6 (List.mem_of_getElem? (i := 229) rfl), lw_t8 (List.mem_of_getElem? (i := 123) rfl), lw_t8 (List.mem_of_getElem? (i := 124) rfl)⟩
theorem lw_p59 : lw_okq (⟨"StairOnSticksModel", "isTold", "(I)Z"⟩, 36) := ⟨⟨by decide +kernel, by decide +kernel⟩, lw_t6 (List.mem_of_getElem? (i := 229) rfl), lw_t8 (List.mem_of_getElem? (i := 139) rfl), lw_t8 (List.mem_of_getElem? (i := 140) rfl)⟩
theorem lw_p60 : lw_okq (⟨"StairOnSticksModel", "findBest", "(IZ)V"⟩, 36) := ⟨⟨by decide +kernel, by decide +kernel⟩, lw_t6 (List.mem_of_getElem? (i := 229) rfl), lw_t8 (List.mem_of_getElem? (i := 143) rfl), lw_t8 (List.mem_of_getElem? (i := 144) rfl)⟩
theorem lw_p61 : lw_okq (⟨"StairOnSticksModel", "tryWay", "(IIIZ)V"⟩, 36) := ⟨⟨by decide +kernel, by decide +kernel⟩, lw_t6 (List.mem_of_getElem? (i := 229) rfl), lw_t8 (List.mem_of_getElem? (i := 147) rfl), lw_t8 (List.mem_of_getElem? (i := 148) rfl)⟩
theorem lw_p62 : lw_okq (⟨"StairOnSticksModel", "found", "(I)I"⟩, 36) := ⟨⟨by decide +kernel, by decide +kernel⟩, lw_t6 (List.mem_of_getElem? (i := 229) rfl), lw_t8 (List.mem_of_getElem? (i := 154) rfl), lw_t8 (List.mem_of_getElem? (i := 155) rfl)⟩
theorem lw_p63 : lw_okq (⟨"StairOnSticksModel", "isNone", "()Z"⟩, 36) := ⟨⟨by decide +kernel, by decide +kernel⟩, lw_t6 (List.mem_of_getElem? (i := 229) rfl), lw_t8 (List.mem_of_getElem? (i := 158) rfl), lw_t8 (List.mem_of_getElem? (i := 159) rfl)⟩
def lw_privs_4 : List (MethodName × Nat) := [(⟨"StairOnSticksModel", "stepTold", "()Z"⟩, 36), (⟨"StairOnSticksModel", "tells", "(Ljava/lang/String;II)Z"⟩, 36), (⟨"StairOnSticksModel", "wrong", "()Z"⟩, 36), (⟨"StairOnSticksModel", "number", "(II)Z"⟩, 36), (⟨"StairOnSticksModel", "perhaps", "(Ljava/lang/String;)Z"⟩, 36), (⟨"StairOnSticksModel", "askedTold", "(Ljava/lang/String;I)Z"⟩, 36), (⟨"StairOnSticksModel", "hands", "(I)I"⟩, 36), (⟨"StairOnSticksModel", "canBe", "(III)Z"⟩, 36), (⟨"StairOnSticksModel", "noClimb", "(I)I"⟩, 36), (⟨"StairOnSticksModel", "goThrough", "(I)I"⟩, 36), (⟨"StairOnSticksModel", "armsBehind", "(III)I"⟩, 36), (⟨"StairOnSticksModel", "isTold", "(I)Z"⟩, 36), (⟨"StairOnSticksModel", "findBest", "(IZ)V"⟩, 36), (⟨"StairOnSticksModel", "tryWay", "(IIIZ)V"⟩, 36), (⟨"StairOnSticksModel", "found", "(I)I"⟩, 36), (⟨"StairOnSticksModel", "isNone", "()Z"⟩, 36)]
theorem lw_r4 : ∀ q ∈ lw_privs_4, lw_okq q := List.forall_mem_cons.mpr ⟨lw_p48, List.forall_mem_cons.mpr ⟨lw_p49, List.forall_mem_cons.mpr ⟨lw_p50, List.forall_mem_cons.mpr ⟨lw_p51, List.forall_mem_cons.mpr ⟨lw_p52, List.forall_mem_cons.mpr ⟨lw_p53, List.forall_mem_cons.mpr ⟨lw_p54, List.forall_mem_cons.mpr ⟨lw_p55, List.forall_mem_cons.mpr ⟨lw_p56, List.forall_mem_cons.mpr ⟨lw_p57, List.forall_mem_cons.mpr ⟨lw_p58, List.forall_mem_cons.mpr ⟨lw_p59, List.forall_mem_cons.mpr ⟨lw_p60, List.forall_mem_cons.mpr ⟨lw_p61, List.forall_mem_cons.mpr ⟨lw_p62, List.forall_mem_cons.mpr ⟨lw_p63, fun _ h => absurd h List.not_mem_nil⟩⟩⟩⟩⟩⟩⟩⟩⟩⟩⟩⟩⟩⟩⟩⟩
theorem lw_p64 : lw_okq (⟨"StairOnSticksModel", "safestNow", "()I"⟩, 36) := ⟨⟨by decide +kernel, by decide +kernel⟩, lw_t6 (List.mem_of_getElem? (i := 229) rfl), lw_t8 (List.mem_of_getElem? (i := 179) rfl), lw_t8 (List.mem_of_getElem? (i := 180) rfl)⟩
theorem lw_p65 : lw_okq (⟨"StairOnSticksModel", "doesWork", "(II)Z"⟩, 36) := ⟨⟨by decide +kernel, by decide +kernel⟩, lw_t6 (List.mem_of_getElem? (i := 229) rfl), lw_t8 (List.mem_of_getElem? (i := 183) rfl), lw_t8 (List.mem_of_getElem? (i := 184) rfl)⟩
theorem lw_p66 : lw_okq (⟨"StairOnSticksModel", "whereOf", "(I)I"⟩, 36) := ⟨⟨by decide +kernel, by decide +kernel⟩, lw_t6 (List.mem_of_getElem? (i := 229) rfl), lw_t8 (List.mem_of_getElem? (i := 191) rfl), lw_t8 (List.mem_of_getElem? (i := 192) rfl)⟩
theorem lw_p67 : lw_okq (⟨"StairOnSticksModel", "worksOf", "(II)I"⟩, 36) := ⟨⟨by decide +kernel, by decide +kernel⟩, lw_t6 (List.mem_of_getElem? (i := 229) rfl), lw_t8 (List.mem_of_getElem? (i := 200) rfl), lw_t8 (List.mem_of_getElem? (i := 201) rfl)⟩
theorem lw_p68 : lw_okq (⟨"StairOnSticksModel", "healed", "(II)I"⟩, 36) := ⟨⟨by decide +kernel, by decide +kernel⟩, lw_t6 (List.mem_of_getElem? (i := 229) rfl), lw_t8 (List.mem_of_getElem? (i := 218) rfl), lw_t8 (List.mem_of_getElem? (i := 219) rfl)⟩
theorem lw_p69 : lw_okq (⟨"StairOnSticksModel", "weeksBy", "(I)I"⟩, 36) := ⟨⟨by decide +kernel, by decide +kernel⟩, lw_t6 (List.mem_of_getElem? (i := 229) rfl), lw_t8 (List.mem_of_getElem? (i := 226) rfl), lw_t8 (List.mem_of_getElem? (i := 227) rfl)⟩
theorem lw_p70 : lw_okq (⟨"StairOnSticksModel", "goesUp", "(II)Z"⟩, 36) := ⟨⟨by decide +kernel, by decide +kernel⟩, lw_t6 (List.mem_of_getElem? (i := 229) rfl), lw_t9 (List.mem_of_getElem? (i := 2) rfl), lw_t9 (List.mem_of_getElem? (i := 3) rfl)⟩
theorem lw_p71 : lw_okq (⟨"StairOnSticksModel", "draw", "(I)I"⟩, 36) := ⟨⟨by decide +kernel, by decide +kernel⟩, lw_t6 (List.mem_of_getElem? (i := 229) rfl), lw_t9 (List.mem_of_getElem? (i := 6) rfl), lw_t9 (List.mem_of_getElem? (i := 7) rfl)⟩
theorem lw_p72 : lw_okq (⟨"StairOnSticksModel", "ended", "(I)I"⟩, 36) := ⟨⟨by decide +kernel, by decide +kernel⟩, lw_t6 (List.mem_of_getElem? (i := 229) rfl), lw_t9 (List.mem_of_getElem? (i := 11) rfl), lw_t9 (List.mem_of_getElem? (i := 12) rfl)⟩
def lw_privs_5 : List (MethodName × Nat) := [(⟨"StairOnSticksModel", "safestNow", "()I"⟩, 36), (⟨"StairOnSticksModel", "doesWork", "(II)Z"⟩, 36), (⟨"StairOnSticksModel", "whereOf", "(I)I"⟩, 36), (⟨"StairOnSticksModel", "worksOf", "(II)I"⟩, 36), (⟨"StairOnSticksModel", "healed", "(II)I"⟩, 36), (⟨"StairOnSticksModel", "weeksBy", "(I)I"⟩, 36), (⟨"StairOnSticksModel", "goesUp", "(II)Z"⟩, 36), (⟨"StairOnSticksModel", "draw", "(I)I"⟩, 36), (⟨"StairOnSticksModel", "ended", "(I)I"⟩, 36)]
theorem lw_r5 : ∀ q ∈ lw_privs_5, lw_okq q := List.forall_mem_cons.mpr ⟨lw_p64, List.forall_mem_cons.mpr ⟨lw_p65, List.forall_mem_cons.mpr ⟨lw_p66, List.forall_mem_cons.mpr ⟨lw_p67, List.forall_mem_cons.mpr ⟨lw_p68, List.forall_mem_cons.mpr ⟨lw_p69, List.forall_mem_cons.mpr ⟨lw_p70, List.forall_mem_cons.mpr ⟨lw_p71, List.forall_mem_cons.mpr ⟨lw_p72, fun _ h => absurd h List.not_mem_nil⟩⟩⟩⟩⟩⟩⟩⟩⟩
def lw_privs : List (MethodName × Nat) := lw_privs_1 ++ (lw_privs_2 ++ (lw_privs_3 ++ (lw_privs_4 ++ (lw_privs_5))))
def lw_tbl : List Cond := k2_sels lw_privs ++ tables_1
theorem lw_privs_ok : ∀ q ∈ lw_privs, lw_okq q := by
  show ∀ q ∈ lw_privs_1 ++ (lw_privs_2 ++ (lw_privs_3 ++ (lw_privs_4 ++ (lw_privs_5)))), lw_okq q
  exact List.forall_mem_append.mpr ⟨lw_r1, List.forall_mem_append.mpr ⟨lw_r2, List.forall_mem_append.mpr ⟨lw_r3, List.forall_mem_append.mpr ⟨lw_r4, lw_r5⟩⟩⟩⟩
-- ===== ONE list of words for every method: the tables' words that hold all through a run =====
def lw_all : List Cond := lw_tbl.filter goodWord
/-- a word of the tables by its place: claim/WORDS.tsv -/
theorem lw_w {w : Cond} (i : Nat) (h : lw_tbl[i]? = some w) (g : goodWord w = true) : w ∈ lw_all := List.mem_filter.mpr ⟨List.mem_of_getElem? h, g⟩
theorem lw_all_tbl {w : Cond} (h : w ∈ lw_all) : w ∈ lw_tbl := (List.mem_filter.mp h).1
theorem lw_self : GoodIn lw_all lw_all := fun w h => ⟨h, good_of_word (List.mem_filter.mp h).2⟩
/-- a class's field words, by their places -/
theorem lw_in (ws : List Cond) (ps : List Nat) (hp : ws = ps.filterMap (fun i => lw_tbl[i]?)) (hg : ws.all goodWord = true) : ∀ w ∈ ws, w ∈ lw_all := by
  intro w h
  have h1 := List.all_eq_true.mp hg w h
  rw [hp] at h
  obtain ⟨i, -, hi⟩ := List.mem_filterMap.mp h
  exact lw_w i hi h1
/-- the words of a contract for the method y with code b, L locals, answer r -/
abbrev ws_ (y : MethodName) (b : ByteArray) (L : Nat) (r : Option FieldType) : List Cond := Cond.code y b L r :: lw_all
theorem lw_meth {y : MethodName} {b : ByteArray} {L : Nat} {r : Option FieldType} (h : Cond.code y b L r ∈ lw_all) : GoodIn lw_all (ws_ y b L r) := by
  intro w hw
  rcases List.mem_cons.mp hw with e | e
  · rw [e]
    exact lw_self _ h
  · exact lw_self _ e
theorem lw_app {a c : List Cond} (ha : ∀ w ∈ a, w ∈ lw_all) (hc : GoodIn lw_all c) : GoodIn lw_all (a ++ c) := by
  intro w hw
  rcases List.mem_append.mp hw with e | e
  · exact lw_self w (ha w e)
  · exact hc w e
/-- what a call through an object asks: cwV n hts (lw_V ..) -/
theorem lw_V {own : String} {idx : Nat} {C : String} {y : MethodName} {b : ByteArray} {L : Nat} {r : Option FieldType} (h1 : Cond.methodLink own idx y ∈ lw_all) (h2 : Cond.instanceMethod y ∈ lw_all) (h3 : Cond.selects C y y ∈ lw_all) (h4 : Cond.initialized C ∈ lw_all) (h5 : Cond.code y b L r ∈ lw_all) : GoodIn lw_all (wsV own idx C y (ws_ y b L r)) := by
  refine lw_app ?_ (lw_meth h5)
  intro w hw
  simp only [List.mem_cons, List.not_mem_nil, or_false] at hw
  rcases hw with e | e | e | e
  · rw [e]; exact h1
  · rw [e]; exact h2
  · rw [e]; exact h3
  · rw [e]; exact h4
/-- what a static call asks: va_cwS n hts (lw_S ..) -/
theorem lw_S {own : String} {idx : Nat} {y : MethodName} {b : ByteArray} {L : Nat} {r : Option FieldType} (h1 : Cond.methodLink own idx y ∈ lw_all) (h2 : Cond.static y ∈ lw_all) (h3 : Cond.initialized y.cls ∈ lw_all) (h4 : Cond.code y b L r ∈ lw_all) : GoodIn lw_all (va_wsS own idx y (ws_ y b L r)) := by
  refine lw_app ?_ (lw_meth h4)
  intro w hw
  simp only [List.mem_cons, List.not_mem_nil, or_false] at hw
  rcases hw with e | e | e
  · rw [e]; exact h1
  · rw [e]; exact h2
  · rw [e]; exact h3
/-- the words of a contract for a method WITH HANDLERS (hh: its table) -/
abbrev wsW_ (y : MethodName) (b : ByteArray) (L : Nat) (r : Option FieldType) (hh : List (Nat × Nat × Nat × Nat)) : List Cond := Cond.codeWith y b L r hh :: lw_all
theorem lw_methW {y : MethodName} {b : ByteArray} {L : Nat} {r : Option FieldType} {hh : List (Nat × Nat × Nat × Nat)} (h : Cond.codeWith y b L r hh ∈ lw_all) : GoodIn lw_all (wsW_ y b L r hh) := by
  intro w hw
  rcases List.mem_cons.mp hw with e | e
  · rw [e]
    exact lw_self _ h
  · exact lw_self _ e
/-- any list of words by their places (lw_in), good -/
theorem lw_good {ws : List Cond} (h : ∀ w ∈ ws, w ∈ lw_all) : GoodIn lw_all ws := fun w hw => lw_self w (h w hw)
/-- what a call of a method with handlers asks: vx_cwVW n hts (lw_VW ..), vx_cwSW n hts (lw_SW ..) -/
theorem lw_VW {own : String} {idx : Nat} {C : String} {y : MethodName} {b : ByteArray} {L : Nat} {r : Option FieldType} {hh : List (Nat × Nat × Nat × Nat)} (h1 : Cond.methodLink own idx y ∈ lw_all) (h2 : Cond.instanceMethod y ∈ lw_all) (h3 : Cond.selects C y y ∈ lw_all) (h4 : Cond.initialized C ∈ lw_all) (h5 : Cond.codeWith y b L r hh ∈ lw_all) : GoodIn lw_all (wsV own idx C y (wsW_ y b L r hh)) := by
  refine lw_app ?_ (lw_methW h5)
  intro w hw
  simp only [List.mem_cons, List.not_mem_nil, or_false] at hw
  rcases hw with e | e | e | e
  · rw [e]; exact h1
  · rw [e]; exact h2
  · rw [e]; exact h3
  · rw [e]; exact h4
theorem lw_SW {own : String} {idx : Nat} {y : MethodName} {b : ByteArray} {L : Nat} {r : Option FieldType} {hh : List (Nat × Nat × Nat × Nat)} (h1 : Cond.methodLink own idx y ∈ lw_all) (h2 : Cond.static y ∈ lw_all) (h3 : Cond.initialized y.cls ∈ lw_all) (h4 : Cond.codeWith y b L r hh ∈ lw_all) : GoodIn lw_all (va_wsS own idx y (wsW_ y b L r hh)) := by
  refine lw_app ?_ (lw_methW h4)
  intro w hw
  simp only [List.mem_cons, List.not_mem_nil, or_false] at hw
  rcases hw with e | e | e
  · rw [e]; exact h1
  · rw [e]; exact h2
  · rw [e]; exact h3
/-- a word by its place in its run of the tables -/
theorem lw_at {r : List Cond} (hr : ∀ w ∈ r, w ∈ lw_tbl) {w : Cond} (i : Nat) (h : r[i]? = some w) : w ∈ lw_tbl := hr w (List.mem_of_getElem? h)
theorem lw_g {w : Cond} (h : w ∈ lw_tbl) (g : goodWord w = true) : w ∈ lw_all := List.mem_filter.mpr ⟨h, g⟩
theorem lw_ms : ∀ w ∈ k2_sels lw_privs, w ∈ lw_tbl := fun w h => show w ∈ k2_sels lw_privs ++ tables_1 from List.mem_append_left _ h
theorem lw_m1 : ∀ w ∈ tables_1_1, w ∈ lw_tbl := fun w h => show w ∈ k2_sels lw_privs ++ tables_1 from List.mem_append_right (k2_sels lw_privs) (show w ∈ tables_1 from List.mem_append_left _ h)
theorem lw_m2 : ∀ w ∈ tables_1_2, w ∈ lw_tbl := fun w h => show w ∈ k2_sels lw_privs ++ tables_1 from List.mem_append_right (k2_sels lw_privs) (show w ∈ tables_1 from List.mem_append_right _ (List.mem_append_left _ h))
theorem lw_m3 : ∀ w ∈ tables_1_3, w ∈ lw_tbl := fun w h => show w ∈ k2_sels lw_privs ++ tables_1 from List.mem_append_right (k2_sels lw_privs) (show w ∈ tables_1 from List.mem_append_right _ (List.mem_append_right _ (List.mem_append_left _ h)))
theorem lw_m4 : ∀ w ∈ tables_1_4, w ∈ lw_tbl := fun w h => show w ∈ k2_sels lw_privs ++ tables_1 from List.mem_append_right (k2_sels lw_privs) (show w ∈ tables_1 from List.mem_append_right _ (List.mem_append_right _ (List.mem_append_right _ (List.mem_append_left _ h))))
theorem lw_m5 : ∀ w ∈ tables_1_5, w ∈ lw_tbl := fun w h => show w ∈ k2_sels lw_privs ++ tables_1 from List.mem_append_right (k2_sels lw_privs) (show w ∈ tables_1 from List.mem_append_right _ (List.mem_append_right _ (List.mem_append_right _ (List.mem_append_right _ (List.mem_append_left _ h)))))
theorem lw_m6 : ∀ w ∈ tables_1_6, w ∈ lw_tbl := fun w h => show w ∈ k2_sels lw_privs ++ tables_1 from List.mem_append_right (k2_sels lw_privs) (show w ∈ tables_1 from List.mem_append_right _ (List.mem_append_right _ (List.mem_append_right _ (List.mem_append_right _ (List.mem_append_right _ (List.mem_append_left _ h))))))
theorem lw_m7 : ∀ w ∈ tables_1_7, w ∈ lw_tbl := fun w h => show w ∈ k2_sels lw_privs ++ tables_1 from List.mem_append_right (k2_sels lw_privs) (show w ∈ tables_1 from List.mem_append_right _ (List.mem_append_right _ (List.mem_append_right _ (List.mem_append_right _ (List.mem_append_right _ (List.mem_append_right _ (List.mem_append_left _ h)))))))
theorem lw_m8 : ∀ w ∈ tables_1_8, w ∈ lw_tbl := fun w h => show w ∈ k2_sels lw_privs ++ tables_1 from List.mem_append_right (k2_sels lw_privs) (show w ∈ tables_1 from List.mem_append_right _ (List.mem_append_right _ (List.mem_append_right _ (List.mem_append_right _ (List.mem_append_right _ (List.mem_append_right _ (List.mem_append_right _ (List.mem_append_left _ h))))))))
theorem lw_m9 : ∀ w ∈ tables_1_9, w ∈ lw_tbl := fun w h => show w ∈ k2_sels lw_privs ++ tables_1 from List.mem_append_right (k2_sels lw_privs) (show w ∈ tables_1 from List.mem_append_right _ (List.mem_append_right _ (List.mem_append_right _ (List.mem_append_right _ (List.mem_append_right _ (List.mem_append_right _ (List.mem_append_right _ (List.mem_append_right _ h))))))))
theorem qs0 : (Cond.selects "java/lang/NullPointerException" ⟨"java/lang/NullPointerException", "getExtendedNPEMessage", "()Ljava/lang/String;"⟩ ⟨"java/lang/NullPointerException", "getExtendedNPEMessage", "()Ljava/lang/String;"⟩) ∈ lw_all := lw_g (lw_at lw_ms 0 rfl) rfl
theorem qs1 : (Cond.selects "java/lang/Throwable" ⟨"java/lang/Throwable", "fillInStackTrace", "(I)Ljava/lang/Throwable;"⟩ ⟨"java/lang/Throwable", "fillInStackTrace", "(I)Ljava/lang/Throwable;"⟩) ∈ lw_all := lw_g (lw_at lw_ms 1 rfl) rfl
theorem qs2 : (Cond.selects "StairOnSticks" ⟨"StairOnSticks", "no", "(I)I"⟩ ⟨"StairOnSticks", "no", "(I)I"⟩) ∈ lw_all := lw_g (lw_at lw_ms 2 rfl) rfl
theorem qs3 : (Cond.selects "StairOnSticks" ⟨"StairOnSticks", "rowIn", "(I)Ljava/lang/Object;"⟩ ⟨"StairOnSticks", "rowIn", "(I)Ljava/lang/Object;"⟩) ∈ lw_all := lw_g (lw_at lw_ms 3 rfl) rfl
theorem qs4 : (Cond.selects "StairOnSticks" ⟨"StairOnSticks", "isWay", "(I)Z"⟩ ⟨"StairOnSticks", "isWay", "(I)Z"⟩) ∈ lw_all := lw_g (lw_at lw_ms 4 rfl) rfl
theorem qs5 : (Cond.selects "StairOnSticks" ⟨"StairOnSticks", "first", "(LStairOnSticks$Move;I)I"⟩ ⟨"StairOnSticks", "first", "(LStairOnSticks$Move;I)I"⟩) ∈ lw_all := lw_g (lw_at lw_ms 5 rfl) rfl
theorem qs6 : (Cond.selects "StairOnSticks" ⟨"StairOnSticks", "isStep", "(I)Z"⟩ ⟨"StairOnSticks", "isStep", "(I)Z"⟩) ∈ lw_all := lw_g (lw_at lw_ms 6 rfl) rfl
theorem qs7 : (Cond.selects "StairOnSticks$Reader" ⟨"StairOnSticks$Reader", "next", "()V"⟩ ⟨"StairOnSticks$Reader", "next", "()V"⟩) ∈ lw_all := lw_g (lw_at lw_ms 7 rfl) rfl
theorem qs8 : (Cond.selects "StairOnSticks$Reader" ⟨"StairOnSticks$Reader", "isIn", "(II)Z"⟩ ⟨"StairOnSticks$Reader", "isIn", "(II)Z"⟩) ∈ lw_all := lw_g (lw_at lw_ms 8 rfl) rfl
theorem qs9 : (Cond.selects "StairOnSticks$Reader" ⟨"StairOnSticks$Reader", "item", "()V"⟩ ⟨"StairOnSticks$Reader", "item", "()V"⟩) ∈ lw_all := lw_g (lw_at lw_ms 9 rfl) rfl
theorem qs10 : (Cond.selects "StairOnSticks$Reader" ⟨"StairOnSticks$Reader", "wrong", "()LStairOnSticks$Fault;"⟩ ⟨"StairOnSticks$Reader", "wrong", "()LStairOnSticks$Fault;"⟩) ∈ lw_all := lw_g (lw_at lw_ms 10 rfl) rfl
theorem qs11 : (Cond.selects "StairOnSticks$Reader" ⟨"StairOnSticks$Reader", "room", "(II)V"⟩ ⟨"StairOnSticks$Reader", "room", "(II)V"⟩) ∈ lw_all := lw_g (lw_at lw_ms 11 rfl) rfl
theorem qs12 : (Cond.selects "StairOnSticks$Reader" ⟨"StairOnSticks$Reader", "number", "(II)I"⟩ ⟨"StairOnSticks$Reader", "number", "(II)I"⟩) ∈ lw_all := lw_g (lw_at lw_ms 12 rfl) rfl
theorem qs13 : (Cond.selects "StairOnSticks$Reader" ⟨"StairOnSticks$Reader", "takes", "(Ljava/lang/String;)Z"⟩ ⟨"StairOnSticks$Reader", "takes", "(Ljava/lang/String;)Z"⟩) ∈ lw_all := lw_g (lw_at lw_ms 13 rfl) rfl
theorem qs14 : (Cond.selects "StairOnSticks$Reader" ⟨"StairOnSticks$Reader", "told", "(III)V"⟩ ⟨"StairOnSticks$Reader", "told", "(III)V"⟩) ∈ lw_all := lw_g (lw_at lw_ms 14 rfl) rfl
theorem qs15 : (Cond.selects "StairOnSticks" ⟨"StairOnSticks", "climb", "(I)[I"⟩ ⟨"StairOnSticks", "climb", "(I)[I"⟩) ∈ lw_all := lw_g (lw_at lw_ms 15 rfl) rfl
theorem qs16 : (Cond.selects "StairOnSticks" ⟨"StairOnSticks", "wrongIn", "([I)I"⟩ ⟨"StairOnSticks", "wrongIn", "([I)I"⟩) ∈ lw_all := lw_g (lw_at lw_ms 16 rfl) rfl
theorem qs17 : (Cond.selects "StairOnSticks" ⟨"StairOnSticks", "goodClimb", "(I)[I"⟩ ⟨"StairOnSticks", "goodClimb", "(I)[I"⟩) ∈ lw_all := lw_g (lw_at lw_ms 17 rfl) rfl
theorem qs18 : (Cond.selects "StairOnSticks" ⟨"StairOnSticks", "sumOf", "([II)I"⟩ ⟨"StairOnSticks", "sumOf", "([II)I"⟩) ∈ lw_all := lw_g (lw_at lw_ms 18 rfl) rfl
theorem qs19 : (Cond.selects "StairOnSticks$Best" ⟨"StairOnSticks$Best", "tells", "(II)V"⟩ ⟨"StairOnSticks$Best", "tells", "(II)V"⟩) ∈ lw_all := lw_g (lw_at lw_ms 19 rfl) rfl
theorem qs20 : (Cond.selects "StairOnSticks$Best" ⟨"StairOnSticks$Best", "isLess", "(IIII)Z"⟩ ⟨"StairOnSticks$Best", "isLess", "(IIII)Z"⟩) ∈ lw_all := lw_g (lw_at lw_ms 20 rfl) rfl
theorem qs21 : (Cond.selects "StairOnSticks" ⟨"StairOnSticks", "bestOf", "(LStairOnSticks$Best;I)I"⟩ ⟨"StairOnSticks", "bestOf", "(LStairOnSticks$Best;I)I"⟩) ∈ lw_all := lw_g (lw_at lw_ms 21 rfl) rfl
theorem qs22 : (Cond.selects "StairOnSticks" ⟨"StairOnSticks", "slipsOf", "(LStairOnSticks$Stair;)I"⟩ ⟨"StairOnSticks", "slipsOf", "(LStairOnSticks$Stair;)I"⟩) ∈ lw_all := lw_g (lw_at lw_ms 22 rfl) rfl
theorem qs23 : (Cond.selects "StairOnSticks" ⟨"StairOnSticks", "slipsWith", "(II)I"⟩ ⟨"StairOnSticks", "slipsWith", "(II)I"⟩) ∈ lw_all := lw_g (lw_at lw_ms 23 rfl) rfl
theorem qs24 : (Cond.selects "StairOnSticks" ⟨"StairOnSticks", "whereOf", "(I)I"⟩ ⟨"StairOnSticks", "whereOf", "(I)I"⟩) ∈ lw_all := lw_g (lw_at lw_ms 24 rfl) rfl
theorem qs25 : (Cond.selects "StairOnSticks" ⟨"StairOnSticks", "wetSteps", "()I"⟩ ⟨"StairOnSticks", "wetSteps", "()I"⟩) ∈ lw_all := lw_g (lw_at lw_ms 25 rfl) rfl
theorem qs26 : (Cond.selects "StairOnSticks" ⟨"StairOnSticks", "tries", "(III[I[I[I)V"⟩ ⟨"StairOnSticks", "tries", "(III[I[I[I)V"⟩) ∈ lw_all := lw_g (lw_at lw_ms 26 rfl) rfl
theorem qs27 : (Cond.selects "StairOnSticks" ⟨"StairOnSticks", "does", "(LStairOnSticks$Stair;I[I)V"⟩ ⟨"StairOnSticks", "does", "(LStairOnSticks$Stair;I[I)V"⟩) ∈ lw_all := lw_g (lw_at lw_ms 27 rfl) rfl
theorem qs28 : (Cond.selects "StairOnSticks" ⟨"StairOnSticks", "told", "(III)[I"⟩ ⟨"StairOnSticks", "told", "(III)[I"⟩) ∈ lw_all := lw_g (lw_at lw_ms 28 rfl) rfl
theorem qs29 : (Cond.selects "StairOnSticks" ⟨"StairOnSticks", "weeksBy", "(I)I"⟩ ⟨"StairOnSticks", "weeksBy", "(I)I"⟩) ∈ lw_all := lw_g (lw_at lw_ms 29 rfl) rfl
theorem qs30 : (Cond.selects "StairOnSticks" ⟨"StairOnSticks", "high", "()I"⟩ ⟨"StairOnSticks", "high", "()I"⟩) ∈ lw_all := lw_g (lw_at lw_ms 30 rfl) rfl
theorem qs31 : (Cond.selects "StairOnSticks" ⟨"StairOnSticks", "held", "()I"⟩ ⟨"StairOnSticks", "held", "()I"⟩) ∈ lw_all := lw_g (lw_at lw_ms 31 rfl) rfl
theorem qs32 : (Cond.selects "StairOnSticksModel" ⟨"StairOnSticksModel", "refuse", "(I)I"⟩ ⟨"StairOnSticksModel", "refuse", "(I)I"⟩) ∈ lw_all := lw_g (lw_at lw_ms 32 rfl) rfl
theorem qs33 : (Cond.selects "StairOnSticksModel" ⟨"StairOnSticksModel", "noRow", "(I)I"⟩ ⟨"StairOnSticksModel", "noRow", "(I)I"⟩) ∈ lw_all := lw_g (lw_at lw_ms 33 rfl) rfl
theorem qs34 : (Cond.selects "StairOnSticksModel" ⟨"StairOnSticksModel", "isWay", "(J)Z"⟩ ⟨"StairOnSticksModel", "isWay", "(J)Z"⟩) ∈ lw_all := lw_g (lw_at lw_ms 34 rfl) rfl
theorem qs35 : (Cond.selects "StairOnSticksModel" ⟨"StairOnSticksModel", "slips", "(II)I"⟩ ⟨"StairOnSticksModel", "slips", "(II)I"⟩) ∈ lw_all := lw_g (lw_at lw_ms 35 rfl) rfl
theorem qs36 : (Cond.selects "StairOnSticksModel" ⟨"StairOnSticksModel", "isRailed", "(II)Z"⟩ ⟨"StairOnSticksModel", "isRailed", "(II)Z"⟩) ∈ lw_all := lw_g (lw_at lw_ms 36 rfl) rfl
theorem qs37 : (Cond.selects "StairOnSticksModel" ⟨"StairOnSticksModel", "tires", "(II)I"⟩ ⟨"StairOnSticksModel", "tires", "(II)I"⟩) ∈ lw_all := lw_g (lw_at lw_ms 37 rfl) rfl
theorem qs38 : (Cond.selects "StairOnSticksModel" ⟨"StairOnSticksModel", "load", "(II)I"⟩ ⟨"StairOnSticksModel", "load", "(II)I"⟩) ∈ lw_all := lw_g (lw_at lw_ms 38 rfl) rfl
theorem qs39 : (Cond.selects "StairOnSticksModel" ⟨"StairOnSticksModel", "leastOf", "(I)I"⟩ ⟨"StairOnSticksModel", "leastOf", "(I)I"⟩) ∈ lw_all := lw_g (lw_at lw_ms 39 rfl) rfl
theorem qs40 : (Cond.selects "StairOnSticksModel" ⟨"StairOnSticksModel", "mostOf", "(I)I"⟩ ⟨"StairOnSticksModel", "mostOf", "(I)I"⟩) ∈ lw_all := lw_g (lw_at lw_ms 40 rfl) rfl
theorem qs41 : (Cond.selects "StairOnSticksModel" ⟨"StairOnSticksModel", "isStep", "(I)Z"⟩ ⟨"StairOnSticksModel", "isStep", "(I)Z"⟩) ∈ lw_all := lw_g (lw_at lw_ms 41 rfl) rfl
theorem qs42 : (Cond.selects "StairOnSticksModel" ⟨"StairOnSticksModel", "fresh", "()LStairOnSticksModel;"⟩ ⟨"StairOnSticksModel", "fresh", "()LStairOnSticksModel;"⟩) ∈ lw_all := lw_g (lw_at lw_ms 42 rfl) rfl
theorem qs43 : (Cond.selects "StairOnSticksModel" ⟨"StairOnSticksModel", "takeFrom", "(LStairOnSticksModel;)V"⟩ ⟨"StairOnSticksModel", "takeFrom", "(LStairOnSticksModel;)V"⟩) ∈ lw_all := lw_g (lw_at lw_ms 43 rfl) rfl
theorem qs44 : (Cond.selects "StairOnSticksModel" ⟨"StairOnSticksModel", "readAll", "()Z"⟩ ⟨"StairOnSticksModel", "readAll", "()Z"⟩) ∈ lw_all := lw_g (lw_at lw_ms 44 rfl) rfl
theorem qs45 : (Cond.selects "StairOnSticksModel" ⟨"StairOnSticksModel", "look", "()V"⟩ ⟨"StairOnSticksModel", "look", "()V"⟩) ∈ lw_all := lw_g (lw_at lw_ms 45 rfl) rfl
theorem qs46 : (Cond.selects "StairOnSticksModel" ⟨"StairOnSticksModel", "statement", "()Z"⟩ ⟨"StairOnSticksModel", "statement", "()Z"⟩) ∈ lw_all := lw_g (lw_at lw_ms 46 rfl) rfl
theorem qs47 : (Cond.selects "StairOnSticksModel" ⟨"StairOnSticksModel", "isWord", "(Ljava/lang/String;)Z"⟩ ⟨"StairOnSticksModel", "isWord", "(Ljava/lang/String;)Z"⟩) ∈ lw_all := lw_g (lw_at lw_ms 47 rfl) rfl
theorem qs48 : (Cond.selects "StairOnSticksModel" ⟨"StairOnSticksModel", "stepTold", "()Z"⟩ ⟨"StairOnSticksModel", "stepTold", "()Z"⟩) ∈ lw_all := lw_g (lw_at lw_ms 48 rfl) rfl
theorem qs49 : (Cond.selects "StairOnSticksModel" ⟨"StairOnSticksModel", "tells", "(Ljava/lang/String;II)Z"⟩ ⟨"StairOnSticksModel", "tells", "(Ljava/lang/String;II)Z"⟩) ∈ lw_all := lw_g (lw_at lw_ms 49 rfl) rfl
theorem qs50 : (Cond.selects "StairOnSticksModel" ⟨"StairOnSticksModel", "wrong", "()Z"⟩ ⟨"StairOnSticksModel", "wrong", "()Z"⟩) ∈ lw_all := lw_g (lw_at lw_ms 50 rfl) rfl
theorem qs51 : (Cond.selects "StairOnSticksModel" ⟨"StairOnSticksModel", "number", "(II)Z"⟩ ⟨"StairOnSticksModel", "number", "(II)Z"⟩) ∈ lw_all := lw_g (lw_at lw_ms 51 rfl) rfl
theorem qs52 : (Cond.selects "StairOnSticksModel" ⟨"StairOnSticksModel", "perhaps", "(Ljava/lang/String;)Z"⟩ ⟨"StairOnSticksModel", "perhaps", "(Ljava/lang/String;)Z"⟩) ∈ lw_all := lw_g (lw_at lw_ms 52 rfl) rfl
theorem qs53 : (Cond.selects "StairOnSticksModel" ⟨"StairOnSticksModel", "askedTold", "(Ljava/lang/String;I)Z"⟩ ⟨"StairOnSticksModel", "askedTold", "(Ljava/lang/String;I)Z"⟩) ∈ lw_all := lw_g (lw_at lw_ms 53 rfl) rfl
theorem qs54 : (Cond.selects "StairOnSticksModel" ⟨"StairOnSticksModel", "hands", "(I)I"⟩ ⟨"StairOnSticksModel", "hands", "(I)I"⟩) ∈ lw_all := lw_g (lw_at lw_ms 54 rfl) rfl
theorem qs55 : (Cond.selects "StairOnSticksModel" ⟨"StairOnSticksModel", "canBe", "(III)Z"⟩ ⟨"StairOnSticksModel", "canBe", "(III)Z"⟩) ∈ lw_all := lw_g (lw_at lw_ms 55 rfl) rfl
theorem qs56 : (Cond.selects "StairOnSticksModel" ⟨"StairOnSticksModel", "noClimb", "(I)I"⟩ ⟨"StairOnSticksModel", "noClimb", "(I)I"⟩) ∈ lw_all := lw_g (lw_at lw_ms 56 rfl) rfl
theorem qs57 : (Cond.selects "StairOnSticksModel" ⟨"StairOnSticksModel", "goThrough", "(I)I"⟩ ⟨"StairOnSticksModel", "goThrough", "(I)I"⟩) ∈ lw_all := lw_g (lw_at lw_ms 57 rfl) rfl
theorem qs58 : (Cond.selects "StairOnSticksModel" ⟨"StairOnSticksModel", "armsBehind", "(III)I"⟩ ⟨"StairOnSticksModel", "armsBehind", "(III)I"⟩) ∈ lw_all := lw_g (lw_at lw_ms 58 rfl) rfl
theorem qs59 : (Cond.selects "StairOnSticksModel" ⟨"StairOnSticksModel", "isTold", "(I)Z"⟩ ⟨"StairOnSticksModel", "isTold", "(I)Z"⟩) ∈ lw_all := lw_g (lw_at lw_ms 59 rfl) rfl
theorem qs60 : (Cond.selects "StairOnSticksModel" ⟨"StairOnSticksModel", "findBest", "(IZ)V"⟩ ⟨"StairOnSticksModel", "findBest", "(IZ)V"⟩) ∈ lw_all := lw_g (lw_at lw_ms 60 rfl) rfl
theorem qs61 : (Cond.selects "StairOnSticksModel" ⟨"StairOnSticksModel", "tryWay", "(IIIZ)V"⟩ ⟨"StairOnSticksModel", "tryWay", "(IIIZ)V"⟩) ∈ lw_all := lw_g (lw_at lw_ms 61 rfl) rfl
theorem qs62 : (Cond.selects "StairOnSticksModel" ⟨"StairOnSticksModel", "found", "(I)I"⟩ ⟨"StairOnSticksModel", "found", "(I)I"⟩) ∈ lw_all := lw_g (lw_at lw_ms 62 rfl) rfl
theorem qs63 : (Cond.selects "StairOnSticksModel" ⟨"StairOnSticksModel", "isNone", "()Z"⟩ ⟨"StairOnSticksModel", "isNone", "()Z"⟩) ∈ lw_all := lw_g (lw_at lw_ms 63 rfl) rfl
theorem qs64 : (Cond.selects "StairOnSticksModel" ⟨"StairOnSticksModel", "safestNow", "()I"⟩ ⟨"StairOnSticksModel", "safestNow", "()I"⟩) ∈ lw_all := lw_g (lw_at lw_ms 64 rfl) rfl
theorem qs65 : (Cond.selects "StairOnSticksModel" ⟨"StairOnSticksModel", "doesWork", "(II)Z"⟩ ⟨"StairOnSticksModel", "doesWork", "(II)Z"⟩) ∈ lw_all := lw_g (lw_at lw_ms 65 rfl) rfl
theorem qs66 : (Cond.selects "StairOnSticksModel" ⟨"StairOnSticksModel", "whereOf", "(I)I"⟩ ⟨"StairOnSticksModel", "whereOf", "(I)I"⟩) ∈ lw_all := lw_g (lw_at lw_ms 66 rfl) rfl
theorem qs67 : (Cond.selects "StairOnSticksModel" ⟨"StairOnSticksModel", "worksOf", "(II)I"⟩ ⟨"StairOnSticksModel", "worksOf", "(II)I"⟩) ∈ lw_all := lw_g (lw_at lw_ms 67 rfl) rfl
theorem qs68 : (Cond.selects "StairOnSticksModel" ⟨"StairOnSticksModel", "healed", "(II)I"⟩ ⟨"StairOnSticksModel", "healed", "(II)I"⟩) ∈ lw_all := lw_g (lw_at lw_ms 68 rfl) rfl
theorem qs69 : (Cond.selects "StairOnSticksModel" ⟨"StairOnSticksModel", "weeksBy", "(I)I"⟩ ⟨"StairOnSticksModel", "weeksBy", "(I)I"⟩) ∈ lw_all := lw_g (lw_at lw_ms 69 rfl) rfl
theorem qs70 : (Cond.selects "StairOnSticksModel" ⟨"StairOnSticksModel", "goesUp", "(II)Z"⟩ ⟨"StairOnSticksModel", "goesUp", "(II)Z"⟩) ∈ lw_all := lw_g (lw_at lw_ms 70 rfl) rfl
theorem qs71 : (Cond.selects "StairOnSticksModel" ⟨"StairOnSticksModel", "draw", "(I)I"⟩ ⟨"StairOnSticksModel", "draw", "(I)I"⟩) ∈ lw_all := lw_g (lw_at lw_ms 71 rfl) rfl
theorem qs72 : (Cond.selects "StairOnSticksModel" ⟨"StairOnSticksModel", "ended", "(I)I"⟩ ⟨"StairOnSticksModel", "ended", "(I)I"⟩) ∈ lw_all := lw_g (lw_at lw_ms 72 rfl) rfl
