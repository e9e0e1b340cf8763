-- ===== PART A: goes FIRST, ahead of the names: the tables' words, and 'selects' of the private methods out of them =====
/-- a private method of a class that the tables say can be made, by its rows of tables_1 -/
def lw_okq (q : MethodName × Nat) : Prop := (q.1.cls ≠ "java/lang/invoke/MethodHandle" ∧ q.1.cls ≠ "java/lang/invoke/VarHandle") ∧ Cond.instantiable q.1.cls q.2 ∈ tables_1 ∧ Cond.privateMethod q.1 ∈ tables_1 ∧ Cond.instanceMethod q.1 ∈ tables_1
set_option maxRecDepth 100000
theorem lw_t1 {w : Cond} (h : w ∈ tables_1_1) : w ∈ tables_1 := List.mem_append_left _ h
theorem lw_t2 {w : Cond} (h : w ∈ tables_1_2) : w ∈ tables_1 := List.mem_append_right _ (List.mem_append_left _ h)
theorem lw_t3 {w : Cond} (h : w ∈ tables_1_3) : w ∈ tables_1 := List.mem_append_right _ (List.mem_append_right _ (List.mem_append_left _ h))
theorem lw_t4 {w : Cond} (h : w ∈ tables_1_4) : w ∈ tables_1 := List.mem_append_right _ (List.mem_append_right _ (List.mem_append_right _ (List.mem_append_left _ h)))
theorem lw_t5 {w : Cond} (h : w ∈ tables_1_5) : w ∈ tables_1 := List.mem_append_right _ (List.mem_append_right _ (List.mem_append_right _ (List.mem_append_right _ (List.mem_append_left _ h))))
theorem lw_t6 {w : Cond} (h : w ∈ tables_1_6) : w ∈ tables_1 := List.mem_append_right _ (List.mem_append_right _ (List.mem_append_right _ (List.mem_append_right _ (List.mem_append_right _ (List.mem_append_left _ h)))))
theorem lw_t7 {w : Cond} (h : w ∈ tables_1_7) : w ∈ tables_1 := List.mem_append_right _ (List.mem_append_right _ (List.mem_append_right _ (List.mem_append_right _ (List.mem_append_right _ (List.mem_append_right _ (List.mem_append_left _ h))))))
theorem lw_t8 {w : Cond} (h : w ∈ tables_1_8) : w ∈ tables_1 := List.mem_append_right _ (List.mem_append_right _ (List.mem_append_right _ (List.mem_append_right _ (List.mem_append_right _ (List.mem_append_right _ (List.mem_append_right _ (List.mem_append_left _ h)))))))
theorem lw_t9 {w : Cond} (h : w ∈ tables_1_9) : w ∈ tables_1 := List.mem_append_right _ (List.mem_append_right _ (List.mem_append_right _ (List.mem_append_right _ (List.mem_append_right _ (List.mem_append_right _ (List.mem_append_right _ (List.mem_append_right _ h)))))))
theorem lw_p0 : lw_okq (⟨"java/util/ArrayList", "add", "(Ljava/lang/Object;[Ljava/lang/Object;I)V"⟩, 3) := ⟨⟨by decide +kernel, by decide +kernel⟩, lw_t1 (List.mem_of_getElem? (i := 44) rfl), lw_t1 (List.mem_of_getElem? (i := 163) rfl), lw_t1 (List.mem_of_getElem? (i := 164) rfl)⟩
theorem lw_p1 : lw_okq (⟨"java/util/ArrayList", "grow", "()[Ljava/lang/Object;"⟩, 3) := ⟨⟨by decide +kernel, by decide +kernel⟩, lw_t1 (List.mem_of_getElem? (i := 44) rfl), lw_t1 (List.mem_of_getElem? (i := 167) rfl), lw_t1 (List.mem_of_getElem? (i := 168) rfl)⟩
theorem lw_p2 : lw_okq (⟨"java/util/ArrayList", "grow", "(I)[Ljava/lang/Object;"⟩, 3) := ⟨⟨by decide +kernel, by decide +kernel⟩, lw_t1 (List.mem_of_getElem? (i := 44) rfl), lw_t1 (List.mem_of_getElem? (i := 171) rfl), lw_t1 (List.mem_of_getElem? (i := 172) rfl)⟩
theorem lw_p3 : lw_okq (⟨"WaterWorks", "plan", "(Ljava/util/ArrayList;LWaterWorks$Plan;Z)I"⟩, 14) := ⟨⟨by decide +kernel, by decide +kernel⟩, lw_t1 (List.mem_of_getElem? (i := 36) rfl), lw_t2 (List.mem_of_getElem? (i := 21) rfl), lw_t2 (List.mem_of_getElem? (i := 22) rfl)⟩
theorem lw_p4 : lw_okq (⟨"WaterWorks", "made", "(I[II)LWaterWorks$Guard;"⟩, 14) := ⟨⟨by decide +kernel, by decide +kernel⟩, lw_t1 (List.mem_of_getElem? (i := 36) rfl), lw_t2 (List.mem_of_getElem? (i := 39) rfl), lw_t2 (List.mem_of_getElem? (i := 40) rfl)⟩
theorem lw_p5 : lw_okq (⟨"WaterWorks", "begins", "(IIIII)I"⟩, 14) := ⟨⟨by decide +kernel, by decide +kernel⟩, lw_t1 (List.mem_of_getElem? (i := 36) rfl), lw_t3 (List.mem_of_getElem? (i := 105) rfl), lw_t3 (List.mem_of_getElem? (i := 106) rfl)⟩
theorem lw_p6 : lw_okq (⟨"WaterWorks", "begin", "(LWaterWorks$Order;ILWaterWorks$Call;)V"⟩, 14) := ⟨⟨by decide +kernel, by decide +kernel⟩, lw_t1 (List.mem_of_getElem? (i := 36) rfl), lw_t3 (List.mem_of_getElem? (i := 162) rfl), lw_t3 (List.mem_of_getElem? (i := 163) rfl)⟩
theorem lw_p7 : lw_okq (⟨"WaterWorks", "beginTry", "(LWaterWorks$Order;ILWaterWorks$Call;I)V"⟩, 14) := ⟨⟨by decide +kernel, by decide +kernel⟩, lw_t1 (List.mem_of_getElem? (i := 36) rfl), lw_t3 (List.mem_of_getElem? (i := 166) rfl), lw_t3 (List.mem_of_getElem? (i := 167) rfl)⟩
theorem lw_p8 : lw_okq (⟨"WaterWorks", "add", "(LWaterWorks$Order;ILWaterWorks$Call;LWaterWorks$Guard;I)LWaterWorks$Call;"⟩, 14) := ⟨⟨by decide +kernel, by decide +kernel⟩, lw_t1 (List.mem_of_getElem? (i := 36) rfl), lw_t3 (List.mem_of_getElem? (i := 170) rfl), lw_t3 (List.mem_of_getElem? (i := 171) rfl)⟩
theorem lw_p9 : lw_okq (⟨"WaterWorks$Bulkhead", "works", "(LWaterWorks$Call;)V"⟩, 11) := ⟨⟨by decide +kernel, by decide +kernel⟩, lw_t2 (List.mem_of_getElem? (i := 129) rfl), lw_t4 (List.mem_of_getElem? (i := 49) rfl), lw_t4 (List.mem_of_getElem? (i := 50) rfl)⟩
theorem lw_p10 : lw_okq (⟨"WaterWorks", "goesIn", "(LWaterWorks$Call;)V"⟩, 14) := ⟨⟨by decide +kernel, by decide +kernel⟩, lw_t1 (List.mem_of_getElem? (i := 36) rfl), lw_t4 (List.mem_of_getElem? (i := 53) rfl), lw_t4 (List.mem_of_getElem? (i := 54) rfl)⟩
theorem lw_p11 : lw_okq (⟨"WaterWorks", "failed", "(III)LWaterWorks$Failure;"⟩, 14) := ⟨⟨by decide +kernel, by decide +kernel⟩, lw_t1 (List.mem_of_getElem? (i := 36) rfl), lw_t4 (List.mem_of_getElem? (i := 64) rfl), lw_t4 (List.mem_of_getElem? (i := 65) rfl)⟩
theorem lw_p12 : lw_okq (⟨"WaterWorks", "fails", "(LWaterWorks$Call;LWaterWorks$Failure;)V"⟩, 14) := ⟨⟨by decide +kernel, by decide +kernel⟩, lw_t1 (List.mem_of_getElem? (i := 36) rfl), lw_t4 (List.mem_of_getElem? (i := 104) rfl), lw_t4 (List.mem_of_getElem? (i := 105) rfl)⟩
theorem lw_p13 : lw_okq (⟨"WaterWorks", "ended", "(LWaterWorks$Call;)V"⟩, 14) := ⟨⟨by decide +kernel, by decide +kernel⟩, lw_t1 (List.mem_of_getElem? (i := 36) rfl), lw_t4 (List.mem_of_getElem? (i := 108) rfl), lw_t4 (List.mem_of_getElem? (i := 109) rfl)⟩
theorem lw_p14 : lw_okq (⟨"WaterWorks", "alike", "(LWaterWorks$Call;LWaterWorks$Call;)V"⟩, 14) := ⟨⟨by decide +kernel, by decide +kernel⟩, lw_t1 (List.mem_of_getElem? (i := 36) rfl), lw_t4 (List.mem_of_getElem? (i := 118) rfl), lw_t4 (List.mem_of_getElem? (i := 119) rfl)⟩
theorem lw_p15 : lw_okq (⟨"WaterWorks", "good", "(LWaterWorks$Call;IZ)V"⟩, 14) := ⟨⟨by decide +kernel, by decide +kernel⟩, lw_t1 (List.mem_of_getElem? (i := 36) rfl), lw_t4 (List.mem_of_getElem? (i := 122) rfl), lw_t4 (List.mem_of_getElem? (i := 123) rfl)⟩
def lw_privs_1 : List (MethodName × Nat) := [(⟨"java/util/ArrayList", "add", "(Ljava/lang/Object;[Ljava/lang/Object;I)V"⟩, 3), (⟨"java/util/ArrayList", "grow", "()[Ljava/lang/Object;"⟩, 3), (⟨"java/util/ArrayList", "grow", "(I)[Ljava/lang/Object;"⟩, 3), (⟨"WaterWorks", "plan", "(Ljava/util/ArrayList;LWaterWorks$Plan;Z)I"⟩, 14), (⟨"WaterWorks", "made", "(I[II)LWaterWorks$Guard;"⟩, 14), (⟨"WaterWorks", "begins", "(IIIII)I"⟩, 14), (⟨"WaterWorks", "begin", "(LWaterWorks$Order;ILWaterWorks$Call;)V"⟩, 14), (⟨"WaterWorks", "beginTry", "(LWaterWorks$Order;ILWaterWorks$Call;I)V"⟩, 14), (⟨"WaterWorks", "add", "(LWaterWorks$Order;ILWaterWorks$Call;LWaterWorks$Guard;I)LWaterWorks$Call;"⟩, 14), (⟨"WaterWorks$Bulkhead", "works", "(LWaterWorks$Call;)V"⟩, 11), (⟨"WaterWorks", "goesIn", "(LWaterWorks$Call;)V"⟩, 14), (⟨"WaterWorks", "failed", "(III)LWaterWorks$Failure;"⟩, 14), (⟨"WaterWorks", "fails", "(LWaterWorks$Call;LWaterWorks$Failure;)V"⟩, 14), (⟨"WaterWorks", "ended", "(LWaterWorks$Call;)V"⟩, 14), (⟨"WaterWorks", "alike", "(LWaterWorks$Call;LWaterWorks$Call;)V"⟩, 14), (⟨"WaterWorks", "good", "(LWaterWorks$Call;IZ)V"⟩, 14)]
theorem lw_r1 : ∀ q ∈ lw_privs_1, lw_okq q := List.forall_mem_cons.mpr ⟨lw_p0, List.forall_mem_cons.mpr ⟨lw_p1, List.forall_mem_cons.mpr ⟨lw_p2, List.forall_mem_cons.mpr ⟨lw_p3, List.forall_mem_cons.mpr ⟨lw_p4, List.forall_mem_cons.mpr ⟨lw_p5, List.forall_mem_cons.mpr ⟨lw_p6, List.forall_mem_cons.mpr ⟨lw_p7, List.forall_mem_cons.mpr ⟨lw_p8, List.forall_mem_cons.mpr ⟨lw_p9, List.forall_mem_cons.mpr ⟨lw_p10, List.forall_mem_cons.mpr ⟨lw_p11, List.forall_mem_cons.mpr ⟨lw_p12, List.forall_mem_cons.mpr ⟨lw_p13, List.forall_mem_cons.mpr ⟨lw_p14, List.forall_mem_cons.mpr ⟨lw_p15, fun _ h => absurd h List.not_mem_nil⟩⟩⟩⟩⟩⟩⟩⟩⟩⟩⟩⟩⟩⟩⟩⟩
theorem lw_p16 : lw_okq (⟨"WaterWorks$Fuse", "opens", "(I)V"⟩, 12) := ⟨⟨by decide +kernel, by decide +kernel⟩, lw_t2 (List.mem_of_getElem? (i := 43) rfl), lw_t4 (List.mem_of_getElem? (i := 153) rfl), lw_t4 (List.mem_of_getElem? (i := 154) rfl)⟩
theorem lw_p17 : lw_okq (⟨"WaterWorks$Fuse", "closes", "()V"⟩, 12) := ⟨⟨by decide +kernel, by decide +kernel⟩, lw_t2 (List.mem_of_getElem? (i := 43) rfl), lw_t4 (List.mem_of_getElem? (i := 157) rfl), lw_t4 (List.mem_of_getElem? (i := 158) rfl)⟩
theorem lw_p18 : lw_okq (⟨"WaterWorks", "takeBack", "(LWaterWorks$Call;)I"⟩, 14) := ⟨⟨by decide +kernel, by decide +kernel⟩, lw_t1 (List.mem_of_getElem? (i := 36) rfl), lw_t4 (List.mem_of_getElem? (i := 176) rfl), lw_t4 (List.mem_of_getElem? (i := 177) rfl)⟩
theorem lw_p19 : lw_okq (⟨"java/util/ArrayList", "fastRemove", "([Ljava/lang/Object;I)V"⟩, 3) := ⟨⟨by decide +kernel, by decide +kernel⟩, lw_t1 (List.mem_of_getElem? (i := 44) rfl), lw_t4 (List.mem_of_getElem? (i := 223) rfl), lw_t4 (List.mem_of_getElem? (i := 224) rfl)⟩
theorem lw_p20 : lw_okq (⟨"WaterWorks$Join", "leader", "(LWaterWorks$Call;)LWaterWorks$Call;"⟩, 8) := ⟨⟨by decide +kernel, by decide +kernel⟩, lw_t3 (List.mem_of_getElem? (i := 39) rfl), lw_t5 (List.mem_of_getElem? (i := 64) rfl), lw_t5 (List.mem_of_getElem? (i := 65) rfl)⟩
theorem lw_p21 : lw_okq (⟨"WaterWorks", "pass", "()V"⟩, 14) := ⟨⟨by decide +kernel, by decide +kernel⟩, lw_t1 (List.mem_of_getElem? (i := 36) rfl), lw_t5 (List.mem_of_getElem? (i := 102) rfl), lw_t5 (List.mem_of_getElem? (i := 103) rfl)⟩
theorem lw_p22 : lw_okq (⟨"WaterWorks", "ends", "(LWaterWorks$Call;)V"⟩, 14) := ⟨⟨by decide +kernel, by decide +kernel⟩, lw_t1 (List.mem_of_getElem? (i := 36) rfl), lw_t5 (List.mem_of_getElem? (i := 123) rfl), lw_t5 (List.mem_of_getElem? (i := 124) rfl)⟩
theorem lw_p23 : lw_okq (⟨"WaterWorks", "keyed", "(II)LWaterWorks$Effect;"⟩, 14) := ⟨⟨by decide +kernel, by decide +kernel⟩, lw_t1 (List.mem_of_getElem? (i := 36) rfl), lw_t5 (List.mem_of_getElem? (i := 128) rfl), lw_t5 (List.mem_of_getElem? (i := 129) rfl)⟩
theorem lw_p24 : lw_okq (⟨"WaterWorks", "moves", "(LWaterWorks$Call;LWaterWorks$Station;I)V"⟩, 14) := ⟨⟨by decide +kernel, by decide +kernel⟩, lw_t1 (List.mem_of_getElem? (i := 36) rfl), lw_t5 (List.mem_of_getElem? (i := 136) rfl), lw_t5 (List.mem_of_getElem? (i := 137) rfl)⟩
theorem lw_p25 : lw_okq (⟨"WaterWorks", "dueOf", "(I)V"⟩, 14) := ⟨⟨by decide +kernel, by decide +kernel⟩, lw_t1 (List.mem_of_getElem? (i := 36) rfl), lw_t5 (List.mem_of_getElem? (i := 166) rfl), lw_t5 (List.mem_of_getElem? (i := 167) rfl)⟩
theorem lw_p26 : lw_okq (⟨"WaterWorks", "fuseOf", "(I)LWaterWorks$Fuse;"⟩, 14) := ⟨⟨by decide +kernel, by decide +kernel⟩, lw_t1 (List.mem_of_getElem? (i := 36) rfl), lw_t6 (List.mem_of_getElem? (i := 75) rfl), lw_t6 (List.mem_of_getElem? (i := 76) rfl)⟩
theorem lw_p27 : lw_okq (⟨"WaterWorks", "bulkheadOf", "(I)LWaterWorks$Bulkhead;"⟩, 14) := ⟨⟨by decide +kernel, by decide +kernel⟩, lw_t1 (List.mem_of_getElem? (i := 36) rfl), lw_t6 (List.mem_of_getElem? (i := 79) rfl), lw_t6 (List.mem_of_getElem? (i := 80) rfl)⟩
theorem lw_p28 : lw_okq (⟨"WaterWorksModel", "isStation", "(I)Z"⟩, 110) := ⟨⟨by decide +kernel, by decide +kernel⟩, lw_t6 (List.mem_of_getElem? (i := 239) rfl), lw_t8 (List.mem_of_getElem? (i := 105) rfl), lw_t8 (List.mem_of_getElem? (i := 106) rfl)⟩
theorem lw_p29 : lw_okq (⟨"WaterWorksModel", "isAct", "(I)Z"⟩, 110) := ⟨⟨by decide +kernel, by decide +kernel⟩, lw_t6 (List.mem_of_getElem? (i := 239) rfl), lw_t8 (List.mem_of_getElem? (i := 109) rfl), lw_t8 (List.mem_of_getElem? (i := 110) rfl)⟩
theorem lw_p30 : lw_okq (⟨"WaterWorksModel", "isUnder", "(II)Z"⟩, 110) := ⟨⟨by decide +kernel, by decide +kernel⟩, lw_t6 (List.mem_of_getElem? (i := 239) rfl), lw_t8 (List.mem_of_getElem? (i := 121) rfl), lw_t8 (List.mem_of_getElem? (i := 122) rfl)⟩
theorem lw_p31 : lw_okq (⟨"WaterWorksModel", "over", "(I)I"⟩, 110) := ⟨⟨by decide +kernel, by decide +kernel⟩, lw_t6 (List.mem_of_getElem? (i := 239) rfl), lw_t8 (List.mem_of_getElem? (i := 125) rfl), lw_t8 (List.mem_of_getElem? (i := 126) rfl)⟩
def lw_privs_2 : List (MethodName × Nat) := [(⟨"WaterWorks$Fuse", "opens", "(I)V"⟩, 12), (⟨"WaterWorks$Fuse", "closes", "()V"⟩, 12), (⟨"WaterWorks", "takeBack", "(LWaterWorks$Call;)I"⟩, 14), (⟨"java/util/ArrayList", "fastRemove", "([Ljava/lang/Object;I)V"⟩, 3), (⟨"WaterWorks$Join", "leader", "(LWaterWorks$Call;)LWaterWorks$Call;"⟩, 8), (⟨"WaterWorks", "pass", "()V"⟩, 14), (⟨"WaterWorks", "ends", "(LWaterWorks$Call;)V"⟩, 14), (⟨"WaterWorks", "keyed", "(II)LWaterWorks$Effect;"⟩, 14), (⟨"WaterWorks", "moves", "(LWaterWorks$Call;LWaterWorks$Station;I)V"⟩, 14), (⟨"WaterWorks", "dueOf", "(I)V"⟩, 14), (⟨"WaterWorks", "fuseOf", "(I)LWaterWorks$Fuse;"⟩, 14), (⟨"WaterWorks", "bulkheadOf", "(I)LWaterWorks$Bulkhead;"⟩, 14), (⟨"WaterWorksModel", "isStation", "(I)Z"⟩, 110), (⟨"WaterWorksModel", "isAct", "(I)Z"⟩, 110), (⟨"WaterWorksModel", "isUnder", "(II)Z"⟩, 110), (⟨"WaterWorksModel", "over", "(I)I"⟩, 110)]
theorem lw_r2 : ∀ q ∈ lw_privs_2, lw_okq q := List.forall_mem_cons.mpr ⟨lw_p16, List.forall_mem_cons.mpr ⟨lw_p17, List.forall_mem_cons.mpr ⟨lw_p18, List.forall_mem_cons.mpr ⟨lw_p19, List.forall_mem_cons.mpr ⟨lw_p20, List.forall_mem_cons.mpr ⟨lw_p21, List.forall_mem_cons.mpr ⟨lw_p22, List.forall_mem_cons.mpr ⟨lw_p23, List.forall_mem_cons.mpr ⟨lw_p24, List.forall_mem_cons.mpr ⟨lw_p25, List.forall_mem_cons.mpr ⟨lw_p26, List.forall_mem_cons.mpr ⟨lw_p27, List.forall_mem_cons.mpr ⟨lw_p28, List.forall_mem_cons.mpr ⟨lw_p29, List.forall_mem_cons.mpr ⟨lw_p30, List.forall_mem_cons.mpr ⟨lw_p31, fun _ h => absurd h List.not_mem_nil⟩⟩⟩⟩⟩⟩⟩⟩⟩⟩⟩⟩⟩⟩⟩⟩
theorem lw_p32 : lw_okq (⟨"WaterWorksModel", "isGood", "(IIII)Z"⟩, 110) := ⟨⟨by decide +kernel, by decide +kernel⟩, lw_t6 (List.mem_of_getElem? (i := 239) rfl), lw_t8 (List.mem_of_getElem? (i := 137) rfl), lw_t8 (List.mem_of_getElem? (i := 138) rfl)⟩
theorem lw_p33 : lw_okq (⟨"WaterWorksModel", "in", "(III)Z"⟩, 110) := ⟨⟨by decide +kernel, by decide +kernel⟩, lw_t6 (List.mem_of_getElem? (i := 239) rfl), lw_t8 (List.mem_of_getElem? (i := 141) rfl), lw_t8 (List.mem_of_getElem? (i := 142) rfl)⟩
theorem lw_p34 : lw_okq (⟨"WaterWorksModel", "isTower", "(I)Z"⟩, 110) := ⟨⟨by decide +kernel, by decide +kernel⟩, lw_t6 (List.mem_of_getElem? (i := 239) rfl), lw_t8 (List.mem_of_getElem? (i := 157) rfl), lw_t8 (List.mem_of_getElem? (i := 158) rfl)⟩
theorem lw_p35 : lw_okq (⟨"WaterWorksModel", "isAmount", "(II)Z"⟩, 110) := ⟨⟨by decide +kernel, by decide +kernel⟩, lw_t6 (List.mem_of_getElem? (i := 239) rfl), lw_t8 (List.mem_of_getElem? (i := 161) rfl), lw_t8 (List.mem_of_getElem? (i := 162) rfl)⟩
theorem lw_p36 : lw_okq (⟨"WaterWorksModel", "made", "(IIIII)I"⟩, 110) := ⟨⟨by decide +kernel, by decide +kernel⟩, lw_t6 (List.mem_of_getElem? (i := 239) rfl), lw_t8 (List.mem_of_getElem? (i := 165) rfl), lw_t8 (List.mem_of_getElem? (i := 166) rfl)⟩
theorem lw_p37 : lw_okq (⟨"WaterWorksModel", "add", "(IIIII)V"⟩, 110) := ⟨⟨by decide +kernel, by decide +kernel⟩, lw_t6 (List.mem_of_getElem? (i := 239) rfl), lw_t8 (List.mem_of_getElem? (i := 169) rfl), lw_t8 (List.mem_of_getElem? (i := 170) rfl)⟩
theorem lw_p38 : lw_okq (⟨"WaterWorksModel", "work", "()V"⟩, 110) := ⟨⟨by decide +kernel, by decide +kernel⟩, lw_t6 (List.mem_of_getElem? (i := 239) rfl), lw_t8 (List.mem_of_getElem? (i := 173) rfl), lw_t8 (List.mem_of_getElem? (i := 174) rfl)⟩
theorem lw_p39 : lw_okq (⟨"WaterWorksModel", "begins", "(IIII)V"⟩, 110) := ⟨⟨by decide +kernel, by decide +kernel⟩, lw_t6 (List.mem_of_getElem? (i := 239) rfl), lw_t8 (List.mem_of_getElem? (i := 177) rfl), lw_t8 (List.mem_of_getElem? (i := 178) rfl)⟩
theorem lw_p40 : lw_okq (⟨"WaterWorksModel", "guardAt", "(II)I"⟩, 110) := ⟨⟨by decide +kernel, by decide +kernel⟩, lw_t6 (List.mem_of_getElem? (i := 239) rfl), lw_t8 (List.mem_of_getElem? (i := 181) rfl), lw_t8 (List.mem_of_getElem? (i := 182) rfl)⟩
theorem lw_p41 : lw_okq (⟨"WaterWorksModel", "entered", "(II)V"⟩, 110) := ⟨⟨by decide +kernel, by decide +kernel⟩, lw_t6 (List.mem_of_getElem? (i := 239) rfl), lw_t8 (List.mem_of_getElem? (i := 185) rfl), lw_t8 (List.mem_of_getElem? (i := 186) rfl)⟩
theorem lw_p42 : lw_okq (⟨"WaterWorksModel", "goesIn", "(I)V"⟩, 110) := ⟨⟨by decide +kernel, by decide +kernel⟩, lw_t6 (List.mem_of_getElem? (i := 239) rfl), lw_t8 (List.mem_of_getElem? (i := 189) rfl), lw_t8 (List.mem_of_getElem? (i := 190) rfl)⟩
theorem lw_p43 : lw_okq (⟨"WaterWorksModel", "setToWork", "(II)V"⟩, 110) := ⟨⟨by decide +kernel, by decide +kernel⟩, lw_t6 (List.mem_of_getElem? (i := 239) rfl), lw_t8 (List.mem_of_getElem? (i := 193) rfl), lw_t8 (List.mem_of_getElem? (i := 194) rfl)⟩
theorem lw_p44 : lw_okq (⟨"WaterWorksModel", "isAlike", "(II)Z"⟩, 110) := ⟨⟨by decide +kernel, by decide +kernel⟩, lw_t6 (List.mem_of_getElem? (i := 239) rfl), lw_t8 (List.mem_of_getElem? (i := 197) rfl), lw_t8 (List.mem_of_getElem? (i := 198) rfl)⟩
theorem lw_p45 : lw_okq (⟨"WaterWorksModel", "tryEnd", "(II)I"⟩, 110) := ⟨⟨by decide +kernel, by decide +kernel⟩, lw_t6 (List.mem_of_getElem? (i := 239) rfl), lw_t8 (List.mem_of_getElem? (i := 201) rfl), lw_t8 (List.mem_of_getElem? (i := 202) rfl)⟩
theorem lw_p46 : lw_okq (⟨"WaterWorksModel", "ends", "(IIIZ)V"⟩, 110) := ⟨⟨by decide +kernel, by decide +kernel⟩, lw_t6 (List.mem_of_getElem? (i := 239) rfl), lw_t8 (List.mem_of_getElem? (i := 205) rfl), lw_t8 (List.mem_of_getElem? (i := 206) rfl)⟩
theorem lw_p47 : lw_okq (⟨"WaterWorksModel", "told", "(II)V"⟩, 110) := ⟨⟨by decide +kernel, by decide +kernel⟩, lw_t6 (List.mem_of_getElem? (i := 239) rfl), lw_t8 (List.mem_of_getElem? (i := 209) rfl), lw_t8 (List.mem_of_getElem? (i := 210) rfl)⟩
def lw_privs_3 : List (MethodName × Nat) := [(⟨"WaterWorksModel", "isGood", "(IIII)Z"⟩, 110), (⟨"WaterWorksModel", "in", "(III)Z"⟩, 110), (⟨"WaterWorksModel", "isTower", "(I)Z"⟩, 110), (⟨"WaterWorksModel", "isAmount", "(II)Z"⟩, 110), (⟨"WaterWorksModel", "made", "(IIIII)I"⟩, 110), (⟨"WaterWorksModel", "add", "(IIIII)V"⟩, 110), (⟨"WaterWorksModel", "work", "()V"⟩, 110), (⟨"WaterWorksModel", "begins", "(IIII)V"⟩, 110), (⟨"WaterWorksModel", "guardAt", "(II)I"⟩, 110), (⟨"WaterWorksModel", "entered", "(II)V"⟩, 110), (⟨"WaterWorksModel", "goesIn", "(I)V"⟩, 110), (⟨"WaterWorksModel", "setToWork", "(II)V"⟩, 110), (⟨"WaterWorksModel", "isAlike", "(II)Z"⟩, 110), (⟨"WaterWorksModel", "tryEnd", "(II)I"⟩, 110), (⟨"WaterWorksModel", "ends", "(IIIZ)V"⟩, 110), (⟨"WaterWorksModel", "told", "(II)V"⟩, 110)]
theorem lw_r3 : ∀ q ∈ lw_privs_3, lw_okq q := List.forall_mem_cons.mpr ⟨lw_p32, List.forall_mem_cons.mpr ⟨lw_p33, List.forall_mem_cons.mpr ⟨lw_p34, List.forall_mem_cons.mpr ⟨lw_p35, List.forall_mem_cons.mpr ⟨lw_p36, List.forall_mem_cons.mpr ⟨lw_p37, List.forall_mem_cons.mpr ⟨lw_p38, List.forall_mem_cons.mpr ⟨lw_p39, List.forall_mem_cons.mpr ⟨lw_p40, List.forall_mem_cons.mpr ⟨lw_p41, List.forall_mem_cons.mpr ⟨lw_p42, List.forall_mem_cons.mpr ⟨lw_p43, List.forall_mem_cons.mpr ⟨lw_p44, List.forall_mem_cons.mpr ⟨lw_p45, List.forall_mem_cons.mpr ⟨lw_p46, List.forall_mem_cons.mpr ⟨lw_p47, fun _ h => absurd h List.not_mem_nil⟩⟩⟩⟩⟩⟩⟩⟩⟩⟩⟩⟩⟩⟩⟩⟩
theorem lw_p48 : lw_okq (⟨"WaterWorksModel", "fuseTold", "(III)V"⟩, 110) := ⟨⟨by decide +kernel, by decide +kernel⟩, lw_t6 (List.mem_of_getElem? (i := 239) rfl), lw_t8 (List.mem_of_getElem? (i := 213) rfl), lw_t8 (List.mem_of_getElem? (i := 214) rfl)⟩
theorem lw_p49 : lw_okq (⟨"WaterWorksModel", "isNamed", "(II)Z"⟩, 110) := ⟨⟨by decide +kernel, by decide +kernel⟩, lw_t6 (List.mem_of_getElem? (i := 239) rfl), lw_t8 (List.mem_of_getElem? (i := 217) rfl), lw_t8 (List.mem_of_getElem? (i := 218) rfl)⟩
theorem lw_p50 : lw_okq (⟨"WaterWorksModel", "opens", "(II)V"⟩, 110) := ⟨⟨by decide +kernel, by decide +kernel⟩, lw_t6 (List.mem_of_getElem? (i := 239) rfl), lw_t8 (List.mem_of_getElem? (i := 221) rfl), lw_t8 (List.mem_of_getElem? (i := 222) rfl)⟩
theorem lw_p51 : lw_okq (⟨"WaterWorksModel", "alike", "(II)V"⟩, 110) := ⟨⟨by decide +kernel, by decide +kernel⟩, lw_t6 (List.mem_of_getElem? (i := 239) rfl), lw_t8 (List.mem_of_getElem? (i := 225) rfl), lw_t8 (List.mem_of_getElem? (i := 226) rfl)⟩
theorem lw_p52 : lw_okq (⟨"WaterWorksModel", "retryTold", "(III)V"⟩, 110) := ⟨⟨by decide +kernel, by decide +kernel⟩, lw_t6 (List.mem_of_getElem? (i := 239) rfl), lw_t8 (List.mem_of_getElem? (i := 229) rfl), lw_t8 (List.mem_of_getElem? (i := 230) rfl)⟩
theorem lw_p53 : lw_okq (⟨"WaterWorksModel", "hedgeTold", "(II)V"⟩, 110) := ⟨⟨by decide +kernel, by decide +kernel⟩, lw_t6 (List.mem_of_getElem? (i := 239) rfl), lw_t8 (List.mem_of_getElem? (i := 233) rfl), lw_t8 (List.mem_of_getElem? (i := 234) rfl)⟩
theorem lw_p54 : lw_okq (⟨"WaterWorksModel", "otherOf", "(II)I"⟩, 110) := ⟨⟨by decide +kernel, by decide +kernel⟩, lw_t6 (List.mem_of_getElem? (i := 239) rfl), lw_t8 (List.mem_of_getElem? (i := 237) rfl), lw_t8 (List.mem_of_getElem? (i := 238) rfl)⟩
theorem lw_p55 : lw_okq (⟨"WaterWorksModel", "takeBack", "(II)I"⟩, 110) := ⟨⟨by decide +kernel, by decide +kernel⟩, lw_t6 (List.mem_of_getElem? (i := 239) rfl), lw_t9 (List.mem_of_getElem? (i := 1) rfl), lw_t9 (List.mem_of_getElem? (i := 2) rfl)⟩
theorem lw_p56 : lw_okq (⟨"WaterWorksModel", "fallbackTold", "(III)V"⟩, 110) := ⟨⟨by decide +kernel, by decide +kernel⟩, lw_t6 (List.mem_of_getElem? (i := 239) rfl), lw_t9 (List.mem_of_getElem? (i := 5) rfl), lw_t9 (List.mem_of_getElem? (i := 6) rfl)⟩
theorem lw_p57 : lw_okq (⟨"WaterWorksModel", "fails", "(III)I"⟩, 110) := ⟨⟨by decide +kernel, by decide +kernel⟩, lw_t6 (List.mem_of_getElem? (i := 239) rfl), lw_t9 (List.mem_of_getElem? (i := 9) rfl), lw_t9 (List.mem_of_getElem? (i := 10) rfl)⟩
theorem lw_p58 : lw_okq (⟨"WaterWorksModel", "failsNow", "(II)V"⟩, 110) := ⟨⟨by decide +kernel, by decide +kernel⟩, lw_t6 (List.mem_of_getElem? (i := 239) rfl), lw_t9 (List.mem_of_getElem? (i := 13) rfl), lw_t9 (List.mem_of_getElem? (i := 14) rfl)⟩
theorem lw_p59 : lw_okq (⟨"WaterWorksModel", "freeJoined", "(II)V"⟩, 110) := ⟨⟨by decide +kernel, by decide +kernel⟩, lw_t6 (List.mem_of_getElem? (i := 239) rfl), lw_t9 (List.mem_of_getElem? (i := 17) rfl), lw_t9 (List.mem_of_getElem? (i := 18) rfl)⟩
theorem lw_p60 : lw_okq (⟨"WaterWorksModel", "takenBack", "(II)V"⟩, 110) := ⟨⟨by decide +kernel, by decide +kernel⟩, lw_t6 (List.mem_of_getElem? (i := 239) rfl), lw_t9 (List.mem_of_getElem? (i := 21) rfl), lw_t9 (List.mem_of_getElem? (i := 22) rfl)⟩
theorem lw_p61 : lw_okq (⟨"WaterWorksModel", "gone", "(II)V"⟩, 110) := ⟨⟨by decide +kernel, by decide +kernel⟩, lw_t6 (List.mem_of_getElem? (i := 239) rfl), lw_t9 (List.mem_of_getElem? (i := 25) rfl), lw_t9 (List.mem_of_getElem? (i := 26) rfl)⟩
theorem lw_p62 : lw_okq (⟨"WaterWorksModel", "isGuard", "(II)Z"⟩, 110) := ⟨⟨by decide +kernel, by decide +kernel⟩, lw_t6 (List.mem_of_getElem? (i := 239) rfl), lw_t9 (List.mem_of_getElem? (i := 49) rfl), lw_t9 (List.mem_of_getElem? (i := 50) rfl)⟩
theorem lw_p63 : lw_okq (⟨"WaterWorksModel", "tick", "()V"⟩, 110) := ⟨⟨by decide +kernel, by decide +kernel⟩, lw_t6 (List.mem_of_getElem? (i := 239) rfl), lw_t9 (List.mem_of_getElem? (i := 61) rfl), lw_t9 (List.mem_of_getElem? (i := 62) rfl)⟩
def lw_privs_4 : List (MethodName × Nat) := [(⟨"WaterWorksModel", "fuseTold", "(III)V"⟩, 110), (⟨"WaterWorksModel", "isNamed", "(II)Z"⟩, 110), (⟨"WaterWorksModel", "opens", "(II)V"⟩, 110), (⟨"WaterWorksModel", "alike", "(II)V"⟩, 110), (⟨"WaterWorksModel", "retryTold", "(III)V"⟩, 110), (⟨"WaterWorksModel", "hedgeTold", "(II)V"⟩, 110), (⟨"WaterWorksModel", "otherOf", "(II)I"⟩, 110), (⟨"WaterWorksModel", "takeBack", "(II)I"⟩, 110), (⟨"WaterWorksModel", "fallbackTold", "(III)V"⟩, 110), (⟨"WaterWorksModel", "fails", "(III)I"⟩, 110), (⟨"WaterWorksModel", "failsNow", "(II)V"⟩, 110), (⟨"WaterWorksModel", "freeJoined", "(II)V"⟩, 110), (⟨"WaterWorksModel", "takenBack", "(II)V"⟩, 110), (⟨"WaterWorksModel", "gone", "(II)V"⟩, 110), (⟨"WaterWorksModel", "isGuard", "(II)Z"⟩, 110), (⟨"WaterWorksModel", "tick", "()V"⟩, 110)]
theorem lw_r4 : ∀ q ∈ lw_privs_4, lw_okq q := List.forall_mem_cons.mpr ⟨lw_p48, List.forall_mem_cons.mpr ⟨lw_p49, List.forall_mem_cons.mpr ⟨lw_p50, List.forall_mem_cons.mpr ⟨lw_p51, List.forall_mem_cons.mpr ⟨lw_p52, List.forall_mem_cons.mpr ⟨lw_p53, List.forall_mem_cons.mpr ⟨lw_p54, List.forall_mem_cons.mpr ⟨lw_p55, List.forall_mem_cons.mpr ⟨lw_p56, List.forall_mem_cons.mpr ⟨lw_p57, List.forall_mem_cons.mpr ⟨lw_p58, List.forall_mem_cons.mpr ⟨lw_p59, List.forall_mem_cons.mpr ⟨lw_p60, List.forall_mem_cons.mpr ⟨lw_p61, List.forall_mem_cons.mpr ⟨lw_p62, List.forall_mem_cons.mpr ⟨lw_p63, fun _ h => absurd h List.not_mem_nil⟩⟩⟩⟩⟩⟩⟩⟩⟩⟩⟩⟩⟩⟩⟩⟩
theorem lw_p64 : lw_okq (⟨"WaterWorksModel", "tryEnds", "(I)V"⟩, 110) := ⟨⟨by decide +kernel, by decide +kernel⟩, lw_t6 (List.mem_of_getElem? (i := 239) rfl), lw_t9 (List.mem_of_getElem? (i := 65) rfl), lw_t9 (List.mem_of_getElem? (i := 66) rfl)⟩
theorem lw_p65 : lw_okq (⟨"WaterWorksModel", "late", "(I)V"⟩, 110) := ⟨⟨by decide +kernel, by decide +kernel⟩, lw_t6 (List.mem_of_getElem? (i := 239) rfl), lw_t9 (List.mem_of_getElem? (i := 69) rfl), lw_t9 (List.mem_of_getElem? (i := 70) rfl)⟩
theorem lw_p66 : lw_okq (⟨"WaterWorksModel", "planDue", "(I)V"⟩, 110) := ⟨⟨by decide +kernel, by decide +kernel⟩, lw_t6 (List.mem_of_getElem? (i := 239) rfl), lw_t9 (List.mem_of_getElem? (i := 73) rfl), lw_t9 (List.mem_of_getElem? (i := 74) rfl)⟩
theorem lw_p67 : lw_okq (⟨"WaterWorksModel", "isSo", "(I)Z"⟩, 110) := ⟨⟨by decide +kernel, by decide +kernel⟩, lw_t6 (List.mem_of_getElem? (i := 239) rfl), lw_t9 (List.mem_of_getElem? (i := 77) rfl), lw_t9 (List.mem_of_getElem? (i := 78) rfl)⟩
def lw_privs_5 : List (MethodName × Nat) := [(⟨"WaterWorksModel", "tryEnds", "(I)V"⟩, 110), (⟨"WaterWorksModel", "late", "(I)V"⟩, 110), (⟨"WaterWorksModel", "planDue", "(I)V"⟩, 110), (⟨"WaterWorksModel", "isSo", "(I)Z"⟩, 110)]
theorem lw_r5 : ∀ q ∈ lw_privs_5, lw_okq q := List.forall_mem_cons.mpr ⟨lw_p64, List.forall_mem_cons.mpr ⟨lw_p65, List.forall_mem_cons.mpr ⟨lw_p66, List.forall_mem_cons.mpr ⟨lw_p67, fun _ h => absurd h List.not_mem_nil⟩⟩⟩⟩
def lw_privs : List (MethodName × Nat) := lw_privs_1 ++ (lw_privs_2 ++ (lw_privs_3 ++ (lw_privs_4 ++ (lw_privs_5))))
def lw_tbl : List Cond := k2_sels lw_privs ++ tables_1
theorem lw_privs_ok : ∀ q ∈ lw_privs, lw_okq q := by
  show ∀ q ∈ lw_privs_1 ++ (lw_privs_2 ++ (lw_privs_3 ++ (lw_privs_4 ++ (lw_privs_5)))), lw_okq q
  exact List.forall_mem_append.mpr ⟨lw_r1, List.forall_mem_append.mpr ⟨lw_r2, List.forall_mem_append.mpr ⟨lw_r3, List.forall_mem_append.mpr ⟨lw_r4, lw_r5⟩⟩⟩⟩
-- ===== ONE list of words for every method: the tables' words that hold all through a run =====
def lw_all : List Cond := lw_tbl.filter goodWord
/-- a word of the tables by its place: claim/WORDS.tsv -/
theorem lw_w {w : Cond} (i : Nat) (h : lw_tbl[i]? = some w) (g : goodWord w = true) : w ∈ lw_all := List.mem_filter.mpr ⟨List.mem_of_getElem? h, g⟩
theorem lw_all_tbl {w : Cond} (h : w ∈ lw_all) : w ∈ lw_tbl := (List.mem_filter.mp h).1
theorem lw_self : GoodIn lw_all lw_all := fun w h => ⟨h, good_of_word (List.mem_filter.mp h).2⟩
/-- a class's field words, by their places -/
theorem lw_in (ws : List Cond) (ps : List Nat) (hp : ws = ps.filterMap (fun i => lw_tbl[i]?)) (hg : ws.all goodWord = true) : ∀ w ∈ ws, w ∈ lw_all := by
  intro w h
  have h1 := List.all_eq_true.mp hg w h
  rw [hp] at h
  obtain ⟨i, -, hi⟩ := List.mem_filterMap.mp h
  exact lw_w i hi h1
/-- the words of a contract for the method y with code b, L locals, answer r -/
abbrev ws_ (y : MethodName) (b : ByteArray) (L : Nat) (r : Option FieldType) : List Cond := Cond.code y b L r :: lw_all
theorem lw_meth {y : MethodName} {b : ByteArray} {L : Nat} {r : Option FieldType} (h : Cond.code y b L r ∈ lw_all) : GoodIn lw_all (ws_ y b L r) := by
  intro w hw
  rcases List.mem_cons.mp hw with e | e
  · rw [e]
    exact lw_self _ h
  · exact lw_self _ e
theorem lw_app {a c : List Cond} (ha : ∀ w ∈ a, w ∈ lw_all) (hc : GoodIn lw_all c) : GoodIn lw_all (a ++ c) := by
  intro w hw
  rcases List.mem_append.mp hw with e | e
  · exact lw_self w (ha w e)
  · exact hc w e
/-- what a call through an object asks: cwV n hts (lw_V ..) -/
theorem lw_V {own : String} {idx : Nat} {C : String} {y : MethodName} {b : ByteArray} {L : Nat} {r : Option FieldType} (h1 : Cond.methodLink own idx y ∈ lw_all) (h2 : Cond.instanceMethod y ∈ lw_all) (h3 : Cond.selects C y y ∈ lw_all) (h4 : Cond.initialized C ∈ lw_all) (h5 : Cond.code y b L r ∈ lw_all) : GoodIn lw_all (wsV own idx C y (ws_ y b L r)) := by
  refine lw_app ?_ (lw_meth h5)
  intro w hw
  simp only [List.mem_cons, List.not_mem_nil, or_false] at hw
  rcases hw with e | e | e | e
  · rw [e]; exact h1
  · rw [e]; exact h2
  · rw [e]; exact h3
  · rw [e]; exact h4
/-- what a static call asks: va_cwS n hts (lw_S ..) -/
theorem lw_S {own : String} {idx : Nat} {y : MethodName} {b : ByteArray} {L : Nat} {r : Option FieldType} (h1 : Cond.methodLink own idx y ∈ lw_all) (h2 : Cond.static y ∈ lw_all) (h3 : Cond.initialized y.cls ∈ lw_all) (h4 : Cond.code y b L r ∈ lw_all) : GoodIn lw_all (va_wsS own idx y (ws_ y b L r)) := by
  refine lw_app ?_ (lw_meth h4)
  intro w hw
  simp only [List.mem_cons, List.not_mem_nil, or_false] at hw
  rcases hw with e | e | e
  · rw [e]; exact h1
  · rw [e]; exact h2
  · rw [e]; exact h3
/-- the words of a contract for a method WITH HANDLERS (hh: its table) -/
abbrev wsW_ (y : MethodName) (b : ByteArray) (L : Nat) (r : Option FieldType) (hh : List (Nat × Nat × Nat × Nat)) : List Cond := Cond.codeWith y b L r hh :: lw_all
theorem lw_methW {y : MethodName} {b : ByteArray} {L : Nat} {r : Option FieldType} {hh : List (Nat × Nat × Nat × Nat)} (h : Cond.codeWith y b L r hh ∈ lw_all) : GoodIn lw_all (wsW_ y b L r hh) := by
  intro w hw
  rcases List.mem_cons.mp hw with e | e
  · rw [e]
    exact lw_self _ h
  · exact lw_self _ e
/-- any list of words by their places (lw_in), good -/
theorem lw_good {ws : List Cond} (h : ∀ w ∈ ws, w ∈ lw_all) : GoodIn lw_all ws := fun w hw => lw_self w (h w hw)
/-- what a call of a method with handlers asks: vx_cwVW n hts (lw_VW ..), vx_cwSW n hts (lw_SW ..) -/
theorem lw_VW {own : String} {idx : Nat} {C : String} {y : MethodName} {b : ByteArray} {L : Nat} {r : Option FieldType} {hh : List (Nat × Nat × Nat × Nat)} (h1 : Cond.methodLink own idx y ∈ lw_all) (h2 : Cond.instanceMethod y ∈ lw_all) (h3 : Cond.selects C y y ∈ lw_all) (h4 : Cond.initialized C ∈ lw_all) (h5 : Cond.codeWith y b L r hh ∈ lw_all) : GoodIn lw_all (wsV own idx C y (wsW_ y b L r hh)) := by
  refine lw_app ?_ (lw_methW h5)
  intro w hw
  simp only [List.mem_cons, List.not_mem_nil, or_false] at hw
  rcases hw with e | e | e | e
  · rw [e]; exact h1
  · rw [e]; exact h2
  · rw [e]; exact h3
  · rw [e]; exact h4
theorem lw_SW {own : String} {idx : Nat} {y : MethodName} {b : ByteArray} {L : Nat} {r : Option FieldType} {hh : List (Nat × Nat × Nat × Nat)} (h1 : Cond.methodLink own idx y ∈ lw_all) (h2 : Cond.static y ∈ lw_all) (h3 : Cond.initialized y.cls ∈ lw_all) (h4 : Cond.codeWith y b L r hh ∈ lw_all) : GoodIn lw_all (va_wsS own idx y (wsW_ y b L r hh)) := by
  refine lw_app ?_ (lw_methW h4)
  intro w hw
  simp only [List.mem_cons, List.not_mem_nil, or_false] at hw
  rcases hw with e | e | e
  · rw [e]; exact h1
  · rw [e]; exact h2
  · rw [e]; exact h3
/-- a word by its place in its run of the tables -/
theorem lw_at {r : List Cond} (hr : ∀ w ∈ r, w ∈ lw_tbl) {w : Cond} (i : Nat) (h : r[i]? = some w) : w ∈ lw_tbl := hr w (List.mem_of_getElem? h)
theorem lw_g {w : Cond} (h : w ∈ lw_tbl) (g : goodWord w = true) : w ∈ lw_all := List.mem_filter.mpr ⟨h, g⟩
theorem lw_ms : ∀ w ∈ k2_sels lw_privs, w ∈ lw_tbl := fun w h => show w ∈ k2_sels lw_privs ++ tables_1 from List.mem_append_left _ h
theorem lw_m1 : ∀ w ∈ tables_1_1, w ∈ lw_tbl := fun w h => show w ∈ k2_sels lw_privs ++ tables_1 from List.mem_append_right (k2_sels lw_privs) (show w ∈ tables_1 from List.mem_append_left _ h)
theorem lw_m2 : ∀ w ∈ tables_1_2, w ∈ lw_tbl := fun w h => show w ∈ k2_sels lw_privs ++ tables_1 from List.mem_append_right (k2_sels lw_privs) (show w ∈ tables_1 from List.mem_append_right _ (List.mem_append_left _ h))
theorem lw_m3 : ∀ w ∈ tables_1_3, w ∈ lw_tbl := fun w h => show w ∈ k2_sels lw_privs ++ tables_1 from List.mem_append_right (k2_sels lw_privs) (show w ∈ tables_1 from List.mem_append_right _ (List.mem_append_right _ (List.mem_append_left _ h)))
theorem lw_m4 : ∀ w ∈ tables_1_4, w ∈ lw_tbl := fun w h => show w ∈ k2_sels lw_privs ++ tables_1 from List.mem_append_right (k2_sels lw_privs) (show w ∈ tables_1 from List.mem_append_right _ (List.mem_append_right _ (List.mem_append_right _ (List.mem_append_left _ h))))
theorem lw_m5 : ∀ w ∈ tables_1_5, w ∈ lw_tbl := fun w h => show w ∈ k2_sels lw_privs ++ tables_1 from List.mem_append_right (k2_sels lw_privs) (show w ∈ tables_1 from List.mem_append_right _ (List.mem_append_right _ (List.mem_append_right _ (List.mem_append_right _ (List.mem_append_left _ h)))))
theorem lw_m6 : ∀ w ∈ tables_1_6, w ∈ lw_tbl := fun w h => show w ∈ k2_sels lw_privs ++ tables_1 from List.mem_append_right (k2_sels lw_privs) (show w ∈ tables_1 from List.mem_append_right _ (List.mem_append_right _ (List.mem_append_right _ (List.mem_append_right _ (List.mem_append_right _ (List.mem_append_left _ h))))))
theorem lw_m7 : ∀ w ∈ tables_1_7, w ∈ lw_tbl := fun w h => show w ∈ k2_sels lw_privs ++ tables_1 from List.mem_append_right (k2_sels lw_privs) (show w ∈ tables_1 from List.mem_append_right _ (List.mem_append_right _ (List.mem_append_right _ (List.mem_append_right _ (List.mem_append_right _ (List.mem_append_right _ (List.mem_append_left _ h)))))))
theorem lw_m8 : ∀ w ∈ tables_1_8, w ∈ lw_tbl := fun w h => show w ∈ k2_sels lw_privs ++ tables_1 from List.mem_append_right (k2_sels lw_privs) (show w ∈ tables_1 from List.mem_append_right _ (List.mem_append_right _ (List.mem_append_right _ (List.mem_append_right _ (List.mem_append_right _ (List.mem_append_right _ (List.mem_append_right _ (List.mem_append_left _ h))))))))
theorem lw_m9 : ∀ w ∈ tables_1_9, w ∈ lw_tbl := fun w h => show w ∈ k2_sels lw_privs ++ tables_1 from List.mem_append_right (k2_sels lw_privs) (show w ∈ tables_1 from List.mem_append_right _ (List.mem_append_right _ (List.mem_append_right _ (List.mem_append_right _ (List.mem_append_right _ (List.mem_append_right _ (List.mem_append_right _ (List.mem_append_right _ h))))))))
theorem qs0 : (Cond.selects "java/util/ArrayList" ⟨"java/util/ArrayList", "add", "(Ljava/lang/Object;[Ljava/lang/Object;I)V"⟩ ⟨"java/util/ArrayList", "add", "(Ljava/lang/Object;[Ljava/lang/Object;I)V"⟩) ∈ lw_all := lw_g (lw_at lw_ms 0 rfl) rfl
theorem qs1 : (Cond.selects "java/util/ArrayList" ⟨"java/util/ArrayList", "grow", "()[Ljava/lang/Object;"⟩ ⟨"java/util/ArrayList", "grow", "()[Ljava/lang/Object;"⟩) ∈ lw_all := lw_g (lw_at lw_ms 1 rfl) rfl
theorem qs2 : (Cond.selects "java/util/ArrayList" ⟨"java/util/ArrayList", "grow", "(I)[Ljava/lang/Object;"⟩ ⟨"java/util/ArrayList", "grow", "(I)[Ljava/lang/Object;"⟩) ∈ lw_all := lw_g (lw_at lw_ms 2 rfl) rfl
theorem qs3 : (Cond.selects "WaterWorks" ⟨"WaterWorks", "plan", "(Ljava/util/ArrayList;LWaterWorks$Plan;Z)I"⟩ ⟨"WaterWorks", "plan", "(Ljava/util/ArrayList;LWaterWorks$Plan;Z)I"⟩) ∈ lw_all := lw_g (lw_at lw_ms 3 rfl) rfl
theorem qs4 : (Cond.selects "WaterWorks" ⟨"WaterWorks", "made", "(I[II)LWaterWorks$Guard;"⟩ ⟨"WaterWorks", "made", "(I[II)LWaterWorks$Guard;"⟩) ∈ lw_all := lw_g (lw_at lw_ms 4 rfl) rfl
theorem qs5 : (Cond.selects "WaterWorks" ⟨"WaterWorks", "begins", "(IIIII)I"⟩ ⟨"WaterWorks", "begins", "(IIIII)I"⟩) ∈ lw_all := lw_g (lw_at lw_ms 5 rfl) rfl
theorem qs6 : (Cond.selects "WaterWorks" ⟨"WaterWorks", "begin", "(LWaterWorks$Order;ILWaterWorks$Call;)V"⟩ ⟨"WaterWorks", "begin", "(LWaterWorks$Order;ILWaterWorks$Call;)V"⟩) ∈ lw_all := lw_g (lw_at lw_ms 6 rfl) rfl
theorem qs7 : (Cond.selects "WaterWorks" ⟨"WaterWorks", "beginTry", "(LWaterWorks$Order;ILWaterWorks$Call;I)V"⟩ ⟨"WaterWorks", "beginTry", "(LWaterWorks$Order;ILWaterWorks$Call;I)V"⟩) ∈ lw_all := lw_g (lw_at lw_ms 7 rfl) rfl
theorem qs8 : (Cond.selects "WaterWorks" ⟨"WaterWorks", "add", "(LWaterWorks$Order;ILWaterWorks$Call;LWaterWorks$Guard;I)LWaterWorks$Call;"⟩ ⟨"WaterWorks", "add", "(LWaterWorks$Order;ILWaterWorks$Call;LWaterWorks$Guard;I)LWaterWorks$Call;"⟩) ∈ lw_all := lw_g (lw_at lw_ms 8 rfl) rfl
theorem qs9 : (Cond.selects "WaterWorks$Bulkhead" ⟨"WaterWorks$Bulkhead", "works", "(LWaterWorks$Call;)V"⟩ ⟨"WaterWorks$Bulkhead", "works", "(LWaterWorks$Call;)V"⟩) ∈ lw_all := lw_g (lw_at lw_ms 9 rfl) rfl
theorem qs10 : (Cond.selects "WaterWorks" ⟨"WaterWorks", "goesIn", "(LWaterWorks$Call;)V"⟩ ⟨"WaterWorks", "goesIn", "(LWaterWorks$Call;)V"⟩) ∈ lw_all := lw_g (lw_at lw_ms 10 rfl) rfl
theorem qs11 : (Cond.selects "WaterWorks" ⟨"WaterWorks", "failed", "(III)LWaterWorks$Failure;"⟩ ⟨"WaterWorks", "failed", "(III)LWaterWorks$Failure;"⟩) ∈ lw_all := lw_g (lw_at lw_ms 11 rfl) rfl
theorem qs12 : (Cond.selects "WaterWorks" ⟨"WaterWorks", "fails", "(LWaterWorks$Call;LWaterWorks$Failure;)V"⟩ ⟨"WaterWorks", "fails", "(LWaterWorks$Call;LWaterWorks$Failure;)V"⟩) ∈ lw_all := lw_g (lw_at lw_ms 12 rfl) rfl
theorem qs13 : (Cond.selects "WaterWorks" ⟨"WaterWorks", "ended", "(LWaterWorks$Call;)V"⟩ ⟨"WaterWorks", "ended", "(LWaterWorks$Call;)V"⟩) ∈ lw_all := lw_g (lw_at lw_ms 13 rfl) rfl
theorem qs14 : (Cond.selects "WaterWorks" ⟨"WaterWorks", "alike", "(LWaterWorks$Call;LWaterWorks$Call;)V"⟩ ⟨"WaterWorks", "alike", "(LWaterWorks$Call;LWaterWorks$Call;)V"⟩) ∈ lw_all := lw_g (lw_at lw_ms 14 rfl) rfl
theorem qs15 : (Cond.selects "WaterWorks" ⟨"WaterWorks", "good", "(LWaterWorks$Call;IZ)V"⟩ ⟨"WaterWorks", "good", "(LWaterWorks$Call;IZ)V"⟩) ∈ lw_all := lw_g (lw_at lw_ms 15 rfl) rfl
theorem qs16 : (Cond.selects "WaterWorks$Fuse" ⟨"WaterWorks$Fuse", "opens", "(I)V"⟩ ⟨"WaterWorks$Fuse", "opens", "(I)V"⟩) ∈ lw_all := lw_g (lw_at lw_ms 16 rfl) rfl
theorem qs17 : (Cond.selects "WaterWorks$Fuse" ⟨"WaterWorks$Fuse", "closes", "()V"⟩ ⟨"WaterWorks$Fuse", "closes", "()V"⟩) ∈ lw_all := lw_g (lw_at lw_ms 17 rfl) rfl
theorem qs18 : (Cond.selects "WaterWorks" ⟨"WaterWorks", "takeBack", "(LWaterWorks$Call;)I"⟩ ⟨"WaterWorks", "takeBack", "(LWaterWorks$Call;)I"⟩) ∈ lw_all := lw_g (lw_at lw_ms 18 rfl) rfl
theorem qs19 : (Cond.selects "java/util/ArrayList" ⟨"java/util/ArrayList", "fastRemove", "([Ljava/lang/Object;I)V"⟩ ⟨"java/util/ArrayList", "fastRemove", "([Ljava/lang/Object;I)V"⟩) ∈ lw_all := lw_g (lw_at lw_ms 19 rfl) rfl
theorem qs20 : (Cond.selects "WaterWorks$Join" ⟨"WaterWorks$Join", "leader", "(LWaterWorks$Call;)LWaterWorks$Call;"⟩ ⟨"WaterWorks$Join", "leader", "(LWaterWorks$Call;)LWaterWorks$Call;"⟩) ∈ lw_all := lw_g (lw_at lw_ms 20 rfl) rfl
theorem qs21 : (Cond.selects "WaterWorks" ⟨"WaterWorks", "pass", "()V"⟩ ⟨"WaterWorks", "pass", "()V"⟩) ∈ lw_all := lw_g (lw_at lw_ms 21 rfl) rfl
theorem qs22 : (Cond.selects "WaterWorks" ⟨"WaterWorks", "ends", "(LWaterWorks$Call;)V"⟩ ⟨"WaterWorks", "ends", "(LWaterWorks$Call;)V"⟩) ∈ lw_all := lw_g (lw_at lw_ms 22 rfl) rfl
theorem qs23 : (Cond.selects "WaterWorks" ⟨"WaterWorks", "keyed", "(II)LWaterWorks$Effect;"⟩ ⟨"WaterWorks", "keyed", "(II)LWaterWorks$Effect;"⟩) ∈ lw_all := lw_g (lw_at lw_ms 23 rfl) rfl
theorem qs24 : (Cond.selects "WaterWorks" ⟨"WaterWorks", "moves", "(LWaterWorks$Call;LWaterWorks$Station;I)V"⟩ ⟨"WaterWorks", "moves", "(LWaterWorks$Call;LWaterWorks$Station;I)V"⟩) ∈ lw_all := lw_g (lw_at lw_ms 24 rfl) rfl
theorem qs25 : (Cond.selects "WaterWorks" ⟨"WaterWorks", "dueOf", "(I)V"⟩ ⟨"WaterWorks", "dueOf", "(I)V"⟩) ∈ lw_all := lw_g (lw_at lw_ms 25 rfl) rfl
theorem qs26 : (Cond.selects "WaterWorks" ⟨"WaterWorks", "fuseOf", "(I)LWaterWorks$Fuse;"⟩ ⟨"WaterWorks", "fuseOf", "(I)LWaterWorks$Fuse;"⟩) ∈ lw_all := lw_g (lw_at lw_ms 26 rfl) rfl
theorem qs27 : (Cond.selects "WaterWorks" ⟨"WaterWorks", "bulkheadOf", "(I)LWaterWorks$Bulkhead;"⟩ ⟨"WaterWorks", "bulkheadOf", "(I)LWaterWorks$Bulkhead;"⟩) ∈ lw_all := lw_g (lw_at lw_ms 27 rfl) rfl
theorem qs28 : (Cond.selects "WaterWorksModel" ⟨"WaterWorksModel", "isStation", "(I)Z"⟩ ⟨"WaterWorksModel", "isStation", "(I)Z"⟩) ∈ lw_all := lw_g (lw_at lw_ms 28 rfl) rfl
theorem qs29 : (Cond.selects "WaterWorksModel" ⟨"WaterWorksModel", "isAct", "(I)Z"⟩ ⟨"WaterWorksModel", "isAct", "(I)Z"⟩) ∈ lw_all := lw_g (lw_at lw_ms 29 rfl) rfl
theorem qs30 : (Cond.selects "WaterWorksModel" ⟨"WaterWorksModel", "isUnder", "(II)Z"⟩ ⟨"WaterWorksModel", "isUnder", "(II)Z"⟩) ∈ lw_all := lw_g (lw_at lw_ms 30 rfl) rfl
theorem qs31 : (Cond.selects "WaterWorksModel" ⟨"WaterWorksModel", "over", "(I)I"⟩ ⟨"WaterWorksModel", "over", "(I)I"⟩) ∈ lw_all := lw_g (lw_at lw_ms 31 rfl) rfl
theorem qs32 : (Cond.selects "WaterWorksModel" ⟨"WaterWorksModel", "isGood", "(IIII)Z"⟩ ⟨"WaterWorksModel", "isGood", "(IIII)Z"⟩) ∈ lw_all := lw_g (lw_at lw_ms 32 rfl) rfl
theorem qs33 : (Cond.selects "WaterWorksModel" ⟨"WaterWorksModel", "in", "(III)Z"⟩ ⟨"WaterWorksModel", "in", "(III)Z"⟩) ∈ lw_all := lw_g (lw_at lw_ms 33 rfl) rfl
theorem qs34 : (Cond.selects "WaterWorksModel" ⟨"WaterWorksModel", "isTower", "(I)Z"⟩ ⟨"WaterWorksModel", "isTower", "(I)Z"⟩) ∈ lw_all := lw_g (lw_at lw_ms 34 rfl) rfl
theorem qs35 : (Cond.selects "WaterWorksModel" ⟨"WaterWorksModel", "isAmount", "(II)Z"⟩ ⟨"WaterWorksModel", "isAmount", "(II)Z"⟩) ∈ lw_all := lw_g (lw_at lw_ms 35 rfl) rfl
theorem qs36 : (Cond.selects "WaterWorksModel" ⟨"WaterWorksModel", "made", "(IIIII)I"⟩ ⟨"WaterWorksModel", "made", "(IIIII)I"⟩) ∈ lw_all := lw_g (lw_at lw_ms 36 rfl) rfl
theorem qs37 : (Cond.selects "WaterWorksModel" ⟨"WaterWorksModel", "add", "(IIIII)V"⟩ ⟨"WaterWorksModel", "add", "(IIIII)V"⟩) ∈ lw_all := lw_g (lw_at lw_ms 37 rfl) rfl
theorem qs38 : (Cond.selects "WaterWorksModel" ⟨"WaterWorksModel", "work", "()V"⟩ ⟨"WaterWorksModel", "work", "()V"⟩) ∈ lw_all := lw_g (lw_at lw_ms 38 rfl) rfl
theorem qs39 : (Cond.selects "WaterWorksModel" ⟨"WaterWorksModel", "begins", "(IIII)V"⟩ ⟨"WaterWorksModel", "begins", "(IIII)V"⟩) ∈ lw_all := lw_g (lw_at lw_ms 39 rfl) rfl
theorem qs40 : (Cond.selects "WaterWorksModel" ⟨"WaterWorksModel", "guardAt", "(II)I"⟩ ⟨"WaterWorksModel", "guardAt", "(II)I"⟩) ∈ lw_all := lw_g (lw_at lw_ms 40 rfl) rfl
theorem qs41 : (Cond.selects "WaterWorksModel" ⟨"WaterWorksModel", "entered", "(II)V"⟩ ⟨"WaterWorksModel", "entered", "(II)V"⟩) ∈ lw_all := lw_g (lw_at lw_ms 41 rfl) rfl
theorem qs42 : (Cond.selects "WaterWorksModel" ⟨"WaterWorksModel", "goesIn", "(I)V"⟩ ⟨"WaterWorksModel", "goesIn", "(I)V"⟩) ∈ lw_all := lw_g (lw_at lw_ms 42 rfl) rfl
theorem qs43 : (Cond.selects "WaterWorksModel" ⟨"WaterWorksModel", "setToWork", "(II)V"⟩ ⟨"WaterWorksModel", "setToWork", "(II)V"⟩) ∈ lw_all := lw_g (lw_at lw_ms 43 rfl) rfl
theorem qs44 : (Cond.selects "WaterWorksModel" ⟨"WaterWorksModel", "isAlike", "(II)Z"⟩ ⟨"WaterWorksModel", "isAlike", "(II)Z"⟩) ∈ lw_all := lw_g (lw_at lw_ms 44 rfl) rfl
theorem qs45 : (Cond.selects "WaterWorksModel" ⟨"WaterWorksModel", "tryEnd", "(II)I"⟩ ⟨"WaterWorksModel", "tryEnd", "(II)I"⟩) ∈ lw_all := lw_g (lw_at lw_ms 45 rfl) rfl
theorem qs46 : (Cond.selects "WaterWorksModel" ⟨"WaterWorksModel", "ends", "(IIIZ)V"⟩ ⟨"WaterWorksModel", "ends", "(IIIZ)V"⟩) ∈ lw_all := lw_g (lw_at lw_ms 46 rfl) rfl
theorem qs47 : (Cond.selects "WaterWorksModel" ⟨"WaterWorksModel", "told", "(II)V"⟩ ⟨"WaterWorksModel", "told", "(II)V"⟩) ∈ lw_all := lw_g (lw_at lw_ms 47 rfl) rfl
theorem qs48 : (Cond.selects "WaterWorksModel" ⟨"WaterWorksModel", "fuseTold", "(III)V"⟩ ⟨"WaterWorksModel", "fuseTold", "(III)V"⟩) ∈ lw_all := lw_g (lw_at lw_ms 48 rfl) rfl
theorem qs49 : (Cond.selects "WaterWorksModel" ⟨"WaterWorksModel", "isNamed", "(II)Z"⟩ ⟨"WaterWorksModel", "isNamed", "(II)Z"⟩) ∈ lw_all := lw_g (lw_at lw_ms 49 rfl) rfl
theorem qs50 : (Cond.selects "WaterWorksModel" ⟨"WaterWorksModel", "opens", "(II)V"⟩ ⟨"WaterWorksModel", "opens", "(II)V"⟩) ∈ lw_all := lw_g (lw_at lw_ms 50 rfl) rfl
theorem qs51 : (Cond.selects "WaterWorksModel" ⟨"WaterWorksModel", "alike", "(II)V"⟩ ⟨"WaterWorksModel", "alike", "(II)V"⟩) ∈ lw_all := lw_g (lw_at lw_ms 51 rfl) rfl
theorem qs52 : (Cond.selects "WaterWorksModel" ⟨"WaterWorksModel", "retryTold", "(III)V"⟩ ⟨"WaterWorksModel", "retryTold", "(III)V"⟩) ∈ lw_all := lw_g (lw_at lw_ms 52 rfl) rfl
theorem qs53 : (Cond.selects "WaterWorksModel" ⟨"WaterWorksModel", "hedgeTold", "(II)V"⟩ ⟨"WaterWorksModel", "hedgeTold", "(II)V"⟩) ∈ lw_all := lw_g (lw_at lw_ms 53 rfl) rfl
theorem qs54 : (Cond.selects "WaterWorksModel" ⟨"WaterWorksModel", "otherOf", "(II)I"⟩ ⟨"WaterWorksModel", "otherOf", "(II)I"⟩) ∈ lw_all := lw_g (lw_at lw_ms 54 rfl) rfl
theorem qs55 : (Cond.selects "WaterWorksModel" ⟨"WaterWorksModel", "takeBack", "(II)I"⟩ ⟨"WaterWorksModel", "takeBack", "(II)I"⟩) ∈ lw_all := lw_g (lw_at lw_ms 55 rfl) rfl
theorem qs56 : (Cond.selects "WaterWorksModel" ⟨"WaterWorksModel", "fallbackTold", "(III)V"⟩ ⟨"WaterWorksModel", "fallbackTold", "(III)V"⟩) ∈ lw_all := lw_g (lw_at lw_ms 56 rfl) rfl
theorem qs57 : (Cond.selects "WaterWorksModel" ⟨"WaterWorksModel", "fails", "(III)I"⟩ ⟨"WaterWorksModel", "fails", "(III)I"⟩) ∈ lw_all := lw_g (lw_at lw_ms 57 rfl) rfl
theorem qs58 : (Cond.selects "WaterWorksModel" ⟨"WaterWorksModel", "failsNow", "(II)V"⟩ ⟨"WaterWorksModel", "failsNow", "(II)V"⟩) ∈ lw_all := lw_g (lw_at lw_ms 58 rfl) rfl
theorem qs59 : (Cond.selects "WaterWorksModel" ⟨"WaterWorksModel", "freeJoined", "(II)V"⟩ ⟨"WaterWorksModel", "freeJoined", "(II)V"⟩) ∈ lw_all := lw_g (lw_at lw_ms 59 rfl) rfl
theorem qs60 : (Cond.selects "WaterWorksModel" ⟨"WaterWorksModel", "takenBack", "(II)V"⟩ ⟨"WaterWorksModel", "takenBack", "(II)V"⟩) ∈ lw_all := lw_g (lw_at lw_ms 60 rfl) rfl
theorem qs61 : (Cond.selects "WaterWorksModel" ⟨"WaterWorksModel", "gone", "(II)V"⟩ ⟨"WaterWorksModel", "gone", "(II)V"⟩) ∈ lw_all := lw_g (lw_at lw_ms 61 rfl) rfl
theorem qs62 : (Cond.selects "WaterWorksModel" ⟨"WaterWorksModel", "isGuard", "(II)Z"⟩ ⟨"WaterWorksModel", "isGuard", "(II)Z"⟩) ∈ lw_all := lw_g (lw_at lw_ms 62 rfl) rfl
theorem qs63 : (Cond.selects "WaterWorksModel" ⟨"WaterWorksModel", "tick", "()V"⟩ ⟨"WaterWorksModel", "tick", "()V"⟩) ∈ lw_all := lw_g (lw_at lw_ms 63 rfl) rfl
theorem qs64 : (Cond.selects "WaterWorksModel" ⟨"WaterWorksModel", "tryEnds", "(I)V"⟩ ⟨"WaterWorksModel", "tryEnds", "(I)V"⟩) ∈ lw_all := lw_g (lw_at lw_ms 64 rfl) rfl
theorem qs65 : (Cond.selects "WaterWorksModel" ⟨"WaterWorksModel", "late", "(I)V"⟩ ⟨"WaterWorksModel", "late", "(I)V"⟩) ∈ lw_all := lw_g (lw_at lw_ms 65 rfl) rfl
theorem qs66 : (Cond.selects "WaterWorksModel" ⟨"WaterWorksModel", "planDue", "(I)V"⟩ ⟨"WaterWorksModel", "planDue", "(I)V"⟩) ∈ lw_all := lw_g (lw_at lw_ms 66 rfl) rfl
theorem qs67 : (Cond.selects "WaterWorksModel" ⟨"WaterWorksModel", "isSo", "(I)Z"⟩ ⟨"WaterWorksModel", "isSo", "(I)Z"⟩) ∈ lw_all := lw_g (lw_at lw_ms 67 rfl) rfl
