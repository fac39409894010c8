-- ===== PART A: goes FIRST, ahead of the names: the tables' words, and 'selects' of the private methods out of them =====
/-- a private method of a class that the tables say can be made, by its rows of tables_1 -/
def lw_okq (q : MethodName × Nat) : Prop := (q.1.cls ≠ "java/lang/invoke/MethodHandle" ∧ q.1.cls ≠ "java/lang/invoke/VarHandle") ∧ Cond.instantiable q.1.cls q.2 ∈ tables_1 ∧ Cond.privateMethod q.1 ∈ tables_1 ∧ Cond.instanceMethod q.1 ∈ tables_1
set_option maxRecDepth 100000
theorem lw_t1 {w : Cond} (h : w ∈ tables_1_1) : w ∈ tables_1 := List.mem_append_left _ h
theorem lw_t2 {w : Cond} (h : w ∈ tables_1_2) : w ∈ tables_1 := List.mem_append_right _ (List.mem_append_left _ h)
theorem lw_t3 {w : Cond} (h : w ∈ tables_1_3) : w ∈ tables_1 := List.mem_append_right _ (List.mem_append_right _ (List.mem_append_left _ h))
theorem lw_t4 {w : Cond} (h : w ∈ tables_1_4) : w ∈ tables_1 := List.mem_append_right _ (List.mem_append_right _ (List.mem_append_right _ (List.mem_append_left _ h)))
theorem lw_t5 {w : Cond} (h : w ∈ tables_1_5) : w ∈ tables_1 := List.mem_append_right _ (List.mem_append_right _ (List.mem_append_right _ (List.mem_append_right _ (List.mem_append_left _ h))))
theorem lw_t6 {w : Cond} (h : w ∈ tables_1_6) : w ∈ tables_1 := List.mem_append_right _ (List.mem_append_right _ (List.mem_append_right _ (List.mem_append_right _ (List.mem_append_right _ (List.mem_append_left _ h)))))
theorem lw_t7 {w : Cond} (h : w ∈ tables_1_7) : w ∈ tables_1 := List.mem_append_right _ (List.mem_append_right _ (List.mem_append_right _ (List.mem_append_right _ (List.mem_append_right _ (List.mem_append_right _ (List.mem_append_left _ h))))))
theorem lw_t8 {w : Cond} (h : w ∈ tables_1_8) : w ∈ tables_1 := List.mem_append_right _ (List.mem_append_right _ (List.mem_append_right _ (List.mem_append_right _ (List.mem_append_right _ (List.mem_append_right _ (List.mem_append_right _ (List.mem_append_left _ h)))))))
theorem lw_t9 {w : Cond} (h : w ∈ tables_1_9) : w ∈ tables_1 := List.mem_append_right _ (List.mem_append_right _ (List.mem_append_right _ (List.mem_append_right _ (List.mem_append_right _ (List.mem_append_right _ (List.mem_append_right _ (List.mem_append_right _ (List.mem_append_left _ h))))))))
theorem lw_t10 {w : Cond} (h : w ∈ tables_1_10) : w ∈ tables_1 := List.mem_append_right _ (List.mem_append_right _ (List.mem_append_right _ (List.mem_append_right _ (List.mem_append_right _ (List.mem_append_right _ (List.mem_append_right _ (List.mem_append_right _ (List.mem_append_right _ (List.mem_append_left _ h)))))))))
theorem lw_t11 {w : Cond} (h : w ∈ tables_1_11) : w ∈ tables_1 := List.mem_append_right _ (List.mem_append_right _ (List.mem_append_right _ (List.mem_append_right _ (List.mem_append_right _ (List.mem_append_right _ (List.mem_append_right _ (List.mem_append_right _ (List.mem_append_right _ (List.mem_append_right _ (List.mem_append_left _ h))))))))))
theorem lw_t12 {w : Cond} (h : w ∈ tables_1_12) : w ∈ tables_1 := List.mem_append_right _ (List.mem_append_right _ (List.mem_append_right _ (List.mem_append_right _ (List.mem_append_right _ (List.mem_append_right _ (List.mem_append_right _ (List.mem_append_right _ (List.mem_append_right _ (List.mem_append_right _ (List.mem_append_right _ (List.mem_append_left _ h)))))))))))
theorem lw_t13 {w : Cond} (h : w ∈ tables_1_13) : w ∈ tables_1 := List.mem_append_right _ (List.mem_append_right _ (List.mem_append_right _ (List.mem_append_right _ (List.mem_append_right _ (List.mem_append_right _ (List.mem_append_right _ (List.mem_append_right _ (List.mem_append_right _ (List.mem_append_right _ (List.mem_append_right _ (List.mem_append_right _ (List.mem_append_left _ h))))))))))))
theorem lw_t14 {w : Cond} (h : w ∈ tables_1_14) : w ∈ tables_1 := List.mem_append_right _ (List.mem_append_right _ (List.mem_append_right _ (List.mem_append_right _ (List.mem_append_right _ (List.mem_append_right _ (List.mem_append_right _ (List.mem_append_right _ (List.mem_append_right _ (List.mem_append_right _ (List.mem_append_right _ (List.mem_append_right _ (List.mem_append_right _ h))))))))))))
theorem lw_p0 : lw_okq (⟨"PlanMemo", "shelf", "(I)LPlanMemo$Shelf;"⟩, 11) := ⟨⟨by decide +kernel, by decide +kernel⟩, lw_t1 (List.mem_of_getElem? (i := 73) rfl), lw_t3 (List.mem_of_getElem? (i := 60) rfl), lw_t3 (List.mem_of_getElem? (i := 61) rfl)⟩
theorem lw_p1 : lw_okq (⟨"java/lang/NullPointerException", "getExtendedNPEMessage", "()Ljava/lang/String;"⟩, 8) := ⟨⟨by decide +kernel, by decide +kernel⟩, lw_t3 (List.mem_of_getElem? (i := 99) rfl), lw_t3 (List.mem_of_getElem? (i := 97) rfl), lw_t3 (List.mem_of_getElem? (i := 98) rfl)⟩
theorem lw_p2 : lw_okq (⟨"java/lang/Throwable", "fillInStackTrace", "(I)Ljava/lang/Throwable;"⟩, 6) := ⟨⟨by decide +kernel, by decide +kernel⟩, lw_t3 (List.mem_of_getElem? (i := 111) rfl), lw_t3 (List.mem_of_getElem? (i := 109) rfl), lw_t3 (List.mem_of_getElem? (i := 110) rfl)⟩
theorem lw_p3 : lw_okq (⟨"PlanMemo", "refused", "(LPlanMemo$Refused;)I"⟩, 11) := ⟨⟨by decide +kernel, by decide +kernel⟩, lw_t1 (List.mem_of_getElem? (i := 73) rfl), lw_t4 (List.mem_of_getElem? (i := 7) rfl), lw_t4 (List.mem_of_getElem? (i := 8) rfl)⟩
theorem lw_p4 : lw_okq (⟨"PlanMemo", "beyond", "()I"⟩, 11) := ⟨⟨by decide +kernel, by decide +kernel⟩, lw_t1 (List.mem_of_getElem? (i := 73) rfl), lw_t4 (List.mem_of_getElem? (i := 211) rfl), lw_t4 (List.mem_of_getElem? (i := 212) rfl)⟩
theorem lw_p5 : lw_okq (⟨"PlanMemo$Memo", "isAlike", "(IIIII)Z"⟩, 19) := ⟨⟨by decide +kernel, by decide +kernel⟩, lw_t2 (List.mem_of_getElem? (i := 126) rfl), lw_t4 (List.mem_of_getElem? (i := 238) rfl), lw_t4 (List.mem_of_getElem? (i := 239) rfl)⟩
theorem lw_p6 : lw_okq (⟨"PlanMemo", "mustGroup", "(I)V"⟩, 11) := ⟨⟨by decide +kernel, by decide +kernel⟩, lw_t1 (List.mem_of_getElem? (i := 73) rfl), lw_t6 (List.mem_of_getElem? (i := 172) rfl), lw_t6 (List.mem_of_getElem? (i := 173) rfl)⟩
theorem lw_p7 : lw_okq (⟨"PlanMemo", "columnsOf", "(I)I"⟩, 11) := ⟨⟨by decide +kernel, by decide +kernel⟩, lw_t1 (List.mem_of_getElem? (i := 73) rfl), lw_t6 (List.mem_of_getElem? (i := 181) rfl), lw_t6 (List.mem_of_getElem? (i := 182) rfl)⟩
theorem lw_p8 : lw_okq (⟨"PlanMemo", "pair", "(IIII)I"⟩, 11) := ⟨⟨by decide +kernel, by decide +kernel⟩, lw_t1 (List.mem_of_getElem? (i := 73) rfl), lw_t6 (List.mem_of_getElem? (i := 194) rfl), lw_t6 (List.mem_of_getElem? (i := 195) rfl)⟩
theorem lw_p9 : lw_okq (⟨"PlanMemo$Reader", "expression", "()LPlanMemo$Said;"⟩, 3) := ⟨⟨by decide +kernel, by decide +kernel⟩, lw_t6 (List.mem_of_getElem? (i := 207) rfl), lw_t6 (List.mem_of_getElem? (i := 227) rfl), lw_t6 (List.mem_of_getElem? (i := 228) rfl)⟩
theorem lw_p10 : lw_okq (⟨"PlanMemo$Reader", "word", "()Ljava/lang/String;"⟩, 3) := ⟨⟨by decide +kernel, by decide +kernel⟩, lw_t6 (List.mem_of_getElem? (i := 207) rfl), lw_t6 (List.mem_of_getElem? (i := 231) rfl), lw_t6 (List.mem_of_getElem? (i := 232) rfl)⟩
theorem lw_p11 : lw_okq (⟨"PlanMemo$Reader", "begun", "()Ljava/lang/String;"⟩, 3) := ⟨⟨by decide +kernel, by decide +kernel⟩, lw_t6 (List.mem_of_getElem? (i := 207) rfl), lw_t6 (List.mem_of_getElem? (i := 235) rfl), lw_t6 (List.mem_of_getElem? (i := 236) rfl)⟩
theorem lw_p12 : lw_okq (⟨"PlanMemo$Reader", "ends", "()Z"⟩, 3) := ⟨⟨by decide +kernel, by decide +kernel⟩, lw_t6 (List.mem_of_getElem? (i := 207) rfl), lw_t6 (List.mem_of_getElem? (i := 239) rfl), lw_t7 (List.mem_of_getElem? (i := 0) rfl)⟩
theorem lw_p13 : lw_okq (⟨"PlanMemo$Reader", "must", "(I)V"⟩, 3) := ⟨⟨by decide +kernel, by decide +kernel⟩, lw_t6 (List.mem_of_getElem? (i := 207) rfl), lw_t7 (List.mem_of_getElem? (i := 76) rfl), lw_t7 (List.mem_of_getElem? (i := 77) rfl)⟩
theorem lw_p14 : lw_okq (⟨"PlanMemo$Reader", "digit", "(I)I"⟩, 3) := ⟨⟨by decide +kernel, by decide +kernel⟩, lw_t6 (List.mem_of_getElem? (i := 207) rfl), lw_t7 (List.mem_of_getElem? (i := 137) rfl), lw_t7 (List.mem_of_getElem? (i := 138) rfl)⟩
theorem lw_p15 : lw_okq (⟨"PlanMemo$Reader", "holds", "(ZI)V"⟩, 3) := ⟨⟨by decide +kernel, by decide +kernel⟩, lw_t6 (List.mem_of_getElem? (i := 207) rfl), lw_t7 (List.mem_of_getElem? (i := 143) rfl), lw_t7 (List.mem_of_getElem? (i := 144) rfl)⟩
def lw_privs_1 : List (MethodName × Nat) := [(⟨"PlanMemo", "shelf", "(I)LPlanMemo$Shelf;"⟩, 11), (⟨"java/lang/NullPointerException", "getExtendedNPEMessage", "()Ljava/lang/String;"⟩, 8), (⟨"java/lang/Throwable", "fillInStackTrace", "(I)Ljava/lang/Throwable;"⟩, 6), (⟨"PlanMemo", "refused", "(LPlanMemo$Refused;)I"⟩, 11), (⟨"PlanMemo", "beyond", "()I"⟩, 11), (⟨"PlanMemo$Memo", "isAlike", "(IIIII)Z"⟩, 19), (⟨"PlanMemo", "mustGroup", "(I)V"⟩, 11), (⟨"PlanMemo", "columnsOf", "(I)I"⟩, 11), (⟨"PlanMemo", "pair", "(IIII)I"⟩, 11), (⟨"PlanMemo$Reader", "expression", "()LPlanMemo$Said;"⟩, 3), (⟨"PlanMemo$Reader", "word", "()Ljava/lang/String;"⟩, 3), (⟨"PlanMemo$Reader", "begun", "()Ljava/lang/String;"⟩, 3), (⟨"PlanMemo$Reader", "ends", "()Z"⟩, 3), (⟨"PlanMemo$Reader", "must", "(I)V"⟩, 3), (⟨"PlanMemo$Reader", "digit", "(I)I"⟩, 3), (⟨"PlanMemo$Reader", "holds", "(ZI)V"⟩, 3)]
theorem lw_r1 : ∀ q ∈ lw_privs_1, lw_okq q := List.forall_mem_cons.mpr ⟨lw_p0, List.forall_mem_cons.mpr ⟨lw_p1, List.forall_mem_cons.mpr ⟨lw_p2, List.forall_mem_cons.mpr ⟨lw_p3, List.forall_mem_cons.mpr ⟨lw_p4, List.forall_mem_cons.mpr ⟨lw_p5, List.forall_mem_cons.mpr ⟨lw_p6, List.forall_mem_cons.mpr ⟨lw_p7, List.forall_mem_cons.mpr ⟨lw_p8, List.forall_mem_cons.mpr ⟨lw_p9, List.forall_mem_cons.mpr ⟨lw_p10, List.forall_mem_cons.mpr ⟨lw_p11, List.forall_mem_cons.mpr ⟨lw_p12, List.forall_mem_cons.mpr ⟨lw_p13, List.forall_mem_cons.mpr ⟨lw_p14, List.forall_mem_cons.mpr ⟨lw_p15, fun _ h => absurd h List.not_mem_nil⟩⟩⟩⟩⟩⟩⟩⟩⟩⟩⟩⟩⟩⟩⟩⟩
theorem lw_p16 : lw_okq (⟨"PlanMemo$Reader", "single", "(III)LPlanMemo$Said;"⟩, 3) := ⟨⟨by decide +kernel, by decide +kernel⟩, lw_t6 (List.mem_of_getElem? (i := 207) rfl), lw_t7 (List.mem_of_getElem? (i := 171) rfl), lw_t7 (List.mem_of_getElem? (i := 172) rfl)⟩
theorem lw_p17 : lw_okq (⟨"PlanMemo$Reader", "pair", "(III)LPlanMemo$Said;"⟩, 3) := ⟨⟨by decide +kernel, by decide +kernel⟩, lw_t6 (List.mem_of_getElem? (i := 207) rfl), lw_t7 (List.mem_of_getElem? (i := 195) rfl), lw_t7 (List.mem_of_getElem? (i := 196) rfl)⟩
theorem lw_p18 : lw_okq (⟨"PlanMemo$Memo", "unite", "(II)Z"⟩, 19) := ⟨⟨by decide +kernel, by decide +kernel⟩, lw_t2 (List.mem_of_getElem? (i := 126) rfl), lw_t8 (List.mem_of_getElem? (i := 16) rfl), lw_t8 (List.mem_of_getElem? (i := 17) rfl)⟩
theorem lw_p19 : lw_okq (⟨"PlanMemo$Memo", "drop", "(I)Z"⟩, 19) := ⟨⟨by decide +kernel, by decide +kernel⟩, lw_t2 (List.mem_of_getElem? (i := 126) rfl), lw_t8 (List.mem_of_getElem? (i := 22) rfl), lw_t8 (List.mem_of_getElem? (i := 23) rfl)⟩
theorem lw_p20 : lw_okq (⟨"PlanMemo$Memo", "count", "()V"⟩, 19) := ⟨⟨by decide +kernel, by decide +kernel⟩, lw_t2 (List.mem_of_getElem? (i := 126) rfl), lw_t8 (List.mem_of_getElem? (i := 48) rfl), lw_t8 (List.mem_of_getElem? (i := 49) rfl)⟩
theorem lw_p21 : lw_okq (⟨"PlanMemo", "usersOf", "(I)I"⟩, 11) := ⟨⟨by decide +kernel, by decide +kernel⟩, lw_t1 (List.mem_of_getElem? (i := 73) rfl), lw_t8 (List.mem_of_getElem? (i := 98) rfl), lw_t8 (List.mem_of_getElem? (i := 99) rfl)⟩
theorem lw_p22 : lw_okq (⟨"PlanMemo", "isInput", "(II)Z"⟩, 11) := ⟨⟨by decide +kernel, by decide +kernel⟩, lw_t1 (List.mem_of_getElem? (i := 73) rfl), lw_t8 (List.mem_of_getElem? (i := 102) rfl), lw_t8 (List.mem_of_getElem? (i := 103) rfl)⟩
theorem lw_p23 : lw_okq (⟨"PlanMemo$Firing", "findsBy", "(J)Z"⟩, 7) := ⟨⟨by decide +kernel, by decide +kernel⟩, lw_t1 (List.mem_of_getElem? (i := 100) rfl), lw_t8 (List.mem_of_getElem? (i := 122) rfl), lw_t8 (List.mem_of_getElem? (i := 123) rfl)⟩
theorem lw_p24 : lw_okq (⟨"PlanMemo$Firing", "findsSecond", "(J)Z"⟩, 7) := ⟨⟨by decide +kernel, by decide +kernel⟩, lw_t1 (List.mem_of_getElem? (i := 100) rfl), lw_t8 (List.mem_of_getElem? (i := 191) rfl), lw_t8 (List.mem_of_getElem? (i := 192) rfl)⟩
theorem lw_p25 : lw_okq (⟨"PlanMemo$Firing", "drafted", "()LPlanMemo$Rule;"⟩, 7) := ⟨⟨by decide +kernel, by decide +kernel⟩, lw_t1 (List.mem_of_getElem? (i := 100) rfl), lw_t9 (List.mem_of_getElem? (i := 2) rfl), lw_t9 (List.mem_of_getElem? (i := 3) rfl)⟩
theorem lw_p26 : lw_okq (⟨"PlanMemo", "demand", "(III)I"⟩, 11) := ⟨⟨by decide +kernel, by decide +kernel⟩, lw_t1 (List.mem_of_getElem? (i := 73) rfl), lw_t9 (List.mem_of_getElem? (i := 108) rfl), lw_t9 (List.mem_of_getElem? (i := 109) rfl)⟩
theorem lw_p27 : lw_okq (⟨"PlanMemo", "costOf", "(II)J"⟩, 11) := ⟨⟨by decide +kernel, by decide +kernel⟩, lw_t1 (List.mem_of_getElem? (i := 73) rfl), lw_t9 (List.mem_of_getElem? (i := 117) rfl), lw_t9 (List.mem_of_getElem? (i := 118) rfl)⟩
theorem lw_p28 : lw_okq (⟨"PlanMemo$Search", "demandAll", "(I)V"⟩, 18) := ⟨⟨by decide +kernel, by decide +kernel⟩, lw_t1 (List.mem_of_getElem? (i := 205) rfl), lw_t9 (List.mem_of_getElem? (i := 129) rfl), lw_t9 (List.mem_of_getElem? (i := 130) rfl)⟩
theorem lw_p29 : lw_okq (⟨"PlanMemo$Search", "demand", "(I)V"⟩, 18) := ⟨⟨by decide +kernel, by decide +kernel⟩, lw_t1 (List.mem_of_getElem? (i := 205) rfl), lw_t9 (List.mem_of_getElem? (i := 136) rfl), lw_t9 (List.mem_of_getElem? (i := 137) rfl)⟩
theorem lw_p30 : lw_okq (⟨"PlanMemo$Ways", "by", "(I)V"⟩, 6) := ⟨⟨by decide +kernel, by decide +kernel⟩, lw_t1 (List.mem_of_getElem? (i := 211) rfl), lw_t9 (List.mem_of_getElem? (i := 150) rfl), lw_t9 (List.mem_of_getElem? (i := 151) rfl)⟩
theorem lw_p31 : lw_okq (⟨"PlanMemo$Ways", "scans", "(I)V"⟩, 6) := ⟨⟨by decide +kernel, by decide +kernel⟩, lw_t1 (List.mem_of_getElem? (i := 211) rfl), lw_t9 (List.mem_of_getElem? (i := 154) rfl), lw_t9 (List.mem_of_getElem? (i := 155) rfl)⟩
def lw_privs_2 : List (MethodName × Nat) := [(⟨"PlanMemo$Reader", "single", "(III)LPlanMemo$Said;"⟩, 3), (⟨"PlanMemo$Reader", "pair", "(III)LPlanMemo$Said;"⟩, 3), (⟨"PlanMemo$Memo", "unite", "(II)Z"⟩, 19), (⟨"PlanMemo$Memo", "drop", "(I)Z"⟩, 19), (⟨"PlanMemo$Memo", "count", "()V"⟩, 19), (⟨"PlanMemo", "usersOf", "(I)I"⟩, 11), (⟨"PlanMemo", "isInput", "(II)Z"⟩, 11), (⟨"PlanMemo$Firing", "findsBy", "(J)Z"⟩, 7), (⟨"PlanMemo$Firing", "findsSecond", "(J)Z"⟩, 7), (⟨"PlanMemo$Firing", "drafted", "()LPlanMemo$Rule;"⟩, 7), (⟨"PlanMemo", "demand", "(III)I"⟩, 11), (⟨"PlanMemo", "costOf", "(II)J"⟩, 11), (⟨"PlanMemo$Search", "demandAll", "(I)V"⟩, 18), (⟨"PlanMemo$Search", "demand", "(I)V"⟩, 18), (⟨"PlanMemo$Ways", "by", "(I)V"⟩, 6), (⟨"PlanMemo$Ways", "scans", "(I)V"⟩, 6)]
theorem lw_r2 : ∀ q ∈ lw_privs_2, lw_okq q := List.forall_mem_cons.mpr ⟨lw_p16, List.forall_mem_cons.mpr ⟨lw_p17, List.forall_mem_cons.mpr ⟨lw_p18, List.forall_mem_cons.mpr ⟨lw_p19, List.forall_mem_cons.mpr ⟨lw_p20, List.forall_mem_cons.mpr ⟨lw_p21, List.forall_mem_cons.mpr ⟨lw_p22, List.forall_mem_cons.mpr ⟨lw_p23, List.forall_mem_cons.mpr ⟨lw_p24, List.forall_mem_cons.mpr ⟨lw_p25, List.forall_mem_cons.mpr ⟨lw_p26, List.forall_mem_cons.mpr ⟨lw_p27, List.forall_mem_cons.mpr ⟨lw_p28, List.forall_mem_cons.mpr ⟨lw_p29, List.forall_mem_cons.mpr ⟨lw_p30, List.forall_mem_cons.mpr ⟨lw_p31, fun _ h => absurd h List.not_mem_nil⟩⟩⟩⟩⟩⟩⟩⟩⟩⟩⟩⟩⟩⟩⟩⟩
theorem lw_p32 : lw_okq (⟨"PlanMemo$Ways", "offers", "(IIIII)V"⟩, 6) := ⟨⟨by decide +kernel, by decide +kernel⟩, lw_t1 (List.mem_of_getElem? (i := 211) rfl), lw_t9 (List.mem_of_getElem? (i := 167) rfl), lw_t9 (List.mem_of_getElem? (i := 168) rfl)⟩
theorem lw_p33 : lw_okq (⟨"PlanMemo$Search", "of", "(I)J"⟩, 18) := ⟨⟨by decide +kernel, by decide +kernel⟩, lw_t1 (List.mem_of_getElem? (i := 205) rfl), lw_t10 (List.mem_of_getElem? (i := 59) rfl), lw_t10 (List.mem_of_getElem? (i := 60) rfl)⟩
theorem lw_p34 : lw_okq (⟨"PlanMemo$Search", "usedBy", "(II)V"⟩, 18) := ⟨⟨by decide +kernel, by decide +kernel⟩, lw_t1 (List.mem_of_getElem? (i := 205) rfl), lw_t10 (List.mem_of_getElem? (i := 76) rfl), lw_t10 (List.mem_of_getElem? (i := 77) rfl)⟩
theorem lw_p35 : lw_okq (⟨"PlanMemo$Ways", "input", "(III)I"⟩, 6) := ⟨⟨by decide +kernel, by decide +kernel⟩, lw_t1 (List.mem_of_getElem? (i := 211) rfl), lw_t10 (List.mem_of_getElem? (i := 80) rfl), lw_t10 (List.mem_of_getElem? (i := 81) rfl)⟩
theorem lw_p36 : lw_okq (⟨"PlanMemo$Ways", "sums", "(III)V"⟩, 6) := ⟨⟨by decide +kernel, by decide +kernel⟩, lw_t1 (List.mem_of_getElem? (i := 211) rfl), lw_t10 (List.mem_of_getElem? (i := 86) rfl), lw_t10 (List.mem_of_getElem? (i := 87) rfl)⟩
theorem lw_p37 : lw_okq (⟨"PlanMemo$Ways", "pairs", "(III)V"⟩, 6) := ⟨⟨by decide +kernel, by decide +kernel⟩, lw_t1 (List.mem_of_getElem? (i := 211) rfl), lw_t10 (List.mem_of_getElem? (i := 90) rfl), lw_t10 (List.mem_of_getElem? (i := 91) rfl)⟩
theorem lw_p38 : lw_okq (⟨"PlanMemo$Ways", "enforcers", "()V"⟩, 6) := ⟨⟨by decide +kernel, by decide +kernel⟩, lw_t1 (List.mem_of_getElem? (i := 211) rfl), lw_t10 (List.mem_of_getElem? (i := 94) rfl), lw_t10 (List.mem_of_getElem? (i := 95) rfl)⟩
theorem lw_p39 : lw_okq (⟨"PlanMemo$Search", "through", "(I)V"⟩, 18) := ⟨⟨by decide +kernel, by decide +kernel⟩, lw_t1 (List.mem_of_getElem? (i := 205) rfl), lw_t10 (List.mem_of_getElem? (i := 99) rfl), lw_t10 (List.mem_of_getElem? (i := 100) rfl)⟩
theorem lw_p40 : lw_okq (⟨"PlanMemo$Search", "lowers", "(IJ)V"⟩, 18) := ⟨⟨by decide +kernel, by decide +kernel⟩, lw_t1 (List.mem_of_getElem? (i := 205) rfl), lw_t10 (List.mem_of_getElem? (i := 103) rfl), lw_t10 (List.mem_of_getElem? (i := 104) rfl)⟩
theorem lw_p41 : lw_okq (⟨"PlanMemo$Search", "rises", "(I)V"⟩, 18) := ⟨⟨by decide +kernel, by decide +kernel⟩, lw_t1 (List.mem_of_getElem? (i := 205) rfl), lw_t10 (List.mem_of_getElem? (i := 107) rfl), lw_t10 (List.mem_of_getElem? (i := 108) rfl)⟩
theorem lw_p42 : lw_okq (⟨"PlanMemo$Search", "isLess", "(II)Z"⟩, 18) := ⟨⟨by decide +kernel, by decide +kernel⟩, lw_t1 (List.mem_of_getElem? (i := 205) rfl), lw_t10 (List.mem_of_getElem? (i := 111) rfl), lw_t10 (List.mem_of_getElem? (i := 112) rfl)⟩
theorem lw_p43 : lw_okq (⟨"PlanMemo$Search", "exchange", "(II)V"⟩, 18) := ⟨⟨by decide +kernel, by decide +kernel⟩, lw_t1 (List.mem_of_getElem? (i := 205) rfl), lw_t10 (List.mem_of_getElem? (i := 115) rfl), lw_t10 (List.mem_of_getElem? (i := 116) rfl)⟩
theorem lw_p44 : lw_okq (⟨"PlanMemo$Search", "least", "()I"⟩, 18) := ⟨⟨by decide +kernel, by decide +kernel⟩, lw_t1 (List.mem_of_getElem? (i := 205) rfl), lw_t10 (List.mem_of_getElem? (i := 119) rfl), lw_t10 (List.mem_of_getElem? (i := 120) rfl)⟩
theorem lw_p45 : lw_okq (⟨"PlanMemo$Search", "sinks", "()V"⟩, 18) := ⟨⟨by decide +kernel, by decide +kernel⟩, lw_t1 (List.mem_of_getElem? (i := 205) rfl), lw_t10 (List.mem_of_getElem? (i := 123) rfl), lw_t10 (List.mem_of_getElem? (i := 124) rfl)⟩
theorem lw_p46 : lw_okq (⟨"PlanMemo$Speller", "say", "(Ljava/lang/String;)V"⟩, 2) := ⟨⟨by decide +kernel, by decide +kernel⟩, lw_t11 (List.mem_of_getElem? (i := 72) rfl), lw_t11 (List.mem_of_getElem? (i := 100) rfl), lw_t11 (List.mem_of_getElem? (i := 101) rfl)⟩
theorem lw_p47 : lw_okq (⟨"PlanMemo$Speller", "digit", "(I)V"⟩, 2) := ⟨⟨by decide +kernel, by decide +kernel⟩, lw_t11 (List.mem_of_getElem? (i := 72) rfl), lw_t11 (List.mem_of_getElem? (i := 106) rfl), lw_t11 (List.mem_of_getElem? (i := 107) rfl)⟩
def lw_privs_3 : List (MethodName × Nat) := [(⟨"PlanMemo$Ways", "offers", "(IIIII)V"⟩, 6), (⟨"PlanMemo$Search", "of", "(I)J"⟩, 18), (⟨"PlanMemo$Search", "usedBy", "(II)V"⟩, 18), (⟨"PlanMemo$Ways", "input", "(III)I"⟩, 6), (⟨"PlanMemo$Ways", "sums", "(III)V"⟩, 6), (⟨"PlanMemo$Ways", "pairs", "(III)V"⟩, 6), (⟨"PlanMemo$Ways", "enforcers", "()V"⟩, 6), (⟨"PlanMemo$Search", "through", "(I)V"⟩, 18), (⟨"PlanMemo$Search", "lowers", "(IJ)V"⟩, 18), (⟨"PlanMemo$Search", "rises", "(I)V"⟩, 18), (⟨"PlanMemo$Search", "isLess", "(II)Z"⟩, 18), (⟨"PlanMemo$Search", "exchange", "(II)V"⟩, 18), (⟨"PlanMemo$Search", "least", "()I"⟩, 18), (⟨"PlanMemo$Search", "sinks", "()V"⟩, 18), (⟨"PlanMemo$Speller", "say", "(Ljava/lang/String;)V"⟩, 2), (⟨"PlanMemo$Speller", "digit", "(I)V"⟩, 2)]
theorem lw_r3 : ∀ q ∈ lw_privs_3, lw_okq q := List.forall_mem_cons.mpr ⟨lw_p32, List.forall_mem_cons.mpr ⟨lw_p33, List.forall_mem_cons.mpr ⟨lw_p34, List.forall_mem_cons.mpr ⟨lw_p35, List.forall_mem_cons.mpr ⟨lw_p36, List.forall_mem_cons.mpr ⟨lw_p37, List.forall_mem_cons.mpr ⟨lw_p38, List.forall_mem_cons.mpr ⟨lw_p39, List.forall_mem_cons.mpr ⟨lw_p40, List.forall_mem_cons.mpr ⟨lw_p41, List.forall_mem_cons.mpr ⟨lw_p42, List.forall_mem_cons.mpr ⟨lw_p43, List.forall_mem_cons.mpr ⟨lw_p44, List.forall_mem_cons.mpr ⟨lw_p45, List.forall_mem_cons.mpr ⟨lw_p46, List.forall_mem_cons.mpr ⟨lw_p47, fun _ h => absurd h List.not_mem_nil⟩⟩⟩⟩⟩⟩⟩⟩⟩⟩⟩⟩⟩⟩⟩⟩
theorem lw_p48 : lw_okq (⟨"PlanMemo", "level", "()V"⟩, 11) := ⟨⟨by decide +kernel, by decide +kernel⟩, lw_t1 (List.mem_of_getElem? (i := 73) rfl), lw_t11 (List.mem_of_getElem? (i := 126) rfl), lw_t11 (List.mem_of_getElem? (i := 127) rfl)⟩
theorem lw_p49 : lw_okq (⟨"PlanMemo", "treesBy", "(I)I"⟩, 11) := ⟨⟨by decide +kernel, by decide +kernel⟩, lw_t1 (List.mem_of_getElem? (i := 73) rfl), lw_t11 (List.mem_of_getElem? (i := 130) rfl), lw_t11 (List.mem_of_getElem? (i := 131) rfl)⟩
theorem lw_p50 : lw_okq (⟨"PlanMemo", "dealt", "()V"⟩, 11) := ⟨⟨by decide +kernel, by decide +kernel⟩, lw_t1 (List.mem_of_getElem? (i := 73) rfl), lw_t11 (List.mem_of_getElem? (i := 182) rfl), lw_t11 (List.mem_of_getElem? (i := 183) rfl)⟩
theorem lw_p51 : lw_okq (⟨"PlanMemo", "shelvesFollow", "()V"⟩, 11) := ⟨⟨by decide +kernel, by decide +kernel⟩, lw_t1 (List.mem_of_getElem? (i := 73) rfl), lw_t11 (List.mem_of_getElem? (i := 203) rfl), lw_t11 (List.mem_of_getElem? (i := 204) rfl)⟩
theorem lw_p52 : lw_okq (⟨"PlanMemo", "groupsLeft", "()I"⟩, 11) := ⟨⟨by decide +kernel, by decide +kernel⟩, lw_t1 (List.mem_of_getElem? (i := 73) rfl), lw_t11 (List.mem_of_getElem? (i := 211) rfl), lw_t11 (List.mem_of_getElem? (i := 212) rfl)⟩
theorem lw_p53 : lw_okq (⟨"PlanMemo", "goneMany", "()I"⟩, 11) := ⟨⟨by decide +kernel, by decide +kernel⟩, lw_t1 (List.mem_of_getElem? (i := 73) rfl), lw_t11 (List.mem_of_getElem? (i := 215) rfl), lw_t11 (List.mem_of_getElem? (i := 216) rfl)⟩
theorem lw_p54 : lw_okq (⟨"PlanMemoModel", "isShelf", "(I)Z"⟩, 79) := ⟨⟨by decide +kernel, by decide +kernel⟩, lw_t11 (List.mem_of_getElem? (i := 220) rfl), lw_t12 (List.mem_of_getElem? (i := 228) rfl), lw_t12 (List.mem_of_getElem? (i := 229) rfl)⟩
theorem lw_p55 : lw_okq (⟨"PlanMemoModel", "no", "(I)I"⟩, 79) := ⟨⟨by decide +kernel, by decide +kernel⟩, lw_t11 (List.mem_of_getElem? (i := 220) rfl), lw_t12 (List.mem_of_getElem? (i := 232) rfl), lw_t12 (List.mem_of_getElem? (i := 233) rfl)⟩
theorem lw_p56 : lw_okq (⟨"PlanMemoModel", "puts", "(IIJ)V"⟩, 79) := ⟨⟨by decide +kernel, by decide +kernel⟩, lw_t11 (List.mem_of_getElem? (i := 220) rfl), lw_t13 (List.mem_of_getElem? (i := 0) rfl), lw_t13 (List.mem_of_getElem? (i := 1) rfl)⟩
theorem lw_p57 : lw_okq (⟨"PlanMemoModel", "isExpression", "(I)Z"⟩, 79) := ⟨⟨by decide +kernel, by decide +kernel⟩, lw_t11 (List.mem_of_getElem? (i := 220) rfl), lw_t13 (List.mem_of_getElem? (i := 16) rfl), lw_t13 (List.mem_of_getElem? (i := 17) rfl)⟩
theorem lw_p58 : lw_okq (⟨"PlanMemoModel", "isFrom", "(III)Z"⟩, 79) := ⟨⟨by decide +kernel, by decide +kernel⟩, lw_t11 (List.mem_of_getElem? (i := 220) rfl), lw_t13 (List.mem_of_getElem? (i := 28) rfl), lw_t13 (List.mem_of_getElem? (i := 29) rfl)⟩
theorem lw_p59 : lw_okq (⟨"PlanMemoModel", "isOf", "(II)Z"⟩, 79) := ⟨⟨by decide +kernel, by decide +kernel⟩, lw_t11 (List.mem_of_getElem? (i := 220) rfl), lw_t13 (List.mem_of_getElem? (i := 32) rfl), lw_t13 (List.mem_of_getElem? (i := 33) rfl)⟩
theorem lw_p60 : lw_okq (⟨"PlanMemoModel", "root", "(I)I"⟩, 79) := ⟨⟨by decide +kernel, by decide +kernel⟩, lw_t11 (List.mem_of_getElem? (i := 220) rfl), lw_t13 (List.mem_of_getElem? (i := 36) rfl), lw_t13 (List.mem_of_getElem? (i := 37) rfl)⟩
theorem lw_p61 : lw_okq (⟨"PlanMemoModel", "isColumn", "(II)Z"⟩, 79) := ⟨⟨by decide +kernel, by decide +kernel⟩, lw_t11 (List.mem_of_getElem? (i := 220) rfl), lw_t13 (List.mem_of_getElem? (i := 45) rfl), lw_t13 (List.mem_of_getElem? (i := 46) rfl)⟩
theorem lw_p62 : lw_okq (⟨"PlanMemoModel", "tellOf", "(IIII)I"⟩, 79) := ⟨⟨by decide +kernel, by decide +kernel⟩, lw_t11 (List.mem_of_getElem? (i := 220) rfl), lw_t13 (List.mem_of_getElem? (i := 61) rfl), lw_t13 (List.mem_of_getElem? (i := 62) rfl)⟩
theorem lw_p63 : lw_okq (⟨"PlanMemoModel", "alike", "(IIII)I"⟩, 79) := ⟨⟨by decide +kernel, by decide +kernel⟩, lw_t11 (List.mem_of_getElem? (i := 220) rfl), lw_t13 (List.mem_of_getElem? (i := 65) rfl), lw_t13 (List.mem_of_getElem? (i := 66) rfl)⟩
def lw_privs_4 : List (MethodName × Nat) := [(⟨"PlanMemo", "level", "()V"⟩, 11), (⟨"PlanMemo", "treesBy", "(I)I"⟩, 11), (⟨"PlanMemo", "dealt", "()V"⟩, 11), (⟨"PlanMemo", "shelvesFollow", "()V"⟩, 11), (⟨"PlanMemo", "groupsLeft", "()I"⟩, 11), (⟨"PlanMemo", "goneMany", "()I"⟩, 11), (⟨"PlanMemoModel", "isShelf", "(I)Z"⟩, 79), (⟨"PlanMemoModel", "no", "(I)I"⟩, 79), (⟨"PlanMemoModel", "puts", "(IIJ)V"⟩, 79), (⟨"PlanMemoModel", "isExpression", "(I)Z"⟩, 79), (⟨"PlanMemoModel", "isFrom", "(III)Z"⟩, 79), (⟨"PlanMemoModel", "isOf", "(II)Z"⟩, 79), (⟨"PlanMemoModel", "root", "(I)I"⟩, 79), (⟨"PlanMemoModel", "isColumn", "(II)Z"⟩, 79), (⟨"PlanMemoModel", "tellOf", "(IIII)I"⟩, 79), (⟨"PlanMemoModel", "alike", "(IIII)I"⟩, 79)]
theorem lw_r4 : ∀ q ∈ lw_privs_4, lw_okq q := List.forall_mem_cons.mpr ⟨lw_p48, List.forall_mem_cons.mpr ⟨lw_p49, List.forall_mem_cons.mpr ⟨lw_p50, List.forall_mem_cons.mpr ⟨lw_p51, List.forall_mem_cons.mpr ⟨lw_p52, List.forall_mem_cons.mpr ⟨lw_p53, List.forall_mem_cons.mpr ⟨lw_p54, List.forall_mem_cons.mpr ⟨lw_p55, List.forall_mem_cons.mpr ⟨lw_p56, List.forall_mem_cons.mpr ⟨lw_p57, List.forall_mem_cons.mpr ⟨lw_p58, List.forall_mem_cons.mpr ⟨lw_p59, List.forall_mem_cons.mpr ⟨lw_p60, List.forall_mem_cons.mpr ⟨lw_p61, List.forall_mem_cons.mpr ⟨lw_p62, List.forall_mem_cons.mpr ⟨lw_p63, fun _ h => absurd h List.not_mem_nil⟩⟩⟩⟩⟩⟩⟩⟩⟩⟩⟩⟩⟩⟩⟩⟩
theorem lw_p64 : lw_okq (⟨"PlanMemoModel", "told", "(IIII)I"⟩, 79) := ⟨⟨by decide +kernel, by decide +kernel⟩, lw_t11 (List.mem_of_getElem? (i := 220) rfl), lw_t13 (List.mem_of_getElem? (i := 69) rfl), lw_t13 (List.mem_of_getElem? (i := 70) rfl)⟩
theorem lw_p65 : lw_okq (⟨"PlanMemoModel", "adds", "(IIIII)I"⟩, 79) := ⟨⟨by decide +kernel, by decide +kernel⟩, lw_t11 (List.mem_of_getElem? (i := 220) rfl), lw_t13 (List.mem_of_getElem? (i := 73) rfl), lw_t13 (List.mem_of_getElem? (i := 74) rfl)⟩
theorem lw_p66 : lw_okq (⟨"PlanMemoModel", "isGroup", "(I)Z"⟩, 79) := ⟨⟨by decide +kernel, by decide +kernel⟩, lw_t11 (List.mem_of_getElem? (i := 220) rfl), lw_t13 (List.mem_of_getElem? (i := 81) rfl), lw_t13 (List.mem_of_getElem? (i := 82) rfl)⟩
theorem lw_p67 : lw_okq (⟨"PlanMemoModel", "may", "(IIII)Z"⟩, 79) := ⟨⟨by decide +kernel, by decide +kernel⟩, lw_t11 (List.mem_of_getElem? (i := 220) rfl), lw_t13 (List.mem_of_getElem? (i := 85) rfl), lw_t13 (List.mem_of_getElem? (i := 86) rfl)⟩
theorem lw_p68 : lw_okq (⟨"PlanMemoModel", "tells", "()V"⟩, 79) := ⟨⟨by decide +kernel, by decide +kernel⟩, lw_t11 (List.mem_of_getElem? (i := 220) rfl), lw_t13 (List.mem_of_getElem? (i := 89) rfl), lw_t13 (List.mem_of_getElem? (i := 90) rfl)⟩
theorem lw_p69 : lw_okq (⟨"PlanMemoModel", "two", "(IIII)I"⟩, 79) := ⟨⟨by decide +kernel, by decide +kernel⟩, lw_t11 (List.mem_of_getElem? (i := 220) rfl), lw_t13 (List.mem_of_getElem? (i := 106) rfl), lw_t13 (List.mem_of_getElem? (i := 107) rfl)⟩
theorem lw_p70 : lw_okq (⟨"PlanMemoModel", "reads", "()I"⟩, 79) := ⟨⟨by decide +kernel, by decide +kernel⟩, lw_t11 (List.mem_of_getElem? (i := 220) rfl), lw_t13 (List.mem_of_getElem? (i := 118) rfl), lw_t13 (List.mem_of_getElem? (i := 119) rfl)⟩
theorem lw_p71 : lw_okq (⟨"PlanMemoModel", "goes", "(Ljava/lang/String;)Z"⟩, 79) := ⟨⟨by decide +kernel, by decide +kernel⟩, lw_t11 (List.mem_of_getElem? (i := 220) rfl), lw_t13 (List.mem_of_getElem? (i := 127) rfl), lw_t13 (List.mem_of_getElem? (i := 128) rfl)⟩
theorem lw_p72 : lw_okq (⟨"PlanMemoModel", "goes", "(I)Z"⟩, 79) := ⟨⟨by decide +kernel, by decide +kernel⟩, lw_t11 (List.mem_of_getElem? (i := 220) rfl), lw_t13 (List.mem_of_getElem? (i := 133) rfl), lw_t13 (List.mem_of_getElem? (i := 134) rfl)⟩
theorem lw_p73 : lw_okq (⟨"PlanMemoModel", "digit", "(I)I"⟩, 79) := ⟨⟨by decide +kernel, by decide +kernel⟩, lw_t11 (List.mem_of_getElem? (i := 220) rfl), lw_t13 (List.mem_of_getElem? (i := 137) rfl), lw_t13 (List.mem_of_getElem? (i := 138) rfl)⟩
theorem lw_p74 : lw_okq (⟨"PlanMemoModel", "merges", "(II)V"⟩, 79) := ⟨⟨by decide +kernel, by decide +kernel⟩, lw_t11 (List.mem_of_getElem? (i := 220) rfl), lw_t13 (List.mem_of_getElem? (i := 149) rfl), lw_t13 (List.mem_of_getElem? (i := 150) rfl)⟩
theorem lw_p75 : lw_okq (⟨"PlanMemoModel", "finds", "()Z"⟩, 79) := ⟨⟨by decide +kernel, by decide +kernel⟩, lw_t11 (List.mem_of_getElem? (i := 220) rfl), lw_t13 (List.mem_of_getElem? (i := 169) rfl), lw_t13 (List.mem_of_getElem? (i := 170) rfl)⟩
theorem lw_p76 : lw_okq (⟨"PlanMemoModel", "fits", "(III)Z"⟩, 79) := ⟨⟨by decide +kernel, by decide +kernel⟩, lw_t11 (List.mem_of_getElem? (i := 220) rfl), lw_t13 (List.mem_of_getElem? (i := 173) rfl), lw_t13 (List.mem_of_getElem? (i := 174) rfl)⟩
theorem lw_p77 : lw_okq (⟨"PlanMemoModel", "news", "()I"⟩, 79) := ⟨⟨by decide +kernel, by decide +kernel⟩, lw_t11 (List.mem_of_getElem? (i := 220) rfl), lw_t13 (List.mem_of_getElem? (i := 177) rfl), lw_t13 (List.mem_of_getElem? (i := 178) rfl)⟩
theorem lw_p78 : lw_okq (⟨"PlanMemoModel", "bracket", "()V"⟩, 79) := ⟨⟨by decide +kernel, by decide +kernel⟩, lw_t11 (List.mem_of_getElem? (i := 220) rfl), lw_t13 (List.mem_of_getElem? (i := 181) rfl), lw_t13 (List.mem_of_getElem? (i := 182) rfl)⟩
theorem lw_p79 : lw_okq (⟨"PlanMemoModel", "says", "(IIII)V"⟩, 79) := ⟨⟨by decide +kernel, by decide +kernel⟩, lw_t11 (List.mem_of_getElem? (i := 220) rfl), lw_t13 (List.mem_of_getElem? (i := 185) rfl), lw_t13 (List.mem_of_getElem? (i := 186) rfl)⟩
def lw_privs_5 : List (MethodName × Nat) := [(⟨"PlanMemoModel", "told", "(IIII)I"⟩, 79), (⟨"PlanMemoModel", "adds", "(IIIII)I"⟩, 79), (⟨"PlanMemoModel", "isGroup", "(I)Z"⟩, 79), (⟨"PlanMemoModel", "may", "(IIII)Z"⟩, 79), (⟨"PlanMemoModel", "tells", "()V"⟩, 79), (⟨"PlanMemoModel", "two", "(IIII)I"⟩, 79), (⟨"PlanMemoModel", "reads", "()I"⟩, 79), (⟨"PlanMemoModel", "goes", "(Ljava/lang/String;)Z"⟩, 79), (⟨"PlanMemoModel", "goes", "(I)Z"⟩, 79), (⟨"PlanMemoModel", "digit", "(I)I"⟩, 79), (⟨"PlanMemoModel", "merges", "(II)V"⟩, 79), (⟨"PlanMemoModel", "finds", "()Z"⟩, 79), (⟨"PlanMemoModel", "fits", "(III)Z"⟩, 79), (⟨"PlanMemoModel", "news", "()I"⟩, 79), (⟨"PlanMemoModel", "bracket", "()V"⟩, 79), (⟨"PlanMemoModel", "says", "(IIII)V"⟩, 79)]
theorem lw_r5 : ∀ q ∈ lw_privs_5, lw_okq q := List.forall_mem_cons.mpr ⟨lw_p64, List.forall_mem_cons.mpr ⟨lw_p65, List.forall_mem_cons.mpr ⟨lw_p66, List.forall_mem_cons.mpr ⟨lw_p67, List.forall_mem_cons.mpr ⟨lw_p68, List.forall_mem_cons.mpr ⟨lw_p69, List.forall_mem_cons.mpr ⟨lw_p70, List.forall_mem_cons.mpr ⟨lw_p71, List.forall_mem_cons.mpr ⟨lw_p72, List.forall_mem_cons.mpr ⟨lw_p73, List.forall_mem_cons.mpr ⟨lw_p74, List.forall_mem_cons.mpr ⟨lw_p75, List.forall_mem_cons.mpr ⟨lw_p76, List.forall_mem_cons.mpr ⟨lw_p77, List.forall_mem_cons.mpr ⟨lw_p78, List.forall_mem_cons.mpr ⟨lw_p79, fun _ h => absurd h List.not_mem_nil⟩⟩⟩⟩⟩⟩⟩⟩⟩⟩⟩⟩⟩⟩⟩⟩
theorem lw_p80 : lw_okq (⟨"PlanMemoModel", "comes", "(I)V"⟩, 79) := ⟨⟨by decide +kernel, by decide +kernel⟩, lw_t11 (List.mem_of_getElem? (i := 220) rfl), lw_t13 (List.mem_of_getElem? (i := 189) rfl), lw_t13 (List.mem_of_getElem? (i := 190) rfl)⟩
theorem lw_p81 : lw_okq (⟨"PlanMemoModel", "fires", "()V"⟩, 79) := ⟨⟨by decide +kernel, by decide +kernel⟩, lw_t11 (List.mem_of_getElem? (i := 220) rfl), lw_t13 (List.mem_of_getElem? (i := 193) rfl), lw_t13 (List.mem_of_getElem? (i := 194) rfl)⟩
theorem lw_p82 : lw_okq (⟨"PlanMemoModel", "priceOf", "(IJJJ)J"⟩, 79) := ⟨⟨by decide +kernel, by decide +kernel⟩, lw_t11 (List.mem_of_getElem? (i := 220) rfl), lw_t13 (List.mem_of_getElem? (i := 209) rfl), lw_t13 (List.mem_of_getElem? (i := 210) rfl)⟩
theorem lw_p83 : lw_okq (⟨"PlanMemoModel", "runs", "(I)V"⟩, 79) := ⟨⟨by decide +kernel, by decide +kernel⟩, lw_t11 (List.mem_of_getElem? (i := 220) rfl), lw_t13 (List.mem_of_getElem? (i := 213) rfl), lw_t13 (List.mem_of_getElem? (i := 214) rfl)⟩
theorem lw_p84 : lw_okq (⟨"PlanMemoModel", "reads", "(IJJJ)J"⟩, 79) := ⟨⟨by decide +kernel, by decide +kernel⟩, lw_t11 (List.mem_of_getElem? (i := 220) rfl), lw_t13 (List.mem_of_getElem? (i := 217) rfl), lw_t13 (List.mem_of_getElem? (i := 218) rfl)⟩
theorem lw_p85 : lw_okq (⟨"PlanMemoModel", "works", "(IJJJ)J"⟩, 79) := ⟨⟨by decide +kernel, by decide +kernel⟩, lw_t11 (List.mem_of_getElem? (i := 220) rfl), lw_t13 (List.mem_of_getElem? (i := 225) rfl), lw_t13 (List.mem_of_getElem? (i := 226) rfl)⟩
theorem lw_p86 : lw_okq (⟨"PlanMemoModel", "isWay", "(I)Z"⟩, 79) := ⟨⟨by decide +kernel, by decide +kernel⟩, lw_t11 (List.mem_of_getElem? (i := 220) rfl), lw_t13 (List.mem_of_getElem? (i := 238) rfl), lw_t13 (List.mem_of_getElem? (i := 239) rfl)⟩
theorem lw_p87 : lw_okq (⟨"PlanMemoModel", "noTen", "(I)I"⟩, 79) := ⟨⟨by decide +kernel, by decide +kernel⟩, lw_t11 (List.mem_of_getElem? (i := 220) rfl), lw_t14 (List.mem_of_getElem? (i := 6) rfl), lw_t14 (List.mem_of_getElem? (i := 7) rfl)⟩
theorem lw_p88 : lw_okq (⟨"PlanMemoModel", "isDemand", "(II)Z"⟩, 79) := ⟨⟨by decide +kernel, by decide +kernel⟩, lw_t11 (List.mem_of_getElem? (i := 220) rfl), lw_t14 (List.mem_of_getElem? (i := 10) rfl), lw_t14 (List.mem_of_getElem? (i := 11) rfl)⟩
theorem lw_p89 : lw_okq (⟨"PlanMemoModel", "costs", "()V"⟩, 79) := ⟨⟨by decide +kernel, by decide +kernel⟩, lw_t11 (List.mem_of_getElem? (i := 220) rfl), lw_t14 (List.mem_of_getElem? (i := 14) rfl), lw_t14 (List.mem_of_getElem? (i := 15) rfl)⟩
theorem lw_p90 : lw_okq (⟨"PlanMemoModel", "waysOf", "(I)V"⟩, 79) := ⟨⟨by decide +kernel, by decide +kernel⟩, lw_t11 (List.mem_of_getElem? (i := 220) rfl), lw_t14 (List.mem_of_getElem? (i := 19) rfl), lw_t14 (List.mem_of_getElem? (i := 20) rfl)⟩
theorem lw_p91 : lw_okq (⟨"PlanMemoModel", "waysBy", "(III)V"⟩, 79) := ⟨⟨by decide +kernel, by decide +kernel⟩, lw_t11 (List.mem_of_getElem? (i := 220) rfl), lw_t14 (List.mem_of_getElem? (i := 23) rfl), lw_t14 (List.mem_of_getElem? (i := 24) rfl)⟩
theorem lw_p92 : lw_okq (⟨"PlanMemoModel", "way", "(IIIIIJJJ)V"⟩, 79) := ⟨⟨by decide +kernel, by decide +kernel⟩, lw_t11 (List.mem_of_getElem? (i := 220) rfl), lw_t14 (List.mem_of_getElem? (i := 30) rfl), lw_t14 (List.mem_of_getElem? (i := 31) rfl)⟩
theorem lw_p93 : lw_okq (⟨"PlanMemoModel", "silent", "(IJJJ)J"⟩, 79) := ⟨⟨by decide +kernel, by decide +kernel⟩, lw_t11 (List.mem_of_getElem? (i := 220) rfl), lw_t14 (List.mem_of_getElem? (i := 34) rfl), lw_t14 (List.mem_of_getElem? (i := 35) rfl)⟩
theorem lw_p94 : lw_okq (⟨"PlanMemoModel", "sum", "(I)J"⟩, 79) := ⟨⟨by decide +kernel, by decide +kernel⟩, lw_t11 (List.mem_of_getElem? (i := 220) rfl), lw_t14 (List.mem_of_getElem? (i := 41) rfl), lw_t14 (List.mem_of_getElem? (i := 42) rfl)⟩
theorem lw_p95 : lw_okq (⟨"PlanMemoModel", "closes", "(I)I"⟩, 79) := ⟨⟨by decide +kernel, by decide +kernel⟩, lw_t11 (List.mem_of_getElem? (i := 220) rfl), lw_t14 (List.mem_of_getElem? (i := 58) rfl), lw_t14 (List.mem_of_getElem? (i := 59) rfl)⟩
def lw_privs_6 : List (MethodName × Nat) := [(⟨"PlanMemoModel", "comes", "(I)V"⟩, 79), (⟨"PlanMemoModel", "fires", "()V"⟩, 79), (⟨"PlanMemoModel", "priceOf", "(IJJJ)J"⟩, 79), (⟨"PlanMemoModel", "runs", "(I)V"⟩, 79), (⟨"PlanMemoModel", "reads", "(IJJJ)J"⟩, 79), (⟨"PlanMemoModel", "works", "(IJJJ)J"⟩, 79), (⟨"PlanMemoModel", "isWay", "(I)Z"⟩, 79), (⟨"PlanMemoModel", "noTen", "(I)I"⟩, 79), (⟨"PlanMemoModel", "isDemand", "(II)Z"⟩, 79), (⟨"PlanMemoModel", "costs", "()V"⟩, 79), (⟨"PlanMemoModel", "waysOf", "(I)V"⟩, 79), (⟨"PlanMemoModel", "waysBy", "(III)V"⟩, 79), (⟨"PlanMemoModel", "way", "(IIIIIJJJ)V"⟩, 79), (⟨"PlanMemoModel", "silent", "(IJJJ)J"⟩, 79), (⟨"PlanMemoModel", "sum", "(I)J"⟩, 79), (⟨"PlanMemoModel", "closes", "(I)I"⟩, 79)]
theorem lw_r6 : ∀ q ∈ lw_privs_6, lw_okq q := List.forall_mem_cons.mpr ⟨lw_p80, List.forall_mem_cons.mpr ⟨lw_p81, List.forall_mem_cons.mpr ⟨lw_p82, List.forall_mem_cons.mpr ⟨lw_p83, List.forall_mem_cons.mpr ⟨lw_p84, List.forall_mem_cons.mpr ⟨lw_p85, List.forall_mem_cons.mpr ⟨lw_p86, List.forall_mem_cons.mpr ⟨lw_p87, List.forall_mem_cons.mpr ⟨lw_p88, List.forall_mem_cons.mpr ⟨lw_p89, List.forall_mem_cons.mpr ⟨lw_p90, List.forall_mem_cons.mpr ⟨lw_p91, List.forall_mem_cons.mpr ⟨lw_p92, List.forall_mem_cons.mpr ⟨lw_p93, List.forall_mem_cons.mpr ⟨lw_p94, List.forall_mem_cons.mpr ⟨lw_p95, fun _ h => absurd h List.not_mem_nil⟩⟩⟩⟩⟩⟩⟩⟩⟩⟩⟩⟩⟩⟩⟩⟩
theorem lw_p96 : lw_okq (⟨"PlanMemoModel", "plans", "(I)Z"⟩, 79) := ⟨⟨by decide +kernel, by decide +kernel⟩, lw_t11 (List.mem_of_getElem? (i := 220) rfl), lw_t14 (List.mem_of_getElem? (i := 79) rfl), lw_t14 (List.mem_of_getElem? (i := 80) rfl)⟩
theorem lw_p97 : lw_okq (⟨"PlanMemoModel", "spells", "(I)I"⟩, 79) := ⟨⟨by decide +kernel, by decide +kernel⟩, lw_t11 (List.mem_of_getElem? (i := 220) rfl), lw_t14 (List.mem_of_getElem? (i := 95) rfl), lw_t14 (List.mem_of_getElem? (i := 96) rfl)⟩
theorem lw_p98 : lw_okq (⟨"PlanMemoModel", "writes", "(Ljava/lang/String;)V"⟩, 79) := ⟨⟨by decide +kernel, by decide +kernel⟩, lw_t11 (List.mem_of_getElem? (i := 220) rfl), lw_t14 (List.mem_of_getElem? (i := 99) rfl), lw_t14 (List.mem_of_getElem? (i := 100) rfl)⟩
theorem lw_p99 : lw_okq (⟨"PlanMemoModel", "draw", "(I)I"⟩, 79) := ⟨⟨by decide +kernel, by decide +kernel⟩, lw_t11 (List.mem_of_getElem? (i := 220) rfl), lw_t14 (List.mem_of_getElem? (i := 115) rfl), lw_t14 (List.mem_of_getElem? (i := 116) rfl)⟩
def lw_privs_7 : List (MethodName × Nat) := [(⟨"PlanMemoModel", "plans", "(I)Z"⟩, 79), (⟨"PlanMemoModel", "spells", "(I)I"⟩, 79), (⟨"PlanMemoModel", "writes", "(Ljava/lang/String;)V"⟩, 79), (⟨"PlanMemoModel", "draw", "(I)I"⟩, 79)]
theorem lw_r7 : ∀ q ∈ lw_privs_7, lw_okq q := List.forall_mem_cons.mpr ⟨lw_p96, List.forall_mem_cons.mpr ⟨lw_p97, List.forall_mem_cons.mpr ⟨lw_p98, List.forall_mem_cons.mpr ⟨lw_p99, fun _ h => absurd h List.not_mem_nil⟩⟩⟩⟩
def lw_privs : List (MethodName × Nat) := lw_privs_1 ++ (lw_privs_2 ++ (lw_privs_3 ++ (lw_privs_4 ++ (lw_privs_5 ++ (lw_privs_6 ++ (lw_privs_7))))))
def lw_tbl : List Cond := k2_sels lw_privs ++ tables_1
theorem lw_privs_ok : ∀ q ∈ lw_privs, lw_okq q := by
  show ∀ q ∈ lw_privs_1 ++ (lw_privs_2 ++ (lw_privs_3 ++ (lw_privs_4 ++ (lw_privs_5 ++ (lw_privs_6 ++ (lw_privs_7)))))), lw_okq q
  exact List.forall_mem_append.mpr ⟨lw_r1, List.forall_mem_append.mpr ⟨lw_r2, List.forall_mem_append.mpr ⟨lw_r3, List.forall_mem_append.mpr ⟨lw_r4, List.forall_mem_append.mpr ⟨lw_r5, List.forall_mem_append.mpr ⟨lw_r6, lw_r7⟩⟩⟩⟩⟩⟩
-- ===== ONE list of words for every method: the tables' words that hold all through a run =====
def lw_all : List Cond := lw_tbl.filter goodWord
/-- a word of the tables by its place: claim/WORDS.tsv -/
theorem lw_w {w : Cond} (i : Nat) (h : lw_tbl[i]? = some w) (g : goodWord w = true) : w ∈ lw_all := List.mem_filter.mpr ⟨List.mem_of_getElem? h, g⟩
theorem lw_all_tbl {w : Cond} (h : w ∈ lw_all) : w ∈ lw_tbl := (List.mem_filter.mp h).1
theorem lw_self : GoodIn lw_all lw_all := fun w h => ⟨h, good_of_word (List.mem_filter.mp h).2⟩
/-- a class's field words, by their places -/
theorem lw_in (ws : List Cond) (ps : List Nat) (hp : ws = ps.filterMap (fun i => lw_tbl[i]?)) (hg : ws.all goodWord = true) : ∀ w ∈ ws, w ∈ lw_all := by
  intro w h
  have h1 := List.all_eq_true.mp hg w h
  rw [hp] at h
  obtain ⟨i, -, hi⟩ := List.mem_filterMap.mp h
  exact lw_w i hi h1
/-- the words of a contract for the method y with code b, L locals, answer r -/
abbrev ws_ (y : MethodName) (b : ByteArray) (L : Nat) (r : Option FieldType) : List Cond := Cond.code y b L r :: lw_all
theorem lw_meth {y : MethodName} {b : ByteArray} {L : Nat} {r : Option FieldType} (h : Cond.code y b L r ∈ lw_all) : GoodIn lw_all (ws_ y b L r) := by
  intro w hw
  rcases List.mem_cons.mp hw with e | e
  · rw [e]
    exact lw_self _ h
  · exact lw_self _ e
theorem lw_app {a c : List Cond} (ha : ∀ w ∈ a, w ∈ lw_all) (hc : GoodIn lw_all c) : GoodIn lw_all (a ++ c) := by
  intro w hw
  rcases List.mem_append.mp hw with e | e
  · exact lw_self w (ha w e)
  · exact hc w e
/-- what a call through an object asks: cwV n hts (lw_V ..) -/
theorem lw_V {own : String} {idx : Nat} {C : String} {y : MethodName} {b : ByteArray} {L : Nat} {r : Option FieldType} (h1 : Cond.methodLink own idx y ∈ lw_all) (h2 : Cond.instanceMethod y ∈ lw_all) (h3 : Cond.selects C y y ∈ lw_all) (h4 : Cond.initialized C ∈ lw_all) (h5 : Cond.code y b L r ∈ lw_all) : GoodIn lw_all (wsV own idx C y (ws_ y b L r)) := by
  refine lw_app ?_ (lw_meth h5)
  intro w hw
  simp only [List.mem_cons, List.not_mem_nil, or_false] at hw
  rcases hw with e | e | e | e
  · rw [e]; exact h1
  · rw [e]; exact h2
  · rw [e]; exact h3
  · rw [e]; exact h4
/-- what a static call asks: va_cwS n hts (lw_S ..) -/
theorem lw_S {own : String} {idx : Nat} {y : MethodName} {b : ByteArray} {L : Nat} {r : Option FieldType} (h1 : Cond.methodLink own idx y ∈ lw_all) (h2 : Cond.static y ∈ lw_all) (h3 : Cond.initialized y.cls ∈ lw_all) (h4 : Cond.code y b L r ∈ lw_all) : GoodIn lw_all (va_wsS own idx y (ws_ y b L r)) := by
  refine lw_app ?_ (lw_meth h4)
  intro w hw
  simp only [List.mem_cons, List.not_mem_nil, or_false] at hw
  rcases hw with e | e | e
  · rw [e]; exact h1
  · rw [e]; exact h2
  · rw [e]; exact h3
/-- the words of a contract for a method WITH HANDLERS (hh: its table) -/
abbrev wsW_ (y : MethodName) (b : ByteArray) (L : Nat) (r : Option FieldType) (hh : List (Nat × Nat × Nat × Nat)) : List Cond := Cond.codeWith y b L r hh :: lw_all
theorem lw_methW {y : MethodName} {b : ByteArray} {L : Nat} {r : Option FieldType} {hh : List (Nat × Nat × Nat × Nat)} (h : Cond.codeWith y b L r hh ∈ lw_all) : GoodIn lw_all (wsW_ y b L r hh) := by
  intro w hw
  rcases List.mem_cons.mp hw with e | e
  · rw [e]
    exact lw_self _ h
  · exact lw_self _ e
/-- any list of words by their places (lw_in), good -/
theorem lw_good {ws : List Cond} (h : ∀ w ∈ ws, w ∈ lw_all) : GoodIn lw_all ws := fun w hw => lw_self w (h w hw)
/-- what a call of a method with handlers asks: vx_cwVW n hts (lw_VW ..), vx_cwSW n hts (lw_SW ..) -/
theorem lw_VW {own : String} {idx : Nat} {C : String} {y : MethodName} {b : ByteArray} {L : Nat} {r : Option FieldType} {hh : List (Nat × Nat × Nat × Nat)} (h1 : Cond.methodLink own idx y ∈ lw_all) (h2 : Cond.instanceMethod y ∈ lw_all) (h3 : Cond.selects C y y ∈ lw_all) (h4 : Cond.initialized C ∈ lw_all) (h5 : Cond.codeWith y b L r hh ∈ lw_all) : GoodIn lw_all (wsV own idx C y (wsW_ y b L r hh)) := by
  refine lw_app ?_ (lw_methW h5)
  intro w hw
  simp only [List.mem_cons, List.not_mem_nil, or_false] at hw
  rcases hw with e | e | e | e
  · rw [e]; exact h1
  · rw [e]; exact h2
  · rw [e]; exact h3
  · rw [e]; exact h4
theorem lw_SW {own : String} {idx : Nat} {y : MethodName} {b : ByteArray} {L : Nat} {r : Option FieldType} {hh : List (Nat × Nat × Nat × Nat)} (h1 : Cond.methodLink own idx y ∈ lw_all) (h2 : Cond.static y ∈ lw_all) (h3 : Cond.initialized y.cls ∈ lw_all) (h4 : Cond.codeWith y b L r hh ∈ lw_all) : GoodIn lw_all (va_wsS own idx y (wsW_ y b L r hh)) := by
  refine lw_app ?_ (lw_methW h4)
  intro w hw
  simp only [List.mem_cons, List.not_mem_nil, or_false] at hw
  rcases hw with e | e | e
  · rw [e]; exact h1
  · rw [e]; exact h2
  · rw [e]; exact h3
/-- a word by its place in its run of the tables -/
theorem lw_at {r : List Cond} (hr : ∀ w ∈ r, w ∈ lw_tbl) {w : Cond} (i : Nat) (h : r[i]? = some w) : w ∈ lw_tbl := hr w (List.mem_of_getElem? h)
theorem lw_g {w : Cond} (h : w ∈ lw_tbl) (g : goodWord w = true) : w ∈ lw_all := List.mem_filter.mpr ⟨h, g⟩
theorem lw_ms : ∀ w ∈ k2_sels lw_privs, w ∈ lw_tbl := fun w h => show w ∈ k2_sels lw_privs ++ tables_1 from List.mem_append_left _ h
theorem lw_m1 : ∀ w ∈ tables_1_1, w ∈ lw_tbl := fun w h => show w ∈ k2_sels lw_privs ++ tables_1 from List.mem_append_right (k2_sels lw_privs) (show w ∈ tables_1 from List.mem_append_left _ h)
theorem lw_m2 : ∀ w ∈ tables_1_2, w ∈ lw_tbl := fun w h => show w ∈ k2_sels lw_privs ++ tables_1 from List.mem_append_right (k2_sels lw_privs) (show w ∈ tables_1 from List.mem_append_right _ (List.mem_append_left _ h))
theorem lw_m3 : ∀ w ∈ tables_1_3, w ∈ lw_tbl := fun w h => show w ∈ k2_sels lw_privs ++ tables_1 from List.mem_append_right (k2_sels lw_privs) (show w ∈ tables_1 from List.mem_append_right _ (List.mem_append_right _ (List.mem_append_left _ h)))
theorem lw_m4 : ∀ w ∈ tables_1_4, w ∈ lw_tbl := fun w h => show w ∈ k2_sels lw_privs ++ tables_1 from List.mem_append_right (k2_sels lw_privs) (show w ∈ tables_1 from List.mem_append_right _ (List.mem_append_right _ (List.mem_append_right _ (List.mem_append_left _ h))))
theorem lw_m5 : ∀ w ∈ tables_1_5, w ∈ lw_tbl := fun w h => show w ∈ k2_sels lw_privs ++ tables_1 from List.mem_append_right (k2_sels lw_privs) (show w ∈ tables_1 from List.mem_append_right _ (List.mem_append_right _ (List.mem_append_right _ (List.mem_append_right _ (List.mem_append_left _ h)))))
theorem lw_m6 : ∀ w ∈ tables_1_6, w ∈ lw_tbl := fun w h => show w ∈ k2_sels lw_privs ++ tables_1 from List.mem_append_right (k2_sels lw_privs) (show w ∈ tables_1 from List.mem_append_right _ (List.mem_append_right _ (List.mem_append_right _ (List.mem_append_right _ (List.mem_append_right _ (List.mem_append_left _ h))))))
theorem lw_m7 : ∀ w ∈ tables_1_7, w ∈ lw_tbl := fun w h => show w ∈ k2_sels lw_privs ++ tables_1 from List.mem_append_right (k2_sels lw_privs) (show w ∈ tables_1 from List.mem_append_right _ (List.mem_append_right _ (List.mem_append_right _ (List.mem_append_right _ (List.mem_append_right _ (List.mem_append_right _ (List.mem_append_left _ h)))))))
theorem lw_m8 : ∀ w ∈ tables_1_8, w ∈ lw_tbl := fun w h => show w ∈ k2_sels lw_privs ++ tables_1 from List.mem_append_right (k2_sels lw_privs) (show w ∈ tables_1 from List.mem_append_right _ (List.mem_append_right _ (List.mem_append_right _ (List.mem_append_right _ (List.mem_append_right _ (List.mem_append_right _ (List.mem_append_right _ (List.mem_append_left _ h))))))))
theorem lw_m9 : ∀ w ∈ tables_1_9, w ∈ lw_tbl := fun w h => show w ∈ k2_sels lw_privs ++ tables_1 from List.mem_append_right (k2_sels lw_privs) (show w ∈ tables_1 from List.mem_append_right _ (List.mem_append_right _ (List.mem_append_right _ (List.mem_append_right _ (List.mem_append_right _ (List.mem_append_right _ (List.mem_append_right _ (List.mem_append_right _ (List.mem_append_left _ h)))))))))
theorem lw_m10 : ∀ w ∈ tables_1_10, w ∈ lw_tbl := fun w h => show w ∈ k2_sels lw_privs ++ tables_1 from List.mem_append_right (k2_sels lw_privs) (show w ∈ tables_1 from List.mem_append_right _ (List.mem_append_right _ (List.mem_append_right _ (List.mem_append_right _ (List.mem_append_right _ (List.mem_append_right _ (List.mem_append_right _ (List.mem_append_right _ (List.mem_append_right _ (List.mem_append_left _ h))))))))))
theorem lw_m11 : ∀ w ∈ tables_1_11, w ∈ lw_tbl := fun w h => show w ∈ k2_sels lw_privs ++ tables_1 from List.mem_append_right (k2_sels lw_privs) (show w ∈ tables_1 from List.mem_append_right _ (List.mem_append_right _ (List.mem_append_right _ (List.mem_append_right _ (List.mem_append_right _ (List.mem_append_right _ (List.mem_append_right _ (List.mem_append_right _ (List.mem_append_right _ (List.mem_append_right _ (List.mem_append_left _ h)))))))))))
theorem lw_m12 : ∀ w ∈ tables_1_12, w ∈ lw_tbl := fun w h => show w ∈ k2_sels lw_privs ++ tables_1 from List.mem_append_right (k2_sels lw_privs) (show w ∈ tables_1 from List.mem_append_right _ (List.mem_append_right _ (List.mem_append_right _ (List.mem_append_right _ (List.mem_append_right _ (List.mem_append_right _ (List.mem_append_right _ (List.mem_append_right _ (List.mem_append_right _ (List.mem_append_right _ (List.mem_append_right _ (List.mem_append_left _ h))))))))))))
theorem lw_m13 : ∀ w ∈ tables_1_13, w ∈ lw_tbl := fun w h => show w ∈ k2_sels lw_privs ++ tables_1 from List.mem_append_right (k2_sels lw_privs) (show w ∈ tables_1 from List.mem_append_right _ (List.mem_append_right _ (List.mem_append_right _ (List.mem_append_right _ (List.mem_append_right _ (List.mem_append_right _ (List.mem_append_right _ (List.mem_append_right _ (List.mem_append_right _ (List.mem_append_right _ (List.mem_append_right _ (List.mem_append_right _ (List.mem_append_left _ h)))))))))))))
theorem lw_m14 : ∀ w ∈ tables_1_14, w ∈ lw_tbl := fun w h => show w ∈ k2_sels lw_privs ++ tables_1 from List.mem_append_right (k2_sels lw_privs) (show w ∈ tables_1 from List.mem_append_right _ (List.mem_append_right _ (List.mem_append_right _ (List.mem_append_right _ (List.mem_append_right _ (List.mem_append_right _ (List.mem_append_right _ (List.mem_append_right _ (List.mem_append_right _ (List.mem_append_right _ (List.mem_append_right _ (List.mem_append_right _ (List.mem_append_right _ h)))))))))))))
theorem qs0 : (Cond.selects "PlanMemo" ⟨"PlanMemo", "shelf", "(I)LPlanMemo$Shelf;"⟩ ⟨"PlanMemo", "shelf", "(I)LPlanMemo$Shelf;"⟩) ∈ lw_all := lw_g (lw_at lw_ms 0 rfl) rfl
theorem qs1 : (Cond.selects "java/lang/NullPointerException" ⟨"java/lang/NullPointerException", "getExtendedNPEMessage", "()Ljava/lang/String;"⟩ ⟨"java/lang/NullPointerException", "getExtendedNPEMessage", "()Ljava/lang/String;"⟩) ∈ lw_all := lw_g (lw_at lw_ms 1 rfl) rfl
theorem qs2 : (Cond.selects "java/lang/Throwable" ⟨"java/lang/Throwable", "fillInStackTrace", "(I)Ljava/lang/Throwable;"⟩ ⟨"java/lang/Throwable", "fillInStackTrace", "(I)Ljava/lang/Throwable;"⟩) ∈ lw_all := lw_g (lw_at lw_ms 2 rfl) rfl
theorem qs3 : (Cond.selects "PlanMemo" ⟨"PlanMemo", "refused", "(LPlanMemo$Refused;)I"⟩ ⟨"PlanMemo", "refused", "(LPlanMemo$Refused;)I"⟩) ∈ lw_all := lw_g (lw_at lw_ms 3 rfl) rfl
theorem qs4 : (Cond.selects "PlanMemo" ⟨"PlanMemo", "beyond", "()I"⟩ ⟨"PlanMemo", "beyond", "()I"⟩) ∈ lw_all := lw_g (lw_at lw_ms 4 rfl) rfl
theorem qs5 : (Cond.selects "PlanMemo$Memo" ⟨"PlanMemo$Memo", "isAlike", "(IIIII)Z"⟩ ⟨"PlanMemo$Memo", "isAlike", "(IIIII)Z"⟩) ∈ lw_all := lw_g (lw_at lw_ms 5 rfl) rfl
theorem qs6 : (Cond.selects "PlanMemo" ⟨"PlanMemo", "mustGroup", "(I)V"⟩ ⟨"PlanMemo", "mustGroup", "(I)V"⟩) ∈ lw_all := lw_g (lw_at lw_ms 6 rfl) rfl
theorem qs7 : (Cond.selects "PlanMemo" ⟨"PlanMemo", "columnsOf", "(I)I"⟩ ⟨"PlanMemo", "columnsOf", "(I)I"⟩) ∈ lw_all := lw_g (lw_at lw_ms 7 rfl) rfl
theorem qs8 : (Cond.selects "PlanMemo" ⟨"PlanMemo", "pair", "(IIII)I"⟩ ⟨"PlanMemo", "pair", "(IIII)I"⟩) ∈ lw_all := lw_g (lw_at lw_ms 8 rfl) rfl
theorem qs9 : (Cond.selects "PlanMemo$Reader" ⟨"PlanMemo$Reader", "expression", "()LPlanMemo$Said;"⟩ ⟨"PlanMemo$Reader", "expression", "()LPlanMemo$Said;"⟩) ∈ lw_all := lw_g (lw_at lw_ms 9 rfl) rfl
theorem qs10 : (Cond.selects "PlanMemo$Reader" ⟨"PlanMemo$Reader", "word", "()Ljava/lang/String;"⟩ ⟨"PlanMemo$Reader", "word", "()Ljava/lang/String;"⟩) ∈ lw_all := lw_g (lw_at lw_ms 10 rfl) rfl
theorem qs11 : (Cond.selects "PlanMemo$Reader" ⟨"PlanMemo$Reader", "begun", "()Ljava/lang/String;"⟩ ⟨"PlanMemo$Reader", "begun", "()Ljava/lang/String;"⟩) ∈ lw_all := lw_g (lw_at lw_ms 11 rfl) rfl
theorem qs12 : (Cond.selects "PlanMemo$Reader" ⟨"PlanMemo$Reader", "ends", "()Z"⟩ ⟨"PlanMemo$Reader", "ends", "()Z"⟩) ∈ lw_all := lw_g (lw_at lw_ms 12 rfl) rfl
theorem qs13 : (Cond.selects "PlanMemo$Reader" ⟨"PlanMemo$Reader", "must", "(I)V"⟩ ⟨"PlanMemo$Reader", "must", "(I)V"⟩) ∈ lw_all := lw_g (lw_at lw_ms 13 rfl) rfl
theorem qs14 : (Cond.selects "PlanMemo$Reader" ⟨"PlanMemo$Reader", "digit", "(I)I"⟩ ⟨"PlanMemo$Reader", "digit", "(I)I"⟩) ∈ lw_all := lw_g (lw_at lw_ms 14 rfl) rfl
theorem qs15 : (Cond.selects "PlanMemo$Reader" ⟨"PlanMemo$Reader", "holds", "(ZI)V"⟩ ⟨"PlanMemo$Reader", "holds", "(ZI)V"⟩) ∈ lw_all := lw_g (lw_at lw_ms 15 rfl) rfl
theorem qs16 : (Cond.selects "PlanMemo$Reader" ⟨"PlanMemo$Reader", "single", "(III)LPlanMemo$Said;"⟩ ⟨"PlanMemo$Reader", "single", "(III)LPlanMemo$Said;"⟩) ∈ lw_all := lw_g (lw_at lw_ms 16 rfl) rfl
theorem qs17 : (Cond.selects "PlanMemo$Reader" ⟨"PlanMemo$Reader", "pair", "(III)LPlanMemo$Said;"⟩ ⟨"PlanMemo$Reader", "pair", "(III)LPlanMemo$Said;"⟩) ∈ lw_all := lw_g (lw_at lw_ms 17 rfl) rfl
theorem qs18 : (Cond.selects "PlanMemo$Memo" ⟨"PlanMemo$Memo", "unite", "(II)Z"⟩ ⟨"PlanMemo$Memo", "unite", "(II)Z"⟩) ∈ lw_all := lw_g (lw_at lw_ms 18 rfl) rfl
theorem qs19 : (Cond.selects "PlanMemo$Memo" ⟨"PlanMemo$Memo", "drop", "(I)Z"⟩ ⟨"PlanMemo$Memo", "drop", "(I)Z"⟩) ∈ lw_all := lw_g (lw_at lw_ms 19 rfl) rfl
theorem qs20 : (Cond.selects "PlanMemo$Memo" ⟨"PlanMemo$Memo", "count", "()V"⟩ ⟨"PlanMemo$Memo", "count", "()V"⟩) ∈ lw_all := lw_g (lw_at lw_ms 20 rfl) rfl
theorem qs21 : (Cond.selects "PlanMemo" ⟨"PlanMemo", "usersOf", "(I)I"⟩ ⟨"PlanMemo", "usersOf", "(I)I"⟩) ∈ lw_all := lw_g (lw_at lw_ms 21 rfl) rfl
theorem qs22 : (Cond.selects "PlanMemo" ⟨"PlanMemo", "isInput", "(II)Z"⟩ ⟨"PlanMemo", "isInput", "(II)Z"⟩) ∈ lw_all := lw_g (lw_at lw_ms 22 rfl) rfl
theorem qs23 : (Cond.selects "PlanMemo$Firing" ⟨"PlanMemo$Firing", "findsBy", "(J)Z"⟩ ⟨"PlanMemo$Firing", "findsBy", "(J)Z"⟩) ∈ lw_all := lw_g (lw_at lw_ms 23 rfl) rfl
theorem qs24 : (Cond.selects "PlanMemo$Firing" ⟨"PlanMemo$Firing", "findsSecond", "(J)Z"⟩ ⟨"PlanMemo$Firing", "findsSecond", "(J)Z"⟩) ∈ lw_all := lw_g (lw_at lw_ms 24 rfl) rfl
theorem qs25 : (Cond.selects "PlanMemo$Firing" ⟨"PlanMemo$Firing", "drafted", "()LPlanMemo$Rule;"⟩ ⟨"PlanMemo$Firing", "drafted", "()LPlanMemo$Rule;"⟩) ∈ lw_all := lw_g (lw_at lw_ms 25 rfl) rfl
theorem qs26 : (Cond.selects "PlanMemo" ⟨"PlanMemo", "demand", "(III)I"⟩ ⟨"PlanMemo", "demand", "(III)I"⟩) ∈ lw_all := lw_g (lw_at lw_ms 26 rfl) rfl
theorem qs27 : (Cond.selects "PlanMemo" ⟨"PlanMemo", "costOf", "(II)J"⟩ ⟨"PlanMemo", "costOf", "(II)J"⟩) ∈ lw_all := lw_g (lw_at lw_ms 27 rfl) rfl
theorem qs28 : (Cond.selects "PlanMemo$Search" ⟨"PlanMemo$Search", "demandAll", "(I)V"⟩ ⟨"PlanMemo$Search", "demandAll", "(I)V"⟩) ∈ lw_all := lw_g (lw_at lw_ms 28 rfl) rfl
theorem qs29 : (Cond.selects "PlanMemo$Search" ⟨"PlanMemo$Search", "demand", "(I)V"⟩ ⟨"PlanMemo$Search", "demand", "(I)V"⟩) ∈ lw_all := lw_g (lw_at lw_ms 29 rfl) rfl
theorem qs30 : (Cond.selects "PlanMemo$Ways" ⟨"PlanMemo$Ways", "by", "(I)V"⟩ ⟨"PlanMemo$Ways", "by", "(I)V"⟩) ∈ lw_all := lw_g (lw_at lw_ms 30 rfl) rfl
theorem qs31 : (Cond.selects "PlanMemo$Ways" ⟨"PlanMemo$Ways", "scans", "(I)V"⟩ ⟨"PlanMemo$Ways", "scans", "(I)V"⟩) ∈ lw_all := lw_g (lw_at lw_ms 31 rfl) rfl
theorem qs32 : (Cond.selects "PlanMemo$Ways" ⟨"PlanMemo$Ways", "offers", "(IIIII)V"⟩ ⟨"PlanMemo$Ways", "offers", "(IIIII)V"⟩) ∈ lw_all := lw_g (lw_at lw_ms 32 rfl) rfl
theorem qs33 : (Cond.selects "PlanMemo$Search" ⟨"PlanMemo$Search", "of", "(I)J"⟩ ⟨"PlanMemo$Search", "of", "(I)J"⟩) ∈ lw_all := lw_g (lw_at lw_ms 33 rfl) rfl
theorem qs34 : (Cond.selects "PlanMemo$Search" ⟨"PlanMemo$Search", "usedBy", "(II)V"⟩ ⟨"PlanMemo$Search", "usedBy", "(II)V"⟩) ∈ lw_all := lw_g (lw_at lw_ms 34 rfl) rfl
theorem qs35 : (Cond.selects "PlanMemo$Ways" ⟨"PlanMemo$Ways", "input", "(III)I"⟩ ⟨"PlanMemo$Ways", "input", "(III)I"⟩) ∈ lw_all := lw_g (lw_at lw_ms 35 rfl) rfl
theorem qs36 : (Cond.selects "PlanMemo$Ways" ⟨"PlanMemo$Ways", "sums", "(III)V"⟩ ⟨"PlanMemo$Ways", "sums", "(III)V"⟩) ∈ lw_all := lw_g (lw_at lw_ms 36 rfl) rfl
theorem qs37 : (Cond.selects "PlanMemo$Ways" ⟨"PlanMemo$Ways", "pairs", "(III)V"⟩ ⟨"PlanMemo$Ways", "pairs", "(III)V"⟩) ∈ lw_all := lw_g (lw_at lw_ms 37 rfl) rfl
theorem qs38 : (Cond.selects "PlanMemo$Ways" ⟨"PlanMemo$Ways", "enforcers", "()V"⟩ ⟨"PlanMemo$Ways", "enforcers", "()V"⟩) ∈ lw_all := lw_g (lw_at lw_ms 38 rfl) rfl
theorem qs39 : (Cond.selects "PlanMemo$Search" ⟨"PlanMemo$Search", "through", "(I)V"⟩ ⟨"PlanMemo$Search", "through", "(I)V"⟩) ∈ lw_all := lw_g (lw_at lw_ms 39 rfl) rfl
theorem qs40 : (Cond.selects "PlanMemo$Search" ⟨"PlanMemo$Search", "lowers", "(IJ)V"⟩ ⟨"PlanMemo$Search", "lowers", "(IJ)V"⟩) ∈ lw_all := lw_g (lw_at lw_ms 40 rfl) rfl
theorem qs41 : (Cond.selects "PlanMemo$Search" ⟨"PlanMemo$Search", "rises", "(I)V"⟩ ⟨"PlanMemo$Search", "rises", "(I)V"⟩) ∈ lw_all := lw_g (lw_at lw_ms 41 rfl) rfl
theorem qs42 : (Cond.selects "PlanMemo$Search" ⟨"PlanMemo$Search", "isLess", "(II)Z"⟩ ⟨"PlanMemo$Search", "isLess", "(II)Z"⟩) ∈ lw_all := lw_g (lw_at lw_ms 42 rfl) rfl
theorem qs43 : (Cond.selects "PlanMemo$Search" ⟨"PlanMemo$Search", "exchange", "(II)V"⟩ ⟨"PlanMemo$Search", "exchange", "(II)V"⟩) ∈ lw_all := lw_g (lw_at lw_ms 43 rfl) rfl
theorem qs44 : (Cond.selects "PlanMemo$Search" ⟨"PlanMemo$Search", "least", "()I"⟩ ⟨"PlanMemo$Search", "least", "()I"⟩) ∈ lw_all := lw_g (lw_at lw_ms 44 rfl) rfl
theorem qs45 : (Cond.selects "PlanMemo$Search" ⟨"PlanMemo$Search", "sinks", "()V"⟩ ⟨"PlanMemo$Search", "sinks", "()V"⟩) ∈ lw_all := lw_g (lw_at lw_ms 45 rfl) rfl
theorem qs46 : (Cond.selects "PlanMemo$Speller" ⟨"PlanMemo$Speller", "say", "(Ljava/lang/String;)V"⟩ ⟨"PlanMemo$Speller", "say", "(Ljava/lang/String;)V"⟩) ∈ lw_all := lw_g (lw_at lw_ms 46 rfl) rfl
theorem qs47 : (Cond.selects "PlanMemo$Speller" ⟨"PlanMemo$Speller", "digit", "(I)V"⟩ ⟨"PlanMemo$Speller", "digit", "(I)V"⟩) ∈ lw_all := lw_g (lw_at lw_ms 47 rfl) rfl
theorem qs48 : (Cond.selects "PlanMemo" ⟨"PlanMemo", "level", "()V"⟩ ⟨"PlanMemo", "level", "()V"⟩) ∈ lw_all := lw_g (lw_at lw_ms 48 rfl) rfl
theorem qs49 : (Cond.selects "PlanMemo" ⟨"PlanMemo", "treesBy", "(I)I"⟩ ⟨"PlanMemo", "treesBy", "(I)I"⟩) ∈ lw_all := lw_g (lw_at lw_ms 49 rfl) rfl
theorem qs50 : (Cond.selects "PlanMemo" ⟨"PlanMemo", "dealt", "()V"⟩ ⟨"PlanMemo", "dealt", "()V"⟩) ∈ lw_all := lw_g (lw_at lw_ms 50 rfl) rfl
theorem qs51 : (Cond.selects "PlanMemo" ⟨"PlanMemo", "shelvesFollow", "()V"⟩ ⟨"PlanMemo", "shelvesFollow", "()V"⟩) ∈ lw_all := lw_g (lw_at lw_ms 51 rfl) rfl
theorem qs52 : (Cond.selects "PlanMemo" ⟨"PlanMemo", "groupsLeft", "()I"⟩ ⟨"PlanMemo", "groupsLeft", "()I"⟩) ∈ lw_all := lw_g (lw_at lw_ms 52 rfl) rfl
theorem qs53 : (Cond.selects "PlanMemo" ⟨"PlanMemo", "goneMany", "()I"⟩ ⟨"PlanMemo", "goneMany", "()I"⟩) ∈ lw_all := lw_g (lw_at lw_ms 53 rfl) rfl
theorem qs54 : (Cond.selects "PlanMemoModel" ⟨"PlanMemoModel", "isShelf", "(I)Z"⟩ ⟨"PlanMemoModel", "isShelf", "(I)Z"⟩) ∈ lw_all := lw_g (lw_at lw_ms 54 rfl) rfl
theorem qs55 : (Cond.selects "PlanMemoModel" ⟨"PlanMemoModel", "no", "(I)I"⟩ ⟨"PlanMemoModel", "no", "(I)I"⟩) ∈ lw_all := lw_g (lw_at lw_ms 55 rfl) rfl
theorem qs56 : (Cond.selects "PlanMemoModel" ⟨"PlanMemoModel", "puts", "(IIJ)V"⟩ ⟨"PlanMemoModel", "puts", "(IIJ)V"⟩) ∈ lw_all := lw_g (lw_at lw_ms 56 rfl) rfl
theorem qs57 : (Cond.selects "PlanMemoModel" ⟨"PlanMemoModel", "isExpression", "(I)Z"⟩ ⟨"PlanMemoModel", "isExpression", "(I)Z"⟩) ∈ lw_all := lw_g (lw_at lw_ms 57 rfl) rfl
theorem qs58 : (Cond.selects "PlanMemoModel" ⟨"PlanMemoModel", "isFrom", "(III)Z"⟩ ⟨"PlanMemoModel", "isFrom", "(III)Z"⟩) ∈ lw_all := lw_g (lw_at lw_ms 58 rfl) rfl
theorem qs59 : (Cond.selects "PlanMemoModel" ⟨"PlanMemoModel", "isOf", "(II)Z"⟩ ⟨"PlanMemoModel", "isOf", "(II)Z"⟩) ∈ lw_all := lw_g (lw_at lw_ms 59 rfl) rfl
theorem qs60 : (Cond.selects "PlanMemoModel" ⟨"PlanMemoModel", "root", "(I)I"⟩ ⟨"PlanMemoModel", "root", "(I)I"⟩) ∈ lw_all := lw_g (lw_at lw_ms 60 rfl) rfl
theorem qs61 : (Cond.selects "PlanMemoModel" ⟨"PlanMemoModel", "isColumn", "(II)Z"⟩ ⟨"PlanMemoModel", "isColumn", "(II)Z"⟩) ∈ lw_all := lw_g (lw_at lw_ms 61 rfl) rfl
theorem qs62 : (Cond.selects "PlanMemoModel" ⟨"PlanMemoModel", "tellOf", "(IIII)I"⟩ ⟨"PlanMemoModel", "tellOf", "(IIII)I"⟩) ∈ lw_all := lw_g (lw_at lw_ms 62 rfl) rfl
theorem qs63 : (Cond.selects "PlanMemoModel" ⟨"PlanMemoModel", "alike", "(IIII)I"⟩ ⟨"PlanMemoModel", "alike", "(IIII)I"⟩) ∈ lw_all := lw_g (lw_at lw_ms 63 rfl) rfl
theorem qs64 : (Cond.selects "PlanMemoModel" ⟨"PlanMemoModel", "told", "(IIII)I"⟩ ⟨"PlanMemoModel", "told", "(IIII)I"⟩) ∈ lw_all := lw_g (lw_at lw_ms 64 rfl) rfl
theorem qs65 : (Cond.selects "PlanMemoModel" ⟨"PlanMemoModel", "adds", "(IIIII)I"⟩ ⟨"PlanMemoModel", "adds", "(IIIII)I"⟩) ∈ lw_all := lw_g (lw_at lw_ms 65 rfl) rfl
theorem qs66 : (Cond.selects "PlanMemoModel" ⟨"PlanMemoModel", "isGroup", "(I)Z"⟩ ⟨"PlanMemoModel", "isGroup", "(I)Z"⟩) ∈ lw_all := lw_g (lw_at lw_ms 66 rfl) rfl
theorem qs67 : (Cond.selects "PlanMemoModel" ⟨"PlanMemoModel", "may", "(IIII)Z"⟩ ⟨"PlanMemoModel", "may", "(IIII)Z"⟩) ∈ lw_all := lw_g (lw_at lw_ms 67 rfl) rfl
theorem qs68 : (Cond.selects "PlanMemoModel" ⟨"PlanMemoModel", "tells", "()V"⟩ ⟨"PlanMemoModel", "tells", "()V"⟩) ∈ lw_all := lw_g (lw_at lw_ms 68 rfl) rfl
theorem qs69 : (Cond.selects "PlanMemoModel" ⟨"PlanMemoModel", "two", "(IIII)I"⟩ ⟨"PlanMemoModel", "two", "(IIII)I"⟩) ∈ lw_all := lw_g (lw_at lw_ms 69 rfl) rfl
theorem qs70 : (Cond.selects "PlanMemoModel" ⟨"PlanMemoModel", "reads", "()I"⟩ ⟨"PlanMemoModel", "reads", "()I"⟩) ∈ lw_all := lw_g (lw_at lw_ms 70 rfl) rfl
theorem qs71 : (Cond.selects "PlanMemoModel" ⟨"PlanMemoModel", "goes", "(Ljava/lang/String;)Z"⟩ ⟨"PlanMemoModel", "goes", "(Ljava/lang/String;)Z"⟩) ∈ lw_all := lw_g (lw_at lw_ms 71 rfl) rfl
theorem qs72 : (Cond.selects "PlanMemoModel" ⟨"PlanMemoModel", "goes", "(I)Z"⟩ ⟨"PlanMemoModel", "goes", "(I)Z"⟩) ∈ lw_all := lw_g (lw_at lw_ms 72 rfl) rfl
theorem qs73 : (Cond.selects "PlanMemoModel" ⟨"PlanMemoModel", "digit", "(I)I"⟩ ⟨"PlanMemoModel", "digit", "(I)I"⟩) ∈ lw_all := lw_g (lw_at lw_ms 73 rfl) rfl
theorem qs74 : (Cond.selects "PlanMemoModel" ⟨"PlanMemoModel", "merges", "(II)V"⟩ ⟨"PlanMemoModel", "merges", "(II)V"⟩) ∈ lw_all := lw_g (lw_at lw_ms 74 rfl) rfl
theorem qs75 : (Cond.selects "PlanMemoModel" ⟨"PlanMemoModel", "finds", "()Z"⟩ ⟨"PlanMemoModel", "finds", "()Z"⟩) ∈ lw_all := lw_g (lw_at lw_ms 75 rfl) rfl
theorem qs76 : (Cond.selects "PlanMemoModel" ⟨"PlanMemoModel", "fits", "(III)Z"⟩ ⟨"PlanMemoModel", "fits", "(III)Z"⟩) ∈ lw_all := lw_g (lw_at lw_ms 76 rfl) rfl
theorem qs77 : (Cond.selects "PlanMemoModel" ⟨"PlanMemoModel", "news", "()I"⟩ ⟨"PlanMemoModel", "news", "()I"⟩) ∈ lw_all := lw_g (lw_at lw_ms 77 rfl) rfl
theorem qs78 : (Cond.selects "PlanMemoModel" ⟨"PlanMemoModel", "bracket", "()V"⟩ ⟨"PlanMemoModel", "bracket", "()V"⟩) ∈ lw_all := lw_g (lw_at lw_ms 78 rfl) rfl
theorem qs79 : (Cond.selects "PlanMemoModel" ⟨"PlanMemoModel", "says", "(IIII)V"⟩ ⟨"PlanMemoModel", "says", "(IIII)V"⟩) ∈ lw_all := lw_g (lw_at lw_ms 79 rfl) rfl
theorem qs80 : (Cond.selects "PlanMemoModel" ⟨"PlanMemoModel", "comes", "(I)V"⟩ ⟨"PlanMemoModel", "comes", "(I)V"⟩) ∈ lw_all := lw_g (lw_at lw_ms 80 rfl) rfl
theorem qs81 : (Cond.selects "PlanMemoModel" ⟨"PlanMemoModel", "fires", "()V"⟩ ⟨"PlanMemoModel", "fires", "()V"⟩) ∈ lw_all := lw_g (lw_at lw_ms 81 rfl) rfl
theorem qs82 : (Cond.selects "PlanMemoModel" ⟨"PlanMemoModel", "priceOf", "(IJJJ)J"⟩ ⟨"PlanMemoModel", "priceOf", "(IJJJ)J"⟩) ∈ lw_all := lw_g (lw_at lw_ms 82 rfl) rfl
theorem qs83 : (Cond.selects "PlanMemoModel" ⟨"PlanMemoModel", "runs", "(I)V"⟩ ⟨"PlanMemoModel", "runs", "(I)V"⟩) ∈ lw_all := lw_g (lw_at lw_ms 83 rfl) rfl
theorem qs84 : (Cond.selects "PlanMemoModel" ⟨"PlanMemoModel", "reads", "(IJJJ)J"⟩ ⟨"PlanMemoModel", "reads", "(IJJJ)J"⟩) ∈ lw_all := lw_g (lw_at lw_ms 84 rfl) rfl
theorem qs85 : (Cond.selects "PlanMemoModel" ⟨"PlanMemoModel", "works", "(IJJJ)J"⟩ ⟨"PlanMemoModel", "works", "(IJJJ)J"⟩) ∈ lw_all := lw_g (lw_at lw_ms 85 rfl) rfl
theorem qs86 : (Cond.selects "PlanMemoModel" ⟨"PlanMemoModel", "isWay", "(I)Z"⟩ ⟨"PlanMemoModel", "isWay", "(I)Z"⟩) ∈ lw_all := lw_g (lw_at lw_ms 86 rfl) rfl
theorem qs87 : (Cond.selects "PlanMemoModel" ⟨"PlanMemoModel", "noTen", "(I)I"⟩ ⟨"PlanMemoModel", "noTen", "(I)I"⟩) ∈ lw_all := lw_g (lw_at lw_ms 87 rfl) rfl
theorem qs88 : (Cond.selects "PlanMemoModel" ⟨"PlanMemoModel", "isDemand", "(II)Z"⟩ ⟨"PlanMemoModel", "isDemand", "(II)Z"⟩) ∈ lw_all := lw_g (lw_at lw_ms 88 rfl) rfl
theorem qs89 : (Cond.selects "PlanMemoModel" ⟨"PlanMemoModel", "costs", "()V"⟩ ⟨"PlanMemoModel", "costs", "()V"⟩) ∈ lw_all := lw_g (lw_at lw_ms 89 rfl) rfl
theorem qs90 : (Cond.selects "PlanMemoModel" ⟨"PlanMemoModel", "waysOf", "(I)V"⟩ ⟨"PlanMemoModel", "waysOf", "(I)V"⟩) ∈ lw_all := lw_g (lw_at lw_ms 90 rfl) rfl
theorem qs91 : (Cond.selects "PlanMemoModel" ⟨"PlanMemoModel", "waysBy", "(III)V"⟩ ⟨"PlanMemoModel", "waysBy", "(III)V"⟩) ∈ lw_all := lw_g (lw_at lw_ms 91 rfl) rfl
theorem qs92 : (Cond.selects "PlanMemoModel" ⟨"PlanMemoModel", "way", "(IIIIIJJJ)V"⟩ ⟨"PlanMemoModel", "way", "(IIIIIJJJ)V"⟩) ∈ lw_all := lw_g (lw_at lw_ms 92 rfl) rfl
theorem qs93 : (Cond.selects "PlanMemoModel" ⟨"PlanMemoModel", "silent", "(IJJJ)J"⟩ ⟨"PlanMemoModel", "silent", "(IJJJ)J"⟩) ∈ lw_all := lw_g (lw_at lw_ms 93 rfl) rfl
theorem qs94 : (Cond.selects "PlanMemoModel" ⟨"PlanMemoModel", "sum", "(I)J"⟩ ⟨"PlanMemoModel", "sum", "(I)J"⟩) ∈ lw_all := lw_g (lw_at lw_ms 94 rfl) rfl
theorem qs95 : (Cond.selects "PlanMemoModel" ⟨"PlanMemoModel", "closes", "(I)I"⟩ ⟨"PlanMemoModel", "closes", "(I)I"⟩) ∈ lw_all := lw_g (lw_at lw_ms 95 rfl) rfl
theorem qs96 : (Cond.selects "PlanMemoModel" ⟨"PlanMemoModel", "plans", "(I)Z"⟩ ⟨"PlanMemoModel", "plans", "(I)Z"⟩) ∈ lw_all := lw_g (lw_at lw_ms 96 rfl) rfl
theorem qs97 : (Cond.selects "PlanMemoModel" ⟨"PlanMemoModel", "spells", "(I)I"⟩ ⟨"PlanMemoModel", "spells", "(I)I"⟩) ∈ lw_all := lw_g (lw_at lw_ms 97 rfl) rfl
theorem qs98 : (Cond.selects "PlanMemoModel" ⟨"PlanMemoModel", "writes", "(Ljava/lang/String;)V"⟩ ⟨"PlanMemoModel", "writes", "(Ljava/lang/String;)V"⟩) ∈ lw_all := lw_g (lw_at lw_ms 98 rfl) rfl
theorem qs99 : (Cond.selects "PlanMemoModel" ⟨"PlanMemoModel", "draw", "(I)I"⟩ ⟨"PlanMemoModel", "draw", "(I)I"⟩) ∈ lw_all := lw_g (lw_at lw_ms 99 rfl) rfl
