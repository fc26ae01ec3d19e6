-- ===== PART A: goes FIRST, ahead of the names: the tables' words, and 'selects' of the private methods out of them =====
/-- a private method of a class that the tables say can be made, by its rows of tables_1 -/
def lw_okq (q : MethodName × Nat) : Prop := (q.1.cls ≠ "java/lang/invoke/MethodHandle" ∧ q.1.cls ≠ "java/lang/invoke/VarHandle") ∧ Cond.instantiable q.1.cls q.2 ∈ tables_1 ∧ Cond.privateMethod q.1 ∈ tables_1 ∧ Cond.instanceMethod q.1 ∈ tables_1
theorem lw_t1 {w : Cond} (h : w ∈ tables_1_1) : w ∈ tables_1 := List.mem_append_left _ h
theorem lw_t2 {w : Cond} (h : w ∈ tables_1_2) : w ∈ tables_1 := List.mem_append_right _ (List.mem_append_left _ h)
theorem lw_t3 {w : Cond} (h : w ∈ tables_1_3) : w ∈ tables_1 := List.mem_append_right _ (List.mem_append_right _ (List.mem_append_left _ h))
theorem lw_t4 {w : Cond} (h : w ∈ tables_1_4) : w ∈ tables_1 := List.mem_append_right _ (List.mem_append_right _ (List.mem_append_right _ (List.mem_append_left _ h)))
theorem lw_t5 {w : Cond} (h : w ∈ tables_1_5) : w ∈ tables_1 := List.mem_append_right _ (List.mem_append_right _ (List.mem_append_right _ (List.mem_append_right _ (List.mem_append_left _ h))))
theorem lw_t6 {w : Cond} (h : w ∈ tables_1_6) : w ∈ tables_1 := List.mem_append_right _ (List.mem_append_right _ (List.mem_append_right _ (List.mem_append_right _ (List.mem_append_right _ (List.mem_append_left _ h)))))
theorem lw_t7 {w : Cond} (h : w ∈ tables_1_7) : w ∈ tables_1 := List.mem_append_right _ (List.mem_append_right _ (List.mem_append_right _ (List.mem_append_right _ (List.mem_append_right _ (List.mem_append_right _ (List.mem_append_left _ h))))))
theorem lw_t8 {w : Cond} (h : w ∈ tables_1_8) : w ∈ tables_1 := List.mem_append_right _ (List.mem_append_right _ (List.mem_append_right _ (List.mem_append_right _ (List.mem_append_right _ (List.mem_append_right _ (List.mem_append_right _ (List.mem_append_left _ h)))))))
theorem lw_t9 {w : Cond} (h : w ∈ tables_1_9) : w ∈ tables_1 := List.mem_append_right _ (List.mem_append_right _ (List.mem_append_right _ (List.mem_append_right _ (List.mem_append_right _ (List.mem_append_right _ (List.mem_append_right _ (List.mem_append_right _ (h))))))))
theorem lw_n0 : ("FormHouse" : String) ≠ "java/lang/invoke/MethodHandle" ∧ ("FormHouse" : String) ≠ "java/lang/invoke/VarHandle" := ⟨by decide +kernel, by decide +kernel⟩
set_option maxRecDepth 20000 in
theorem lw_p0 : lw_okq (⟨"FormHouse", "begin", "(J)V"⟩, 23) := ⟨lw_n0, lw_t1 (List.mem_of_getElem? (l := tables_1_1) (i := 31) rfl), lw_t3 (List.mem_of_getElem? (l := tables_1_3) (i := 47) rfl), lw_t3 (List.mem_of_getElem? (l := tables_1_3) (i := 48) rfl)⟩
theorem lw_n1 : ("FormHouse$Units" : String) ≠ "java/lang/invoke/MethodHandle" ∧ ("FormHouse$Units" : String) ≠ "java/lang/invoke/VarHandle" := ⟨by decide +kernel, by decide +kernel⟩
set_option maxRecDepth 20000 in
theorem lw_p1 : lw_okq (⟨"FormHouse$Units", "goRound", "()V"⟩, 10) := ⟨lw_n1, lw_t1 (List.mem_of_getElem? (l := tables_1_1) (i := 39) rfl), lw_t3 (List.mem_of_getElem? (l := tables_1_3) (i := 70) rfl), lw_t3 (List.mem_of_getElem? (l := tables_1_3) (i := 71) rfl)⟩
theorem lw_n2 : ("FormHouse$Reckoner" : String) ≠ "java/lang/invoke/MethodHandle" ∧ ("FormHouse$Reckoner" : String) ≠ "java/lang/invoke/VarHandle" := ⟨by decide +kernel, by decide +kernel⟩
set_option maxRecDepth 20000 in
theorem lw_p2 : lw_okq (⟨"FormHouse$Reckoner", "give", "(LFormHouse$Whole;I)V"⟩, 4) := ⟨lw_n2, lw_t1 (List.mem_of_getElem? (l := tables_1_1) (i := 45) rfl), lw_t3 (List.mem_of_getElem? (l := tables_1_3) (i := 116) rfl), lw_t3 (List.mem_of_getElem? (l := tables_1_3) (i := 117) rfl)⟩
theorem lw_n3 : ("java/lang/Throwable" : String) ≠ "java/lang/invoke/MethodHandle" ∧ ("java/lang/Throwable" : String) ≠ "java/lang/invoke/VarHandle" := ⟨by decide +kernel, by decide +kernel⟩
set_option maxRecDepth 20000 in
theorem lw_p3 : lw_okq (⟨"java/lang/Throwable", "fillInStackTrace", "(I)Ljava/lang/Throwable;"⟩, 6) := ⟨lw_n3, lw_t3 (List.mem_of_getElem? (l := tables_1_3) (i := 158) rfl), lw_t3 (List.mem_of_getElem? (l := tables_1_3) (i := 156) rfl), lw_t3 (List.mem_of_getElem? (l := tables_1_3) (i := 157) rfl)⟩
set_option maxRecDepth 20000 in
theorem lw_p4 : lw_okq (⟨"FormHouse$Reckoner", "sum", "(LFormHouse$Whole;LFormHouse$Whole;LFormHouse$Whole;I)V"⟩, 4) := ⟨lw_n2, lw_t1 (List.mem_of_getElem? (l := tables_1_1) (i := 45) rfl), lw_t3 (List.mem_of_getElem? (l := tables_1_3) (i := 194) rfl), lw_t3 (List.mem_of_getElem? (l := tables_1_3) (i := 195) rfl)⟩
set_option maxRecDepth 20000 in
theorem lw_p5 : lw_okq (⟨"FormHouse$Reckoner", "sumSizes", "(LFormHouse$Whole;LFormHouse$Whole;)V"⟩, 4) := ⟨lw_n2, lw_t1 (List.mem_of_getElem? (l := tables_1_1) (i := 45) rfl), lw_t3 (List.mem_of_getElem? (l := tables_1_3) (i := 198) rfl), lw_t3 (List.mem_of_getElem? (l := tables_1_3) (i := 199) rfl)⟩
set_option maxRecDepth 20000 in
theorem lw_p6 : lw_okq (⟨"FormHouse$Reckoner", "takeSizes", "(LFormHouse$Whole;LFormHouse$Whole;)V"⟩, 4) := ⟨lw_n2, lw_t1 (List.mem_of_getElem? (l := tables_1_1) (i := 45) rfl), lw_t3 (List.mem_of_getElem? (l := tables_1_3) (i := 216) rfl), lw_t3 (List.mem_of_getElem? (l := tables_1_3) (i := 217) rfl)⟩
set_option maxRecDepth 20000 in
theorem lw_p7 : lw_okq (⟨"FormHouse$Units", "half", "()V"⟩, 10) := ⟨lw_n1, lw_t1 (List.mem_of_getElem? (l := tables_1_1) (i := 39) rfl), lw_t3 (List.mem_of_getElem? (l := tables_1_3) (i := 221) rfl), lw_t3 (List.mem_of_getElem? (l := tables_1_3) (i := 222) rfl)⟩
set_option maxRecDepth 20000 in
theorem lw_p8 : lw_okq (⟨"FormHouse$Units", "copy", "(LFormHouse$Whole;I)V"⟩, 10) := ⟨lw_n1, lw_t1 (List.mem_of_getElem? (l := tables_1_1) (i := 39) rfl), lw_t3 (List.mem_of_getElem? (l := tables_1_3) (i := 230) rfl), lw_t3 (List.mem_of_getElem? (l := tables_1_3) (i := 231) rfl)⟩
set_option maxRecDepth 20000 in
theorem lw_p9 : lw_okq (⟨"FormHouse$Reckoner", "digit", "(II)I"⟩, 4) := ⟨lw_n2, lw_t1 (List.mem_of_getElem? (l := tables_1_1) (i := 45) rfl), lw_t4 (List.mem_of_getElem? (l := tables_1_4) (i := 15) rfl), lw_t4 (List.mem_of_getElem? (l := tables_1_4) (i := 16) rfl)⟩
set_option maxRecDepth 20000 in
theorem lw_p10 : lw_okq (⟨"FormHouse$Reckoner", "takeOff", "(IIJ)I"⟩, 4) := ⟨lw_n2, lw_t1 (List.mem_of_getElem? (l := tables_1_1) (i := 45) rfl), lw_t4 (List.mem_of_getElem? (l := tables_1_4) (i := 23) rfl), lw_t4 (List.mem_of_getElem? (l := tables_1_4) (i := 24) rfl)⟩
set_option maxRecDepth 20000 in
theorem lw_p11 : lw_okq (⟨"FormHouse$Reckoner", "putOn", "(II)I"⟩, 4) := ⟨lw_n2, lw_t1 (List.mem_of_getElem? (l := tables_1_1) (i := 45) rfl), lw_t4 (List.mem_of_getElem? (l := tables_1_4) (i := 27) rfl), lw_t4 (List.mem_of_getElem? (l := tables_1_4) (i := 28) rfl)⟩
set_option maxRecDepth 20000 in
theorem lw_p12 : lw_okq (⟨"FormHouse$Reckoner", "moveDown", "(II)V"⟩, 4) := ⟨lw_n2, lw_t1 (List.mem_of_getElem? (l := tables_1_1) (i := 45) rfl), lw_t4 (List.mem_of_getElem? (l := tables_1_4) (i := 34) rfl), lw_t4 (List.mem_of_getElem? (l := tables_1_4) (i := 35) rfl)⟩
theorem lw_n4 : ("FormHouse$Table" : String) ≠ "java/lang/invoke/MethodHandle" ∧ ("FormHouse$Table" : String) ≠ "java/lang/invoke/VarHandle" := ⟨by decide +kernel, by decide +kernel⟩
set_option maxRecDepth 20000 in
theorem lw_p13 : lw_okq (⟨"FormHouse$Table", "parted", "(J)V"⟩, 8) := ⟨lw_n4, lw_t1 (List.mem_of_getElem? (l := tables_1_1) (i := 224) rfl), lw_t4 (List.mem_of_getElem? (l := tables_1_4) (i := 44) rfl), lw_t4 (List.mem_of_getElem? (l := tables_1_4) (i := 45) rfl)⟩
set_option maxRecDepth 20000 in
theorem lw_p14 : lw_okq (⟨"FormHouse$Table", "offer", "(JJJ)V"⟩, 8) := ⟨lw_n4, lw_t1 (List.mem_of_getElem? (l := tables_1_1) (i := 224) rfl), lw_t4 (List.mem_of_getElem? (l := tables_1_4) (i := 50) rfl), lw_t4 (List.mem_of_getElem? (l := tables_1_4) (i := 51) rfl)⟩
set_option maxRecDepth 20000 in
theorem lw_p15 : lw_okq (⟨"FormHouse$Table", "take", "(JJJ)V"⟩, 8) := ⟨lw_n4, lw_t1 (List.mem_of_getElem? (l := tables_1_1) (i := 224) rfl), lw_t4 (List.mem_of_getElem? (l := tables_1_4) (i := 54) rfl), lw_t4 (List.mem_of_getElem? (l := tables_1_4) (i := 55) rfl)⟩
def lw_privs_1 : List (MethodName × Nat) := [(⟨"FormHouse", "begin", "(J)V"⟩, 23), (⟨"FormHouse$Units", "goRound", "()V"⟩, 10), (⟨"FormHouse$Reckoner", "give", "(LFormHouse$Whole;I)V"⟩, 4), (⟨"java/lang/Throwable", "fillInStackTrace", "(I)Ljava/lang/Throwable;"⟩, 6), (⟨"FormHouse$Reckoner", "sum", "(LFormHouse$Whole;LFormHouse$Whole;LFormHouse$Whole;I)V"⟩, 4), (⟨"FormHouse$Reckoner", "sumSizes", "(LFormHouse$Whole;LFormHouse$Whole;)V"⟩, 4), (⟨"FormHouse$Reckoner", "takeSizes", "(LFormHouse$Whole;LFormHouse$Whole;)V"⟩, 4), (⟨"FormHouse$Units", "half", "()V"⟩, 10), (⟨"FormHouse$Units", "copy", "(LFormHouse$Whole;I)V"⟩, 10), (⟨"FormHouse$Reckoner", "digit", "(II)I"⟩, 4), (⟨"FormHouse$Reckoner", "takeOff", "(IIJ)I"⟩, 4), (⟨"FormHouse$Reckoner", "putOn", "(II)I"⟩, 4), (⟨"FormHouse$Reckoner", "moveDown", "(II)V"⟩, 4), (⟨"FormHouse$Table", "parted", "(J)V"⟩, 8), (⟨"FormHouse$Table", "offer", "(JJJ)V"⟩, 8), (⟨"FormHouse$Table", "take", "(JJJ)V"⟩, 8)]
theorem lw_r1 : ∀ q ∈ lw_privs_1, lw_okq q := List.forall_mem_cons.mpr ⟨lw_p0, List.forall_mem_cons.mpr ⟨lw_p1, List.forall_mem_cons.mpr ⟨lw_p2, List.forall_mem_cons.mpr ⟨lw_p3, List.forall_mem_cons.mpr ⟨lw_p4, List.forall_mem_cons.mpr ⟨lw_p5, List.forall_mem_cons.mpr ⟨lw_p6, List.forall_mem_cons.mpr ⟨lw_p7, List.forall_mem_cons.mpr ⟨lw_p8, List.forall_mem_cons.mpr ⟨lw_p9, List.forall_mem_cons.mpr ⟨lw_p10, List.forall_mem_cons.mpr ⟨lw_p11, List.forall_mem_cons.mpr ⟨lw_p12, List.forall_mem_cons.mpr ⟨lw_p13, List.forall_mem_cons.mpr ⟨lw_p14, List.forall_mem_cons.mpr ⟨lw_p15, fun _ h => absurd h List.not_mem_nil⟩⟩⟩⟩⟩⟩⟩⟩⟩⟩⟩⟩⟩⟩⟩⟩
set_option maxRecDepth 20000 in
theorem lw_p16 : lw_okq (⟨"FormHouse$Table", "rise", "()V"⟩, 8) := ⟨lw_n4, lw_t1 (List.mem_of_getElem? (l := tables_1_1) (i := 224) rfl), lw_t4 (List.mem_of_getElem? (l := tables_1_4) (i := 71) rfl), lw_t4 (List.mem_of_getElem? (l := tables_1_4) (i := 72) rfl)⟩
set_option maxRecDepth 20000 in
theorem lw_p17 : lw_okq (⟨"FormHouse$Table", "isBefore", "(III)Z"⟩, 8) := ⟨lw_n4, lw_t1 (List.mem_of_getElem? (l := tables_1_1) (i := 224) rfl), lw_t4 (List.mem_of_getElem? (l := tables_1_4) (i := 75) rfl), lw_t4 (List.mem_of_getElem? (l := tables_1_4) (i := 76) rfl)⟩
set_option maxRecDepth 20000 in
theorem lw_p18 : lw_okq (⟨"FormHouse$Table", "walk", "(I)V"⟩, 8) := ⟨lw_n4, lw_t1 (List.mem_of_getElem? (l := tables_1_1) (i := 224) rfl), lw_t4 (List.mem_of_getElem? (l := tables_1_4) (i := 79) rfl), lw_t4 (List.mem_of_getElem? (l := tables_1_4) (i := 80) rfl)⟩
theorem lw_n5 : ("FormHouse$Group" : String) ≠ "java/lang/invoke/MethodHandle" ∧ ("FormHouse$Group" : String) ≠ "java/lang/invoke/VarHandle" := ⟨by decide +kernel, by decide +kernel⟩
set_option maxRecDepth 20000 in
theorem lw_p19 : lw_okq (⟨"FormHouse$Group", "measure", "(I)V"⟩, 14) := ⟨lw_n5, lw_t2 (List.mem_of_getElem? (l := tables_1_2) (i := 23) rfl), lw_t4 (List.mem_of_getElem? (l := tables_1_4) (i := 108) rfl), lw_t4 (List.mem_of_getElem? (l := tables_1_4) (i := 109) rfl)⟩
set_option maxRecDepth 20000 in
theorem lw_p20 : lw_okq (⟨"FormHouse$Group", "generate", "()V"⟩, 14) := ⟨lw_n5, lw_t2 (List.mem_of_getElem? (l := tables_1_2) (i := 23) rfl), lw_t4 (List.mem_of_getElem? (l := tables_1_4) (i := 151) rfl), lw_t4 (List.mem_of_getElem? (l := tables_1_4) (i := 152) rfl)⟩
set_option maxRecDepth 20000 in
theorem lw_p21 : lw_okq (⟨"FormHouse$Group", "isApart", "(I)Z"⟩, 14) := ⟨lw_n5, lw_t2 (List.mem_of_getElem? (l := tables_1_2) (i := 23) rfl), lw_t4 (List.mem_of_getElem? (l := tables_1_4) (i := 155) rfl), lw_t4 (List.mem_of_getElem? (l := tables_1_4) (i := 156) rfl)⟩
set_option maxRecDepth 20000 in
theorem lw_p22 : lw_okq (⟨"FormHouse$Group", "join", "(I)V"⟩, 14) := ⟨lw_n5, lw_t2 (List.mem_of_getElem? (l := tables_1_2) (i := 23) rfl), lw_t4 (List.mem_of_getElem? (l := tables_1_4) (i := 167) rfl), lw_t4 (List.mem_of_getElem? (l := tables_1_4) (i := 168) rfl)⟩
set_option maxRecDepth 20000 in
theorem lw_p23 : lw_okq (⟨"FormHouse$Group", "put", "(III)V"⟩, 14) := ⟨lw_n5, lw_t2 (List.mem_of_getElem? (l := tables_1_2) (i := 23) rfl), lw_t4 (List.mem_of_getElem? (l := tables_1_4) (i := 171) rfl), lw_t4 (List.mem_of_getElem? (l := tables_1_4) (i := 172) rfl)⟩
set_option maxRecDepth 20000 in
theorem lw_p24 : lw_okq (⟨"FormHouse", "settle", "()V"⟩, 23) := ⟨lw_n0, lw_t1 (List.mem_of_getElem? (l := tables_1_1) (i := 31) rfl), lw_t4 (List.mem_of_getElem? (l := tables_1_4) (i := 183) rfl), lw_t4 (List.mem_of_getElem? (l := tables_1_4) (i := 184) rfl)⟩
set_option maxRecDepth 20000 in
theorem lw_p25 : lw_okq (⟨"FormHouse", "lead", "(LFormHouse$Form;)I"⟩, 23) := ⟨lw_n0, lw_t1 (List.mem_of_getElem? (l := tables_1_1) (i := 31) rfl), lw_t4 (List.mem_of_getElem? (l := tables_1_4) (i := 193) rfl), lw_t4 (List.mem_of_getElem? (l := tables_1_4) (i := 194) rfl)⟩
set_option maxRecDepth 20000 in
theorem lw_p26 : lw_okq (⟨"FormHouse", "at", "(I)I"⟩, 23) := ⟨lw_n0, lw_t1 (List.mem_of_getElem? (l := tables_1_1) (i := 31) rfl), lw_t5 (List.mem_of_getElem? (l := tables_1_5) (i := 96) rfl), lw_t5 (List.mem_of_getElem? (l := tables_1_5) (i := 97) rfl)⟩
theorem lw_n6 : ("FormHouse$Factors" : String) ≠ "java/lang/invoke/MethodHandle" ∧ ("FormHouse$Factors" : String) ≠ "java/lang/invoke/VarHandle" := ⟨by decide +kernel, by decide +kernel⟩
set_option maxRecDepth 20000 in
theorem lw_p27 : lw_okq (⟨"FormHouse$Factors", "takeOut", "(II)I"⟩, 4) := ⟨lw_n6, lw_t2 (List.mem_of_getElem? (l := tables_1_2) (i := 145) rfl), lw_t6 (List.mem_of_getElem? (l := tables_1_6) (i := 1) rfl), lw_t6 (List.mem_of_getElem? (l := tables_1_6) (i := 2) rfl)⟩
set_option maxRecDepth 20000 in
theorem lw_p28 : lw_okq (⟨"FormHouse$Factors", "add", "(II)V"⟩, 4) := ⟨lw_n6, lw_t2 (List.mem_of_getElem? (l := tables_1_2) (i := 145) rfl), lw_t6 (List.mem_of_getElem? (l := tables_1_6) (i := 5) rfl), lw_t6 (List.mem_of_getElem? (l := tables_1_6) (i := 6) rfl)⟩
theorem lw_n7 : ("FormHouse$Roots" : String) ≠ "java/lang/invoke/MethodHandle" ∧ ("FormHouse$Roots" : String) ≠ "java/lang/invoke/VarHandle" := ⟨by decide +kernel, by decide +kernel⟩
set_option maxRecDepth 20000 in
theorem lw_p29 : lw_okq (⟨"FormHouse$Roots", "findLocal", "(III)V"⟩, 5) := ⟨lw_n7, lw_t2 (List.mem_of_getElem? (l := tables_1_2) (i := 167) rfl), lw_t6 (List.mem_of_getElem? (l := tables_1_6) (i := 21) rfl), lw_t6 (List.mem_of_getElem? (l := tables_1_6) (i := 22) rfl)⟩
set_option maxRecDepth 20000 in
theorem lw_p30 : lw_okq (⟨"FormHouse$Roots", "fold", "(III)V"⟩, 5) := ⟨lw_n7, lw_t2 (List.mem_of_getElem? (l := tables_1_2) (i := 167) rfl), lw_t6 (List.mem_of_getElem? (l := tables_1_6) (i := 26) rfl), lw_t6 (List.mem_of_getElem? (l := tables_1_6) (i := 27) rfl)⟩
set_option maxRecDepth 20000 in
theorem lw_p31 : lw_okq (⟨"FormHouse$Roots", "units", "(IIII)V"⟩, 5) := ⟨lw_n7, lw_t2 (List.mem_of_getElem? (l := tables_1_2) (i := 167) rfl), lw_t6 (List.mem_of_getElem? (l := tables_1_6) (i := 30) rfl), lw_t6 (List.mem_of_getElem? (l := tables_1_6) (i := 31) rfl)⟩
def lw_privs_2 : List (MethodName × Nat) := [(⟨"FormHouse$Table", "rise", "()V"⟩, 8), (⟨"FormHouse$Table", "isBefore", "(III)Z"⟩, 8), (⟨"FormHouse$Table", "walk", "(I)V"⟩, 8), (⟨"FormHouse$Group", "measure", "(I)V"⟩, 14), (⟨"FormHouse$Group", "generate", "()V"⟩, 14), (⟨"FormHouse$Group", "isApart", "(I)Z"⟩, 14), (⟨"FormHouse$Group", "join", "(I)V"⟩, 14), (⟨"FormHouse$Group", "put", "(III)V"⟩, 14), (⟨"FormHouse", "settle", "()V"⟩, 23), (⟨"FormHouse", "lead", "(LFormHouse$Form;)I"⟩, 23), (⟨"FormHouse", "at", "(I)I"⟩, 23), (⟨"FormHouse$Factors", "takeOut", "(II)I"⟩, 4), (⟨"FormHouse$Factors", "add", "(II)V"⟩, 4), (⟨"FormHouse$Roots", "findLocal", "(III)V"⟩, 5), (⟨"FormHouse$Roots", "fold", "(III)V"⟩, 5), (⟨"FormHouse$Roots", "units", "(IIII)V"⟩, 5)]
theorem lw_r2 : ∀ q ∈ lw_privs_2, lw_okq q := List.forall_mem_cons.mpr ⟨lw_p16, List.forall_mem_cons.mpr ⟨lw_p17, List.forall_mem_cons.mpr ⟨lw_p18, List.forall_mem_cons.mpr ⟨lw_p19, List.forall_mem_cons.mpr ⟨lw_p20, List.forall_mem_cons.mpr ⟨lw_p21, List.forall_mem_cons.mpr ⟨lw_p22, List.forall_mem_cons.mpr ⟨lw_p23, List.forall_mem_cons.mpr ⟨lw_p24, List.forall_mem_cons.mpr ⟨lw_p25, List.forall_mem_cons.mpr ⟨lw_p26, List.forall_mem_cons.mpr ⟨lw_p27, List.forall_mem_cons.mpr ⟨lw_p28, List.forall_mem_cons.mpr ⟨lw_p29, List.forall_mem_cons.mpr ⟨lw_p30, List.forall_mem_cons.mpr ⟨lw_p31, fun _ h => absurd h List.not_mem_nil⟩⟩⟩⟩⟩⟩⟩⟩⟩⟩⟩⟩⟩⟩⟩⟩
set_option maxRecDepth 20000 in
theorem lw_p32 : lw_okq (⟨"FormHouse$Roots", "join", "(II)V"⟩, 5) := ⟨lw_n7, lw_t2 (List.mem_of_getElem? (l := tables_1_2) (i := 167) rfl), lw_t6 (List.mem_of_getElem? (l := tables_1_6) (i := 54) rfl), lw_t6 (List.mem_of_getElem? (l := tables_1_6) (i := 55) rfl)⟩
theorem lw_n8 : ("FormHouse$Trials" : String) ≠ "java/lang/invoke/MethodHandle" ∧ ("FormHouse$Trials" : String) ≠ "java/lang/invoke/VarHandle" := ⟨by decide +kernel, by decide +kernel⟩
set_option maxRecDepth 20000 in
theorem lw_p33 : lw_okq (⟨"FormHouse$Trials", "lead", "(IJJLFormHouse$Reducer;)V"⟩, 12) := ⟨lw_n8, lw_t2 (List.mem_of_getElem? (l := tables_1_2) (i := 139) rfl), lw_t6 (List.mem_of_getElem? (l := tables_1_6) (i := 61) rfl), lw_t6 (List.mem_of_getElem? (l := tables_1_6) (i := 62) rfl)⟩
set_option maxRecDepth 20000 in
theorem lw_p34 : lw_okq (⟨"FormHouse", "around", "(Z)V"⟩, 23) := ⟨lw_n0, lw_t1 (List.mem_of_getElem? (l := tables_1_1) (i := 31) rfl), lw_t6 (List.mem_of_getElem? (l := tables_1_6) (i := 70) rfl), lw_t6 (List.mem_of_getElem? (l := tables_1_6) (i := 71) rfl)⟩
set_option maxRecDepth 20000 in
theorem lw_p35 : lw_okq (⟨"FormHouse", "tell", "()V"⟩, 23) := ⟨lw_n0, lw_t1 (List.mem_of_getElem? (l := tables_1_1) (i := 31) rfl), lw_t6 (List.mem_of_getElem? (l := tables_1_6) (i := 74) rfl), lw_t6 (List.mem_of_getElem? (l := tables_1_6) (i := 75) rfl)⟩
theorem lw_n9 : ("FormHouse$Mover" : String) ≠ "java/lang/invoke/MethodHandle" ∧ ("FormHouse$Mover" : String) ≠ "java/lang/invoke/VarHandle" := ⟨by decide +kernel, by decide +kernel⟩
set_option maxRecDepth 20000 in
theorem lw_p36 : lw_okq (⟨"FormHouse$Mover", "goes", "(LFormHouse$Pair;LFormHouse$Whole;LFormHouse$Whole;LFormHouse$Whole;LFormHouse$Whole;LFormHouse$Reckoner;)Z"⟩, 4) := ⟨lw_n9, lw_t2 (List.mem_of_getElem? (l := tables_1_2) (i := 239) rfl), lw_t6 (List.mem_of_getElem? (l := tables_1_6) (i := 97) rfl), lw_t6 (List.mem_of_getElem? (l := tables_1_6) (i := 98) rfl)⟩
set_option maxRecDepth 20000 in
theorem lw_p37 : lw_okq (⟨"FormHouse$Mover", "sum", "(LFormHouse$Whole;LFormHouse$Whole;LFormHouse$Whole;LFormHouse$Whole;LFormHouse$Whole;LFormHouse$Reckoner;)V"⟩, 4) := ⟨lw_n9, lw_t2 (List.mem_of_getElem? (l := tables_1_2) (i := 239) rfl), lw_t6 (List.mem_of_getElem? (l := tables_1_6) (i := 101) rfl), lw_t6 (List.mem_of_getElem? (l := tables_1_6) (i := 102) rfl)⟩
set_option maxRecDepth 20000 in
theorem lw_p38 : lw_okq (⟨"FormHouse", "numberAt", "(I)LFormHouse$Whole;"⟩, 23) := ⟨lw_n0, lw_t1 (List.mem_of_getElem? (l := tables_1_1) (i := 31) rfl), lw_t6 (List.mem_of_getElem? (l := tables_1_6) (i := 162) rfl), lw_t6 (List.mem_of_getElem? (l := tables_1_6) (i := 163) rfl)⟩
theorem lw_n10 : ("FormHouseModel" : String) ≠ "java/lang/invoke/MethodHandle" ∧ ("FormHouseModel" : String) ≠ "java/lang/invoke/VarHandle" := ⟨by decide +kernel, by decide +kernel⟩
set_option maxRecDepth 20000 in
theorem lw_p39 : lw_okq (⟨"FormHouseModel", "begin", "(J)V"⟩, 58) := ⟨lw_n10, lw_t6 (List.mem_of_getElem? (l := tables_1_6) (i := 200) rfl), lw_t6 (List.mem_of_getElem? (l := tables_1_6) (i := 211) rfl), lw_t6 (List.mem_of_getElem? (l := tables_1_6) (i := 212) rfl)⟩
set_option maxRecDepth 20000 in
theorem lw_p40 : lw_okq (⟨"FormHouseModel", "listForms", "()V"⟩, 58) := ⟨lw_n10, lw_t6 (List.mem_of_getElem? (l := tables_1_6) (i := 200) rfl), lw_t6 (List.mem_of_getElem? (l := tables_1_6) (i := 220) rfl), lw_t6 (List.mem_of_getElem? (l := tables_1_6) (i := 221) rfl)⟩
set_option maxRecDepth 20000 in
theorem lw_p41 : lw_okq (⟨"FormHouseModel", "be", "(JJ)V"⟩, 58) := ⟨lw_n10, lw_t6 (List.mem_of_getElem? (l := tables_1_6) (i := 200) rfl), lw_t6 (List.mem_of_getElem? (l := tables_1_6) (i := 226) rfl), lw_t6 (List.mem_of_getElem? (l := tables_1_6) (i := 227) rfl)⟩
set_option maxRecDepth 20000 in
theorem lw_p42 : lw_okq (⟨"FormHouseModel", "isReduced", "()Z"⟩, 58) := ⟨lw_n10, lw_t6 (List.mem_of_getElem? (l := tables_1_6) (i := 200) rfl), lw_t6 (List.mem_of_getElem? (l := tables_1_6) (i := 230) rfl), lw_t6 (List.mem_of_getElem? (l := tables_1_6) (i := 231) rfl)⟩
set_option maxRecDepth 20000 in
theorem lw_p43 : lw_okq (⟨"FormHouseModel", "part", "()V"⟩, 58) := ⟨lw_n10, lw_t6 (List.mem_of_getElem? (l := tables_1_6) (i := 200) rfl), lw_t7 (List.mem_of_getElem? (l := tables_1_7) (i := 0) rfl), lw_t7 (List.mem_of_getElem? (l := tables_1_7) (i := 1) rfl)⟩
set_option maxRecDepth 20000 in
theorem lw_p44 : lw_okq (⟨"FormHouseModel", "step", "()V"⟩, 58) := ⟨lw_n10, lw_t6 (List.mem_of_getElem? (l := tables_1_6) (i := 200) rfl), lw_t7 (List.mem_of_getElem? (l := tables_1_7) (i := 4) rfl), lw_t7 (List.mem_of_getElem? (l := tables_1_7) (i := 5) rfl)⟩
set_option maxRecDepth 20000 in
theorem lw_p45 : lw_okq (⟨"FormHouseModel", "place", "()I"⟩, 58) := ⟨lw_n10, lw_t6 (List.mem_of_getElem? (l := tables_1_6) (i := 200) rfl), lw_t7 (List.mem_of_getElem? (l := tables_1_7) (i := 11) rfl), lw_t7 (List.mem_of_getElem? (l := tables_1_7) (i := 12) rfl)⟩
set_option maxRecDepth 20000 in
theorem lw_p46 : lw_okq (⟨"FormHouseModel", "found", "()I"⟩, 58) := ⟨lw_n10, lw_t6 (List.mem_of_getElem? (l := tables_1_6) (i := 200) rfl), lw_t7 (List.mem_of_getElem? (l := tables_1_7) (i := 15) rfl), lw_t7 (List.mem_of_getElem? (l := tables_1_7) (i := 16) rfl)⟩
set_option maxRecDepth 20000 in
theorem lw_p47 : lw_okq (⟨"FormHouseModel", "measure", "(I)V"⟩, 58) := ⟨lw_n10, lw_t6 (List.mem_of_getElem? (l := tables_1_6) (i := 200) rfl), lw_t7 (List.mem_of_getElem? (l := tables_1_7) (i := 19) rfl), lw_t7 (List.mem_of_getElem? (l := tables_1_7) (i := 20) rfl)⟩
def lw_privs_3 : List (MethodName × Nat) := [(⟨"FormHouse$Roots", "join", "(II)V"⟩, 5), (⟨"FormHouse$Trials", "lead", "(IJJLFormHouse$Reducer;)V"⟩, 12), (⟨"FormHouse", "around", "(Z)V"⟩, 23), (⟨"FormHouse", "tell", "()V"⟩, 23), (⟨"FormHouse$Mover", "goes", "(LFormHouse$Pair;LFormHouse$Whole;LFormHouse$Whole;LFormHouse$Whole;LFormHouse$Whole;LFormHouse$Reckoner;)Z"⟩, 4), (⟨"FormHouse$Mover", "sum", "(LFormHouse$Whole;LFormHouse$Whole;LFormHouse$Whole;LFormHouse$Whole;LFormHouse$Whole;LFormHouse$Reckoner;)V"⟩, 4), (⟨"FormHouse", "numberAt", "(I)LFormHouse$Whole;"⟩, 23), (⟨"FormHouseModel", "begin", "(J)V"⟩, 58), (⟨"FormHouseModel", "listForms", "()V"⟩, 58), (⟨"FormHouseModel", "be", "(JJ)V"⟩, 58), (⟨"FormHouseModel", "isReduced", "()Z"⟩, 58), (⟨"FormHouseModel", "part", "()V"⟩, 58), (⟨"FormHouseModel", "step", "()V"⟩, 58), (⟨"FormHouseModel", "place", "()I"⟩, 58), (⟨"FormHouseModel", "found", "()I"⟩, 58), (⟨"FormHouseModel", "measure", "(I)V"⟩, 58)]
theorem lw_r3 : ∀ q ∈ lw_privs_3, lw_okq q := List.forall_mem_cons.mpr ⟨lw_p32, List.forall_mem_cons.mpr ⟨lw_p33, List.forall_mem_cons.mpr ⟨lw_p34, List.forall_mem_cons.mpr ⟨lw_p35, List.forall_mem_cons.mpr ⟨lw_p36, List.forall_mem_cons.mpr ⟨lw_p37, List.forall_mem_cons.mpr ⟨lw_p38, List.forall_mem_cons.mpr ⟨lw_p39, List.forall_mem_cons.mpr ⟨lw_p40, List.forall_mem_cons.mpr ⟨lw_p41, List.forall_mem_cons.mpr ⟨lw_p42, List.forall_mem_cons.mpr ⟨lw_p43, List.forall_mem_cons.mpr ⟨lw_p44, List.forall_mem_cons.mpr ⟨lw_p45, List.forall_mem_cons.mpr ⟨lw_p46, List.forall_mem_cons.mpr ⟨lw_p47, fun _ h => absurd h List.not_mem_nil⟩⟩⟩⟩⟩⟩⟩⟩⟩⟩⟩⟩⟩⟩⟩⟩
set_option maxRecDepth 20000 in
theorem lw_p48 : lw_okq (⟨"FormHouseModel", "times", "(II)I"⟩, 58) := ⟨lw_n10, lw_t6 (List.mem_of_getElem? (l := tables_1_6) (i := 200) rfl), lw_t7 (List.mem_of_getElem? (l := tables_1_7) (i := 23) rfl), lw_t7 (List.mem_of_getElem? (l := tables_1_7) (i := 24) rfl)⟩
set_option maxRecDepth 20000 in
theorem lw_p49 : lw_okq (⟨"FormHouseModel", "beName", "(I)V"⟩, 58) := ⟨lw_n10, lw_t6 (List.mem_of_getElem? (l := tables_1_6) (i := 200) rfl), lw_t7 (List.mem_of_getElem? (l := tables_1_7) (i := 27) rfl), lw_t7 (List.mem_of_getElem? (l := tables_1_7) (i := 28) rfl)⟩
set_option maxRecDepth 20000 in
theorem lw_p50 : lw_okq (⟨"FormHouseModel", "freeOf", "(J)V"⟩, 58) := ⟨lw_n10, lw_t6 (List.mem_of_getElem? (l := tables_1_6) (i := 200) rfl), lw_t7 (List.mem_of_getElem? (l := tables_1_7) (i := 31) rfl), lw_t7 (List.mem_of_getElem? (l := tables_1_7) (i := 32) rfl)⟩
set_option maxRecDepth 20000 in
theorem lw_p51 : lw_okq (⟨"FormHouseModel", "slide", "(J)V"⟩, 58) := ⟨lw_n10, lw_t6 (List.mem_of_getElem? (l := tables_1_6) (i := 200) rfl), lw_t7 (List.mem_of_getElem? (l := tables_1_7) (i := 35) rfl), lw_t7 (List.mem_of_getElem? (l := tables_1_7) (i := 36) rfl)⟩
set_option maxRecDepth 20000 in
theorem lw_p52 : lw_okq (⟨"FormHouseModel", "turnOver", "()V"⟩, 58) := ⟨lw_n10, lw_t6 (List.mem_of_getElem? (l := tables_1_6) (i := 200) rfl), lw_t7 (List.mem_of_getElem? (l := tables_1_7) (i := 39) rfl), lw_t7 (List.mem_of_getElem? (l := tables_1_7) (i := 40) rfl)⟩
set_option maxRecDepth 20000 in
theorem lw_p53 : lw_okq (⟨"FormHouseModel", "generate", "()V"⟩, 58) := ⟨lw_n10, lw_t6 (List.mem_of_getElem? (l := tables_1_6) (i := 200) rfl), lw_t7 (List.mem_of_getElem? (l := tables_1_7) (i := 46) rfl), lw_t7 (List.mem_of_getElem? (l := tables_1_7) (i := 47) rfl)⟩
set_option maxRecDepth 20000 in
theorem lw_p54 : lw_okq (⟨"FormHouseModel", "isApart", "(I)Z"⟩, 58) := ⟨lw_n10, lw_t6 (List.mem_of_getElem? (l := tables_1_6) (i := 200) rfl), lw_t7 (List.mem_of_getElem? (l := tables_1_7) (i := 50) rfl), lw_t7 (List.mem_of_getElem? (l := tables_1_7) (i := 51) rfl)⟩
set_option maxRecDepth 20000 in
theorem lw_p55 : lw_okq (⟨"FormHouseModel", "findUnit", "()V"⟩, 58) := ⟨lw_n10, lw_t6 (List.mem_of_getElem? (l := tables_1_6) (i := 200) rfl), lw_t7 (List.mem_of_getElem? (l := tables_1_7) (i := 54) rfl), lw_t7 (List.mem_of_getElem? (l := tables_1_7) (i := 55) rfl)⟩
set_option maxRecDepth 20000 in
theorem lw_p56 : lw_okq (⟨"FormHouseModel", "set", "(IJ)V"⟩, 58) := ⟨lw_n10, lw_t6 (List.mem_of_getElem? (l := tables_1_6) (i := 200) rfl), lw_t7 (List.mem_of_getElem? (l := tables_1_7) (i := 58) rfl), lw_t7 (List.mem_of_getElem? (l := tables_1_7) (i := 59) rfl)⟩
set_option maxRecDepth 20000 in
theorem lw_p57 : lw_okq (⟨"FormHouseModel", "put", "(III)V"⟩, 58) := ⟨lw_n10, lw_t6 (List.mem_of_getElem? (l := tables_1_6) (i := 200) rfl), lw_t7 (List.mem_of_getElem? (l := tables_1_7) (i := 63) rfl), lw_t7 (List.mem_of_getElem? (l := tables_1_7) (i := 64) rfl)⟩
set_option maxRecDepth 20000 in
theorem lw_p58 : lw_okq (⟨"FormHouseModel", "sum", "(IJIJI)V"⟩, 58) := ⟨lw_n10, lw_t6 (List.mem_of_getElem? (l := tables_1_6) (i := 200) rfl), lw_t7 (List.mem_of_getElem? (l := tables_1_7) (i := 68) rfl), lw_t7 (List.mem_of_getElem? (l := tables_1_7) (i := 69) rfl)⟩
set_option maxRecDepth 20000 in
theorem lw_p59 : lw_okq (⟨"FormHouseModel", "get", "(II)I"⟩, 58) := ⟨lw_n10, lw_t6 (List.mem_of_getElem? (l := tables_1_6) (i := 200) rfl), lw_t7 (List.mem_of_getElem? (l := tables_1_7) (i := 72) rfl), lw_t7 (List.mem_of_getElem? (l := tables_1_7) (i := 73) rfl)⟩
set_option maxRecDepth 20000 in
theorem lw_p60 : lw_okq (⟨"FormHouseModel", "move", "(II)V"⟩, 58) := ⟨lw_n10, lw_t6 (List.mem_of_getElem? (l := tables_1_6) (i := 200) rfl), lw_t7 (List.mem_of_getElem? (l := tables_1_7) (i := 76) rfl), lw_t7 (List.mem_of_getElem? (l := tables_1_7) (i := 77) rfl)⟩
set_option maxRecDepth 20000 in
theorem lw_p61 : lw_okq (⟨"FormHouseModel", "multiply", "(III)V"⟩, 58) := ⟨lw_n10, lw_t6 (List.mem_of_getElem? (l := tables_1_6) (i := 200) rfl), lw_t7 (List.mem_of_getElem? (l := tables_1_7) (i := 80) rfl), lw_t7 (List.mem_of_getElem? (l := tables_1_7) (i := 81) rfl)⟩
set_option maxRecDepth 20000 in
theorem lw_p62 : lw_okq (⟨"FormHouseModel", "length", "(I)I"⟩, 58) := ⟨lw_n10, lw_t6 (List.mem_of_getElem? (l := tables_1_6) (i := 200) rfl), lw_t7 (List.mem_of_getElem? (l := tables_1_7) (i := 84) rfl), lw_t7 (List.mem_of_getElem? (l := tables_1_7) (i := 85) rfl)⟩
set_option maxRecDepth 20000 in
theorem lw_p63 : lw_okq (⟨"FormHouseModel", "hold", "(JJJ)V"⟩, 58) := ⟨lw_n10, lw_t6 (List.mem_of_getElem? (l := tables_1_6) (i := 200) rfl), lw_t7 (List.mem_of_getElem? (l := tables_1_7) (i := 88) rfl), lw_t7 (List.mem_of_getElem? (l := tables_1_7) (i := 89) rfl)⟩
def lw_privs_4 : List (MethodName × Nat) := [(⟨"FormHouseModel", "times", "(II)I"⟩, 58), (⟨"FormHouseModel", "beName", "(I)V"⟩, 58), (⟨"FormHouseModel", "freeOf", "(J)V"⟩, 58), (⟨"FormHouseModel", "slide", "(J)V"⟩, 58), (⟨"FormHouseModel", "turnOver", "()V"⟩, 58), (⟨"FormHouseModel", "generate", "()V"⟩, 58), (⟨"FormHouseModel", "isApart", "(I)Z"⟩, 58), (⟨"FormHouseModel", "findUnit", "()V"⟩, 58), (⟨"FormHouseModel", "set", "(IJ)V"⟩, 58), (⟨"FormHouseModel", "put", "(III)V"⟩, 58), (⟨"FormHouseModel", "sum", "(IJIJI)V"⟩, 58), (⟨"FormHouseModel", "get", "(II)I"⟩, 58), (⟨"FormHouseModel", "move", "(II)V"⟩, 58), (⟨"FormHouseModel", "multiply", "(III)V"⟩, 58), (⟨"FormHouseModel", "length", "(I)I"⟩, 58), (⟨"FormHouseModel", "hold", "(JJJ)V"⟩, 58)]
theorem lw_r4 : ∀ q ∈ lw_privs_4, lw_okq q := List.forall_mem_cons.mpr ⟨lw_p48, List.forall_mem_cons.mpr ⟨lw_p49, List.forall_mem_cons.mpr ⟨lw_p50, List.forall_mem_cons.mpr ⟨lw_p51, List.forall_mem_cons.mpr ⟨lw_p52, List.forall_mem_cons.mpr ⟨lw_p53, List.forall_mem_cons.mpr ⟨lw_p54, List.forall_mem_cons.mpr ⟨lw_p55, List.forall_mem_cons.mpr ⟨lw_p56, List.forall_mem_cons.mpr ⟨lw_p57, List.forall_mem_cons.mpr ⟨lw_p58, List.forall_mem_cons.mpr ⟨lw_p59, List.forall_mem_cons.mpr ⟨lw_p60, List.forall_mem_cons.mpr ⟨lw_p61, List.forall_mem_cons.mpr ⟨lw_p62, List.forall_mem_cons.mpr ⟨lw_p63, fun _ h => absurd h List.not_mem_nil⟩⟩⟩⟩⟩⟩⟩⟩⟩⟩⟩⟩⟩⟩⟩⟩
set_option maxRecDepth 20000 in
theorem lw_p64 : lw_okq (⟨"FormHouseModel", "halve", "(I)V"⟩, 58) := ⟨lw_n10, lw_t6 (List.mem_of_getElem? (l := tables_1_6) (i := 200) rfl), lw_t7 (List.mem_of_getElem? (l := tables_1_7) (i := 92) rfl), lw_t7 (List.mem_of_getElem? (l := tables_1_7) (i := 93) rfl)⟩
set_option maxRecDepth 20000 in
theorem lw_p65 : lw_okq (⟨"FormHouseModel", "isLess", "(I)Z"⟩, 58) := ⟨lw_n10, lw_t6 (List.mem_of_getElem? (l := tables_1_6) (i := 200) rfl), lw_t7 (List.mem_of_getElem? (l := tables_1_7) (i := 96) rfl), lw_t7 (List.mem_of_getElem? (l := tables_1_7) (i := 97) rfl)⟩
set_option maxRecDepth 20000 in
theorem lw_p66 : lw_okq (⟨"FormHouseModel", "below", "(J)V"⟩, 58) := ⟨lw_n10, lw_t6 (List.mem_of_getElem? (l := tables_1_6) (i := 200) rfl), lw_t8 (List.mem_of_getElem? (l := tables_1_8) (i := 60) rfl), lw_t8 (List.mem_of_getElem? (l := tables_1_8) (i := 61) rfl)⟩
set_option maxRecDepth 20000 in
theorem lw_p67 : lw_okq (⟨"FormHouseModel", "solution", "(JJ)V"⟩, 58) := ⟨lw_n10, lw_t6 (List.mem_of_getElem? (l := tables_1_6) (i := 200) rfl), lw_t8 (List.mem_of_getElem? (l := tables_1_8) (i := 64) rfl), lw_t8 (List.mem_of_getElem? (l := tables_1_8) (i := 65) rfl)⟩
set_option maxRecDepth 20000 in
theorem lw_p68 : lw_okq (⟨"FormHouseModel", "offer", "(JJZ)V"⟩, 58) := ⟨lw_n10, lw_t6 (List.mem_of_getElem? (l := tables_1_6) (i := 200) rfl), lw_t8 (List.mem_of_getElem? (l := tables_1_8) (i := 68) rfl), lw_t8 (List.mem_of_getElem? (l := tables_1_8) (i := 69) rfl)⟩
set_option maxRecDepth 20000 in
theorem lw_p69 : lw_okq (⟨"FormHouseModel", "rootFor", "(JJJJ)J"⟩, 58) := ⟨lw_n10, lw_t6 (List.mem_of_getElem? (l := tables_1_6) (i := 200) rfl), lw_t8 (List.mem_of_getElem? (l := tables_1_8) (i := 73) rfl), lw_t8 (List.mem_of_getElem? (l := tables_1_8) (i := 74) rfl)⟩
set_option maxRecDepth 20000 in
theorem lw_p70 : lw_okq (⟨"FormHouseModel", "complete", "(JJ)V"⟩, 58) := ⟨lw_n10, lw_t6 (List.mem_of_getElem? (l := tables_1_6) (i := 200) rfl), lw_t8 (List.mem_of_getElem? (l := tables_1_8) (i := 77) rfl), lw_t8 (List.mem_of_getElem? (l := tables_1_8) (i := 78) rfl)⟩
set_option maxRecDepth 20000 in
theorem lw_p71 : lw_okq (⟨"FormHouseModel", "start", "(IJ)V"⟩, 58) := ⟨lw_n10, lw_t6 (List.mem_of_getElem? (l := tables_1_6) (i := 200) rfl), lw_t8 (List.mem_of_getElem? (l := tables_1_8) (i := 81) rfl), lw_t8 (List.mem_of_getElem? (l := tables_1_8) (i := 82) rfl)⟩
set_option maxRecDepth 20000 in
theorem lw_p72 : lw_okq (⟨"FormHouseModel", "setDigit", "(III)V"⟩, 58) := ⟨lw_n10, lw_t6 (List.mem_of_getElem? (l := tables_1_6) (i := 200) rfl), lw_t8 (List.mem_of_getElem? (l := tables_1_8) (i := 85) rfl), lw_t8 (List.mem_of_getElem? (l := tables_1_8) (i := 86) rfl)⟩
set_option maxRecDepth 20000 in
theorem lw_p73 : lw_okq (⟨"FormHouseModel", "keep", "(II)V"⟩, 58) := ⟨lw_n10, lw_t6 (List.mem_of_getElem? (l := tables_1_6) (i := 200) rfl), lw_t8 (List.mem_of_getElem? (l := tables_1_8) (i := 89) rfl), lw_t8 (List.mem_of_getElem? (l := tables_1_8) (i := 90) rfl)⟩
set_option maxRecDepth 20000 in
theorem lw_p74 : lw_okq (⟨"FormHouseModel", "isZero", "(I)Z"⟩, 58) := ⟨lw_n10, lw_t6 (List.mem_of_getElem? (l := tables_1_6) (i := 200) rfl), lw_t8 (List.mem_of_getElem? (l := tables_1_8) (i := 93) rfl), lw_t8 (List.mem_of_getElem? (l := tables_1_8) (i := 94) rfl)⟩
set_option maxRecDepth 20000 in
theorem lw_p75 : lw_okq (⟨"FormHouseModel", "digit", "(II)I"⟩, 58) := ⟨lw_n10, lw_t6 (List.mem_of_getElem? (l := tables_1_6) (i := 200) rfl), lw_t8 (List.mem_of_getElem? (l := tables_1_8) (i := 97) rfl), lw_t8 (List.mem_of_getElem? (l := tables_1_8) (i := 98) rfl)⟩
set_option maxRecDepth 20000 in
theorem lw_p76 : lw_okq (⟨"FormHouseModel", "isBelow", "(I)Z"⟩, 58) := ⟨lw_n10, lw_t6 (List.mem_of_getElem? (l := tables_1_6) (i := 200) rfl), lw_t8 (List.mem_of_getElem? (l := tables_1_8) (i := 101) rfl), lw_t8 (List.mem_of_getElem? (l := tables_1_8) (i := 102) rfl)⟩
set_option maxRecDepth 20000 in
theorem lw_p77 : lw_okq (⟨"FormHouseModel", "toSize", "(I)V"⟩, 58) := ⟨lw_n10, lw_t6 (List.mem_of_getElem? (l := tables_1_6) (i := 200) rfl), lw_t8 (List.mem_of_getElem? (l := tables_1_8) (i := 105) rfl), lw_t8 (List.mem_of_getElem? (l := tables_1_8) (i := 106) rfl)⟩
set_option maxRecDepth 20000 in
theorem lw_p78 : lw_okq (⟨"FormHouseModel", "copy", "(II)V"⟩, 58) := ⟨lw_n10, lw_t6 (List.mem_of_getElem? (l := tables_1_6) (i := 200) rfl), lw_t8 (List.mem_of_getElem? (l := tables_1_8) (i := 109) rfl), lw_t8 (List.mem_of_getElem? (l := tables_1_8) (i := 110) rfl)⟩
set_option maxRecDepth 20000 in
theorem lw_p79 : lw_okq (⟨"FormHouseModel", "negate", "(I)V"⟩, 58) := ⟨lw_n10, lw_t6 (List.mem_of_getElem? (l := tables_1_6) (i := 200) rfl), lw_t8 (List.mem_of_getElem? (l := tables_1_8) (i := 113) rfl), lw_t8 (List.mem_of_getElem? (l := tables_1_8) (i := 114) rfl)⟩
def lw_privs_5 : List (MethodName × Nat) := [(⟨"FormHouseModel", "halve", "(I)V"⟩, 58), (⟨"FormHouseModel", "isLess", "(I)Z"⟩, 58), (⟨"FormHouseModel", "below", "(J)V"⟩, 58), (⟨"FormHouseModel", "solution", "(JJ)V"⟩, 58), (⟨"FormHouseModel", "offer", "(JJZ)V"⟩, 58), (⟨"FormHouseModel", "rootFor", "(JJJJ)J"⟩, 58), (⟨"FormHouseModel", "complete", "(JJ)V"⟩, 58), (⟨"FormHouseModel", "start", "(IJ)V"⟩, 58), (⟨"FormHouseModel", "setDigit", "(III)V"⟩, 58), (⟨"FormHouseModel", "keep", "(II)V"⟩, 58), (⟨"FormHouseModel", "isZero", "(I)Z"⟩, 58), (⟨"FormHouseModel", "digit", "(II)I"⟩, 58), (⟨"FormHouseModel", "isBelow", "(I)Z"⟩, 58), (⟨"FormHouseModel", "toSize", "(I)V"⟩, 58), (⟨"FormHouseModel", "copy", "(II)V"⟩, 58), (⟨"FormHouseModel", "negate", "(I)V"⟩, 58)]
theorem lw_r5 : ∀ q ∈ lw_privs_5, lw_okq q := List.forall_mem_cons.mpr ⟨lw_p64, List.forall_mem_cons.mpr ⟨lw_p65, List.forall_mem_cons.mpr ⟨lw_p66, List.forall_mem_cons.mpr ⟨lw_p67, List.forall_mem_cons.mpr ⟨lw_p68, List.forall_mem_cons.mpr ⟨lw_p69, List.forall_mem_cons.mpr ⟨lw_p70, List.forall_mem_cons.mpr ⟨lw_p71, List.forall_mem_cons.mpr ⟨lw_p72, List.forall_mem_cons.mpr ⟨lw_p73, List.forall_mem_cons.mpr ⟨lw_p74, List.forall_mem_cons.mpr ⟨lw_p75, List.forall_mem_cons.mpr ⟨lw_p76, List.forall_mem_cons.mpr ⟨lw_p77, List.forall_mem_cons.mpr ⟨lw_p78, List.forall_mem_cons.mpr ⟨lw_p79, fun _ h => absurd h List.not_mem_nil⟩⟩⟩⟩⟩⟩⟩⟩⟩⟩⟩⟩⟩⟩⟩⟩
set_option maxRecDepth 20000 in
theorem lw_p80 : lw_okq (⟨"FormHouseModel", "above", "(J)V"⟩, 58) := ⟨lw_n10, lw_t6 (List.mem_of_getElem? (l := tables_1_6) (i := 200) rfl), lw_t8 (List.mem_of_getElem? (l := tables_1_8) (i := 118) rfl), lw_t8 (List.mem_of_getElem? (l := tables_1_8) (i := 119) rfl)⟩
set_option maxRecDepth 20000 in
theorem lw_p81 : lw_okq (⟨"FormHouseModel", "trial", "(JJJ)V"⟩, 58) := ⟨lw_n10, lw_t6 (List.mem_of_getElem? (l := tables_1_6) (i := 200) rfl), lw_t8 (List.mem_of_getElem? (l := tables_1_8) (i := 122) rfl), lw_t8 (List.mem_of_getElem? (l := tables_1_8) (i := 123) rfl)⟩
set_option maxRecDepth 20000 in
theorem lw_p82 : lw_okq (⟨"FormHouseModel", "ringPlace", "()I"⟩, 58) := ⟨lw_n10, lw_t6 (List.mem_of_getElem? (l := tables_1_6) (i := 200) rfl), lw_t8 (List.mem_of_getElem? (l := tables_1_8) (i := 126) rfl), lw_t8 (List.mem_of_getElem? (l := tables_1_8) (i := 127) rfl)⟩
set_option maxRecDepth 20000 in
theorem lw_p83 : lw_okq (⟨"FormHouseModel", "seekBest", "(JJI)V"⟩, 58) := ⟨lw_n10, lw_t6 (List.mem_of_getElem? (l := tables_1_6) (i := 200) rfl), lw_t8 (List.mem_of_getElem? (l := tables_1_8) (i := 130) rfl), lw_t8 (List.mem_of_getElem? (l := tables_1_8) (i := 131) rfl)⟩
set_option maxRecDepth 20000 in
theorem lw_p84 : lw_okq (⟨"FormHouseModel", "come", "(JJII)V"⟩, 58) := ⟨lw_n10, lw_t6 (List.mem_of_getElem? (l := tables_1_6) (i := 200) rfl), lw_t8 (List.mem_of_getElem? (l := tables_1_8) (i := 134) rfl), lw_t8 (List.mem_of_getElem? (l := tables_1_8) (i := 135) rfl)⟩
set_option maxRecDepth 20000 in
theorem lw_p85 : lw_okq (⟨"FormHouseModel", "back", "(J)V"⟩, 58) := ⟨lw_n10, lw_t6 (List.mem_of_getElem? (l := tables_1_6) (i := 200) rfl), lw_t8 (List.mem_of_getElem? (l := tables_1_8) (i := 138) rfl), lw_t8 (List.mem_of_getElem? (l := tables_1_8) (i := 139) rfl)⟩
set_option maxRecDepth 20000 in
theorem lw_p86 : lw_okq (⟨"FormHouseModel", "widen", "()V"⟩, 58) := ⟨lw_n10, lw_t6 (List.mem_of_getElem? (l := tables_1_6) (i := 200) rfl), lw_t8 (List.mem_of_getElem? (l := tables_1_8) (i := 142) rfl), lw_t8 (List.mem_of_getElem? (l := tables_1_8) (i := 143) rfl)⟩
set_option maxRecDepth 20000 in
theorem lw_p87 : lw_okq (⟨"FormHouseModel", "hasRoom", "(I)Z"⟩, 58) := ⟨lw_n10, lw_t6 (List.mem_of_getElem? (l := tables_1_6) (i := 200) rfl), lw_t8 (List.mem_of_getElem? (l := tables_1_8) (i := 146) rfl), lw_t8 (List.mem_of_getElem? (l := tables_1_8) (i := 147) rfl)⟩
set_option maxRecDepth 20000 in
theorem lw_p88 : lw_okq (⟨"FormHouseModel", "combine", "(IJII)V"⟩, 58) := ⟨lw_n10, lw_t6 (List.mem_of_getElem? (l := tables_1_6) (i := 200) rfl), lw_t8 (List.mem_of_getElem? (l := tables_1_8) (i := 150) rfl), lw_t8 (List.mem_of_getElem? (l := tables_1_8) (i := 151) rfl)⟩
set_option maxRecDepth 20000 in
theorem lw_p89 : lw_okq (⟨"FormHouseModel", "on", "(J)V"⟩, 58) := ⟨lw_n10, lw_t6 (List.mem_of_getElem? (l := tables_1_6) (i := 200) rfl), lw_t8 (List.mem_of_getElem? (l := tables_1_8) (i := 154) rfl), lw_t8 (List.mem_of_getElem? (l := tables_1_8) (i := 155) rfl)⟩
set_option maxRecDepth 20000 in
theorem lw_p90 : lw_okq (⟨"FormHouseModel", "normal", "()V"⟩, 58) := ⟨lw_n10, lw_t6 (List.mem_of_getElem? (l := tables_1_6) (i := 200) rfl), lw_t8 (List.mem_of_getElem? (l := tables_1_8) (i := 158) rfl), lw_t8 (List.mem_of_getElem? (l := tables_1_8) (i := 159) rfl)⟩
set_option maxRecDepth 20000 in
theorem lw_p91 : lw_okq (⟨"FormHouseModel", "keepBest", "()V"⟩, 58) := ⟨lw_n10, lw_t6 (List.mem_of_getElem? (l := tables_1_6) (i := 200) rfl), lw_t8 (List.mem_of_getElem? (l := tables_1_8) (i := 162) rfl), lw_t8 (List.mem_of_getElem? (l := tables_1_8) (i := 163) rfl)⟩
set_option maxRecDepth 20000 in
theorem lw_p92 : lw_okq (⟨"FormHouseModel", "isBetter", "()Z"⟩, 58) := ⟨lw_n10, lw_t6 (List.mem_of_getElem? (l := tables_1_6) (i := 200) rfl), lw_t8 (List.mem_of_getElem? (l := tables_1_8) (i := 166) rfl), lw_t8 (List.mem_of_getElem? (l := tables_1_8) (i := 167) rfl)⟩
set_option maxRecDepth 20000 in
theorem lw_p93 : lw_okq (⟨"FormHouseModel", "sizes", "(II)I"⟩, 58) := ⟨lw_n10, lw_t6 (List.mem_of_getElem? (l := tables_1_6) (i := 200) rfl), lw_t8 (List.mem_of_getElem? (l := tables_1_8) (i := 170) rfl), lw_t8 (List.mem_of_getElem? (l := tables_1_8) (i := 171) rfl)⟩
set_option maxRecDepth 20000 in
theorem lw_p94 : lw_okq (⟨"FormHouseModel", "scale", "(IJ)V"⟩, 58) := ⟨lw_n10, lw_t6 (List.mem_of_getElem? (l := tables_1_6) (i := 200) rfl), lw_t8 (List.mem_of_getElem? (l := tables_1_8) (i := 174) rfl), lw_t8 (List.mem_of_getElem? (l := tables_1_8) (i := 175) rfl)⟩
set_option maxRecDepth 20000 in
theorem lw_p95 : lw_okq (⟨"FormHouseModel", "raise", "(I)I"⟩, 58) := ⟨lw_n10, lw_t6 (List.mem_of_getElem? (l := tables_1_6) (i := 200) rfl), lw_t8 (List.mem_of_getElem? (l := tables_1_8) (i := 178) rfl), lw_t8 (List.mem_of_getElem? (l := tables_1_8) (i := 179) rfl)⟩
def lw_privs_6 : List (MethodName × Nat) := [(⟨"FormHouseModel", "above", "(J)V"⟩, 58), (⟨"FormHouseModel", "trial", "(JJJ)V"⟩, 58), (⟨"FormHouseModel", "ringPlace", "()I"⟩, 58), (⟨"FormHouseModel", "seekBest", "(JJI)V"⟩, 58), (⟨"FormHouseModel", "come", "(JJII)V"⟩, 58), (⟨"FormHouseModel", "back", "(J)V"⟩, 58), (⟨"FormHouseModel", "widen", "()V"⟩, 58), (⟨"FormHouseModel", "hasRoom", "(I)Z"⟩, 58), (⟨"FormHouseModel", "combine", "(IJII)V"⟩, 58), (⟨"FormHouseModel", "on", "(J)V"⟩, 58), (⟨"FormHouseModel", "normal", "()V"⟩, 58), (⟨"FormHouseModel", "keepBest", "()V"⟩, 58), (⟨"FormHouseModel", "isBetter", "()Z"⟩, 58), (⟨"FormHouseModel", "sizes", "(II)I"⟩, 58), (⟨"FormHouseModel", "scale", "(IJ)V"⟩, 58), (⟨"FormHouseModel", "raise", "(I)I"⟩, 58)]
theorem lw_r6 : ∀ q ∈ lw_privs_6, lw_okq q := List.forall_mem_cons.mpr ⟨lw_p80, List.forall_mem_cons.mpr ⟨lw_p81, List.forall_mem_cons.mpr ⟨lw_p82, List.forall_mem_cons.mpr ⟨lw_p83, List.forall_mem_cons.mpr ⟨lw_p84, List.forall_mem_cons.mpr ⟨lw_p85, List.forall_mem_cons.mpr ⟨lw_p86, List.forall_mem_cons.mpr ⟨lw_p87, List.forall_mem_cons.mpr ⟨lw_p88, List.forall_mem_cons.mpr ⟨lw_p89, List.forall_mem_cons.mpr ⟨lw_p90, List.forall_mem_cons.mpr ⟨lw_p91, List.forall_mem_cons.mpr ⟨lw_p92, List.forall_mem_cons.mpr ⟨lw_p93, List.forall_mem_cons.mpr ⟨lw_p94, List.forall_mem_cons.mpr ⟨lw_p95, fun _ h => absurd h List.not_mem_nil⟩⟩⟩⟩⟩⟩⟩⟩⟩⟩⟩⟩⟩⟩⟩⟩
set_option maxRecDepth 20000 in
theorem lw_p96 : lw_okq (⟨"FormHouseModel", "symbol", "(J)I"⟩, 58) := ⟨lw_n10, lw_t6 (List.mem_of_getElem? (l := tables_1_6) (i := 200) rfl), lw_t8 (List.mem_of_getElem? (l := tables_1_8) (i := 192) rfl), lw_t8 (List.mem_of_getElem? (l := tables_1_8) (i := 193) rfl)⟩
set_option maxRecDepth 20000 in
theorem lw_p97 : lw_okq (⟨"FormHouseModel", "isClass", "(I)Z"⟩, 58) := ⟨lw_n10, lw_t6 (List.mem_of_getElem? (l := tables_1_6) (i := 200) rfl), lw_t8 (List.mem_of_getElem? (l := tables_1_8) (i := 209) rfl), lw_t8 (List.mem_of_getElem? (l := tables_1_8) (i := 210) rfl)⟩
set_option maxRecDepth 20000 in
theorem lw_p98 : lw_okq (⟨"FormHouseModel", "turned", "(I)I"⟩, 58) := ⟨lw_n10, lw_t6 (List.mem_of_getElem? (l := tables_1_6) (i := 200) rfl), lw_t8 (List.mem_of_getElem? (l := tables_1_8) (i := 229) rfl), lw_t8 (List.mem_of_getElem? (l := tables_1_8) (i := 230) rfl)⟩
set_option maxRecDepth 20000 in
theorem lw_p99 : lw_okq (⟨"FormHouseModel", "isFamily", "(I)Z"⟩, 58) := ⟨lw_n10, lw_t6 (List.mem_of_getElem? (l := tables_1_6) (i := 200) rfl), lw_t9 (List.mem_of_getElem? (l := tables_1_9) (i := 17) rfl), lw_t9 (List.mem_of_getElem? (l := tables_1_9) (i := 18) rfl)⟩
set_option maxRecDepth 20000 in
theorem lw_p100 : lw_okq (⟨"FormHouseModel", "isNumber", "(I)Z"⟩, 58) := ⟨lw_n10, lw_t6 (List.mem_of_getElem? (l := tables_1_6) (i := 200) rfl), lw_t9 (List.mem_of_getElem? (l := tables_1_9) (i := 33) rfl), lw_t9 (List.mem_of_getElem? (l := tables_1_9) (i := 34) rfl)⟩
set_option maxRecDepth 20000 in
theorem lw_p101 : lw_okq (⟨"FormHouseModel", "signOf", "(I)I"⟩, 58) := ⟨lw_n10, lw_t6 (List.mem_of_getElem? (l := tables_1_6) (i := 200) rfl), lw_t9 (List.mem_of_getElem? (l := tables_1_9) (i := 37) rfl), lw_t9 (List.mem_of_getElem? (l := tables_1_9) (i := 38) rfl)⟩
set_option maxRecDepth 20000 in
theorem lw_p102 : lw_okq (⟨"FormHouseModel", "toSpare", "(I)V"⟩, 58) := ⟨lw_n10, lw_t6 (List.mem_of_getElem? (l := tables_1_6) (i := 200) rfl), lw_t9 (List.mem_of_getElem? (l := tables_1_9) (i := 45) rfl), lw_t9 (List.mem_of_getElem? (l := tables_1_9) (i := 46) rfl)⟩
set_option maxRecDepth 20000 in
theorem lw_p103 : lw_okq (⟨"FormHouseModel", "wordAt", "(II)I"⟩, 58) := ⟨lw_n10, lw_t6 (List.mem_of_getElem? (l := tables_1_6) (i := 200) rfl), lw_t9 (List.mem_of_getElem? (l := tables_1_9) (i := 49) rfl), lw_t9 (List.mem_of_getElem? (l := tables_1_9) (i := 50) rfl)⟩
def lw_privs_7 : List (MethodName × Nat) := [(⟨"FormHouseModel", "symbol", "(J)I"⟩, 58), (⟨"FormHouseModel", "isClass", "(I)Z"⟩, 58), (⟨"FormHouseModel", "turned", "(I)I"⟩, 58), (⟨"FormHouseModel", "isFamily", "(I)Z"⟩, 58), (⟨"FormHouseModel", "isNumber", "(I)Z"⟩, 58), (⟨"FormHouseModel", "signOf", "(I)I"⟩, 58), (⟨"FormHouseModel", "toSpare", "(I)V"⟩, 58), (⟨"FormHouseModel", "wordAt", "(II)I"⟩, 58)]
theorem lw_r7 : ∀ q ∈ lw_privs_7, lw_okq q := List.forall_mem_cons.mpr ⟨lw_p96, List.forall_mem_cons.mpr ⟨lw_p97, List.forall_mem_cons.mpr ⟨lw_p98, List.forall_mem_cons.mpr ⟨lw_p99, List.forall_mem_cons.mpr ⟨lw_p100, List.forall_mem_cons.mpr ⟨lw_p101, List.forall_mem_cons.mpr ⟨lw_p102, List.forall_mem_cons.mpr ⟨lw_p103, fun _ h => absurd h List.not_mem_nil⟩⟩⟩⟩⟩⟩⟩⟩
def lw_privs : List (MethodName × Nat) := lw_privs_1 ++ (lw_privs_2 ++ (lw_privs_3 ++ (lw_privs_4 ++ (lw_privs_5 ++ (lw_privs_6 ++ (lw_privs_7))))))
def lw_tbl : List Cond := k2_sels lw_privs ++ tables_1
theorem lw_privs_ok : ∀ q ∈ lw_privs, lw_okq q := by
  show ∀ q ∈ lw_privs_1 ++ (lw_privs_2 ++ (lw_privs_3 ++ (lw_privs_4 ++ (lw_privs_5 ++ (lw_privs_6 ++ (lw_privs_7)))))), lw_okq q
  exact List.forall_mem_append.mpr ⟨lw_r1, List.forall_mem_append.mpr ⟨lw_r2, List.forall_mem_append.mpr ⟨lw_r3, List.forall_mem_append.mpr ⟨lw_r4, List.forall_mem_append.mpr ⟨lw_r5, List.forall_mem_append.mpr ⟨lw_r6, lw_r7⟩⟩⟩⟩⟩⟩
-- ===== end of PART A; then your names; then what follows =====
