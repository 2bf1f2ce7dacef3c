-- ===== PART A: goes FIRST, ahead of the names: the tables' words, and 'selects' of the private methods out of them =====
/-- a private method of a class that the tables say can be made, by its rows of tables_1 -/
def lw_okq (q : MethodName × Nat) : Prop := (q.1.cls ≠ "java/lang/invoke/MethodHandle" ∧ q.1.cls ≠ "java/lang/invoke/VarHandle") ∧ Cond.instantiable q.1.cls q.2 ∈ tables_1 ∧ Cond.privateMethod q.1 ∈ tables_1 ∧ Cond.instanceMethod q.1 ∈ tables_1
set_option maxRecDepth 100000
theorem lw_t1 {w : Cond} (h : w ∈ tables_1_1) : w ∈ tables_1 := List.mem_append_left _ h
theorem lw_t2 {w : Cond} (h : w ∈ tables_1_2) : w ∈ tables_1 := List.mem_append_right _ (List.mem_append_left _ h)
theorem lw_t3 {w : Cond} (h : w ∈ tables_1_3) : w ∈ tables_1 := List.mem_append_right _ (List.mem_append_right _ (List.mem_append_left _ h))
theorem lw_t4 {w : Cond} (h : w ∈ tables_1_4) : w ∈ tables_1 := List.mem_append_right _ (List.mem_append_right _ (List.mem_append_right _ (List.mem_append_left _ h)))
theorem lw_t5 {w : Cond} (h : w ∈ tables_1_5) : w ∈ tables_1 := List.mem_append_right _ (List.mem_append_right _ (List.mem_append_right _ (List.mem_append_right _ (List.mem_append_left _ h))))
theorem lw_t6 {w : Cond} (h : w ∈ tables_1_6) : w ∈ tables_1 := List.mem_append_right _ (List.mem_append_right _ (List.mem_append_right _ (List.mem_append_right _ (List.mem_append_right _ (List.mem_append_left _ h)))))
theorem lw_t7 {w : Cond} (h : w ∈ tables_1_7) : w ∈ tables_1 := List.mem_append_right _ (List.mem_append_right _ (List.mem_append_right _ (List.mem_append_right _ (List.mem_append_right _ (List.mem_append_right _ (List.mem_append_left _ h))))))
theorem lw_t8 {w : Cond} (h : w ∈ tables_1_8) : w ∈ tables_1 := List.mem_append_right _ (List.mem_append_right _ (List.mem_append_right _ (List.mem_append_right _ (List.mem_append_right _ (List.mem_append_right _ (List.mem_append_right _ (List.mem_append_left _ h)))))))
theorem lw_t9 {w : Cond} (h : w ∈ tables_1_9) : w ∈ tables_1 := List.mem_append_right _ (List.mem_append_right _ (List.mem_append_right _ (List.mem_append_right _ (List.mem_append_right _ (List.mem_append_right _ (List.mem_append_right _ (List.mem_append_right _ h)))))))
theorem lw_p0 : lw_okq (⟨"PegLaws", "reads", "()V"⟩, 26) := ⟨⟨by decide +kernel, by decide +kernel⟩, lw_t1 (List.mem_of_getElem? (i := 44) rfl), lw_t2 (List.mem_of_getElem? (i := 60) rfl), lw_t2 (List.mem_of_getElem? (i := 61) rfl)⟩
theorem lw_p1 : lw_okq (⟨"PegLaws$Reader", "next", "()V"⟩, 8) := ⟨⟨by decide +kernel, by decide +kernel⟩, lw_t1 (List.mem_of_getElem? (i := 52) rfl), lw_t2 (List.mem_of_getElem? (i := 68) rfl), lw_t2 (List.mem_of_getElem? (i := 69) rfl)⟩
theorem lw_p2 : lw_okq (⟨"PegLaws$Reader", "at", "(I)I"⟩, 8) := ⟨⟨by decide +kernel, by decide +kernel⟩, lw_t1 (List.mem_of_getElem? (i := 52) rfl), lw_t2 (List.mem_of_getElem? (i := 72) rfl), lw_t2 (List.mem_of_getElem? (i := 73) rfl)⟩
theorem lw_p3 : lw_okq (⟨"PegLaws$Reader", "which", "(Ljava/lang/String;)I"⟩, 8) := ⟨⟨by decide +kernel, by decide +kernel⟩, lw_t1 (List.mem_of_getElem? (i := 52) rfl), lw_t2 (List.mem_of_getElem? (i := 176) rfl), lw_t2 (List.mem_of_getElem? (i := 177) rfl)⟩
theorem lw_p4 : lw_okq (⟨"PegLaws$Reader", "wrong", "(I)LPegLaws$Wrong;"⟩, 8) := ⟨⟨by decide +kernel, by decide +kernel⟩, lw_t1 (List.mem_of_getElem? (i := 52) rfl), lw_t2 (List.mem_of_getElem? (i := 202) rfl), lw_t2 (List.mem_of_getElem? (i := 203) rfl)⟩
theorem lw_p5 : lw_okq (⟨"java/lang/Throwable", "fillInStackTrace", "(I)Ljava/lang/Throwable;"⟩, 6) := ⟨⟨by decide +kernel, by decide +kernel⟩, lw_t3 (List.mem_of_getElem? (i := 3) rfl), lw_t3 (List.mem_of_getElem? (i := 1) rfl), lw_t3 (List.mem_of_getElem? (i := 2) rfl)⟩
theorem lw_p6 : lw_okq (⟨"PegLaws$Reader", "isTold", "(I)Z"⟩, 8) := ⟨⟨by decide +kernel, by decide +kernel⟩, lw_t1 (List.mem_of_getElem? (i := 52) rfl), lw_t3 (List.mem_of_getElem? (i := 35) rfl), lw_t3 (List.mem_of_getElem? (i := 36) rfl)⟩
theorem lw_p7 : lw_okq (⟨"PegLaws$Reader", "told", "(I)V"⟩, 8) := ⟨⟨by decide +kernel, by decide +kernel⟩, lw_t1 (List.mem_of_getElem? (i := 52) rfl), lw_t3 (List.mem_of_getElem? (i := 43) rfl), lw_t3 (List.mem_of_getElem? (i := 44) rfl)⟩
theorem lw_p8 : lw_okq (⟨"PegLaws$Reader", "comes", "()V"⟩, 8) := ⟨⟨by decide +kernel, by decide +kernel⟩, lw_t1 (List.mem_of_getElem? (i := 52) rfl), lw_t3 (List.mem_of_getElem? (i := 47) rfl), lw_t3 (List.mem_of_getElem? (i := 48) rfl)⟩
theorem lw_p9 : lw_okq (⟨"PegLaws$Reader", "name", "()Ljava/lang/String;"⟩, 8) := ⟨⟨by decide +kernel, by decide +kernel⟩, lw_t1 (List.mem_of_getElem? (i := 52) rfl), lw_t3 (List.mem_of_getElem? (i := 51) rfl), lw_t3 (List.mem_of_getElem? (i := 52) rfl)⟩
theorem lw_p10 : lw_okq (⟨"PegLaws$Reader", "one", "(Ljava/lang/String;)I"⟩, 8) := ⟨⟨by decide +kernel, by decide +kernel⟩, lw_t1 (List.mem_of_getElem? (i := 52) rfl), lw_t4 (List.mem_of_getElem? (i := 1) rfl), lw_t4 (List.mem_of_getElem? (i := 2) rfl)⟩
theorem lw_p11 : lw_okq (⟨"PegLaws$Reader", "number", "(Ljava/lang/String;II)I"⟩, 8) := ⟨⟨by decide +kernel, by decide +kernel⟩, lw_t1 (List.mem_of_getElem? (i := 52) rfl), lw_t4 (List.mem_of_getElem? (i := 64) rfl), lw_t4 (List.mem_of_getElem? (i := 65) rfl)⟩
theorem lw_p12 : lw_okq (⟨"PegLaws$Reader", "need", "(Ljava/lang/String;)V"⟩, 8) := ⟨⟨by decide +kernel, by decide +kernel⟩, lw_t1 (List.mem_of_getElem? (i := 52) rfl), lw_t4 (List.mem_of_getElem? (i := 68) rfl), lw_t4 (List.mem_of_getElem? (i := 69) rfl)⟩
theorem lw_p13 : lw_okq (⟨"PegLaws$Reader", "number", "(II)I"⟩, 8) := ⟨⟨by decide +kernel, by decide +kernel⟩, lw_t1 (List.mem_of_getElem? (i := 52) rfl), lw_t4 (List.mem_of_getElem? (i := 72) rfl), lw_t4 (List.mem_of_getElem? (i := 73) rfl)⟩
theorem lw_p14 : lw_okq (⟨"java/util/ArrayList", "add", "(Ljava/lang/Object;[Ljava/lang/Object;I)V"⟩, 3) := ⟨⟨by decide +kernel, by decide +kernel⟩, lw_t1 (List.mem_of_getElem? (i := 90) rfl), lw_t4 (List.mem_of_getElem? (i := 82) rfl), lw_t4 (List.mem_of_getElem? (i := 83) rfl)⟩
theorem lw_p15 : lw_okq (⟨"java/util/ArrayList", "grow", "()[Ljava/lang/Object;"⟩, 3) := ⟨⟨by decide +kernel, by decide +kernel⟩, lw_t1 (List.mem_of_getElem? (i := 90) rfl), lw_t4 (List.mem_of_getElem? (i := 86) rfl), lw_t4 (List.mem_of_getElem? (i := 87) rfl)⟩
def lw_privs_1 : List (MethodName × Nat) := [(⟨"PegLaws", "reads", "()V"⟩, 26), (⟨"PegLaws$Reader", "next", "()V"⟩, 8), (⟨"PegLaws$Reader", "at", "(I)I"⟩, 8), (⟨"PegLaws$Reader", "which", "(Ljava/lang/String;)I"⟩, 8), (⟨"PegLaws$Reader", "wrong", "(I)LPegLaws$Wrong;"⟩, 8), (⟨"java/lang/Throwable", "fillInStackTrace", "(I)Ljava/lang/Throwable;"⟩, 6), (⟨"PegLaws$Reader", "isTold", "(I)Z"⟩, 8), (⟨"PegLaws$Reader", "told", "(I)V"⟩, 8), (⟨"PegLaws$Reader", "comes", "()V"⟩, 8), (⟨"PegLaws$Reader", "name", "()Ljava/lang/String;"⟩, 8), (⟨"PegLaws$Reader", "one", "(Ljava/lang/String;)I"⟩, 8), (⟨"PegLaws$Reader", "number", "(Ljava/lang/String;II)I"⟩, 8), (⟨"PegLaws$Reader", "need", "(Ljava/lang/String;)V"⟩, 8), (⟨"PegLaws$Reader", "number", "(II)I"⟩, 8), (⟨"java/util/ArrayList", "add", "(Ljava/lang/Object;[Ljava/lang/Object;I)V"⟩, 3), (⟨"java/util/ArrayList", "grow", "()[Ljava/lang/Object;"⟩, 3)]
theorem lw_r1 : ∀ q ∈ lw_privs_1, lw_okq q := List.forall_mem_cons.mpr ⟨lw_p0, List.forall_mem_cons.mpr ⟨lw_p1, List.forall_mem_cons.mpr ⟨lw_p2, List.forall_mem_cons.mpr ⟨lw_p3, List.forall_mem_cons.mpr ⟨lw_p4, List.forall_mem_cons.mpr ⟨lw_p5, List.forall_mem_cons.mpr ⟨lw_p6, List.forall_mem_cons.mpr ⟨lw_p7, List.forall_mem_cons.mpr ⟨lw_p8, List.forall_mem_cons.mpr ⟨lw_p9, List.forall_mem_cons.mpr ⟨lw_p10, List.forall_mem_cons.mpr ⟨lw_p11, List.forall_mem_cons.mpr ⟨lw_p12, List.forall_mem_cons.mpr ⟨lw_p13, List.forall_mem_cons.mpr ⟨lw_p14, List.forall_mem_cons.mpr ⟨lw_p15, fun _ h => absurd h List.not_mem_nil⟩⟩⟩⟩⟩⟩⟩⟩⟩⟩⟩⟩⟩⟩⟩⟩
theorem lw_p16 : lw_okq (⟨"java/util/ArrayList", "grow", "(I)[Ljava/lang/Object;"⟩, 3) := ⟨⟨by decide +kernel, by decide +kernel⟩, lw_t1 (List.mem_of_getElem? (i := 90) rfl), lw_t4 (List.mem_of_getElem? (i := 90) rfl), lw_t4 (List.mem_of_getElem? (i := 91) rfl)⟩
theorem lw_p17 : lw_okq (⟨"PegLaws$Reader", "row", "([III)I"⟩, 8) := ⟨⟨by decide +kernel, by decide +kernel⟩, lw_t1 (List.mem_of_getElem? (i := 52) rfl), lw_t4 (List.mem_of_getElem? (i := 134) rfl), lw_t4 (List.mem_of_getElem? (i := 135) rfl)⟩
theorem lw_p18 : lw_okq (⟨"PegLaws$Reader", "ahead", "(II)I"⟩, 8) := ⟨⟨by decide +kernel, by decide +kernel⟩, lw_t1 (List.mem_of_getElem? (i := 52) rfl), lw_t4 (List.mem_of_getElem? (i := 138) rfl), lw_t4 (List.mem_of_getElem? (i := 139) rfl)⟩
theorem lw_p19 : lw_okq (⟨"PegLaws$Reader", "isSign", "(C)Z"⟩, 8) := ⟨⟨by decide +kernel, by decide +kernel⟩, lw_t1 (List.mem_of_getElem? (i := 52) rfl), lw_t4 (List.mem_of_getElem? (i := 145) rfl), lw_t4 (List.mem_of_getElem? (i := 146) rfl)⟩
theorem lw_p20 : lw_okq (⟨"PegLaws$Reader", "cloth", "()I"⟩, 8) := ⟨⟨by decide +kernel, by decide +kernel⟩, lw_t1 (List.mem_of_getElem? (i := 52) rfl), lw_t4 (List.mem_of_getElem? (i := 149) rfl), lw_t4 (List.mem_of_getElem? (i := 150) rfl)⟩
theorem lw_p21 : lw_okq (⟨"PegLaws$Reader", "expression", "()LPegLaws$Expression;"⟩, 8) := ⟨⟨by decide +kernel, by decide +kernel⟩, lw_t1 (List.mem_of_getElem? (i := 52) rfl), lw_t4 (List.mem_of_getElem? (i := 156) rfl), lw_t4 (List.mem_of_getElem? (i := 157) rfl)⟩
theorem lw_p22 : lw_okq (⟨"PegLaws$Reader", "test", "()LPegLaws$Expression;"⟩, 8) := ⟨⟨by decide +kernel, by decide +kernel⟩, lw_t1 (List.mem_of_getElem? (i := 52) rfl), lw_t4 (List.mem_of_getElem? (i := 160) rfl), lw_t4 (List.mem_of_getElem? (i := 161) rfl)⟩
theorem lw_p23 : lw_okq (⟨"PegLaws$Reader", "sum", "()LPegLaws$Expression;"⟩, 8) := ⟨⟨by decide +kernel, by decide +kernel⟩, lw_t1 (List.mem_of_getElem? (i := 52) rfl), lw_t4 (List.mem_of_getElem? (i := 164) rfl), lw_t4 (List.mem_of_getElem? (i := 165) rfl)⟩
theorem lw_p24 : lw_okq (⟨"PegLaws$Reader", "product", "()LPegLaws$Expression;"⟩, 8) := ⟨⟨by decide +kernel, by decide +kernel⟩, lw_t1 (List.mem_of_getElem? (i := 52) rfl), lw_t4 (List.mem_of_getElem? (i := 168) rfl), lw_t4 (List.mem_of_getElem? (i := 169) rfl)⟩
theorem lw_p25 : lw_okq (⟨"PegLaws$Reader", "part", "()LPegLaws$Expression;"⟩, 8) := ⟨⟨by decide +kernel, by decide +kernel⟩, lw_t1 (List.mem_of_getElem? (i := 52) rfl), lw_t4 (List.mem_of_getElem? (i := 172) rfl), lw_t4 (List.mem_of_getElem? (i := 173) rfl)⟩
theorem lw_p26 : lw_okq (⟨"PegLaws$Reader", "need", "(C)V"⟩, 8) := ⟨⟨by decide +kernel, by decide +kernel⟩, lw_t1 (List.mem_of_getElem? (i := 52) rfl), lw_t4 (List.mem_of_getElem? (i := 211) rfl), lw_t4 (List.mem_of_getElem? (i := 212) rfl)⟩
theorem lw_p27 : lw_okq (⟨"PegLaws$Reader", "done", "(I)LPegLaws$Line;"⟩, 8) := ⟨⟨by decide +kernel, by decide +kernel⟩, lw_t1 (List.mem_of_getElem? (i := 52) rfl), lw_t5 (List.mem_of_getElem? (i := 3) rfl), lw_t5 (List.mem_of_getElem? (i := 4) rfl)⟩
theorem lw_p28 : lw_okq (⟨"PegLaws", "isCloth", "(I)Z"⟩, 26) := ⟨⟨by decide +kernel, by decide +kernel⟩, lw_t1 (List.mem_of_getElem? (i := 44) rfl), lw_t5 (List.mem_of_getElem? (i := 70) rfl), lw_t5 (List.mem_of_getElem? (i := 71) rfl)⟩
theorem lw_p29 : lw_okq (⟨"PegLaws", "cloths", "()I"⟩, 26) := ⟨⟨by decide +kernel, by decide +kernel⟩, lw_t1 (List.mem_of_getElem? (i := 44) rfl), lw_t5 (List.mem_of_getElem? (i := 74) rfl), lw_t5 (List.mem_of_getElem? (i := 75) rfl)⟩
theorem lw_p30 : lw_okq (⟨"PegLaws", "cloth", "(I)LPegLaws$Cloth;"⟩, 26) := ⟨⟨by decide +kernel, by decide +kernel⟩, lw_t1 (List.mem_of_getElem? (i := 44) rfl), lw_t5 (List.mem_of_getElem? (i := 84) rfl), lw_t5 (List.mem_of_getElem? (i := 85) rfl)⟩
theorem lw_p31 : lw_okq (⟨"PegLaws", "isLaw", "(LPegLaws$State;I)Z"⟩, 26) := ⟨⟨by decide +kernel, by decide +kernel⟩, lw_t1 (List.mem_of_getElem? (i := 44) rfl), lw_t5 (List.mem_of_getElem? (i := 104) rfl), lw_t5 (List.mem_of_getElem? (i := 105) rfl)⟩
def lw_privs_2 : List (MethodName × Nat) := [(⟨"java/util/ArrayList", "grow", "(I)[Ljava/lang/Object;"⟩, 3), (⟨"PegLaws$Reader", "row", "([III)I"⟩, 8), (⟨"PegLaws$Reader", "ahead", "(II)I"⟩, 8), (⟨"PegLaws$Reader", "isSign", "(C)Z"⟩, 8), (⟨"PegLaws$Reader", "cloth", "()I"⟩, 8), (⟨"PegLaws$Reader", "expression", "()LPegLaws$Expression;"⟩, 8), (⟨"PegLaws$Reader", "test", "()LPegLaws$Expression;"⟩, 8), (⟨"PegLaws$Reader", "sum", "()LPegLaws$Expression;"⟩, 8), (⟨"PegLaws$Reader", "product", "()LPegLaws$Expression;"⟩, 8), (⟨"PegLaws$Reader", "part", "()LPegLaws$Expression;"⟩, 8), (⟨"PegLaws$Reader", "need", "(C)V"⟩, 8), (⟨"PegLaws$Reader", "done", "(I)LPegLaws$Line;"⟩, 8), (⟨"PegLaws", "isCloth", "(I)Z"⟩, 26), (⟨"PegLaws", "cloths", "()I"⟩, 26), (⟨"PegLaws", "cloth", "(I)LPegLaws$Cloth;"⟩, 26), (⟨"PegLaws", "isLaw", "(LPegLaws$State;I)Z"⟩, 26)]
theorem lw_r2 : ∀ q ∈ lw_privs_2, lw_okq q := List.forall_mem_cons.mpr ⟨lw_p16, List.forall_mem_cons.mpr ⟨lw_p17, List.forall_mem_cons.mpr ⟨lw_p18, List.forall_mem_cons.mpr ⟨lw_p19, List.forall_mem_cons.mpr ⟨lw_p20, List.forall_mem_cons.mpr ⟨lw_p21, List.forall_mem_cons.mpr ⟨lw_p22, List.forall_mem_cons.mpr ⟨lw_p23, List.forall_mem_cons.mpr ⟨lw_p24, List.forall_mem_cons.mpr ⟨lw_p25, List.forall_mem_cons.mpr ⟨lw_p26, List.forall_mem_cons.mpr ⟨lw_p27, List.forall_mem_cons.mpr ⟨lw_p28, List.forall_mem_cons.mpr ⟨lw_p29, List.forall_mem_cons.mpr ⟨lw_p30, List.forall_mem_cons.mpr ⟨lw_p31, fun _ h => absurd h List.not_mem_nil⟩⟩⟩⟩⟩⟩⟩⟩⟩⟩⟩⟩⟩⟩⟩⟩
theorem lw_p32 : lw_okq (⟨"PegLaws", "isTurned", "(LPegLaws$State;I)Z"⟩, 26) := ⟨⟨by decide +kernel, by decide +kernel⟩, lw_t1 (List.mem_of_getElem? (i := 44) rfl), lw_t5 (List.mem_of_getElem? (i := 119) rfl), lw_t5 (List.mem_of_getElem? (i := 120) rfl)⟩
theorem lw_p33 : lw_okq (⟨"PegLaws", "roomBy", "(II)I"⟩, 26) := ⟨⟨by decide +kernel, by decide +kernel⟩, lw_t1 (List.mem_of_getElem? (i := 44) rfl), lw_t5 (List.mem_of_getElem? (i := 123) rfl), lw_t5 (List.mem_of_getElem? (i := 124) rfl)⟩
theorem lw_p34 : lw_okq (⟨"PegLaws", "pullOf", "(III)I"⟩, 26) := ⟨⟨by decide +kernel, by decide +kernel⟩, lw_t1 (List.mem_of_getElem? (i := 44) rfl), lw_t5 (List.mem_of_getElem? (i := 131) rfl), lw_t5 (List.mem_of_getElem? (i := 132) rfl)⟩
theorem lw_p35 : lw_okq (⟨"PegLaws", "worked", "(LPegLaws$Expression;IIIII)I"⟩, 26) := ⟨⟨by decide +kernel, by decide +kernel⟩, lw_t1 (List.mem_of_getElem? (i := 44) rfl), lw_t5 (List.mem_of_getElem? (i := 145) rfl), lw_t5 (List.mem_of_getElem? (i := 146) rfl)⟩
theorem lw_p36 : lw_okq (⟨"PegLaws", "lawsOf", "(LPegLaws$State;)I"⟩, 26) := ⟨⟨by decide +kernel, by decide +kernel⟩, lw_t1 (List.mem_of_getElem? (i := 44) rfl), lw_t5 (List.mem_of_getElem? (i := 189) rfl), lw_t5 (List.mem_of_getElem? (i := 190) rfl)⟩
theorem lw_p37 : lw_okq (⟨"PegLaws", "canHang", "(LPegLaws$State;II)Z"⟩, 26) := ⟨⟨by decide +kernel, by decide +kernel⟩, lw_t1 (List.mem_of_getElem? (i := 44) rfl), lw_t5 (List.mem_of_getElem? (i := 205) rfl), lw_t5 (List.mem_of_getElem? (i := 206) rfl)⟩
theorem lw_p38 : lw_okq (⟨"PegLaws", "left", "(LPegLaws$State;)I"⟩, 26) := ⟨⟨by decide +kernel, by decide +kernel⟩, lw_t1 (List.mem_of_getElem? (i := 44) rfl), lw_t5 (List.mem_of_getElem? (i := 209) rfl), lw_t5 (List.mem_of_getElem? (i := 210) rfl)⟩
theorem lw_p39 : lw_okq (⟨"PegLaws", "keeps", "()V"⟩, 26) := ⟨⟨by decide +kernel, by decide +kernel⟩, lw_t1 (List.mem_of_getElem? (i := 44) rfl), lw_t5 (List.mem_of_getElem? (i := 217) rfl), lw_t5 (List.mem_of_getElem? (i := 218) rfl)⟩
theorem lw_p40 : lw_okq (⟨"PegLaws", "passes", "(LPegLaws$State;I)I"⟩, 26) := ⟨⟨by decide +kernel, by decide +kernel⟩, lw_t1 (List.mem_of_getElem? (i := 44) rfl), lw_t6 (List.mem_of_getElem? (i := 13) rfl), lw_t6 (List.mem_of_getElem? (i := 14) rfl)⟩
theorem lw_p41 : lw_okq (⟨"PegLaws", "blows", "(LPegLaws$State;II)Z"⟩, 26) := ⟨⟨by decide +kernel, by decide +kernel⟩, lw_t1 (List.mem_of_getElem? (i := 44) rfl), lw_t6 (List.mem_of_getElem? (i := 17) rfl), lw_t6 (List.mem_of_getElem? (i := 18) rfl)⟩
theorem lw_p42 : lw_okq (⟨"PegLaws", "driedOf", "(III)I"⟩, 26) := ⟨⟨by decide +kernel, by decide +kernel⟩, lw_t1 (List.mem_of_getElem? (i := 44) rfl), lw_t6 (List.mem_of_getElem? (i := 36) rfl), lw_t6 (List.mem_of_getElem? (i := 37) rfl)⟩
theorem lw_p43 : lw_okq (⟨"PegLaws", "hanging", "(LPegLaws$State;)I"⟩, 26) := ⟨⟨by decide +kernel, by decide +kernel⟩, lw_t1 (List.mem_of_getElem? (i := 44) rfl), lw_t6 (List.mem_of_getElem? (i := 48) rfl), lw_t6 (List.mem_of_getElem? (i := 49) rfl)⟩
theorem lw_p44 : lw_okq (⟨"PegLaws", "worthOf", "(I)I"⟩, 26) := ⟨⟨by decide +kernel, by decide +kernel⟩, lw_t1 (List.mem_of_getElem? (i := 44) rfl), lw_t6 (List.mem_of_getElem? (i := 88) rfl), lw_t6 (List.mem_of_getElem? (i := 89) rfl)⟩
theorem lw_p45 : lw_okq (⟨"PegLaws", "clashesIn", "(I)I"⟩, 26) := ⟨⟨by decide +kernel, by decide +kernel⟩, lw_t1 (List.mem_of_getElem? (i := 44) rfl), lw_t6 (List.mem_of_getElem? (i := 102) rfl), lw_t6 (List.mem_of_getElem? (i := 103) rfl)⟩
theorem lw_p46 : lw_okq (⟨"PegLaws", "mostPull", "(II)I"⟩, 26) := ⟨⟨by decide +kernel, by decide +kernel⟩, lw_t1 (List.mem_of_getElem? (i := 44) rfl), lw_t6 (List.mem_of_getElem? (i := 114) rfl), lw_t6 (List.mem_of_getElem? (i := 115) rfl)⟩
theorem lw_p47 : lw_okq (⟨"PegLaws", "fills", "(IIII)V"⟩, 26) := ⟨⟨by decide +kernel, by decide +kernel⟩, lw_t1 (List.mem_of_getElem? (i := 44) rfl), lw_t6 (List.mem_of_getElem? (i := 118) rfl), lw_t6 (List.mem_of_getElem? (i := 119) rfl)⟩
def lw_privs_3 : List (MethodName × Nat) := [(⟨"PegLaws", "isTurned", "(LPegLaws$State;I)Z"⟩, 26), (⟨"PegLaws", "roomBy", "(II)I"⟩, 26), (⟨"PegLaws", "pullOf", "(III)I"⟩, 26), (⟨"PegLaws", "worked", "(LPegLaws$Expression;IIIII)I"⟩, 26), (⟨"PegLaws", "lawsOf", "(LPegLaws$State;)I"⟩, 26), (⟨"PegLaws", "canHang", "(LPegLaws$State;II)Z"⟩, 26), (⟨"PegLaws", "left", "(LPegLaws$State;)I"⟩, 26), (⟨"PegLaws", "keeps", "()V"⟩, 26), (⟨"PegLaws", "passes", "(LPegLaws$State;I)I"⟩, 26), (⟨"PegLaws", "blows", "(LPegLaws$State;II)Z"⟩, 26), (⟨"PegLaws", "driedOf", "(III)I"⟩, 26), (⟨"PegLaws", "hanging", "(LPegLaws$State;)I"⟩, 26), (⟨"PegLaws", "worthOf", "(I)I"⟩, 26), (⟨"PegLaws", "clashesIn", "(I)I"⟩, 26), (⟨"PegLaws", "mostPull", "(II)I"⟩, 26), (⟨"PegLaws", "fills", "(IIII)V"⟩, 26)]
theorem lw_r3 : ∀ q ∈ lw_privs_3, lw_okq q := List.forall_mem_cons.mpr ⟨lw_p32, List.forall_mem_cons.mpr ⟨lw_p33, List.forall_mem_cons.mpr ⟨lw_p34, List.forall_mem_cons.mpr ⟨lw_p35, List.forall_mem_cons.mpr ⟨lw_p36, List.forall_mem_cons.mpr ⟨lw_p37, List.forall_mem_cons.mpr ⟨lw_p38, List.forall_mem_cons.mpr ⟨lw_p39, List.forall_mem_cons.mpr ⟨lw_p40, List.forall_mem_cons.mpr ⟨lw_p41, List.forall_mem_cons.mpr ⟨lw_p42, List.forall_mem_cons.mpr ⟨lw_p43, List.forall_mem_cons.mpr ⟨lw_p44, List.forall_mem_cons.mpr ⟨lw_p45, List.forall_mem_cons.mpr ⟨lw_p46, List.forall_mem_cons.mpr ⟨lw_p47, fun _ h => absurd h List.not_mem_nil⟩⟩⟩⟩⟩⟩⟩⟩⟩⟩⟩⟩⟩⟩⟩⟩
theorem lw_p48 : lw_okq (⟨"PegLaws", "hangsBy", "(LPegLaws$State;II)J"⟩, 26) := ⟨⟨by decide +kernel, by decide +kernel⟩, lw_t1 (List.mem_of_getElem? (i := 44) rfl), lw_t6 (List.mem_of_getElem? (i := 128) rfl), lw_t6 (List.mem_of_getElem? (i := 129) rfl)⟩
theorem lw_p49 : lw_okq (⟨"PegLaws", "orders", "(IIII)V"⟩, 26) := ⟨⟨by decide +kernel, by decide +kernel⟩, lw_t1 (List.mem_of_getElem? (i := 44) rfl), lw_t6 (List.mem_of_getElem? (i := 142) rfl), lw_t6 (List.mem_of_getElem? (i := 143) rfl)⟩
theorem lw_p50 : lw_okq (⟨"PegLaws", "dryBy", "(II)I"⟩, 26) := ⟨⟨by decide +kernel, by decide +kernel⟩, lw_t1 (List.mem_of_getElem? (i := 44) rfl), lw_t6 (List.mem_of_getElem? (i := 146) rfl), lw_t6 (List.mem_of_getElem? (i := 147) rfl)⟩
theorem lw_p51 : lw_okq (⟨"PegLaws", "wetBy", "(III)I"⟩, 26) := ⟨⟨by decide +kernel, by decide +kernel⟩, lw_t1 (List.mem_of_getElem? (i := 44) rfl), lw_t6 (List.mem_of_getElem? (i := 158) rfl), lw_t6 (List.mem_of_getElem? (i := 159) rfl)⟩
theorem lw_p52 : lw_okq (⟨"PegLaws", "mostAlike", "(III)I"⟩, 26) := ⟨⟨by decide +kernel, by decide +kernel⟩, lw_t1 (List.mem_of_getElem? (i := 44) rfl), lw_t6 (List.mem_of_getElem? (i := 167) rfl), lw_t6 (List.mem_of_getElem? (i := 168) rfl)⟩
theorem lw_p53 : lw_okq (⟨"PegLaws", "worthBehind", "(LPegLaws$State;I)I"⟩, 26) := ⟨⟨by decide +kernel, by decide +kernel⟩, lw_t1 (List.mem_of_getElem? (i := 44) rfl), lw_t6 (List.mem_of_getElem? (i := 175) rfl), lw_t6 (List.mem_of_getElem? (i := 176) rfl)⟩
theorem lw_p54 : lw_okq (⟨"PegLaws", "livesHour", "(LPegLaws$State;)I"⟩, 26) := ⟨⟨by decide +kernel, by decide +kernel⟩, lw_t1 (List.mem_of_getElem? (i := 44) rfl), lw_t6 (List.mem_of_getElem? (i := 183) rfl), lw_t6 (List.mem_of_getElem? (i := 184) rfl)⟩
theorem lw_p55 : lw_okq (⟨"PegLaws", "draws", "(I)I"⟩, 26) := ⟨⟨by decide +kernel, by decide +kernel⟩, lw_t1 (List.mem_of_getElem? (i := 44) rfl), lw_t6 (List.mem_of_getElem? (i := 187) rfl), lw_t6 (List.mem_of_getElem? (i := 188) rfl)⟩
theorem lw_p56 : lw_okq (⟨"PegLaws", "firstFree", "(LPegLaws$State;I)I"⟩, 26) := ⟨⟨by decide +kernel, by decide +kernel⟩, lw_t1 (List.mem_of_getElem? (i := 44) rfl), lw_t6 (List.mem_of_getElem? (i := 195) rfl), lw_t6 (List.mem_of_getElem? (i := 196) rfl)⟩
theorem lw_p57 : lw_okq (⟨"PegLaws", "turned", "()I"⟩, 26) := ⟨⟨by decide +kernel, by decide +kernel⟩, lw_t1 (List.mem_of_getElem? (i := 44) rfl), lw_t6 (List.mem_of_getElem? (i := 234) rfl), lw_t6 (List.mem_of_getElem? (i := 235) rfl)⟩
theorem lw_p58 : lw_okq (⟨"PegLawsModel", "lay", "(J)V"⟩, 38) := ⟨⟨by decide +kernel, by decide +kernel⟩, lw_t7 (List.mem_of_getElem? (i := 46) rfl), lw_t7 (List.mem_of_getElem? (i := 44) rfl), lw_t7 (List.mem_of_getElem? (i := 45) rfl)⟩
theorem lw_p59 : lw_okq (⟨"PegLawsModel", "standsAsAlways", "(I)V"⟩, 38) := ⟨⟨by decide +kernel, by decide +kernel⟩, lw_t7 (List.mem_of_getElem? (i := 46) rfl), lw_t7 (List.mem_of_getElem? (i := 80) rfl), lw_t7 (List.mem_of_getElem? (i := 81) rfl)⟩
theorem lw_p60 : lw_okq (⟨"PegLawsModel", "begins", "()V"⟩, 38) := ⟨⟨by decide +kernel, by decide +kernel⟩, lw_t7 (List.mem_of_getElem? (i := 46) rfl), lw_t7 (List.mem_of_getElem? (i := 84) rfl), lw_t7 (List.mem_of_getElem? (i := 85) rfl)⟩
theorem lw_p61 : lw_okq (⟨"PegLawsModel", "starts", "(I)V"⟩, 38) := ⟨⟨by decide +kernel, by decide +kernel⟩, lw_t7 (List.mem_of_getElem? (i := 46) rfl), lw_t7 (List.mem_of_getElem? (i := 88) rfl), lw_t7 (List.mem_of_getElem? (i := 89) rfl)⟩
theorem lw_p62 : lw_okq (⟨"PegLawsModel", "cutAll", "()V"⟩, 38) := ⟨⟨by decide +kernel, by decide +kernel⟩, lw_t7 (List.mem_of_getElem? (i := 46) rfl), lw_t7 (List.mem_of_getElem? (i := 213) rfl), lw_t7 (List.mem_of_getElem? (i := 214) rfl)⟩
theorem lw_p63 : lw_okq (⟨"PegLawsModel", "isWord", "(I)Z"⟩, 38) := ⟨⟨by decide +kernel, by decide +kernel⟩, lw_t7 (List.mem_of_getElem? (i := 46) rfl), lw_t7 (List.mem_of_getElem? (i := 232) rfl), lw_t7 (List.mem_of_getElem? (i := 233) rfl)⟩
def lw_privs_4 : List (MethodName × Nat) := [(⟨"PegLaws", "hangsBy", "(LPegLaws$State;II)J"⟩, 26), (⟨"PegLaws", "orders", "(IIII)V"⟩, 26), (⟨"PegLaws", "dryBy", "(II)I"⟩, 26), (⟨"PegLaws", "wetBy", "(III)I"⟩, 26), (⟨"PegLaws", "mostAlike", "(III)I"⟩, 26), (⟨"PegLaws", "worthBehind", "(LPegLaws$State;I)I"⟩, 26), (⟨"PegLaws", "livesHour", "(LPegLaws$State;)I"⟩, 26), (⟨"PegLaws", "draws", "(I)I"⟩, 26), (⟨"PegLaws", "firstFree", "(LPegLaws$State;I)I"⟩, 26), (⟨"PegLaws", "turned", "()I"⟩, 26), (⟨"PegLawsModel", "lay", "(J)V"⟩, 38), (⟨"PegLawsModel", "standsAsAlways", "(I)V"⟩, 38), (⟨"PegLawsModel", "begins", "()V"⟩, 38), (⟨"PegLawsModel", "starts", "(I)V"⟩, 38), (⟨"PegLawsModel", "cutAll", "()V"⟩, 38), (⟨"PegLawsModel", "isWord", "(I)Z"⟩, 38)]
theorem lw_r4 : ∀ q ∈ lw_privs_4, lw_okq q := List.forall_mem_cons.mpr ⟨lw_p48, List.forall_mem_cons.mpr ⟨lw_p49, List.forall_mem_cons.mpr ⟨lw_p50, List.forall_mem_cons.mpr ⟨lw_p51, List.forall_mem_cons.mpr ⟨lw_p52, List.forall_mem_cons.mpr ⟨lw_p53, List.forall_mem_cons.mpr ⟨lw_p54, List.forall_mem_cons.mpr ⟨lw_p55, List.forall_mem_cons.mpr ⟨lw_p56, List.forall_mem_cons.mpr ⟨lw_p57, List.forall_mem_cons.mpr ⟨lw_p58, List.forall_mem_cons.mpr ⟨lw_p59, List.forall_mem_cons.mpr ⟨lw_p60, List.forall_mem_cons.mpr ⟨lw_p61, List.forall_mem_cons.mpr ⟨lw_p62, List.forall_mem_cons.mpr ⟨lw_p63, fun _ h => absurd h List.not_mem_nil⟩⟩⟩⟩⟩⟩⟩⟩⟩⟩⟩⟩⟩⟩⟩⟩
theorem lw_p64 : lw_okq (⟨"PegLawsModel", "readCloth", "()V"⟩, 38) := ⟨⟨by decide +kernel, by decide +kernel⟩, lw_t7 (List.mem_of_getElem? (i := 46) rfl), lw_t7 (List.mem_of_getElem? (i := 236) rfl), lw_t7 (List.mem_of_getElem? (i := 237) rfl)⟩
theorem lw_p65 : lw_okq (⟨"PegLawsModel", "wrong", "(I)V"⟩, 38) := ⟨⟨by decide +kernel, by decide +kernel⟩, lw_t7 (List.mem_of_getElem? (i := 46) rfl), lw_t8 (List.mem_of_getElem? (i := 0) rfl), lw_t8 (List.mem_of_getElem? (i := 1) rfl)⟩
theorem lw_p66 : lw_okq (⟨"PegLawsModel", "isName", "()Z"⟩, 38) := ⟨⟨by decide +kernel, by decide +kernel⟩, lw_t7 (List.mem_of_getElem? (i := 46) rfl), lw_t8 (List.mem_of_getElem? (i := 4) rfl), lw_t8 (List.mem_of_getElem? (i := 5) rfl)⟩
theorem lw_p67 : lw_okq (⟨"PegLawsModel", "wordHere", "(II)I"⟩, 38) := ⟨⟨by decide +kernel, by decide +kernel⟩, lw_t7 (List.mem_of_getElem? (i := 46) rfl), lw_t8 (List.mem_of_getElem? (i := 8) rfl), lw_t8 (List.mem_of_getElem? (i := 9) rfl)⟩
theorem lw_p68 : lw_okq (⟨"PegLawsModel", "find", "(Z)I"⟩, 38) := ⟨⟨by decide +kernel, by decide +kernel⟩, lw_t7 (List.mem_of_getElem? (i := 46) rfl), lw_t8 (List.mem_of_getElem? (i := 12) rfl), lw_t8 (List.mem_of_getElem? (i := 13) rfl)⟩
theorem lw_p69 : lw_okq (⟨"PegLawsModel", "takeOne", "(II)I"⟩, 38) := ⟨⟨by decide +kernel, by decide +kernel⟩, lw_t7 (List.mem_of_getElem? (i := 46) rfl), lw_t8 (List.mem_of_getElem? (i := 16) rfl), lw_t8 (List.mem_of_getElem? (i := 17) rfl)⟩
theorem lw_p70 : lw_okq (⟨"PegLawsModel", "takeAfter", "(III)I"⟩, 38) := ⟨⟨by decide +kernel, by decide +kernel⟩, lw_t7 (List.mem_of_getElem? (i := 46) rfl), lw_t8 (List.mem_of_getElem? (i := 20) rfl), lw_t8 (List.mem_of_getElem? (i := 21) rfl)⟩
theorem lw_p71 : lw_okq (⟨"PegLawsModel", "takeWord", "(I)V"⟩, 38) := ⟨⟨by decide +kernel, by decide +kernel⟩, lw_t7 (List.mem_of_getElem? (i := 46) rfl), lw_t8 (List.mem_of_getElem? (i := 24) rfl), lw_t8 (List.mem_of_getElem? (i := 25) rfl)⟩
theorem lw_p72 : lw_okq (⟨"PegLawsModel", "hasWord", "(I)Z"⟩, 38) := ⟨⟨by decide +kernel, by decide +kernel⟩, lw_t7 (List.mem_of_getElem? (i := 46) rfl), lw_t8 (List.mem_of_getElem? (i := 28) rfl), lw_t8 (List.mem_of_getElem? (i := 29) rfl)⟩
theorem lw_p73 : lw_okq (⟨"PegLawsModel", "takeNumber", "(II)I"⟩, 38) := ⟨⟨by decide +kernel, by decide +kernel⟩, lw_t7 (List.mem_of_getElem? (i := 46) rfl), lw_t8 (List.mem_of_getElem? (i := 32) rfl), lw_t8 (List.mem_of_getElem? (i := 33) rfl)⟩
theorem lw_p74 : lw_okq (⟨"PegLawsModel", "readClash", "()V"⟩, 38) := ⟨⟨by decide +kernel, by decide +kernel⟩, lw_t7 (List.mem_of_getElem? (i := 46) rfl), lw_t8 (List.mem_of_getElem? (i := 36) rfl), lw_t8 (List.mem_of_getElem? (i := 37) rfl)⟩
theorem lw_p75 : lw_okq (⟨"PegLawsModel", "takeTold", "(Z)I"⟩, 38) := ⟨⟨by decide +kernel, by decide +kernel⟩, lw_t7 (List.mem_of_getElem? (i := 46) rfl), lw_t8 (List.mem_of_getElem? (i := 40) rfl), lw_t8 (List.mem_of_getElem? (i := 41) rfl)⟩
theorem lw_p76 : lw_okq (⟨"PegLawsModel", "toldHere", "(Z)I"⟩, 38) := ⟨⟨by decide +kernel, by decide +kernel⟩, lw_t7 (List.mem_of_getElem? (i := 46) rfl), lw_t8 (List.mem_of_getElem? (i := 44) rfl), lw_t8 (List.mem_of_getElem? (i := 45) rfl)⟩
theorem lw_p77 : lw_okq (⟨"PegLawsModel", "readOnce", "()V"⟩, 38) := ⟨⟨by decide +kernel, by decide +kernel⟩, lw_t7 (List.mem_of_getElem? (i := 46) rfl), lw_t8 (List.mem_of_getElem? (i := 48) rfl), lw_t8 (List.mem_of_getElem? (i := 49) rfl)⟩
theorem lw_p78 : lw_okq (⟨"PegLawsModel", "readRow", "(III)I"⟩, 38) := ⟨⟨by decide +kernel, by decide +kernel⟩, lw_t7 (List.mem_of_getElem? (i := 46) rfl), lw_t8 (List.mem_of_getElem? (i := 52) rfl), lw_t8 (List.mem_of_getElem? (i := 53) rfl)⟩
theorem lw_p79 : lw_okq (⟨"PegLawsModel", "all", "(I)V"⟩, 38) := ⟨⟨by decide +kernel, by decide +kernel⟩, lw_t7 (List.mem_of_getElem? (i := 46) rfl), lw_t8 (List.mem_of_getElem? (i := 56) rfl), lw_t8 (List.mem_of_getElem? (i := 57) rfl)⟩
def lw_privs_5 : List (MethodName × Nat) := [(⟨"PegLawsModel", "readCloth", "()V"⟩, 38), (⟨"PegLawsModel", "wrong", "(I)V"⟩, 38), (⟨"PegLawsModel", "isName", "()Z"⟩, 38), (⟨"PegLawsModel", "wordHere", "(II)I"⟩, 38), (⟨"PegLawsModel", "find", "(Z)I"⟩, 38), (⟨"PegLawsModel", "takeOne", "(II)I"⟩, 38), (⟨"PegLawsModel", "takeAfter", "(III)I"⟩, 38), (⟨"PegLawsModel", "takeWord", "(I)V"⟩, 38), (⟨"PegLawsModel", "hasWord", "(I)Z"⟩, 38), (⟨"PegLawsModel", "takeNumber", "(II)I"⟩, 38), (⟨"PegLawsModel", "readClash", "()V"⟩, 38), (⟨"PegLawsModel", "takeTold", "(Z)I"⟩, 38), (⟨"PegLawsModel", "toldHere", "(Z)I"⟩, 38), (⟨"PegLawsModel", "readOnce", "()V"⟩, 38), (⟨"PegLawsModel", "readRow", "(III)I"⟩, 38), (⟨"PegLawsModel", "all", "(I)V"⟩, 38)]
theorem lw_r5 : ∀ q ∈ lw_privs_5, lw_okq q := List.forall_mem_cons.mpr ⟨lw_p64, List.forall_mem_cons.mpr ⟨lw_p65, List.forall_mem_cons.mpr ⟨lw_p66, List.forall_mem_cons.mpr ⟨lw_p67, List.forall_mem_cons.mpr ⟨lw_p68, List.forall_mem_cons.mpr ⟨lw_p69, List.forall_mem_cons.mpr ⟨lw_p70, List.forall_mem_cons.mpr ⟨lw_p71, List.forall_mem_cons.mpr ⟨lw_p72, List.forall_mem_cons.mpr ⟨lw_p73, List.forall_mem_cons.mpr ⟨lw_p74, List.forall_mem_cons.mpr ⟨lw_p75, List.forall_mem_cons.mpr ⟨lw_p76, List.forall_mem_cons.mpr ⟨lw_p77, List.forall_mem_cons.mpr ⟨lw_p78, List.forall_mem_cons.mpr ⟨lw_p79, fun _ h => absurd h List.not_mem_nil⟩⟩⟩⟩⟩⟩⟩⟩⟩⟩⟩⟩⟩⟩⟩⟩
theorem lw_p80 : lw_okq (⟨"PegLawsModel", "test", "(I)V"⟩, 38) := ⟨⟨by decide +kernel, by decide +kernel⟩, lw_t7 (List.mem_of_getElem? (i := 46) rfl), lw_t8 (List.mem_of_getElem? (i := 60) rfl), lw_t8 (List.mem_of_getElem? (i := 61) rfl)⟩
theorem lw_p81 : lw_okq (⟨"PegLawsModel", "sums", "(I)V"⟩, 38) := ⟨⟨by decide +kernel, by decide +kernel⟩, lw_t7 (List.mem_of_getElem? (i := 46) rfl), lw_t8 (List.mem_of_getElem? (i := 64) rfl), lw_t8 (List.mem_of_getElem? (i := 65) rfl)⟩
theorem lw_p82 : lw_okq (⟨"PegLawsModel", "products", "(I)V"⟩, 38) := ⟨⟨by decide +kernel, by decide +kernel⟩, lw_t7 (List.mem_of_getElem? (i := 46) rfl), lw_t8 (List.mem_of_getElem? (i := 68) rfl), lw_t8 (List.mem_of_getElem? (i := 69) rfl)⟩
theorem lw_p83 : lw_okq (⟨"PegLawsModel", "takePart", "(I)V"⟩, 38) := ⟨⟨by decide +kernel, by decide +kernel⟩, lw_t7 (List.mem_of_getElem? (i := 46) rfl), lw_t8 (List.mem_of_getElem? (i := 72) rfl), lw_t8 (List.mem_of_getElem? (i := 73) rfl)⟩
theorem lw_p84 : lw_okq (⟨"PegLawsModel", "isSign", "(I)Z"⟩, 38) := ⟨⟨by decide +kernel, by decide +kernel⟩, lw_t7 (List.mem_of_getElem? (i := 46) rfl), lw_t8 (List.mem_of_getElem? (i := 76) rfl), lw_t8 (List.mem_of_getElem? (i := 77) rfl)⟩
theorem lw_p85 : lw_okq (⟨"PegLawsModel", "emit", "(II)V"⟩, 38) := ⟨⟨by decide +kernel, by decide +kernel⟩, lw_t7 (List.mem_of_getElem? (i := 46) rfl), lw_t8 (List.mem_of_getElem? (i := 80) rfl), lw_t8 (List.mem_of_getElem? (i := 81) rfl)⟩
theorem lw_p86 : lw_okq (⟨"PegLawsModel", "hasSign", "(I)Z"⟩, 38) := ⟨⟨by decide +kernel, by decide +kernel⟩, lw_t7 (List.mem_of_getElem? (i := 46) rfl), lw_t8 (List.mem_of_getElem? (i := 84) rfl), lw_t8 (List.mem_of_getElem? (i := 85) rfl)⟩
theorem lw_p87 : lw_okq (⟨"PegLawsModel", "takeSign", "(I)V"⟩, 38) := ⟨⟨by decide +kernel, by decide +kernel⟩, lw_t7 (List.mem_of_getElem? (i := 46) rfl), lw_t8 (List.mem_of_getElem? (i := 88) rfl), lw_t8 (List.mem_of_getElem? (i := 89) rfl)⟩
theorem lw_p88 : lw_okq (⟨"PegLawsModel", "readPegs", "()I"⟩, 38) := ⟨⟨by decide +kernel, by decide +kernel⟩, lw_t7 (List.mem_of_getElem? (i := 46) rfl), lw_t8 (List.mem_of_getElem? (i := 96) rfl), lw_t8 (List.mem_of_getElem? (i := 97) rfl)⟩
theorem lw_p89 : lw_okq (⟨"PegLawsModel", "isCloth", "(I)Z"⟩, 38) := ⟨⟨by decide +kernel, by decide +kernel⟩, lw_t7 (List.mem_of_getElem? (i := 46) rfl), lw_t8 (List.mem_of_getElem? (i := 104) rfl), lw_t8 (List.mem_of_getElem? (i := 105) rfl)⟩
theorem lw_p90 : lw_okq (⟨"PegLawsModel", "cloths", "()I"⟩, 38) := ⟨⟨by decide +kernel, by decide +kernel⟩, lw_t7 (List.mem_of_getElem? (i := 46) rfl), lw_t8 (List.mem_of_getElem? (i := 108) rfl), lw_t8 (List.mem_of_getElem? (i := 109) rfl)⟩
theorem lw_p91 : lw_okq (⟨"PegLawsModel", "clothOf", "(II)I"⟩, 38) := ⟨⟨by decide +kernel, by decide +kernel⟩, lw_t7 (List.mem_of_getElem? (i := 46) rfl), lw_t8 (List.mem_of_getElem? (i := 115) rfl), lw_t8 (List.mem_of_getElem? (i := 116) rfl)⟩
theorem lw_p92 : lw_okq (⟨"PegLawsModel", "isLaw", "(II)Z"⟩, 38) := ⟨⟨by decide +kernel, by decide +kernel⟩, lw_t7 (List.mem_of_getElem? (i := 46) rfl), lw_t8 (List.mem_of_getElem? (i := 119) rfl), lw_t8 (List.mem_of_getElem? (i := 120) rfl)⟩
theorem lw_p93 : lw_okq (⟨"PegLawsModel", "needs", "(I)I"⟩, 38) := ⟨⟨by decide +kernel, by decide +kernel⟩, lw_t7 (List.mem_of_getElem? (i := 46) rfl), lw_t8 (List.mem_of_getElem? (i := 126) rfl), lw_t8 (List.mem_of_getElem? (i := 127) rfl)⟩
theorem lw_p94 : lw_okq (⟨"PegLawsModel", "isTurned", "(II)Z"⟩, 38) := ⟨⟨by decide +kernel, by decide +kernel⟩, lw_t7 (List.mem_of_getElem? (i := 46) rfl), lw_t8 (List.mem_of_getElem? (i := 130) rfl), lw_t8 (List.mem_of_getElem? (i := 131) rfl)⟩
theorem lw_p95 : lw_okq (⟨"PegLawsModel", "isHung", "(II)Z"⟩, 38) := ⟨⟨by decide +kernel, by decide +kernel⟩, lw_t7 (List.mem_of_getElem? (i := 46) rfl), lw_t8 (List.mem_of_getElem? (i := 134) rfl), lw_t8 (List.mem_of_getElem? (i := 135) rfl)⟩
def lw_privs_6 : List (MethodName × Nat) := [(⟨"PegLawsModel", "test", "(I)V"⟩, 38), (⟨"PegLawsModel", "sums", "(I)V"⟩, 38), (⟨"PegLawsModel", "products", "(I)V"⟩, 38), (⟨"PegLawsModel", "takePart", "(I)V"⟩, 38), (⟨"PegLawsModel", "isSign", "(I)Z"⟩, 38), (⟨"PegLawsModel", "emit", "(II)V"⟩, 38), (⟨"PegLawsModel", "hasSign", "(I)Z"⟩, 38), (⟨"PegLawsModel", "takeSign", "(I)V"⟩, 38), (⟨"PegLawsModel", "readPegs", "()I"⟩, 38), (⟨"PegLawsModel", "isCloth", "(I)Z"⟩, 38), (⟨"PegLawsModel", "cloths", "()I"⟩, 38), (⟨"PegLawsModel", "clothOf", "(II)I"⟩, 38), (⟨"PegLawsModel", "isLaw", "(II)Z"⟩, 38), (⟨"PegLawsModel", "needs", "(I)I"⟩, 38), (⟨"PegLawsModel", "isTurned", "(II)Z"⟩, 38), (⟨"PegLawsModel", "isHung", "(II)Z"⟩, 38)]
theorem lw_r6 : ∀ q ∈ lw_privs_6, lw_okq q := List.forall_mem_cons.mpr ⟨lw_p80, List.forall_mem_cons.mpr ⟨lw_p81, List.forall_mem_cons.mpr ⟨lw_p82, List.forall_mem_cons.mpr ⟨lw_p83, List.forall_mem_cons.mpr ⟨lw_p84, List.forall_mem_cons.mpr ⟨lw_p85, List.forall_mem_cons.mpr ⟨lw_p86, List.forall_mem_cons.mpr ⟨lw_p87, List.forall_mem_cons.mpr ⟨lw_p88, List.forall_mem_cons.mpr ⟨lw_p89, List.forall_mem_cons.mpr ⟨lw_p90, List.forall_mem_cons.mpr ⟨lw_p91, List.forall_mem_cons.mpr ⟨lw_p92, List.forall_mem_cons.mpr ⟨lw_p93, List.forall_mem_cons.mpr ⟨lw_p94, List.forall_mem_cons.mpr ⟨lw_p95, fun _ h => absurd h List.not_mem_nil⟩⟩⟩⟩⟩⟩⟩⟩⟩⟩⟩⟩⟩⟩⟩⟩
theorem lw_p96 : lw_okq (⟨"PegLawsModel", "roomBy", "(II)I"⟩, 38) := ⟨⟨by decide +kernel, by decide +kernel⟩, lw_t7 (List.mem_of_getElem? (i := 46) rfl), lw_t8 (List.mem_of_getElem? (i := 138) rfl), lw_t8 (List.mem_of_getElem? (i := 139) rfl)⟩
theorem lw_p97 : lw_okq (⟨"PegLawsModel", "windOf", "(IZ)I"⟩, 38) := ⟨⟨by decide +kernel, by decide +kernel⟩, lw_t7 (List.mem_of_getElem? (i := 46) rfl), lw_t8 (List.mem_of_getElem? (i := 142) rfl), lw_t8 (List.mem_of_getElem? (i := 143) rfl)⟩
theorem lw_p98 : lw_okq (⟨"PegLawsModel", "pullOf", "(III)I"⟩, 38) := ⟨⟨by decide +kernel, by decide +kernel⟩, lw_t7 (List.mem_of_getElem? (i := 46) rfl), lw_t8 (List.mem_of_getElem? (i := 146) rfl), lw_t8 (List.mem_of_getElem? (i := 147) rfl)⟩
theorem lw_p99 : lw_okq (⟨"PegLawsModel", "laysFacts", "(III)V"⟩, 38) := ⟨⟨by decide +kernel, by decide +kernel⟩, lw_t7 (List.mem_of_getElem? (i := 46) rfl), lw_t8 (List.mem_of_getElem? (i := 150) rfl), lw_t8 (List.mem_of_getElem? (i := 151) rfl)⟩
theorem lw_p100 : lw_okq (⟨"PegLawsModel", "worthAt", "(I)I"⟩, 38) := ⟨⟨by decide +kernel, by decide +kernel⟩, lw_t7 (List.mem_of_getElem? (i := 46) rfl), lw_t8 (List.mem_of_getElem? (i := 154) rfl), lw_t8 (List.mem_of_getElem? (i := 155) rfl)⟩
theorem lw_p101 : lw_okq (⟨"PegLawsModel", "heldBy", "(II)I"⟩, 38) := ⟨⟨by decide +kernel, by decide +kernel⟩, lw_t7 (List.mem_of_getElem? (i := 46) rfl), lw_t8 (List.mem_of_getElem? (i := 165) rfl), lw_t8 (List.mem_of_getElem? (i := 166) rfl)⟩
theorem lw_p102 : lw_okq (⟨"PegLawsModel", "lawsOf", "(I)I"⟩, 38) := ⟨⟨by decide +kernel, by decide +kernel⟩, lw_t7 (List.mem_of_getElem? (i := 46) rfl), lw_t8 (List.mem_of_getElem? (i := 173) rfl), lw_t8 (List.mem_of_getElem? (i := 174) rfl)⟩
theorem lw_p103 : lw_okq (⟨"PegLawsModel", "freePegs", "(I)I"⟩, 38) := ⟨⟨by decide +kernel, by decide +kernel⟩, lw_t7 (List.mem_of_getElem? (i := 46) rfl), lw_t8 (List.mem_of_getElem? (i := 181) rfl), lw_t8 (List.mem_of_getElem? (i := 182) rfl)⟩
theorem lw_p104 : lw_okq (⟨"PegLawsModel", "mayHang", "(III)Z"⟩, 38) := ⟨⟨by decide +kernel, by decide +kernel⟩, lw_t7 (List.mem_of_getElem? (i := 46) rfl), lw_t8 (List.mem_of_getElem? (i := 189) rfl), lw_t8 (List.mem_of_getElem? (i := 190) rfl)⟩
theorem lw_p105 : lw_okq (⟨"PegLawsModel", "roomLeft", "(I)I"⟩, 38) := ⟨⟨by decide +kernel, by decide +kernel⟩, lw_t7 (List.mem_of_getElem? (i := 46) rfl), lw_t8 (List.mem_of_getElem? (i := 193) rfl), lw_t8 (List.mem_of_getElem? (i := 194) rfl)⟩
theorem lw_p106 : lw_okq (⟨"PegLawsModel", "keeps", "()V"⟩, 38) := ⟨⟨by decide +kernel, by decide +kernel⟩, lw_t7 (List.mem_of_getElem? (i := 46) rfl), lw_t8 (List.mem_of_getElem? (i := 197) rfl), lw_t8 (List.mem_of_getElem? (i := 198) rfl)⟩
theorem lw_p107 : lw_okq (⟨"PegLawsModel", "copies", "(III)V"⟩, 38) := ⟨⟨by decide +kernel, by decide +kernel⟩, lw_t7 (List.mem_of_getElem? (i := 46) rfl), lw_t8 (List.mem_of_getElem? (i := 201) rfl), lw_t8 (List.mem_of_getElem? (i := 202) rfl)⟩
theorem lw_p108 : lw_okq (⟨"PegLawsModel", "washes", "(II)I"⟩, 38) := ⟨⟨by decide +kernel, by decide +kernel⟩, lw_t7 (List.mem_of_getElem? (i := 46) rfl), lw_t8 (List.mem_of_getElem? (i := 213) rfl), lw_t8 (List.mem_of_getElem? (i := 214) rfl)⟩
theorem lw_p109 : lw_okq (⟨"PegLawsModel", "buys", "(II)I"⟩, 38) := ⟨⟨by decide +kernel, by decide +kernel⟩, lw_t7 (List.mem_of_getElem? (i := 46) rfl), lw_t8 (List.mem_of_getElem? (i := 221) rfl), lw_t8 (List.mem_of_getElem? (i := 222) rfl)⟩
theorem lw_p110 : lw_okq (⟨"PegLawsModel", "passes", "(IZ)I"⟩, 38) := ⟨⟨by decide +kernel, by decide +kernel⟩, lw_t7 (List.mem_of_getElem? (i := 46) rfl), lw_t8 (List.mem_of_getElem? (i := 229) rfl), lw_t8 (List.mem_of_getElem? (i := 230) rfl)⟩
theorem lw_p111 : lw_okq (⟨"PegLawsModel", "pulls", "(III)Z"⟩, 38) := ⟨⟨by decide +kernel, by decide +kernel⟩, lw_t7 (List.mem_of_getElem? (i := 46) rfl), lw_t8 (List.mem_of_getElem? (i := 233) rfl), lw_t8 (List.mem_of_getElem? (i := 234) rfl)⟩
def lw_privs_7 : List (MethodName × Nat) := [(⟨"PegLawsModel", "roomBy", "(II)I"⟩, 38), (⟨"PegLawsModel", "windOf", "(IZ)I"⟩, 38), (⟨"PegLawsModel", "pullOf", "(III)I"⟩, 38), (⟨"PegLawsModel", "laysFacts", "(III)V"⟩, 38), (⟨"PegLawsModel", "worthAt", "(I)I"⟩, 38), (⟨"PegLawsModel", "heldBy", "(II)I"⟩, 38), (⟨"PegLawsModel", "lawsOf", "(I)I"⟩, 38), (⟨"PegLawsModel", "freePegs", "(I)I"⟩, 38), (⟨"PegLawsModel", "mayHang", "(III)Z"⟩, 38), (⟨"PegLawsModel", "roomLeft", "(I)I"⟩, 38), (⟨"PegLawsModel", "keeps", "()V"⟩, 38), (⟨"PegLawsModel", "copies", "(III)V"⟩, 38), (⟨"PegLawsModel", "washes", "(II)I"⟩, 38), (⟨"PegLawsModel", "buys", "(II)I"⟩, 38), (⟨"PegLawsModel", "passes", "(IZ)I"⟩, 38), (⟨"PegLawsModel", "pulls", "(III)Z"⟩, 38)]
theorem lw_r7 : ∀ q ∈ lw_privs_7, lw_okq q := List.forall_mem_cons.mpr ⟨lw_p96, List.forall_mem_cons.mpr ⟨lw_p97, List.forall_mem_cons.mpr ⟨lw_p98, List.forall_mem_cons.mpr ⟨lw_p99, List.forall_mem_cons.mpr ⟨lw_p100, List.forall_mem_cons.mpr ⟨lw_p101, List.forall_mem_cons.mpr ⟨lw_p102, List.forall_mem_cons.mpr ⟨lw_p103, List.forall_mem_cons.mpr ⟨lw_p104, List.forall_mem_cons.mpr ⟨lw_p105, List.forall_mem_cons.mpr ⟨lw_p106, List.forall_mem_cons.mpr ⟨lw_p107, List.forall_mem_cons.mpr ⟨lw_p108, List.forall_mem_cons.mpr ⟨lw_p109, List.forall_mem_cons.mpr ⟨lw_p110, List.forall_mem_cons.mpr ⟨lw_p111, fun _ h => absurd h List.not_mem_nil⟩⟩⟩⟩⟩⟩⟩⟩⟩⟩⟩⟩⟩⟩⟩⟩
theorem lw_p112 : lw_okq (⟨"PegLawsModel", "gripsOf", "(II)I"⟩, 38) := ⟨⟨by decide +kernel, by decide +kernel⟩, lw_t7 (List.mem_of_getElem? (i := 46) rfl), lw_t8 (List.mem_of_getElem? (i := 237) rfl), lw_t8 (List.mem_of_getElem? (i := 238) rfl)⟩
theorem lw_p113 : lw_okq (⟨"PegLawsModel", "loosens", "(II)V"⟩, 38) := ⟨⟨by decide +kernel, by decide +kernel⟩, lw_t7 (List.mem_of_getElem? (i := 46) rfl), lw_t9 (List.mem_of_getElem? (i := 1) rfl), lw_t9 (List.mem_of_getElem? (i := 2) rfl)⟩
theorem lw_p114 : lw_okq (⟨"PegLawsModel", "held", "(II)I"⟩, 38) := ⟨⟨by decide +kernel, by decide +kernel⟩, lw_t7 (List.mem_of_getElem? (i := 46) rfl), lw_t9 (List.mem_of_getElem? (i := 5) rfl), lw_t9 (List.mem_of_getElem? (i := 6) rfl)⟩
theorem lw_p115 : lw_okq (⟨"PegLawsModel", "falls", "(II)V"⟩, 38) := ⟨⟨by decide +kernel, by decide +kernel⟩, lw_t7 (List.mem_of_getElem? (i := 46) rfl), lw_t9 (List.mem_of_getElem? (i := 9) rfl), lw_t9 (List.mem_of_getElem? (i := 10) rfl)⟩
theorem lw_p116 : lw_okq (⟨"PegLawsModel", "driedOf", "(III)I"⟩, 38) := ⟨⟨by decide +kernel, by decide +kernel⟩, lw_t7 (List.mem_of_getElem? (i := 46) rfl), lw_t9 (List.mem_of_getElem? (i := 13) rfl), lw_t9 (List.mem_of_getElem? (i := 14) rfl)⟩
theorem lw_p117 : lw_okq (⟨"PegLawsModel", "does", "(III)Z"⟩, 38) := ⟨⟨by decide +kernel, by decide +kernel⟩, lw_t7 (List.mem_of_getElem? (i := 46) rfl), lw_t9 (List.mem_of_getElem? (i := 25) rfl), lw_t9 (List.mem_of_getElem? (i := 26) rfl)⟩
theorem lw_p118 : lw_okq (⟨"PegLawsModel", "worthOf", "(I)I"⟩, 38) := ⟨⟨by decide +kernel, by decide +kernel⟩, lw_t7 (List.mem_of_getElem? (i := 46) rfl), lw_t9 (List.mem_of_getElem? (i := 29) rfl), lw_t9 (List.mem_of_getElem? (i := 30) rfl)⟩
theorem lw_p119 : lw_okq (⟨"PegLawsModel", "clashesIn", "(I)I"⟩, 38) := ⟨⟨by decide +kernel, by decide +kernel⟩, lw_t7 (List.mem_of_getElem? (i := 46) rfl), lw_t9 (List.mem_of_getElem? (i := 41) rfl), lw_t9 (List.mem_of_getElem? (i := 42) rfl)⟩
theorem lw_p120 : lw_okq (⟨"PegLawsModel", "findHardest", "(I)V"⟩, 38) := ⟨⟨by decide +kernel, by decide +kernel⟩, lw_t7 (List.mem_of_getElem? (i := 46) rfl), lw_t9 (List.mem_of_getElem? (i := 53) rfl), lw_t9 (List.mem_of_getElem? (i := 54) rfl)⟩
theorem lw_p121 : lw_okq (⟨"PegLawsModel", "fills", "(IIII)V"⟩, 38) := ⟨⟨by decide +kernel, by decide +kernel⟩, lw_t7 (List.mem_of_getElem? (i := 46) rfl), lw_t9 (List.mem_of_getElem? (i := 57) rfl), lw_t9 (List.mem_of_getElem? (i := 58) rfl)⟩
theorem lw_p122 : lw_okq (⟨"PegLawsModel", "hanging", "(IIIII)J"⟩, 38) := ⟨⟨by decide +kernel, by decide +kernel⟩, lw_t7 (List.mem_of_getElem? (i := 46) rfl), lw_t9 (List.mem_of_getElem? (i := 65) rfl), lw_t9 (List.mem_of_getElem? (i := 66) rfl)⟩
theorem lw_p123 : lw_okq (⟨"PegLawsModel", "driedBehind", "(II)I"⟩, 38) := ⟨⟨by decide +kernel, by decide +kernel⟩, lw_t7 (List.mem_of_getElem? (i := 46) rfl), lw_t9 (List.mem_of_getElem? (i := 74) rfl), lw_t9 (List.mem_of_getElem? (i := 75) rfl)⟩
theorem lw_p124 : lw_okq (⟨"PegLawsModel", "washesFrom", "(III)V"⟩, 38) := ⟨⟨by decide +kernel, by decide +kernel⟩, lw_t7 (List.mem_of_getElem? (i := 46) rfl), lw_t9 (List.mem_of_getElem? (i := 78) rfl), lw_t9 (List.mem_of_getElem? (i := 79) rfl)⟩
theorem lw_p125 : lw_okq (⟨"PegLawsModel", "startsNow", "()I"⟩, 38) := ⟨⟨by decide +kernel, by decide +kernel⟩, lw_t7 (List.mem_of_getElem? (i := 46) rfl), lw_t9 (List.mem_of_getElem? (i := 90) rfl), lw_t9 (List.mem_of_getElem? (i := 91) rfl)⟩
theorem lw_p126 : lw_okq (⟨"PegLawsModel", "wetBehind", "(III)I"⟩, 38) := ⟨⟨by decide +kernel, by decide +kernel⟩, lw_t7 (List.mem_of_getElem? (i := 46) rfl), lw_t9 (List.mem_of_getElem? (i := 94) rfl), lw_t9 (List.mem_of_getElem? (i := 95) rfl)⟩
theorem lw_p127 : lw_okq (⟨"PegLawsModel", "worthBehind", "(II)I"⟩, 38) := ⟨⟨by decide +kernel, by decide +kernel⟩, lw_t7 (List.mem_of_getElem? (i := 46) rfl), lw_t9 (List.mem_of_getElem? (i := 106) rfl), lw_t9 (List.mem_of_getElem? (i := 107) rfl)⟩
def lw_privs_8 : List (MethodName × Nat) := [(⟨"PegLawsModel", "gripsOf", "(II)I"⟩, 38), (⟨"PegLawsModel", "loosens", "(II)V"⟩, 38), (⟨"PegLawsModel", "held", "(II)I"⟩, 38), (⟨"PegLawsModel", "falls", "(II)V"⟩, 38), (⟨"PegLawsModel", "driedOf", "(III)I"⟩, 38), (⟨"PegLawsModel", "does", "(III)Z"⟩, 38), (⟨"PegLawsModel", "worthOf", "(I)I"⟩, 38), (⟨"PegLawsModel", "clashesIn", "(I)I"⟩, 38), (⟨"PegLawsModel", "findHardest", "(I)V"⟩, 38), (⟨"PegLawsModel", "fills", "(IIII)V"⟩, 38), (⟨"PegLawsModel", "hanging", "(IIIII)J"⟩, 38), (⟨"PegLawsModel", "driedBehind", "(II)I"⟩, 38), (⟨"PegLawsModel", "washesFrom", "(III)V"⟩, 38), (⟨"PegLawsModel", "startsNow", "()I"⟩, 38), (⟨"PegLawsModel", "wetBehind", "(III)I"⟩, 38), (⟨"PegLawsModel", "worthBehind", "(II)I"⟩, 38)]
theorem lw_r8 : ∀ q ∈ lw_privs_8, lw_okq q := List.forall_mem_cons.mpr ⟨lw_p112, List.forall_mem_cons.mpr ⟨lw_p113, List.forall_mem_cons.mpr ⟨lw_p114, List.forall_mem_cons.mpr ⟨lw_p115, List.forall_mem_cons.mpr ⟨lw_p116, List.forall_mem_cons.mpr ⟨lw_p117, List.forall_mem_cons.mpr ⟨lw_p118, List.forall_mem_cons.mpr ⟨lw_p119, List.forall_mem_cons.mpr ⟨lw_p120, List.forall_mem_cons.mpr ⟨lw_p121, List.forall_mem_cons.mpr ⟨lw_p122, List.forall_mem_cons.mpr ⟨lw_p123, List.forall_mem_cons.mpr ⟨lw_p124, List.forall_mem_cons.mpr ⟨lw_p125, List.forall_mem_cons.mpr ⟨lw_p126, List.forall_mem_cons.mpr ⟨lw_p127, fun _ h => absurd h List.not_mem_nil⟩⟩⟩⟩⟩⟩⟩⟩⟩⟩⟩⟩⟩⟩⟩⟩
theorem lw_p128 : lw_okq (⟨"PegLawsModel", "drawsCloth", "()V"⟩, 38) := ⟨⟨by decide +kernel, by decide +kernel⟩, lw_t7 (List.mem_of_getElem? (i := 46) rfl), lw_t9 (List.mem_of_getElem? (i := 118) rfl), lw_t9 (List.mem_of_getElem? (i := 119) rfl)⟩
theorem lw_p129 : lw_okq (⟨"PegLawsModel", "draw", "(I)I"⟩, 38) := ⟨⟨by decide +kernel, by decide +kernel⟩, lw_t7 (List.mem_of_getElem? (i := 46) rfl), lw_t9 (List.mem_of_getElem? (i := 122) rfl), lw_t9 (List.mem_of_getElem? (i := 123) rfl)⟩
theorem lw_p130 : lw_okq (⟨"PegLawsModel", "firstFree", "(II)I"⟩, 38) := ⟨⟨by decide +kernel, by decide +kernel⟩, lw_t7 (List.mem_of_getElem? (i := 46) rfl), lw_t9 (List.mem_of_getElem? (i := 130) rfl), lw_t9 (List.mem_of_getElem? (i := 131) rfl)⟩
theorem lw_p131 : lw_okq (⟨"PegLawsModel", "turnedSet", "()I"⟩, 38) := ⟨⟨by decide +kernel, by decide +kernel⟩, lw_t7 (List.mem_of_getElem? (i := 46) rfl), lw_t9 (List.mem_of_getElem? (i := 142) rfl), lw_t9 (List.mem_of_getElem? (i := 143) rfl)⟩
def lw_privs_9 : List (MethodName × Nat) := [(⟨"PegLawsModel", "drawsCloth", "()V"⟩, 38), (⟨"PegLawsModel", "draw", "(I)I"⟩, 38), (⟨"PegLawsModel", "firstFree", "(II)I"⟩, 38), (⟨"PegLawsModel", "turnedSet", "()I"⟩, 38)]
theorem lw_r9 : ∀ q ∈ lw_privs_9, lw_okq q := List.forall_mem_cons.mpr ⟨lw_p128, List.forall_mem_cons.mpr ⟨lw_p129, List.forall_mem_cons.mpr ⟨lw_p130, List.forall_mem_cons.mpr ⟨lw_p131, fun _ h => absurd h List.not_mem_nil⟩⟩⟩⟩
def lw_privs : List (MethodName × Nat) := lw_privs_1 ++ (lw_privs_2 ++ (lw_privs_3 ++ (lw_privs_4 ++ (lw_privs_5 ++ (lw_privs_6 ++ (lw_privs_7 ++ (lw_privs_8 ++ (lw_privs_9))))))))
def lw_tbl : List Cond := k2_sels lw_privs ++ tables_1
theorem lw_privs_ok : ∀ q ∈ lw_privs, lw_okq q := by
  show ∀ q ∈ lw_privs_1 ++ (lw_privs_2 ++ (lw_privs_3 ++ (lw_privs_4 ++ (lw_privs_5 ++ (lw_privs_6 ++ (lw_privs_7 ++ (lw_privs_8 ++ (lw_privs_9)))))))), lw_okq q
  exact List.forall_mem_append.mpr ⟨lw_r1, List.forall_mem_append.mpr ⟨lw_r2, List.forall_mem_append.mpr ⟨lw_r3, List.forall_mem_append.mpr ⟨lw_r4, List.forall_mem_append.mpr ⟨lw_r5, List.forall_mem_append.mpr ⟨lw_r6, List.forall_mem_append.mpr ⟨lw_r7, List.forall_mem_append.mpr ⟨lw_r8, lw_r9⟩⟩⟩⟩⟩⟩⟩⟩
-- ===== ONE list of words for every method: the tables' words that hold all through a run =====
def lw_all : List Cond := lw_tbl.filter goodWord
/-- a word of the tables by its place: claim/WORDS.tsv -/
theorem lw_w {w : Cond} (i : Nat) (h : lw_tbl[i]? = some w) (g : goodWord w = true) : w ∈ lw_all := List.mem_filter.mpr ⟨List.mem_of_getElem? h, g⟩
theorem lw_all_tbl {w : Cond} (h : w ∈ lw_all) : w ∈ lw_tbl := (List.mem_filter.mp h).1
theorem lw_self : GoodIn lw_all lw_all := fun w h => ⟨h, good_of_word (List.mem_filter.mp h).2⟩
/-- a class's field words, by their places -/
theorem lw_in (ws : List Cond) (ps : List Nat) (hp : ws = ps.filterMap (fun i => lw_tbl[i]?)) (hg : ws.all goodWord = true) : ∀ w ∈ ws, w ∈ lw_all := by
  intro w h
  have h1 := List.all_eq_true.mp hg w h
  rw [hp] at h
  obtain ⟨i, -, hi⟩ := List.mem_filterMap.mp h
  exact lw_w i hi h1
/-- the words of a contract for the method y with code b, L locals, answer r -/
abbrev ws_ (y : MethodName) (b : ByteArray) (L : Nat) (r : Option FieldType) : List Cond := Cond.code y b L r :: lw_all
theorem lw_meth {y : MethodName} {b : ByteArray} {L : Nat} {r : Option FieldType} (h : Cond.code y b L r ∈ lw_all) : GoodIn lw_all (ws_ y b L r) := by
  intro w hw
  rcases List.mem_cons.mp hw with e | e
  · rw [e]
    exact lw_self _ h
  · exact lw_self _ e
theorem lw_app {a c : List Cond} (ha : ∀ w ∈ a, w ∈ lw_all) (hc : GoodIn lw_all c) : GoodIn lw_all (a ++ c) := by
  intro w hw
  rcases List.mem_append.mp hw with e | e
  · exact lw_self w (ha w e)
  · exact hc w e
/-- what a call through an object asks: cwV n hts (lw_V ..) -/
theorem lw_V {own : String} {idx : Nat} {C : String} {y : MethodName} {b : ByteArray} {L : Nat} {r : Option FieldType} (h1 : Cond.methodLink own idx y ∈ lw_all) (h2 : Cond.instanceMethod y ∈ lw_all) (h3 : Cond.selects C y y ∈ lw_all) (h4 : Cond.initialized C ∈ lw_all) (h5 : Cond.code y b L r ∈ lw_all) : GoodIn lw_all (wsV own idx C y (ws_ y b L r)) := by
  refine lw_app ?_ (lw_meth h5)
  intro w hw
  simp only [List.mem_cons, List.not_mem_nil, or_false] at hw
  rcases hw with e | e | e | e
  · rw [e]; exact h1
  · rw [e]; exact h2
  · rw [e]; exact h3
  · rw [e]; exact h4
/-- what a static call asks: va_cwS n hts (lw_S ..) -/
theorem lw_S {own : String} {idx : Nat} {y : MethodName} {b : ByteArray} {L : Nat} {r : Option FieldType} (h1 : Cond.methodLink own idx y ∈ lw_all) (h2 : Cond.static y ∈ lw_all) (h3 : Cond.initialized y.cls ∈ lw_all) (h4 : Cond.code y b L r ∈ lw_all) : GoodIn lw_all (va_wsS own idx y (ws_ y b L r)) := by
  refine lw_app ?_ (lw_meth h4)
  intro w hw
  simp only [List.mem_cons, List.not_mem_nil, or_false] at hw
  rcases hw with e | e | e
  · rw [e]; exact h1
  · rw [e]; exact h2
  · rw [e]; exact h3
/-- the words of a contract for a method WITH HANDLERS (hh: its table) -/
abbrev wsW_ (y : MethodName) (b : ByteArray) (L : Nat) (r : Option FieldType) (hh : List (Nat × Nat × Nat × Nat)) : List Cond := Cond.codeWith y b L r hh :: lw_all
theorem lw_methW {y : MethodName} {b : ByteArray} {L : Nat} {r : Option FieldType} {hh : List (Nat × Nat × Nat × Nat)} (h : Cond.codeWith y b L r hh ∈ lw_all) : GoodIn lw_all (wsW_ y b L r hh) := by
  intro w hw
  rcases List.mem_cons.mp hw with e | e
  · rw [e]
    exact lw_self _ h
  · exact lw_self _ e
/-- any list of words by their places (lw_in), good -/
theorem lw_good {ws : List Cond} (h : ∀ w ∈ ws, w ∈ lw_all) : GoodIn lw_all ws := fun w hw => lw_self w (h w hw)
/-- what a call of a method with handlers asks: vx_cwVW n hts (lw_VW ..), vx_cwSW n hts (lw_SW ..) -/
theorem lw_VW {own : String} {idx : Nat} {C : String} {y : MethodName} {b : ByteArray} {L : Nat} {r : Option FieldType} {hh : List (Nat × Nat × Nat × Nat)} (h1 : Cond.methodLink own idx y ∈ lw_all) (h2 : Cond.instanceMethod y ∈ lw_all) (h3 : Cond.selects C y y ∈ lw_all) (h4 : Cond.initialized C ∈ lw_all) (h5 : Cond.codeWith y b L r hh ∈ lw_all) : GoodIn lw_all (wsV own idx C y (wsW_ y b L r hh)) := by
  refine lw_app ?_ (lw_methW h5)
  intro w hw
  simp only [List.mem_cons, List.not_mem_nil, or_false] at hw
  rcases hw with e | e | e | e
  · rw [e]; exact h1
  · rw [e]; exact h2
  · rw [e]; exact h3
  · rw [e]; exact h4
theorem lw_SW {own : String} {idx : Nat} {y : MethodName} {b : ByteArray} {L : Nat} {r : Option FieldType} {hh : List (Nat × Nat × Nat × Nat)} (h1 : Cond.methodLink own idx y ∈ lw_all) (h2 : Cond.static y ∈ lw_all) (h3 : Cond.initialized y.cls ∈ lw_all) (h4 : Cond.codeWith y b L r hh ∈ lw_all) : GoodIn lw_all (va_wsS own idx y (wsW_ y b L r hh)) := by
  refine lw_app ?_ (lw_methW h4)
  intro w hw
  simp only [List.mem_cons, List.not_mem_nil, or_false] at hw
  rcases hw with e | e | e
  · rw [e]; exact h1
  · rw [e]; exact h2
  · rw [e]; exact h3
/-- a word by its place in its run of the tables -/
theorem lw_at {r : List Cond} (hr : ∀ w ∈ r, w ∈ lw_tbl) {w : Cond} (i : Nat) (h : r[i]? = some w) : w ∈ lw_tbl := hr w (List.mem_of_getElem? h)
theorem lw_g {w : Cond} (h : w ∈ lw_tbl) (g : goodWord w = true) : w ∈ lw_all := List.mem_filter.mpr ⟨h, g⟩
theorem lw_ms : ∀ w ∈ k2_sels lw_privs, w ∈ lw_tbl := fun w h => show w ∈ k2_sels lw_privs ++ tables_1 from List.mem_append_left _ h
theorem lw_m1 : ∀ w ∈ tables_1_1, w ∈ lw_tbl := fun w h => show w ∈ k2_sels lw_privs ++ tables_1 from List.mem_append_right (k2_sels lw_privs) (show w ∈ tables_1 from List.mem_append_left _ h)
theorem lw_m2 : ∀ w ∈ tables_1_2, w ∈ lw_tbl := fun w h => show w ∈ k2_sels lw_privs ++ tables_1 from List.mem_append_right (k2_sels lw_privs) (show w ∈ tables_1 from List.mem_append_right _ (List.mem_append_left _ h))
theorem lw_m3 : ∀ w ∈ tables_1_3, w ∈ lw_tbl := fun w h => show w ∈ k2_sels lw_privs ++ tables_1 from List.mem_append_right (k2_sels lw_privs) (show w ∈ tables_1 from List.mem_append_right _ (List.mem_append_right _ (List.mem_append_left _ h)))
theorem lw_m4 : ∀ w ∈ tables_1_4, w ∈ lw_tbl := fun w h => show w ∈ k2_sels lw_privs ++ tables_1 from List.mem_append_right (k2_sels lw_privs) (show w ∈ tables_1 from List.mem_append_right _ (List.mem_append_right _ (List.mem_append_right _ (List.mem_append_left _ h))))
theorem lw_m5 : ∀ w ∈ tables_1_5, w ∈ lw_tbl := fun w h => show w ∈ k2_sels lw_privs ++ tables_1 from List.mem_append_right (k2_sels lw_privs) (show w ∈ tables_1 from List.mem_append_right _ (List.mem_append_right _ (List.mem_append_right _ (List.mem_append_right _ (List.mem_append_left _ h)))))
theorem lw_m6 : ∀ w ∈ tables_1_6, w ∈ lw_tbl := fun w h => show w ∈ k2_sels lw_privs ++ tables_1 from List.mem_append_right (k2_sels lw_privs) (show w ∈ tables_1 from List.mem_append_right _ (List.mem_append_right _ (List.mem_append_right _ (List.mem_append_right _ (List.mem_append_right _ (List.mem_append_left _ h))))))
theorem lw_m7 : ∀ w ∈ tables_1_7, w ∈ lw_tbl := fun w h => show w ∈ k2_sels lw_privs ++ tables_1 from List.mem_append_right (k2_sels lw_privs) (show w ∈ tables_1 from List.mem_append_right _ (List.mem_append_right _ (List.mem_append_right _ (List.mem_append_right _ (List.mem_append_right _ (List.mem_append_right _ (List.mem_append_left _ h)))))))
theorem lw_m8 : ∀ w ∈ tables_1_8, w ∈ lw_tbl := fun w h => show w ∈ k2_sels lw_privs ++ tables_1 from List.mem_append_right (k2_sels lw_privs) (show w ∈ tables_1 from List.mem_append_right _ (List.mem_append_right _ (List.mem_append_right _ (List.mem_append_right _ (List.mem_append_right _ (List.mem_append_right _ (List.mem_append_right _ (List.mem_append_left _ h))))))))
theorem lw_m9 : ∀ w ∈ tables_1_9, w ∈ lw_tbl := fun w h => show w ∈ k2_sels lw_privs ++ tables_1 from List.mem_append_right (k2_sels lw_privs) (show w ∈ tables_1 from List.mem_append_right _ (List.mem_append_right _ (List.mem_append_right _ (List.mem_append_right _ (List.mem_append_right _ (List.mem_append_right _ (List.mem_append_right _ (List.mem_append_right _ h))))))))
theorem qs0 : (Cond.selects "PegLaws" ⟨"PegLaws", "reads", "()V"⟩ ⟨"PegLaws", "reads", "()V"⟩) ∈ lw_all := lw_g (lw_at lw_ms 0 rfl) rfl
theorem qs1 : (Cond.selects "PegLaws$Reader" ⟨"PegLaws$Reader", "next", "()V"⟩ ⟨"PegLaws$Reader", "next", "()V"⟩) ∈ lw_all := lw_g (lw_at lw_ms 1 rfl) rfl
theorem qs2 : (Cond.selects "PegLaws$Reader" ⟨"PegLaws$Reader", "at", "(I)I"⟩ ⟨"PegLaws$Reader", "at", "(I)I"⟩) ∈ lw_all := lw_g (lw_at lw_ms 2 rfl) rfl
theorem qs3 : (Cond.selects "PegLaws$Reader" ⟨"PegLaws$Reader", "which", "(Ljava/lang/String;)I"⟩ ⟨"PegLaws$Reader", "which", "(Ljava/lang/String;)I"⟩) ∈ lw_all := lw_g (lw_at lw_ms 3 rfl) rfl
theorem qs4 : (Cond.selects "PegLaws$Reader" ⟨"PegLaws$Reader", "wrong", "(I)LPegLaws$Wrong;"⟩ ⟨"PegLaws$Reader", "wrong", "(I)LPegLaws$Wrong;"⟩) ∈ lw_all := lw_g (lw_at lw_ms 4 rfl) rfl
theorem qs5 : (Cond.selects "java/lang/Throwable" ⟨"java/lang/Throwable", "fillInStackTrace", "(I)Ljava/lang/Throwable;"⟩ ⟨"java/lang/Throwable", "fillInStackTrace", "(I)Ljava/lang/Throwable;"⟩) ∈ lw_all := lw_g (lw_at lw_ms 5 rfl) rfl
theorem qs6 : (Cond.selects "PegLaws$Reader" ⟨"PegLaws$Reader", "isTold", "(I)Z"⟩ ⟨"PegLaws$Reader", "isTold", "(I)Z"⟩) ∈ lw_all := lw_g (lw_at lw_ms 6 rfl) rfl
theorem qs7 : (Cond.selects "PegLaws$Reader" ⟨"PegLaws$Reader", "told", "(I)V"⟩ ⟨"PegLaws$Reader", "told", "(I)V"⟩) ∈ lw_all := lw_g (lw_at lw_ms 7 rfl) rfl
theorem qs8 : (Cond.selects "PegLaws$Reader" ⟨"PegLaws$Reader", "comes", "()V"⟩ ⟨"PegLaws$Reader", "comes", "()V"⟩) ∈ lw_all := lw_g (lw_at lw_ms 8 rfl) rfl
theorem qs9 : (Cond.selects "PegLaws$Reader" ⟨"PegLaws$Reader", "name", "()Ljava/lang/String;"⟩ ⟨"PegLaws$Reader", "name", "()Ljava/lang/String;"⟩) ∈ lw_all := lw_g (lw_at lw_ms 9 rfl) rfl
theorem qs10 : (Cond.selects "PegLaws$Reader" ⟨"PegLaws$Reader", "one", "(Ljava/lang/String;)I"⟩ ⟨"PegLaws$Reader", "one", "(Ljava/lang/String;)I"⟩) ∈ lw_all := lw_g (lw_at lw_ms 10 rfl) rfl
theorem qs11 : (Cond.selects "PegLaws$Reader" ⟨"PegLaws$Reader", "number", "(Ljava/lang/String;II)I"⟩ ⟨"PegLaws$Reader", "number", "(Ljava/lang/String;II)I"⟩) ∈ lw_all := lw_g (lw_at lw_ms 11 rfl) rfl
theorem qs12 : (Cond.selects "PegLaws$Reader" ⟨"PegLaws$Reader", "need", "(Ljava/lang/String;)V"⟩ ⟨"PegLaws$Reader", "need", "(Ljava/lang/String;)V"⟩) ∈ lw_all := lw_g (lw_at lw_ms 12 rfl) rfl
theorem qs13 : (Cond.selects "PegLaws$Reader" ⟨"PegLaws$Reader", "number", "(II)I"⟩ ⟨"PegLaws$Reader", "number", "(II)I"⟩) ∈ lw_all := lw_g (lw_at lw_ms 13 rfl) rfl
theorem qs14 : (Cond.selects "java/util/ArrayList" ⟨"java/util/ArrayList", "add", "(Ljava/lang/Object;[Ljava/lang/Object;I)V"⟩ ⟨"java/util/ArrayList", "add", "(Ljava/lang/Object;[Ljava/lang/Object;I)V"⟩) ∈ lw_all := lw_g (lw_at lw_ms 14 rfl) rfl
theorem qs15 : (Cond.selects "java/util/ArrayList" ⟨"java/util/ArrayList", "grow", "()[Ljava/lang/Object;"⟩ ⟨"java/util/ArrayList", "grow", "()[Ljava/lang/Object;"⟩) ∈ lw_all := lw_g (lw_at lw_ms 15 rfl) rfl
theorem qs16 : (Cond.selects "java/util/ArrayList" ⟨"java/util/ArrayList", "grow", "(I)[Ljava/lang/Object;"⟩ ⟨"java/util/ArrayList", "grow", "(I)[Ljava/lang/Object;"⟩) ∈ lw_all := lw_g (lw_at lw_ms 16 rfl) rfl
theorem qs17 : (Cond.selects "PegLaws$Reader" ⟨"PegLaws$Reader", "row", "([III)I"⟩ ⟨"PegLaws$Reader", "row", "([III)I"⟩) ∈ lw_all := lw_g (lw_at lw_ms 17 rfl) rfl
theorem qs18 : (Cond.selects "PegLaws$Reader" ⟨"PegLaws$Reader", "ahead", "(II)I"⟩ ⟨"PegLaws$Reader", "ahead", "(II)I"⟩) ∈ lw_all := lw_g (lw_at lw_ms 18 rfl) rfl
theorem qs19 : (Cond.selects "PegLaws$Reader" ⟨"PegLaws$Reader", "isSign", "(C)Z"⟩ ⟨"PegLaws$Reader", "isSign", "(C)Z"⟩) ∈ lw_all := lw_g (lw_at lw_ms 19 rfl) rfl
theorem qs20 : (Cond.selects "PegLaws$Reader" ⟨"PegLaws$Reader", "cloth", "()I"⟩ ⟨"PegLaws$Reader", "cloth", "()I"⟩) ∈ lw_all := lw_g (lw_at lw_ms 20 rfl) rfl
theorem qs21 : (Cond.selects "PegLaws$Reader" ⟨"PegLaws$Reader", "expression", "()LPegLaws$Expression;"⟩ ⟨"PegLaws$Reader", "expression", "()LPegLaws$Expression;"⟩) ∈ lw_all := lw_g (lw_at lw_ms 21 rfl) rfl
theorem qs22 : (Cond.selects "PegLaws$Reader" ⟨"PegLaws$Reader", "test", "()LPegLaws$Expression;"⟩ ⟨"PegLaws$Reader", "test", "()LPegLaws$Expression;"⟩) ∈ lw_all := lw_g (lw_at lw_ms 22 rfl) rfl
theorem qs23 : (Cond.selects "PegLaws$Reader" ⟨"PegLaws$Reader", "sum", "()LPegLaws$Expression;"⟩ ⟨"PegLaws$Reader", "sum", "()LPegLaws$Expression;"⟩) ∈ lw_all := lw_g (lw_at lw_ms 23 rfl) rfl
theorem qs24 : (Cond.selects "PegLaws$Reader" ⟨"PegLaws$Reader", "product", "()LPegLaws$Expression;"⟩ ⟨"PegLaws$Reader", "product", "()LPegLaws$Expression;"⟩) ∈ lw_all := lw_g (lw_at lw_ms 24 rfl) rfl
theorem qs25 : (Cond.selects "PegLaws$Reader" ⟨"PegLaws$Reader", "part", "()LPegLaws$Expression;"⟩ ⟨"PegLaws$Reader", "part", "()LPegLaws$Expression;"⟩) ∈ lw_all := lw_g (lw_at lw_ms 25 rfl) rfl
theorem qs26 : (Cond.selects "PegLaws$Reader" ⟨"PegLaws$Reader", "need", "(C)V"⟩ ⟨"PegLaws$Reader", "need", "(C)V"⟩) ∈ lw_all := lw_g (lw_at lw_ms 26 rfl) rfl
theorem qs27 : (Cond.selects "PegLaws$Reader" ⟨"PegLaws$Reader", "done", "(I)LPegLaws$Line;"⟩ ⟨"PegLaws$Reader", "done", "(I)LPegLaws$Line;"⟩) ∈ lw_all := lw_g (lw_at lw_ms 27 rfl) rfl
theorem qs28 : (Cond.selects "PegLaws" ⟨"PegLaws", "isCloth", "(I)Z"⟩ ⟨"PegLaws", "isCloth", "(I)Z"⟩) ∈ lw_all := lw_g (lw_at lw_ms 28 rfl) rfl
theorem qs29 : (Cond.selects "PegLaws" ⟨"PegLaws", "cloths", "()I"⟩ ⟨"PegLaws", "cloths", "()I"⟩) ∈ lw_all := lw_g (lw_at lw_ms 29 rfl) rfl
theorem qs30 : (Cond.selects "PegLaws" ⟨"PegLaws", "cloth", "(I)LPegLaws$Cloth;"⟩ ⟨"PegLaws", "cloth", "(I)LPegLaws$Cloth;"⟩) ∈ lw_all := lw_g (lw_at lw_ms 30 rfl) rfl
theorem qs31 : (Cond.selects "PegLaws" ⟨"PegLaws", "isLaw", "(LPegLaws$State;I)Z"⟩ ⟨"PegLaws", "isLaw", "(LPegLaws$State;I)Z"⟩) ∈ lw_all := lw_g (lw_at lw_ms 31 rfl) rfl
theorem qs32 : (Cond.selects "PegLaws" ⟨"PegLaws", "isTurned", "(LPegLaws$State;I)Z"⟩ ⟨"PegLaws", "isTurned", "(LPegLaws$State;I)Z"⟩) ∈ lw_all := lw_g (lw_at lw_ms 32 rfl) rfl
theorem qs33 : (Cond.selects "PegLaws" ⟨"PegLaws", "roomBy", "(II)I"⟩ ⟨"PegLaws", "roomBy", "(II)I"⟩) ∈ lw_all := lw_g (lw_at lw_ms 33 rfl) rfl
theorem qs34 : (Cond.selects "PegLaws" ⟨"PegLaws", "pullOf", "(III)I"⟩ ⟨"PegLaws", "pullOf", "(III)I"⟩) ∈ lw_all := lw_g (lw_at lw_ms 34 rfl) rfl
theorem qs35 : (Cond.selects "PegLaws" ⟨"PegLaws", "worked", "(LPegLaws$Expression;IIIII)I"⟩ ⟨"PegLaws", "worked", "(LPegLaws$Expression;IIIII)I"⟩) ∈ lw_all := lw_g (lw_at lw_ms 35 rfl) rfl
theorem qs36 : (Cond.selects "PegLaws" ⟨"PegLaws", "lawsOf", "(LPegLaws$State;)I"⟩ ⟨"PegLaws", "lawsOf", "(LPegLaws$State;)I"⟩) ∈ lw_all := lw_g (lw_at lw_ms 36 rfl) rfl
theorem qs37 : (Cond.selects "PegLaws" ⟨"PegLaws", "canHang", "(LPegLaws$State;II)Z"⟩ ⟨"PegLaws", "canHang", "(LPegLaws$State;II)Z"⟩) ∈ lw_all := lw_g (lw_at lw_ms 37 rfl) rfl
theorem qs38 : (Cond.selects "PegLaws" ⟨"PegLaws", "left", "(LPegLaws$State;)I"⟩ ⟨"PegLaws", "left", "(LPegLaws$State;)I"⟩) ∈ lw_all := lw_g (lw_at lw_ms 38 rfl) rfl
theorem qs39 : (Cond.selects "PegLaws" ⟨"PegLaws", "keeps", "()V"⟩ ⟨"PegLaws", "keeps", "()V"⟩) ∈ lw_all := lw_g (lw_at lw_ms 39 rfl) rfl
theorem qs40 : (Cond.selects "PegLaws" ⟨"PegLaws", "passes", "(LPegLaws$State;I)I"⟩ ⟨"PegLaws", "passes", "(LPegLaws$State;I)I"⟩) ∈ lw_all := lw_g (lw_at lw_ms 40 rfl) rfl
theorem qs41 : (Cond.selects "PegLaws" ⟨"PegLaws", "blows", "(LPegLaws$State;II)Z"⟩ ⟨"PegLaws", "blows", "(LPegLaws$State;II)Z"⟩) ∈ lw_all := lw_g (lw_at lw_ms 41 rfl) rfl
theorem qs42 : (Cond.selects "PegLaws" ⟨"PegLaws", "driedOf", "(III)I"⟩ ⟨"PegLaws", "driedOf", "(III)I"⟩) ∈ lw_all := lw_g (lw_at lw_ms 42 rfl) rfl
theorem qs43 : (Cond.selects "PegLaws" ⟨"PegLaws", "hanging", "(LPegLaws$State;)I"⟩ ⟨"PegLaws", "hanging", "(LPegLaws$State;)I"⟩) ∈ lw_all := lw_g (lw_at lw_ms 43 rfl) rfl
theorem qs44 : (Cond.selects "PegLaws" ⟨"PegLaws", "worthOf", "(I)I"⟩ ⟨"PegLaws", "worthOf", "(I)I"⟩) ∈ lw_all := lw_g (lw_at lw_ms 44 rfl) rfl
theorem qs45 : (Cond.selects "PegLaws" ⟨"PegLaws", "clashesIn", "(I)I"⟩ ⟨"PegLaws", "clashesIn", "(I)I"⟩) ∈ lw_all := lw_g (lw_at lw_ms 45 rfl) rfl
theorem qs46 : (Cond.selects "PegLaws" ⟨"PegLaws", "mostPull", "(II)I"⟩ ⟨"PegLaws", "mostPull", "(II)I"⟩) ∈ lw_all := lw_g (lw_at lw_ms 46 rfl) rfl
theorem qs47 : (Cond.selects "PegLaws" ⟨"PegLaws", "fills", "(IIII)V"⟩ ⟨"PegLaws", "fills", "(IIII)V"⟩) ∈ lw_all := lw_g (lw_at lw_ms 47 rfl) rfl
theorem qs48 : (Cond.selects "PegLaws" ⟨"PegLaws", "hangsBy", "(LPegLaws$State;II)J"⟩ ⟨"PegLaws", "hangsBy", "(LPegLaws$State;II)J"⟩) ∈ lw_all := lw_g (lw_at lw_ms 48 rfl) rfl
theorem qs49 : (Cond.selects "PegLaws" ⟨"PegLaws", "orders", "(IIII)V"⟩ ⟨"PegLaws", "orders", "(IIII)V"⟩) ∈ lw_all := lw_g (lw_at lw_ms 49 rfl) rfl
theorem qs50 : (Cond.selects "PegLaws" ⟨"PegLaws", "dryBy", "(II)I"⟩ ⟨"PegLaws", "dryBy", "(II)I"⟩) ∈ lw_all := lw_g (lw_at lw_ms 50 rfl) rfl
theorem qs51 : (Cond.selects "PegLaws" ⟨"PegLaws", "wetBy", "(III)I"⟩ ⟨"PegLaws", "wetBy", "(III)I"⟩) ∈ lw_all := lw_g (lw_at lw_ms 51 rfl) rfl
theorem qs52 : (Cond.selects "PegLaws" ⟨"PegLaws", "mostAlike", "(III)I"⟩ ⟨"PegLaws", "mostAlike", "(III)I"⟩) ∈ lw_all := lw_g (lw_at lw_ms 52 rfl) rfl
theorem qs53 : (Cond.selects "PegLaws" ⟨"PegLaws", "worthBehind", "(LPegLaws$State;I)I"⟩ ⟨"PegLaws", "worthBehind", "(LPegLaws$State;I)I"⟩) ∈ lw_all := lw_g (lw_at lw_ms 53 rfl) rfl
theorem qs54 : (Cond.selects "PegLaws" ⟨"PegLaws", "livesHour", "(LPegLaws$State;)I"⟩ ⟨"PegLaws", "livesHour", "(LPegLaws$State;)I"⟩) ∈ lw_all := lw_g (lw_at lw_ms 54 rfl) rfl
theorem qs55 : (Cond.selects "PegLaws" ⟨"PegLaws", "draws", "(I)I"⟩ ⟨"PegLaws", "draws", "(I)I"⟩) ∈ lw_all := lw_g (lw_at lw_ms 55 rfl) rfl
theorem qs56 : (Cond.selects "PegLaws" ⟨"PegLaws", "firstFree", "(LPegLaws$State;I)I"⟩ ⟨"PegLaws", "firstFree", "(LPegLaws$State;I)I"⟩) ∈ lw_all := lw_g (lw_at lw_ms 56 rfl) rfl
theorem qs57 : (Cond.selects "PegLaws" ⟨"PegLaws", "turned", "()I"⟩ ⟨"PegLaws", "turned", "()I"⟩) ∈ lw_all := lw_g (lw_at lw_ms 57 rfl) rfl
theorem qs58 : (Cond.selects "PegLawsModel" ⟨"PegLawsModel", "lay", "(J)V"⟩ ⟨"PegLawsModel", "lay", "(J)V"⟩) ∈ lw_all := lw_g (lw_at lw_ms 58 rfl) rfl
theorem qs59 : (Cond.selects "PegLawsModel" ⟨"PegLawsModel", "standsAsAlways", "(I)V"⟩ ⟨"PegLawsModel", "standsAsAlways", "(I)V"⟩) ∈ lw_all := lw_g (lw_at lw_ms 59 rfl) rfl
theorem qs60 : (Cond.selects "PegLawsModel" ⟨"PegLawsModel", "begins", "()V"⟩ ⟨"PegLawsModel", "begins", "()V"⟩) ∈ lw_all := lw_g (lw_at lw_ms 60 rfl) rfl
theorem qs61 : (Cond.selects "PegLawsModel" ⟨"PegLawsModel", "starts", "(I)V"⟩ ⟨"PegLawsModel", "starts", "(I)V"⟩) ∈ lw_all := lw_g (lw_at lw_ms 61 rfl) rfl
theorem qs62 : (Cond.selects "PegLawsModel" ⟨"PegLawsModel", "cutAll", "()V"⟩ ⟨"PegLawsModel", "cutAll", "()V"⟩) ∈ lw_all := lw_g (lw_at lw_ms 62 rfl) rfl
theorem qs63 : (Cond.selects "PegLawsModel" ⟨"PegLawsModel", "isWord", "(I)Z"⟩ ⟨"PegLawsModel", "isWord", "(I)Z"⟩) ∈ lw_all := lw_g (lw_at lw_ms 63 rfl) rfl
theorem qs64 : (Cond.selects "PegLawsModel" ⟨"PegLawsModel", "readCloth", "()V"⟩ ⟨"PegLawsModel", "readCloth", "()V"⟩) ∈ lw_all := lw_g (lw_at lw_ms 64 rfl) rfl
theorem qs65 : (Cond.selects "PegLawsModel" ⟨"PegLawsModel", "wrong", "(I)V"⟩ ⟨"PegLawsModel", "wrong", "(I)V"⟩) ∈ lw_all := lw_g (lw_at lw_ms 65 rfl) rfl
theorem qs66 : (Cond.selects "PegLawsModel" ⟨"PegLawsModel", "isName", "()Z"⟩ ⟨"PegLawsModel", "isName", "()Z"⟩) ∈ lw_all := lw_g (lw_at lw_ms 66 rfl) rfl
theorem qs67 : (Cond.selects "PegLawsModel" ⟨"PegLawsModel", "wordHere", "(II)I"⟩ ⟨"PegLawsModel", "wordHere", "(II)I"⟩) ∈ lw_all := lw_g (lw_at lw_ms 67 rfl) rfl
theorem qs68 : (Cond.selects "PegLawsModel" ⟨"PegLawsModel", "find", "(Z)I"⟩ ⟨"PegLawsModel", "find", "(Z)I"⟩) ∈ lw_all := lw_g (lw_at lw_ms 68 rfl) rfl
theorem qs69 : (Cond.selects "PegLawsModel" ⟨"PegLawsModel", "takeOne", "(II)I"⟩ ⟨"PegLawsModel", "takeOne", "(II)I"⟩) ∈ lw_all := lw_g (lw_at lw_ms 69 rfl) rfl
theorem qs70 : (Cond.selects "PegLawsModel" ⟨"PegLawsModel", "takeAfter", "(III)I"⟩ ⟨"PegLawsModel", "takeAfter", "(III)I"⟩) ∈ lw_all := lw_g (lw_at lw_ms 70 rfl) rfl
theorem qs71 : (Cond.selects "PegLawsModel" ⟨"PegLawsModel", "takeWord", "(I)V"⟩ ⟨"PegLawsModel", "takeWord", "(I)V"⟩) ∈ lw_all := lw_g (lw_at lw_ms 71 rfl) rfl
theorem qs72 : (Cond.selects "PegLawsModel" ⟨"PegLawsModel", "hasWord", "(I)Z"⟩ ⟨"PegLawsModel", "hasWord", "(I)Z"⟩) ∈ lw_all := lw_g (lw_at lw_ms 72 rfl) rfl
theorem qs73 : (Cond.selects "PegLawsModel" ⟨"PegLawsModel", "takeNumber", "(II)I"⟩ ⟨"PegLawsModel", "takeNumber", "(II)I"⟩) ∈ lw_all := lw_g (lw_at lw_ms 73 rfl) rfl
theorem qs74 : (Cond.selects "PegLawsModel" ⟨"PegLawsModel", "readClash", "()V"⟩ ⟨"PegLawsModel", "readClash", "()V"⟩) ∈ lw_all := lw_g (lw_at lw_ms 74 rfl) rfl
theorem qs75 : (Cond.selects "PegLawsModel" ⟨"PegLawsModel", "takeTold", "(Z)I"⟩ ⟨"PegLawsModel", "takeTold", "(Z)I"⟩) ∈ lw_all := lw_g (lw_at lw_ms 75 rfl) rfl
theorem qs76 : (Cond.selects "PegLawsModel" ⟨"PegLawsModel", "toldHere", "(Z)I"⟩ ⟨"PegLawsModel", "toldHere", "(Z)I"⟩) ∈ lw_all := lw_g (lw_at lw_ms 76 rfl) rfl
theorem qs77 : (Cond.selects "PegLawsModel" ⟨"PegLawsModel", "readOnce", "()V"⟩ ⟨"PegLawsModel", "readOnce", "()V"⟩) ∈ lw_all := lw_g (lw_at lw_ms 77 rfl) rfl
theorem qs78 : (Cond.selects "PegLawsModel" ⟨"PegLawsModel", "readRow", "(III)I"⟩ ⟨"PegLawsModel", "readRow", "(III)I"⟩) ∈ lw_all := lw_g (lw_at lw_ms 78 rfl) rfl
theorem qs79 : (Cond.selects "PegLawsModel" ⟨"PegLawsModel", "all", "(I)V"⟩ ⟨"PegLawsModel", "all", "(I)V"⟩) ∈ lw_all := lw_g (lw_at lw_ms 79 rfl) rfl
theorem qs80 : (Cond.selects "PegLawsModel" ⟨"PegLawsModel", "test", "(I)V"⟩ ⟨"PegLawsModel", "test", "(I)V"⟩) ∈ lw_all := lw_g (lw_at lw_ms 80 rfl) rfl
theorem qs81 : (Cond.selects "PegLawsModel" ⟨"PegLawsModel", "sums", "(I)V"⟩ ⟨"PegLawsModel", "sums", "(I)V"⟩) ∈ lw_all := lw_g (lw_at lw_ms 81 rfl) rfl
theorem qs82 : (Cond.selects "PegLawsModel" ⟨"PegLawsModel", "products", "(I)V"⟩ ⟨"PegLawsModel", "products", "(I)V"⟩) ∈ lw_all := lw_g (lw_at lw_ms 82 rfl) rfl
theorem qs83 : (Cond.selects "PegLawsModel" ⟨"PegLawsModel", "takePart", "(I)V"⟩ ⟨"PegLawsModel", "takePart", "(I)V"⟩) ∈ lw_all := lw_g (lw_at lw_ms 83 rfl) rfl
theorem qs84 : (Cond.selects "PegLawsModel" ⟨"PegLawsModel", "isSign", "(I)Z"⟩ ⟨"PegLawsModel", "isSign", "(I)Z"⟩) ∈ lw_all := lw_g (lw_at lw_ms 84 rfl) rfl
theorem qs85 : (Cond.selects "PegLawsModel" ⟨"PegLawsModel", "emit", "(II)V"⟩ ⟨"PegLawsModel", "emit", "(II)V"⟩) ∈ lw_all := lw_g (lw_at lw_ms 85 rfl) rfl
theorem qs86 : (Cond.selects "PegLawsModel" ⟨"PegLawsModel", "hasSign", "(I)Z"⟩ ⟨"PegLawsModel", "hasSign", "(I)Z"⟩) ∈ lw_all := lw_g (lw_at lw_ms 86 rfl) rfl
theorem qs87 : (Cond.selects "PegLawsModel" ⟨"PegLawsModel", "takeSign", "(I)V"⟩ ⟨"PegLawsModel", "takeSign", "(I)V"⟩) ∈ lw_all := lw_g (lw_at lw_ms 87 rfl) rfl
theorem qs88 : (Cond.selects "PegLawsModel" ⟨"PegLawsModel", "readPegs", "()I"⟩ ⟨"PegLawsModel", "readPegs", "()I"⟩) ∈ lw_all := lw_g (lw_at lw_ms 88 rfl) rfl
theorem qs89 : (Cond.selects "PegLawsModel" ⟨"PegLawsModel", "isCloth", "(I)Z"⟩ ⟨"PegLawsModel", "isCloth", "(I)Z"⟩) ∈ lw_all := lw_g (lw_at lw_ms 89 rfl) rfl
theorem qs90 : (Cond.selects "PegLawsModel" ⟨"PegLawsModel", "cloths", "()I"⟩ ⟨"PegLawsModel", "cloths", "()I"⟩) ∈ lw_all := lw_g (lw_at lw_ms 90 rfl) rfl
theorem qs91 : (Cond.selects "PegLawsModel" ⟨"PegLawsModel", "clothOf", "(II)I"⟩ ⟨"PegLawsModel", "clothOf", "(II)I"⟩) ∈ lw_all := lw_g (lw_at lw_ms 91 rfl) rfl
theorem qs92 : (Cond.selects "PegLawsModel" ⟨"PegLawsModel", "isLaw", "(II)Z"⟩ ⟨"PegLawsModel", "isLaw", "(II)Z"⟩) ∈ lw_all := lw_g (lw_at lw_ms 92 rfl) rfl
theorem qs93 : (Cond.selects "PegLawsModel" ⟨"PegLawsModel", "needs", "(I)I"⟩ ⟨"PegLawsModel", "needs", "(I)I"⟩) ∈ lw_all := lw_g (lw_at lw_ms 93 rfl) rfl
theorem qs94 : (Cond.selects "PegLawsModel" ⟨"PegLawsModel", "isTurned", "(II)Z"⟩ ⟨"PegLawsModel", "isTurned", "(II)Z"⟩) ∈ lw_all := lw_g (lw_at lw_ms 94 rfl) rfl
theorem qs95 : (Cond.selects "PegLawsModel" ⟨"PegLawsModel", "isHung", "(II)Z"⟩ ⟨"PegLawsModel", "isHung", "(II)Z"⟩) ∈ lw_all := lw_g (lw_at lw_ms 95 rfl) rfl
theorem qs96 : (Cond.selects "PegLawsModel" ⟨"PegLawsModel", "roomBy", "(II)I"⟩ ⟨"PegLawsModel", "roomBy", "(II)I"⟩) ∈ lw_all := lw_g (lw_at lw_ms 96 rfl) rfl
theorem qs97 : (Cond.selects "PegLawsModel" ⟨"PegLawsModel", "windOf", "(IZ)I"⟩ ⟨"PegLawsModel", "windOf", "(IZ)I"⟩) ∈ lw_all := lw_g (lw_at lw_ms 97 rfl) rfl
theorem qs98 : (Cond.selects "PegLawsModel" ⟨"PegLawsModel", "pullOf", "(III)I"⟩ ⟨"PegLawsModel", "pullOf", "(III)I"⟩) ∈ lw_all := lw_g (lw_at lw_ms 98 rfl) rfl
theorem qs99 : (Cond.selects "PegLawsModel" ⟨"PegLawsModel", "laysFacts", "(III)V"⟩ ⟨"PegLawsModel", "laysFacts", "(III)V"⟩) ∈ lw_all := lw_g (lw_at lw_ms 99 rfl) rfl
theorem qs100 : (Cond.selects "PegLawsModel" ⟨"PegLawsModel", "worthAt", "(I)I"⟩ ⟨"PegLawsModel", "worthAt", "(I)I"⟩) ∈ lw_all := lw_g (lw_at lw_ms 100 rfl) rfl
theorem qs101 : (Cond.selects "PegLawsModel" ⟨"PegLawsModel", "heldBy", "(II)I"⟩ ⟨"PegLawsModel", "heldBy", "(II)I"⟩) ∈ lw_all := lw_g (lw_at lw_ms 101 rfl) rfl
theorem qs102 : (Cond.selects "PegLawsModel" ⟨"PegLawsModel", "lawsOf", "(I)I"⟩ ⟨"PegLawsModel", "lawsOf", "(I)I"⟩) ∈ lw_all := lw_g (lw_at lw_ms 102 rfl) rfl
theorem qs103 : (Cond.selects "PegLawsModel" ⟨"PegLawsModel", "freePegs", "(I)I"⟩ ⟨"PegLawsModel", "freePegs", "(I)I"⟩) ∈ lw_all := lw_g (lw_at lw_ms 103 rfl) rfl
theorem qs104 : (Cond.selects "PegLawsModel" ⟨"PegLawsModel", "mayHang", "(III)Z"⟩ ⟨"PegLawsModel", "mayHang", "(III)Z"⟩) ∈ lw_all := lw_g (lw_at lw_ms 104 rfl) rfl
theorem qs105 : (Cond.selects "PegLawsModel" ⟨"PegLawsModel", "roomLeft", "(I)I"⟩ ⟨"PegLawsModel", "roomLeft", "(I)I"⟩) ∈ lw_all := lw_g (lw_at lw_ms 105 rfl) rfl
theorem qs106 : (Cond.selects "PegLawsModel" ⟨"PegLawsModel", "keeps", "()V"⟩ ⟨"PegLawsModel", "keeps", "()V"⟩) ∈ lw_all := lw_g (lw_at lw_ms 106 rfl) rfl
theorem qs107 : (Cond.selects "PegLawsModel" ⟨"PegLawsModel", "copies", "(III)V"⟩ ⟨"PegLawsModel", "copies", "(III)V"⟩) ∈ lw_all := lw_g (lw_at lw_ms 107 rfl) rfl
theorem qs108 : (Cond.selects "PegLawsModel" ⟨"PegLawsModel", "washes", "(II)I"⟩ ⟨"PegLawsModel", "washes", "(II)I"⟩) ∈ lw_all := lw_g (lw_at lw_ms 108 rfl) rfl
theorem qs109 : (Cond.selects "PegLawsModel" ⟨"PegLawsModel", "buys", "(II)I"⟩ ⟨"PegLawsModel", "buys", "(II)I"⟩) ∈ lw_all := lw_g (lw_at lw_ms 109 rfl) rfl
theorem qs110 : (Cond.selects "PegLawsModel" ⟨"PegLawsModel", "passes", "(IZ)I"⟩ ⟨"PegLawsModel", "passes", "(IZ)I"⟩) ∈ lw_all := lw_g (lw_at lw_ms 110 rfl) rfl
theorem qs111 : (Cond.selects "PegLawsModel" ⟨"PegLawsModel", "pulls", "(III)Z"⟩ ⟨"PegLawsModel", "pulls", "(III)Z"⟩) ∈ lw_all := lw_g (lw_at lw_ms 111 rfl) rfl
theorem qs112 : (Cond.selects "PegLawsModel" ⟨"PegLawsModel", "gripsOf", "(II)I"⟩ ⟨"PegLawsModel", "gripsOf", "(II)I"⟩) ∈ lw_all := lw_g (lw_at lw_ms 112 rfl) rfl
theorem qs113 : (Cond.selects "PegLawsModel" ⟨"PegLawsModel", "loosens", "(II)V"⟩ ⟨"PegLawsModel", "loosens", "(II)V"⟩) ∈ lw_all := lw_g (lw_at lw_ms 113 rfl) rfl
theorem qs114 : (Cond.selects "PegLawsModel" ⟨"PegLawsModel", "held", "(II)I"⟩ ⟨"PegLawsModel", "held", "(II)I"⟩) ∈ lw_all := lw_g (lw_at lw_ms 114 rfl) rfl
theorem qs115 : (Cond.selects "PegLawsModel" ⟨"PegLawsModel", "falls", "(II)V"⟩ ⟨"PegLawsModel", "falls", "(II)V"⟩) ∈ lw_all := lw_g (lw_at lw_ms 115 rfl) rfl
theorem qs116 : (Cond.selects "PegLawsModel" ⟨"PegLawsModel", "driedOf", "(III)I"⟩ ⟨"PegLawsModel", "driedOf", "(III)I"⟩) ∈ lw_all := lw_g (lw_at lw_ms 116 rfl) rfl
theorem qs117 : (Cond.selects "PegLawsModel" ⟨"PegLawsModel", "does", "(III)Z"⟩ ⟨"PegLawsModel", "does", "(III)Z"⟩) ∈ lw_all := lw_g (lw_at lw_ms 117 rfl) rfl
theorem qs118 : (Cond.selects "PegLawsModel" ⟨"PegLawsModel", "worthOf", "(I)I"⟩ ⟨"PegLawsModel", "worthOf", "(I)I"⟩) ∈ lw_all := lw_g (lw_at lw_ms 118 rfl) rfl
theorem qs119 : (Cond.selects "PegLawsModel" ⟨"PegLawsModel", "clashesIn", "(I)I"⟩ ⟨"PegLawsModel", "clashesIn", "(I)I"⟩) ∈ lw_all := lw_g (lw_at lw_ms 119 rfl) rfl
theorem qs120 : (Cond.selects "PegLawsModel" ⟨"PegLawsModel", "findHardest", "(I)V"⟩ ⟨"PegLawsModel", "findHardest", "(I)V"⟩) ∈ lw_all := lw_g (lw_at lw_ms 120 rfl) rfl
theorem qs121 : (Cond.selects "PegLawsModel" ⟨"PegLawsModel", "fills", "(IIII)V"⟩ ⟨"PegLawsModel", "fills", "(IIII)V"⟩) ∈ lw_all := lw_g (lw_at lw_ms 121 rfl) rfl
theorem qs122 : (Cond.selects "PegLawsModel" ⟨"PegLawsModel", "hanging", "(IIIII)J"⟩ ⟨"PegLawsModel", "hanging", "(IIIII)J"⟩) ∈ lw_all := lw_g (lw_at lw_ms 122 rfl) rfl
theorem qs123 : (Cond.selects "PegLawsModel" ⟨"PegLawsModel", "driedBehind", "(II)I"⟩ ⟨"PegLawsModel", "driedBehind", "(II)I"⟩) ∈ lw_all := lw_g (lw_at lw_ms 123 rfl) rfl
theorem qs124 : (Cond.selects "PegLawsModel" ⟨"PegLawsModel", "washesFrom", "(III)V"⟩ ⟨"PegLawsModel", "washesFrom", "(III)V"⟩) ∈ lw_all := lw_g (lw_at lw_ms 124 rfl) rfl
theorem qs125 : (Cond.selects "PegLawsModel" ⟨"PegLawsModel", "startsNow", "()I"⟩ ⟨"PegLawsModel", "startsNow", "()I"⟩) ∈ lw_all := lw_g (lw_at lw_ms 125 rfl) rfl
theorem qs126 : (Cond.selects "PegLawsModel" ⟨"PegLawsModel", "wetBehind", "(III)I"⟩ ⟨"PegLawsModel", "wetBehind", "(III)I"⟩) ∈ lw_all := lw_g (lw_at lw_ms 126 rfl) rfl
theorem qs127 : (Cond.selects "PegLawsModel" ⟨"PegLawsModel", "worthBehind", "(II)I"⟩ ⟨"PegLawsModel", "worthBehind", "(II)I"⟩) ∈ lw_all := lw_g (lw_at lw_ms 127 rfl) rfl
theorem qs128 : (Cond.selects "PegLawsModel" ⟨"PegLawsModel", "drawsCloth", "()V"⟩ ⟨"PegLawsModel", "drawsCloth", "()V"⟩) ∈ lw_all := lw_g (lw_at lw_ms 128 rfl) rfl
theorem qs129 : (Cond.selects "PegLawsModel" ⟨"PegLawsModel", "draw", "(I)I"⟩ ⟨"PegLawsModel", "draw", "(I)I"⟩) ∈ lw_all := lw_g (lw_at lw_ms 129 rfl) rfl
theorem qs130 : (Cond.selects "PegLawsModel" ⟨"PegLawsModel", "firstFree", "(II)I"⟩ ⟨"PegLawsModel", "firstFree", "(II)I"⟩) ∈ lw_all := lw_g (lw_at lw_ms 130 rfl) rfl
theorem qs131 : (Cond.selects "PegLawsModel" ⟨"PegLawsModel", "turnedSet", "()I"⟩ ⟨"PegLawsModel", "turnedSet", "()I"⟩) ∈ lw_all := lw_g (lw_at lw_ms 131 rfl) rfl
