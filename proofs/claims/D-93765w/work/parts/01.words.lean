-- ===== PART A: goes FIRST, ahead of the names: the tables' words, and 'selects' of the private methods out of them =====
/-- a private method of a class that the tables say can be made, by its rows of tables_1 -/
def lw_okq (q : MethodName × Nat) : Prop := (q.1.cls ≠ "java/lang/invoke/MethodHandle" ∧ q.1.cls ≠ "java/lang/invoke/VarHandle") ∧ Cond.instantiable q.1.cls q.2 ∈ tables_1 ∧ Cond.privateMethod q.1 ∈ tables_1 ∧ Cond.instanceMethod q.1 ∈ tables_1
set_option maxRecDepth 100000
theorem lw_t1 {w : Cond} (h : w ∈ tables_1_1) : w ∈ tables_1 := List.mem_append_left _ h
theorem lw_t2 {w : Cond} (h : w ∈ tables_1_2) : w ∈ tables_1 := List.mem_append_right _ (List.mem_append_left _ h)
theorem lw_t3 {w : Cond} (h : w ∈ tables_1_3) : w ∈ tables_1 := List.mem_append_right _ (List.mem_append_right _ (List.mem_append_left _ h))
theorem lw_t4 {w : Cond} (h : w ∈ tables_1_4) : w ∈ tables_1 := List.mem_append_right _ (List.mem_append_right _ (List.mem_append_right _ (List.mem_append_left _ h)))
theorem lw_t5 {w : Cond} (h : w ∈ tables_1_5) : w ∈ tables_1 := List.mem_append_right _ (List.mem_append_right _ (List.mem_append_right _ (List.mem_append_right _ (List.mem_append_left _ h))))
theorem lw_t6 {w : Cond} (h : w ∈ tables_1_6) : w ∈ tables_1 := List.mem_append_right _ (List.mem_append_right _ (List.mem_append_right _ (List.mem_append_right _ (List.mem_append_right _ (List.mem_append_left _ h)))))
theorem lw_t7 {w : Cond} (h : w ∈ tables_1_7) : w ∈ tables_1 := List.mem_append_right _ (List.mem_append_right _ (List.mem_append_right _ (List.mem_append_right _ (List.mem_append_right _ (List.mem_append_right _ (List.mem_append_left _ h))))))
theorem lw_t8 {w : Cond} (h : w ∈ tables_1_8) : w ∈ tables_1 := List.mem_append_right _ (List.mem_append_right _ (List.mem_append_right _ (List.mem_append_right _ (List.mem_append_right _ (List.mem_append_right _ (List.mem_append_right _ (List.mem_append_left _ h)))))))
theorem lw_t9 {w : Cond} (h : w ∈ tables_1_9) : w ∈ tables_1 := List.mem_append_right _ (List.mem_append_right _ (List.mem_append_right _ (List.mem_append_right _ (List.mem_append_right _ (List.mem_append_right _ (List.mem_append_right _ (List.mem_append_right _ (List.mem_append_left _ h))))))))
theorem lw_t10 {w : Cond} (h : w ∈ tables_1_10) : w ∈ tables_1 := List.mem_append_right _ (List.mem_append_right _ (List.mem_append_right _ (List.mem_append_right _ (List.mem_append_right _ (List.mem_append_right _ (List.mem_append_right _ (List.mem_append_right _ (List.mem_append_right _ h))))))))
theorem lw_p0 : lw_okq (⟨"HeadReckons", "isHead", "(I)Z"⟩, 23) := ⟨⟨by decide +kernel, by decide +kernel⟩, lw_t1 (List.mem_of_getElem? (i := 48) rfl), lw_t2 (List.mem_of_getElem? (i := 12) rfl), lw_t2 (List.mem_of_getElem? (i := 13) rfl)⟩
theorem lw_p1 : lw_okq (⟨"HeadReckons$Reader", "line", "()LHeadReckons$Line;"⟩, 4) := ⟨⟨by decide +kernel, by decide +kernel⟩, lw_t2 (List.mem_of_getElem? (i := 58) rfl), lw_t2 (List.mem_of_getElem? (i := 82) rfl), lw_t2 (List.mem_of_getElem? (i := 83) rfl)⟩
theorem lw_p2 : lw_okq (⟨"HeadReckons$Reader", "either", "()LHeadReckons$Node;"⟩, 4) := ⟨⟨by decide +kernel, by decide +kernel⟩, lw_t2 (List.mem_of_getElem? (i := 58) rfl), lw_t2 (List.mem_of_getElem? (i := 105) rfl), lw_t2 (List.mem_of_getElem? (i := 106) rfl)⟩
theorem lw_p3 : lw_okq (⟨"HeadReckons$Reader", "all", "()LHeadReckons$Node;"⟩, 4) := ⟨⟨by decide +kernel, by decide +kernel⟩, lw_t2 (List.mem_of_getElem? (i := 58) rfl), lw_t2 (List.mem_of_getElem? (i := 109) rfl), lw_t2 (List.mem_of_getElem? (i := 110) rfl)⟩
theorem lw_p4 : lw_okq (⟨"HeadReckons$Reader", "compared", "()LHeadReckons$Node;"⟩, 4) := ⟨⟨by decide +kernel, by decide +kernel⟩, lw_t2 (List.mem_of_getElem? (i := 58) rfl), lw_t2 (List.mem_of_getElem? (i := 113) rfl), lw_t2 (List.mem_of_getElem? (i := 114) rfl)⟩
theorem lw_p5 : lw_okq (⟨"HeadReckons$Reader", "sum", "()LHeadReckons$Node;"⟩, 4) := ⟨⟨by decide +kernel, by decide +kernel⟩, lw_t2 (List.mem_of_getElem? (i := 58) rfl), lw_t2 (List.mem_of_getElem? (i := 117) rfl), lw_t2 (List.mem_of_getElem? (i := 118) rfl)⟩
theorem lw_p6 : lw_okq (⟨"HeadReckons$Reader", "product", "()LHeadReckons$Node;"⟩, 4) := ⟨⟨by decide +kernel, by decide +kernel⟩, lw_t2 (List.mem_of_getElem? (i := 58) rfl), lw_t2 (List.mem_of_getElem? (i := 121) rfl), lw_t2 (List.mem_of_getElem? (i := 122) rfl)⟩
theorem lw_p7 : lw_okq (⟨"HeadReckons$Reader", "operand", "()LHeadReckons$Node;"⟩, 4) := ⟨⟨by decide +kernel, by decide +kernel⟩, lw_t2 (List.mem_of_getElem? (i := 58) rfl), lw_t2 (List.mem_of_getElem? (i := 125) rfl), lw_t2 (List.mem_of_getElem? (i := 126) rfl)⟩
theorem lw_p8 : lw_okq (⟨"HeadReckons$Reader", "here", "()I"⟩, 4) := ⟨⟨by decide +kernel, by decide +kernel⟩, lw_t2 (List.mem_of_getElem? (i := 58) rfl), lw_t2 (List.mem_of_getElem? (i := 129) rfl), lw_t2 (List.mem_of_getElem? (i := 130) rfl)⟩
theorem lw_p9 : lw_okq (⟨"HeadReckons$Reader", "isOne", "(Ljava/lang/String;)Z"⟩, 4) := ⟨⟨by decide +kernel, by decide +kernel⟩, lw_t2 (List.mem_of_getElem? (i := 58) rfl), lw_t2 (List.mem_of_getElem? (i := 134) rfl), lw_t2 (List.mem_of_getElem? (i := 135) rfl)⟩
theorem lw_p10 : lw_okq (⟨"HeadReckons$Reader", "opens", "()Z"⟩, 4) := ⟨⟨by decide +kernel, by decide +kernel⟩, lw_t2 (List.mem_of_getElem? (i := 58) rfl), lw_t2 (List.mem_of_getElem? (i := 237) rfl), lw_t2 (List.mem_of_getElem? (i := 238) rfl)⟩
theorem lw_p11 : lw_okq (⟨"HeadReckons$Reader", "wrong", "()LHeadReckons$Node;"⟩, 4) := ⟨⟨by decide +kernel, by decide +kernel⟩, lw_t2 (List.mem_of_getElem? (i := 58) rfl), lw_t3 (List.mem_of_getElem? (i := 1) rfl), lw_t3 (List.mem_of_getElem? (i := 2) rfl)⟩
theorem lw_p12 : lw_okq (⟨"HeadReckons$Reader", "joined", "(ILHeadReckons$Node;LHeadReckons$Node;)LHeadReckons$Node;"⟩, 4) := ⟨⟨by decide +kernel, by decide +kernel⟩, lw_t2 (List.mem_of_getElem? (i := 58) rfl), lw_t3 (List.mem_of_getElem? (i := 37) rfl), lw_t3 (List.mem_of_getElem? (i := 38) rfl)⟩
theorem lw_p13 : lw_okq (⟨"HeadReckons", "isBy", "(I)Z"⟩, 23) := ⟨⟨by decide +kernel, by decide +kernel⟩, lw_t1 (List.mem_of_getElem? (i := 48) rfl), lw_t3 (List.mem_of_getElem? (i := 63) rfl), lw_t3 (List.mem_of_getElem? (i := 64) rfl)⟩
theorem lw_p14 : lw_okq (⟨"HeadReckons", "lays", "(II)Z"⟩, 23) := ⟨⟨by decide +kernel, by decide +kernel⟩, lw_t1 (List.mem_of_getElem? (i := 48) rfl), lw_t3 (List.mem_of_getElem? (i := 70) rfl), lw_t3 (List.mem_of_getElem? (i := 71) rfl)⟩
theorem lw_p15 : lw_okq (⟨"HeadReckons$Acts", "begin", "()V"⟩, 16) := ⟨⟨by decide +kernel, by decide +kernel⟩, lw_t1 (List.mem_of_getElem? (i := 74) rfl), lw_t3 (List.mem_of_getElem? (i := 78) rfl), lw_t3 (List.mem_of_getElem? (i := 79) rfl)⟩
def lw_privs_1 : List (MethodName × Nat) := [(⟨"HeadReckons", "isHead", "(I)Z"⟩, 23), (⟨"HeadReckons$Reader", "line", "()LHeadReckons$Line;"⟩, 4), (⟨"HeadReckons$Reader", "either", "()LHeadReckons$Node;"⟩, 4), (⟨"HeadReckons$Reader", "all", "()LHeadReckons$Node;"⟩, 4), (⟨"HeadReckons$Reader", "compared", "()LHeadReckons$Node;"⟩, 4), (⟨"HeadReckons$Reader", "sum", "()LHeadReckons$Node;"⟩, 4), (⟨"HeadReckons$Reader", "product", "()LHeadReckons$Node;"⟩, 4), (⟨"HeadReckons$Reader", "operand", "()LHeadReckons$Node;"⟩, 4), (⟨"HeadReckons$Reader", "here", "()I"⟩, 4), (⟨"HeadReckons$Reader", "isOne", "(Ljava/lang/String;)Z"⟩, 4), (⟨"HeadReckons$Reader", "opens", "()Z"⟩, 4), (⟨"HeadReckons$Reader", "wrong", "()LHeadReckons$Node;"⟩, 4), (⟨"HeadReckons$Reader", "joined", "(ILHeadReckons$Node;LHeadReckons$Node;)LHeadReckons$Node;"⟩, 4), (⟨"HeadReckons", "isBy", "(I)Z"⟩, 23), (⟨"HeadReckons", "lays", "(II)Z"⟩, 23), (⟨"HeadReckons$Acts", "begin", "()V"⟩, 16)]
theorem lw_r1 : ∀ q ∈ lw_privs_1, lw_okq q := List.forall_mem_cons.mpr ⟨lw_p0, List.forall_mem_cons.mpr ⟨lw_p1, List.forall_mem_cons.mpr ⟨lw_p2, List.forall_mem_cons.mpr ⟨lw_p3, List.forall_mem_cons.mpr ⟨lw_p4, List.forall_mem_cons.mpr ⟨lw_p5, List.forall_mem_cons.mpr ⟨lw_p6, List.forall_mem_cons.mpr ⟨lw_p7, List.forall_mem_cons.mpr ⟨lw_p8, List.forall_mem_cons.mpr ⟨lw_p9, List.forall_mem_cons.mpr ⟨lw_p10, List.forall_mem_cons.mpr ⟨lw_p11, List.forall_mem_cons.mpr ⟨lw_p12, List.forall_mem_cons.mpr ⟨lw_p13, List.forall_mem_cons.mpr ⟨lw_p14, List.forall_mem_cons.mpr ⟨lw_p15, fun _ h => absurd h List.not_mem_nil⟩⟩⟩⟩⟩⟩⟩⟩⟩⟩⟩⟩⟩⟩⟩⟩
theorem lw_p16 : lw_okq (⟨"HeadReckons$Acts", "look", "(JJJ)V"⟩, 16) := ⟨⟨by decide +kernel, by decide +kernel⟩, lw_t1 (List.mem_of_getElem? (i := 74) rfl), lw_t3 (List.mem_of_getElem? (i := 94) rfl), lw_t3 (List.mem_of_getElem? (i := 95) rfl)⟩
theorem lw_p17 : lw_okq (⟨"HeadReckons$Acts", "act", "(IJIJ)V"⟩, 16) := ⟨⟨by decide +kernel, by decide +kernel⟩, lw_t1 (List.mem_of_getElem? (i := 74) rfl), lw_t3 (List.mem_of_getElem? (i := 101) rfl), lw_t3 (List.mem_of_getElem? (i := 102) rfl)⟩
theorem lw_p18 : lw_okq (⟨"HeadReckons$Acts", "left", "(JJ)V"⟩, 16) := ⟨⟨by decide +kernel, by decide +kernel⟩, lw_t1 (List.mem_of_getElem? (i := 74) rfl), lw_t3 (List.mem_of_getElem? (i := 110) rfl), lw_t3 (List.mem_of_getElem? (i := 111) rfl)⟩
theorem lw_p19 : lw_okq (⟨"HeadReckons$Acts", "right", "(JJ)V"⟩, 16) := ⟨⟨by decide +kernel, by decide +kernel⟩, lw_t1 (List.mem_of_getElem? (i := 74) rfl), lw_t3 (List.mem_of_getElem? (i := 118) rfl), lw_t3 (List.mem_of_getElem? (i := 119) rfl)⟩
theorem lw_p20 : lw_okq (⟨"HeadReckons$Acts", "hold", "(JI)V"⟩, 16) := ⟨⟨by decide +kernel, by decide +kernel⟩, lw_t1 (List.mem_of_getElem? (i := 74) rfl), lw_t3 (List.mem_of_getElem? (i := 122) rfl), lw_t3 (List.mem_of_getElem? (i := 123) rfl)⟩
theorem lw_p21 : lw_okq (⟨"HeadReckons$Acts", "crossed", "(JJ)V"⟩, 16) := ⟨⟨by decide +kernel, by decide +kernel⟩, lw_t1 (List.mem_of_getElem? (i := 74) rfl), lw_t3 (List.mem_of_getElem? (i := 126) rfl), lw_t3 (List.mem_of_getElem? (i := 127) rfl)⟩
theorem lw_p22 : lw_okq (⟨"HeadReckons$Acts", "squared", "(JJ)Z"⟩, 16) := ⟨⟨by decide +kernel, by decide +kernel⟩, lw_t1 (List.mem_of_getElem? (i := 74) rfl), lw_t3 (List.mem_of_getElem? (i := 130) rfl), lw_t3 (List.mem_of_getElem? (i := 131) rfl)⟩
theorem lw_p23 : lw_okq (⟨"HeadReckons$Acts", "split", "(JJ)Z"⟩, 16) := ⟨⟨by decide +kernel, by decide +kernel⟩, lw_t1 (List.mem_of_getElem? (i := 74) rfl), lw_t3 (List.mem_of_getElem? (i := 138) rfl), lw_t3 (List.mem_of_getElem? (i := 139) rfl)⟩
theorem lw_p24 : lw_okq (⟨"HeadReckons", "chosenOf", "(LHeadReckons$Head;II)I"⟩, 23) := ⟨⟨by decide +kernel, by decide +kernel⟩, lw_t1 (List.mem_of_getElem? (i := 48) rfl), lw_t3 (List.mem_of_getElem? (i := 151) rfl), lw_t3 (List.mem_of_getElem? (i := 152) rfl)⟩
theorem lw_p25 : lw_okq (⟨"HeadReckons", "gives", "()I"⟩, 23) := ⟨⟨by decide +kernel, by decide +kernel⟩, lw_t1 (List.mem_of_getElem? (i := 48) rfl), lw_t3 (List.mem_of_getElem? (i := 166) rfl), lw_t3 (List.mem_of_getElem? (i := 167) rfl)⟩
theorem lw_p26 : lw_okq (⟨"HeadReckons", "chosenSeconds", "(LHeadReckons$Head;II)I"⟩, 23) := ⟨⟨by decide +kernel, by decide +kernel⟩, lw_t1 (List.mem_of_getElem? (i := 48) rfl), lw_t3 (List.mem_of_getElem? (i := 216) rfl), lw_t3 (List.mem_of_getElem? (i := 217) rfl)⟩
theorem lw_p27 : lw_okq (⟨"java/lang/NullPointerException", "getExtendedNPEMessage", "()Ljava/lang/String;"⟩, 8) := ⟨⟨by decide +kernel, by decide +kernel⟩, lw_t4 (List.mem_of_getElem? (i := 43) rfl), lw_t4 (List.mem_of_getElem? (i := 41) rfl), lw_t4 (List.mem_of_getElem? (i := 42) rfl)⟩
theorem lw_p28 : lw_okq (⟨"java/lang/Throwable", "fillInStackTrace", "(I)Ljava/lang/Throwable;"⟩, 6) := ⟨⟨by decide +kernel, by decide +kernel⟩, lw_t4 (List.mem_of_getElem? (i := 55) rfl), lw_t4 (List.mem_of_getElem? (i := 53) rfl), lw_t4 (List.mem_of_getElem? (i := 54) rfl)⟩
theorem lw_p29 : lw_okq (⟨"HeadReckons", "isAsk", "(I)Z"⟩, 23) := ⟨⟨by decide +kernel, by decide +kernel⟩, lw_t1 (List.mem_of_getElem? (i := 48) rfl), lw_t4 (List.mem_of_getElem? (i := 155) rfl), lw_t4 (List.mem_of_getElem? (i := 156) rfl)⟩
theorem lw_p30 : lw_okq (⟨"HeadReckons", "doesFit", "(LHeadReckons$Head;II)Z"⟩, 23) := ⟨⟨by decide +kernel, by decide +kernel⟩, lw_t1 (List.mem_of_getElem? (i := 48) rfl), lw_t4 (List.mem_of_getElem? (i := 167) rfl), lw_t4 (List.mem_of_getElem? (i := 168) rfl)⟩
theorem lw_p31 : lw_okq (⟨"HeadReckons", "isBySlip", "(J)Z"⟩, 23) := ⟨⟨by decide +kernel, by decide +kernel⟩, lw_t1 (List.mem_of_getElem? (i := 48) rfl), lw_t4 (List.mem_of_getElem? (i := 171) rfl), lw_t4 (List.mem_of_getElem? (i := 172) rfl)⟩
def lw_privs_2 : List (MethodName × Nat) := [(⟨"HeadReckons$Acts", "look", "(JJJ)V"⟩, 16), (⟨"HeadReckons$Acts", "act", "(IJIJ)V"⟩, 16), (⟨"HeadReckons$Acts", "left", "(JJ)V"⟩, 16), (⟨"HeadReckons$Acts", "right", "(JJ)V"⟩, 16), (⟨"HeadReckons$Acts", "hold", "(JI)V"⟩, 16), (⟨"HeadReckons$Acts", "crossed", "(JJ)V"⟩, 16), (⟨"HeadReckons$Acts", "squared", "(JJ)Z"⟩, 16), (⟨"HeadReckons$Acts", "split", "(JJ)Z"⟩, 16), (⟨"HeadReckons", "chosenOf", "(LHeadReckons$Head;II)I"⟩, 23), (⟨"HeadReckons", "gives", "()I"⟩, 23), (⟨"HeadReckons", "chosenSeconds", "(LHeadReckons$Head;II)I"⟩, 23), (⟨"java/lang/NullPointerException", "getExtendedNPEMessage", "()Ljava/lang/String;"⟩, 8), (⟨"java/lang/Throwable", "fillInStackTrace", "(I)Ljava/lang/Throwable;"⟩, 6), (⟨"HeadReckons", "isAsk", "(I)Z"⟩, 23), (⟨"HeadReckons", "doesFit", "(LHeadReckons$Head;II)Z"⟩, 23), (⟨"HeadReckons", "isBySlip", "(J)Z"⟩, 23)]
theorem lw_r2 : ∀ q ∈ lw_privs_2, lw_okq q := List.forall_mem_cons.mpr ⟨lw_p16, List.forall_mem_cons.mpr ⟨lw_p17, List.forall_mem_cons.mpr ⟨lw_p18, List.forall_mem_cons.mpr ⟨lw_p19, List.forall_mem_cons.mpr ⟨lw_p20, List.forall_mem_cons.mpr ⟨lw_p21, List.forall_mem_cons.mpr ⟨lw_p22, List.forall_mem_cons.mpr ⟨lw_p23, List.forall_mem_cons.mpr ⟨lw_p24, List.forall_mem_cons.mpr ⟨lw_p25, List.forall_mem_cons.mpr ⟨lw_p26, List.forall_mem_cons.mpr ⟨lw_p27, List.forall_mem_cons.mpr ⟨lw_p28, List.forall_mem_cons.mpr ⟨lw_p29, List.forall_mem_cons.mpr ⟨lw_p30, List.forall_mem_cons.mpr ⟨lw_p31, fun _ h => absurd h List.not_mem_nil⟩⟩⟩⟩⟩⟩⟩⟩⟩⟩⟩⟩⟩⟩⟩⟩
theorem lw_p32 : lw_okq (⟨"HeadReckons", "differs", "(LHeadReckons$Head;I)I"⟩, 23) := ⟨⟨by decide +kernel, by decide +kernel⟩, lw_t1 (List.mem_of_getElem? (i := 48) rfl), lw_t4 (List.mem_of_getElem? (i := 185) rfl), lw_t4 (List.mem_of_getElem? (i := 186) rfl)⟩
theorem lw_p33 : lw_okq (⟨"HeadReckons$Head", "add", "(III)LHeadReckons$Learnt;"⟩, 3) := ⟨⟨by decide +kernel, by decide +kernel⟩, lw_t1 (List.mem_of_getElem? (i := 138) rfl), lw_t4 (List.mem_of_getElem? (i := 221) rfl), lw_t4 (List.mem_of_getElem? (i := 222) rfl)⟩
theorem lw_p34 : lw_okq (⟨"HeadReckons", "canTeach", "()Z"⟩, 23) := ⟨⟨by decide +kernel, by decide +kernel⟩, lw_t1 (List.mem_of_getElem? (i := 48) rfl), lw_t5 (List.mem_of_getElem? (i := 11) rfl), lw_t5 (List.mem_of_getElem? (i := 12) rfl)⟩
theorem lw_p35 : lw_okq (⟨"HeadReckons", "teach", "(I)I"⟩, 23) := ⟨⟨by decide +kernel, by decide +kernel⟩, lw_t1 (List.mem_of_getElem? (i := 48) rfl), lw_t5 (List.mem_of_getElem? (i := 19) rfl), lw_t5 (List.mem_of_getElem? (i := 20) rfl)⟩
theorem lw_p36 : lw_okq (⟨"HeadReckons", "orders", "(LHeadReckons$Head;[III)V"⟩, 23) := ⟨⟨by decide +kernel, by decide +kernel⟩, lw_t1 (List.mem_of_getElem? (i := 48) rfl), lw_t5 (List.mem_of_getElem? (i := 27) rfl), lw_t5 (List.mem_of_getElem? (i := 28) rfl)⟩
theorem lw_p37 : lw_okq (⟨"HeadReckons", "rootsBy", "(JII)J"⟩, 23) := ⟨⟨by decide +kernel, by decide +kernel⟩, lw_t1 (List.mem_of_getElem? (i := 48) rfl), lw_t5 (List.mem_of_getElem? (i := 57) rfl), lw_t5 (List.mem_of_getElem? (i := 58) rfl)⟩
theorem lw_p38 : lw_okq (⟨"HeadReckons", "made", "(I)LHeadReckons$Way;"⟩, 23) := ⟨⟨by decide +kernel, by decide +kernel⟩, lw_t1 (List.mem_of_getElem? (i := 48) rfl), lw_t5 (List.mem_of_getElem? (i := 73) rfl), lw_t5 (List.mem_of_getElem? (i := 74) rfl)⟩
theorem lw_p39 : lw_okq (⟨"HeadReckons", "isBody", "(I)Z"⟩, 23) := ⟨⟨by decide +kernel, by decide +kernel⟩, lw_t1 (List.mem_of_getElem? (i := 48) rfl), lw_t5 (List.mem_of_getElem? (i := 183) rfl), lw_t5 (List.mem_of_getElem? (i := 184) rfl)⟩
theorem lw_p40 : lw_okq (⟨"HeadReckons", "ran", "(I)V"⟩, 23) := ⟨⟨by decide +kernel, by decide +kernel⟩, lw_t1 (List.mem_of_getElem? (i := 48) rfl), lw_t5 (List.mem_of_getElem? (i := 197) rfl), lw_t5 (List.mem_of_getElem? (i := 198) rfl)⟩
theorem lw_p41 : lw_okq (⟨"HeadReckonsModel", "workOut", "(II)I"⟩, 55) := ⟨⟨by decide +kernel, by decide +kernel⟩, lw_t7 (List.mem_of_getElem? (i := 67) rfl), lw_t8 (List.mem_of_getElem? (i := 19) rfl), lw_t8 (List.mem_of_getElem? (i := 20) rfl)⟩
theorem lw_p42 : lw_okq (⟨"HeadReckonsModel", "either", "()I"⟩, 55) := ⟨⟨by decide +kernel, by decide +kernel⟩, lw_t7 (List.mem_of_getElem? (i := 67) rfl), lw_t8 (List.mem_of_getElem? (i := 23) rfl), lw_t8 (List.mem_of_getElem? (i := 24) rfl)⟩
theorem lw_p43 : lw_okq (⟨"HeadReckonsModel", "both", "()I"⟩, 55) := ⟨⟨by decide +kernel, by decide +kernel⟩, lw_t7 (List.mem_of_getElem? (i := 67) rfl), lw_t8 (List.mem_of_getElem? (i := 27) rfl), lw_t8 (List.mem_of_getElem? (i := 28) rfl)⟩
theorem lw_p44 : lw_okq (⟨"HeadReckonsModel", "compared", "()I"⟩, 55) := ⟨⟨by decide +kernel, by decide +kernel⟩, lw_t7 (List.mem_of_getElem? (i := 67) rfl), lw_t8 (List.mem_of_getElem? (i := 31) rfl), lw_t8 (List.mem_of_getElem? (i := 32) rfl)⟩
theorem lw_p45 : lw_okq (⟨"HeadReckonsModel", "sums", "()I"⟩, 55) := ⟨⟨by decide +kernel, by decide +kernel⟩, lw_t7 (List.mem_of_getElem? (i := 67) rfl), lw_t8 (List.mem_of_getElem? (i := 35) rfl), lw_t8 (List.mem_of_getElem? (i := 36) rfl)⟩
theorem lw_p46 : lw_okq (⟨"HeadReckonsModel", "product", "()I"⟩, 55) := ⟨⟨by decide +kernel, by decide +kernel⟩, lw_t7 (List.mem_of_getElem? (i := 67) rfl), lw_t8 (List.mem_of_getElem? (i := 39) rfl), lw_t8 (List.mem_of_getElem? (i := 40) rfl)⟩
theorem lw_p47 : lw_okq (⟨"HeadReckonsModel", "one", "()I"⟩, 55) := ⟨⟨by decide +kernel, by decide +kernel⟩, lw_t7 (List.mem_of_getElem? (i := 67) rfl), lw_t8 (List.mem_of_getElem? (i := 43) rfl), lw_t8 (List.mem_of_getElem? (i := 44) rfl)⟩
def lw_privs_3 : List (MethodName × Nat) := [(⟨"HeadReckons", "differs", "(LHeadReckons$Head;I)I"⟩, 23), (⟨"HeadReckons$Head", "add", "(III)LHeadReckons$Learnt;"⟩, 3), (⟨"HeadReckons", "canTeach", "()Z"⟩, 23), (⟨"HeadReckons", "teach", "(I)I"⟩, 23), (⟨"HeadReckons", "orders", "(LHeadReckons$Head;[III)V"⟩, 23), (⟨"HeadReckons", "rootsBy", "(JII)J"⟩, 23), (⟨"HeadReckons", "made", "(I)LHeadReckons$Way;"⟩, 23), (⟨"HeadReckons", "isBody", "(I)Z"⟩, 23), (⟨"HeadReckons", "ran", "(I)V"⟩, 23), (⟨"HeadReckonsModel", "workOut", "(II)I"⟩, 55), (⟨"HeadReckonsModel", "either", "()I"⟩, 55), (⟨"HeadReckonsModel", "both", "()I"⟩, 55), (⟨"HeadReckonsModel", "compared", "()I"⟩, 55), (⟨"HeadReckonsModel", "sums", "()I"⟩, 55), (⟨"HeadReckonsModel", "product", "()I"⟩, 55), (⟨"HeadReckonsModel", "one", "()I"⟩, 55)]
theorem lw_r3 : ∀ q ∈ lw_privs_3, lw_okq q := List.forall_mem_cons.mpr ⟨lw_p32, List.forall_mem_cons.mpr ⟨lw_p33, List.forall_mem_cons.mpr ⟨lw_p34, List.forall_mem_cons.mpr ⟨lw_p35, List.forall_mem_cons.mpr ⟨lw_p36, List.forall_mem_cons.mpr ⟨lw_p37, List.forall_mem_cons.mpr ⟨lw_p38, List.forall_mem_cons.mpr ⟨lw_p39, List.forall_mem_cons.mpr ⟨lw_p40, List.forall_mem_cons.mpr ⟨lw_p41, List.forall_mem_cons.mpr ⟨lw_p42, List.forall_mem_cons.mpr ⟨lw_p43, List.forall_mem_cons.mpr ⟨lw_p44, List.forall_mem_cons.mpr ⟨lw_p45, List.forall_mem_cons.mpr ⟨lw_p46, List.forall_mem_cons.mpr ⟨lw_p47, fun _ h => absurd h List.not_mem_nil⟩⟩⟩⟩⟩⟩⟩⟩⟩⟩⟩⟩⟩⟩⟩⟩
theorem lw_p48 : lw_okq (⟨"HeadReckonsModel", "byteAt", "()I"⟩, 55) := ⟨⟨by decide +kernel, by decide +kernel⟩, lw_t7 (List.mem_of_getElem? (i := 67) rfl), lw_t8 (List.mem_of_getElem? (i := 47) rfl), lw_t8 (List.mem_of_getElem? (i := 48) rfl)⟩
theorem lw_p49 : lw_okq (⟨"HeadReckonsModel", "wrong", "()I"⟩, 55) := ⟨⟨by decide +kernel, by decide +kernel⟩, lw_t7 (List.mem_of_getElem? (i := 67) rfl), lw_t8 (List.mem_of_getElem? (i := 51) rfl), lw_t8 (List.mem_of_getElem? (i := 52) rfl)⟩
theorem lw_p50 : lw_okq (⟨"HeadReckonsModel", "takes", "(I)Z"⟩, 55) := ⟨⟨by decide +kernel, by decide +kernel⟩, lw_t7 (List.mem_of_getElem? (i := 67) rfl), lw_t8 (List.mem_of_getElem? (i := 55) rfl), lw_t8 (List.mem_of_getElem? (i := 56) rfl)⟩
theorem lw_p51 : lw_okq (⟨"HeadReckonsModel", "readOne", "(II)I"⟩, 55) := ⟨⟨by decide +kernel, by decide +kernel⟩, lw_t7 (List.mem_of_getElem? (i := 67) rfl), lw_t8 (List.mem_of_getElem? (i := 66) rfl), lw_t8 (List.mem_of_getElem? (i := 67) rfl)⟩
theorem lw_p52 : lw_okq (⟨"HeadReckonsModel", "isHead", "(I)Z"⟩, 55) := ⟨⟨by decide +kernel, by decide +kernel⟩, lw_t7 (List.mem_of_getElem? (i := 67) rfl), lw_t8 (List.mem_of_getElem? (i := 80) rfl), lw_t8 (List.mem_of_getElem? (i := 81) rfl)⟩
theorem lw_p53 : lw_okq (⟨"HeadReckonsModel", "learntOf", "(I)I"⟩, 55) := ⟨⟨by decide +kernel, by decide +kernel⟩, lw_t7 (List.mem_of_getElem? (i := 67) rfl), lw_t8 (List.mem_of_getElem? (i := 84) rfl), lw_t8 (List.mem_of_getElem? (i := 85) rfl)⟩
theorem lw_p54 : lw_okq (⟨"HeadReckonsModel", "becomes", "(II)I"⟩, 55) := ⟨⟨by decide +kernel, by decide +kernel⟩, lw_t7 (List.mem_of_getElem? (i := 67) rfl), lw_t8 (List.mem_of_getElem? (i := 92) rfl), lw_t8 (List.mem_of_getElem? (i := 93) rfl)⟩
theorem lw_p55 : lw_okq (⟨"HeadReckonsModel", "askOf", "(II)I"⟩, 55) := ⟨⟨by decide +kernel, by decide +kernel⟩, lw_t7 (List.mem_of_getElem? (i := 67) rfl), lw_t8 (List.mem_of_getElem? (i := 104) rfl), lw_t8 (List.mem_of_getElem? (i := 105) rfl)⟩
theorem lw_p56 : lw_okq (⟨"HeadReckonsModel", "pairAt", "(II)I"⟩, 55) := ⟨⟨by decide +kernel, by decide +kernel⟩, lw_t7 (List.mem_of_getElem? (i := 67) rfl), lw_t8 (List.mem_of_getElem? (i := 111) rfl), lw_t8 (List.mem_of_getElem? (i := 112) rfl)⟩
theorem lw_p57 : lw_okq (⟨"HeadReckonsModel", "isHw", "(I)Z"⟩, 55) := ⟨⟨by decide +kernel, by decide +kernel⟩, lw_t7 (List.mem_of_getElem? (i := 67) rfl), lw_t8 (List.mem_of_getElem? (i := 122) rfl), lw_t8 (List.mem_of_getElem? (i := 123) rfl)⟩
theorem lw_p58 : lw_okq (⟨"HeadReckonsModel", "layOut", "(IIII)Z"⟩, 55) := ⟨⟨by decide +kernel, by decide +kernel⟩, lw_t7 (List.mem_of_getElem? (i := 67) rfl), lw_t8 (List.mem_of_getElem? (i := 127) rfl), lw_t8 (List.mem_of_getElem? (i := 128) rfl)⟩
theorem lw_p59 : lw_okq (⟨"HeadReckonsModel", "isKnown", "(II)Z"⟩, 55) := ⟨⟨by decide +kernel, by decide +kernel⟩, lw_t7 (List.mem_of_getElem? (i := 67) rfl), lw_t8 (List.mem_of_getElem? (i := 131) rfl), lw_t8 (List.mem_of_getElem? (i := 132) rfl)⟩
theorem lw_p60 : lw_okq (⟨"HeadReckonsModel", "isLearnt", "(II)Z"⟩, 55) := ⟨⟨by decide +kernel, by decide +kernel⟩, lw_t7 (List.mem_of_getElem? (i := 67) rfl), lw_t8 (List.mem_of_getElem? (i := 135) rfl), lw_t8 (List.mem_of_getElem? (i := 136) rfl)⟩
theorem lw_p61 : lw_okq (⟨"HeadReckonsModel", "acts", "(IIII)V"⟩, 55) := ⟨⟨by decide +kernel, by decide +kernel⟩, lw_t7 (List.mem_of_getElem? (i := 67) rfl), lw_t8 (List.mem_of_getElem? (i := 139) rfl), lw_t8 (List.mem_of_getElem? (i := 140) rfl)⟩
theorem lw_p62 : lw_okq (⟨"HeadReckonsModel", "goLeft", "(II)V"⟩, 55) := ⟨⟨by decide +kernel, by decide +kernel⟩, lw_t7 (List.mem_of_getElem? (i := 67) rfl), lw_t8 (List.mem_of_getElem? (i := 146) rfl), lw_t8 (List.mem_of_getElem? (i := 147) rfl)⟩
theorem lw_p63 : lw_okq (⟨"HeadReckonsModel", "lookAndAdd", "(IIIZI)Z"⟩, 55) := ⟨⟨by decide +kernel, by decide +kernel⟩, lw_t7 (List.mem_of_getElem? (i := 67) rfl), lw_t8 (List.mem_of_getElem? (i := 153) rfl), lw_t8 (List.mem_of_getElem? (i := 154) rfl)⟩
def lw_privs_4 : List (MethodName × Nat) := [(⟨"HeadReckonsModel", "byteAt", "()I"⟩, 55), (⟨"HeadReckonsModel", "wrong", "()I"⟩, 55), (⟨"HeadReckonsModel", "takes", "(I)Z"⟩, 55), (⟨"HeadReckonsModel", "readOne", "(II)I"⟩, 55), (⟨"HeadReckonsModel", "isHead", "(I)Z"⟩, 55), (⟨"HeadReckonsModel", "learntOf", "(I)I"⟩, 55), (⟨"HeadReckonsModel", "becomes", "(II)I"⟩, 55), (⟨"HeadReckonsModel", "askOf", "(II)I"⟩, 55), (⟨"HeadReckonsModel", "pairAt", "(II)I"⟩, 55), (⟨"HeadReckonsModel", "isHw", "(I)Z"⟩, 55), (⟨"HeadReckonsModel", "layOut", "(IIII)Z"⟩, 55), (⟨"HeadReckonsModel", "isKnown", "(II)Z"⟩, 55), (⟨"HeadReckonsModel", "isLearnt", "(II)Z"⟩, 55), (⟨"HeadReckonsModel", "acts", "(IIII)V"⟩, 55), (⟨"HeadReckonsModel", "goLeft", "(II)V"⟩, 55), (⟨"HeadReckonsModel", "lookAndAdd", "(IIIZI)Z"⟩, 55)]
theorem lw_r4 : ∀ q ∈ lw_privs_4, lw_okq q := List.forall_mem_cons.mpr ⟨lw_p48, List.forall_mem_cons.mpr ⟨lw_p49, List.forall_mem_cons.mpr ⟨lw_p50, List.forall_mem_cons.mpr ⟨lw_p51, List.forall_mem_cons.mpr ⟨lw_p52, List.forall_mem_cons.mpr ⟨lw_p53, List.forall_mem_cons.mpr ⟨lw_p54, List.forall_mem_cons.mpr ⟨lw_p55, List.forall_mem_cons.mpr ⟨lw_p56, List.forall_mem_cons.mpr ⟨lw_p57, List.forall_mem_cons.mpr ⟨lw_p58, List.forall_mem_cons.mpr ⟨lw_p59, List.forall_mem_cons.mpr ⟨lw_p60, List.forall_mem_cons.mpr ⟨lw_p61, List.forall_mem_cons.mpr ⟨lw_p62, List.forall_mem_cons.mpr ⟨lw_p63, fun _ h => absurd h List.not_mem_nil⟩⟩⟩⟩⟩⟩⟩⟩⟩⟩⟩⟩⟩⟩⟩⟩
theorem lw_p64 : lw_okq (⟨"HeadReckonsModel", "goRight", "(II)V"⟩, 55) := ⟨⟨by decide +kernel, by decide +kernel⟩, lw_t7 (List.mem_of_getElem? (i := 67) rfl), lw_t8 (List.mem_of_getElem? (i := 160) rfl), lw_t8 (List.mem_of_getElem? (i := 161) rfl)⟩
theorem lw_p65 : lw_okq (⟨"HeadReckonsModel", "holds", "()V"⟩, 55) := ⟨⟨by decide +kernel, by decide +kernel⟩, lw_t7 (List.mem_of_getElem? (i := 67) rfl), lw_t8 (List.mem_of_getElem? (i := 164) rfl), lw_t8 (List.mem_of_getElem? (i := 165) rfl)⟩
theorem lw_p66 : lw_okq (⟨"HeadReckonsModel", "goCrossed", "(II)V"⟩, 55) := ⟨⟨by decide +kernel, by decide +kernel⟩, lw_t7 (List.mem_of_getElem? (i := 67) rfl), lw_t8 (List.mem_of_getElem? (i := 168) rfl), lw_t8 (List.mem_of_getElem? (i := 169) rfl)⟩
theorem lw_p67 : lw_okq (⟨"HeadReckonsModel", "goSquared", "(II)Z"⟩, 55) := ⟨⟨by decide +kernel, by decide +kernel⟩, lw_t7 (List.mem_of_getElem? (i := 67) rfl), lw_t8 (List.mem_of_getElem? (i := 172) rfl), lw_t8 (List.mem_of_getElem? (i := 173) rfl)⟩
theorem lw_p68 : lw_okq (⟨"HeadReckonsModel", "goSplit", "(II)Z"⟩, 55) := ⟨⟨by decide +kernel, by decide +kernel⟩, lw_t7 (List.mem_of_getElem? (i := 67) rfl), lw_t8 (List.mem_of_getElem? (i := 179) rfl), lw_t8 (List.mem_of_getElem? (i := 180) rfl)⟩
theorem lw_p69 : lw_okq (⟨"HeadReckonsModel", "seconds", "()I"⟩, 55) := ⟨⟨by decide +kernel, by decide +kernel⟩, lw_t7 (List.mem_of_getElem? (i := 67) rfl), lw_t8 (List.mem_of_getElem? (i := 183) rfl), lw_t8 (List.mem_of_getElem? (i := 184) rfl)⟩
theorem lw_p70 : lw_okq (⟨"HeadReckonsModel", "mostHeld", "()I"⟩, 55) := ⟨⟨by decide +kernel, by decide +kernel⟩, lw_t7 (List.mem_of_getElem? (i := 67) rfl), lw_t8 (List.mem_of_getElem? (i := 187) rfl), lw_t8 (List.mem_of_getElem? (i := 188) rfl)⟩
theorem lw_p71 : lw_okq (⟨"HeadReckonsModel", "chosenBy", "(III)I"⟩, 55) := ⟨⟨by decide +kernel, by decide +kernel⟩, lw_t7 (List.mem_of_getElem? (i := 67) rfl), lw_t8 (List.mem_of_getElem? (i := 201) rfl), lw_t8 (List.mem_of_getElem? (i := 202) rfl)⟩
theorem lw_p72 : lw_okq (⟨"HeadReckonsModel", "offBy", "(I)I"⟩, 55) := ⟨⟨by decide +kernel, by decide +kernel⟩, lw_t7 (List.mem_of_getElem? (i := 67) rfl), lw_t9 (List.mem_of_getElem? (i := 2) rfl), lw_t9 (List.mem_of_getElem? (i := 3) rfl)⟩
theorem lw_p73 : lw_okq (⟨"HeadReckonsModel", "doesFit", "(III)Z"⟩, 55) := ⟨⟨by decide +kernel, by decide +kernel⟩, lw_t7 (List.mem_of_getElem? (i := 67) rfl), lw_t9 (List.mem_of_getElem? (i := 10) rfl), lw_t9 (List.mem_of_getElem? (i := 11) rfl)⟩
theorem lw_p74 : lw_okq (⟨"HeadReckonsModel", "slipsOf", "(I)I"⟩, 55) := ⟨⟨by decide +kernel, by decide +kernel⟩, lw_t7 (List.mem_of_getElem? (i := 67) rfl), lw_t9 (List.mem_of_getElem? (i := 14) rfl), lw_t9 (List.mem_of_getElem? (i := 15) rfl)⟩
theorem lw_p75 : lw_okq (⟨"HeadReckonsModel", "canSlip", "(II)Z"⟩, 55) := ⟨⟨by decide +kernel, by decide +kernel⟩, lw_t7 (List.mem_of_getElem? (i := 67) rfl), lw_t9 (List.mem_of_getElem? (i := 18) rfl), lw_t9 (List.mem_of_getElem? (i := 19) rfl)⟩
theorem lw_p76 : lw_okq (⟨"HeadReckonsModel", "offSum", "(II)I"⟩, 55) := ⟨⟨by decide +kernel, by decide +kernel⟩, lw_t7 (List.mem_of_getElem? (i := 67) rfl), lw_t9 (List.mem_of_getElem? (i := 26) rfl), lw_t9 (List.mem_of_getElem? (i := 27) rfl)⟩
theorem lw_p77 : lw_okq (⟨"HeadReckonsModel", "isListBad", "()Z"⟩, 55) := ⟨⟨by decide +kernel, by decide +kernel⟩, lw_t7 (List.mem_of_getElem? (i := 67) rfl), lw_t9 (List.mem_of_getElem? (i := 56) rfl), lw_t9 (List.mem_of_getElem? (i := 57) rfl)⟩
theorem lw_p78 : lw_okq (⟨"HeadReckonsModel", "keeps", "(I)V"⟩, 55) := ⟨⟨by decide +kernel, by decide +kernel⟩, lw_t7 (List.mem_of_getElem? (i := 67) rfl), lw_t9 (List.mem_of_getElem? (i := 60) rfl), lw_t9 (List.mem_of_getElem? (i := 61) rfl)⟩
theorem lw_p79 : lw_okq (⟨"HeadReckonsModel", "asksOne", "(II)I"⟩, 55) := ⟨⟨by decide +kernel, by decide +kernel⟩, lw_t7 (List.mem_of_getElem? (i := 67) rfl), lw_t9 (List.mem_of_getElem? (i := 64) rfl), lw_t9 (List.mem_of_getElem? (i := 65) rfl)⟩
def lw_privs_5 : List (MethodName × Nat) := [(⟨"HeadReckonsModel", "goRight", "(II)V"⟩, 55), (⟨"HeadReckonsModel", "holds", "()V"⟩, 55), (⟨"HeadReckonsModel", "goCrossed", "(II)V"⟩, 55), (⟨"HeadReckonsModel", "goSquared", "(II)Z"⟩, 55), (⟨"HeadReckonsModel", "goSplit", "(II)Z"⟩, 55), (⟨"HeadReckonsModel", "seconds", "()I"⟩, 55), (⟨"HeadReckonsModel", "mostHeld", "()I"⟩, 55), (⟨"HeadReckonsModel", "chosenBy", "(III)I"⟩, 55), (⟨"HeadReckonsModel", "offBy", "(I)I"⟩, 55), (⟨"HeadReckonsModel", "doesFit", "(III)Z"⟩, 55), (⟨"HeadReckonsModel", "slipsOf", "(I)I"⟩, 55), (⟨"HeadReckonsModel", "canSlip", "(II)Z"⟩, 55), (⟨"HeadReckonsModel", "offSum", "(II)I"⟩, 55), (⟨"HeadReckonsModel", "isListBad", "()Z"⟩, 55), (⟨"HeadReckonsModel", "keeps", "(I)V"⟩, 55), (⟨"HeadReckonsModel", "asksOne", "(II)I"⟩, 55)]
theorem lw_r5 : ∀ q ∈ lw_privs_5, lw_okq q := List.forall_mem_cons.mpr ⟨lw_p64, List.forall_mem_cons.mpr ⟨lw_p65, List.forall_mem_cons.mpr ⟨lw_p66, List.forall_mem_cons.mpr ⟨lw_p67, List.forall_mem_cons.mpr ⟨lw_p68, List.forall_mem_cons.mpr ⟨lw_p69, List.forall_mem_cons.mpr ⟨lw_p70, List.forall_mem_cons.mpr ⟨lw_p71, List.forall_mem_cons.mpr ⟨lw_p72, List.forall_mem_cons.mpr ⟨lw_p73, List.forall_mem_cons.mpr ⟨lw_p74, List.forall_mem_cons.mpr ⟨lw_p75, List.forall_mem_cons.mpr ⟨lw_p76, List.forall_mem_cons.mpr ⟨lw_p77, List.forall_mem_cons.mpr ⟨lw_p78, List.forall_mem_cons.mpr ⟨lw_p79, fun _ h => absurd h List.not_mem_nil⟩⟩⟩⟩⟩⟩⟩⟩⟩⟩⟩⟩⟩⟩⟩⟩
theorem lw_p80 : lw_okq (⟨"HeadReckonsModel", "putsBack", "(I)V"⟩, 55) := ⟨⟨by decide +kernel, by decide +kernel⟩, lw_t7 (List.mem_of_getElem? (i := 67) rfl), lw_t9 (List.mem_of_getElem? (i := 68) rfl), lw_t9 (List.mem_of_getElem? (i := 69) rfl)⟩
theorem lw_p81 : lw_okq (⟨"HeadReckonsModel", "ordersFrom", "(IIIII)V"⟩, 55) := ⟨⟨by decide +kernel, by decide +kernel⟩, lw_t7 (List.mem_of_getElem? (i := 67) rfl), lw_t9 (List.mem_of_getElem? (i := 76) rfl), lw_t9 (List.mem_of_getElem? (i := 77) rfl)⟩
theorem lw_p82 : lw_okq (⟨"HeadReckonsModel", "manyFirsts", "(JII)J"⟩, 55) := ⟨⟨by decide +kernel, by decide +kernel⟩, lw_t7 (List.mem_of_getElem? (i := 67) rfl), lw_t9 (List.mem_of_getElem? (i := 110) rfl), lw_t9 (List.mem_of_getElem? (i := 111) rfl)⟩
theorem lw_p83 : lw_okq (⟨"HeadReckonsModel", "isBody", "(I)Z"⟩, 55) := ⟨⟨by decide +kernel, by decide +kernel⟩, lw_t7 (List.mem_of_getElem? (i := 67) rfl), lw_t9 (List.mem_of_getElem? (i := 133) rfl), lw_t9 (List.mem_of_getElem? (i := 134) rfl)⟩
theorem lw_p84 : lw_okq (⟨"HeadReckonsModel", "costsAs", "(II)I"⟩, 55) := ⟨⟨by decide +kernel, by decide +kernel⟩, lw_t7 (List.mem_of_getElem? (i := 67) rfl), lw_t9 (List.mem_of_getElem? (i := 137) rfl), lw_t9 (List.mem_of_getElem? (i := 138) rfl)⟩
theorem lw_p85 : lw_okq (⟨"HeadReckonsModel", "begins", "(I)V"⟩, 55) := ⟨⟨by decide +kernel, by decide +kernel⟩, lw_t7 (List.mem_of_getElem? (i := 67) rfl), lw_t9 (List.mem_of_getElem? (i := 141) rfl), lw_t9 (List.mem_of_getElem? (i := 142) rfl)⟩
theorem lw_p86 : lw_okq (⟨"HeadReckonsModel", "keepsAs", "(II)I"⟩, 55) := ⟨⟨by decide +kernel, by decide +kernel⟩, lw_t7 (List.mem_of_getElem? (i := 67) rfl), lw_t9 (List.mem_of_getElem? (i := 145) rfl), lw_t9 (List.mem_of_getElem? (i := 146) rfl)⟩
theorem lw_p87 : lw_okq (⟨"HeadReckonsModel", "slipsAs", "(II)I"⟩, 55) := ⟨⟨by decide +kernel, by decide +kernel⟩, lw_t7 (List.mem_of_getElem? (i := 67) rfl), lw_t9 (List.mem_of_getElem? (i := 149) rfl), lw_t9 (List.mem_of_getElem? (i := 150) rfl)⟩
theorem lw_p88 : lw_okq (⟨"HeadReckonsModel", "tellsAs", "(II)I"⟩, 55) := ⟨⟨by decide +kernel, by decide +kernel⟩, lw_t7 (List.mem_of_getElem? (i := 67) rfl), lw_t9 (List.mem_of_getElem? (i := 153) rfl), lw_t9 (List.mem_of_getElem? (i := 154) rfl)⟩
theorem lw_p89 : lw_okq (⟨"HeadReckonsModel", "refusal", "(II)I"⟩, 55) := ⟨⟨by decide +kernel, by decide +kernel⟩, lw_t7 (List.mem_of_getElem? (i := 67) rfl), lw_t9 (List.mem_of_getElem? (i := 173) rfl), lw_t9 (List.mem_of_getElem? (i := 174) rfl)⟩
theorem lw_p90 : lw_okq (⟨"HeadReckonsModel", "kindOf", "(I)I"⟩, 55) := ⟨⟨by decide +kernel, by decide +kernel⟩, lw_t7 (List.mem_of_getElem? (i := 67) rfl), lw_t9 (List.mem_of_getElem? (i := 193) rfl), lw_t9 (List.mem_of_getElem? (i := 194) rfl)⟩
def lw_privs_6 : List (MethodName × Nat) := [(⟨"HeadReckonsModel", "putsBack", "(I)V"⟩, 55), (⟨"HeadReckonsModel", "ordersFrom", "(IIIII)V"⟩, 55), (⟨"HeadReckonsModel", "manyFirsts", "(JII)J"⟩, 55), (⟨"HeadReckonsModel", "isBody", "(I)Z"⟩, 55), (⟨"HeadReckonsModel", "costsAs", "(II)I"⟩, 55), (⟨"HeadReckonsModel", "begins", "(I)V"⟩, 55), (⟨"HeadReckonsModel", "keepsAs", "(II)I"⟩, 55), (⟨"HeadReckonsModel", "slipsAs", "(II)I"⟩, 55), (⟨"HeadReckonsModel", "tellsAs", "(II)I"⟩, 55), (⟨"HeadReckonsModel", "refusal", "(II)I"⟩, 55), (⟨"HeadReckonsModel", "kindOf", "(I)I"⟩, 55)]
theorem lw_r6 : ∀ q ∈ lw_privs_6, lw_okq q := List.forall_mem_cons.mpr ⟨lw_p80, List.forall_mem_cons.mpr ⟨lw_p81, List.forall_mem_cons.mpr ⟨lw_p82, List.forall_mem_cons.mpr ⟨lw_p83, List.forall_mem_cons.mpr ⟨lw_p84, List.forall_mem_cons.mpr ⟨lw_p85, List.forall_mem_cons.mpr ⟨lw_p86, List.forall_mem_cons.mpr ⟨lw_p87, List.forall_mem_cons.mpr ⟨lw_p88, List.forall_mem_cons.mpr ⟨lw_p89, List.forall_mem_cons.mpr ⟨lw_p90, fun _ h => absurd h List.not_mem_nil⟩⟩⟩⟩⟩⟩⟩⟩⟩⟩⟩
def lw_privs : List (MethodName × Nat) := lw_privs_1 ++ (lw_privs_2 ++ (lw_privs_3 ++ (lw_privs_4 ++ (lw_privs_5 ++ (lw_privs_6)))))
def lw_tbl : List Cond := k2_sels lw_privs ++ tables_1
theorem lw_privs_ok : ∀ q ∈ lw_privs, lw_okq q := by
  show ∀ q ∈ lw_privs_1 ++ (lw_privs_2 ++ (lw_privs_3 ++ (lw_privs_4 ++ (lw_privs_5 ++ (lw_privs_6))))), lw_okq q
  exact List.forall_mem_append.mpr ⟨lw_r1, List.forall_mem_append.mpr ⟨lw_r2, List.forall_mem_append.mpr ⟨lw_r3, List.forall_mem_append.mpr ⟨lw_r4, List.forall_mem_append.mpr ⟨lw_r5, lw_r6⟩⟩⟩⟩⟩
-- ===== ONE list of words for every method: the tables' words that hold all through a run =====
def lw_all : List Cond := lw_tbl.filter goodWord
/-- a word of the tables by its place: claim/WORDS.tsv -/
theorem lw_w {w : Cond} (i : Nat) (h : lw_tbl[i]? = some w) (g : goodWord w = true) : w ∈ lw_all := List.mem_filter.mpr ⟨List.mem_of_getElem? h, g⟩
theorem lw_all_tbl {w : Cond} (h : w ∈ lw_all) : w ∈ lw_tbl := (List.mem_filter.mp h).1
theorem lw_self : GoodIn lw_all lw_all := fun w h => ⟨h, good_of_word (List.mem_filter.mp h).2⟩
/-- a class's field words, by their places -/
theorem lw_in (ws : List Cond) (ps : List Nat) (hp : ws = ps.filterMap (fun i => lw_tbl[i]?)) (hg : ws.all goodWord = true) : ∀ w ∈ ws, w ∈ lw_all := by
  intro w h
  have h1 := List.all_eq_true.mp hg w h
  rw [hp] at h
  obtain ⟨i, -, hi⟩ := List.mem_filterMap.mp h
  exact lw_w i hi h1
/-- the words of a contract for the method y with code b, L locals, answer r -/
abbrev ws_ (y : MethodName) (b : ByteArray) (L : Nat) (r : Option FieldType) : List Cond := Cond.code y b L r :: lw_all
theorem lw_meth {y : MethodName} {b : ByteArray} {L : Nat} {r : Option FieldType} (h : Cond.code y b L r ∈ lw_all) : GoodIn lw_all (ws_ y b L r) := by
  intro w hw
  rcases List.mem_cons.mp hw with e | e
  · rw [e]
    exact lw_self _ h
  · exact lw_self _ e
theorem lw_app {a c : List Cond} (ha : ∀ w ∈ a, w ∈ lw_all) (hc : GoodIn lw_all c) : GoodIn lw_all (a ++ c) := by
  intro w hw
  rcases List.mem_append.mp hw with e | e
  · exact lw_self w (ha w e)
  · exact hc w e
/-- what a call through an object asks: cwV n hts (lw_V ..) -/
theorem lw_V {own : String} {idx : Nat} {C : String} {y : MethodName} {b : ByteArray} {L : Nat} {r : Option FieldType} (h1 : Cond.methodLink own idx y ∈ lw_all) (h2 : Cond.instanceMethod y ∈ lw_all) (h3 : Cond.selects C y y ∈ lw_all) (h4 : Cond.initialized C ∈ lw_all) (h5 : Cond.code y b L r ∈ lw_all) : GoodIn lw_all (wsV own idx C y (ws_ y b L r)) := by
  refine lw_app ?_ (lw_meth h5)
  intro w hw
  simp only [List.mem_cons, List.not_mem_nil, or_false] at hw
  rcases hw with e | e | e | e
  · rw [e]; exact h1
  · rw [e]; exact h2
  · rw [e]; exact h3
  · rw [e]; exact h4
/-- what a static call asks: va_cwS n hts (lw_S ..) -/
theorem lw_S {own : String} {idx : Nat} {y : MethodName} {b : ByteArray} {L : Nat} {r : Option FieldType} (h1 : Cond.methodLink own idx y ∈ lw_all) (h2 : Cond.static y ∈ lw_all) (h3 : Cond.initialized y.cls ∈ lw_all) (h4 : Cond.code y b L r ∈ lw_all) : GoodIn lw_all (va_wsS own idx y (ws_ y b L r)) := by
  refine lw_app ?_ (lw_meth h4)
  intro w hw
  simp only [List.mem_cons, List.not_mem_nil, or_false] at hw
  rcases hw with e | e | e
  · rw [e]; exact h1
  · rw [e]; exact h2
  · rw [e]; exact h3
/-- the words of a contract for a method WITH HANDLERS (hh: its table) -/
abbrev wsW_ (y : MethodName) (b : ByteArray) (L : Nat) (r : Option FieldType) (hh : List (Nat × Nat × Nat × Nat)) : List Cond := Cond.codeWith y b L r hh :: lw_all
theorem lw_methW {y : MethodName} {b : ByteArray} {L : Nat} {r : Option FieldType} {hh : List (Nat × Nat × Nat × Nat)} (h : Cond.codeWith y b L r hh ∈ lw_all) : GoodIn lw_all (wsW_ y b L r hh) := by
  intro w hw
  rcases List.mem_cons.mp hw with e | e
  · rw [e]
    exact lw_self _ h
  · exact lw_self _ e
/-- any list of words by their places (lw_in), good -/
theorem lw_good {ws : List Cond} (h : ∀ w ∈ ws, w ∈ lw_all) : GoodIn lw_all ws := fun w hw => lw_self w (h w hw)
/-- what a call of a method with handlers asks: vx_cwVW n hts (lw_VW ..), vx_cwSW n hts (lw_SW ..) -/
theorem lw_VW {own : String} {idx : Nat} {C : String} {y : MethodName} {b : ByteArray} {L : Nat} {r : Option FieldType} {hh : List (Nat × Nat × Nat × Nat)} (h1 : Cond.methodLink own idx y ∈ lw_all) (h2 : Cond.instanceMethod y ∈ lw_all) (h3 : Cond.selects C y y ∈ lw_all) (h4 : Cond.initialized C ∈ lw_all) (h5 : Cond.codeWith y b L r hh ∈ lw_all) : GoodIn lw_all (wsV own idx C y (wsW_ y b L r hh)) := by
  refine lw_app ?_ (lw_methW h5)
  intro w hw
  simp only [List.mem_cons, List.not_mem_nil, or_false] at hw
  rcases hw with e | e | e | e
  · rw [e]; exact h1
  · rw [e]; exact h2
  · rw [e]; exact h3
  · rw [e]; exact h4
theorem lw_SW {own : String} {idx : Nat} {y : MethodName} {b : ByteArray} {L : Nat} {r : Option FieldType} {hh : List (Nat × Nat × Nat × Nat)} (h1 : Cond.methodLink own idx y ∈ lw_all) (h2 : Cond.static y ∈ lw_all) (h3 : Cond.initialized y.cls ∈ lw_all) (h4 : Cond.codeWith y b L r hh ∈ lw_all) : GoodIn lw_all (va_wsS own idx y (wsW_ y b L r hh)) := by
  refine lw_app ?_ (lw_methW h4)
  intro w hw
  simp only [List.mem_cons, List.not_mem_nil, or_false] at hw
  rcases hw with e | e | e
  · rw [e]; exact h1
  · rw [e]; exact h2
  · rw [e]; exact h3
/-- a word by its place in its run of the tables -/
theorem lw_at {r : List Cond} (hr : ∀ w ∈ r, w ∈ lw_tbl) {w : Cond} (i : Nat) (h : r[i]? = some w) : w ∈ lw_tbl := hr w (List.mem_of_getElem? h)
theorem lw_g {w : Cond} (h : w ∈ lw_tbl) (g : goodWord w = true) : w ∈ lw_all := List.mem_filter.mpr ⟨h, g⟩
theorem lw_ms : ∀ w ∈ k2_sels lw_privs, w ∈ lw_tbl := fun w h => show w ∈ k2_sels lw_privs ++ tables_1 from List.mem_append_left _ h
theorem lw_m1 : ∀ w ∈ tables_1_1, w ∈ lw_tbl := fun w h => show w ∈ k2_sels lw_privs ++ tables_1 from List.mem_append_right (k2_sels lw_privs) (show w ∈ tables_1 from List.mem_append_left _ h)
theorem lw_m2 : ∀ w ∈ tables_1_2, w ∈ lw_tbl := fun w h => show w ∈ k2_sels lw_privs ++ tables_1 from List.mem_append_right (k2_sels lw_privs) (show w ∈ tables_1 from List.mem_append_right _ (List.mem_append_left _ h))
theorem lw_m3 : ∀ w ∈ tables_1_3, w ∈ lw_tbl := fun w h => show w ∈ k2_sels lw_privs ++ tables_1 from List.mem_append_right (k2_sels lw_privs) (show w ∈ tables_1 from List.mem_append_right _ (List.mem_append_right _ (List.mem_append_left _ h)))
theorem lw_m4 : ∀ w ∈ tables_1_4, w ∈ lw_tbl := fun w h => show w ∈ k2_sels lw_privs ++ tables_1 from List.mem_append_right (k2_sels lw_privs) (show w ∈ tables_1 from List.mem_append_right _ (List.mem_append_right _ (List.mem_append_right _ (List.mem_append_left _ h))))
theorem lw_m5 : ∀ w ∈ tables_1_5, w ∈ lw_tbl := fun w h => show w ∈ k2_sels lw_privs ++ tables_1 from List.mem_append_right (k2_sels lw_privs) (show w ∈ tables_1 from List.mem_append_right _ (List.mem_append_right _ (List.mem_append_right _ (List.mem_append_right _ (List.mem_append_left _ h)))))
theorem lw_m6 : ∀ w ∈ tables_1_6, w ∈ lw_tbl := fun w h => show w ∈ k2_sels lw_privs ++ tables_1 from List.mem_append_right (k2_sels lw_privs) (show w ∈ tables_1 from List.mem_append_right _ (List.mem_append_right _ (List.mem_append_right _ (List.mem_append_right _ (List.mem_append_right _ (List.mem_append_left _ h))))))
theorem lw_m7 : ∀ w ∈ tables_1_7, w ∈ lw_tbl := fun w h => show w ∈ k2_sels lw_privs ++ tables_1 from List.mem_append_right (k2_sels lw_privs) (show w ∈ tables_1 from List.mem_append_right _ (List.mem_append_right _ (List.mem_append_right _ (List.mem_append_right _ (List.mem_append_right _ (List.mem_append_right _ (List.mem_append_left _ h)))))))
theorem lw_m8 : ∀ w ∈ tables_1_8, w ∈ lw_tbl := fun w h => show w ∈ k2_sels lw_privs ++ tables_1 from List.mem_append_right (k2_sels lw_privs) (show w ∈ tables_1 from List.mem_append_right _ (List.mem_append_right _ (List.mem_append_right _ (List.mem_append_right _ (List.mem_append_right _ (List.mem_append_right _ (List.mem_append_right _ (List.mem_append_left _ h))))))))
theorem lw_m9 : ∀ w ∈ tables_1_9, w ∈ lw_tbl := fun w h => show w ∈ k2_sels lw_privs ++ tables_1 from List.mem_append_right (k2_sels lw_privs) (show w ∈ tables_1 from List.mem_append_right _ (List.mem_append_right _ (List.mem_append_right _ (List.mem_append_right _ (List.mem_append_right _ (List.mem_append_right _ (List.mem_append_right _ (List.mem_append_right _ (List.mem_append_left _ h)))))))))
theorem lw_m10 : ∀ w ∈ tables_1_10, w ∈ lw_tbl := fun w h => show w ∈ k2_sels lw_privs ++ tables_1 from List.mem_append_right (k2_sels lw_privs) (show w ∈ tables_1 from List.mem_append_right _ (List.mem_append_right _ (List.mem_append_right _ (List.mem_append_right _ (List.mem_append_right _ (List.mem_append_right _ (List.mem_append_right _ (List.mem_append_right _ (List.mem_append_right _ h)))))))))
theorem qs0 : (Cond.selects "HeadReckons" ⟨"HeadReckons", "isHead", "(I)Z"⟩ ⟨"HeadReckons", "isHead", "(I)Z"⟩) ∈ lw_all := lw_g (lw_at lw_ms 0 rfl) rfl
theorem qs1 : (Cond.selects "HeadReckons$Reader" ⟨"HeadReckons$Reader", "line", "()LHeadReckons$Line;"⟩ ⟨"HeadReckons$Reader", "line", "()LHeadReckons$Line;"⟩) ∈ lw_all := lw_g (lw_at lw_ms 1 rfl) rfl
theorem qs2 : (Cond.selects "HeadReckons$Reader" ⟨"HeadReckons$Reader", "either", "()LHeadReckons$Node;"⟩ ⟨"HeadReckons$Reader", "either", "()LHeadReckons$Node;"⟩) ∈ lw_all := lw_g (lw_at lw_ms 2 rfl) rfl
theorem qs3 : (Cond.selects "HeadReckons$Reader" ⟨"HeadReckons$Reader", "all", "()LHeadReckons$Node;"⟩ ⟨"HeadReckons$Reader", "all", "()LHeadReckons$Node;"⟩) ∈ lw_all := lw_g (lw_at lw_ms 3 rfl) rfl
theorem qs4 : (Cond.selects "HeadReckons$Reader" ⟨"HeadReckons$Reader", "compared", "()LHeadReckons$Node;"⟩ ⟨"HeadReckons$Reader", "compared", "()LHeadReckons$Node;"⟩) ∈ lw_all := lw_g (lw_at lw_ms 4 rfl) rfl
theorem qs5 : (Cond.selects "HeadReckons$Reader" ⟨"HeadReckons$Reader", "sum", "()LHeadReckons$Node;"⟩ ⟨"HeadReckons$Reader", "sum", "()LHeadReckons$Node;"⟩) ∈ lw_all := lw_g (lw_at lw_ms 5 rfl) rfl
theorem qs6 : (Cond.selects "HeadReckons$Reader" ⟨"HeadReckons$Reader", "product", "()LHeadReckons$Node;"⟩ ⟨"HeadReckons$Reader", "product", "()LHeadReckons$Node;"⟩) ∈ lw_all := lw_g (lw_at lw_ms 6 rfl) rfl
theorem qs7 : (Cond.selects "HeadReckons$Reader" ⟨"HeadReckons$Reader", "operand", "()LHeadReckons$Node;"⟩ ⟨"HeadReckons$Reader", "operand", "()LHeadReckons$Node;"⟩) ∈ lw_all := lw_g (lw_at lw_ms 7 rfl) rfl
theorem qs8 : (Cond.selects "HeadReckons$Reader" ⟨"HeadReckons$Reader", "here", "()I"⟩ ⟨"HeadReckons$Reader", "here", "()I"⟩) ∈ lw_all := lw_g (lw_at lw_ms 8 rfl) rfl
theorem qs9 : (Cond.selects "HeadReckons$Reader" ⟨"HeadReckons$Reader", "isOne", "(Ljava/lang/String;)Z"⟩ ⟨"HeadReckons$Reader", "isOne", "(Ljava/lang/String;)Z"⟩) ∈ lw_all := lw_g (lw_at lw_ms 9 rfl) rfl
theorem qs10 : (Cond.selects "HeadReckons$Reader" ⟨"HeadReckons$Reader", "opens", "()Z"⟩ ⟨"HeadReckons$Reader", "opens", "()Z"⟩) ∈ lw_all := lw_g (lw_at lw_ms 10 rfl) rfl
theorem qs11 : (Cond.selects "HeadReckons$Reader" ⟨"HeadReckons$Reader", "wrong", "()LHeadReckons$Node;"⟩ ⟨"HeadReckons$Reader", "wrong", "()LHeadReckons$Node;"⟩) ∈ lw_all := lw_g (lw_at lw_ms 11 rfl) rfl
theorem qs12 : (Cond.selects "HeadReckons$Reader" ⟨"HeadReckons$Reader", "joined", "(ILHeadReckons$Node;LHeadReckons$Node;)LHeadReckons$Node;"⟩ ⟨"HeadReckons$Reader", "joined", "(ILHeadReckons$Node;LHeadReckons$Node;)LHeadReckons$Node;"⟩) ∈ lw_all := lw_g (lw_at lw_ms 12 rfl) rfl
theorem qs13 : (Cond.selects "HeadReckons" ⟨"HeadReckons", "isBy", "(I)Z"⟩ ⟨"HeadReckons", "isBy", "(I)Z"⟩) ∈ lw_all := lw_g (lw_at lw_ms 13 rfl) rfl
theorem qs14 : (Cond.selects "HeadReckons" ⟨"HeadReckons", "lays", "(II)Z"⟩ ⟨"HeadReckons", "lays", "(II)Z"⟩) ∈ lw_all := lw_g (lw_at lw_ms 14 rfl) rfl
theorem qs15 : (Cond.selects "HeadReckons$Acts" ⟨"HeadReckons$Acts", "begin", "()V"⟩ ⟨"HeadReckons$Acts", "begin", "()V"⟩) ∈ lw_all := lw_g (lw_at lw_ms 15 rfl) rfl
theorem qs16 : (Cond.selects "HeadReckons$Acts" ⟨"HeadReckons$Acts", "look", "(JJJ)V"⟩ ⟨"HeadReckons$Acts", "look", "(JJJ)V"⟩) ∈ lw_all := lw_g (lw_at lw_ms 16 rfl) rfl
theorem qs17 : (Cond.selects "HeadReckons$Acts" ⟨"HeadReckons$Acts", "act", "(IJIJ)V"⟩ ⟨"HeadReckons$Acts", "act", "(IJIJ)V"⟩) ∈ lw_all := lw_g (lw_at lw_ms 17 rfl) rfl
theorem qs18 : (Cond.selects "HeadReckons$Acts" ⟨"HeadReckons$Acts", "left", "(JJ)V"⟩ ⟨"HeadReckons$Acts", "left", "(JJ)V"⟩) ∈ lw_all := lw_g (lw_at lw_ms 18 rfl) rfl
theorem qs19 : (Cond.selects "HeadReckons$Acts" ⟨"HeadReckons$Acts", "right", "(JJ)V"⟩ ⟨"HeadReckons$Acts", "right", "(JJ)V"⟩) ∈ lw_all := lw_g (lw_at lw_ms 19 rfl) rfl
theorem qs20 : (Cond.selects "HeadReckons$Acts" ⟨"HeadReckons$Acts", "hold", "(JI)V"⟩ ⟨"HeadReckons$Acts", "hold", "(JI)V"⟩) ∈ lw_all := lw_g (lw_at lw_ms 20 rfl) rfl
theorem qs21 : (Cond.selects "HeadReckons$Acts" ⟨"HeadReckons$Acts", "crossed", "(JJ)V"⟩ ⟨"HeadReckons$Acts", "crossed", "(JJ)V"⟩) ∈ lw_all := lw_g (lw_at lw_ms 21 rfl) rfl
theorem qs22 : (Cond.selects "HeadReckons$Acts" ⟨"HeadReckons$Acts", "squared", "(JJ)Z"⟩ ⟨"HeadReckons$Acts", "squared", "(JJ)Z"⟩) ∈ lw_all := lw_g (lw_at lw_ms 22 rfl) rfl
theorem qs23 : (Cond.selects "HeadReckons$Acts" ⟨"HeadReckons$Acts", "split", "(JJ)Z"⟩ ⟨"HeadReckons$Acts", "split", "(JJ)Z"⟩) ∈ lw_all := lw_g (lw_at lw_ms 23 rfl) rfl
theorem qs24 : (Cond.selects "HeadReckons" ⟨"HeadReckons", "chosenOf", "(LHeadReckons$Head;II)I"⟩ ⟨"HeadReckons", "chosenOf", "(LHeadReckons$Head;II)I"⟩) ∈ lw_all := lw_g (lw_at lw_ms 24 rfl) rfl
theorem qs25 : (Cond.selects "HeadReckons" ⟨"HeadReckons", "gives", "()I"⟩ ⟨"HeadReckons", "gives", "()I"⟩) ∈ lw_all := lw_g (lw_at lw_ms 25 rfl) rfl
theorem qs26 : (Cond.selects "HeadReckons" ⟨"HeadReckons", "chosenSeconds", "(LHeadReckons$Head;II)I"⟩ ⟨"HeadReckons", "chosenSeconds", "(LHeadReckons$Head;II)I"⟩) ∈ lw_all := lw_g (lw_at lw_ms 26 rfl) rfl
theorem qs27 : (Cond.selects "java/lang/NullPointerException" ⟨"java/lang/NullPointerException", "getExtendedNPEMessage", "()Ljava/lang/String;"⟩ ⟨"java/lang/NullPointerException", "getExtendedNPEMessage", "()Ljava/lang/String;"⟩) ∈ lw_all := lw_g (lw_at lw_ms 27 rfl) rfl
theorem qs28 : (Cond.selects "java/lang/Throwable" ⟨"java/lang/Throwable", "fillInStackTrace", "(I)Ljava/lang/Throwable;"⟩ ⟨"java/lang/Throwable", "fillInStackTrace", "(I)Ljava/lang/Throwable;"⟩) ∈ lw_all := lw_g (lw_at lw_ms 28 rfl) rfl
theorem qs29 : (Cond.selects "HeadReckons" ⟨"HeadReckons", "isAsk", "(I)Z"⟩ ⟨"HeadReckons", "isAsk", "(I)Z"⟩) ∈ lw_all := lw_g (lw_at lw_ms 29 rfl) rfl
theorem qs30 : (Cond.selects "HeadReckons" ⟨"HeadReckons", "doesFit", "(LHeadReckons$Head;II)Z"⟩ ⟨"HeadReckons", "doesFit", "(LHeadReckons$Head;II)Z"⟩) ∈ lw_all := lw_g (lw_at lw_ms 30 rfl) rfl
theorem qs31 : (Cond.selects "HeadReckons" ⟨"HeadReckons", "isBySlip", "(J)Z"⟩ ⟨"HeadReckons", "isBySlip", "(J)Z"⟩) ∈ lw_all := lw_g (lw_at lw_ms 31 rfl) rfl
theorem qs32 : (Cond.selects "HeadReckons" ⟨"HeadReckons", "differs", "(LHeadReckons$Head;I)I"⟩ ⟨"HeadReckons", "differs", "(LHeadReckons$Head;I)I"⟩) ∈ lw_all := lw_g (lw_at lw_ms 32 rfl) rfl
theorem qs33 : (Cond.selects "HeadReckons$Head" ⟨"HeadReckons$Head", "add", "(III)LHeadReckons$Learnt;"⟩ ⟨"HeadReckons$Head", "add", "(III)LHeadReckons$Learnt;"⟩) ∈ lw_all := lw_g (lw_at lw_ms 33 rfl) rfl
theorem qs34 : (Cond.selects "HeadReckons" ⟨"HeadReckons", "canTeach", "()Z"⟩ ⟨"HeadReckons", "canTeach", "()Z"⟩) ∈ lw_all := lw_g (lw_at lw_ms 34 rfl) rfl
theorem qs35 : (Cond.selects "HeadReckons" ⟨"HeadReckons", "teach", "(I)I"⟩ ⟨"HeadReckons", "teach", "(I)I"⟩) ∈ lw_all := lw_g (lw_at lw_ms 35 rfl) rfl
theorem qs36 : (Cond.selects "HeadReckons" ⟨"HeadReckons", "orders", "(LHeadReckons$Head;[III)V"⟩ ⟨"HeadReckons", "orders", "(LHeadReckons$Head;[III)V"⟩) ∈ lw_all := lw_g (lw_at lw_ms 36 rfl) rfl
theorem qs37 : (Cond.selects "HeadReckons" ⟨"HeadReckons", "rootsBy", "(JII)J"⟩ ⟨"HeadReckons", "rootsBy", "(JII)J"⟩) ∈ lw_all := lw_g (lw_at lw_ms 37 rfl) rfl
theorem qs38 : (Cond.selects "HeadReckons" ⟨"HeadReckons", "made", "(I)LHeadReckons$Way;"⟩ ⟨"HeadReckons", "made", "(I)LHeadReckons$Way;"⟩) ∈ lw_all := lw_g (lw_at lw_ms 38 rfl) rfl
theorem qs39 : (Cond.selects "HeadReckons" ⟨"HeadReckons", "isBody", "(I)Z"⟩ ⟨"HeadReckons", "isBody", "(I)Z"⟩) ∈ lw_all := lw_g (lw_at lw_ms 39 rfl) rfl
theorem qs40 : (Cond.selects "HeadReckons" ⟨"HeadReckons", "ran", "(I)V"⟩ ⟨"HeadReckons", "ran", "(I)V"⟩) ∈ lw_all := lw_g (lw_at lw_ms 40 rfl) rfl
theorem qs41 : (Cond.selects "HeadReckonsModel" ⟨"HeadReckonsModel", "workOut", "(II)I"⟩ ⟨"HeadReckonsModel", "workOut", "(II)I"⟩) ∈ lw_all := lw_g (lw_at lw_ms 41 rfl) rfl
theorem qs42 : (Cond.selects "HeadReckonsModel" ⟨"HeadReckonsModel", "either", "()I"⟩ ⟨"HeadReckonsModel", "either", "()I"⟩) ∈ lw_all := lw_g (lw_at lw_ms 42 rfl) rfl
theorem qs43 : (Cond.selects "HeadReckonsModel" ⟨"HeadReckonsModel", "both", "()I"⟩ ⟨"HeadReckonsModel", "both", "()I"⟩) ∈ lw_all := lw_g (lw_at lw_ms 43 rfl) rfl
theorem qs44 : (Cond.selects "HeadReckonsModel" ⟨"HeadReckonsModel", "compared", "()I"⟩ ⟨"HeadReckonsModel", "compared", "()I"⟩) ∈ lw_all := lw_g (lw_at lw_ms 44 rfl) rfl
theorem qs45 : (Cond.selects "HeadReckonsModel" ⟨"HeadReckonsModel", "sums", "()I"⟩ ⟨"HeadReckonsModel", "sums", "()I"⟩) ∈ lw_all := lw_g (lw_at lw_ms 45 rfl) rfl
theorem qs46 : (Cond.selects "HeadReckonsModel" ⟨"HeadReckonsModel", "product", "()I"⟩ ⟨"HeadReckonsModel", "product", "()I"⟩) ∈ lw_all := lw_g (lw_at lw_ms 46 rfl) rfl
theorem qs47 : (Cond.selects "HeadReckonsModel" ⟨"HeadReckonsModel", "one", "()I"⟩ ⟨"HeadReckonsModel", "one", "()I"⟩) ∈ lw_all := lw_g (lw_at lw_ms 47 rfl) rfl
theorem qs48 : (Cond.selects "HeadReckonsModel" ⟨"HeadReckonsModel", "byteAt", "()I"⟩ ⟨"HeadReckonsModel", "byteAt", "()I"⟩) ∈ lw_all := lw_g (lw_at lw_ms 48 rfl) rfl
theorem qs49 : (Cond.selects "HeadReckonsModel" ⟨"HeadReckonsModel", "wrong", "()I"⟩ ⟨"HeadReckonsModel", "wrong", "()I"⟩) ∈ lw_all := lw_g (lw_at lw_ms 49 rfl) rfl
theorem qs50 : (Cond.selects "HeadReckonsModel" ⟨"HeadReckonsModel", "takes", "(I)Z"⟩ ⟨"HeadReckonsModel", "takes", "(I)Z"⟩) ∈ lw_all := lw_g (lw_at lw_ms 50 rfl) rfl
theorem qs51 : (Cond.selects "HeadReckonsModel" ⟨"HeadReckonsModel", "readOne", "(II)I"⟩ ⟨"HeadReckonsModel", "readOne", "(II)I"⟩) ∈ lw_all := lw_g (lw_at lw_ms 51 rfl) rfl
theorem qs52 : (Cond.selects "HeadReckonsModel" ⟨"HeadReckonsModel", "isHead", "(I)Z"⟩ ⟨"HeadReckonsModel", "isHead", "(I)Z"⟩) ∈ lw_all := lw_g (lw_at lw_ms 52 rfl) rfl
theorem qs53 : (Cond.selects "HeadReckonsModel" ⟨"HeadReckonsModel", "learntOf", "(I)I"⟩ ⟨"HeadReckonsModel", "learntOf", "(I)I"⟩) ∈ lw_all := lw_g (lw_at lw_ms 53 rfl) rfl
theorem qs54 : (Cond.selects "HeadReckonsModel" ⟨"HeadReckonsModel", "becomes", "(II)I"⟩ ⟨"HeadReckonsModel", "becomes", "(II)I"⟩) ∈ lw_all := lw_g (lw_at lw_ms 54 rfl) rfl
theorem qs55 : (Cond.selects "HeadReckonsModel" ⟨"HeadReckonsModel", "askOf", "(II)I"⟩ ⟨"HeadReckonsModel", "askOf", "(II)I"⟩) ∈ lw_all := lw_g (lw_at lw_ms 55 rfl) rfl
theorem qs56 : (Cond.selects "HeadReckonsModel" ⟨"HeadReckonsModel", "pairAt", "(II)I"⟩ ⟨"HeadReckonsModel", "pairAt", "(II)I"⟩) ∈ lw_all := lw_g (lw_at lw_ms 56 rfl) rfl
theorem qs57 : (Cond.selects "HeadReckonsModel" ⟨"HeadReckonsModel", "isHw", "(I)Z"⟩ ⟨"HeadReckonsModel", "isHw", "(I)Z"⟩) ∈ lw_all := lw_g (lw_at lw_ms 57 rfl) rfl
theorem qs58 : (Cond.selects "HeadReckonsModel" ⟨"HeadReckonsModel", "layOut", "(IIII)Z"⟩ ⟨"HeadReckonsModel", "layOut", "(IIII)Z"⟩) ∈ lw_all := lw_g (lw_at lw_ms 58 rfl) rfl
theorem qs59 : (Cond.selects "HeadReckonsModel" ⟨"HeadReckonsModel", "isKnown", "(II)Z"⟩ ⟨"HeadReckonsModel", "isKnown", "(II)Z"⟩) ∈ lw_all := lw_g (lw_at lw_ms 59 rfl) rfl
theorem qs60 : (Cond.selects "HeadReckonsModel" ⟨"HeadReckonsModel", "isLearnt", "(II)Z"⟩ ⟨"HeadReckonsModel", "isLearnt", "(II)Z"⟩) ∈ lw_all := lw_g (lw_at lw_ms 60 rfl) rfl
theorem qs61 : (Cond.selects "HeadReckonsModel" ⟨"HeadReckonsModel", "acts", "(IIII)V"⟩ ⟨"HeadReckonsModel", "acts", "(IIII)V"⟩) ∈ lw_all := lw_g (lw_at lw_ms 61 rfl) rfl
theorem qs62 : (Cond.selects "HeadReckonsModel" ⟨"HeadReckonsModel", "goLeft", "(II)V"⟩ ⟨"HeadReckonsModel", "goLeft", "(II)V"⟩) ∈ lw_all := lw_g (lw_at lw_ms 62 rfl) rfl
theorem qs63 : (Cond.selects "HeadReckonsModel" ⟨"HeadReckonsModel", "lookAndAdd", "(IIIZI)Z"⟩ ⟨"HeadReckonsModel", "lookAndAdd", "(IIIZI)Z"⟩) ∈ lw_all := lw_g (lw_at lw_ms 63 rfl) rfl
theorem qs64 : (Cond.selects "HeadReckonsModel" ⟨"HeadReckonsModel", "goRight", "(II)V"⟩ ⟨"HeadReckonsModel", "goRight", "(II)V"⟩) ∈ lw_all := lw_g (lw_at lw_ms 64 rfl) rfl
theorem qs65 : (Cond.selects "HeadReckonsModel" ⟨"HeadReckonsModel", "holds", "()V"⟩ ⟨"HeadReckonsModel", "holds", "()V"⟩) ∈ lw_all := lw_g (lw_at lw_ms 65 rfl) rfl
theorem qs66 : (Cond.selects "HeadReckonsModel" ⟨"HeadReckonsModel", "goCrossed", "(II)V"⟩ ⟨"HeadReckonsModel", "goCrossed", "(II)V"⟩) ∈ lw_all := lw_g (lw_at lw_ms 66 rfl) rfl
theorem qs67 : (Cond.selects "HeadReckonsModel" ⟨"HeadReckonsModel", "goSquared", "(II)Z"⟩ ⟨"HeadReckonsModel", "goSquared", "(II)Z"⟩) ∈ lw_all := lw_g (lw_at lw_ms 67 rfl) rfl
theorem qs68 : (Cond.selects "HeadReckonsModel" ⟨"HeadReckonsModel", "goSplit", "(II)Z"⟩ ⟨"HeadReckonsModel", "goSplit", "(II)Z"⟩) ∈ lw_all := lw_g (lw_at lw_ms 68 rfl) rfl
theorem qs69 : (Cond.selects "HeadReckonsModel" ⟨"HeadReckonsModel", "seconds", "()I"⟩ ⟨"HeadReckonsModel", "seconds", "()I"⟩) ∈ lw_all := lw_g (lw_at lw_ms 69 rfl) rfl
theorem qs70 : (Cond.selects "HeadReckonsModel" ⟨"HeadReckonsModel", "mostHeld", "()I"⟩ ⟨"HeadReckonsModel", "mostHeld", "()I"⟩) ∈ lw_all := lw_g (lw_at lw_ms 70 rfl) rfl
theorem qs71 : (Cond.selects "HeadReckonsModel" ⟨"HeadReckonsModel", "chosenBy", "(III)I"⟩ ⟨"HeadReckonsModel", "chosenBy", "(III)I"⟩) ∈ lw_all := lw_g (lw_at lw_ms 71 rfl) rfl
theorem qs72 : (Cond.selects "HeadReckonsModel" ⟨"HeadReckonsModel", "offBy", "(I)I"⟩ ⟨"HeadReckonsModel", "offBy", "(I)I"⟩) ∈ lw_all := lw_g (lw_at lw_ms 72 rfl) rfl
theorem qs73 : (Cond.selects "HeadReckonsModel" ⟨"HeadReckonsModel", "doesFit", "(III)Z"⟩ ⟨"HeadReckonsModel", "doesFit", "(III)Z"⟩) ∈ lw_all := lw_g (lw_at lw_ms 73 rfl) rfl
theorem qs74 : (Cond.selects "HeadReckonsModel" ⟨"HeadReckonsModel", "slipsOf", "(I)I"⟩ ⟨"HeadReckonsModel", "slipsOf", "(I)I"⟩) ∈ lw_all := lw_g (lw_at lw_ms 74 rfl) rfl
theorem qs75 : (Cond.selects "HeadReckonsModel" ⟨"HeadReckonsModel", "canSlip", "(II)Z"⟩ ⟨"HeadReckonsModel", "canSlip", "(II)Z"⟩) ∈ lw_all := lw_g (lw_at lw_ms 75 rfl) rfl
theorem qs76 : (Cond.selects "HeadReckonsModel" ⟨"HeadReckonsModel", "offSum", "(II)I"⟩ ⟨"HeadReckonsModel", "offSum", "(II)I"⟩) ∈ lw_all := lw_g (lw_at lw_ms 76 rfl) rfl
theorem qs77 : (Cond.selects "HeadReckonsModel" ⟨"HeadReckonsModel", "isListBad", "()Z"⟩ ⟨"HeadReckonsModel", "isListBad", "()Z"⟩) ∈ lw_all := lw_g (lw_at lw_ms 77 rfl) rfl
theorem qs78 : (Cond.selects "HeadReckonsModel" ⟨"HeadReckonsModel", "keeps", "(I)V"⟩ ⟨"HeadReckonsModel", "keeps", "(I)V"⟩) ∈ lw_all := lw_g (lw_at lw_ms 78 rfl) rfl
theorem qs79 : (Cond.selects "HeadReckonsModel" ⟨"HeadReckonsModel", "asksOne", "(II)I"⟩ ⟨"HeadReckonsModel", "asksOne", "(II)I"⟩) ∈ lw_all := lw_g (lw_at lw_ms 79 rfl) rfl
theorem qs80 : (Cond.selects "HeadReckonsModel" ⟨"HeadReckonsModel", "putsBack", "(I)V"⟩ ⟨"HeadReckonsModel", "putsBack", "(I)V"⟩) ∈ lw_all := lw_g (lw_at lw_ms 80 rfl) rfl
theorem qs81 : (Cond.selects "HeadReckonsModel" ⟨"HeadReckonsModel", "ordersFrom", "(IIIII)V"⟩ ⟨"HeadReckonsModel", "ordersFrom", "(IIIII)V"⟩) ∈ lw_all := lw_g (lw_at lw_ms 81 rfl) rfl
theorem qs82 : (Cond.selects "HeadReckonsModel" ⟨"HeadReckonsModel", "manyFirsts", "(JII)J"⟩ ⟨"HeadReckonsModel", "manyFirsts", "(JII)J"⟩) ∈ lw_all := lw_g (lw_at lw_ms 82 rfl) rfl
theorem qs83 : (Cond.selects "HeadReckonsModel" ⟨"HeadReckonsModel", "isBody", "(I)Z"⟩ ⟨"HeadReckonsModel", "isBody", "(I)Z"⟩) ∈ lw_all := lw_g (lw_at lw_ms 83 rfl) rfl
theorem qs84 : (Cond.selects "HeadReckonsModel" ⟨"HeadReckonsModel", "costsAs", "(II)I"⟩ ⟨"HeadReckonsModel", "costsAs", "(II)I"⟩) ∈ lw_all := lw_g (lw_at lw_ms 84 rfl) rfl
theorem qs85 : (Cond.selects "HeadReckonsModel" ⟨"HeadReckonsModel", "begins", "(I)V"⟩ ⟨"HeadReckonsModel", "begins", "(I)V"⟩) ∈ lw_all := lw_g (lw_at lw_ms 85 rfl) rfl
theorem qs86 : (Cond.selects "HeadReckonsModel" ⟨"HeadReckonsModel", "keepsAs", "(II)I"⟩ ⟨"HeadReckonsModel", "keepsAs", "(II)I"⟩) ∈ lw_all := lw_g (lw_at lw_ms 86 rfl) rfl
theorem qs87 : (Cond.selects "HeadReckonsModel" ⟨"HeadReckonsModel", "slipsAs", "(II)I"⟩ ⟨"HeadReckonsModel", "slipsAs", "(II)I"⟩) ∈ lw_all := lw_g (lw_at lw_ms 87 rfl) rfl
theorem qs88 : (Cond.selects "HeadReckonsModel" ⟨"HeadReckonsModel", "tellsAs", "(II)I"⟩ ⟨"HeadReckonsModel", "tellsAs", "(II)I"⟩) ∈ lw_all := lw_g (lw_at lw_ms 88 rfl) rfl
theorem qs89 : (Cond.selects "HeadReckonsModel" ⟨"HeadReckonsModel", "refusal", "(II)I"⟩ ⟨"HeadReckonsModel", "refusal", "(II)I"⟩) ∈ lw_all := lw_g (lw_at lw_ms 89 rfl) rfl
theorem qs90 : (Cond.selects "HeadReckonsModel" ⟨"HeadReckonsModel", "kindOf", "(I)I"⟩ ⟨"HeadReckonsModel", "kindOf", "(I)I"⟩) ∈ lw_all := lw_g (lw_at lw_ms 90 rfl) rfl
