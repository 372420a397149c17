-- ===== PART A: goes FIRST, ahead of the names: the tables' words, and 'selects' of the private methods out of them =====
/-- a private method of a class that the tables say can be made, by its rows of tables_1 -/
def lw_okq (q : MethodName × Nat) : Prop := (q.1.cls ≠ "java/lang/invoke/MethodHandle" ∧ q.1.cls ≠ "java/lang/invoke/VarHandle") ∧ Cond.instantiable q.1.cls q.2 ∈ tables_1 ∧ Cond.privateMethod q.1 ∈ tables_1 ∧ Cond.instanceMethod q.1 ∈ tables_1
set_option maxRecDepth 100000
theorem lw_t1 {w : Cond} (h : w ∈ tables_1_1) : w ∈ tables_1 := List.mem_append_left _ h
theorem lw_t2 {w : Cond} (h : w ∈ tables_1_2) : w ∈ tables_1 := List.mem_append_right _ (List.mem_append_left _ h)
theorem lw_t3 {w : Cond} (h : w ∈ tables_1_3) : w ∈ tables_1 := List.mem_append_right _ (List.mem_append_right _ (List.mem_append_left _ h))
theorem lw_t4 {w : Cond} (h : w ∈ tables_1_4) : w ∈ tables_1 := List.mem_append_right _ (List.mem_append_right _ (List.mem_append_right _ (List.mem_append_left _ h)))
theorem lw_t5 {w : Cond} (h : w ∈ tables_1_5) : w ∈ tables_1 := List.mem_append_right _ (List.mem_append_right _ (List.mem_append_right _ (List.mem_append_right _ (List.mem_append_left _ h))))
theorem lw_t6 {w : Cond} (h : w ∈ tables_1_6) : w ∈ tables_1 := List.mem_append_right _ (List.mem_append_right _ (List.mem_append_right _ (List.mem_append_right _ (List.mem_append_right _ (List.mem_append_left _ h)))))
theorem lw_t7 {w : Cond} (h : w ∈ tables_1_7) : w ∈ tables_1 := List.mem_append_right _ (List.mem_append_right _ (List.mem_append_right _ (List.mem_append_right _ (List.mem_append_right _ (List.mem_append_right _ (List.mem_append_left _ h))))))
theorem lw_t8 {w : Cond} (h : w ∈ tables_1_8) : w ∈ tables_1 := List.mem_append_right _ (List.mem_append_right _ (List.mem_append_right _ (List.mem_append_right _ (List.mem_append_right _ (List.mem_append_right _ (List.mem_append_right _ h))))))
theorem lw_p0 : lw_okq (⟨"java/lang/Throwable", "fillInStackTrace", "(I)Ljava/lang/Throwable;"⟩, 6) := ⟨⟨by decide +kernel, by decide +kernel⟩, lw_t1 (List.mem_of_getElem? (i := 69) rfl), lw_t1 (List.mem_of_getElem? (i := 67) rfl), lw_t1 (List.mem_of_getElem? (i := 68) rfl)⟩
theorem lw_p1 : lw_okq (⟨"FrostBox", "lawFault", "()I"⟩, 42) := ⟨⟨by decide +kernel, by decide +kernel⟩, lw_t1 (List.mem_of_getElem? (i := 26) rfl), lw_t1 (List.mem_of_getElem? (i := 238) rfl), lw_t1 (List.mem_of_getElem? (i := 239) rfl)⟩
theorem lw_p2 : lw_okq (⟨"FrostBox", "wholeLaw", "()LFrostBox$Clause;"⟩, 42) := ⟨⟨by decide +kernel, by decide +kernel⟩, lw_t1 (List.mem_of_getElem? (i := 26) rfl), lw_t2 (List.mem_of_getElem? (i := 2) rfl), lw_t2 (List.mem_of_getElem? (i := 3) rfl)⟩
theorem lw_p3 : lw_okq (⟨"FrostBox", "clause", "()LFrostBox$Clause;"⟩, 42) := ⟨⟨by decide +kernel, by decide +kernel⟩, lw_t1 (List.mem_of_getElem? (i := 26) rfl), lw_t2 (List.mem_of_getElem? (i := 6) rfl), lw_t2 (List.mem_of_getElem? (i := 7) rfl)⟩
theorem lw_p4 : lw_okq (⟨"FrostBox", "look", "()I"⟩, 42) := ⟨⟨by decide +kernel, by decide +kernel⟩, lw_t1 (List.mem_of_getElem? (i := 26) rfl), lw_t2 (List.mem_of_getElem? (i := 10) rfl), lw_t2 (List.mem_of_getElem? (i := 11) rfl)⟩
theorem lw_p5 : lw_okq (⟨"FrostBox", "need", "(Z)V"⟩, 42) := ⟨⟨by decide +kernel, by decide +kernel⟩, lw_t1 (List.mem_of_getElem? (i := 26) rfl), lw_t2 (List.mem_of_getElem? (i := 101) rfl), lw_t2 (List.mem_of_getElem? (i := 102) rfl)⟩
theorem lw_p6 : lw_okq (⟨"FrostBox", "sum", "()LFrostBox$Sum;"⟩, 42) := ⟨⟨by decide +kernel, by decide +kernel⟩, lw_t1 (List.mem_of_getElem? (i := 26) rfl), lw_t2 (List.mem_of_getElem? (i := 105) rfl), lw_t2 (List.mem_of_getElem? (i := 106) rfl)⟩
theorem lw_p7 : lw_okq (⟨"FrostBox", "term", "()LFrostBox$Sum;"⟩, 42) := ⟨⟨by decide +kernel, by decide +kernel⟩, lw_t1 (List.mem_of_getElem? (i := 26) rfl), lw_t2 (List.mem_of_getElem? (i := 109) rfl), lw_t2 (List.mem_of_getElem? (i := 110) rfl)⟩
theorem lw_p8 : lw_okq (⟨"FrostBox", "atom", "()LFrostBox$Sum;"⟩, 42) := ⟨⟨by decide +kernel, by decide +kernel⟩, lw_t1 (List.mem_of_getElem? (i := 26) rfl), lw_t2 (List.mem_of_getElem? (i := 113) rfl), lw_t2 (List.mem_of_getElem? (i := 114) rfl)⟩
theorem lw_p9 : lw_okq (⟨"FrostBox", "opens", "()V"⟩, 42) := ⟨⟨by decide +kernel, by decide +kernel⟩, lw_t1 (List.mem_of_getElem? (i := 26) rfl), lw_t2 (List.mem_of_getElem? (i := 117) rfl), lw_t2 (List.mem_of_getElem? (i := 118) rfl)⟩
theorem lw_p10 : lw_okq (⟨"FrostBox", "closes", "(I)V"⟩, 42) := ⟨⟨by decide +kernel, by decide +kernel⟩, lw_t1 (List.mem_of_getElem? (i := 26) rfl), lw_t2 (List.mem_of_getElem? (i := 121) rfl), lw_t2 (List.mem_of_getElem? (i := 122) rfl)⟩
theorem lw_p11 : lw_okq (⟨"FrostBox", "condition", "(LFrostBox$Sum;)LFrostBox$Test;"⟩, 42) := ⟨⟨by decide +kernel, by decide +kernel⟩, lw_t1 (List.mem_of_getElem? (i := 26) rfl), lw_t2 (List.mem_of_getElem? (i := 212) rfl), lw_t2 (List.mem_of_getElem? (i := 213) rfl)⟩
theorem lw_p12 : lw_okq (⟨"FrostBox", "part", "(LFrostBox$Sum;)LFrostBox$Test;"⟩, 42) := ⟨⟨by decide +kernel, by decide +kernel⟩, lw_t1 (List.mem_of_getElem? (i := 26) rfl), lw_t2 (List.mem_of_getElem? (i := 216) rfl), lw_t2 (List.mem_of_getElem? (i := 217) rfl)⟩
theorem lw_p13 : lw_okq (⟨"FrostBox", "unit", "()LFrostBox$Test;"⟩, 42) := ⟨⟨by decide +kernel, by decide +kernel⟩, lw_t1 (List.mem_of_getElem? (i := 26) rfl), lw_t2 (List.mem_of_getElem? (i := 220) rfl), lw_t2 (List.mem_of_getElem? (i := 221) rfl)⟩
theorem lw_p14 : lw_okq (⟨"FrostBox", "compare", "(LFrostBox$Sum;)LFrostBox$Test;"⟩, 42) := ⟨⟨by decide +kernel, by decide +kernel⟩, lw_t1 (List.mem_of_getElem? (i := 26) rfl), lw_t3 (List.mem_of_getElem? (i := 0) rfl), lw_t3 (List.mem_of_getElem? (i := 1) rfl)⟩
theorem lw_p15 : lw_okq (⟨"FrostBox", "readAs", "(I)V"⟩, 42) := ⟨⟨by decide +kernel, by decide +kernel⟩, lw_t1 (List.mem_of_getElem? (i := 26) rfl), lw_t3 (List.mem_of_getElem? (i := 42) rfl), lw_t3 (List.mem_of_getElem? (i := 43) rfl)⟩
def lw_privs_1 : List (MethodName × Nat) := [(⟨"java/lang/Throwable", "fillInStackTrace", "(I)Ljava/lang/Throwable;"⟩, 6), (⟨"FrostBox", "lawFault", "()I"⟩, 42), (⟨"FrostBox", "wholeLaw", "()LFrostBox$Clause;"⟩, 42), (⟨"FrostBox", "clause", "()LFrostBox$Clause;"⟩, 42), (⟨"FrostBox", "look", "()I"⟩, 42), (⟨"FrostBox", "need", "(Z)V"⟩, 42), (⟨"FrostBox", "sum", "()LFrostBox$Sum;"⟩, 42), (⟨"FrostBox", "term", "()LFrostBox$Sum;"⟩, 42), (⟨"FrostBox", "atom", "()LFrostBox$Sum;"⟩, 42), (⟨"FrostBox", "opens", "()V"⟩, 42), (⟨"FrostBox", "closes", "(I)V"⟩, 42), (⟨"FrostBox", "condition", "(LFrostBox$Sum;)LFrostBox$Test;"⟩, 42), (⟨"FrostBox", "part", "(LFrostBox$Sum;)LFrostBox$Test;"⟩, 42), (⟨"FrostBox", "unit", "()LFrostBox$Test;"⟩, 42), (⟨"FrostBox", "compare", "(LFrostBox$Sum;)LFrostBox$Test;"⟩, 42), (⟨"FrostBox", "readAs", "(I)V"⟩, 42)]
theorem lw_r1 : ∀ q ∈ lw_privs_1, lw_okq q := List.forall_mem_cons.mpr ⟨lw_p0, List.forall_mem_cons.mpr ⟨lw_p1, List.forall_mem_cons.mpr ⟨lw_p2, List.forall_mem_cons.mpr ⟨lw_p3, List.forall_mem_cons.mpr ⟨lw_p4, List.forall_mem_cons.mpr ⟨lw_p5, List.forall_mem_cons.mpr ⟨lw_p6, List.forall_mem_cons.mpr ⟨lw_p7, List.forall_mem_cons.mpr ⟨lw_p8, List.forall_mem_cons.mpr ⟨lw_p9, List.forall_mem_cons.mpr ⟨lw_p10, List.forall_mem_cons.mpr ⟨lw_p11, List.forall_mem_cons.mpr ⟨lw_p12, List.forall_mem_cons.mpr ⟨lw_p13, List.forall_mem_cons.mpr ⟨lw_p14, List.forall_mem_cons.mpr ⟨lw_p15, fun _ h => absurd h List.not_mem_nil⟩⟩⟩⟩⟩⟩⟩⟩⟩⟩⟩⟩⟩⟩⟩⟩
theorem lw_p16 : lw_okq (⟨"FrostBox", "wholeHouse", "()V"⟩, 42) := ⟨⟨by decide +kernel, by decide +kernel⟩, lw_t1 (List.mem_of_getElem? (i := 26) rfl), lw_t3 (List.mem_of_getElem? (i := 46) rfl), lw_t3 (List.mem_of_getElem? (i := 47) rfl)⟩
theorem lw_p17 : lw_okq (⟨"FrostBox", "items", "(I[III)V"⟩, 42) := ⟨⟨by decide +kernel, by decide +kernel⟩, lw_t1 (List.mem_of_getElem? (i := 26) rfl), lw_t3 (List.mem_of_getElem? (i := 53) rfl), lw_t3 (List.mem_of_getElem? (i := 54) rfl)⟩
theorem lw_p18 : lw_okq (⟨"FrostBox", "there", "()I"⟩, 42) := ⟨⟨by decide +kernel, by decide +kernel⟩, lw_t1 (List.mem_of_getElem? (i := 26) rfl), lw_t3 (List.mem_of_getElem? (i := 57) rfl), lw_t3 (List.mem_of_getElem? (i := 58) rfl)⟩
theorem lw_p19 : lw_okq (⟨"FrostBox", "number", "(II)I"⟩, 42) := ⟨⟨by decide +kernel, by decide +kernel⟩, lw_t1 (List.mem_of_getElem? (i := 26) rfl), lw_t3 (List.mem_of_getElem? (i := 76) rfl), lw_t3 (List.mem_of_getElem? (i := 77) rfl)⟩
theorem lw_p20 : lw_okq (⟨"FrostBox", "isWhole", "()Z"⟩, 42) := ⟨⟨by decide +kernel, by decide +kernel⟩, lw_t1 (List.mem_of_getElem? (i := 26) rfl), lw_t3 (List.mem_of_getElem? (i := 83) rfl), lw_t3 (List.mem_of_getElem? (i := 84) rfl)⟩
theorem lw_p21 : lw_okq (⟨"FrostBox", "wholePlan", "(I)V"⟩, 42) := ⟨⟨by decide +kernel, by decide +kernel⟩, lw_t1 (List.mem_of_getElem? (i := 26) rfl), lw_t3 (List.mem_of_getElem? (i := 87) rfl), lw_t3 (List.mem_of_getElem? (i := 88) rfl)⟩
theorem lw_p22 : lw_okq (⟨"FrostBox", "stepRead", "(I)V"⟩, 42) := ⟨⟨by decide +kernel, by decide +kernel⟩, lw_t1 (List.mem_of_getElem? (i := 26) rfl), lw_t3 (List.mem_of_getElem? (i := 91) rfl), lw_t3 (List.mem_of_getElem? (i := 92) rfl)⟩
theorem lw_p23 : lw_okq (⟨"FrostBox", "digit", "(I)I"⟩, 42) := ⟨⟨by decide +kernel, by decide +kernel⟩, lw_t1 (List.mem_of_getElem? (i := 26) rfl), lw_t3 (List.mem_of_getElem? (i := 96) rfl), lw_t3 (List.mem_of_getElem? (i := 97) rfl)⟩
theorem lw_p24 : lw_okq (⟨"FrostBox", "lawRead", "()I"⟩, 42) := ⟨⟨by decide +kernel, by decide +kernel⟩, lw_t1 (List.mem_of_getElem? (i := 26) rfl), lw_t3 (List.mem_of_getElem? (i := 104) rfl), lw_t3 (List.mem_of_getElem? (i := 105) rfl)⟩
theorem lw_p25 : lw_okq (⟨"FrostBox", "planRead", "()I"⟩, 42) := ⟨⟨by decide +kernel, by decide +kernel⟩, lw_t1 (List.mem_of_getElem? (i := 26) rfl), lw_t3 (List.mem_of_getElem? (i := 108) rfl), lw_t3 (List.mem_of_getElem? (i := 109) rfl)⟩
theorem lw_p26 : lw_okq (⟨"FrostBox", "isHouse", "()Z"⟩, 42) := ⟨⟨by decide +kernel, by decide +kernel⟩, lw_t1 (List.mem_of_getElem? (i := 26) rfl), lw_t3 (List.mem_of_getElem? (i := 117) rfl), lw_t3 (List.mem_of_getElem? (i := 118) rfl)⟩
theorem lw_p27 : lw_okq (⟨"FrostBox", "isKind", "(I)Z"⟩, 42) := ⟨⟨by decide +kernel, by decide +kernel⟩, lw_t1 (List.mem_of_getElem? (i := 26) rfl), lw_t3 (List.mem_of_getElem? (i := 125) rfl), lw_t3 (List.mem_of_getElem? (i := 126) rfl)⟩
theorem lw_p28 : lw_okq (⟨"FrostBox", "goesWith", "(I)I"⟩, 42) := ⟨⟨by decide +kernel, by decide +kernel⟩, lw_t1 (List.mem_of_getElem? (i := 26) rfl), lw_t3 (List.mem_of_getElem? (i := 129) rfl), lw_t3 (List.mem_of_getElem? (i := 130) rfl)⟩
theorem lw_p29 : lw_okq (⟨"FrostBox", "ofKind", "(II)I"⟩, 42) := ⟨⟨by decide +kernel, by decide +kernel⟩, lw_t1 (List.mem_of_getElem? (i := 26) rfl), lw_t3 (List.mem_of_getElem? (i := 133) rfl), lw_t3 (List.mem_of_getElem? (i := 134) rfl)⟩
theorem lw_p30 : lw_okq (⟨"FrostBox", "canPut", "(II)Z"⟩, 42) := ⟨⟨by decide +kernel, by decide +kernel⟩, lw_t1 (List.mem_of_getElem? (i := 26) rfl), lw_t3 (List.mem_of_getElem? (i := 149) rfl), lw_t3 (List.mem_of_getElem? (i := 150) rfl)⟩
theorem lw_p31 : lw_okq (⟨"FrostBox", "boxMany", "()I"⟩, 42) := ⟨⟨by decide +kernel, by decide +kernel⟩, lw_t1 (List.mem_of_getElem? (i := 26) rfl), lw_t3 (List.mem_of_getElem? (i := 153) rfl), lw_t3 (List.mem_of_getElem? (i := 154) rfl)⟩
def lw_privs_2 : List (MethodName × Nat) := [(⟨"FrostBox", "wholeHouse", "()V"⟩, 42), (⟨"FrostBox", "items", "(I[III)V"⟩, 42), (⟨"FrostBox", "there", "()I"⟩, 42), (⟨"FrostBox", "number", "(II)I"⟩, 42), (⟨"FrostBox", "isWhole", "()Z"⟩, 42), (⟨"FrostBox", "wholePlan", "(I)V"⟩, 42), (⟨"FrostBox", "stepRead", "(I)V"⟩, 42), (⟨"FrostBox", "digit", "(I)I"⟩, 42), (⟨"FrostBox", "lawRead", "()I"⟩, 42), (⟨"FrostBox", "planRead", "()I"⟩, 42), (⟨"FrostBox", "isHouse", "()Z"⟩, 42), (⟨"FrostBox", "isKind", "(I)Z"⟩, 42), (⟨"FrostBox", "goesWith", "(I)I"⟩, 42), (⟨"FrostBox", "ofKind", "(II)I"⟩, 42), (⟨"FrostBox", "canPut", "(II)Z"⟩, 42), (⟨"FrostBox", "boxMany", "()I"⟩, 42)]
theorem lw_r2 : ∀ q ∈ lw_privs_2, lw_okq q := List.forall_mem_cons.mpr ⟨lw_p16, List.forall_mem_cons.mpr ⟨lw_p17, List.forall_mem_cons.mpr ⟨lw_p18, List.forall_mem_cons.mpr ⟨lw_p19, List.forall_mem_cons.mpr ⟨lw_p20, List.forall_mem_cons.mpr ⟨lw_p21, List.forall_mem_cons.mpr ⟨lw_p22, List.forall_mem_cons.mpr ⟨lw_p23, List.forall_mem_cons.mpr ⟨lw_p24, List.forall_mem_cons.mpr ⟨lw_p25, List.forall_mem_cons.mpr ⟨lw_p26, List.forall_mem_cons.mpr ⟨lw_p27, List.forall_mem_cons.mpr ⟨lw_p28, List.forall_mem_cons.mpr ⟨lw_p29, List.forall_mem_cons.mpr ⟨lw_p30, List.forall_mem_cons.mpr ⟨lw_p31, fun _ h => absurd h List.not_mem_nil⟩⟩⟩⟩⟩⟩⟩⟩⟩⟩⟩⟩⟩⟩⟩⟩
theorem lw_p32 : lw_okq (⟨"FrostBox", "portionsAll", "()I"⟩, 42) := ⟨⟨by decide +kernel, by decide +kernel⟩, lw_t1 (List.mem_of_getElem? (i := 26) rfl), lw_t3 (List.mem_of_getElem? (i := 157) rfl), lw_t3 (List.mem_of_getElem? (i := 158) rfl)⟩
theorem lw_p33 : lw_okq (⟨"FrostBox", "portionsOf", "(I)I"⟩, 42) := ⟨⟨by decide +kernel, by decide +kernel⟩, lw_t1 (List.mem_of_getElem? (i := 26) rfl), lw_t3 (List.mem_of_getElem? (i := 161) rfl), lw_t3 (List.mem_of_getElem? (i := 162) rfl)⟩
theorem lw_p34 : lw_okq (⟨"FrostBox", "of", "(II)I"⟩, 42) := ⟨⟨by decide +kernel, by decide +kernel⟩, lw_t1 (List.mem_of_getElem? (i := 26) rfl), lw_t3 (List.mem_of_getElem? (i := 165) rfl), lw_t3 (List.mem_of_getElem? (i := 166) rfl)⟩
theorem lw_p35 : lw_okq (⟨"FrostBox", "turned", "(I)I"⟩, 42) := ⟨⟨by decide +kernel, by decide +kernel⟩, lw_t1 (List.mem_of_getElem? (i := 26) rfl), lw_t3 (List.mem_of_getElem? (i := 169) rfl), lw_t3 (List.mem_of_getElem? (i := 170) rfl)⟩
theorem lw_p36 : lw_okq (⟨"FrostBox", "act", "()V"⟩, 42) := ⟨⟨by decide +kernel, by decide +kernel⟩, lw_t1 (List.mem_of_getElem? (i := 26) rfl), lw_t3 (List.mem_of_getElem? (i := 173) rfl), lw_t3 (List.mem_of_getElem? (i := 174) rfl)⟩
theorem lw_p37 : lw_okq (⟨"FrostBox", "putNow", "(IIZ)V"⟩, 42) := ⟨⟨by decide +kernel, by decide +kernel⟩, lw_t1 (List.mem_of_getElem? (i := 26) rfl), lw_t3 (List.mem_of_getElem? (i := 177) rfl), lw_t3 (List.mem_of_getElem? (i := 178) rfl)⟩
theorem lw_p38 : lw_okq (⟨"FrostBox", "isBox", "(I)Z"⟩, 42) := ⟨⟨by decide +kernel, by decide +kernel⟩, lw_t1 (List.mem_of_getElem? (i := 26) rfl), lw_t3 (List.mem_of_getElem? (i := 185) rfl), lw_t3 (List.mem_of_getElem? (i := 186) rfl)⟩
theorem lw_p39 : lw_okq (⟨"FrostBox", "takeNow", "(I)I"⟩, 42) := ⟨⟨by decide +kernel, by decide +kernel⟩, lw_t1 (List.mem_of_getElem? (i := 26) rfl), lw_t3 (List.mem_of_getElem? (i := 189) rfl), lw_t3 (List.mem_of_getElem? (i := 190) rfl)⟩
theorem lw_p40 : lw_okq (⟨"FrostBox", "valueOf", "(I)I"⟩, 42) := ⟨⟨by decide +kernel, by decide +kernel⟩, lw_t1 (List.mem_of_getElem? (i := 26) rfl), lw_t3 (List.mem_of_getElem? (i := 193) rfl), lw_t3 (List.mem_of_getElem? (i := 194) rfl)⟩
theorem lw_p41 : lw_okq (⟨"FrostBox", "valueAt", "(III)I"⟩, 42) := ⟨⟨by decide +kernel, by decide +kernel⟩, lw_t1 (List.mem_of_getElem? (i := 26) rfl), lw_t3 (List.mem_of_getElem? (i := 197) rfl), lw_t3 (List.mem_of_getElem? (i := 198) rfl)⟩
theorem lw_p42 : lw_okq (⟨"FrostBox", "aged", "(II)I"⟩, 42) := ⟨⟨by decide +kernel, by decide +kernel⟩, lw_t1 (List.mem_of_getElem? (i := 26) rfl), lw_t3 (List.mem_of_getElem? (i := 201) rfl), lw_t3 (List.mem_of_getElem? (i := 202) rfl)⟩
theorem lw_p43 : lw_okq (⟨"FrostBox", "worthAt", "(IIII)I"⟩, 42) := ⟨⟨by decide +kernel, by decide +kernel⟩, lw_t1 (List.mem_of_getElem? (i := 26) rfl), lw_t3 (List.mem_of_getElem? (i := 206) rfl), lw_t3 (List.mem_of_getElem? (i := 207) rfl)⟩
theorem lw_p44 : lw_okq (⟨"FrostBox", "forget", "()V"⟩, 42) := ⟨⟨by decide +kernel, by decide +kernel⟩, lw_t1 (List.mem_of_getElem? (i := 26) rfl), lw_t3 (List.mem_of_getElem? (i := 211) rfl), lw_t3 (List.mem_of_getElem? (i := 212) rfl)⟩
theorem lw_p45 : lw_okq (⟨"FrostBox", "canLabel", "(I)Z"⟩, 42) := ⟨⟨by decide +kernel, by decide +kernel⟩, lw_t1 (List.mem_of_getElem? (i := 26) rfl), lw_t4 (List.mem_of_getElem? (i := 44) rfl), lw_t4 (List.mem_of_getElem? (i := 45) rfl)⟩
theorem lw_p46 : lw_okq (⟨"FrostBox", "isLabelled", "(I)Z"⟩, 42) := ⟨⟨by decide +kernel, by decide +kernel⟩, lw_t1 (List.mem_of_getElem? (i := 26) rfl), lw_t4 (List.mem_of_getElem? (i := 48) rfl), lw_t4 (List.mem_of_getElem? (i := 49) rfl)⟩
theorem lw_p47 : lw_okq (⟨"FrostBox", "labelNow", "(I)V"⟩, 42) := ⟨⟨by decide +kernel, by decide +kernel⟩, lw_t1 (List.mem_of_getElem? (i := 26) rfl), lw_t4 (List.mem_of_getElem? (i := 52) rfl), lw_t4 (List.mem_of_getElem? (i := 53) rfl)⟩
def lw_privs_3 : List (MethodName × Nat) := [(⟨"FrostBox", "portionsAll", "()I"⟩, 42), (⟨"FrostBox", "portionsOf", "(I)I"⟩, 42), (⟨"FrostBox", "of", "(II)I"⟩, 42), (⟨"FrostBox", "turned", "(I)I"⟩, 42), (⟨"FrostBox", "act", "()V"⟩, 42), (⟨"FrostBox", "putNow", "(IIZ)V"⟩, 42), (⟨"FrostBox", "isBox", "(I)Z"⟩, 42), (⟨"FrostBox", "takeNow", "(I)I"⟩, 42), (⟨"FrostBox", "valueOf", "(I)I"⟩, 42), (⟨"FrostBox", "valueAt", "(III)I"⟩, 42), (⟨"FrostBox", "aged", "(II)I"⟩, 42), (⟨"FrostBox", "worthAt", "(IIII)I"⟩, 42), (⟨"FrostBox", "forget", "()V"⟩, 42), (⟨"FrostBox", "canLabel", "(I)Z"⟩, 42), (⟨"FrostBox", "isLabelled", "(I)Z"⟩, 42), (⟨"FrostBox", "labelNow", "(I)V"⟩, 42)]
theorem lw_r3 : ∀ q ∈ lw_privs_3, lw_okq q := List.forall_mem_cons.mpr ⟨lw_p32, List.forall_mem_cons.mpr ⟨lw_p33, List.forall_mem_cons.mpr ⟨lw_p34, List.forall_mem_cons.mpr ⟨lw_p35, List.forall_mem_cons.mpr ⟨lw_p36, List.forall_mem_cons.mpr ⟨lw_p37, List.forall_mem_cons.mpr ⟨lw_p38, List.forall_mem_cons.mpr ⟨lw_p39, List.forall_mem_cons.mpr ⟨lw_p40, List.forall_mem_cons.mpr ⟨lw_p41, List.forall_mem_cons.mpr ⟨lw_p42, List.forall_mem_cons.mpr ⟨lw_p43, List.forall_mem_cons.mpr ⟨lw_p44, List.forall_mem_cons.mpr ⟨lw_p45, List.forall_mem_cons.mpr ⟨lw_p46, List.forall_mem_cons.mpr ⟨lw_p47, fun _ h => absurd h List.not_mem_nil⟩⟩⟩⟩⟩⟩⟩⟩⟩⟩⟩⟩⟩⟩⟩⟩
theorem lw_p48 : lw_okq (⟨"FrostBox", "canPass", "(I)Z"⟩, 42) := ⟨⟨by decide +kernel, by decide +kernel⟩, lw_t1 (List.mem_of_getElem? (i := 26) rfl), lw_t4 (List.mem_of_getElem? (i := 60) rfl), lw_t4 (List.mem_of_getElem? (i := 61) rfl)⟩
theorem lw_p49 : lw_okq (⟨"FrostBox", "pass", "()V"⟩, 42) := ⟨⟨by decide +kernel, by decide +kernel⟩, lw_t1 (List.mem_of_getElem? (i := 26) rfl), lw_t4 (List.mem_of_getElem? (i := 64) rfl), lw_t4 (List.mem_of_getElem? (i := 65) rfl)⟩
theorem lw_p50 : lw_okq (⟨"FrostBox", "older", "(I)V"⟩, 42) := ⟨⟨by decide +kernel, by decide +kernel⟩, lw_t1 (List.mem_of_getElem? (i := 26) rfl), lw_t4 (List.mem_of_getElem? (i := 68) rfl), lw_t4 (List.mem_of_getElem? (i := 69) rfl)⟩
theorem lw_p51 : lw_okq (⟨"FrostBox", "isOff", "(I)Z"⟩, 42) := ⟨⟨by decide +kernel, by decide +kernel⟩, lw_t1 (List.mem_of_getElem? (i := 26) rfl), lw_t4 (List.mem_of_getElem? (i := 76) rfl), lw_t4 (List.mem_of_getElem? (i := 77) rfl)⟩
theorem lw_p52 : lw_okq (⟨"FrostBox", "tooMany", "(I)I"⟩, 42) := ⟨⟨by decide +kernel, by decide +kernel⟩, lw_t1 (List.mem_of_getElem? (i := 26) rfl), lw_t4 (List.mem_of_getElem? (i := 80) rfl), lw_t4 (List.mem_of_getElem? (i := 81) rfl)⟩
theorem lw_p53 : lw_okq (⟨"FrostBox", "draw", "(I)I"⟩, 42) := ⟨⟨by decide +kernel, by decide +kernel⟩, lw_t1 (List.mem_of_getElem? (i := 26) rfl), lw_t4 (List.mem_of_getElem? (i := 88) rfl), lw_t4 (List.mem_of_getElem? (i := 89) rfl)⟩
theorem lw_p54 : lw_okq (⟨"FrostBox", "isPlan", "(I)Z"⟩, 42) := ⟨⟨by decide +kernel, by decide +kernel⟩, lw_t1 (List.mem_of_getElem? (i := 26) rfl), lw_t4 (List.mem_of_getElem? (i := 106) rfl), lw_t4 (List.mem_of_getElem? (i := 107) rfl)⟩
theorem lw_p55 : lw_okq (⟨"FrostBox", "putAside", "()V"⟩, 42) := ⟨⟨by decide +kernel, by decide +kernel⟩, lw_t1 (List.mem_of_getElem? (i := 26) rfl), lw_t4 (List.mem_of_getElem? (i := 115) rfl), lw_t4 (List.mem_of_getElem? (i := 116) rfl)⟩
theorem lw_p56 : lw_okq (⟨"FrostBox", "canStep", "(I)Z"⟩, 42) := ⟨⟨by decide +kernel, by decide +kernel⟩, lw_t1 (List.mem_of_getElem? (i := 26) rfl), lw_t4 (List.mem_of_getElem? (i := 119) rfl), lw_t4 (List.mem_of_getElem? (i := 120) rfl)⟩
theorem lw_p57 : lw_okq (⟨"FrostBox", "doStep", "(I)I"⟩, 42) := ⟨⟨by decide +kernel, by decide +kernel⟩, lw_t1 (List.mem_of_getElem? (i := 26) rfl), lw_t4 (List.mem_of_getElem? (i := 123) rfl), lw_t4 (List.mem_of_getElem? (i := 124) rfl)⟩
theorem lw_p58 : lw_okq (⟨"FrostBox", "takeBack", "()V"⟩, 42) := ⟨⟨by decide +kernel, by decide +kernel⟩, lw_t1 (List.mem_of_getElem? (i := 26) rfl), lw_t4 (List.mem_of_getElem? (i := 127) rfl), lw_t4 (List.mem_of_getElem? (i := 128) rfl)⟩
theorem lw_p59 : lw_okq (⟨"FrostBox", "isMeal", "(I)Z"⟩, 42) := ⟨⟨by decide +kernel, by decide +kernel⟩, lw_t1 (List.mem_of_getElem? (i := 26) rfl), lw_t4 (List.mem_of_getElem? (i := 140) rfl), lw_t4 (List.mem_of_getElem? (i := 141) rfl)⟩
theorem lw_p60 : lw_okq (⟨"FrostBox", "isWith", "(II)Z"⟩, 42) := ⟨⟨by decide +kernel, by decide +kernel⟩, lw_t1 (List.mem_of_getElem? (i := 26) rfl), lw_t4 (List.mem_of_getElem? (i := 144) rfl), lw_t4 (List.mem_of_getElem? (i := 145) rfl)⟩
theorem lw_p61 : lw_okq (⟨"FrostBox", "valueOfSet", "(I)I"⟩, 42) := ⟨⟨by decide +kernel, by decide +kernel⟩, lw_t1 (List.mem_of_getElem? (i := 26) rfl), lw_t4 (List.mem_of_getElem? (i := 148) rfl), lw_t4 (List.mem_of_getElem? (i := 149) rfl)⟩
theorem lw_p62 : lw_okq (⟨"FrostBox", "eatingFrom", "(Z)I"⟩, 42) := ⟨⟨by decide +kernel, by decide +kernel⟩, lw_t1 (List.mem_of_getElem? (i := 26) rfl), lw_t4 (List.mem_of_getElem? (i := 156) rfl), lw_t4 (List.mem_of_getElem? (i := 157) rfl)⟩
theorem lw_p63 : lw_okq (⟨"FrostBox", "eatenNow", "(II)I"⟩, 42) := ⟨⟨by decide +kernel, by decide +kernel⟩, lw_t1 (List.mem_of_getElem? (i := 26) rfl), lw_t4 (List.mem_of_getElem? (i := 167) rfl), lw_t4 (List.mem_of_getElem? (i := 168) rfl)⟩
def lw_privs_4 : List (MethodName × Nat) := [(⟨"FrostBox", "canPass", "(I)Z"⟩, 42), (⟨"FrostBox", "pass", "()V"⟩, 42), (⟨"FrostBox", "older", "(I)V"⟩, 42), (⟨"FrostBox", "isOff", "(I)Z"⟩, 42), (⟨"FrostBox", "tooMany", "(I)I"⟩, 42), (⟨"FrostBox", "draw", "(I)I"⟩, 42), (⟨"FrostBox", "isPlan", "(I)Z"⟩, 42), (⟨"FrostBox", "putAside", "()V"⟩, 42), (⟨"FrostBox", "canStep", "(I)Z"⟩, 42), (⟨"FrostBox", "doStep", "(I)I"⟩, 42), (⟨"FrostBox", "takeBack", "()V"⟩, 42), (⟨"FrostBox", "isMeal", "(I)Z"⟩, 42), (⟨"FrostBox", "isWith", "(II)Z"⟩, 42), (⟨"FrostBox", "valueOfSet", "(I)I"⟩, 42), (⟨"FrostBox", "eatingFrom", "(Z)I"⟩, 42), (⟨"FrostBox", "eatenNow", "(II)I"⟩, 42)]
theorem lw_r4 : ∀ q ∈ lw_privs_4, lw_okq q := List.forall_mem_cons.mpr ⟨lw_p48, List.forall_mem_cons.mpr ⟨lw_p49, List.forall_mem_cons.mpr ⟨lw_p50, List.forall_mem_cons.mpr ⟨lw_p51, List.forall_mem_cons.mpr ⟨lw_p52, List.forall_mem_cons.mpr ⟨lw_p53, List.forall_mem_cons.mpr ⟨lw_p54, List.forall_mem_cons.mpr ⟨lw_p55, List.forall_mem_cons.mpr ⟨lw_p56, List.forall_mem_cons.mpr ⟨lw_p57, List.forall_mem_cons.mpr ⟨lw_p58, List.forall_mem_cons.mpr ⟨lw_p59, List.forall_mem_cons.mpr ⟨lw_p60, List.forall_mem_cons.mpr ⟨lw_p61, List.forall_mem_cons.mpr ⟨lw_p62, List.forall_mem_cons.mpr ⟨lw_p63, fun _ h => absurd h List.not_mem_nil⟩⟩⟩⟩⟩⟩⟩⟩⟩⟩⟩⟩⟩⟩⟩⟩
theorem lw_p64 : lw_okq (⟨"FrostBox", "belowIn", "(II)I"⟩, 42) := ⟨⟨by decide +kernel, by decide +kernel⟩, lw_t1 (List.mem_of_getElem? (i := 26) rfl), lw_t4 (List.mem_of_getElem? (i := 177) rfl), lw_t4 (List.mem_of_getElem? (i := 178) rfl)⟩
theorem lw_p65 : lw_okq (⟨"FrostBox", "layEating", "()V"⟩, 42) := ⟨⟨by decide +kernel, by decide +kernel⟩, lw_t1 (List.mem_of_getElem? (i := 26) rfl), lw_t4 (List.mem_of_getElem? (i := 181) rfl), lw_t4 (List.mem_of_getElem? (i := 182) rfl)⟩
theorem lw_p66 : lw_okq (⟨"FrostBox", "eatingRow", "()I"⟩, 42) := ⟨⟨by decide +kernel, by decide +kernel⟩, lw_t1 (List.mem_of_getElem? (i := 26) rfl), lw_t4 (List.mem_of_getElem? (i := 185) rfl), lw_t4 (List.mem_of_getElem? (i := 186) rfl)⟩
theorem lw_p67 : lw_okq (⟨"FrostBox", "valueAll", "()I"⟩, 42) := ⟨⟨by decide +kernel, by decide +kernel⟩, lw_t1 (List.mem_of_getElem? (i := 26) rfl), lw_t4 (List.mem_of_getElem? (i := 193) rfl), lw_t4 (List.mem_of_getElem? (i := 194) rfl)⟩
theorem lw_p68 : lw_okq (⟨"FrostBox", "couldHold", "(II)I"⟩, 42) := ⟨⟨by decide +kernel, by decide +kernel⟩, lw_t1 (List.mem_of_getElem? (i := 26) rfl), lw_t4 (List.mem_of_getElem? (i := 209) rfl), lw_t4 (List.mem_of_getElem? (i := 210) rfl)⟩
theorem lw_p69 : lw_okq (⟨"FrostBox", "weighs", "(I)I"⟩, 42) := ⟨⟨by decide +kernel, by decide +kernel⟩, lw_t1 (List.mem_of_getElem? (i := 26) rfl), lw_t4 (List.mem_of_getElem? (i := 213) rfl), lw_t4 (List.mem_of_getElem? (i := 214) rfl)⟩
theorem lw_p70 : lw_okq (⟨"FrostBox", "namelessNow", "()I"⟩, 42) := ⟨⟨by decide +kernel, by decide +kernel⟩, lw_t1 (List.mem_of_getElem? (i := 26) rfl), lw_t4 (List.mem_of_getElem? (i := 221) rfl), lw_t4 (List.mem_of_getElem? (i := 222) rfl)⟩
theorem lw_p71 : lw_okq (⟨"FrostBox", "areDouble", "(II)Z"⟩, 42) := ⟨⟨by decide +kernel, by decide +kernel⟩, lw_t1 (List.mem_of_getElem? (i := 26) rfl), lw_t4 (List.mem_of_getElem? (i := 229) rfl), lw_t4 (List.mem_of_getElem? (i := 230) rfl)⟩
theorem lw_p72 : lw_okq (⟨"FrostBox", "mostHeld", "(I)J"⟩, 42) := ⟨⟨by decide +kernel, by decide +kernel⟩, lw_t1 (List.mem_of_getElem? (i := 26) rfl), lw_t5 (List.mem_of_getElem? (i := 1) rfl), lw_t5 (List.mem_of_getElem? (i := 2) rfl)⟩
theorem lw_p73 : lw_okq (⟨"FrostBox", "heldOf", "(I)J"⟩, 42) := ⟨⟨by decide +kernel, by decide +kernel⟩, lw_t1 (List.mem_of_getElem? (i := 26) rfl), lw_t5 (List.mem_of_getElem? (i := 5) rfl), lw_t5 (List.mem_of_getElem? (i := 6) rfl)⟩
theorem lw_p74 : lw_okq (⟨"FrostBox", "layRows", "(II)Z"⟩, 42) := ⟨⟨by decide +kernel, by decide +kernel⟩, lw_t1 (List.mem_of_getElem? (i := 26) rfl), lw_t5 (List.mem_of_getElem? (i := 19) rfl), lw_t5 (List.mem_of_getElem? (i := 20) rfl)⟩
theorem lw_p75 : lw_okq (⟨"FrostBox", "tryRows", "(II)V"⟩, 42) := ⟨⟨by decide +kernel, by decide +kernel⟩, lw_t1 (List.mem_of_getElem? (i := 26) rfl), lw_t5 (List.mem_of_getElem? (i := 24) rfl), lw_t5 (List.mem_of_getElem? (i := 25) rfl)⟩
theorem lw_p76 : lw_okq (⟨"FrostBox", "mayBe", "(II)Z"⟩, 42) := ⟨⟨by decide +kernel, by decide +kernel⟩, lw_t1 (List.mem_of_getElem? (i := 26) rfl), lw_t5 (List.mem_of_getElem? (i := 28) rfl), lw_t5 (List.mem_of_getElem? (i := 29) rfl)⟩
theorem lw_p77 : lw_okq (⟨"FrostBox", "labelsOf", "(II)I"⟩, 42) := ⟨⟨by decide +kernel, by decide +kernel⟩, lw_t1 (List.mem_of_getElem? (i := 26) rfl), lw_t5 (List.mem_of_getElem? (i := 44) rfl), lw_t5 (List.mem_of_getElem? (i := 45) rfl)⟩
theorem lw_p78 : lw_okq (⟨"FrostBox", "eatenAll", "()I"⟩, 42) := ⟨⟨by decide +kernel, by decide +kernel⟩, lw_t1 (List.mem_of_getElem? (i := 26) rfl), lw_t5 (List.mem_of_getElem? (i := 92) rfl), lw_t5 (List.mem_of_getElem? (i := 93) rfl)⟩
theorem lw_p79 : lw_okq (⟨"FrostBoxModel", "put", "(I)V"⟩, 56) := ⟨⟨by decide +kernel, by decide +kernel⟩, lw_t5 (List.mem_of_getElem? (i := 124) rfl), lw_t6 (List.mem_of_getElem? (i := 73) rfl), lw_t6 (List.mem_of_getElem? (i := 74) rfl)⟩
def lw_privs_5 : List (MethodName × Nat) := [(⟨"FrostBox", "belowIn", "(II)I"⟩, 42), (⟨"FrostBox", "layEating", "()V"⟩, 42), (⟨"FrostBox", "eatingRow", "()I"⟩, 42), (⟨"FrostBox", "valueAll", "()I"⟩, 42), (⟨"FrostBox", "couldHold", "(II)I"⟩, 42), (⟨"FrostBox", "weighs", "(I)I"⟩, 42), (⟨"FrostBox", "namelessNow", "()I"⟩, 42), (⟨"FrostBox", "areDouble", "(II)Z"⟩, 42), (⟨"FrostBox", "mostHeld", "(I)J"⟩, 42), (⟨"FrostBox", "heldOf", "(I)J"⟩, 42), (⟨"FrostBox", "layRows", "(II)Z"⟩, 42), (⟨"FrostBox", "tryRows", "(II)V"⟩, 42), (⟨"FrostBox", "mayBe", "(II)Z"⟩, 42), (⟨"FrostBox", "labelsOf", "(II)I"⟩, 42), (⟨"FrostBox", "eatenAll", "()I"⟩, 42), (⟨"FrostBoxModel", "put", "(I)V"⟩, 56)]
theorem lw_r5 : ∀ q ∈ lw_privs_5, lw_okq q := List.forall_mem_cons.mpr ⟨lw_p64, List.forall_mem_cons.mpr ⟨lw_p65, List.forall_mem_cons.mpr ⟨lw_p66, List.forall_mem_cons.mpr ⟨lw_p67, List.forall_mem_cons.mpr ⟨lw_p68, List.forall_mem_cons.mpr ⟨lw_p69, List.forall_mem_cons.mpr ⟨lw_p70, List.forall_mem_cons.mpr ⟨lw_p71, List.forall_mem_cons.mpr ⟨lw_p72, List.forall_mem_cons.mpr ⟨lw_p73, List.forall_mem_cons.mpr ⟨lw_p74, List.forall_mem_cons.mpr ⟨lw_p75, List.forall_mem_cons.mpr ⟨lw_p76, List.forall_mem_cons.mpr ⟨lw_p77, List.forall_mem_cons.mpr ⟨lw_p78, List.forall_mem_cons.mpr ⟨lw_p79, fun _ h => absurd h List.not_mem_nil⟩⟩⟩⟩⟩⟩⟩⟩⟩⟩⟩⟩⟩⟩⟩⟩
theorem lw_p80 : lw_okq (⟨"FrostBoxModel", "readHouse", "()V"⟩, 56) := ⟨⟨by decide +kernel, by decide +kernel⟩, lw_t5 (List.mem_of_getElem? (i := 124) rfl), lw_t6 (List.mem_of_getElem? (i := 89) rfl), lw_t6 (List.mem_of_getElem? (i := 90) rfl)⟩
theorem lw_p81 : lw_okq (⟨"FrostBoxModel", "starts", "([BII)V"⟩, 56) := ⟨⟨by decide +kernel, by decide +kernel⟩, lw_t5 (List.mem_of_getElem? (i := 124) rfl), lw_t6 (List.mem_of_getElem? (i := 93) rfl), lw_t6 (List.mem_of_getElem? (i := 94) rfl)⟩
theorem lw_p82 : lw_okq (⟨"FrostBoxModel", "readClause", "()V"⟩, 56) := ⟨⟨by decide +kernel, by decide +kernel⟩, lw_t5 (List.mem_of_getElem? (i := 124) rfl), lw_t6 (List.mem_of_getElem? (i := 100) rfl), lw_t6 (List.mem_of_getElem? (i := 101) rfl)⟩
theorem lw_p83 : lw_okq (⟨"FrostBoxModel", "look", "()I"⟩, 56) := ⟨⟨by decide +kernel, by decide +kernel⟩, lw_t5 (List.mem_of_getElem? (i := 124) rfl), lw_t6 (List.mem_of_getElem? (i := 104) rfl), lw_t6 (List.mem_of_getElem? (i := 105) rfl)⟩
theorem lw_p84 : lw_okq (⟨"FrostBoxModel", "fails", "()Z"⟩, 56) := ⟨⟨by decide +kernel, by decide +kernel⟩, lw_t5 (List.mem_of_getElem? (i := 124) rfl), lw_t6 (List.mem_of_getElem? (i := 108) rfl), lw_t6 (List.mem_of_getElem? (i := 109) rfl)⟩
theorem lw_p85 : lw_okq (⟨"FrostBoxModel", "readItems", "(I[IILjava/lang/String;)V"⟩, 56) := ⟨⟨by decide +kernel, by decide +kernel⟩, lw_t5 (List.mem_of_getElem? (i := 124) rfl), lw_t6 (List.mem_of_getElem? (i := 113) rfl), lw_t6 (List.mem_of_getElem? (i := 114) rfl)⟩
theorem lw_p86 : lw_okq (⟨"FrostBoxModel", "number", "(II)I"⟩, 56) := ⟨⟨by decide +kernel, by decide +kernel⟩, lw_t5 (List.mem_of_getElem? (i := 124) rfl), lw_t6 (List.mem_of_getElem? (i := 131) rfl), lw_t6 (List.mem_of_getElem? (i := 132) rfl)⟩
theorem lw_p87 : lw_okq (⟨"FrostBoxModel", "isDigit", "()Z"⟩, 56) := ⟨⟨by decide +kernel, by decide +kernel⟩, lw_t5 (List.mem_of_getElem? (i := 124) rfl), lw_t6 (List.mem_of_getElem? (i := 135) rfl), lw_t6 (List.mem_of_getElem? (i := 136) rfl)⟩
theorem lw_p88 : lw_okq (⟨"FrostBoxModel", "here", "()I"⟩, 56) := ⟨⟨by decide +kernel, by decide +kernel⟩, lw_t5 (List.mem_of_getElem? (i := 124) rfl), lw_t6 (List.mem_of_getElem? (i := 139) rfl), lw_t6 (List.mem_of_getElem? (i := 140) rfl)⟩
theorem lw_p89 : lw_okq (⟨"FrostBoxModel", "isWhole", "()Z"⟩, 56) := ⟨⟨by decide +kernel, by decide +kernel⟩, lw_t5 (List.mem_of_getElem? (i := 124) rfl), lw_t6 (List.mem_of_getElem? (i := 145) rfl), lw_t6 (List.mem_of_getElem? (i := 146) rfl)⟩
theorem lw_p90 : lw_okq (⟨"FrostBoxModel", "goThrough", "([BII)V"⟩, 56) := ⟨⟨by decide +kernel, by decide +kernel⟩, lw_t5 (List.mem_of_getElem? (i := 124) rfl), lw_t6 (List.mem_of_getElem? (i := 149) rfl), lw_t6 (List.mem_of_getElem? (i := 150) rfl)⟩
theorem lw_p91 : lw_okq (⟨"FrostBoxModel", "clause", "()V"⟩, 56) := ⟨⟨by decide +kernel, by decide +kernel⟩, lw_t5 (List.mem_of_getElem? (i := 124) rfl), lw_t6 (List.mem_of_getElem? (i := 153) rfl), lw_t6 (List.mem_of_getElem? (i := 154) rfl)⟩
theorem lw_p92 : lw_okq (⟨"FrostBoxModel", "takes", "(I)Z"⟩, 56) := ⟨⟨by decide +kernel, by decide +kernel⟩, lw_t5 (List.mem_of_getElem? (i := 124) rfl), lw_t6 (List.mem_of_getElem? (i := 160) rfl), lw_t6 (List.mem_of_getElem? (i := 161) rfl)⟩
theorem lw_p93 : lw_okq (⟨"FrostBoxModel", "condition", "(ZI)Z"⟩, 56) := ⟨⟨by decide +kernel, by decide +kernel⟩, lw_t5 (List.mem_of_getElem? (i := 124) rfl), lw_t6 (List.mem_of_getElem? (i := 164) rfl), lw_t6 (List.mem_of_getElem? (i := 165) rfl)⟩
theorem lw_p94 : lw_okq (⟨"FrostBoxModel", "part", "(ZI)Z"⟩, 56) := ⟨⟨by decide +kernel, by decide +kernel⟩, lw_t5 (List.mem_of_getElem? (i := 124) rfl), lw_t6 (List.mem_of_getElem? (i := 168) rfl), lw_t6 (List.mem_of_getElem? (i := 169) rfl)⟩
theorem lw_p95 : lw_okq (⟨"FrostBoxModel", "compares", "(ZI)Z"⟩, 56) := ⟨⟨by decide +kernel, by decide +kernel⟩, lw_t5 (List.mem_of_getElem? (i := 124) rfl), lw_t6 (List.mem_of_getElem? (i := 172) rfl), lw_t6 (List.mem_of_getElem? (i := 173) rfl)⟩
def lw_privs_6 : List (MethodName × Nat) := [(⟨"FrostBoxModel", "readHouse", "()V"⟩, 56), (⟨"FrostBoxModel", "starts", "([BII)V"⟩, 56), (⟨"FrostBoxModel", "readClause", "()V"⟩, 56), (⟨"FrostBoxModel", "look", "()I"⟩, 56), (⟨"FrostBoxModel", "fails", "()Z"⟩, 56), (⟨"FrostBoxModel", "readItems", "(I[IILjava/lang/String;)V"⟩, 56), (⟨"FrostBoxModel", "number", "(II)I"⟩, 56), (⟨"FrostBoxModel", "isDigit", "()Z"⟩, 56), (⟨"FrostBoxModel", "here", "()I"⟩, 56), (⟨"FrostBoxModel", "isWhole", "()Z"⟩, 56), (⟨"FrostBoxModel", "goThrough", "([BII)V"⟩, 56), (⟨"FrostBoxModel", "clause", "()V"⟩, 56), (⟨"FrostBoxModel", "takes", "(I)Z"⟩, 56), (⟨"FrostBoxModel", "condition", "(ZI)Z"⟩, 56), (⟨"FrostBoxModel", "part", "(ZI)Z"⟩, 56), (⟨"FrostBoxModel", "compares", "(ZI)Z"⟩, 56)]
theorem lw_r6 : ∀ q ∈ lw_privs_6, lw_okq q := List.forall_mem_cons.mpr ⟨lw_p80, List.forall_mem_cons.mpr ⟨lw_p81, List.forall_mem_cons.mpr ⟨lw_p82, List.forall_mem_cons.mpr ⟨lw_p83, List.forall_mem_cons.mpr ⟨lw_p84, List.forall_mem_cons.mpr ⟨lw_p85, List.forall_mem_cons.mpr ⟨lw_p86, List.forall_mem_cons.mpr ⟨lw_p87, List.forall_mem_cons.mpr ⟨lw_p88, List.forall_mem_cons.mpr ⟨lw_p89, List.forall_mem_cons.mpr ⟨lw_p90, List.forall_mem_cons.mpr ⟨lw_p91, List.forall_mem_cons.mpr ⟨lw_p92, List.forall_mem_cons.mpr ⟨lw_p93, List.forall_mem_cons.mpr ⟨lw_p94, List.forall_mem_cons.mpr ⟨lw_p95, fun _ h => absurd h List.not_mem_nil⟩⟩⟩⟩⟩⟩⟩⟩⟩⟩⟩⟩⟩⟩⟩⟩
theorem lw_p96 : lw_okq (⟨"FrostBoxModel", "sum", "()I"⟩, 56) := ⟨⟨by decide +kernel, by decide +kernel⟩, lw_t5 (List.mem_of_getElem? (i := 124) rfl), lw_t6 (List.mem_of_getElem? (i := 176) rfl), lw_t6 (List.mem_of_getElem? (i := 177) rfl)⟩
theorem lw_p97 : lw_okq (⟨"FrostBoxModel", "term", "()I"⟩, 56) := ⟨⟨by decide +kernel, by decide +kernel⟩, lw_t5 (List.mem_of_getElem? (i := 124) rfl), lw_t6 (List.mem_of_getElem? (i := 180) rfl), lw_t6 (List.mem_of_getElem? (i := 181) rfl)⟩
theorem lw_p98 : lw_okq (⟨"FrostBoxModel", "atom", "()I"⟩, 56) := ⟨⟨by decide +kernel, by decide +kernel⟩, lw_t5 (List.mem_of_getElem? (i := 124) rfl), lw_t6 (List.mem_of_getElem? (i := 184) rfl), lw_t6 (List.mem_of_getElem? (i := 185) rfl)⟩
theorem lw_p99 : lw_okq (⟨"FrostBoxModel", "goesIn", "()Z"⟩, 56) := ⟨⟨by decide +kernel, by decide +kernel⟩, lw_t5 (List.mem_of_getElem? (i := 124) rfl), lw_t6 (List.mem_of_getElem? (i := 188) rfl), lw_t6 (List.mem_of_getElem? (i := 189) rfl)⟩
theorem lw_p100 : lw_okq (⟨"FrostBoxModel", "unit", "()Z"⟩, 56) := ⟨⟨by decide +kernel, by decide +kernel⟩, lw_t5 (List.mem_of_getElem? (i := 124) rfl), lw_t6 (List.mem_of_getElem? (i := 202) rfl), lw_t6 (List.mem_of_getElem? (i := 203) rfl)⟩
theorem lw_p101 : lw_okq (⟨"FrostBoxModel", "readPlan", "()V"⟩, 56) := ⟨⟨by decide +kernel, by decide +kernel⟩, lw_t5 (List.mem_of_getElem? (i := 124) rfl), lw_t6 (List.mem_of_getElem? (i := 206) rfl), lw_t6 (List.mem_of_getElem? (i := 207) rfl)⟩
theorem lw_p102 : lw_okq (⟨"FrostBoxModel", "readStep", "(I)V"⟩, 56) := ⟨⟨by decide +kernel, by decide +kernel⟩, lw_t5 (List.mem_of_getElem? (i := 124) rfl), lw_t6 (List.mem_of_getElem? (i := 210) rfl), lw_t6 (List.mem_of_getElem? (i := 211) rfl)⟩
theorem lw_p103 : lw_okq (⟨"FrostBoxModel", "digit", "(I)I"⟩, 56) := ⟨⟨by decide +kernel, by decide +kernel⟩, lw_t5 (List.mem_of_getElem? (i := 124) rfl), lw_t6 (List.mem_of_getElem? (i := 215) rfl), lw_t6 (List.mem_of_getElem? (i := 216) rfl)⟩
theorem lw_p104 : lw_okq (⟨"FrostBoxModel", "isKind", "(I)Z"⟩, 56) := ⟨⟨by decide +kernel, by decide +kernel⟩, lw_t5 (List.mem_of_getElem? (i := 124) rfl), lw_t6 (List.mem_of_getElem? (i := 233) rfl), lw_t6 (List.mem_of_getElem? (i := 234) rfl)⟩
theorem lw_p105 : lw_okq (⟨"FrostBoxModel", "told", "(II)I"⟩, 56) := ⟨⟨by decide +kernel, by decide +kernel⟩, lw_t5 (List.mem_of_getElem? (i := 124) rfl), lw_t6 (List.mem_of_getElem? (i := 238) rfl), lw_t6 (List.mem_of_getElem? (i := 239) rfl)⟩
theorem lw_p106 : lw_okq (⟨"FrostBoxModel", "isBox", "([II)Z"⟩, 56) := ⟨⟨by decide +kernel, by decide +kernel⟩, lw_t5 (List.mem_of_getElem? (i := 124) rfl), lw_t7 (List.mem_of_getElem? (i := 6) rfl), lw_t7 (List.mem_of_getElem? (i := 7) rfl)⟩
theorem lw_p107 : lw_okq (⟨"FrostBoxModel", "valueOf", "([II)I"⟩, 56) := ⟨⟨by decide +kernel, by decide +kernel⟩, lw_t5 (List.mem_of_getElem? (i := 124) rfl), lw_t7 (List.mem_of_getElem? (i := 11) rfl), lw_t7 (List.mem_of_getElem? (i := 12) rfl)⟩
theorem lw_p108 : lw_okq (⟨"FrostBoxModel", "valueOn", "([IIII)I"⟩, 56) := ⟨⟨by decide +kernel, by decide +kernel⟩, lw_t5 (List.mem_of_getElem? (i := 124) rfl), lw_t7 (List.mem_of_getElem? (i := 15) rfl), lw_t7 (List.mem_of_getElem? (i := 16) rfl)⟩
theorem lw_p109 : lw_okq (⟨"FrostBoxModel", "portionOf", "(IIIII)I"⟩, 56) := ⟨⟨by decide +kernel, by decide +kernel⟩, lw_t5 (List.mem_of_getElem? (i := 124) rfl), lw_t7 (List.mem_of_getElem? (i := 20) rfl), lw_t7 (List.mem_of_getElem? (i := 21) rfl)⟩
theorem lw_p110 : lw_okq (⟨"FrostBoxModel", "worthNow", "()I"⟩, 56) := ⟨⟨by decide +kernel, by decide +kernel⟩, lw_t5 (List.mem_of_getElem? (i := 124) rfl), lw_t7 (List.mem_of_getElem? (i := 25) rfl), lw_t7 (List.mem_of_getElem? (i := 26) rfl)⟩
theorem lw_p111 : lw_okq (⟨"FrostBoxModel", "weightOf", "([II)I"⟩, 56) := ⟨⟨by decide +kernel, by decide +kernel⟩, lw_t5 (List.mem_of_getElem? (i := 124) rfl), lw_t7 (List.mem_of_getElem? (i := 34) rfl), lw_t7 (List.mem_of_getElem? (i := 35) rfl)⟩
def lw_privs_7 : List (MethodName × Nat) := [(⟨"FrostBoxModel", "sum", "()I"⟩, 56), (⟨"FrostBoxModel", "term", "()I"⟩, 56), (⟨"FrostBoxModel", "atom", "()I"⟩, 56), (⟨"FrostBoxModel", "goesIn", "()Z"⟩, 56), (⟨"FrostBoxModel", "unit", "()Z"⟩, 56), (⟨"FrostBoxModel", "readPlan", "()V"⟩, 56), (⟨"FrostBoxModel", "readStep", "(I)V"⟩, 56), (⟨"FrostBoxModel", "digit", "(I)I"⟩, 56), (⟨"FrostBoxModel", "isKind", "(I)Z"⟩, 56), (⟨"FrostBoxModel", "told", "(II)I"⟩, 56), (⟨"FrostBoxModel", "isBox", "([II)Z"⟩, 56), (⟨"FrostBoxModel", "valueOf", "([II)I"⟩, 56), (⟨"FrostBoxModel", "valueOn", "([IIII)I"⟩, 56), (⟨"FrostBoxModel", "portionOf", "(IIIII)I"⟩, 56), (⟨"FrostBoxModel", "worthNow", "()I"⟩, 56), (⟨"FrostBoxModel", "weightOf", "([II)I"⟩, 56)]
theorem lw_r7 : ∀ q ∈ lw_privs_7, lw_okq q := List.forall_mem_cons.mpr ⟨lw_p96, List.forall_mem_cons.mpr ⟨lw_p97, List.forall_mem_cons.mpr ⟨lw_p98, List.forall_mem_cons.mpr ⟨lw_p99, List.forall_mem_cons.mpr ⟨lw_p100, List.forall_mem_cons.mpr ⟨lw_p101, List.forall_mem_cons.mpr ⟨lw_p102, List.forall_mem_cons.mpr ⟨lw_p103, List.forall_mem_cons.mpr ⟨lw_p104, List.forall_mem_cons.mpr ⟨lw_p105, List.forall_mem_cons.mpr ⟨lw_p106, List.forall_mem_cons.mpr ⟨lw_p107, List.forall_mem_cons.mpr ⟨lw_p108, List.forall_mem_cons.mpr ⟨lw_p109, List.forall_mem_cons.mpr ⟨lw_p110, List.forall_mem_cons.mpr ⟨lw_p111, fun _ h => absurd h List.not_mem_nil⟩⟩⟩⟩⟩⟩⟩⟩⟩⟩⟩⟩⟩⟩⟩⟩
theorem lw_p112 : lw_okq (⟨"FrostBoxModel", "canPut", "([III)Z"⟩, 56) := ⟨⟨by decide +kernel, by decide +kernel⟩, lw_t5 (List.mem_of_getElem? (i := 124) rfl), lw_t7 (List.mem_of_getElem? (i := 51) rfl), lw_t7 (List.mem_of_getElem? (i := 52) rfl)⟩
theorem lw_p113 : lw_okq (⟨"FrostBoxModel", "sumIn", "([I)I"⟩, 56) := ⟨⟨by decide +kernel, by decide +kernel⟩, lw_t5 (List.mem_of_getElem? (i := 124) rfl), lw_t7 (List.mem_of_getElem? (i := 55) rfl), lw_t7 (List.mem_of_getElem? (i := 56) rfl)⟩
theorem lw_p114 : lw_okq (⟨"FrostBoxModel", "remember", "()V"⟩, 56) := ⟨⟨by decide +kernel, by decide +kernel⟩, lw_t5 (List.mem_of_getElem? (i := 124) rfl), lw_t7 (List.mem_of_getElem? (i := 59) rfl), lw_t7 (List.mem_of_getElem? (i := 60) rfl)⟩
theorem lw_p115 : lw_okq (⟨"FrostBoxModel", "eats", "([II)I"⟩, 56) := ⟨⟨by decide +kernel, by decide +kernel⟩, lw_t5 (List.mem_of_getElem? (i := 124) rfl), lw_t7 (List.mem_of_getElem? (i := 70) rfl), lw_t7 (List.mem_of_getElem? (i := 71) rfl)⟩
theorem lw_p116 : lw_okq (⟨"FrostBoxModel", "canLabel", "([II)Z"⟩, 56) := ⟨⟨by decide +kernel, by decide +kernel⟩, lw_t5 (List.mem_of_getElem? (i := 124) rfl), lw_t7 (List.mem_of_getElem? (i := 81) rfl), lw_t7 (List.mem_of_getElem? (i := 82) rfl)⟩
theorem lw_p117 : lw_okq (⟨"FrostBoxModel", "mayPass", "([III)Z"⟩, 56) := ⟨⟨by decide +kernel, by decide +kernel⟩, lw_t5 (List.mem_of_getElem? (i := 124) rfl), lw_t7 (List.mem_of_getElem? (i := 92) rfl), lw_t7 (List.mem_of_getElem? (i := 93) rfl)⟩
theorem lw_p118 : lw_okq (⟨"FrostBoxModel", "goMonth", "([I)V"⟩, 56) := ⟨⟨by decide +kernel, by decide +kernel⟩, lw_t5 (List.mem_of_getElem? (i := 124) rfl), lw_t7 (List.mem_of_getElem? (i := 96) rfl), lw_t7 (List.mem_of_getElem? (i := 97) rfl)⟩
theorem lw_p119 : lw_okq (⟨"FrostBoxModel", "ages", "([II)V"⟩, 56) := ⟨⟨by decide +kernel, by decide +kernel⟩, lw_t5 (List.mem_of_getElem? (i := 124) rfl), lw_t7 (List.mem_of_getElem? (i := 100) rfl), lw_t7 (List.mem_of_getElem? (i := 101) rfl)⟩
theorem lw_p120 : lw_okq (⟨"FrostBoxModel", "isHours", "(I)Z"⟩, 56) := ⟨⟨by decide +kernel, by decide +kernel⟩, lw_t5 (List.mem_of_getElem? (i := 124) rfl), lw_t7 (List.mem_of_getElem? (i := 108) rfl), lw_t7 (List.mem_of_getElem? (i := 109) rfl)⟩
theorem lw_p121 : lw_okq (⟨"FrostBoxModel", "moreThanBorne", "(II)I"⟩, 56) := ⟨⟨by decide +kernel, by decide +kernel⟩, lw_t5 (List.mem_of_getElem? (i := 124) rfl), lw_t7 (List.mem_of_getElem? (i := 113) rfl), lw_t7 (List.mem_of_getElem? (i := 114) rfl)⟩
theorem lw_p122 : lw_okq (⟨"FrostBoxModel", "draw", "(I)I"⟩, 56) := ⟨⟨by decide +kernel, by decide +kernel⟩, lw_t5 (List.mem_of_getElem? (i := 124) rfl), lw_t7 (List.mem_of_getElem? (i := 121) rfl), lw_t7 (List.mem_of_getElem? (i := 122) rfl)⟩
theorem lw_p123 : lw_okq (⟨"FrostBoxModel", "isPlan", "(I)Z"⟩, 56) := ⟨⟨by decide +kernel, by decide +kernel⟩, lw_t5 (List.mem_of_getElem? (i := 124) rfl), lw_t7 (List.mem_of_getElem? (i := 139) rfl), lw_t7 (List.mem_of_getElem? (i := 140) rfl)⟩
theorem lw_p124 : lw_okq (⟨"FrostBoxModel", "canStep", "([II)Z"⟩, 56) := ⟨⟨by decide +kernel, by decide +kernel⟩, lw_t5 (List.mem_of_getElem? (i := 124) rfl), lw_t7 (List.mem_of_getElem? (i := 151) rfl), lw_t7 (List.mem_of_getElem? (i := 152) rfl)⟩
theorem lw_p125 : lw_okq (⟨"FrostBoxModel", "timesOf", "(I)I"⟩, 56) := ⟨⟨by decide +kernel, by decide +kernel⟩, lw_t5 (List.mem_of_getElem? (i := 124) rfl), lw_t7 (List.mem_of_getElem? (i := 155) rfl), lw_t7 (List.mem_of_getElem? (i := 156) rfl)⟩
theorem lw_p126 : lw_okq (⟨"FrostBoxModel", "steps", "([II)I"⟩, 56) := ⟨⟨by decide +kernel, by decide +kernel⟩, lw_t5 (List.mem_of_getElem? (i := 124) rfl), lw_t7 (List.mem_of_getElem? (i := 159) rfl), lw_t7 (List.mem_of_getElem? (i := 160) rfl)⟩
theorem lw_p127 : lw_okq (⟨"FrostBoxModel", "isDinner", "(I)Z"⟩, 56) := ⟨⟨by decide +kernel, by decide +kernel⟩, lw_t5 (List.mem_of_getElem? (i := 124) rfl), lw_t7 (List.mem_of_getElem? (i := 172) rfl), lw_t7 (List.mem_of_getElem? (i := 173) rfl)⟩
def lw_privs_8 : List (MethodName × Nat) := [(⟨"FrostBoxModel", "canPut", "([III)Z"⟩, 56), (⟨"FrostBoxModel", "sumIn", "([I)I"⟩, 56), (⟨"FrostBoxModel", "remember", "()V"⟩, 56), (⟨"FrostBoxModel", "eats", "([II)I"⟩, 56), (⟨"FrostBoxModel", "canLabel", "([II)Z"⟩, 56), (⟨"FrostBoxModel", "mayPass", "([III)Z"⟩, 56), (⟨"FrostBoxModel", "goMonth", "([I)V"⟩, 56), (⟨"FrostBoxModel", "ages", "([II)V"⟩, 56), (⟨"FrostBoxModel", "isHours", "(I)Z"⟩, 56), (⟨"FrostBoxModel", "moreThanBorne", "(II)I"⟩, 56), (⟨"FrostBoxModel", "draw", "(I)I"⟩, 56), (⟨"FrostBoxModel", "isPlan", "(I)Z"⟩, 56), (⟨"FrostBoxModel", "canStep", "([II)Z"⟩, 56), (⟨"FrostBoxModel", "timesOf", "(I)I"⟩, 56), (⟨"FrostBoxModel", "steps", "([II)I"⟩, 56), (⟨"FrostBoxModel", "isDinner", "(I)Z"⟩, 56)]
theorem lw_r8 : ∀ q ∈ lw_privs_8, lw_okq q := List.forall_mem_cons.mpr ⟨lw_p112, List.forall_mem_cons.mpr ⟨lw_p113, List.forall_mem_cons.mpr ⟨lw_p114, List.forall_mem_cons.mpr ⟨lw_p115, List.forall_mem_cons.mpr ⟨lw_p116, List.forall_mem_cons.mpr ⟨lw_p117, List.forall_mem_cons.mpr ⟨lw_p118, List.forall_mem_cons.mpr ⟨lw_p119, List.forall_mem_cons.mpr ⟨lw_p120, List.forall_mem_cons.mpr ⟨lw_p121, List.forall_mem_cons.mpr ⟨lw_p122, List.forall_mem_cons.mpr ⟨lw_p123, List.forall_mem_cons.mpr ⟨lw_p124, List.forall_mem_cons.mpr ⟨lw_p125, List.forall_mem_cons.mpr ⟨lw_p126, List.forall_mem_cons.mpr ⟨lw_p127, fun _ h => absurd h List.not_mem_nil⟩⟩⟩⟩⟩⟩⟩⟩⟩⟩⟩⟩⟩⟩⟩⟩
theorem lw_p128 : lw_okq (⟨"FrostBoxModel", "kindIn", "(I)I"⟩, 56) := ⟨⟨by decide +kernel, by decide +kernel⟩, lw_t5 (List.mem_of_getElem? (i := 124) rfl), lw_t7 (List.mem_of_getElem? (i := 176) rfl), lw_t7 (List.mem_of_getElem? (i := 177) rfl)⟩
theorem lw_p129 : lw_okq (⟨"FrostBoxModel", "fit", "(II)Z"⟩, 56) := ⟨⟨by decide +kernel, by decide +kernel⟩, lw_t5 (List.mem_of_getElem? (i := 124) rfl), lw_t7 (List.mem_of_getElem? (i := 180) rfl), lw_t7 (List.mem_of_getElem? (i := 181) rfl)⟩
theorem lw_p130 : lw_okq (⟨"FrostBoxModel", "goEat", "(IIII)V"⟩, 56) := ⟨⟨by decide +kernel, by decide +kernel⟩, lw_t5 (List.mem_of_getElem? (i := 124) rfl), lw_t7 (List.mem_of_getElem? (i := 188) rfl), lw_t7 (List.mem_of_getElem? (i := 189) rfl)⟩
theorem lw_p131 : lw_okq (⟨"FrostBoxModel", "belowOf", "(II)I"⟩, 56) := ⟨⟨by decide +kernel, by decide +kernel⟩, lw_t5 (List.mem_of_getElem? (i := 124) rfl), lw_t7 (List.mem_of_getElem? (i := 192) rfl), lw_t7 (List.mem_of_getElem? (i := 193) rfl)⟩
theorem lw_p132 : lw_okq (⟨"FrostBoxModel", "valueIn", "([I)I"⟩, 56) := ⟨⟨by decide +kernel, by decide +kernel⟩, lw_t5 (List.mem_of_getElem? (i := 124) rfl), lw_t7 (List.mem_of_getElem? (i := 201) rfl), lw_t7 (List.mem_of_getElem? (i := 202) rfl)⟩
theorem lw_p133 : lw_okq (⟨"FrostBoxModel", "isNameless", "(I)Z"⟩, 56) := ⟨⟨by decide +kernel, by decide +kernel⟩, lw_t5 (List.mem_of_getElem? (i := 124) rfl), lw_t7 (List.mem_of_getElem? (i := 217) rfl), lw_t7 (List.mem_of_getElem? (i := 218) rfl)⟩
theorem lw_p134 : lw_okq (⟨"FrostBoxModel", "couldBe", "(II)I"⟩, 56) := ⟨⟨by decide +kernel, by decide +kernel⟩, lw_t5 (List.mem_of_getElem? (i := 124) rfl), lw_t7 (List.mem_of_getElem? (i := 221) rfl), lw_t7 (List.mem_of_getElem? (i := 222) rfl)⟩
theorem lw_p135 : lw_okq (⟨"FrostBoxModel", "greatestBy", "(I)J"⟩, 56) := ⟨⟨by decide +kernel, by decide +kernel⟩, lw_t5 (List.mem_of_getElem? (i := 124) rfl), lw_t8 (List.mem_of_getElem? (i := 1) rfl), lw_t8 (List.mem_of_getElem? (i := 2) rfl)⟩
theorem lw_p136 : lw_okq (⟨"FrostBoxModel", "heldBy", "(I)J"⟩, 56) := ⟨⟨by decide +kernel, by decide +kernel⟩, lw_t5 (List.mem_of_getElem? (i := 124) rfl), lw_t8 (List.mem_of_getElem? (i := 5) rfl), lw_t8 (List.mem_of_getElem? (i := 6) rfl)⟩
theorem lw_p137 : lw_okq (⟨"FrostBoxModel", "layHistory", "(II)Z"⟩, 56) := ⟨⟨by decide +kernel, by decide +kernel⟩, lw_t5 (List.mem_of_getElem? (i := 124) rfl), lw_t8 (List.mem_of_getElem? (i := 18) rfl), lw_t8 (List.mem_of_getElem? (i := 19) rfl)⟩
theorem lw_p138 : lw_okq (⟨"FrostBoxModel", "goHistory", "(III)V"⟩, 56) := ⟨⟨by decide +kernel, by decide +kernel⟩, lw_t5 (List.mem_of_getElem? (i := 124) rfl), lw_t8 (List.mem_of_getElem? (i := 23) rfl), lw_t8 (List.mem_of_getElem? (i := 24) rfl)⟩
theorem lw_p139 : lw_okq (⟨"FrostBoxModel", "mayBe", "(II)Z"⟩, 56) := ⟨⟨by decide +kernel, by decide +kernel⟩, lw_t5 (List.mem_of_getElem? (i := 124) rfl), lw_t8 (List.mem_of_getElem? (i := 27) rfl), lw_t8 (List.mem_of_getElem? (i := 28) rfl)⟩
theorem lw_p140 : lw_okq (⟨"FrostBoxModel", "labelsOf", "(II)I"⟩, 56) := ⟨⟨by decide +kernel, by decide +kernel⟩, lw_t5 (List.mem_of_getElem? (i := 124) rfl), lw_t8 (List.mem_of_getElem? (i := 43) rfl), lw_t8 (List.mem_of_getElem? (i := 44) rfl)⟩
def lw_privs_9 : List (MethodName × Nat) := [(⟨"FrostBoxModel", "kindIn", "(I)I"⟩, 56), (⟨"FrostBoxModel", "fit", "(II)Z"⟩, 56), (⟨"FrostBoxModel", "goEat", "(IIII)V"⟩, 56), (⟨"FrostBoxModel", "belowOf", "(II)I"⟩, 56), (⟨"FrostBoxModel", "valueIn", "([I)I"⟩, 56), (⟨"FrostBoxModel", "isNameless", "(I)Z"⟩, 56), (⟨"FrostBoxModel", "couldBe", "(II)I"⟩, 56), (⟨"FrostBoxModel", "greatestBy", "(I)J"⟩, 56), (⟨"FrostBoxModel", "heldBy", "(I)J"⟩, 56), (⟨"FrostBoxModel", "layHistory", "(II)Z"⟩, 56), (⟨"FrostBoxModel", "goHistory", "(III)V"⟩, 56), (⟨"FrostBoxModel", "mayBe", "(II)Z"⟩, 56), (⟨"FrostBoxModel", "labelsOf", "(II)I"⟩, 56)]
theorem lw_r9 : ∀ q ∈ lw_privs_9, lw_okq q := List.forall_mem_cons.mpr ⟨lw_p128, List.forall_mem_cons.mpr ⟨lw_p129, List.forall_mem_cons.mpr ⟨lw_p130, List.forall_mem_cons.mpr ⟨lw_p131, List.forall_mem_cons.mpr ⟨lw_p132, List.forall_mem_cons.mpr ⟨lw_p133, List.forall_mem_cons.mpr ⟨lw_p134, List.forall_mem_cons.mpr ⟨lw_p135, List.forall_mem_cons.mpr ⟨lw_p136, List.forall_mem_cons.mpr ⟨lw_p137, List.forall_mem_cons.mpr ⟨lw_p138, List.forall_mem_cons.mpr ⟨lw_p139, List.forall_mem_cons.mpr ⟨lw_p140, fun _ h => absurd h List.not_mem_nil⟩⟩⟩⟩⟩⟩⟩⟩⟩⟩⟩⟩⟩
def lw_privs : List (MethodName × Nat) := lw_privs_1 ++ (lw_privs_2 ++ (lw_privs_3 ++ (lw_privs_4 ++ (lw_privs_5 ++ (lw_privs_6 ++ (lw_privs_7 ++ (lw_privs_8 ++ (lw_privs_9))))))))
def lw_tbl : List Cond := k2_sels lw_privs ++ tables_1
theorem lw_privs_ok : ∀ q ∈ lw_privs, lw_okq q := by
  show ∀ q ∈ lw_privs_1 ++ (lw_privs_2 ++ (lw_privs_3 ++ (lw_privs_4 ++ (lw_privs_5 ++ (lw_privs_6 ++ (lw_privs_7 ++ (lw_privs_8 ++ (lw_privs_9)))))))), lw_okq q
  exact List.forall_mem_append.mpr ⟨lw_r1, List.forall_mem_append.mpr ⟨lw_r2, List.forall_mem_append.mpr ⟨lw_r3, List.forall_mem_append.mpr ⟨lw_r4, List.forall_mem_append.mpr ⟨lw_r5, List.forall_mem_append.mpr ⟨lw_r6, List.forall_mem_append.mpr ⟨lw_r7, List.forall_mem_append.mpr ⟨lw_r8, lw_r9⟩⟩⟩⟩⟩⟩⟩⟩
-- ===== ONE list of words for every method: the tables' words that hold all through a run =====
def lw_all : List Cond := lw_tbl.filter goodWord
/-- a word of the tables by its place: claim/WORDS.tsv -/
theorem lw_w {w : Cond} (i : Nat) (h : lw_tbl[i]? = some w) (g : goodWord w = true) : w ∈ lw_all := List.mem_filter.mpr ⟨List.mem_of_getElem? h, g⟩
theorem lw_all_tbl {w : Cond} (h : w ∈ lw_all) : w ∈ lw_tbl := (List.mem_filter.mp h).1
theorem lw_self : GoodIn lw_all lw_all := fun w h => ⟨h, good_of_word (List.mem_filter.mp h).2⟩
/-- a class's field words, by their places -/
theorem lw_in (ws : List Cond) (ps : List Nat) (hp : ws = ps.filterMap (fun i => lw_tbl[i]?)) (hg : ws.all goodWord = true) : ∀ w ∈ ws, w ∈ lw_all := by
  intro w h
  have h1 := List.all_eq_true.mp hg w h
  rw [hp] at h
  obtain ⟨i, -, hi⟩ := List.mem_filterMap.mp h
  exact lw_w i hi h1
/-- the words of a contract for the method y with code b, L locals, answer r -/
abbrev ws_ (y : MethodName) (b : ByteArray) (L : Nat) (r : Option FieldType) : List Cond := Cond.code y b L r :: lw_all
theorem lw_meth {y : MethodName} {b : ByteArray} {L : Nat} {r : Option FieldType} (h : Cond.code y b L r ∈ lw_all) : GoodIn lw_all (ws_ y b L r) := by
  intro w hw
  rcases List.mem_cons.mp hw with e | e
  · rw [e]
    exact lw_self _ h
  · exact lw_self _ e
theorem lw_app {a c : List Cond} (ha : ∀ w ∈ a, w ∈ lw_all) (hc : GoodIn lw_all c) : GoodIn lw_all (a ++ c) := by
  intro w hw
  rcases List.mem_append.mp hw with e | e
  · exact lw_self w (ha w e)
  · exact hc w e
/-- what a call through an object asks: cwV n hts (lw_V ..) -/
theorem lw_V {own : String} {idx : Nat} {C : String} {y : MethodName} {b : ByteArray} {L : Nat} {r : Option FieldType} (h1 : Cond.methodLink own idx y ∈ lw_all) (h2 : Cond.instanceMethod y ∈ lw_all) (h3 : Cond.selects C y y ∈ lw_all) (h4 : Cond.initialized C ∈ lw_all) (h5 : Cond.code y b L r ∈ lw_all) : GoodIn lw_all (wsV own idx C y (ws_ y b L r)) := by
  refine lw_app ?_ (lw_meth h5)
  intro w hw
  simp only [List.mem_cons, List.not_mem_nil, or_false] at hw
  rcases hw with e | e | e | e
  · rw [e]; exact h1
  · rw [e]; exact h2
  · rw [e]; exact h3
  · rw [e]; exact h4
/-- what a static call asks: va_cwS n hts (lw_S ..) -/
theorem lw_S {own : String} {idx : Nat} {y : MethodName} {b : ByteArray} {L : Nat} {r : Option FieldType} (h1 : Cond.methodLink own idx y ∈ lw_all) (h2 : Cond.static y ∈ lw_all) (h3 : Cond.initialized y.cls ∈ lw_all) (h4 : Cond.code y b L r ∈ lw_all) : GoodIn lw_all (va_wsS own idx y (ws_ y b L r)) := by
  refine lw_app ?_ (lw_meth h4)
  intro w hw
  simp only [List.mem_cons, List.not_mem_nil, or_false] at hw
  rcases hw with e | e | e
  · rw [e]; exact h1
  · rw [e]; exact h2
  · rw [e]; exact h3
/-- the words of a contract for a method WITH HANDLERS (hh: its table) -/
abbrev wsW_ (y : MethodName) (b : ByteArray) (L : Nat) (r : Option FieldType) (hh : List (Nat × Nat × Nat × Nat)) : List Cond := Cond.codeWith y b L r hh :: lw_all
theorem lw_methW {y : MethodName} {b : ByteArray} {L : Nat} {r : Option FieldType} {hh : List (Nat × Nat × Nat × Nat)} (h : Cond.codeWith y b L r hh ∈ lw_all) : GoodIn lw_all (wsW_ y b L r hh) := by
  intro w hw
  rcases List.mem_cons.mp hw with e | e
  · rw [e]
    exact lw_self _ h
  · exact lw_self _ e
/-- any list of words by their places (lw_in), good -/
theorem lw_good {ws : List Cond} (h : ∀ w ∈ ws, w ∈ lw_all) : GoodIn lw_all ws := fun w hw => lw_self w (h w hw)
/-- what a call of a method with handlers asks: vx_cwVW n hts (lw_VW ..), vx_cwSW n hts (lw_SW ..) -/
theorem lw_VW {own : String} {idx : Nat} {C : String} {y : MethodName} {b : ByteArray} {L : Nat} {r : Option FieldType} {hh : List (Nat × Nat × Nat × Nat)} (h1 : Cond.methodLink own idx y ∈ lw_all) (h2 : Cond.instanceMethod y ∈ lw_all) (h3 : Cond.selects C y y ∈ lw_all) (h4 : Cond.initialized C ∈ lw_all) (h5 : Cond.codeWith y b L r hh ∈ lw_all) : GoodIn lw_all (wsV own idx C y (wsW_ y b L r hh)) := by
  refine lw_app ?_ (lw_methW h5)
  intro w hw
  simp only [List.mem_cons, List.not_mem_nil, or_false] at hw
  rcases hw with e | e | e | e
  · rw [e]; exact h1
  · rw [e]; exact h2
  · rw [e]; exact h3
  · rw [e]; exact h4
theorem lw_SW {own : String} {idx : Nat} {y : MethodName} {b : ByteArray} {L : Nat} {r : Option FieldType} {hh : List (Nat × Nat × Nat × Nat)} (h1 : Cond.methodLink own idx y ∈ lw_all) (h2 : Cond.static y ∈ lw_all) (h3 : Cond.initialized y.cls ∈ lw_all) (h4 : Cond.codeWith y b L r hh ∈ lw_all) : GoodIn lw_all (va_wsS own idx y (wsW_ y b L r hh)) := by
  refine lw_app ?_ (lw_methW h4)
  intro w hw
  simp only [List.mem_cons, List.not_mem_nil, or_false] at hw
  rcases hw with e | e | e
  · rw [e]; exact h1
  · rw [e]; exact h2
  · rw [e]; exact h3
/-- a word by its place in its run of the tables -/
theorem lw_at {r : List Cond} (hr : ∀ w ∈ r, w ∈ lw_tbl) {w : Cond} (i : Nat) (h : r[i]? = some w) : w ∈ lw_tbl := hr w (List.mem_of_getElem? h)
theorem lw_g {w : Cond} (h : w ∈ lw_tbl) (g : goodWord w = true) : w ∈ lw_all := List.mem_filter.mpr ⟨h, g⟩
theorem lw_ms : ∀ w ∈ k2_sels lw_privs, w ∈ lw_tbl := fun w h => show w ∈ k2_sels lw_privs ++ tables_1 from List.mem_append_left _ h
theorem lw_m1 : ∀ w ∈ tables_1_1, w ∈ lw_tbl := fun w h => show w ∈ k2_sels lw_privs ++ tables_1 from List.mem_append_right (k2_sels lw_privs) (show w ∈ tables_1 from List.mem_append_left _ h)
theorem lw_m2 : ∀ w ∈ tables_1_2, w ∈ lw_tbl := fun w h => show w ∈ k2_sels lw_privs ++ tables_1 from List.mem_append_right (k2_sels lw_privs) (show w ∈ tables_1 from List.mem_append_right _ (List.mem_append_left _ h))
theorem lw_m3 : ∀ w ∈ tables_1_3, w ∈ lw_tbl := fun w h => show w ∈ k2_sels lw_privs ++ tables_1 from List.mem_append_right (k2_sels lw_privs) (show w ∈ tables_1 from List.mem_append_right _ (List.mem_append_right _ (List.mem_append_left _ h)))
theorem lw_m4 : ∀ w ∈ tables_1_4, w ∈ lw_tbl := fun w h => show w ∈ k2_sels lw_privs ++ tables_1 from List.mem_append_right (k2_sels lw_privs) (show w ∈ tables_1 from List.mem_append_right _ (List.mem_append_right _ (List.mem_append_right _ (List.mem_append_left _ h))))
theorem lw_m5 : ∀ w ∈ tables_1_5, w ∈ lw_tbl := fun w h => show w ∈ k2_sels lw_privs ++ tables_1 from List.mem_append_right (k2_sels lw_privs) (show w ∈ tables_1 from List.mem_append_right _ (List.mem_append_right _ (List.mem_append_right _ (List.mem_append_right _ (List.mem_append_left _ h)))))
theorem lw_m6 : ∀ w ∈ tables_1_6, w ∈ lw_tbl := fun w h => show w ∈ k2_sels lw_privs ++ tables_1 from List.mem_append_right (k2_sels lw_privs) (show w ∈ tables_1 from List.mem_append_right _ (List.mem_append_right _ (List.mem_append_right _ (List.mem_append_right _ (List.mem_append_right _ (List.mem_append_left _ h))))))
theorem lw_m7 : ∀ w ∈ tables_1_7, w ∈ lw_tbl := fun w h => show w ∈ k2_sels lw_privs ++ tables_1 from List.mem_append_right (k2_sels lw_privs) (show w ∈ tables_1 from List.mem_append_right _ (List.mem_append_right _ (List.mem_append_right _ (List.mem_append_right _ (List.mem_append_right _ (List.mem_append_right _ (List.mem_append_left _ h)))))))
theorem lw_m8 : ∀ w ∈ tables_1_8, w ∈ lw_tbl := fun w h => show w ∈ k2_sels lw_privs ++ tables_1 from List.mem_append_right (k2_sels lw_privs) (show w ∈ tables_1 from List.mem_append_right _ (List.mem_append_right _ (List.mem_append_right _ (List.mem_append_right _ (List.mem_append_right _ (List.mem_append_right _ (List.mem_append_right _ h)))))))
theorem qs0 : (Cond.selects "java/lang/Throwable" ⟨"java/lang/Throwable", "fillInStackTrace", "(I)Ljava/lang/Throwable;"⟩ ⟨"java/lang/Throwable", "fillInStackTrace", "(I)Ljava/lang/Throwable;"⟩) ∈ lw_all := lw_g (lw_at lw_ms 0 rfl) rfl
theorem qs1 : (Cond.selects "FrostBox" ⟨"FrostBox", "lawFault", "()I"⟩ ⟨"FrostBox", "lawFault", "()I"⟩) ∈ lw_all := lw_g (lw_at lw_ms 1 rfl) rfl
theorem qs2 : (Cond.selects "FrostBox" ⟨"FrostBox", "wholeLaw", "()LFrostBox$Clause;"⟩ ⟨"FrostBox", "wholeLaw", "()LFrostBox$Clause;"⟩) ∈ lw_all := lw_g (lw_at lw_ms 2 rfl) rfl
theorem qs3 : (Cond.selects "FrostBox" ⟨"FrostBox", "clause", "()LFrostBox$Clause;"⟩ ⟨"FrostBox", "clause", "()LFrostBox$Clause;"⟩) ∈ lw_all := lw_g (lw_at lw_ms 3 rfl) rfl
theorem qs4 : (Cond.selects "FrostBox" ⟨"FrostBox", "look", "()I"⟩ ⟨"FrostBox", "look", "()I"⟩) ∈ lw_all := lw_g (lw_at lw_ms 4 rfl) rfl
theorem qs5 : (Cond.selects "FrostBox" ⟨"FrostBox", "need", "(Z)V"⟩ ⟨"FrostBox", "need", "(Z)V"⟩) ∈ lw_all := lw_g (lw_at lw_ms 5 rfl) rfl
theorem qs6 : (Cond.selects "FrostBox" ⟨"FrostBox", "sum", "()LFrostBox$Sum;"⟩ ⟨"FrostBox", "sum", "()LFrostBox$Sum;"⟩) ∈ lw_all := lw_g (lw_at lw_ms 6 rfl) rfl
theorem qs7 : (Cond.selects "FrostBox" ⟨"FrostBox", "term", "()LFrostBox$Sum;"⟩ ⟨"FrostBox", "term", "()LFrostBox$Sum;"⟩) ∈ lw_all := lw_g (lw_at lw_ms 7 rfl) rfl
theorem qs8 : (Cond.selects "FrostBox" ⟨"FrostBox", "atom", "()LFrostBox$Sum;"⟩ ⟨"FrostBox", "atom", "()LFrostBox$Sum;"⟩) ∈ lw_all := lw_g (lw_at lw_ms 8 rfl) rfl
theorem qs9 : (Cond.selects "FrostBox" ⟨"FrostBox", "opens", "()V"⟩ ⟨"FrostBox", "opens", "()V"⟩) ∈ lw_all := lw_g (lw_at lw_ms 9 rfl) rfl
theorem qs10 : (Cond.selects "FrostBox" ⟨"FrostBox", "closes", "(I)V"⟩ ⟨"FrostBox", "closes", "(I)V"⟩) ∈ lw_all := lw_g (lw_at lw_ms 10 rfl) rfl
theorem qs11 : (Cond.selects "FrostBox" ⟨"FrostBox", "condition", "(LFrostBox$Sum;)LFrostBox$Test;"⟩ ⟨"FrostBox", "condition", "(LFrostBox$Sum;)LFrostBox$Test;"⟩) ∈ lw_all := lw_g (lw_at lw_ms 11 rfl) rfl
theorem qs12 : (Cond.selects "FrostBox" ⟨"FrostBox", "part", "(LFrostBox$Sum;)LFrostBox$Test;"⟩ ⟨"FrostBox", "part", "(LFrostBox$Sum;)LFrostBox$Test;"⟩) ∈ lw_all := lw_g (lw_at lw_ms 12 rfl) rfl
theorem qs13 : (Cond.selects "FrostBox" ⟨"FrostBox", "unit", "()LFrostBox$Test;"⟩ ⟨"FrostBox", "unit", "()LFrostBox$Test;"⟩) ∈ lw_all := lw_g (lw_at lw_ms 13 rfl) rfl
theorem qs14 : (Cond.selects "FrostBox" ⟨"FrostBox", "compare", "(LFrostBox$Sum;)LFrostBox$Test;"⟩ ⟨"FrostBox", "compare", "(LFrostBox$Sum;)LFrostBox$Test;"⟩) ∈ lw_all := lw_g (lw_at lw_ms 14 rfl) rfl
theorem qs15 : (Cond.selects "FrostBox" ⟨"FrostBox", "readAs", "(I)V"⟩ ⟨"FrostBox", "readAs", "(I)V"⟩) ∈ lw_all := lw_g (lw_at lw_ms 15 rfl) rfl
theorem qs16 : (Cond.selects "FrostBox" ⟨"FrostBox", "wholeHouse", "()V"⟩ ⟨"FrostBox", "wholeHouse", "()V"⟩) ∈ lw_all := lw_g (lw_at lw_ms 16 rfl) rfl
theorem qs17 : (Cond.selects "FrostBox" ⟨"FrostBox", "items", "(I[III)V"⟩ ⟨"FrostBox", "items", "(I[III)V"⟩) ∈ lw_all := lw_g (lw_at lw_ms 17 rfl) rfl
theorem qs18 : (Cond.selects "FrostBox" ⟨"FrostBox", "there", "()I"⟩ ⟨"FrostBox", "there", "()I"⟩) ∈ lw_all := lw_g (lw_at lw_ms 18 rfl) rfl
theorem qs19 : (Cond.selects "FrostBox" ⟨"FrostBox", "number", "(II)I"⟩ ⟨"FrostBox", "number", "(II)I"⟩) ∈ lw_all := lw_g (lw_at lw_ms 19 rfl) rfl
theorem qs20 : (Cond.selects "FrostBox" ⟨"FrostBox", "isWhole", "()Z"⟩ ⟨"FrostBox", "isWhole", "()Z"⟩) ∈ lw_all := lw_g (lw_at lw_ms 20 rfl) rfl
theorem qs21 : (Cond.selects "FrostBox" ⟨"FrostBox", "wholePlan", "(I)V"⟩ ⟨"FrostBox", "wholePlan", "(I)V"⟩) ∈ lw_all := lw_g (lw_at lw_ms 21 rfl) rfl
theorem qs22 : (Cond.selects "FrostBox" ⟨"FrostBox", "stepRead", "(I)V"⟩ ⟨"FrostBox", "stepRead", "(I)V"⟩) ∈ lw_all := lw_g (lw_at lw_ms 22 rfl) rfl
theorem qs23 : (Cond.selects "FrostBox" ⟨"FrostBox", "digit", "(I)I"⟩ ⟨"FrostBox", "digit", "(I)I"⟩) ∈ lw_all := lw_g (lw_at lw_ms 23 rfl) rfl
theorem qs24 : (Cond.selects "FrostBox" ⟨"FrostBox", "lawRead", "()I"⟩ ⟨"FrostBox", "lawRead", "()I"⟩) ∈ lw_all := lw_g (lw_at lw_ms 24 rfl) rfl
theorem qs25 : (Cond.selects "FrostBox" ⟨"FrostBox", "planRead", "()I"⟩ ⟨"FrostBox", "planRead", "()I"⟩) ∈ lw_all := lw_g (lw_at lw_ms 25 rfl) rfl
theorem qs26 : (Cond.selects "FrostBox" ⟨"FrostBox", "isHouse", "()Z"⟩ ⟨"FrostBox", "isHouse", "()Z"⟩) ∈ lw_all := lw_g (lw_at lw_ms 26 rfl) rfl
theorem qs27 : (Cond.selects "FrostBox" ⟨"FrostBox", "isKind", "(I)Z"⟩ ⟨"FrostBox", "isKind", "(I)Z"⟩) ∈ lw_all := lw_g (lw_at lw_ms 27 rfl) rfl
theorem qs28 : (Cond.selects "FrostBox" ⟨"FrostBox", "goesWith", "(I)I"⟩ ⟨"FrostBox", "goesWith", "(I)I"⟩) ∈ lw_all := lw_g (lw_at lw_ms 28 rfl) rfl
theorem qs29 : (Cond.selects "FrostBox" ⟨"FrostBox", "ofKind", "(II)I"⟩ ⟨"FrostBox", "ofKind", "(II)I"⟩) ∈ lw_all := lw_g (lw_at lw_ms 29 rfl) rfl
theorem qs30 : (Cond.selects "FrostBox" ⟨"FrostBox", "canPut", "(II)Z"⟩ ⟨"FrostBox", "canPut", "(II)Z"⟩) ∈ lw_all := lw_g (lw_at lw_ms 30 rfl) rfl
theorem qs31 : (Cond.selects "FrostBox" ⟨"FrostBox", "boxMany", "()I"⟩ ⟨"FrostBox", "boxMany", "()I"⟩) ∈ lw_all := lw_g (lw_at lw_ms 31 rfl) rfl
theorem qs32 : (Cond.selects "FrostBox" ⟨"FrostBox", "portionsAll", "()I"⟩ ⟨"FrostBox", "portionsAll", "()I"⟩) ∈ lw_all := lw_g (lw_at lw_ms 32 rfl) rfl
theorem qs33 : (Cond.selects "FrostBox" ⟨"FrostBox", "portionsOf", "(I)I"⟩ ⟨"FrostBox", "portionsOf", "(I)I"⟩) ∈ lw_all := lw_g (lw_at lw_ms 33 rfl) rfl
theorem qs34 : (Cond.selects "FrostBox" ⟨"FrostBox", "of", "(II)I"⟩ ⟨"FrostBox", "of", "(II)I"⟩) ∈ lw_all := lw_g (lw_at lw_ms 34 rfl) rfl
theorem qs35 : (Cond.selects "FrostBox" ⟨"FrostBox", "turned", "(I)I"⟩ ⟨"FrostBox", "turned", "(I)I"⟩) ∈ lw_all := lw_g (lw_at lw_ms 35 rfl) rfl
theorem qs36 : (Cond.selects "FrostBox" ⟨"FrostBox", "act", "()V"⟩ ⟨"FrostBox", "act", "()V"⟩) ∈ lw_all := lw_g (lw_at lw_ms 36 rfl) rfl
theorem qs37 : (Cond.selects "FrostBox" ⟨"FrostBox", "putNow", "(IIZ)V"⟩ ⟨"FrostBox", "putNow", "(IIZ)V"⟩) ∈ lw_all := lw_g (lw_at lw_ms 37 rfl) rfl
theorem qs38 : (Cond.selects "FrostBox" ⟨"FrostBox", "isBox", "(I)Z"⟩ ⟨"FrostBox", "isBox", "(I)Z"⟩) ∈ lw_all := lw_g (lw_at lw_ms 38 rfl) rfl
theorem qs39 : (Cond.selects "FrostBox" ⟨"FrostBox", "takeNow", "(I)I"⟩ ⟨"FrostBox", "takeNow", "(I)I"⟩) ∈ lw_all := lw_g (lw_at lw_ms 39 rfl) rfl
theorem qs40 : (Cond.selects "FrostBox" ⟨"FrostBox", "valueOf", "(I)I"⟩ ⟨"FrostBox", "valueOf", "(I)I"⟩) ∈ lw_all := lw_g (lw_at lw_ms 40 rfl) rfl
theorem qs41 : (Cond.selects "FrostBox" ⟨"FrostBox", "valueAt", "(III)I"⟩ ⟨"FrostBox", "valueAt", "(III)I"⟩) ∈ lw_all := lw_g (lw_at lw_ms 41 rfl) rfl
theorem qs42 : (Cond.selects "FrostBox" ⟨"FrostBox", "aged", "(II)I"⟩ ⟨"FrostBox", "aged", "(II)I"⟩) ∈ lw_all := lw_g (lw_at lw_ms 42 rfl) rfl
theorem qs43 : (Cond.selects "FrostBox" ⟨"FrostBox", "worthAt", "(IIII)I"⟩ ⟨"FrostBox", "worthAt", "(IIII)I"⟩) ∈ lw_all := lw_g (lw_at lw_ms 43 rfl) rfl
theorem qs44 : (Cond.selects "FrostBox" ⟨"FrostBox", "forget", "()V"⟩ ⟨"FrostBox", "forget", "()V"⟩) ∈ lw_all := lw_g (lw_at lw_ms 44 rfl) rfl
theorem qs45 : (Cond.selects "FrostBox" ⟨"FrostBox", "canLabel", "(I)Z"⟩ ⟨"FrostBox", "canLabel", "(I)Z"⟩) ∈ lw_all := lw_g (lw_at lw_ms 45 rfl) rfl
theorem qs46 : (Cond.selects "FrostBox" ⟨"FrostBox", "isLabelled", "(I)Z"⟩ ⟨"FrostBox", "isLabelled", "(I)Z"⟩) ∈ lw_all := lw_g (lw_at lw_ms 46 rfl) rfl
theorem qs47 : (Cond.selects "FrostBox" ⟨"FrostBox", "labelNow", "(I)V"⟩ ⟨"FrostBox", "labelNow", "(I)V"⟩) ∈ lw_all := lw_g (lw_at lw_ms 47 rfl) rfl
theorem qs48 : (Cond.selects "FrostBox" ⟨"FrostBox", "canPass", "(I)Z"⟩ ⟨"FrostBox", "canPass", "(I)Z"⟩) ∈ lw_all := lw_g (lw_at lw_ms 48 rfl) rfl
theorem qs49 : (Cond.selects "FrostBox" ⟨"FrostBox", "pass", "()V"⟩ ⟨"FrostBox", "pass", "()V"⟩) ∈ lw_all := lw_g (lw_at lw_ms 49 rfl) rfl
theorem qs50 : (Cond.selects "FrostBox" ⟨"FrostBox", "older", "(I)V"⟩ ⟨"FrostBox", "older", "(I)V"⟩) ∈ lw_all := lw_g (lw_at lw_ms 50 rfl) rfl
theorem qs51 : (Cond.selects "FrostBox" ⟨"FrostBox", "isOff", "(I)Z"⟩ ⟨"FrostBox", "isOff", "(I)Z"⟩) ∈ lw_all := lw_g (lw_at lw_ms 51 rfl) rfl
theorem qs52 : (Cond.selects "FrostBox" ⟨"FrostBox", "tooMany", "(I)I"⟩ ⟨"FrostBox", "tooMany", "(I)I"⟩) ∈ lw_all := lw_g (lw_at lw_ms 52 rfl) rfl
theorem qs53 : (Cond.selects "FrostBox" ⟨"FrostBox", "draw", "(I)I"⟩ ⟨"FrostBox", "draw", "(I)I"⟩) ∈ lw_all := lw_g (lw_at lw_ms 53 rfl) rfl
theorem qs54 : (Cond.selects "FrostBox" ⟨"FrostBox", "isPlan", "(I)Z"⟩ ⟨"FrostBox", "isPlan", "(I)Z"⟩) ∈ lw_all := lw_g (lw_at lw_ms 54 rfl) rfl
theorem qs55 : (Cond.selects "FrostBox" ⟨"FrostBox", "putAside", "()V"⟩ ⟨"FrostBox", "putAside", "()V"⟩) ∈ lw_all := lw_g (lw_at lw_ms 55 rfl) rfl
theorem qs56 : (Cond.selects "FrostBox" ⟨"FrostBox", "canStep", "(I)Z"⟩ ⟨"FrostBox", "canStep", "(I)Z"⟩) ∈ lw_all := lw_g (lw_at lw_ms 56 rfl) rfl
theorem qs57 : (Cond.selects "FrostBox" ⟨"FrostBox", "doStep", "(I)I"⟩ ⟨"FrostBox", "doStep", "(I)I"⟩) ∈ lw_all := lw_g (lw_at lw_ms 57 rfl) rfl
theorem qs58 : (Cond.selects "FrostBox" ⟨"FrostBox", "takeBack", "()V"⟩ ⟨"FrostBox", "takeBack", "()V"⟩) ∈ lw_all := lw_g (lw_at lw_ms 58 rfl) rfl
theorem qs59 : (Cond.selects "FrostBox" ⟨"FrostBox", "isMeal", "(I)Z"⟩ ⟨"FrostBox", "isMeal", "(I)Z"⟩) ∈ lw_all := lw_g (lw_at lw_ms 59 rfl) rfl
theorem qs60 : (Cond.selects "FrostBox" ⟨"FrostBox", "isWith", "(II)Z"⟩ ⟨"FrostBox", "isWith", "(II)Z"⟩) ∈ lw_all := lw_g (lw_at lw_ms 60 rfl) rfl
theorem qs61 : (Cond.selects "FrostBox" ⟨"FrostBox", "valueOfSet", "(I)I"⟩ ⟨"FrostBox", "valueOfSet", "(I)I"⟩) ∈ lw_all := lw_g (lw_at lw_ms 61 rfl) rfl
theorem qs62 : (Cond.selects "FrostBox" ⟨"FrostBox", "eatingFrom", "(Z)I"⟩ ⟨"FrostBox", "eatingFrom", "(Z)I"⟩) ∈ lw_all := lw_g (lw_at lw_ms 62 rfl) rfl
theorem qs63 : (Cond.selects "FrostBox" ⟨"FrostBox", "eatenNow", "(II)I"⟩ ⟨"FrostBox", "eatenNow", "(II)I"⟩) ∈ lw_all := lw_g (lw_at lw_ms 63 rfl) rfl
theorem qs64 : (Cond.selects "FrostBox" ⟨"FrostBox", "belowIn", "(II)I"⟩ ⟨"FrostBox", "belowIn", "(II)I"⟩) ∈ lw_all := lw_g (lw_at lw_ms 64 rfl) rfl
theorem qs65 : (Cond.selects "FrostBox" ⟨"FrostBox", "layEating", "()V"⟩ ⟨"FrostBox", "layEating", "()V"⟩) ∈ lw_all := lw_g (lw_at lw_ms 65 rfl) rfl
theorem qs66 : (Cond.selects "FrostBox" ⟨"FrostBox", "eatingRow", "()I"⟩ ⟨"FrostBox", "eatingRow", "()I"⟩) ∈ lw_all := lw_g (lw_at lw_ms 66 rfl) rfl
theorem qs67 : (Cond.selects "FrostBox" ⟨"FrostBox", "valueAll", "()I"⟩ ⟨"FrostBox", "valueAll", "()I"⟩) ∈ lw_all := lw_g (lw_at lw_ms 67 rfl) rfl
theorem qs68 : (Cond.selects "FrostBox" ⟨"FrostBox", "couldHold", "(II)I"⟩ ⟨"FrostBox", "couldHold", "(II)I"⟩) ∈ lw_all := lw_g (lw_at lw_ms 68 rfl) rfl
theorem qs69 : (Cond.selects "FrostBox" ⟨"FrostBox", "weighs", "(I)I"⟩ ⟨"FrostBox", "weighs", "(I)I"⟩) ∈ lw_all := lw_g (lw_at lw_ms 69 rfl) rfl
theorem qs70 : (Cond.selects "FrostBox" ⟨"FrostBox", "namelessNow", "()I"⟩ ⟨"FrostBox", "namelessNow", "()I"⟩) ∈ lw_all := lw_g (lw_at lw_ms 70 rfl) rfl
theorem qs71 : (Cond.selects "FrostBox" ⟨"FrostBox", "areDouble", "(II)Z"⟩ ⟨"FrostBox", "areDouble", "(II)Z"⟩) ∈ lw_all := lw_g (lw_at lw_ms 71 rfl) rfl
theorem qs72 : (Cond.selects "FrostBox" ⟨"FrostBox", "mostHeld", "(I)J"⟩ ⟨"FrostBox", "mostHeld", "(I)J"⟩) ∈ lw_all := lw_g (lw_at lw_ms 72 rfl) rfl
theorem qs73 : (Cond.selects "FrostBox" ⟨"FrostBox", "heldOf", "(I)J"⟩ ⟨"FrostBox", "heldOf", "(I)J"⟩) ∈ lw_all := lw_g (lw_at lw_ms 73 rfl) rfl
theorem qs74 : (Cond.selects "FrostBox" ⟨"FrostBox", "layRows", "(II)Z"⟩ ⟨"FrostBox", "layRows", "(II)Z"⟩) ∈ lw_all := lw_g (lw_at lw_ms 74 rfl) rfl
theorem qs75 : (Cond.selects "FrostBox" ⟨"FrostBox", "tryRows", "(II)V"⟩ ⟨"FrostBox", "tryRows", "(II)V"⟩) ∈ lw_all := lw_g (lw_at lw_ms 75 rfl) rfl
theorem qs76 : (Cond.selects "FrostBox" ⟨"FrostBox", "mayBe", "(II)Z"⟩ ⟨"FrostBox", "mayBe", "(II)Z"⟩) ∈ lw_all := lw_g (lw_at lw_ms 76 rfl) rfl
theorem qs77 : (Cond.selects "FrostBox" ⟨"FrostBox", "labelsOf", "(II)I"⟩ ⟨"FrostBox", "labelsOf", "(II)I"⟩) ∈ lw_all := lw_g (lw_at lw_ms 77 rfl) rfl
theorem qs78 : (Cond.selects "FrostBox" ⟨"FrostBox", "eatenAll", "()I"⟩ ⟨"FrostBox", "eatenAll", "()I"⟩) ∈ lw_all := lw_g (lw_at lw_ms 78 rfl) rfl
theorem qs79 : (Cond.selects "FrostBoxModel" ⟨"FrostBoxModel", "put", "(I)V"⟩ ⟨"FrostBoxModel", "put", "(I)V"⟩) ∈ lw_all := lw_g (lw_at lw_ms 79 rfl) rfl
theorem qs80 : (Cond.selects "FrostBoxModel" ⟨"FrostBoxModel", "readHouse", "()V"⟩ ⟨"FrostBoxModel", "readHouse", "()V"⟩) ∈ lw_all := lw_g (lw_at lw_ms 80 rfl) rfl
theorem qs81 : (Cond.selects "FrostBoxModel" ⟨"FrostBoxModel", "starts", "([BII)V"⟩ ⟨"FrostBoxModel", "starts", "([BII)V"⟩) ∈ lw_all := lw_g (lw_at lw_ms 81 rfl) rfl
theorem qs82 : (Cond.selects "FrostBoxModel" ⟨"FrostBoxModel", "readClause", "()V"⟩ ⟨"FrostBoxModel", "readClause", "()V"⟩) ∈ lw_all := lw_g (lw_at lw_ms 82 rfl) rfl
theorem qs83 : (Cond.selects "FrostBoxModel" ⟨"FrostBoxModel", "look", "()I"⟩ ⟨"FrostBoxModel", "look", "()I"⟩) ∈ lw_all := lw_g (lw_at lw_ms 83 rfl) rfl
theorem qs84 : (Cond.selects "FrostBoxModel" ⟨"FrostBoxModel", "fails", "()Z"⟩ ⟨"FrostBoxModel", "fails", "()Z"⟩) ∈ lw_all := lw_g (lw_at lw_ms 84 rfl) rfl
theorem qs85 : (Cond.selects "FrostBoxModel" ⟨"FrostBoxModel", "readItems", "(I[IILjava/lang/String;)V"⟩ ⟨"FrostBoxModel", "readItems", "(I[IILjava/lang/String;)V"⟩) ∈ lw_all := lw_g (lw_at lw_ms 85 rfl) rfl
theorem qs86 : (Cond.selects "FrostBoxModel" ⟨"FrostBoxModel", "number", "(II)I"⟩ ⟨"FrostBoxModel", "number", "(II)I"⟩) ∈ lw_all := lw_g (lw_at lw_ms 86 rfl) rfl
theorem qs87 : (Cond.selects "FrostBoxModel" ⟨"FrostBoxModel", "isDigit", "()Z"⟩ ⟨"FrostBoxModel", "isDigit", "()Z"⟩) ∈ lw_all := lw_g (lw_at lw_ms 87 rfl) rfl
theorem qs88 : (Cond.selects "FrostBoxModel" ⟨"FrostBoxModel", "here", "()I"⟩ ⟨"FrostBoxModel", "here", "()I"⟩) ∈ lw_all := lw_g (lw_at lw_ms 88 rfl) rfl
theorem qs89 : (Cond.selects "FrostBoxModel" ⟨"FrostBoxModel", "isWhole", "()Z"⟩ ⟨"FrostBoxModel", "isWhole", "()Z"⟩) ∈ lw_all := lw_g (lw_at lw_ms 89 rfl) rfl
theorem qs90 : (Cond.selects "FrostBoxModel" ⟨"FrostBoxModel", "goThrough", "([BII)V"⟩ ⟨"FrostBoxModel", "goThrough", "([BII)V"⟩) ∈ lw_all := lw_g (lw_at lw_ms 90 rfl) rfl
theorem qs91 : (Cond.selects "FrostBoxModel" ⟨"FrostBoxModel", "clause", "()V"⟩ ⟨"FrostBoxModel", "clause", "()V"⟩) ∈ lw_all := lw_g (lw_at lw_ms 91 rfl) rfl
theorem qs92 : (Cond.selects "FrostBoxModel" ⟨"FrostBoxModel", "takes", "(I)Z"⟩ ⟨"FrostBoxModel", "takes", "(I)Z"⟩) ∈ lw_all := lw_g (lw_at lw_ms 92 rfl) rfl
theorem qs93 : (Cond.selects "FrostBoxModel" ⟨"FrostBoxModel", "condition", "(ZI)Z"⟩ ⟨"FrostBoxModel", "condition", "(ZI)Z"⟩) ∈ lw_all := lw_g (lw_at lw_ms 93 rfl) rfl
theorem qs94 : (Cond.selects "FrostBoxModel" ⟨"FrostBoxModel", "part", "(ZI)Z"⟩ ⟨"FrostBoxModel", "part", "(ZI)Z"⟩) ∈ lw_all := lw_g (lw_at lw_ms 94 rfl) rfl
theorem qs95 : (Cond.selects "FrostBoxModel" ⟨"FrostBoxModel", "compares", "(ZI)Z"⟩ ⟨"FrostBoxModel", "compares", "(ZI)Z"⟩) ∈ lw_all := lw_g (lw_at lw_ms 95 rfl) rfl
theorem qs96 : (Cond.selects "FrostBoxModel" ⟨"FrostBoxModel", "sum", "()I"⟩ ⟨"FrostBoxModel", "sum", "()I"⟩) ∈ lw_all := lw_g (lw_at lw_ms 96 rfl) rfl
theorem qs97 : (Cond.selects "FrostBoxModel" ⟨"FrostBoxModel", "term", "()I"⟩ ⟨"FrostBoxModel", "term", "()I"⟩) ∈ lw_all := lw_g (lw_at lw_ms 97 rfl) rfl
theorem qs98 : (Cond.selects "FrostBoxModel" ⟨"FrostBoxModel", "atom", "()I"⟩ ⟨"FrostBoxModel", "atom", "()I"⟩) ∈ lw_all := lw_g (lw_at lw_ms 98 rfl) rfl
theorem qs99 : (Cond.selects "FrostBoxModel" ⟨"FrostBoxModel", "goesIn", "()Z"⟩ ⟨"FrostBoxModel", "goesIn", "()Z"⟩) ∈ lw_all := lw_g (lw_at lw_ms 99 rfl) rfl
theorem qs100 : (Cond.selects "FrostBoxModel" ⟨"FrostBoxModel", "unit", "()Z"⟩ ⟨"FrostBoxModel", "unit", "()Z"⟩) ∈ lw_all := lw_g (lw_at lw_ms 100 rfl) rfl
theorem qs101 : (Cond.selects "FrostBoxModel" ⟨"FrostBoxModel", "readPlan", "()V"⟩ ⟨"FrostBoxModel", "readPlan", "()V"⟩) ∈ lw_all := lw_g (lw_at lw_ms 101 rfl) rfl
theorem qs102 : (Cond.selects "FrostBoxModel" ⟨"FrostBoxModel", "readStep", "(I)V"⟩ ⟨"FrostBoxModel", "readStep", "(I)V"⟩) ∈ lw_all := lw_g (lw_at lw_ms 102 rfl) rfl
theorem qs103 : (Cond.selects "FrostBoxModel" ⟨"FrostBoxModel", "digit", "(I)I"⟩ ⟨"FrostBoxModel", "digit", "(I)I"⟩) ∈ lw_all := lw_g (lw_at lw_ms 103 rfl) rfl
theorem qs104 : (Cond.selects "FrostBoxModel" ⟨"FrostBoxModel", "isKind", "(I)Z"⟩ ⟨"FrostBoxModel", "isKind", "(I)Z"⟩) ∈ lw_all := lw_g (lw_at lw_ms 104 rfl) rfl
theorem qs105 : (Cond.selects "FrostBoxModel" ⟨"FrostBoxModel", "told", "(II)I"⟩ ⟨"FrostBoxModel", "told", "(II)I"⟩) ∈ lw_all := lw_g (lw_at lw_ms 105 rfl) rfl
theorem qs106 : (Cond.selects "FrostBoxModel" ⟨"FrostBoxModel", "isBox", "([II)Z"⟩ ⟨"FrostBoxModel", "isBox", "([II)Z"⟩) ∈ lw_all := lw_g (lw_at lw_ms 106 rfl) rfl
theorem qs107 : (Cond.selects "FrostBoxModel" ⟨"FrostBoxModel", "valueOf", "([II)I"⟩ ⟨"FrostBoxModel", "valueOf", "([II)I"⟩) ∈ lw_all := lw_g (lw_at lw_ms 107 rfl) rfl
theorem qs108 : (Cond.selects "FrostBoxModel" ⟨"FrostBoxModel", "valueOn", "([IIII)I"⟩ ⟨"FrostBoxModel", "valueOn", "([IIII)I"⟩) ∈ lw_all := lw_g (lw_at lw_ms 108 rfl) rfl
theorem qs109 : (Cond.selects "FrostBoxModel" ⟨"FrostBoxModel", "portionOf", "(IIIII)I"⟩ ⟨"FrostBoxModel", "portionOf", "(IIIII)I"⟩) ∈ lw_all := lw_g (lw_at lw_ms 109 rfl) rfl
theorem qs110 : (Cond.selects "FrostBoxModel" ⟨"FrostBoxModel", "worthNow", "()I"⟩ ⟨"FrostBoxModel", "worthNow", "()I"⟩) ∈ lw_all := lw_g (lw_at lw_ms 110 rfl) rfl
theorem qs111 : (Cond.selects "FrostBoxModel" ⟨"FrostBoxModel", "weightOf", "([II)I"⟩ ⟨"FrostBoxModel", "weightOf", "([II)I"⟩) ∈ lw_all := lw_g (lw_at lw_ms 111 rfl) rfl
theorem qs112 : (Cond.selects "FrostBoxModel" ⟨"FrostBoxModel", "canPut", "([III)Z"⟩ ⟨"FrostBoxModel", "canPut", "([III)Z"⟩) ∈ lw_all := lw_g (lw_at lw_ms 112 rfl) rfl
theorem qs113 : (Cond.selects "FrostBoxModel" ⟨"FrostBoxModel", "sumIn", "([I)I"⟩ ⟨"FrostBoxModel", "sumIn", "([I)I"⟩) ∈ lw_all := lw_g (lw_at lw_ms 113 rfl) rfl
theorem qs114 : (Cond.selects "FrostBoxModel" ⟨"FrostBoxModel", "remember", "()V"⟩ ⟨"FrostBoxModel", "remember", "()V"⟩) ∈ lw_all := lw_g (lw_at lw_ms 114 rfl) rfl
theorem qs115 : (Cond.selects "FrostBoxModel" ⟨"FrostBoxModel", "eats", "([II)I"⟩ ⟨"FrostBoxModel", "eats", "([II)I"⟩) ∈ lw_all := lw_g (lw_at lw_ms 115 rfl) rfl
theorem qs116 : (Cond.selects "FrostBoxModel" ⟨"FrostBoxModel", "canLabel", "([II)Z"⟩ ⟨"FrostBoxModel", "canLabel", "([II)Z"⟩) ∈ lw_all := lw_g (lw_at lw_ms 116 rfl) rfl
theorem qs117 : (Cond.selects "FrostBoxModel" ⟨"FrostBoxModel", "mayPass", "([III)Z"⟩ ⟨"FrostBoxModel", "mayPass", "([III)Z"⟩) ∈ lw_all := lw_g (lw_at lw_ms 117 rfl) rfl
theorem qs118 : (Cond.selects "FrostBoxModel" ⟨"FrostBoxModel", "goMonth", "([I)V"⟩ ⟨"FrostBoxModel", "goMonth", "([I)V"⟩) ∈ lw_all := lw_g (lw_at lw_ms 118 rfl) rfl
theorem qs119 : (Cond.selects "FrostBoxModel" ⟨"FrostBoxModel", "ages", "([II)V"⟩ ⟨"FrostBoxModel", "ages", "([II)V"⟩) ∈ lw_all := lw_g (lw_at lw_ms 119 rfl) rfl
theorem qs120 : (Cond.selects "FrostBoxModel" ⟨"FrostBoxModel", "isHours", "(I)Z"⟩ ⟨"FrostBoxModel", "isHours", "(I)Z"⟩) ∈ lw_all := lw_g (lw_at lw_ms 120 rfl) rfl
theorem qs121 : (Cond.selects "FrostBoxModel" ⟨"FrostBoxModel", "moreThanBorne", "(II)I"⟩ ⟨"FrostBoxModel", "moreThanBorne", "(II)I"⟩) ∈ lw_all := lw_g (lw_at lw_ms 121 rfl) rfl
theorem qs122 : (Cond.selects "FrostBoxModel" ⟨"FrostBoxModel", "draw", "(I)I"⟩ ⟨"FrostBoxModel", "draw", "(I)I"⟩) ∈ lw_all := lw_g (lw_at lw_ms 122 rfl) rfl
theorem qs123 : (Cond.selects "FrostBoxModel" ⟨"FrostBoxModel", "isPlan", "(I)Z"⟩ ⟨"FrostBoxModel", "isPlan", "(I)Z"⟩) ∈ lw_all := lw_g (lw_at lw_ms 123 rfl) rfl
theorem qs124 : (Cond.selects "FrostBoxModel" ⟨"FrostBoxModel", "canStep", "([II)Z"⟩ ⟨"FrostBoxModel", "canStep", "([II)Z"⟩) ∈ lw_all := lw_g (lw_at lw_ms 124 rfl) rfl
theorem qs125 : (Cond.selects "FrostBoxModel" ⟨"FrostBoxModel", "timesOf", "(I)I"⟩ ⟨"FrostBoxModel", "timesOf", "(I)I"⟩) ∈ lw_all := lw_g (lw_at lw_ms 125 rfl) rfl
theorem qs126 : (Cond.selects "FrostBoxModel" ⟨"FrostBoxModel", "steps", "([II)I"⟩ ⟨"FrostBoxModel", "steps", "([II)I"⟩) ∈ lw_all := lw_g (lw_at lw_ms 126 rfl) rfl
theorem qs127 : (Cond.selects "FrostBoxModel" ⟨"FrostBoxModel", "isDinner", "(I)Z"⟩ ⟨"FrostBoxModel", "isDinner", "(I)Z"⟩) ∈ lw_all := lw_g (lw_at lw_ms 127 rfl) rfl
theorem qs128 : (Cond.selects "FrostBoxModel" ⟨"FrostBoxModel", "kindIn", "(I)I"⟩ ⟨"FrostBoxModel", "kindIn", "(I)I"⟩) ∈ lw_all := lw_g (lw_at lw_ms 128 rfl) rfl
theorem qs129 : (Cond.selects "FrostBoxModel" ⟨"FrostBoxModel", "fit", "(II)Z"⟩ ⟨"FrostBoxModel", "fit", "(II)Z"⟩) ∈ lw_all := lw_g (lw_at lw_ms 129 rfl) rfl
theorem qs130 : (Cond.selects "FrostBoxModel" ⟨"FrostBoxModel", "goEat", "(IIII)V"⟩ ⟨"FrostBoxModel", "goEat", "(IIII)V"⟩) ∈ lw_all := lw_g (lw_at lw_ms 130 rfl) rfl
theorem qs131 : (Cond.selects "FrostBoxModel" ⟨"FrostBoxModel", "belowOf", "(II)I"⟩ ⟨"FrostBoxModel", "belowOf", "(II)I"⟩) ∈ lw_all := lw_g (lw_at lw_ms 131 rfl) rfl
theorem qs132 : (Cond.selects "FrostBoxModel" ⟨"FrostBoxModel", "valueIn", "([I)I"⟩ ⟨"FrostBoxModel", "valueIn", "([I)I"⟩) ∈ lw_all := lw_g (lw_at lw_ms 132 rfl) rfl
theorem qs133 : (Cond.selects "FrostBoxModel" ⟨"FrostBoxModel", "isNameless", "(I)Z"⟩ ⟨"FrostBoxModel", "isNameless", "(I)Z"⟩) ∈ lw_all := lw_g (lw_at lw_ms 133 rfl) rfl
theorem qs134 : (Cond.selects "FrostBoxModel" ⟨"FrostBoxModel", "couldBe", "(II)I"⟩ ⟨"FrostBoxModel", "couldBe", "(II)I"⟩) ∈ lw_all := lw_g (lw_at lw_ms 134 rfl) rfl
theorem qs135 : (Cond.selects "FrostBoxModel" ⟨"FrostBoxModel", "greatestBy", "(I)J"⟩ ⟨"FrostBoxModel", "greatestBy", "(I)J"⟩) ∈ lw_all := lw_g (lw_at lw_ms 135 rfl) rfl
theorem qs136 : (Cond.selects "FrostBoxModel" ⟨"FrostBoxModel", "heldBy", "(I)J"⟩ ⟨"FrostBoxModel", "heldBy", "(I)J"⟩) ∈ lw_all := lw_g (lw_at lw_ms 136 rfl) rfl
theorem qs137 : (Cond.selects "FrostBoxModel" ⟨"FrostBoxModel", "layHistory", "(II)Z"⟩ ⟨"FrostBoxModel", "layHistory", "(II)Z"⟩) ∈ lw_all := lw_g (lw_at lw_ms 137 rfl) rfl
theorem qs138 : (Cond.selects "FrostBoxModel" ⟨"FrostBoxModel", "goHistory", "(III)V"⟩ ⟨"FrostBoxModel", "goHistory", "(III)V"⟩) ∈ lw_all := lw_g (lw_at lw_ms 138 rfl) rfl
theorem qs139 : (Cond.selects "FrostBoxModel" ⟨"FrostBoxModel", "mayBe", "(II)Z"⟩ ⟨"FrostBoxModel", "mayBe", "(II)Z"⟩) ∈ lw_all := lw_g (lw_at lw_ms 139 rfl) rfl
theorem qs140 : (Cond.selects "FrostBoxModel" ⟨"FrostBoxModel", "labelsOf", "(II)I"⟩ ⟨"FrostBoxModel", "labelsOf", "(II)I"⟩) ∈ lw_all := lw_g (lw_at lw_ms 140 rfl) rfl
