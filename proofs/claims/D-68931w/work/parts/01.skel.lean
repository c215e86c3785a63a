-- ===== PART A: goes FIRST, ahead of the names: the tables' words, and 'selects' of the private methods out of them =====
/-- a private method of a class that the tables say can be made, by its rows of tables_1 -/
def lw_okq (q : MethodName × Nat) : Prop := (q.1.cls ≠ "java/lang/invoke/MethodHandle" ∧ q.1.cls ≠ "java/lang/invoke/VarHandle") ∧ Cond.instantiable q.1.cls q.2 ∈ tables_1 ∧ Cond.privateMethod q.1 ∈ tables_1 ∧ Cond.instanceMethod q.1 ∈ tables_1
set_option maxRecDepth 100000
theorem lw_t1 {w : Cond} (h : w ∈ tables_1_1) : w ∈ tables_1 := List.mem_append_left _ h
theorem lw_t2 {w : Cond} (h : w ∈ tables_1_2) : w ∈ tables_1 := List.mem_append_right _ (List.mem_append_left _ h)
theorem lw_t3 {w : Cond} (h : w ∈ tables_1_3) : w ∈ tables_1 := List.mem_append_right _ (List.mem_append_right _ (List.mem_append_left _ h))
theorem lw_t4 {w : Cond} (h : w ∈ tables_1_4) : w ∈ tables_1 := List.mem_append_right _ (List.mem_append_right _ (List.mem_append_right _ (List.mem_append_left _ h)))
theorem lw_t5 {w : Cond} (h : w ∈ tables_1_5) : w ∈ tables_1 := List.mem_append_right _ (List.mem_append_right _ (List.mem_append_right _ (List.mem_append_right _ (List.mem_append_left _ h))))
theorem lw_t6 {w : Cond} (h : w ∈ tables_1_6) : w ∈ tables_1 := List.mem_append_right _ (List.mem_append_right _ (List.mem_append_right _ (List.mem_append_right _ (List.mem_append_right _ h))))
theorem lw_p0 : lw_okq (⟨"ProgramReader$Tree", "room", "(I)V"⟩, 5) := ⟨⟨by decide +kernel, by decide +kernel⟩, lw_t1 (List.mem_of_getElem? (i := 70) rfl), lw_t1 (List.mem_of_getElem? (i := 84) rfl), lw_t1 (List.mem_of_getElem? (i := 85) rfl)⟩
theorem lw_p1 : lw_okq (⟨"ProgramReader$Tree", "set", "(IIII)V"⟩, 5) := ⟨⟨by decide +kernel, by decide +kernel⟩, lw_t1 (List.mem_of_getElem? (i := 70) rfl), lw_t1 (List.mem_of_getElem? (i := 95) rfl), lw_t1 (List.mem_of_getElem? (i := 96) rfl)⟩
theorem lw_p2 : lw_okq (⟨"ProgramReader", "four", "(I)V"⟩, 8) := ⟨⟨by decide +kernel, by decide +kernel⟩, lw_t1 (List.mem_of_getElem? (i := 21) rfl), lw_t2 (List.mem_of_getElem? (i := 6) rfl), lw_t2 (List.mem_of_getElem? (i := 7) rfl)⟩
theorem lw_p3 : lw_okq (⟨"ProgramReader", "treeOf", "(I)LProgramReader$Tree;"⟩, 8) := ⟨⟨by decide +kernel, by decide +kernel⟩, lw_t1 (List.mem_of_getElem? (i := 21) rfl), lw_t2 (List.mem_of_getElem? (i := 22) rfl), lw_t2 (List.mem_of_getElem? (i := 23) rfl)⟩
theorem lw_p4 : lw_okq (⟨"ProgramReader$Tokens", "blanks", "()V"⟩, 8) := ⟨⟨by decide +kernel, by decide +kernel⟩, lw_t1 (List.mem_of_getElem? (i := 132) rfl), lw_t2 (List.mem_of_getElem? (i := 40) rfl), lw_t2 (List.mem_of_getElem? (i := 41) rfl)⟩
theorem lw_p5 : lw_okq (⟨"ProgramReader$Tokens", "look", "(I)I"⟩, 8) := ⟨⟨by decide +kernel, by decide +kernel⟩, lw_t1 (List.mem_of_getElem? (i := 132) rfl), lw_t2 (List.mem_of_getElem? (i := 44) rfl), lw_t2 (List.mem_of_getElem? (i := 45) rfl)⟩
theorem lw_p6 : lw_okq (⟨"ProgramReader$Tokens", "spelt", "(LProgramReader$Token;)LProgramReader$Token;"⟩, 8) := ⟨⟨by decide +kernel, by decide +kernel⟩, lw_t1 (List.mem_of_getElem? (i := 132) rfl), lw_t2 (List.mem_of_getElem? (i := 62) rfl), lw_t2 (List.mem_of_getElem? (i := 63) rfl)⟩
theorem lw_p7 : lw_okq (⟨"ProgramReader$Tokens", "number", "()V"⟩, 8) := ⟨⟨by decide +kernel, by decide +kernel⟩, lw_t1 (List.mem_of_getElem? (i := 132) rfl), lw_t2 (List.mem_of_getElem? (i := 124) rfl), lw_t2 (List.mem_of_getElem? (i := 125) rfl)⟩
theorem lw_p8 : lw_okq (⟨"ProgramReader$Reader", "function", "()V"⟩, 5) := ⟨⟨by decide +kernel, by decide +kernel⟩, lw_t1 (List.mem_of_getElem? (i := 126) rfl), lw_t2 (List.mem_of_getElem? (i := 136) rfl), lw_t2 (List.mem_of_getElem? (i := 137) rfl)⟩
theorem lw_p9 : lw_okq (⟨"ProgramReader$Reader", "take", "(LProgramReader$Token;)V"⟩, 5) := ⟨⟨by decide +kernel, by decide +kernel⟩, lw_t1 (List.mem_of_getElem? (i := 126) rfl), lw_t2 (List.mem_of_getElem? (i := 142) rfl), lw_t2 (List.mem_of_getElem? (i := 143) rfl)⟩
theorem lw_p10 : lw_okq (⟨"ProgramReader$Reader", "fail", "()V"⟩, 5) := ⟨⟨by decide +kernel, by decide +kernel⟩, lw_t1 (List.mem_of_getElem? (i := 126) rfl), lw_t2 (List.mem_of_getElem? (i := 146) rfl), lw_t2 (List.mem_of_getElem? (i := 147) rfl)⟩
theorem lw_p11 : lw_okq (⟨"java/lang/Throwable", "fillInStackTrace", "(I)Ljava/lang/Throwable;"⟩, 6) := ⟨⟨by decide +kernel, by decide +kernel⟩, lw_t2 (List.mem_of_getElem? (i := 185) rfl), lw_t2 (List.mem_of_getElem? (i := 183) rfl), lw_t2 (List.mem_of_getElem? (i := 184) rfl)⟩
theorem lw_p12 : lw_okq (⟨"ProgramReader$Reader", "name", "()V"⟩, 5) := ⟨⟨by decide +kernel, by decide +kernel⟩, lw_t1 (List.mem_of_getElem? (i := 126) rfl), lw_t2 (List.mem_of_getElem? (i := 214) rfl), lw_t2 (List.mem_of_getElem? (i := 215) rfl)⟩
theorem lw_p13 : lw_okq (⟨"ProgramReader$Names", "seek", "(LProgramReader$Bytes;II)I"⟩, 4) := ⟨⟨by decide +kernel, by decide +kernel⟩, lw_t1 (List.mem_of_getElem? (i := 46) rfl), lw_t2 (List.mem_of_getElem? (i := 223) rfl), lw_t2 (List.mem_of_getElem? (i := 224) rfl)⟩
theorem lw_p14 : lw_okq (⟨"ProgramReader$Names", "is", "(ILProgramReader$Bytes;II)Z"⟩, 4) := ⟨⟨by decide +kernel, by decide +kernel⟩, lw_t1 (List.mem_of_getElem? (i := 46) rfl), lw_t2 (List.mem_of_getElem? (i := 231) rfl), lw_t2 (List.mem_of_getElem? (i := 232) rfl)⟩
theorem lw_p15 : lw_okq (⟨"ProgramReader$Names", "spread", "()V"⟩, 4) := ⟨⟨by decide +kernel, by decide +kernel⟩, lw_t1 (List.mem_of_getElem? (i := 46) rfl), lw_t3 (List.mem_of_getElem? (i := 5) rfl), lw_t3 (List.mem_of_getElem? (i := 6) rfl)⟩
def lw_privs_1 : List (MethodName × Nat) := [(⟨"ProgramReader$Tree", "room", "(I)V"⟩, 5), (⟨"ProgramReader$Tree", "set", "(IIII)V"⟩, 5), (⟨"ProgramReader", "four", "(I)V"⟩, 8), (⟨"ProgramReader", "treeOf", "(I)LProgramReader$Tree;"⟩, 8), (⟨"ProgramReader$Tokens", "blanks", "()V"⟩, 8), (⟨"ProgramReader$Tokens", "look", "(I)I"⟩, 8), (⟨"ProgramReader$Tokens", "spelt", "(LProgramReader$Token;)LProgramReader$Token;"⟩, 8), (⟨"ProgramReader$Tokens", "number", "()V"⟩, 8), (⟨"ProgramReader$Reader", "function", "()V"⟩, 5), (⟨"ProgramReader$Reader", "take", "(LProgramReader$Token;)V"⟩, 5), (⟨"ProgramReader$Reader", "fail", "()V"⟩, 5), (⟨"java/lang/Throwable", "fillInStackTrace", "(I)Ljava/lang/Throwable;"⟩, 6), (⟨"ProgramReader$Reader", "name", "()V"⟩, 5), (⟨"ProgramReader$Names", "seek", "(LProgramReader$Bytes;II)I"⟩, 4), (⟨"ProgramReader$Names", "is", "(ILProgramReader$Bytes;II)Z"⟩, 4), (⟨"ProgramReader$Names", "spread", "()V"⟩, 4)]
theorem lw_r1 : ∀ q ∈ lw_privs_1, lw_okq q := List.forall_mem_cons.mpr ⟨lw_p0, List.forall_mem_cons.mpr ⟨lw_p1, List.forall_mem_cons.mpr ⟨lw_p2, List.forall_mem_cons.mpr ⟨lw_p3, List.forall_mem_cons.mpr ⟨lw_p4, List.forall_mem_cons.mpr ⟨lw_p5, List.forall_mem_cons.mpr ⟨lw_p6, List.forall_mem_cons.mpr ⟨lw_p7, List.forall_mem_cons.mpr ⟨lw_p8, List.forall_mem_cons.mpr ⟨lw_p9, List.forall_mem_cons.mpr ⟨lw_p10, List.forall_mem_cons.mpr ⟨lw_p11, List.forall_mem_cons.mpr ⟨lw_p12, List.forall_mem_cons.mpr ⟨lw_p13, List.forall_mem_cons.mpr ⟨lw_p14, List.forall_mem_cons.mpr ⟨lw_p15, fun _ h => absurd h List.not_mem_nil⟩⟩⟩⟩⟩⟩⟩⟩⟩⟩⟩⟩⟩⟩⟩⟩
theorem lw_p16 : lw_okq (⟨"ProgramReader$Reader", "takes", "(LProgramReader$Token;)Z"⟩, 5) := ⟨⟨by decide +kernel, by decide +kernel⟩, lw_t1 (List.mem_of_getElem? (i := 126) rfl), lw_t3 (List.mem_of_getElem? (i := 15) rfl), lw_t3 (List.mem_of_getElem? (i := 16) rfl)⟩
theorem lw_p17 : lw_okq (⟨"ProgramReader$Reader", "block", "()V"⟩, 5) := ⟨⟨by decide +kernel, by decide +kernel⟩, lw_t1 (List.mem_of_getElem? (i := 126) rfl), lw_t3 (List.mem_of_getElem? (i := 19) rfl), lw_t3 (List.mem_of_getElem? (i := 20) rfl)⟩
theorem lw_p18 : lw_okq (⟨"ProgramReader$Reader", "deeper", "()V"⟩, 5) := ⟨⟨by decide +kernel, by decide +kernel⟩, lw_t1 (List.mem_of_getElem? (i := 126) rfl), lw_t3 (List.mem_of_getElem? (i := 23) rfl), lw_t3 (List.mem_of_getElem? (i := 24) rfl)⟩
theorem lw_p19 : lw_okq (⟨"ProgramReader$Reader", "statement", "()V"⟩, 5) := ⟨⟨by decide +kernel, by decide +kernel⟩, lw_t1 (List.mem_of_getElem? (i := 126) rfl), lw_t3 (List.mem_of_getElem? (i := 31) rfl), lw_t3 (List.mem_of_getElem? (i := 32) rfl)⟩
theorem lw_p20 : lw_okq (⟨"ProgramReader$Reader", "variable", "(I)V"⟩, 5) := ⟨⟨by decide +kernel, by decide +kernel⟩, lw_t1 (List.mem_of_getElem? (i := 126) rfl), lw_t3 (List.mem_of_getElem? (i := 36) rfl), lw_t3 (List.mem_of_getElem? (i := 37) rfl)⟩
theorem lw_p21 : lw_okq (⟨"ProgramReader$Reader", "number", "(ZI)V"⟩, 5) := ⟨⟨by decide +kernel, by decide +kernel⟩, lw_t1 (List.mem_of_getElem? (i := 126) rfl), lw_t3 (List.mem_of_getElem? (i := 42) rfl), lw_t3 (List.mem_of_getElem? (i := 43) rfl)⟩
theorem lw_p22 : lw_okq (⟨"ProgramReader$Reader", "sum", "()V"⟩, 5) := ⟨⟨by decide +kernel, by decide +kernel⟩, lw_t1 (List.mem_of_getElem? (i := 126) rfl), lw_t3 (List.mem_of_getElem? (i := 51) rfl), lw_t3 (List.mem_of_getElem? (i := 52) rfl)⟩
theorem lw_p23 : lw_okq (⟨"ProgramReader$Reader", "product", "()V"⟩, 5) := ⟨⟨by decide +kernel, by decide +kernel⟩, lw_t1 (List.mem_of_getElem? (i := 126) rfl), lw_t3 (List.mem_of_getElem? (i := 55) rfl), lw_t3 (List.mem_of_getElem? (i := 56) rfl)⟩
theorem lw_p24 : lw_okq (⟨"ProgramReader$Reader", "factor", "()V"⟩, 5) := ⟨⟨by decide +kernel, by decide +kernel⟩, lw_t1 (List.mem_of_getElem? (i := 126) rfl), lw_t3 (List.mem_of_getElem? (i := 59) rfl), lw_t3 (List.mem_of_getElem? (i := 60) rfl)⟩
theorem lw_p25 : lw_okq (⟨"ProgramReader$Reader", "limit", "()V"⟩, 5) := ⟨⟨by decide +kernel, by decide +kernel⟩, lw_t1 (List.mem_of_getElem? (i := 126) rfl), lw_t3 (List.mem_of_getElem? (i := 67) rfl), lw_t3 (List.mem_of_getElem? (i := 68) rfl)⟩
theorem lw_p26 : lw_okq (⟨"ProgramReader$Reader", "isProduct", "()Z"⟩, 5) := ⟨⟨by decide +kernel, by decide +kernel⟩, lw_t1 (List.mem_of_getElem? (i := 126) rfl), lw_t3 (List.mem_of_getElem? (i := 73) rfl), lw_t3 (List.mem_of_getElem? (i := 74) rfl)⟩
theorem lw_p27 : lw_okq (⟨"ProgramReader$Reader", "named", "(II)V"⟩, 5) := ⟨⟨by decide +kernel, by decide +kernel⟩, lw_t1 (List.mem_of_getElem? (i := 126) rfl), lw_t3 (List.mem_of_getElem? (i := 87) rfl), lw_t3 (List.mem_of_getElem? (i := 88) rfl)⟩
theorem lw_p28 : lw_okq (⟨"ProgramReader$Reader", "called", "(IIZ)V"⟩, 5) := ⟨⟨by decide +kernel, by decide +kernel⟩, lw_t1 (List.mem_of_getElem? (i := 126) rfl), lw_t3 (List.mem_of_getElem? (i := 95) rfl), lw_t3 (List.mem_of_getElem? (i := 96) rfl)⟩
theorem lw_p29 : lw_okq (⟨"ProgramReader$Reader", "condition", "()V"⟩, 5) := ⟨⟨by decide +kernel, by decide +kernel⟩, lw_t1 (List.mem_of_getElem? (i := 126) rfl), lw_t3 (List.mem_of_getElem? (i := 99) rfl), lw_t3 (List.mem_of_getElem? (i := 100) rfl)⟩
theorem lw_p30 : lw_okq (⟨"ProgramReader$Reader", "cond", "()V"⟩, 5) := ⟨⟨by decide +kernel, by decide +kernel⟩, lw_t1 (List.mem_of_getElem? (i := 126) rfl), lw_t3 (List.mem_of_getElem? (i := 103) rfl), lw_t3 (List.mem_of_getElem? (i := 104) rfl)⟩
theorem lw_p31 : lw_okq (⟨"ProgramReader$Reader", "joined", "(ILProgramReader$Token;)V"⟩, 5) := ⟨⟨by decide +kernel, by decide +kernel⟩, lw_t1 (List.mem_of_getElem? (i := 126) rfl), lw_t3 (List.mem_of_getElem? (i := 109) rfl), lw_t3 (List.mem_of_getElem? (i := 110) rfl)⟩
def lw_privs_2 : List (MethodName × Nat) := [(⟨"ProgramReader$Reader", "takes", "(LProgramReader$Token;)Z"⟩, 5), (⟨"ProgramReader$Reader", "block", "()V"⟩, 5), (⟨"ProgramReader$Reader", "deeper", "()V"⟩, 5), (⟨"ProgramReader$Reader", "statement", "()V"⟩, 5), (⟨"ProgramReader$Reader", "variable", "(I)V"⟩, 5), (⟨"ProgramReader$Reader", "number", "(ZI)V"⟩, 5), (⟨"ProgramReader$Reader", "sum", "()V"⟩, 5), (⟨"ProgramReader$Reader", "product", "()V"⟩, 5), (⟨"ProgramReader$Reader", "factor", "()V"⟩, 5), (⟨"ProgramReader$Reader", "limit", "()V"⟩, 5), (⟨"ProgramReader$Reader", "isProduct", "()Z"⟩, 5), (⟨"ProgramReader$Reader", "named", "(II)V"⟩, 5), (⟨"ProgramReader$Reader", "called", "(IIZ)V"⟩, 5), (⟨"ProgramReader$Reader", "condition", "()V"⟩, 5), (⟨"ProgramReader$Reader", "cond", "()V"⟩, 5), (⟨"ProgramReader$Reader", "joined", "(ILProgramReader$Token;)V"⟩, 5)]
theorem lw_r2 : ∀ q ∈ lw_privs_2, lw_okq q := List.forall_mem_cons.mpr ⟨lw_p16, List.forall_mem_cons.mpr ⟨lw_p17, List.forall_mem_cons.mpr ⟨lw_p18, List.forall_mem_cons.mpr ⟨lw_p19, List.forall_mem_cons.mpr ⟨lw_p20, List.forall_mem_cons.mpr ⟨lw_p21, List.forall_mem_cons.mpr ⟨lw_p22, List.forall_mem_cons.mpr ⟨lw_p23, List.forall_mem_cons.mpr ⟨lw_p24, List.forall_mem_cons.mpr ⟨lw_p25, List.forall_mem_cons.mpr ⟨lw_p26, List.forall_mem_cons.mpr ⟨lw_p27, List.forall_mem_cons.mpr ⟨lw_p28, List.forall_mem_cons.mpr ⟨lw_p29, List.forall_mem_cons.mpr ⟨lw_p30, List.forall_mem_cons.mpr ⟨lw_p31, fun _ h => absurd h List.not_mem_nil⟩⟩⟩⟩⟩⟩⟩⟩⟩⟩⟩⟩⟩⟩⟩⟩
theorem lw_p32 : lw_okq (⟨"ProgramReader$Reader", "test", "()V"⟩, 5) := ⟨⟨by decide +kernel, by decide +kernel⟩, lw_t1 (List.mem_of_getElem? (i := 126) rfl), lw_t3 (List.mem_of_getElem? (i := 115) rfl), lw_t3 (List.mem_of_getElem? (i := 116) rfl)⟩
theorem lw_p33 : lw_okq (⟨"ProgramReader", "has", "(II)Z"⟩, 8) := ⟨⟨by decide +kernel, by decide +kernel⟩, lw_t1 (List.mem_of_getElem? (i := 21) rfl), lw_t3 (List.mem_of_getElem? (i := 138) rfl), lw_t3 (List.mem_of_getElem? (i := 139) rfl)⟩
theorem lw_p34 : lw_okq (⟨"ProgramReader$Writer", "write", "(I)V"⟩, 3) := ⟨⟨by decide +kernel, by decide +kernel⟩, lw_t1 (List.mem_of_getElem? (i := 197) rfl), lw_t3 (List.mem_of_getElem? (i := 184) rfl), lw_t3 (List.mem_of_getElem? (i := 185) rfl)⟩
theorem lw_p35 : lw_okq (⟨"ProgramReader$Writer", "signed", "(I)V"⟩, 3) := ⟨⟨by decide +kernel, by decide +kernel⟩, lw_t1 (List.mem_of_getElem? (i := 197) rfl), lw_t3 (List.mem_of_getElem? (i := 188) rfl), lw_t3 (List.mem_of_getElem? (i := 189) rfl)⟩
theorem lw_p36 : lw_okq (⟨"ProgramReader$Writer", "put", "(Ljava/lang/String;)V"⟩, 3) := ⟨⟨by decide +kernel, by decide +kernel⟩, lw_t1 (List.mem_of_getElem? (i := 197) rfl), lw_t3 (List.mem_of_getElem? (i := 193) rfl), lw_t3 (List.mem_of_getElem? (i := 194) rfl)⟩
theorem lw_p37 : lw_okq (⟨"ProgramReader$Writer", "apart", "(I)V"⟩, 3) := ⟨⟨by decide +kernel, by decide +kernel⟩, lw_t1 (List.mem_of_getElem? (i := 197) rfl), lw_t3 (List.mem_of_getElem? (i := 198) rfl), lw_t3 (List.mem_of_getElem? (i := 199) rfl)⟩
theorem lw_p38 : lw_okq (⟨"ProgramReader$Writer", "part", "(III)V"⟩, 3) := ⟨⟨by decide +kernel, by decide +kernel⟩, lw_t1 (List.mem_of_getElem? (i := 197) rfl), lw_t3 (List.mem_of_getElem? (i := 216) rfl), lw_t3 (List.mem_of_getElem? (i := 217) rfl)⟩
theorem lw_p39 : lw_okq (⟨"ProgramReader$Writer", "worth", "(I)V"⟩, 3) := ⟨⟨by decide +kernel, by decide +kernel⟩, lw_t1 (List.mem_of_getElem? (i := 197) rfl), lw_t3 (List.mem_of_getElem? (i := 228) rfl), lw_t3 (List.mem_of_getElem? (i := 229) rfl)⟩
theorem lw_p40 : lw_okq (⟨"ProgramReader$Writer", "number", "(I)V"⟩, 3) := ⟨⟨by decide +kernel, by decide +kernel⟩, lw_t1 (List.mem_of_getElem? (i := 197) rfl), lw_t3 (List.mem_of_getElem? (i := 232) rfl), lw_t3 (List.mem_of_getElem? (i := 233) rfl)⟩
theorem lw_p41 : lw_okq (⟨"ProgramReader$Writer", "name", "(I)V"⟩, 3) := ⟨⟨by decide +kernel, by decide +kernel⟩, lw_t1 (List.mem_of_getElem? (i := 197) rfl), lw_t3 (List.mem_of_getElem? (i := 239) rfl), lw_t4 (List.mem_of_getElem? (i := 0) rfl)⟩
theorem lw_p42 : lw_okq (⟨"ProgramReader$Writer", "cell", "(I)V"⟩, 3) := ⟨⟨by decide +kernel, by decide +kernel⟩, lw_t1 (List.mem_of_getElem? (i := 197) rfl), lw_t4 (List.mem_of_getElem? (i := 5) rfl), lw_t4 (List.mem_of_getElem? (i := 6) rfl)⟩
theorem lw_p43 : lw_okq (⟨"ProgramReader$Writer", "after", "(I)I"⟩, 3) := ⟨⟨by decide +kernel, by decide +kernel⟩, lw_t1 (List.mem_of_getElem? (i := 197) rfl), lw_t4 (List.mem_of_getElem? (i := 10) rfl), lw_t4 (List.mem_of_getElem? (i := 11) rfl)⟩
theorem lw_p44 : lw_okq (⟨"ProgramReader$Writer", "row", "(IILjava/lang/String;)V"⟩, 3) := ⟨⟨by decide +kernel, by decide +kernel⟩, lw_t1 (List.mem_of_getElem? (i := 197) rfl), lw_t4 (List.mem_of_getElem? (i := 15) rfl), lw_t4 (List.mem_of_getElem? (i := 16) rfl)⟩
theorem lw_p45 : lw_okq (⟨"ProgramReader$Writer", "relation", "(I)V"⟩, 3) := ⟨⟨by decide +kernel, by decide +kernel⟩, lw_t1 (List.mem_of_getElem? (i := 197) rfl), lw_t4 (List.mem_of_getElem? (i := 22) rfl), lw_t4 (List.mem_of_getElem? (i := 23) rfl)⟩
theorem lw_p46 : lw_okq (⟨"ProgramReader$Writer", "statement", "(III)V"⟩, 3) := ⟨⟨by decide +kernel, by decide +kernel⟩, lw_t1 (List.mem_of_getElem? (i := 197) rfl), lw_t4 (List.mem_of_getElem? (i := 32) rfl), lw_t4 (List.mem_of_getElem? (i := 33) rfl)⟩
theorem lw_p47 : lw_okq (⟨"ProgramReader$Writer", "function", "(II)V"⟩, 3) := ⟨⟨by decide +kernel, by decide +kernel⟩, lw_t1 (List.mem_of_getElem? (i := 197) rfl), lw_t4 (List.mem_of_getElem? (i := 36) rfl), lw_t4 (List.mem_of_getElem? (i := 37) rfl)⟩
def lw_privs_3 : List (MethodName × Nat) := [(⟨"ProgramReader$Reader", "test", "()V"⟩, 5), (⟨"ProgramReader", "has", "(II)Z"⟩, 8), (⟨"ProgramReader$Writer", "write", "(I)V"⟩, 3), (⟨"ProgramReader$Writer", "signed", "(I)V"⟩, 3), (⟨"ProgramReader$Writer", "put", "(Ljava/lang/String;)V"⟩, 3), (⟨"ProgramReader$Writer", "apart", "(I)V"⟩, 3), (⟨"ProgramReader$Writer", "part", "(III)V"⟩, 3), (⟨"ProgramReader$Writer", "worth", "(I)V"⟩, 3), (⟨"ProgramReader$Writer", "number", "(I)V"⟩, 3), (⟨"ProgramReader$Writer", "name", "(I)V"⟩, 3), (⟨"ProgramReader$Writer", "cell", "(I)V"⟩, 3), (⟨"ProgramReader$Writer", "after", "(I)I"⟩, 3), (⟨"ProgramReader$Writer", "row", "(IILjava/lang/String;)V"⟩, 3), (⟨"ProgramReader$Writer", "relation", "(I)V"⟩, 3), (⟨"ProgramReader$Writer", "statement", "(III)V"⟩, 3), (⟨"ProgramReader$Writer", "function", "(II)V"⟩, 3)]
theorem lw_r3 : ∀ q ∈ lw_privs_3, lw_okq q := List.forall_mem_cons.mpr ⟨lw_p32, List.forall_mem_cons.mpr ⟨lw_p33, List.forall_mem_cons.mpr ⟨lw_p34, List.forall_mem_cons.mpr ⟨lw_p35, List.forall_mem_cons.mpr ⟨lw_p36, List.forall_mem_cons.mpr ⟨lw_p37, List.forall_mem_cons.mpr ⟨lw_p38, List.forall_mem_cons.mpr ⟨lw_p39, List.forall_mem_cons.mpr ⟨lw_p40, List.forall_mem_cons.mpr ⟨lw_p41, List.forall_mem_cons.mpr ⟨lw_p42, List.forall_mem_cons.mpr ⟨lw_p43, List.forall_mem_cons.mpr ⟨lw_p44, List.forall_mem_cons.mpr ⟨lw_p45, List.forall_mem_cons.mpr ⟨lw_p46, List.forall_mem_cons.mpr ⟨lw_p47, fun _ h => absurd h List.not_mem_nil⟩⟩⟩⟩⟩⟩⟩⟩⟩⟩⟩⟩⟩⟩⟩⟩
theorem lw_p48 : lw_okq (⟨"ProgramReader$Writer", "simple", "(III)V"⟩, 3) := ⟨⟨by decide +kernel, by decide +kernel⟩, lw_t1 (List.mem_of_getElem? (i := 197) rfl), lw_t4 (List.mem_of_getElem? (i := 46) rfl), lw_t4 (List.mem_of_getElem? (i := 47) rfl)⟩
theorem lw_p49 : lw_okq (⟨"ProgramReaderModel", "clear", "(I)V"⟩, 32) := ⟨⟨by decide +kernel, by decide +kernel⟩, lw_t4 (List.mem_of_getElem? (i := 76) rfl), lw_t4 (List.mem_of_getElem? (i := 92) rfl), lw_t4 (List.mem_of_getElem? (i := 93) rfl)⟩
theorem lw_p50 : lw_okq (⟨"ProgramReaderModel", "add", "(IIIII)I"⟩, 32) := ⟨⟨by decide +kernel, by decide +kernel⟩, lw_t4 (List.mem_of_getElem? (i := 76) rfl), lw_t4 (List.mem_of_getElem? (i := 96) rfl), lw_t4 (List.mem_of_getElem? (i := 97) rfl)⟩
theorem lw_p51 : lw_okq (⟨"ProgramReaderModel", "scan", "()V"⟩, 32) := ⟨⟨by decide +kernel, by decide +kernel⟩, lw_t4 (List.mem_of_getElem? (i := 76) rfl), lw_t4 (List.mem_of_getElem? (i := 205) rfl), lw_t4 (List.mem_of_getElem? (i := 206) rfl)⟩
theorem lw_p52 : lw_okq (⟨"ProgramReaderModel", "behindBlanks", "(I)I"⟩, 32) := ⟨⟨by decide +kernel, by decide +kernel⟩, lw_t4 (List.mem_of_getElem? (i := 76) rfl), lw_t4 (List.mem_of_getElem? (i := 209) rfl), lw_t4 (List.mem_of_getElem? (i := 210) rfl)⟩
theorem lw_p53 : lw_okq (⟨"ProgramReaderModel", "isAt", "(III)Z"⟩, 32) := ⟨⟨by decide +kernel, by decide +kernel⟩, lw_t4 (List.mem_of_getElem? (i := 76) rfl), lw_t4 (List.mem_of_getElem? (i := 213) rfl), lw_t4 (List.mem_of_getElem? (i := 214) rfl)⟩
theorem lw_p54 : lw_okq (⟨"ProgramReaderModel", "isWord", "(I)Z"⟩, 32) := ⟨⟨by decide +kernel, by decide +kernel⟩, lw_t4 (List.mem_of_getElem? (i := 76) rfl), lw_t4 (List.mem_of_getElem? (i := 220) rfl), lw_t4 (List.mem_of_getElem? (i := 221) rfl)⟩
theorem lw_p55 : lw_okq (⟨"ProgramReaderModel", "wordOf", "(II)I"⟩, 32) := ⟨⟨by decide +kernel, by decide +kernel⟩, lw_t4 (List.mem_of_getElem? (i := 76) rfl), lw_t4 (List.mem_of_getElem? (i := 227) rfl), lw_t4 (List.mem_of_getElem? (i := 228) rfl)⟩
theorem lw_p56 : lw_okq (⟨"ProgramReaderModel", "isNumber", "(II)Z"⟩, 32) := ⟨⟨by decide +kernel, by decide +kernel⟩, lw_t4 (List.mem_of_getElem? (i := 76) rfl), lw_t4 (List.mem_of_getElem? (i := 233) rfl), lw_t4 (List.mem_of_getElem? (i := 234) rfl)⟩
theorem lw_p57 : lw_okq (⟨"ProgramReaderModel", "function", "()I"⟩, 32) := ⟨⟨by decide +kernel, by decide +kernel⟩, lw_t4 (List.mem_of_getElem? (i := 76) rfl), lw_t5 (List.mem_of_getElem? (i := 0) rfl), lw_t5 (List.mem_of_getElem? (i := 1) rfl)⟩
theorem lw_p58 : lw_okq (⟨"ProgramReaderModel", "draft", "(III)I"⟩, 32) := ⟨⟨by decide +kernel, by decide +kernel⟩, lw_t4 (List.mem_of_getElem? (i := 76) rfl), lw_t5 (List.mem_of_getElem? (i := 4) rfl), lw_t5 (List.mem_of_getElem? (i := 5) rfl)⟩
theorem lw_p59 : lw_okq (⟨"ProgramReaderModel", "take", "(I)V"⟩, 32) := ⟨⟨by decide +kernel, by decide +kernel⟩, lw_t4 (List.mem_of_getElem? (i := 76) rfl), lw_t5 (List.mem_of_getElem? (i := 8) rfl), lw_t5 (List.mem_of_getElem? (i := 9) rfl)⟩
theorem lw_p60 : lw_okq (⟨"ProgramReaderModel", "look", "()I"⟩, 32) := ⟨⟨by decide +kernel, by decide +kernel⟩, lw_t4 (List.mem_of_getElem? (i := 76) rfl), lw_t5 (List.mem_of_getElem? (i := 12) rfl), lw_t5 (List.mem_of_getElem? (i := 13) rfl)⟩
theorem lw_p61 : lw_okq (⟨"ProgramReaderModel", "need", "(Z)V"⟩, 32) := ⟨⟨by decide +kernel, by decide +kernel⟩, lw_t4 (List.mem_of_getElem? (i := 76) rfl), lw_t5 (List.mem_of_getElem? (i := 16) rfl), lw_t5 (List.mem_of_getElem? (i := 17) rfl)⟩
theorem lw_p62 : lw_okq (⟨"ProgramReaderModel", "name", "()I"⟩, 32) := ⟨⟨by decide +kernel, by decide +kernel⟩, lw_t4 (List.mem_of_getElem? (i := 76) rfl), lw_t5 (List.mem_of_getElem? (i := 20) rfl), lw_t5 (List.mem_of_getElem? (i := 21) rfl)⟩
theorem lw_p63 : lw_okq (⟨"ProgramReaderModel", "join", "(II)V"⟩, 32) := ⟨⟨by decide +kernel, by decide +kernel⟩, lw_t4 (List.mem_of_getElem? (i := 76) rfl), lw_t5 (List.mem_of_getElem? (i := 24) rfl), lw_t5 (List.mem_of_getElem? (i := 25) rfl)⟩
def lw_privs_4 : List (MethodName × Nat) := [(⟨"ProgramReader$Writer", "simple", "(III)V"⟩, 3), (⟨"ProgramReaderModel", "clear", "(I)V"⟩, 32), (⟨"ProgramReaderModel", "add", "(IIIII)I"⟩, 32), (⟨"ProgramReaderModel", "scan", "()V"⟩, 32), (⟨"ProgramReaderModel", "behindBlanks", "(I)I"⟩, 32), (⟨"ProgramReaderModel", "isAt", "(III)Z"⟩, 32), (⟨"ProgramReaderModel", "isWord", "(I)Z"⟩, 32), (⟨"ProgramReaderModel", "wordOf", "(II)I"⟩, 32), (⟨"ProgramReaderModel", "isNumber", "(II)Z"⟩, 32), (⟨"ProgramReaderModel", "function", "()I"⟩, 32), (⟨"ProgramReaderModel", "draft", "(III)I"⟩, 32), (⟨"ProgramReaderModel", "take", "(I)V"⟩, 32), (⟨"ProgramReaderModel", "look", "()I"⟩, 32), (⟨"ProgramReaderModel", "need", "(Z)V"⟩, 32), (⟨"ProgramReaderModel", "name", "()I"⟩, 32), (⟨"ProgramReaderModel", "join", "(II)V"⟩, 32)]
theorem lw_r4 : ∀ q ∈ lw_privs_4, lw_okq q := List.forall_mem_cons.mpr ⟨lw_p48, List.forall_mem_cons.mpr ⟨lw_p49, List.forall_mem_cons.mpr ⟨lw_p50, List.forall_mem_cons.mpr ⟨lw_p51, List.forall_mem_cons.mpr ⟨lw_p52, List.forall_mem_cons.mpr ⟨lw_p53, List.forall_mem_cons.mpr ⟨lw_p54, List.forall_mem_cons.mpr ⟨lw_p55, List.forall_mem_cons.mpr ⟨lw_p56, List.forall_mem_cons.mpr ⟨lw_p57, List.forall_mem_cons.mpr ⟨lw_p58, List.forall_mem_cons.mpr ⟨lw_p59, List.forall_mem_cons.mpr ⟨lw_p60, List.forall_mem_cons.mpr ⟨lw_p61, List.forall_mem_cons.mpr ⟨lw_p62, List.forall_mem_cons.mpr ⟨lw_p63, fun _ h => absurd h List.not_mem_nil⟩⟩⟩⟩⟩⟩⟩⟩⟩⟩⟩⟩⟩⟩⟩⟩
theorem lw_p64 : lw_okq (⟨"ProgramReaderModel", "block", "(I)I"⟩, 32) := ⟨⟨by decide +kernel, by decide +kernel⟩, lw_t4 (List.mem_of_getElem? (i := 76) rfl), lw_t5 (List.mem_of_getElem? (i := 28) rfl), lw_t5 (List.mem_of_getElem? (i := 29) rfl)⟩
theorem lw_p65 : lw_okq (⟨"ProgramReaderModel", "deep", "(I)V"⟩, 32) := ⟨⟨by decide +kernel, by decide +kernel⟩, lw_t4 (List.mem_of_getElem? (i := 76) rfl), lw_t5 (List.mem_of_getElem? (i := 32) rfl), lw_t5 (List.mem_of_getElem? (i := 33) rfl)⟩
theorem lw_p66 : lw_okq (⟨"ProgramReaderModel", "statement", "(I)I"⟩, 32) := ⟨⟨by decide +kernel, by decide +kernel⟩, lw_t4 (List.mem_of_getElem? (i := 76) rfl), lw_t5 (List.mem_of_getElem? (i := 36) rfl), lw_t5 (List.mem_of_getElem? (i := 37) rfl)⟩
theorem lw_p67 : lw_okq (⟨"ProgramReaderModel", "number", "(Z)I"⟩, 32) := ⟨⟨by decide +kernel, by decide +kernel⟩, lw_t4 (List.mem_of_getElem? (i := 76) rfl), lw_t5 (List.mem_of_getElem? (i := 40) rfl), lw_t5 (List.mem_of_getElem? (i := 41) rfl)⟩
theorem lw_p68 : lw_okq (⟨"ProgramReaderModel", "sum", "(I)I"⟩, 32) := ⟨⟨by decide +kernel, by decide +kernel⟩, lw_t4 (List.mem_of_getElem? (i := 76) rfl), lw_t5 (List.mem_of_getElem? (i := 44) rfl), lw_t5 (List.mem_of_getElem? (i := 45) rfl)⟩
theorem lw_p69 : lw_okq (⟨"ProgramReaderModel", "term", "(I)I"⟩, 32) := ⟨⟨by decide +kernel, by decide +kernel⟩, lw_t4 (List.mem_of_getElem? (i := 76) rfl), lw_t5 (List.mem_of_getElem? (i := 48) rfl), lw_t5 (List.mem_of_getElem? (i := 49) rfl)⟩
theorem lw_p70 : lw_okq (⟨"ProgramReaderModel", "factor", "(I)I"⟩, 32) := ⟨⟨by decide +kernel, by decide +kernel⟩, lw_t4 (List.mem_of_getElem? (i := 76) rfl), lw_t5 (List.mem_of_getElem? (i := 52) rfl), lw_t5 (List.mem_of_getElem? (i := 53) rfl)⟩
theorem lw_p71 : lw_okq (⟨"ProgramReaderModel", "named", "(II)I"⟩, 32) := ⟨⟨by decide +kernel, by decide +kernel⟩, lw_t4 (List.mem_of_getElem? (i := 76) rfl), lw_t5 (List.mem_of_getElem? (i := 56) rfl), lw_t5 (List.mem_of_getElem? (i := 57) rfl)⟩
theorem lw_p72 : lw_okq (⟨"ProgramReaderModel", "sums", "(II)V"⟩, 32) := ⟨⟨by decide +kernel, by decide +kernel⟩, lw_t4 (List.mem_of_getElem? (i := 76) rfl), lw_t5 (List.mem_of_getElem? (i := 60) rfl), lw_t5 (List.mem_of_getElem? (i := 61) rfl)⟩
theorem lw_p73 : lw_okq (⟨"ProgramReaderModel", "cond", "(I)I"⟩, 32) := ⟨⟨by decide +kernel, by decide +kernel⟩, lw_t4 (List.mem_of_getElem? (i := 76) rfl), lw_t5 (List.mem_of_getElem? (i := 64) rfl), lw_t5 (List.mem_of_getElem? (i := 65) rfl)⟩
theorem lw_p74 : lw_okq (⟨"ProgramReaderModel", "tests", "(II)I"⟩, 32) := ⟨⟨by decide +kernel, by decide +kernel⟩, lw_t4 (List.mem_of_getElem? (i := 76) rfl), lw_t5 (List.mem_of_getElem? (i := 68) rfl), lw_t5 (List.mem_of_getElem? (i := 69) rfl)⟩
theorem lw_p75 : lw_okq (⟨"ProgramReaderModel", "test", "(I)I"⟩, 32) := ⟨⟨by decide +kernel, by decide +kernel⟩, lw_t4 (List.mem_of_getElem? (i := 76) rfl), lw_t5 (List.mem_of_getElem? (i := 72) rfl), lw_t5 (List.mem_of_getElem? (i := 73) rfl)⟩
theorem lw_p76 : lw_okq (⟨"ProgramReaderModel", "keep", "(II)V"⟩, 32) := ⟨⟨by decide +kernel, by decide +kernel⟩, lw_t4 (List.mem_of_getElem? (i := 76) rfl), lw_t5 (List.mem_of_getElem? (i := 76) rfl), lw_t5 (List.mem_of_getElem? (i := 77) rfl)⟩
theorem lw_p77 : lw_okq (⟨"ProgramReaderModel", "nameOf", "(I)I"⟩, 32) := ⟨⟨by decide +kernel, by decide +kernel⟩, lw_t4 (List.mem_of_getElem? (i := 76) rfl), lw_t5 (List.mem_of_getElem? (i := 80) rfl), lw_t5 (List.mem_of_getElem? (i := 81) rfl)⟩
theorem lw_p78 : lw_okq (⟨"ProgramReaderModel", "has", "(II)Z"⟩, 32) := ⟨⟨by decide +kernel, by decide +kernel⟩, lw_t4 (List.mem_of_getElem? (i := 76) rfl), lw_t5 (List.mem_of_getElem? (i := 92) rfl), lw_t5 (List.mem_of_getElem? (i := 93) rfl)⟩
theorem lw_p79 : lw_okq (⟨"ProgramReaderModel", "parts", "(II)I"⟩, 32) := ⟨⟨by decide +kernel, by decide +kernel⟩, lw_t4 (List.mem_of_getElem? (i := 76) rfl), lw_t5 (List.mem_of_getElem? (i := 100) rfl), lw_t5 (List.mem_of_getElem? (i := 101) rfl)⟩
def lw_privs_5 : List (MethodName × Nat) := [(⟨"ProgramReaderModel", "block", "(I)I"⟩, 32), (⟨"ProgramReaderModel", "deep", "(I)V"⟩, 32), (⟨"ProgramReaderModel", "statement", "(I)I"⟩, 32), (⟨"ProgramReaderModel", "number", "(Z)I"⟩, 32), (⟨"ProgramReaderModel", "sum", "(I)I"⟩, 32), (⟨"ProgramReaderModel", "term", "(I)I"⟩, 32), (⟨"ProgramReaderModel", "factor", "(I)I"⟩, 32), (⟨"ProgramReaderModel", "named", "(II)I"⟩, 32), (⟨"ProgramReaderModel", "sums", "(II)V"⟩, 32), (⟨"ProgramReaderModel", "cond", "(I)I"⟩, 32), (⟨"ProgramReaderModel", "tests", "(II)I"⟩, 32), (⟨"ProgramReaderModel", "test", "(I)I"⟩, 32), (⟨"ProgramReaderModel", "keep", "(II)V"⟩, 32), (⟨"ProgramReaderModel", "nameOf", "(I)I"⟩, 32), (⟨"ProgramReaderModel", "has", "(II)Z"⟩, 32), (⟨"ProgramReaderModel", "parts", "(II)I"⟩, 32)]
theorem lw_r5 : ∀ q ∈ lw_privs_5, lw_okq q := List.forall_mem_cons.mpr ⟨lw_p64, List.forall_mem_cons.mpr ⟨lw_p65, List.forall_mem_cons.mpr ⟨lw_p66, List.forall_mem_cons.mpr ⟨lw_p67, List.forall_mem_cons.mpr ⟨lw_p68, List.forall_mem_cons.mpr ⟨lw_p69, List.forall_mem_cons.mpr ⟨lw_p70, List.forall_mem_cons.mpr ⟨lw_p71, List.forall_mem_cons.mpr ⟨lw_p72, List.forall_mem_cons.mpr ⟨lw_p73, List.forall_mem_cons.mpr ⟨lw_p74, List.forall_mem_cons.mpr ⟨lw_p75, List.forall_mem_cons.mpr ⟨lw_p76, List.forall_mem_cons.mpr ⟨lw_p77, List.forall_mem_cons.mpr ⟨lw_p78, List.forall_mem_cons.mpr ⟨lw_p79, fun _ h => absurd h List.not_mem_nil⟩⟩⟩⟩⟩⟩⟩⟩⟩⟩⟩⟩⟩⟩⟩⟩
theorem lw_p80 : lw_okq (⟨"ProgramReaderModel", "show", "(II)V"⟩, 32) := ⟨⟨by decide +kernel, by decide +kernel⟩, lw_t4 (List.mem_of_getElem? (i := 76) rfl), lw_t5 (List.mem_of_getElem? (i := 124) rfl), lw_t5 (List.mem_of_getElem? (i := 125) rfl)⟩
theorem lw_p81 : lw_okq (⟨"ProgramReaderModel", "kindAt", "(II)I"⟩, 32) := ⟨⟨by decide +kernel, by decide +kernel⟩, lw_t4 (List.mem_of_getElem? (i := 76) rfl), lw_t5 (List.mem_of_getElem? (i := 128) rfl), lw_t5 (List.mem_of_getElem? (i := 129) rfl)⟩
theorem lw_p82 : lw_okq (⟨"ProgramReaderModel", "behind", "(II)I"⟩, 32) := ⟨⟨by decide +kernel, by decide +kernel⟩, lw_t4 (List.mem_of_getElem? (i := 76) rfl), lw_t5 (List.mem_of_getElem? (i := 132) rfl), lw_t5 (List.mem_of_getElem? (i := 133) rfl)⟩
theorem lw_p83 : lw_okq (⟨"ProgramReaderModel", "begin", "(I)V"⟩, 32) := ⟨⟨by decide +kernel, by decide +kernel⟩, lw_t4 (List.mem_of_getElem? (i := 76) rfl), lw_t5 (List.mem_of_getElem? (i := 136) rfl), lw_t5 (List.mem_of_getElem? (i := 137) rfl)⟩
theorem lw_p84 : lw_okq (⟨"ProgramReaderModel", "put", "(I)V"⟩, 32) := ⟨⟨by decide +kernel, by decide +kernel⟩, lw_t4 (List.mem_of_getElem? (i := 76) rfl), lw_t5 (List.mem_of_getElem? (i := 143) rfl), lw_t5 (List.mem_of_getElem? (i := 144) rfl)⟩
theorem lw_p85 : lw_okq (⟨"ProgramReaderModel", "text", "(Ljava/lang/String;)V"⟩, 32) := ⟨⟨by decide +kernel, by decide +kernel⟩, lw_t4 (List.mem_of_getElem? (i := 76) rfl), lw_t5 (List.mem_of_getElem? (i := 147) rfl), lw_t5 (List.mem_of_getElem? (i := 148) rfl)⟩
theorem lw_p86 : lw_okq (⟨"ProgramReaderModel", "commas", "(III)V"⟩, 32) := ⟨⟨by decide +kernel, by decide +kernel⟩, lw_t4 (List.mem_of_getElem? (i := 76) rfl), lw_t5 (List.mem_of_getElem? (i := 151) rfl), lw_t5 (List.mem_of_getElem? (i := 152) rfl)⟩
theorem lw_p87 : lw_okq (⟨"ProgramReaderModel", "statements", "(III)V"⟩, 32) := ⟨⟨by decide +kernel, by decide +kernel⟩, lw_t4 (List.mem_of_getElem? (i := 76) rfl), lw_t5 (List.mem_of_getElem? (i := 155) rfl), lw_t5 (List.mem_of_getElem? (i := 156) rfl)⟩
theorem lw_p88 : lw_okq (⟨"ProgramReaderModel", "sayNumber", "(I)V"⟩, 32) := ⟨⟨by decide +kernel, by decide +kernel⟩, lw_t4 (List.mem_of_getElem? (i := 76) rfl), lw_t5 (List.mem_of_getElem? (i := 159) rfl), lw_t5 (List.mem_of_getElem? (i := 160) rfl)⟩
theorem lw_p89 : lw_okq (⟨"ProgramReaderModel", "sayName", "(I)V"⟩, 32) := ⟨⟨by decide +kernel, by decide +kernel⟩, lw_t4 (List.mem_of_getElem? (i := 76) rfl), lw_t5 (List.mem_of_getElem? (i := 164) rfl), lw_t5 (List.mem_of_getElem? (i := 165) rfl)⟩
theorem lw_p90 : lw_okq (⟨"ProgramReaderModel", "sayFactor", "(IIZ)V"⟩, 32) := ⟨⟨by decide +kernel, by decide +kernel⟩, lw_t4 (List.mem_of_getElem? (i := 76) rfl), lw_t5 (List.mem_of_getElem? (i := 168) rfl), lw_t5 (List.mem_of_getElem? (i := 169) rfl)⟩
theorem lw_p91 : lw_okq (⟨"ProgramReaderModel", "inside", "(IIZII)V"⟩, 32) := ⟨⟨by decide +kernel, by decide +kernel⟩, lw_t4 (List.mem_of_getElem? (i := 76) rfl), lw_t5 (List.mem_of_getElem? (i := 172) rfl), lw_t5 (List.mem_of_getElem? (i := 173) rfl)⟩
theorem lw_p92 : lw_okq (⟨"ProgramReaderModel", "sign", "(I)Ljava/lang/String;"⟩, 32) := ⟨⟨by decide +kernel, by decide +kernel⟩, lw_t4 (List.mem_of_getElem? (i := 76) rfl), lw_t5 (List.mem_of_getElem? (i := 176) rfl), lw_t5 (List.mem_of_getElem? (i := 177) rfl)⟩
theorem lw_p93 : lw_okq (⟨"ProgramReaderModel", "sayTest", "(IIZ)V"⟩, 32) := ⟨⟨by decide +kernel, by decide +kernel⟩, lw_t4 (List.mem_of_getElem? (i := 76) rfl), lw_t5 (List.mem_of_getElem? (i := 193) rfl), lw_t5 (List.mem_of_getElem? (i := 194) rfl)⟩
def lw_privs_6 : List (MethodName × Nat) := [(⟨"ProgramReaderModel", "show", "(II)V"⟩, 32), (⟨"ProgramReaderModel", "kindAt", "(II)I"⟩, 32), (⟨"ProgramReaderModel", "behind", "(II)I"⟩, 32), (⟨"ProgramReaderModel", "begin", "(I)V"⟩, 32), (⟨"ProgramReaderModel", "put", "(I)V"⟩, 32), (⟨"ProgramReaderModel", "text", "(Ljava/lang/String;)V"⟩, 32), (⟨"ProgramReaderModel", "commas", "(III)V"⟩, 32), (⟨"ProgramReaderModel", "statements", "(III)V"⟩, 32), (⟨"ProgramReaderModel", "sayNumber", "(I)V"⟩, 32), (⟨"ProgramReaderModel", "sayName", "(I)V"⟩, 32), (⟨"ProgramReaderModel", "sayFactor", "(IIZ)V"⟩, 32), (⟨"ProgramReaderModel", "inside", "(IIZII)V"⟩, 32), (⟨"ProgramReaderModel", "sign", "(I)Ljava/lang/String;"⟩, 32), (⟨"ProgramReaderModel", "sayTest", "(IIZ)V"⟩, 32)]
theorem lw_r6 : ∀ q ∈ lw_privs_6, lw_okq q := List.forall_mem_cons.mpr ⟨lw_p80, List.forall_mem_cons.mpr ⟨lw_p81, List.forall_mem_cons.mpr ⟨lw_p82, List.forall_mem_cons.mpr ⟨lw_p83, List.forall_mem_cons.mpr ⟨lw_p84, List.forall_mem_cons.mpr ⟨lw_p85, List.forall_mem_cons.mpr ⟨lw_p86, List.forall_mem_cons.mpr ⟨lw_p87, List.forall_mem_cons.mpr ⟨lw_p88, List.forall_mem_cons.mpr ⟨lw_p89, List.forall_mem_cons.mpr ⟨lw_p90, List.forall_mem_cons.mpr ⟨lw_p91, List.forall_mem_cons.mpr ⟨lw_p92, List.forall_mem_cons.mpr ⟨lw_p93, fun _ h => absurd h List.not_mem_nil⟩⟩⟩⟩⟩⟩⟩⟩⟩⟩⟩⟩⟩⟩
def lw_privs : List (MethodName × Nat) := lw_privs_1 ++ (lw_privs_2 ++ (lw_privs_3 ++ (lw_privs_4 ++ (lw_privs_5 ++ (lw_privs_6)))))
def lw_tbl : List Cond := k2_sels lw_privs ++ tables_1
theorem lw_privs_ok : ∀ q ∈ lw_privs, lw_okq q := by
  show ∀ q ∈ lw_privs_1 ++ (lw_privs_2 ++ (lw_privs_3 ++ (lw_privs_4 ++ (lw_privs_5 ++ (lw_privs_6))))), lw_okq q
  exact List.forall_mem_append.mpr ⟨lw_r1, List.forall_mem_append.mpr ⟨lw_r2, List.forall_mem_append.mpr ⟨lw_r3, List.forall_mem_append.mpr ⟨lw_r4, List.forall_mem_append.mpr ⟨lw_r5, lw_r6⟩⟩⟩⟩⟩
-- ===== ONE list of words for every method: the tables' words that hold all through a run =====
def lw_all : List Cond := lw_tbl.filter goodWord
/-- a word of the tables by its place: claim/WORDS.tsv -/
theorem lw_w {w : Cond} (i : Nat) (h : lw_tbl[i]? = some w) (g : goodWord w = true) : w ∈ lw_all := List.mem_filter.mpr ⟨List.mem_of_getElem? h, g⟩
theorem lw_all_tbl {w : Cond} (h : w ∈ lw_all) : w ∈ lw_tbl := (List.mem_filter.mp h).1
theorem lw_self : GoodIn lw_all lw_all := fun w h => ⟨h, good_of_word (List.mem_filter.mp h).2⟩
/-- a class's field words, by their places -/
theorem lw_in (ws : List Cond) (ps : List Nat) (hp : ws = ps.filterMap (fun i => lw_tbl[i]?)) (hg : ws.all goodWord = true) : ∀ w ∈ ws, w ∈ lw_all := by
  intro w h
  have h1 := List.all_eq_true.mp hg w h
  rw [hp] at h
  obtain ⟨i, -, hi⟩ := List.mem_filterMap.mp h
  exact lw_w i hi h1
/-- the words of a contract for the method y with code b, L locals, answer r -/
abbrev ws_ (y : MethodName) (b : ByteArray) (L : Nat) (r : Option FieldType) : List Cond := Cond.code y b L r :: lw_all
theorem lw_meth {y : MethodName} {b : ByteArray} {L : Nat} {r : Option FieldType} (h : Cond.code y b L r ∈ lw_all) : GoodIn lw_all (ws_ y b L r) := by
  intro w hw
  rcases List.mem_cons.mp hw with e | e
  · rw [e]
    exact lw_self _ h
  · exact lw_self _ e
theorem lw_app {a c : List Cond} (ha : ∀ w ∈ a, w ∈ lw_all) (hc : GoodIn lw_all c) : GoodIn lw_all (a ++ c) := by
  intro w hw
  rcases List.mem_append.mp hw with e | e
  · exact lw_self w (ha w e)
  · exact hc w e
/-- what a call through an object asks: cwV n hts (lw_V ..) -/
theorem lw_V {own : String} {idx : Nat} {C : String} {y : MethodName} {b : ByteArray} {L : Nat} {r : Option FieldType} (h1 : Cond.methodLink own idx y ∈ lw_all) (h2 : Cond.instanceMethod y ∈ lw_all) (h3 : Cond.selects C y y ∈ lw_all) (h4 : Cond.initialized C ∈ lw_all) (h5 : Cond.code y b L r ∈ lw_all) : GoodIn lw_all (wsV own idx C y (ws_ y b L r)) := by
  refine lw_app ?_ (lw_meth h5)
  intro w hw
  simp only [List.mem_cons, List.not_mem_nil, or_false] at hw
  rcases hw with e | e | e | e
  · rw [e]; exact h1
  · rw [e]; exact h2
  · rw [e]; exact h3
  · rw [e]; exact h4
/-- what a static call asks: va_cwS n hts (lw_S ..) -/
theorem lw_S {own : String} {idx : Nat} {y : MethodName} {b : ByteArray} {L : Nat} {r : Option FieldType} (h1 : Cond.methodLink own idx y ∈ lw_all) (h2 : Cond.static y ∈ lw_all) (h3 : Cond.initialized y.cls ∈ lw_all) (h4 : Cond.code y b L r ∈ lw_all) : GoodIn lw_all (va_wsS own idx y (ws_ y b L r)) := by
  refine lw_app ?_ (lw_meth h4)
  intro w hw
  simp only [List.mem_cons, List.not_mem_nil, or_false] at hw
  rcases hw with e | e | e
  · rw [e]; exact h1
  · rw [e]; exact h2
  · rw [e]; exact h3
/-- the words of a contract for a method WITH HANDLERS (hh: its table) -/
abbrev wsW_ (y : MethodName) (b : ByteArray) (L : Nat) (r : Option FieldType) (hh : List (Nat × Nat × Nat × Nat)) : List Cond := Cond.codeWith y b L r hh :: lw_all
theorem lw_methW {y : MethodName} {b : ByteArray} {L : Nat} {r : Option FieldType} {hh : List (Nat × Nat × Nat × Nat)} (h : Cond.codeWith y b L r hh ∈ lw_all) : GoodIn lw_all (wsW_ y b L r hh) := by
  intro w hw
  rcases List.mem_cons.mp hw with e | e
  · rw [e]
    exact lw_self _ h
  · exact lw_self _ e
/-- any list of words by their places (lw_in), good -/
theorem lw_good {ws : List Cond} (h : ∀ w ∈ ws, w ∈ lw_all) : GoodIn lw_all ws := fun w hw => lw_self w (h w hw)
/-- what a call of a method with handlers asks: vx_cwVW n hts (lw_VW ..), vx_cwSW n hts (lw_SW ..) -/
theorem lw_VW {own : String} {idx : Nat} {C : String} {y : MethodName} {b : ByteArray} {L : Nat} {r : Option FieldType} {hh : List (Nat × Nat × Nat × Nat)} (h1 : Cond.methodLink own idx y ∈ lw_all) (h2 : Cond.instanceMethod y ∈ lw_all) (h3 : Cond.selects C y y ∈ lw_all) (h4 : Cond.initialized C ∈ lw_all) (h5 : Cond.codeWith y b L r hh ∈ lw_all) : GoodIn lw_all (wsV own idx C y (wsW_ y b L r hh)) := by
  refine lw_app ?_ (lw_methW h5)
  intro w hw
  simp only [List.mem_cons, List.not_mem_nil, or_false] at hw
  rcases hw with e | e | e | e
  · rw [e]; exact h1
  · rw [e]; exact h2
  · rw [e]; exact h3
  · rw [e]; exact h4
theorem lw_SW {own : String} {idx : Nat} {y : MethodName} {b : ByteArray} {L : Nat} {r : Option FieldType} {hh : List (Nat × Nat × Nat × Nat)} (h1 : Cond.methodLink own idx y ∈ lw_all) (h2 : Cond.static y ∈ lw_all) (h3 : Cond.initialized y.cls ∈ lw_all) (h4 : Cond.codeWith y b L r hh ∈ lw_all) : GoodIn lw_all (va_wsS own idx y (wsW_ y b L r hh)) := by
  refine lw_app ?_ (lw_methW h4)
  intro w hw
  simp only [List.mem_cons, List.not_mem_nil, or_false] at hw
  rcases hw with e | e | e
  · rw [e]; exact h1
  · rw [e]; exact h2
  · rw [e]; exact h3
/-- a word by its place in its run of the tables -/
theorem lw_at {r : List Cond} (hr : ∀ w ∈ r, w ∈ lw_tbl) {w : Cond} (i : Nat) (h : r[i]? = some w) : w ∈ lw_tbl := hr w (List.mem_of_getElem? h)
theorem lw_g {w : Cond} (h : w ∈ lw_tbl) (g : goodWord w = true) : w ∈ lw_all := List.mem_filter.mpr ⟨h, g⟩
theorem lw_ms : ∀ w ∈ k2_sels lw_privs, w ∈ lw_tbl := fun w h => show w ∈ k2_sels lw_privs ++ tables_1 from List.mem_append_left _ h
theorem lw_m1 : ∀ w ∈ tables_1_1, w ∈ lw_tbl := fun w h => show w ∈ k2_sels lw_privs ++ tables_1 from List.mem_append_right (k2_sels lw_privs) (show w ∈ tables_1 from List.mem_append_left _ h)
theorem lw_m2 : ∀ w ∈ tables_1_2, w ∈ lw_tbl := fun w h => show w ∈ k2_sels lw_privs ++ tables_1 from List.mem_append_right (k2_sels lw_privs) (show w ∈ tables_1 from List.mem_append_right _ (List.mem_append_left _ h))
theorem lw_m3 : ∀ w ∈ tables_1_3, w ∈ lw_tbl := fun w h => show w ∈ k2_sels lw_privs ++ tables_1 from List.mem_append_right (k2_sels lw_privs) (show w ∈ tables_1 from List.mem_append_right _ (List.mem_append_right _ (List.mem_append_left _ h)))
theorem lw_m4 : ∀ w ∈ tables_1_4, w ∈ lw_tbl := fun w h => show w ∈ k2_sels lw_privs ++ tables_1 from List.mem_append_right (k2_sels lw_privs) (show w ∈ tables_1 from List.mem_append_right _ (List.mem_append_right _ (List.mem_append_right _ (List.mem_append_left _ h))))
theorem lw_m5 : ∀ w ∈ tables_1_5, w ∈ lw_tbl := fun w h => show w ∈ k2_sels lw_privs ++ tables_1 from List.mem_append_right (k2_sels lw_privs) (show w ∈ tables_1 from List.mem_append_right _ (List.mem_append_right _ (List.mem_append_right _ (List.mem_append_right _ (List.mem_append_left _ h)))))
theorem lw_m6 : ∀ w ∈ tables_1_6, w ∈ lw_tbl := fun w h => show w ∈ k2_sels lw_privs ++ tables_1 from List.mem_append_right (k2_sels lw_privs) (show w ∈ tables_1 from List.mem_append_right _ (List.mem_append_right _ (List.mem_append_right _ (List.mem_append_right _ (List.mem_append_right _ h)))))
theorem qs0 : (Cond.selects "ProgramReader$Tree" ⟨"ProgramReader$Tree", "room", "(I)V"⟩ ⟨"ProgramReader$Tree", "room", "(I)V"⟩) ∈ lw_all := lw_g (lw_at lw_ms 0 rfl) rfl
theorem qs1 : (Cond.selects "ProgramReader$Tree" ⟨"ProgramReader$Tree", "set", "(IIII)V"⟩ ⟨"ProgramReader$Tree", "set", "(IIII)V"⟩) ∈ lw_all := lw_g (lw_at lw_ms 1 rfl) rfl
theorem qs2 : (Cond.selects "ProgramReader" ⟨"ProgramReader", "four", "(I)V"⟩ ⟨"ProgramReader", "four", "(I)V"⟩) ∈ lw_all := lw_g (lw_at lw_ms 2 rfl) rfl
theorem qs3 : (Cond.selects "ProgramReader" ⟨"ProgramReader", "treeOf", "(I)LProgramReader$Tree;"⟩ ⟨"ProgramReader", "treeOf", "(I)LProgramReader$Tree;"⟩) ∈ lw_all := lw_g (lw_at lw_ms 3 rfl) rfl
theorem qs4 : (Cond.selects "ProgramReader$Tokens" ⟨"ProgramReader$Tokens", "blanks", "()V"⟩ ⟨"ProgramReader$Tokens", "blanks", "()V"⟩) ∈ lw_all := lw_g (lw_at lw_ms 4 rfl) rfl
theorem qs5 : (Cond.selects "ProgramReader$Tokens" ⟨"ProgramReader$Tokens", "look", "(I)I"⟩ ⟨"ProgramReader$Tokens", "look", "(I)I"⟩) ∈ lw_all := lw_g (lw_at lw_ms 5 rfl) rfl
theorem qs6 : (Cond.selects "ProgramReader$Tokens" ⟨"ProgramReader$Tokens", "spelt", "(LProgramReader$Token;)LProgramReader$Token;"⟩ ⟨"ProgramReader$Tokens", "spelt", "(LProgramReader$Token;)LProgramReader$Token;"⟩) ∈ lw_all := lw_g (lw_at lw_ms 6 rfl) rfl
theorem qs7 : (Cond.selects "ProgramReader$Tokens" ⟨"ProgramReader$Tokens", "number", "()V"⟩ ⟨"ProgramReader$Tokens", "number", "()V"⟩) ∈ lw_all := lw_g (lw_at lw_ms 7 rfl) rfl
theorem qs8 : (Cond.selects "ProgramReader$Reader" ⟨"ProgramReader$Reader", "function", "()V"⟩ ⟨"ProgramReader$Reader", "function", "()V"⟩) ∈ lw_all := lw_g (lw_at lw_ms 8 rfl) rfl
theorem qs9 : (Cond.selects "ProgramReader$Reader" ⟨"ProgramReader$Reader", "take", "(LProgramReader$Token;)V"⟩ ⟨"ProgramReader$Reader", "take", "(LProgramReader$Token;)V"⟩) ∈ lw_all := lw_g (lw_at lw_ms 9 rfl) rfl
theorem qs10 : (Cond.selects "ProgramReader$Reader" ⟨"ProgramReader$Reader", "fail", "()V"⟩ ⟨"ProgramReader$Reader", "fail", "()V"⟩) ∈ lw_all := lw_g (lw_at lw_ms 10 rfl) rfl
theorem qs11 : (Cond.selects "java/lang/Throwable" ⟨"java/lang/Throwable", "fillInStackTrace", "(I)Ljava/lang/Throwable;"⟩ ⟨"java/lang/Throwable", "fillInStackTrace", "(I)Ljava/lang/Throwable;"⟩) ∈ lw_all := lw_g (lw_at lw_ms 11 rfl) rfl
theorem qs12 : (Cond.selects "ProgramReader$Reader" ⟨"ProgramReader$Reader", "name", "()V"⟩ ⟨"ProgramReader$Reader", "name", "()V"⟩) ∈ lw_all := lw_g (lw_at lw_ms 12 rfl) rfl
theorem qs13 : (Cond.selects "ProgramReader$Names" ⟨"ProgramReader$Names", "seek", "(LProgramReader$Bytes;II)I"⟩ ⟨"ProgramReader$Names", "seek", "(LProgramReader$Bytes;II)I"⟩) ∈ lw_all := lw_g (lw_at lw_ms 13 rfl) rfl
theorem qs14 : (Cond.selects "ProgramReader$Names" ⟨"ProgramReader$Names", "is", "(ILProgramReader$Bytes;II)Z"⟩ ⟨"ProgramReader$Names", "is", "(ILProgramReader$Bytes;II)Z"⟩) ∈ lw_all := lw_g (lw_at lw_ms 14 rfl) rfl
theorem qs15 : (Cond.selects "ProgramReader$Names" ⟨"ProgramReader$Names", "spread", "()V"⟩ ⟨"ProgramReader$Names", "spread", "()V"⟩) ∈ lw_all := lw_g (lw_at lw_ms 15 rfl) rfl
theorem qs16 : (Cond.selects "ProgramReader$Reader" ⟨"ProgramReader$Reader", "takes", "(LProgramReader$Token;)Z"⟩ ⟨"ProgramReader$Reader", "takes", "(LProgramReader$Token;)Z"⟩) ∈ lw_all := lw_g (lw_at lw_ms 16 rfl) rfl
theorem qs17 : (Cond.selects "ProgramReader$Reader" ⟨"ProgramReader$Reader", "block", "()V"⟩ ⟨"ProgramReader$Reader", "block", "()V"⟩) ∈ lw_all := lw_g (lw_at lw_ms 17 rfl) rfl
theorem qs18 : (Cond.selects "ProgramReader$Reader" ⟨"ProgramReader$Reader", "deeper", "()V"⟩ ⟨"ProgramReader$Reader", "deeper", "()V"⟩) ∈ lw_all := lw_g (lw_at lw_ms 18 rfl) rfl
theorem qs19 : (Cond.selects "ProgramReader$Reader" ⟨"ProgramReader$Reader", "statement", "()V"⟩ ⟨"ProgramReader$Reader", "statement", "()V"⟩) ∈ lw_all := lw_g (lw_at lw_ms 19 rfl) rfl
theorem qs20 : (Cond.selects "ProgramReader$Reader" ⟨"ProgramReader$Reader", "variable", "(I)V"⟩ ⟨"ProgramReader$Reader", "variable", "(I)V"⟩) ∈ lw_all := lw_g (lw_at lw_ms 20 rfl) rfl
theorem qs21 : (Cond.selects "ProgramReader$Reader" ⟨"ProgramReader$Reader", "number", "(ZI)V"⟩ ⟨"ProgramReader$Reader", "number", "(ZI)V"⟩) ∈ lw_all := lw_g (lw_at lw_ms 21 rfl) rfl
theorem qs22 : (Cond.selects "ProgramReader$Reader" ⟨"ProgramReader$Reader", "sum", "()V"⟩ ⟨"ProgramReader$Reader", "sum", "()V"⟩) ∈ lw_all := lw_g (lw_at lw_ms 22 rfl) rfl
theorem qs23 : (Cond.selects "ProgramReader$Reader" ⟨"ProgramReader$Reader", "product", "()V"⟩ ⟨"ProgramReader$Reader", "product", "()V"⟩) ∈ lw_all := lw_g (lw_at lw_ms 23 rfl) rfl
theorem qs24 : (Cond.selects "ProgramReader$Reader" ⟨"ProgramReader$Reader", "factor", "()V"⟩ ⟨"ProgramReader$Reader", "factor", "()V"⟩) ∈ lw_all := lw_g (lw_at lw_ms 24 rfl) rfl
theorem qs25 : (Cond.selects "ProgramReader$Reader" ⟨"ProgramReader$Reader", "limit", "()V"⟩ ⟨"ProgramReader$Reader", "limit", "()V"⟩) ∈ lw_all := lw_g (lw_at lw_ms 25 rfl) rfl
theorem qs26 : (Cond.selects "ProgramReader$Reader" ⟨"ProgramReader$Reader", "isProduct", "()Z"⟩ ⟨"ProgramReader$Reader", "isProduct", "()Z"⟩) ∈ lw_all := lw_g (lw_at lw_ms 26 rfl) rfl
theorem qs27 : (Cond.selects "ProgramReader$Reader" ⟨"ProgramReader$Reader", "named", "(II)V"⟩ ⟨"ProgramReader$Reader", "named", "(II)V"⟩) ∈ lw_all := lw_g (lw_at lw_ms 27 rfl) rfl
theorem qs28 : (Cond.selects "ProgramReader$Reader" ⟨"ProgramReader$Reader", "called", "(IIZ)V"⟩ ⟨"ProgramReader$Reader", "called", "(IIZ)V"⟩) ∈ lw_all := lw_g (lw_at lw_ms 28 rfl) rfl
theorem qs29 : (Cond.selects "ProgramReader$Reader" ⟨"ProgramReader$Reader", "condition", "()V"⟩ ⟨"ProgramReader$Reader", "condition", "()V"⟩) ∈ lw_all := lw_g (lw_at lw_ms 29 rfl) rfl
theorem qs30 : (Cond.selects "ProgramReader$Reader" ⟨"ProgramReader$Reader", "cond", "()V"⟩ ⟨"ProgramReader$Reader", "cond", "()V"⟩) ∈ lw_all := lw_g (lw_at lw_ms 30 rfl) rfl
theorem qs31 : (Cond.selects "ProgramReader$Reader" ⟨"ProgramReader$Reader", "joined", "(ILProgramReader$Token;)V"⟩ ⟨"ProgramReader$Reader", "joined", "(ILProgramReader$Token;)V"⟩) ∈ lw_all := lw_g (lw_at lw_ms 31 rfl) rfl
theorem qs32 : (Cond.selects "ProgramReader$Reader" ⟨"ProgramReader$Reader", "test", "()V"⟩ ⟨"ProgramReader$Reader", "test", "()V"⟩) ∈ lw_all := lw_g (lw_at lw_ms 32 rfl) rfl
theorem qs33 : (Cond.selects "ProgramReader" ⟨"ProgramReader", "has", "(II)Z"⟩ ⟨"ProgramReader", "has", "(II)Z"⟩) ∈ lw_all := lw_g (lw_at lw_ms 33 rfl) rfl
theorem qs34 : (Cond.selects "ProgramReader$Writer" ⟨"ProgramReader$Writer", "write", "(I)V"⟩ ⟨"ProgramReader$Writer", "write", "(I)V"⟩) ∈ lw_all := lw_g (lw_at lw_ms 34 rfl) rfl
theorem qs35 : (Cond.selects "ProgramReader$Writer" ⟨"ProgramReader$Writer", "signed", "(I)V"⟩ ⟨"ProgramReader$Writer", "signed", "(I)V"⟩) ∈ lw_all := lw_g (lw_at lw_ms 35 rfl) rfl
theorem qs36 : (Cond.selects "ProgramReader$Writer" ⟨"ProgramReader$Writer", "put", "(Ljava/lang/String;)V"⟩ ⟨"ProgramReader$Writer", "put", "(Ljava/lang/String;)V"⟩) ∈ lw_all := lw_g (lw_at lw_ms 36 rfl) rfl
theorem qs37 : (Cond.selects "ProgramReader$Writer" ⟨"ProgramReader$Writer", "apart", "(I)V"⟩ ⟨"ProgramReader$Writer", "apart", "(I)V"⟩) ∈ lw_all := lw_g (lw_at lw_ms 37 rfl) rfl
theorem qs38 : (Cond.selects "ProgramReader$Writer" ⟨"ProgramReader$Writer", "part", "(III)V"⟩ ⟨"ProgramReader$Writer", "part", "(III)V"⟩) ∈ lw_all := lw_g (lw_at lw_ms 38 rfl) rfl
theorem qs39 : (Cond.selects "ProgramReader$Writer" ⟨"ProgramReader$Writer", "worth", "(I)V"⟩ ⟨"ProgramReader$Writer", "worth", "(I)V"⟩) ∈ lw_all := lw_g (lw_at lw_ms 39 rfl) rfl
theorem qs40 : (Cond.selects "ProgramReader$Writer" ⟨"ProgramReader$Writer", "number", "(I)V"⟩ ⟨"ProgramReader$Writer", "number", "(I)V"⟩) ∈ lw_all := lw_g (lw_at lw_ms 40 rfl) rfl
theorem qs41 : (Cond.selects "ProgramReader$Writer" ⟨"ProgramReader$Writer", "name", "(I)V"⟩ ⟨"ProgramReader$Writer", "name", "(I)V"⟩) ∈ lw_all := lw_g (lw_at lw_ms 41 rfl) rfl
theorem qs42 : (Cond.selects "ProgramReader$Writer" ⟨"ProgramReader$Writer", "cell", "(I)V"⟩ ⟨"ProgramReader$Writer", "cell", "(I)V"⟩) ∈ lw_all := lw_g (lw_at lw_ms 42 rfl) rfl
theorem qs43 : (Cond.selects "ProgramReader$Writer" ⟨"ProgramReader$Writer", "after", "(I)I"⟩ ⟨"ProgramReader$Writer", "after", "(I)I"⟩) ∈ lw_all := lw_g (lw_at lw_ms 43 rfl) rfl
theorem qs44 : (Cond.selects "ProgramReader$Writer" ⟨"ProgramReader$Writer", "row", "(IILjava/lang/String;)V"⟩ ⟨"ProgramReader$Writer", "row", "(IILjava/lang/String;)V"⟩) ∈ lw_all := lw_g (lw_at lw_ms 44 rfl) rfl
theorem qs45 : (Cond.selects "ProgramReader$Writer" ⟨"ProgramReader$Writer", "relation", "(I)V"⟩ ⟨"ProgramReader$Writer", "relation", "(I)V"⟩) ∈ lw_all := lw_g (lw_at lw_ms 45 rfl) rfl
theorem qs46 : (Cond.selects "ProgramReader$Writer" ⟨"ProgramReader$Writer", "statement", "(III)V"⟩ ⟨"ProgramReader$Writer", "statement", "(III)V"⟩) ∈ lw_all := lw_g (lw_at lw_ms 46 rfl) rfl
theorem qs47 : (Cond.selects "ProgramReader$Writer" ⟨"ProgramReader$Writer", "function", "(II)V"⟩ ⟨"ProgramReader$Writer", "function", "(II)V"⟩) ∈ lw_all := lw_g (lw_at lw_ms 47 rfl) rfl
theorem qs48 : (Cond.selects "ProgramReader$Writer" ⟨"ProgramReader$Writer", "simple", "(III)V"⟩ ⟨"ProgramReader$Writer", "simple", "(III)V"⟩) ∈ lw_all := lw_g (lw_at lw_ms 48 rfl) rfl
theorem qs49 : (Cond.selects "ProgramReaderModel" ⟨"ProgramReaderModel", "clear", "(I)V"⟩ ⟨"ProgramReaderModel", "clear", "(I)V"⟩) ∈ lw_all := lw_g (lw_at lw_ms 49 rfl) rfl
theorem qs50 : (Cond.selects "ProgramReaderModel" ⟨"ProgramReaderModel", "add", "(IIIII)I"⟩ ⟨"ProgramReaderModel", "add", "(IIIII)I"⟩) ∈ lw_all := lw_g (lw_at lw_ms 50 rfl) rfl
theorem qs51 : (Cond.selects "ProgramReaderModel" ⟨"ProgramReaderModel", "scan", "()V"⟩ ⟨"ProgramReaderModel", "scan", "()V"⟩) ∈ lw_all := lw_g (lw_at lw_ms 51 rfl) rfl
theorem qs52 : (Cond.selects "ProgramReaderModel" ⟨"ProgramReaderModel", "behindBlanks", "(I)I"⟩ ⟨"ProgramReaderModel", "behindBlanks", "(I)I"⟩) ∈ lw_all := lw_g (lw_at lw_ms 52 rfl) rfl
theorem qs53 : (Cond.selects "ProgramReaderModel" ⟨"ProgramReaderModel", "isAt", "(III)Z"⟩ ⟨"ProgramReaderModel", "isAt", "(III)Z"⟩) ∈ lw_all := lw_g (lw_at lw_ms 53 rfl) rfl
theorem qs54 : (Cond.selects "ProgramReaderModel" ⟨"ProgramReaderModel", "isWord", "(I)Z"⟩ ⟨"ProgramReaderModel", "isWord", "(I)Z"⟩) ∈ lw_all := lw_g (lw_at lw_ms 54 rfl) rfl
theorem qs55 : (Cond.selects "ProgramReaderModel" ⟨"ProgramReaderModel", "wordOf", "(II)I"⟩ ⟨"ProgramReaderModel", "wordOf", "(II)I"⟩) ∈ lw_all := lw_g (lw_at lw_ms 55 rfl) rfl
theorem qs56 : (Cond.selects "ProgramReaderModel" ⟨"ProgramReaderModel", "isNumber", "(II)Z"⟩ ⟨"ProgramReaderModel", "isNumber", "(II)Z"⟩) ∈ lw_all := lw_g (lw_at lw_ms 56 rfl) rfl
theorem qs57 : (Cond.selects "ProgramReaderModel" ⟨"ProgramReaderModel", "function", "()I"⟩ ⟨"ProgramReaderModel", "function", "()I"⟩) ∈ lw_all := lw_g (lw_at lw_ms 57 rfl) rfl
theorem qs58 : (Cond.selects "ProgramReaderModel" ⟨"ProgramReaderModel", "draft", "(III)I"⟩ ⟨"ProgramReaderModel", "draft", "(III)I"⟩) ∈ lw_all := lw_g (lw_at lw_ms 58 rfl) rfl
theorem qs59 : (Cond.selects "ProgramReaderModel" ⟨"ProgramReaderModel", "take", "(I)V"⟩ ⟨"ProgramReaderModel", "take", "(I)V"⟩) ∈ lw_all := lw_g (lw_at lw_ms 59 rfl) rfl
theorem qs60 : (Cond.selects "ProgramReaderModel" ⟨"ProgramReaderModel", "look", "()I"⟩ ⟨"ProgramReaderModel", "look", "()I"⟩) ∈ lw_all := lw_g (lw_at lw_ms 60 rfl) rfl
theorem qs61 : (Cond.selects "ProgramReaderModel" ⟨"ProgramReaderModel", "need", "(Z)V"⟩ ⟨"ProgramReaderModel", "need", "(Z)V"⟩) ∈ lw_all := lw_g (lw_at lw_ms 61 rfl) rfl
theorem qs62 : (Cond.selects "ProgramReaderModel" ⟨"ProgramReaderModel", "name", "()I"⟩ ⟨"ProgramReaderModel", "name", "()I"⟩) ∈ lw_all := lw_g (lw_at lw_ms 62 rfl) rfl
theorem qs63 : (Cond.selects "ProgramReaderModel" ⟨"ProgramReaderModel", "join", "(II)V"⟩ ⟨"ProgramReaderModel", "join", "(II)V"⟩) ∈ lw_all := lw_g (lw_at lw_ms 63 rfl) rfl
theorem qs64 : (Cond.selects "ProgramReaderModel" ⟨"ProgramReaderModel", "block", "(I)I"⟩ ⟨"ProgramReaderModel", "block", "(I)I"⟩) ∈ lw_all := lw_g (lw_at lw_ms 64 rfl) rfl
theorem qs65 : (Cond.selects "ProgramReaderModel" ⟨"ProgramReaderModel", "deep", "(I)V"⟩ ⟨"ProgramReaderModel", "deep", "(I)V"⟩) ∈ lw_all := lw_g (lw_at lw_ms 65 rfl) rfl
theorem qs66 : (Cond.selects "ProgramReaderModel" ⟨"ProgramReaderModel", "statement", "(I)I"⟩ ⟨"ProgramReaderModel", "statement", "(I)I"⟩) ∈ lw_all := lw_g (lw_at lw_ms 66 rfl) rfl
theorem qs67 : (Cond.selects "ProgramReaderModel" ⟨"ProgramReaderModel", "number", "(Z)I"⟩ ⟨"ProgramReaderModel", "number", "(Z)I"⟩) ∈ lw_all := lw_g (lw_at lw_ms 67 rfl) rfl
theorem qs68 : (Cond.selects "ProgramReaderModel" ⟨"ProgramReaderModel", "sum", "(I)I"⟩ ⟨"ProgramReaderModel", "sum", "(I)I"⟩) ∈ lw_all := lw_g (lw_at lw_ms 68 rfl) rfl
theorem qs69 : (Cond.selects "ProgramReaderModel" ⟨"ProgramReaderModel", "term", "(I)I"⟩ ⟨"ProgramReaderModel", "term", "(I)I"⟩) ∈ lw_all := lw_g (lw_at lw_ms 69 rfl) rfl
theorem qs70 : (Cond.selects "ProgramReaderModel" ⟨"ProgramReaderModel", "factor", "(I)I"⟩ ⟨"ProgramReaderModel", "factor", "(I)I"⟩) ∈ lw_all := lw_g (lw_at lw_ms 70 rfl) rfl
theorem qs71 : (Cond.selects "ProgramReaderModel" ⟨"ProgramReaderModel", "named", "(II)I"⟩ ⟨"ProgramReaderModel", "named", "(II)I"⟩) ∈ lw_all := lw_g (lw_at lw_ms 71 rfl) rfl
theorem qs72 : (Cond.selects "ProgramReaderModel" ⟨"ProgramReaderModel", "sums", "(II)V"⟩ ⟨"ProgramReaderModel", "sums", "(II)V"⟩) ∈ lw_all := lw_g (lw_at lw_ms 72 rfl) rfl
theorem qs73 : (Cond.selects "ProgramReaderModel" ⟨"ProgramReaderModel", "cond", "(I)I"⟩ ⟨"ProgramReaderModel", "cond", "(I)I"⟩) ∈ lw_all := lw_g (lw_at lw_ms 73 rfl) rfl
theorem qs74 : (Cond.selects "ProgramReaderModel" ⟨"ProgramReaderModel", "tests", "(II)I"⟩ ⟨"ProgramReaderModel", "tests", "(II)I"⟩) ∈ lw_all := lw_g (lw_at lw_ms 74 rfl) rfl
theorem qs75 : (Cond.selects "ProgramReaderModel" ⟨"ProgramReaderModel", "test", "(I)I"⟩ ⟨"ProgramReaderModel", "test", "(I)I"⟩) ∈ lw_all := lw_g (lw_at lw_ms 75 rfl) rfl
theorem qs76 : (Cond.selects "ProgramReaderModel" ⟨"ProgramReaderModel", "keep", "(II)V"⟩ ⟨"ProgramReaderModel", "keep", "(II)V"⟩) ∈ lw_all := lw_g (lw_at lw_ms 76 rfl) rfl
theorem qs77 : (Cond.selects "ProgramReaderModel" ⟨"ProgramReaderModel", "nameOf", "(I)I"⟩ ⟨"ProgramReaderModel", "nameOf", "(I)I"⟩) ∈ lw_all := lw_g (lw_at lw_ms 77 rfl) rfl
theorem qs78 : (Cond.selects "ProgramReaderModel" ⟨"ProgramReaderModel", "has", "(II)Z"⟩ ⟨"ProgramReaderModel", "has", "(II)Z"⟩) ∈ lw_all := lw_g (lw_at lw_ms 78 rfl) rfl
theorem qs79 : (Cond.selects "ProgramReaderModel" ⟨"ProgramReaderModel", "parts", "(II)I"⟩ ⟨"ProgramReaderModel", "parts", "(II)I"⟩) ∈ lw_all := lw_g (lw_at lw_ms 79 rfl) rfl
theorem qs80 : (Cond.selects "ProgramReaderModel" ⟨"ProgramReaderModel", "show", "(II)V"⟩ ⟨"ProgramReaderModel", "show", "(II)V"⟩) ∈ lw_all := lw_g (lw_at lw_ms 80 rfl) rfl
theorem qs81 : (Cond.selects "ProgramReaderModel" ⟨"ProgramReaderModel", "kindAt", "(II)I"⟩ ⟨"ProgramReaderModel", "kindAt", "(II)I"⟩) ∈ lw_all := lw_g (lw_at lw_ms 81 rfl) rfl
theorem qs82 : (Cond.selects "ProgramReaderModel" ⟨"ProgramReaderModel", "behind", "(II)I"⟩ ⟨"ProgramReaderModel", "behind", "(II)I"⟩) ∈ lw_all := lw_g (lw_at lw_ms 82 rfl) rfl
theorem qs83 : (Cond.selects "ProgramReaderModel" ⟨"ProgramReaderModel", "begin", "(I)V"⟩ ⟨"ProgramReaderModel", "begin", "(I)V"⟩) ∈ lw_all := lw_g (lw_at lw_ms 83 rfl) rfl
theorem qs84 : (Cond.selects "ProgramReaderModel" ⟨"ProgramReaderModel", "put", "(I)V"⟩ ⟨"ProgramReaderModel", "put", "(I)V"⟩) ∈ lw_all := lw_g (lw_at lw_ms 84 rfl) rfl
theorem qs85 : (Cond.selects "ProgramReaderModel" ⟨"ProgramReaderModel", "text", "(Ljava/lang/String;)V"⟩ ⟨"ProgramReaderModel", "text", "(Ljava/lang/String;)V"⟩) ∈ lw_all := lw_g (lw_at lw_ms 85 rfl) rfl
theorem qs86 : (Cond.selects "ProgramReaderModel" ⟨"ProgramReaderModel", "commas", "(III)V"⟩ ⟨"ProgramReaderModel", "commas", "(III)V"⟩) ∈ lw_all := lw_g (lw_at lw_ms 86 rfl) rfl
theorem qs87 : (Cond.selects "ProgramReaderModel" ⟨"ProgramReaderModel", "statements", "(III)V"⟩ ⟨"ProgramReaderModel", "statements", "(III)V"⟩) ∈ lw_all := lw_g (lw_at lw_ms 87 rfl) rfl
theorem qs88 : (Cond.selects "ProgramReaderModel" ⟨"ProgramReaderModel", "sayNumber", "(I)V"⟩ ⟨"ProgramReaderModel", "sayNumber", "(I)V"⟩) ∈ lw_all := lw_g (lw_at lw_ms 88 rfl) rfl
theorem qs89 : (Cond.selects "ProgramReaderModel" ⟨"ProgramReaderModel", "sayName", "(I)V"⟩ ⟨"ProgramReaderModel", "sayName", "(I)V"⟩) ∈ lw_all := lw_g (lw_at lw_ms 89 rfl) rfl
theorem qs90 : (Cond.selects "ProgramReaderModel" ⟨"ProgramReaderModel", "sayFactor", "(IIZ)V"⟩ ⟨"ProgramReaderModel", "sayFactor", "(IIZ)V"⟩) ∈ lw_all := lw_g (lw_at lw_ms 90 rfl) rfl
theorem qs91 : (Cond.selects "ProgramReaderModel" ⟨"ProgramReaderModel", "inside", "(IIZII)V"⟩ ⟨"ProgramReaderModel", "inside", "(IIZII)V"⟩) ∈ lw_all := lw_g (lw_at lw_ms 91 rfl) rfl
theorem qs92 : (Cond.selects "ProgramReaderModel" ⟨"ProgramReaderModel", "sign", "(I)Ljava/lang/String;"⟩ ⟨"ProgramReaderModel", "sign", "(I)Ljava/lang/String;"⟩) ∈ lw_all := lw_g (lw_at lw_ms 92 rfl) rfl
theorem qs93 : (Cond.selects "ProgramReaderModel" ⟨"ProgramReaderModel", "sayTest", "(IIZ)V"⟩ ⟨"ProgramReaderModel", "sayTest", "(IIZ)V"⟩) ∈ lw_all := lw_g (lw_at lw_ms 93 rfl) rfl
