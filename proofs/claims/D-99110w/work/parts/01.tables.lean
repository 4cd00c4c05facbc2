-- ===== PART A: goes FIRST, ahead of the names: the tables' words, and 'selects' of the private methods out of them =====
/-- a private method of a class that the tables say can be made, by its rows of tables_1 -/
def lw_okq (q : MethodName × Nat) : Prop := (q.1.cls ≠ "java/lang/invoke/MethodHandle" ∧ q.1.cls ≠ "java/lang/invoke/VarHandle") ∧ Cond.instantiable q.1.cls q.2 ∈ tables_1 ∧ Cond.privateMethod q.1 ∈ tables_1 ∧ Cond.instanceMethod q.1 ∈ tables_1
set_option maxRecDepth 100000
theorem lw_t1 {w : Cond} (h : w ∈ tables_1_1) : w ∈ tables_1 := List.mem_append_left _ h
theorem lw_t2 {w : Cond} (h : w ∈ tables_1_2) : w ∈ tables_1 := List.mem_append_right _ (List.mem_append_left _ h)
theorem lw_t3 {w : Cond} (h : w ∈ tables_1_3) : w ∈ tables_1 := List.mem_append_right _ (List.mem_append_right _ (List.mem_append_left _ h))
theorem lw_t4 {w : Cond} (h : w ∈ tables_1_4) : w ∈ tables_1 := List.mem_append_right _ (List.mem_append_right _ (List.mem_append_right _ (List.mem_append_left _ h)))
theorem lw_t5 {w : Cond} (h : w ∈ tables_1_5) : w ∈ tables_1 := List.mem_append_right _ (List.mem_append_right _ (List.mem_append_right _ (List.mem_append_right _ (List.mem_append_left _ h))))
theorem lw_t6 {w : Cond} (h : w ∈ tables_1_6) : w ∈ tables_1 := List.mem_append_right _ (List.mem_append_right _ (List.mem_append_right _ (List.mem_append_right _ (List.mem_append_right _ (List.mem_append_left _ h)))))
theorem lw_t7 {w : Cond} (h : w ∈ tables_1_7) : w ∈ tables_1 := List.mem_append_right _ (List.mem_append_right _ (List.mem_append_right _ (List.mem_append_right _ (List.mem_append_right _ (List.mem_append_right _ (List.mem_append_left _ h))))))
theorem lw_t8 {w : Cond} (h : w ∈ tables_1_8) : w ∈ tables_1 := List.mem_append_right _ (List.mem_append_right _ (List.mem_append_right _ (List.mem_append_right _ (List.mem_append_right _ (List.mem_append_right _ (List.mem_append_right _ h))))))
theorem lw_p0 : lw_okq (⟨"OneCoin", "isTold", "(I)Z"⟩, 22) := ⟨⟨by decide +kernel, by decide +kernel⟩, lw_t1 (List.mem_of_getElem? (i := 28) rfl), lw_t2 (List.mem_of_getElem? (i := 39) rfl), lw_t2 (List.mem_of_getElem? (i := 40) rfl)⟩
theorem lw_p1 : lw_okq (⟨"OneCoin", "push", "(I)V"⟩, 22) := ⟨⟨by decide +kernel, by decide +kernel⟩, lw_t1 (List.mem_of_getElem? (i := 28) rfl), lw_t2 (List.mem_of_getElem? (i := 57) rfl), lw_t2 (List.mem_of_getElem? (i := 58) rfl)⟩
theorem lw_p2 : lw_okq (⟨"OneCoin$Reader", "isGood", "()Z"⟩, 7) := ⟨⟨by decide +kernel, by decide +kernel⟩, lw_t2 (List.mem_of_getElem? (i := 65) rfl), lw_t2 (List.mem_of_getElem? (i := 100) rfl), lw_t2 (List.mem_of_getElem? (i := 101) rfl)⟩
theorem lw_p3 : lw_okq (⟨"OneCoin$Reader", "clause", "()V"⟩, 7) := ⟨⟨by decide +kernel, by decide +kernel⟩, lw_t2 (List.mem_of_getElem? (i := 65) rfl), lw_t2 (List.mem_of_getElem? (i := 104) rfl), lw_t2 (List.mem_of_getElem? (i := 105) rfl)⟩
theorem lw_p4 : lw_okq (⟨"OneCoin$Reader", "here", "()I"⟩, 7) := ⟨⟨by decide +kernel, by decide +kernel⟩, lw_t2 (List.mem_of_getElem? (i := 65) rfl), lw_t2 (List.mem_of_getElem? (i := 108) rfl), lw_t2 (List.mem_of_getElem? (i := 109) rfl)⟩
theorem lw_p5 : lw_okq (⟨"OneCoin$Reader", "bad", "(II)V"⟩, 7) := ⟨⟨by decide +kernel, by decide +kernel⟩, lw_t2 (List.mem_of_getElem? (i := 65) rfl), lw_t2 (List.mem_of_getElem? (i := 199) rfl), lw_t2 (List.mem_of_getElem? (i := 200) rfl)⟩
theorem lw_p6 : lw_okq (⟨"OneCoin$Reader", "sum", "()LOneCoin$Sum;"⟩, 7) := ⟨⟨by decide +kernel, by decide +kernel⟩, lw_t2 (List.mem_of_getElem? (i := 65) rfl), lw_t2 (List.mem_of_getElem? (i := 203) rfl), lw_t2 (List.mem_of_getElem? (i := 204) rfl)⟩
theorem lw_p7 : lw_okq (⟨"OneCoin$Reader", "product", "()LOneCoin$Sum;"⟩, 7) := ⟨⟨by decide +kernel, by decide +kernel⟩, lw_t2 (List.mem_of_getElem? (i := 65) rfl), lw_t2 (List.mem_of_getElem? (i := 209) rfl), lw_t2 (List.mem_of_getElem? (i := 210) rfl)⟩
theorem lw_p8 : lw_okq (⟨"OneCoin$Reader", "factor", "()LOneCoin$Sum;"⟩, 7) := ⟨⟨by decide +kernel, by decide +kernel⟩, lw_t2 (List.mem_of_getElem? (i := 65) rfl), lw_t2 (List.mem_of_getElem? (i := 213) rfl), lw_t2 (List.mem_of_getElem? (i := 214) rfl)⟩
theorem lw_p9 : lw_okq (⟨"OneCoin$Reader", "opens", "()V"⟩, 7) := ⟨⟨by decide +kernel, by decide +kernel⟩, lw_t2 (List.mem_of_getElem? (i := 65) rfl), lw_t2 (List.mem_of_getElem? (i := 217) rfl), lw_t2 (List.mem_of_getElem? (i := 218) rfl)⟩
theorem lw_p10 : lw_okq (⟨"OneCoin$Reader", "must", "(I)V"⟩, 7) := ⟨⟨by decide +kernel, by decide +kernel⟩, lw_t2 (List.mem_of_getElem? (i := 65) rfl), lw_t2 (List.mem_of_getElem? (i := 221) rfl), lw_t2 (List.mem_of_getElem? (i := 222) rfl)⟩
theorem lw_p11 : lw_okq (⟨"OneCoin$Reader", "seesDigit", "()Z"⟩, 7) := ⟨⟨by decide +kernel, by decide +kernel⟩, lw_t2 (List.mem_of_getElem? (i := 65) rfl), lw_t2 (List.mem_of_getElem? (i := 225) rfl), lw_t2 (List.mem_of_getElem? (i := 226) rfl)⟩
theorem lw_p12 : lw_okq (⟨"OneCoin$Reader", "number", "()I"⟩, 7) := ⟨⟨by decide +kernel, by decide +kernel⟩, lw_t2 (List.mem_of_getElem? (i := 65) rfl), lw_t2 (List.mem_of_getElem? (i := 231) rfl), lw_t2 (List.mem_of_getElem? (i := 232) rfl)⟩
theorem lw_p13 : lw_okq (⟨"OneCoin$Reader", "condition", "()LOneCoin$Condition;"⟩, 7) := ⟨⟨by decide +kernel, by decide +kernel⟩, lw_t2 (List.mem_of_getElem? (i := 65) rfl), lw_t3 (List.mem_of_getElem? (i := 32) rfl), lw_t3 (List.mem_of_getElem? (i := 33) rfl)⟩
theorem lw_p14 : lw_okq (⟨"OneCoin$Reader", "pieces", "()LOneCoin$Condition;"⟩, 7) := ⟨⟨by decide +kernel, by decide +kernel⟩, lw_t2 (List.mem_of_getElem? (i := 65) rfl), lw_t3 (List.mem_of_getElem? (i := 38) rfl), lw_t3 (List.mem_of_getElem? (i := 39) rfl)⟩
theorem lw_p15 : lw_okq (⟨"OneCoin$Reader", "piece", "()LOneCoin$Condition;"⟩, 7) := ⟨⟨by decide +kernel, by decide +kernel⟩, lw_t2 (List.mem_of_getElem? (i := 65) rfl), lw_t3 (List.mem_of_getElem? (i := 42) rfl), lw_t3 (List.mem_of_getElem? (i := 43) rfl)⟩
def lw_privs_1 : List (MethodName × Nat) := [(⟨"OneCoin", "isTold", "(I)Z"⟩, 22), (⟨"OneCoin", "push", "(I)V"⟩, 22), (⟨"OneCoin$Reader", "isGood", "()Z"⟩, 7), (⟨"OneCoin$Reader", "clause", "()V"⟩, 7), (⟨"OneCoin$Reader", "here", "()I"⟩, 7), (⟨"OneCoin$Reader", "bad", "(II)V"⟩, 7), (⟨"OneCoin$Reader", "sum", "()LOneCoin$Sum;"⟩, 7), (⟨"OneCoin$Reader", "product", "()LOneCoin$Sum;"⟩, 7), (⟨"OneCoin$Reader", "factor", "()LOneCoin$Sum;"⟩, 7), (⟨"OneCoin$Reader", "opens", "()V"⟩, 7), (⟨"OneCoin$Reader", "must", "(I)V"⟩, 7), (⟨"OneCoin$Reader", "seesDigit", "()Z"⟩, 7), (⟨"OneCoin$Reader", "number", "()I"⟩, 7), (⟨"OneCoin$Reader", "condition", "()LOneCoin$Condition;"⟩, 7), (⟨"OneCoin$Reader", "pieces", "()LOneCoin$Condition;"⟩, 7), (⟨"OneCoin$Reader", "piece", "()LOneCoin$Condition;"⟩, 7)]
theorem lw_r1 : ∀ q ∈ lw_privs_1, lw_okq q := List.forall_mem_cons.mpr ⟨lw_p0, List.forall_mem_cons.mpr ⟨lw_p1, List.forall_mem_cons.mpr ⟨lw_p2, List.forall_mem_cons.mpr ⟨lw_p3, List.forall_mem_cons.mpr ⟨lw_p4, List.forall_mem_cons.mpr ⟨lw_p5, List.forall_mem_cons.mpr ⟨lw_p6, List.forall_mem_cons.mpr ⟨lw_p7, List.forall_mem_cons.mpr ⟨lw_p8, List.forall_mem_cons.mpr ⟨lw_p9, List.forall_mem_cons.mpr ⟨lw_p10, List.forall_mem_cons.mpr ⟨lw_p11, List.forall_mem_cons.mpr ⟨lw_p12, List.forall_mem_cons.mpr ⟨lw_p13, List.forall_mem_cons.mpr ⟨lw_p14, List.forall_mem_cons.mpr ⟨lw_p15, fun _ h => absurd h List.not_mem_nil⟩⟩⟩⟩⟩⟩⟩⟩⟩⟩⟩⟩⟩⟩⟩⟩
theorem lw_p16 : lw_okq (⟨"OneCoin$Clerk", "line", "()V"⟩, 8) := ⟨⟨by decide +kernel, by decide +kernel⟩, lw_t3 (List.mem_of_getElem? (i := 94) rfl), lw_t3 (List.mem_of_getElem? (i := 135) rfl), lw_t3 (List.mem_of_getElem? (i := 136) rfl)⟩
theorem lw_p17 : lw_okq (⟨"OneCoin$Clerk", "person", "()I"⟩, 8) := ⟨⟨by decide +kernel, by decide +kernel⟩, lw_t3 (List.mem_of_getElem? (i := 94) rfl), lw_t3 (List.mem_of_getElem? (i := 169) rfl), lw_t3 (List.mem_of_getElem? (i := 170) rfl)⟩
theorem lw_p18 : lw_okq (⟨"OneCoin$Clerk", "many", "()I"⟩, 8) := ⟨⟨by decide +kernel, by decide +kernel⟩, lw_t3 (List.mem_of_getElem? (i := 94) rfl), lw_t3 (List.mem_of_getElem? (i := 190) rfl), lw_t3 (List.mem_of_getElem? (i := 191) rfl)⟩
theorem lw_p19 : lw_okq (⟨"OneCoin$Guide", "all", "()V"⟩, 9) := ⟨⟨by decide +kernel, by decide +kernel⟩, lw_t3 (List.mem_of_getElem? (i := 228) rfl), lw_t4 (List.mem_of_getElem? (i := 17) rfl), lw_t4 (List.mem_of_getElem? (i := 18) rfl)⟩
theorem lw_p20 : lw_okq (⟨"OneCoin$Guide", "one", "()V"⟩, 9) := ⟨⟨by decide +kernel, by decide +kernel⟩, lw_t3 (List.mem_of_getElem? (i := 228) rfl), lw_t4 (List.mem_of_getElem? (i := 24) rfl), lw_t4 (List.mem_of_getElem? (i := 25) rfl)⟩
theorem lw_p21 : lw_okq (⟨"OneCoin$Guide", "rounds", "()V"⟩, 9) := ⟨⟨by decide +kernel, by decide +kernel⟩, lw_t3 (List.mem_of_getElem? (i := 228) rfl), lw_t4 (List.mem_of_getElem? (i := 40) rfl), lw_t4 (List.mem_of_getElem? (i := 41) rfl)⟩
theorem lw_p22 : lw_okq (⟨"OneCoin", "walks", "(LOneCoin$Duchy;[II)I"⟩, 22) := ⟨⟨by decide +kernel, by decide +kernel⟩, lw_t1 (List.mem_of_getElem? (i := 28) rfl), lw_t4 (List.mem_of_getElem? (i := 61) rfl), lw_t4 (List.mem_of_getElem? (i := 62) rfl)⟩
theorem lw_p23 : lw_okq (⟨"OneCoin", "way", "(II)I"⟩, 22) := ⟨⟨by decide +kernel, by decide +kernel⟩, lw_t1 (List.mem_of_getElem? (i := 28) rfl), lw_t4 (List.mem_of_getElem? (i := 74) rfl), lw_t4 (List.mem_of_getElem? (i := 75) rfl)⟩
theorem lw_p24 : lw_okq (⟨"OneCoin$Duchy", "dayBegins", "()V"⟩, 16) := ⟨⟨by decide +kernel, by decide +kernel⟩, lw_t1 (List.mem_of_getElem? (i := 79) rfl), lw_t4 (List.mem_of_getElem? (i := 106) rfl), lw_t4 (List.mem_of_getElem? (i := 107) rfl)⟩
theorem lw_p25 : lw_okq (⟨"OneCoin$Duchy", "draw", "()I"⟩, 16) := ⟨⟨by decide +kernel, by decide +kernel⟩, lw_t1 (List.mem_of_getElem? (i := 79) rfl), lw_t4 (List.mem_of_getElem? (i := 110) rfl), lw_t4 (List.mem_of_getElem? (i := 111) rfl)⟩
theorem lw_p26 : lw_okq (⟨"OneCoin$Duchy", "arrives", "()V"⟩, 16) := ⟨⟨by decide +kernel, by decide +kernel⟩, lw_t1 (List.mem_of_getElem? (i := 79) rfl), lw_t4 (List.mem_of_getElem? (i := 191) rfl), lw_t4 (List.mem_of_getElem? (i := 192) rfl)⟩
theorem lw_p27 : lw_okq (⟨"OneCoin$Duchy", "stays", "()V"⟩, 16) := ⟨⟨by decide +kernel, by decide +kernel⟩, lw_t1 (List.mem_of_getElem? (i := 79) rfl), lw_t4 (List.mem_of_getElem? (i := 196) rfl), lw_t4 (List.mem_of_getElem? (i := 197) rfl)⟩
theorem lw_p28 : lw_okq (⟨"OneCoin$Duchy", "nextPaid", "()I"⟩, 16) := ⟨⟨by decide +kernel, by decide +kernel⟩, lw_t1 (List.mem_of_getElem? (i := 79) rfl), lw_t4 (List.mem_of_getElem? (i := 201) rfl), lw_t4 (List.mem_of_getElem? (i := 202) rfl)⟩
theorem lw_p29 : lw_okq (⟨"OneCoin", "likingOf", "(LOneCoin$Duchy;II)I"⟩, 22) := ⟨⟨by decide +kernel, by decide +kernel⟩, lw_t1 (List.mem_of_getElem? (i := 28) rfl), lw_t4 (List.mem_of_getElem? (i := 205) rfl), lw_t4 (List.mem_of_getElem? (i := 206) rfl)⟩
theorem lw_p30 : lw_okq (⟨"OneCoin", "areTwo", "(II)Z"⟩, 22) := ⟨⟨by decide +kernel, by decide +kernel⟩, lw_t1 (List.mem_of_getElem? (i := 28) rfl), lw_t4 (List.mem_of_getElem? (i := 239) rfl), lw_t5 (List.mem_of_getElem? (i := 0) rfl)⟩
theorem lw_p31 : lw_okq (⟨"OneCoin$Debts", "next", "(I)I"⟩, 1) := ⟨⟨by decide +kernel, by decide +kernel⟩, lw_t1 (List.mem_of_getElem? (i := 85) rfl), lw_t5 (List.mem_of_getElem? (i := 20) rfl), lw_t5 (List.mem_of_getElem? (i := 21) rfl)⟩
def lw_privs_2 : List (MethodName × Nat) := [(⟨"OneCoin$Clerk", "line", "()V"⟩, 8), (⟨"OneCoin$Clerk", "person", "()I"⟩, 8), (⟨"OneCoin$Clerk", "many", "()I"⟩, 8), (⟨"OneCoin$Guide", "all", "()V"⟩, 9), (⟨"OneCoin$Guide", "one", "()V"⟩, 9), (⟨"OneCoin$Guide", "rounds", "()V"⟩, 9), (⟨"OneCoin", "walks", "(LOneCoin$Duchy;[II)I"⟩, 22), (⟨"OneCoin", "way", "(II)I"⟩, 22), (⟨"OneCoin$Duchy", "dayBegins", "()V"⟩, 16), (⟨"OneCoin$Duchy", "draw", "()I"⟩, 16), (⟨"OneCoin$Duchy", "arrives", "()V"⟩, 16), (⟨"OneCoin$Duchy", "stays", "()V"⟩, 16), (⟨"OneCoin$Duchy", "nextPaid", "()I"⟩, 16), (⟨"OneCoin", "likingOf", "(LOneCoin$Duchy;II)I"⟩, 22), (⟨"OneCoin", "areTwo", "(II)Z"⟩, 22), (⟨"OneCoin$Debts", "next", "(I)I"⟩, 1)]
theorem lw_r2 : ∀ q ∈ lw_privs_2, lw_okq q := List.forall_mem_cons.mpr ⟨lw_p16, List.forall_mem_cons.mpr ⟨lw_p17, List.forall_mem_cons.mpr ⟨lw_p18, List.forall_mem_cons.mpr ⟨lw_p19, List.forall_mem_cons.mpr ⟨lw_p20, List.forall_mem_cons.mpr ⟨lw_p21, List.forall_mem_cons.mpr ⟨lw_p22, List.forall_mem_cons.mpr ⟨lw_p23, List.forall_mem_cons.mpr ⟨lw_p24, List.forall_mem_cons.mpr ⟨lw_p25, List.forall_mem_cons.mpr ⟨lw_p26, List.forall_mem_cons.mpr ⟨lw_p27, List.forall_mem_cons.mpr ⟨lw_p28, List.forall_mem_cons.mpr ⟨lw_p29, List.forall_mem_cons.mpr ⟨lw_p30, List.forall_mem_cons.mpr ⟨lw_p31, fun _ h => absurd h List.not_mem_nil⟩⟩⟩⟩⟩⟩⟩⟩⟩⟩⟩⟩⟩⟩⟩⟩
theorem lw_p32 : lw_okq (⟨"OneCoin", "laysTour", "(II)I"⟩, 22) := ⟨⟨by decide +kernel, by decide +kernel⟩, lw_t1 (List.mem_of_getElem? (i := 28) rfl), lw_t5 (List.mem_of_getElem? (i := 27) rfl), lw_t5 (List.mem_of_getElem? (i := 28) rfl)⟩
theorem lw_p33 : lw_okq (⟨"OneCoin", "canPay", "(II)Z"⟩, 22) := ⟨⟨by decide +kernel, by decide +kernel⟩, lw_t1 (List.mem_of_getElem? (i := 28) rfl), lw_t5 (List.mem_of_getElem? (i := 31) rfl), lw_t5 (List.mem_of_getElem? (i := 32) rfl)⟩
theorem lw_p34 : lw_okq (⟨"OneCoin", "longest", "(II)V"⟩, 22) := ⟨⟨by decide +kernel, by decide +kernel⟩, lw_t1 (List.mem_of_getElem? (i := 28) rfl), lw_t5 (List.mem_of_getElem? (i := 39) rfl), lw_t5 (List.mem_of_getElem? (i := 40) rfl)⟩
theorem lw_p35 : lw_okq (⟨"OneCoin", "laysWays", "(Z)V"⟩, 22) := ⟨⟨by decide +kernel, by decide +kernel⟩, lw_t1 (List.mem_of_getElem? (i := 28) rfl), lw_t5 (List.mem_of_getElem? (i := 47) rfl), lw_t5 (List.mem_of_getElem? (i := 48) rfl)⟩
theorem lw_p36 : lw_okq (⟨"OneCoin", "lack", "()I"⟩, 22) := ⟨⟨by decide +kernel, by decide +kernel⟩, lw_t1 (List.mem_of_getElem? (i := 28) rfl), lw_t5 (List.mem_of_getElem? (i := 56) rfl), lw_t5 (List.mem_of_getElem? (i := 57) rfl)⟩
theorem lw_p37 : lw_okq (⟨"OneCoin", "netOf", "(I)I"⟩, 22) := ⟨⟨by decide +kernel, by decide +kernel⟩, lw_t1 (List.mem_of_getElem? (i := 28) rfl), lw_t5 (List.mem_of_getElem? (i := 60) rfl), lw_t5 (List.mem_of_getElem? (i := 61) rfl)⟩
theorem lw_p38 : lw_okq (⟨"OneCoin", "takesLack", "()V"⟩, 22) := ⟨⟨by decide +kernel, by decide +kernel⟩, lw_t1 (List.mem_of_getElem? (i := 28) rfl), lw_t5 (List.mem_of_getElem? (i := 64) rfl), lw_t5 (List.mem_of_getElem? (i := 65) rfl)⟩
theorem lw_p39 : lw_okq (⟨"OneCoin", "evens", "(IIII)V"⟩, 22) := ⟨⟨by decide +kernel, by decide +kernel⟩, lw_t1 (List.mem_of_getElem? (i := 28) rfl), lw_t5 (List.mem_of_getElem? (i := 68) rfl), lw_t5 (List.mem_of_getElem? (i := 69) rfl)⟩
theorem lw_p40 : lw_okq (⟨"OneCoin", "takesDebts", "()I"⟩, 22) := ⟨⟨by decide +kernel, by decide +kernel⟩, lw_t1 (List.mem_of_getElem? (i := 28) rfl), lw_t5 (List.mem_of_getElem? (i := 76) rfl), lw_t5 (List.mem_of_getElem? (i := 77) rfl)⟩
theorem lw_p41 : lw_okq (⟨"OneCoin", "isEvenBy", "(II)Z"⟩, 22) := ⟨⟨by decide +kernel, by decide +kernel⟩, lw_t1 (List.mem_of_getElem? (i := 28) rfl), lw_t5 (List.mem_of_getElem? (i := 86) rfl), lw_t5 (List.mem_of_getElem? (i := 87) rfl)⟩
theorem lw_p42 : lw_okq (⟨"OneCoin", "netOfAll", "(I)I"⟩, 22) := ⟨⟨by decide +kernel, by decide +kernel⟩, lw_t1 (List.mem_of_getElem? (i := 28) rfl), lw_t5 (List.mem_of_getElem? (i := 99) rfl), lw_t5 (List.mem_of_getElem? (i := 100) rfl)⟩
theorem lw_p43 : lw_okq (⟨"OneCoin", "ringOf", "(I)I"⟩, 22) := ⟨⟨by decide +kernel, by decide +kernel⟩, lw_t1 (List.mem_of_getElem? (i := 28) rfl), lw_t5 (List.mem_of_getElem? (i := 107) rfl), lw_t5 (List.mem_of_getElem? (i := 108) rfl)⟩
theorem lw_p44 : lw_okq (⟨"OneCoin", "hoursOf", "(III)I"⟩, 22) := ⟨⟨by decide +kernel, by decide +kernel⟩, lw_t1 (List.mem_of_getElem? (i := 28) rfl), lw_t5 (List.mem_of_getElem? (i := 147) rfl), lw_t5 (List.mem_of_getElem? (i := 148) rfl)⟩
theorem lw_p45 : lw_okq (⟨"OneCoinModel", "areTwo", "(II)Z"⟩, 62) := ⟨⟨by decide +kernel, by decide +kernel⟩, lw_t5 (List.mem_of_getElem? (i := 184) rfl), lw_t6 (List.mem_of_getElem? (i := 149) rfl), lw_t6 (List.mem_of_getElem? (i := 150) rfl)⟩
theorem lw_p46 : lw_okq (⟨"OneCoinModel", "isPerson", "(I)Z"⟩, 62) := ⟨⟨by decide +kernel, by decide +kernel⟩, lw_t5 (List.mem_of_getElem? (i := 184) rfl), lw_t6 (List.mem_of_getElem? (i := 153) rfl), lw_t6 (List.mem_of_getElem? (i := 154) rfl)⟩
theorem lw_p47 : lw_okq (⟨"OneCoinModel", "rests", "(I)V"⟩, 62) := ⟨⟨by decide +kernel, by decide +kernel⟩, lw_t5 (List.mem_of_getElem? (i := 184) rfl), lw_t6 (List.mem_of_getElem? (i := 164) rfl), lw_t6 (List.mem_of_getElem? (i := 165) rfl)⟩
def lw_privs_3 : List (MethodName × Nat) := [(⟨"OneCoin", "laysTour", "(II)I"⟩, 22), (⟨"OneCoin", "canPay", "(II)Z"⟩, 22), (⟨"OneCoin", "longest", "(II)V"⟩, 22), (⟨"OneCoin", "laysWays", "(Z)V"⟩, 22), (⟨"OneCoin", "lack", "()I"⟩, 22), (⟨"OneCoin", "netOf", "(I)I"⟩, 22), (⟨"OneCoin", "takesLack", "()V"⟩, 22), (⟨"OneCoin", "evens", "(IIII)V"⟩, 22), (⟨"OneCoin", "takesDebts", "()I"⟩, 22), (⟨"OneCoin", "isEvenBy", "(II)Z"⟩, 22), (⟨"OneCoin", "netOfAll", "(I)I"⟩, 22), (⟨"OneCoin", "ringOf", "(I)I"⟩, 22), (⟨"OneCoin", "hoursOf", "(III)I"⟩, 22), (⟨"OneCoinModel", "areTwo", "(II)Z"⟩, 62), (⟨"OneCoinModel", "isPerson", "(I)Z"⟩, 62), (⟨"OneCoinModel", "rests", "(I)V"⟩, 62)]
theorem lw_r3 : ∀ q ∈ lw_privs_3, lw_okq q := List.forall_mem_cons.mpr ⟨lw_p32, List.forall_mem_cons.mpr ⟨lw_p33, List.forall_mem_cons.mpr ⟨lw_p34, List.forall_mem_cons.mpr ⟨lw_p35, List.forall_mem_cons.mpr ⟨lw_p36, List.forall_mem_cons.mpr ⟨lw_p37, List.forall_mem_cons.mpr ⟨lw_p38, List.forall_mem_cons.mpr ⟨lw_p39, List.forall_mem_cons.mpr ⟨lw_p40, List.forall_mem_cons.mpr ⟨lw_p41, List.forall_mem_cons.mpr ⟨lw_p42, List.forall_mem_cons.mpr ⟨lw_p43, List.forall_mem_cons.mpr ⟨lw_p44, List.forall_mem_cons.mpr ⟨lw_p45, List.forall_mem_cons.mpr ⟨lw_p46, List.forall_mem_cons.mpr ⟨lw_p47, fun _ h => absurd h List.not_mem_nil⟩⟩⟩⟩⟩⟩⟩⟩⟩⟩⟩⟩⟩⟩⟩⟩
theorem lw_p48 : lw_okq (⟨"OneCoinModel", "types", "(I)V"⟩, 62) := ⟨⟨by decide +kernel, by decide +kernel⟩, lw_t5 (List.mem_of_getElem? (i := 184) rfl), lw_t6 (List.mem_of_getElem? (i := 172) rfl), lw_t6 (List.mem_of_getElem? (i := 173) rfl)⟩
theorem lw_p49 : lw_okq (⟨"OneCoinModel", "readsRule", "()Z"⟩, 62) := ⟨⟨by decide +kernel, by decide +kernel⟩, lw_t5 (List.mem_of_getElem? (i := 184) rfl), lw_t6 (List.mem_of_getElem? (i := 180) rfl), lw_t6 (List.mem_of_getElem? (i := 181) rfl)⟩
theorem lw_p50 : lw_okq (⟨"OneCoinModel", "here", "()I"⟩, 62) := ⟨⟨by decide +kernel, by decide +kernel⟩, lw_t5 (List.mem_of_getElem? (i := 184) rfl), lw_t6 (List.mem_of_getElem? (i := 184) rfl), lw_t6 (List.mem_of_getElem? (i := 185) rfl)⟩
theorem lw_p51 : lw_okq (⟨"OneCoinModel", "wrongAt", "(II)Z"⟩, 62) := ⟨⟨by decide +kernel, by decide +kernel⟩, lw_t5 (List.mem_of_getElem? (i := 184) rfl), lw_t6 (List.mem_of_getElem? (i := 188) rfl), lw_t6 (List.mem_of_getElem? (i := 189) rfl)⟩
theorem lw_p52 : lw_okq (⟨"OneCoinModel", "readsSum", "()Z"⟩, 62) := ⟨⟨by decide +kernel, by decide +kernel⟩, lw_t5 (List.mem_of_getElem? (i := 184) rfl), lw_t6 (List.mem_of_getElem? (i := 192) rfl), lw_t6 (List.mem_of_getElem? (i := 193) rfl)⟩
theorem lw_p53 : lw_okq (⟨"OneCoinModel", "readsFactor", "()Z"⟩, 62) := ⟨⟨by decide +kernel, by decide +kernel⟩, lw_t5 (List.mem_of_getElem? (i := 184) rfl), lw_t6 (List.mem_of_getElem? (i := 196) rfl), lw_t6 (List.mem_of_getElem? (i := 197) rfl)⟩
theorem lw_p54 : lw_okq (⟨"OneCoinModel", "opens", "(I)Z"⟩, 62) := ⟨⟨by decide +kernel, by decide +kernel⟩, lw_t5 (List.mem_of_getElem? (i := 184) rfl), lw_t6 (List.mem_of_getElem? (i := 200) rfl), lw_t6 (List.mem_of_getElem? (i := 201) rfl)⟩
theorem lw_p55 : lw_okq (⟨"OneCoinModel", "isDigit", "()Z"⟩, 62) := ⟨⟨by decide +kernel, by decide +kernel⟩, lw_t5 (List.mem_of_getElem? (i := 184) rfl), lw_t6 (List.mem_of_getElem? (i := 205) rfl), lw_t6 (List.mem_of_getElem? (i := 206) rfl)⟩
theorem lw_p56 : lw_okq (⟨"OneCoinModel", "readsNumber", "()Z"⟩, 62) := ⟨⟨by decide +kernel, by decide +kernel⟩, lw_t5 (List.mem_of_getElem? (i := 184) rfl), lw_t6 (List.mem_of_getElem? (i := 209) rfl), lw_t6 (List.mem_of_getElem? (i := 210) rfl)⟩
theorem lw_p57 : lw_okq (⟨"OneCoinModel", "notes", "(II)V"⟩, 62) := ⟨⟨by decide +kernel, by decide +kernel⟩, lw_t5 (List.mem_of_getElem? (i := 184) rfl), lw_t6 (List.mem_of_getElem? (i := 213) rfl), lw_t6 (List.mem_of_getElem? (i := 214) rfl)⟩
theorem lw_p58 : lw_okq (⟨"OneCoinModel", "closesSums", "(Z)V"⟩, 62) := ⟨⟨by decide +kernel, by decide +kernel⟩, lw_t5 (List.mem_of_getElem? (i := 184) rfl), lw_t6 (List.mem_of_getElem? (i := 223) rfl), lw_t6 (List.mem_of_getElem? (i := 224) rfl)⟩
theorem lw_p59 : lw_okq (⟨"OneCoinModel", "waitTop", "()I"⟩, 62) := ⟨⟨by decide +kernel, by decide +kernel⟩, lw_t5 (List.mem_of_getElem? (i := 184) rfl), lw_t6 (List.mem_of_getElem? (i := 227) rfl), lw_t6 (List.mem_of_getElem? (i := 228) rfl)⟩
theorem lw_p60 : lw_okq (⟨"OneCoinModel", "hasOpenSum", "(I)Z"⟩, 62) := ⟨⟨by decide +kernel, by decide +kernel⟩, lw_t5 (List.mem_of_getElem? (i := 184) rfl), lw_t6 (List.mem_of_getElem? (i := 231) rfl), lw_t6 (List.mem_of_getElem? (i := 232) rfl)⟩
theorem lw_p61 : lw_okq (⟨"OneCoinModel", "readsCondition", "()Z"⟩, 62) := ⟨⟨by decide +kernel, by decide +kernel⟩, lw_t5 (List.mem_of_getElem? (i := 184) rfl), lw_t6 (List.mem_of_getElem? (i := 235) rfl), lw_t6 (List.mem_of_getElem? (i := 236) rfl)⟩
theorem lw_p62 : lw_okq (⟨"OneCoinModel", "readsCompared", "()Z"⟩, 62) := ⟨⟨by decide +kernel, by decide +kernel⟩, lw_t5 (List.mem_of_getElem? (i := 184) rfl), lw_t6 (List.mem_of_getElem? (i := 239) rfl), lw_t7 (List.mem_of_getElem? (i := 0) rfl)⟩
theorem lw_p63 : lw_okq (⟨"OneCoinModel", "endsPiece", "()V"⟩, 62) := ⟨⟨by decide +kernel, by decide +kernel⟩, lw_t5 (List.mem_of_getElem? (i := 184) rfl), lw_t7 (List.mem_of_getElem? (i := 3) rfl), lw_t7 (List.mem_of_getElem? (i := 4) rfl)⟩
def lw_privs_4 : List (MethodName × Nat) := [(⟨"OneCoinModel", "types", "(I)V"⟩, 62), (⟨"OneCoinModel", "readsRule", "()Z"⟩, 62), (⟨"OneCoinModel", "here", "()I"⟩, 62), (⟨"OneCoinModel", "wrongAt", "(II)Z"⟩, 62), (⟨"OneCoinModel", "readsSum", "()Z"⟩, 62), (⟨"OneCoinModel", "readsFactor", "()Z"⟩, 62), (⟨"OneCoinModel", "opens", "(I)Z"⟩, 62), (⟨"OneCoinModel", "isDigit", "()Z"⟩, 62), (⟨"OneCoinModel", "readsNumber", "()Z"⟩, 62), (⟨"OneCoinModel", "notes", "(II)V"⟩, 62), (⟨"OneCoinModel", "closesSums", "(Z)V"⟩, 62), (⟨"OneCoinModel", "waitTop", "()I"⟩, 62), (⟨"OneCoinModel", "hasOpenSum", "(I)Z"⟩, 62), (⟨"OneCoinModel", "readsCondition", "()Z"⟩, 62), (⟨"OneCoinModel", "readsCompared", "()Z"⟩, 62), (⟨"OneCoinModel", "endsPiece", "()V"⟩, 62)]
theorem lw_r4 : ∀ q ∈ lw_privs_4, lw_okq q := List.forall_mem_cons.mpr ⟨lw_p48, List.forall_mem_cons.mpr ⟨lw_p49, List.forall_mem_cons.mpr ⟨lw_p50, List.forall_mem_cons.mpr ⟨lw_p51, List.forall_mem_cons.mpr ⟨lw_p52, List.forall_mem_cons.mpr ⟨lw_p53, List.forall_mem_cons.mpr ⟨lw_p54, List.forall_mem_cons.mpr ⟨lw_p55, List.forall_mem_cons.mpr ⟨lw_p56, List.forall_mem_cons.mpr ⟨lw_p57, List.forall_mem_cons.mpr ⟨lw_p58, List.forall_mem_cons.mpr ⟨lw_p59, List.forall_mem_cons.mpr ⟨lw_p60, List.forall_mem_cons.mpr ⟨lw_p61, List.forall_mem_cons.mpr ⟨lw_p62, List.forall_mem_cons.mpr ⟨lw_p63, fun _ h => absurd h List.not_mem_nil⟩⟩⟩⟩⟩⟩⟩⟩⟩⟩⟩⟩⟩⟩⟩⟩
theorem lw_p64 : lw_okq (⟨"OneCoinModel", "lands", "(Z)V"⟩, 62) := ⟨⟨by decide +kernel, by decide +kernel⟩, lw_t5 (List.mem_of_getElem? (i := 184) rfl), lw_t7 (List.mem_of_getElem? (i := 7) rfl), lw_t7 (List.mem_of_getElem? (i := 8) rfl)⟩
theorem lw_p65 : lw_okq (⟨"OneCoinModel", "jumps", "(I)V"⟩, 62) := ⟨⟨by decide +kernel, by decide +kernel⟩, lw_t5 (List.mem_of_getElem? (i := 184) rfl), lw_t7 (List.mem_of_getElem? (i := 11) rfl), lw_t7 (List.mem_of_getElem? (i := 12) rfl)⟩
theorem lw_p66 : lw_okq (⟨"OneCoinModel", "takes", "(I)Z"⟩, 62) := ⟨⟨by decide +kernel, by decide +kernel⟩, lw_t5 (List.mem_of_getElem? (i := 184) rfl), lw_t7 (List.mem_of_getElem? (i := 15) rfl), lw_t7 (List.mem_of_getElem? (i := 16) rfl)⟩
theorem lw_p67 : lw_okq (⟨"OneCoinModel", "readsLine", "()Z"⟩, 62) := ⟨⟨by decide +kernel, by decide +kernel⟩, lw_t5 (List.mem_of_getElem? (i := 184) rfl), lw_t7 (List.mem_of_getElem? (i := 23) rfl), lw_t7 (List.mem_of_getElem? (i := 24) rfl)⟩
theorem lw_p68 : lw_okq (⟨"OneCoinModel", "readsPerson", "(Z)Z"⟩, 62) := ⟨⟨by decide +kernel, by decide +kernel⟩, lw_t5 (List.mem_of_getElem? (i := 184) rfl), lw_t7 (List.mem_of_getElem? (i := 27) rfl), lw_t7 (List.mem_of_getElem? (i := 28) rfl)⟩
theorem lw_p69 : lw_okq (⟨"OneCoinModel", "owedInAll", "()I"⟩, 62) := ⟨⟨by decide +kernel, by decide +kernel⟩, lw_t5 (List.mem_of_getElem? (i := 184) rfl), lw_t7 (List.mem_of_getElem? (i := 34) rfl), lw_t7 (List.mem_of_getElem? (i := 35) rfl)⟩
theorem lw_p70 : lw_okq (⟨"OneCoinModel", "owesAll", "(I)I"⟩, 62) := ⟨⟨by decide +kernel, by decide +kernel⟩, lw_t5 (List.mem_of_getElem? (i := 184) rfl), lw_t7 (List.mem_of_getElem? (i := 38) rfl), lw_t7 (List.mem_of_getElem? (i := 39) rfl)⟩
theorem lw_p71 : lw_okq (⟨"OneCoinModel", "debtOf", "(II)I"⟩, 62) := ⟨⟨by decide +kernel, by decide +kernel⟩, lw_t5 (List.mem_of_getElem? (i := 184) rfl), lw_t7 (List.mem_of_getElem? (i := 42) rfl), lw_t7 (List.mem_of_getElem? (i := 43) rfl)⟩
theorem lw_p72 : lw_okq (⟨"OneCoinModel", "hoursGo", "(I)V"⟩, 62) := ⟨⟨by decide +kernel, by decide +kernel⟩, lw_t5 (List.mem_of_getElem? (i := 184) rfl), lw_t7 (List.mem_of_getElem? (i := 50) rfl), lw_t7 (List.mem_of_getElem? (i := 51) rfl)⟩
theorem lw_p73 : lw_okq (⟨"OneCoinModel", "begins", "()V"⟩, 62) := ⟨⟨by decide +kernel, by decide +kernel⟩, lw_t5 (List.mem_of_getElem? (i := 184) rfl), lw_t7 (List.mem_of_getElem? (i := 54) rfl), lw_t7 (List.mem_of_getElem? (i := 55) rfl)⟩
theorem lw_p74 : lw_okq (⟨"OneCoinModel", "hourGoes", "()V"⟩, 62) := ⟨⟨by decide +kernel, by decide +kernel⟩, lw_t5 (List.mem_of_getElem? (i := 184) rfl), lw_t7 (List.mem_of_getElem? (i := 58) rfl), lw_t7 (List.mem_of_getElem? (i := 59) rfl)⟩
theorem lw_p75 : lw_okq (⟨"OneCoinModel", "dayBegins", "()V"⟩, 62) := ⟨⟨by decide +kernel, by decide +kernel⟩, lw_t5 (List.mem_of_getElem? (i := 184) rfl), lw_t7 (List.mem_of_getElem? (i := 62) rfl), lw_t7 (List.mem_of_getElem? (i := 63) rfl)⟩
theorem lw_p76 : lw_okq (⟨"OneCoinModel", "rainBy", "()I"⟩, 62) := ⟨⟨by decide +kernel, by decide +kernel⟩, lw_t5 (List.mem_of_getElem? (i := 184) rfl), lw_t7 (List.mem_of_getElem? (i := 67) rfl), lw_t7 (List.mem_of_getElem? (i := 68) rfl)⟩
theorem lw_p77 : lw_okq (⟨"OneCoinModel", "feels", "(I)V"⟩, 62) := ⟨⟨by decide +kernel, by decide +kernel⟩, lw_t5 (List.mem_of_getElem? (i := 184) rfl), lw_t7 (List.mem_of_getElem? (i := 71) rfl), lw_t7 (List.mem_of_getElem? (i := 72) rfl)⟩
theorem lw_p78 : lw_okq (⟨"OneCoinModel", "byLaw", "(II)I"⟩, 62) := ⟨⟨by decide +kernel, by decide +kernel⟩, lw_t5 (List.mem_of_getElem? (i := 184) rfl), lw_t7 (List.mem_of_getElem? (i := 75) rfl), lw_t7 (List.mem_of_getElem? (i := 76) rfl)⟩
theorem lw_p79 : lw_okq (⟨"OneCoinModel", "comesTo", "(II)I"⟩, 62) := ⟨⟨by decide +kernel, by decide +kernel⟩, lw_t5 (List.mem_of_getElem? (i := 184) rfl), lw_t7 (List.mem_of_getElem? (i := 79) rfl), lw_t7 (List.mem_of_getElem? (i := 80) rfl)⟩
def lw_privs_5 : List (MethodName × Nat) := [(⟨"OneCoinModel", "lands", "(Z)V"⟩, 62), (⟨"OneCoinModel", "jumps", "(I)V"⟩, 62), (⟨"OneCoinModel", "takes", "(I)Z"⟩, 62), (⟨"OneCoinModel", "readsLine", "()Z"⟩, 62), (⟨"OneCoinModel", "readsPerson", "(Z)Z"⟩, 62), (⟨"OneCoinModel", "owedInAll", "()I"⟩, 62), (⟨"OneCoinModel", "owesAll", "(I)I"⟩, 62), (⟨"OneCoinModel", "debtOf", "(II)I"⟩, 62), (⟨"OneCoinModel", "hoursGo", "(I)V"⟩, 62), (⟨"OneCoinModel", "begins", "()V"⟩, 62), (⟨"OneCoinModel", "hourGoes", "()V"⟩, 62), (⟨"OneCoinModel", "dayBegins", "()V"⟩, 62), (⟨"OneCoinModel", "rainBy", "()I"⟩, 62), (⟨"OneCoinModel", "feels", "(I)V"⟩, 62), (⟨"OneCoinModel", "byLaw", "(II)I"⟩, 62), (⟨"OneCoinModel", "comesTo", "(II)I"⟩, 62)]
theorem lw_r5 : ∀ q ∈ lw_privs_5, lw_okq q := List.forall_mem_cons.mpr ⟨lw_p64, List.forall_mem_cons.mpr ⟨lw_p65, List.forall_mem_cons.mpr ⟨lw_p66, List.forall_mem_cons.mpr ⟨lw_p67, List.forall_mem_cons.mpr ⟨lw_p68, List.forall_mem_cons.mpr ⟨lw_p69, List.forall_mem_cons.mpr ⟨lw_p70, List.forall_mem_cons.mpr ⟨lw_p71, List.forall_mem_cons.mpr ⟨lw_p72, List.forall_mem_cons.mpr ⟨lw_p73, List.forall_mem_cons.mpr ⟨lw_p74, List.forall_mem_cons.mpr ⟨lw_p75, List.forall_mem_cons.mpr ⟨lw_p76, List.forall_mem_cons.mpr ⟨lw_p77, List.forall_mem_cons.mpr ⟨lw_p78, List.forall_mem_cons.mpr ⟨lw_p79, fun _ h => absurd h List.not_mem_nil⟩⟩⟩⟩⟩⟩⟩⟩⟩⟩⟩⟩⟩⟩⟩⟩
theorem lw_p80 : lw_okq (⟨"OneCoinModel", "feelsTwo", "(II)V"⟩, 62) := ⟨⟨by decide +kernel, by decide +kernel⟩, lw_t5 (List.mem_of_getElem? (i := 184) rfl), lw_t7 (List.mem_of_getElem? (i := 86) rfl), lw_t7 (List.mem_of_getElem? (i := 87) rfl)⟩
theorem lw_p81 : lw_okq (⟨"OneCoinModel", "wayOf", "(II)I"⟩, 62) := ⟨⟨by decide +kernel, by decide +kernel⟩, lw_t5 (List.mem_of_getElem? (i := 184) rfl), lw_t7 (List.mem_of_getElem? (i := 90) rfl), lw_t7 (List.mem_of_getElem? (i := 91) rfl)⟩
theorem lw_p82 : lw_okq (⟨"OneCoinModel", "chalksOf", "(I)I"⟩, 62) := ⟨⟨by decide +kernel, by decide +kernel⟩, lw_t5 (List.mem_of_getElem? (i := 184) rfl), lw_t7 (List.mem_of_getElem? (i := 100) rfl), lw_t7 (List.mem_of_getElem? (i := 101) rfl)⟩
theorem lw_p83 : lw_okq (⟨"OneCoinModel", "pays", "(II)V"⟩, 62) := ⟨⟨by decide +kernel, by decide +kernel⟩, lw_t5 (List.mem_of_getElem? (i := 184) rfl), lw_t7 (List.mem_of_getElem? (i := 104) rfl), lw_t7 (List.mem_of_getElem? (i := 105) rfl)⟩
theorem lw_p84 : lw_okq (⟨"OneCoinModel", "chalks", "(I)V"⟩, 62) := ⟨⟨by decide +kernel, by decide +kernel⟩, lw_t5 (List.mem_of_getElem? (i := 184) rfl), lw_t7 (List.mem_of_getElem? (i := 108) rfl), lw_t7 (List.mem_of_getElem? (i := 109) rfl)⟩
theorem lw_p85 : lw_okq (⟨"OneCoinModel", "holds", "(I)V"⟩, 62) := ⟨⟨by decide +kernel, by decide +kernel⟩, lw_t5 (List.mem_of_getElem? (i := 184) rfl), lw_t7 (List.mem_of_getElem? (i := 112) rfl), lw_t7 (List.mem_of_getElem? (i := 113) rfl)⟩
theorem lw_p86 : lw_okq (⟨"OneCoinModel", "nextPaid", "(I)I"⟩, 62) := ⟨⟨by decide +kernel, by decide +kernel⟩, lw_t5 (List.mem_of_getElem? (i := 184) rfl), lw_t7 (List.mem_of_getElem? (i := 116) rfl), lw_t7 (List.mem_of_getElem? (i := 117) rfl)⟩
theorem lw_p87 : lw_okq (⟨"OneCoinModel", "likesBy", "(II)I"⟩, 62) := ⟨⟨by decide +kernel, by decide +kernel⟩, lw_t5 (List.mem_of_getElem? (i := 184) rfl), lw_t7 (List.mem_of_getElem? (i := 120) rfl), lw_t7 (List.mem_of_getElem? (i := 121) rfl)⟩
theorem lw_p88 : lw_okq (⟨"OneCoinModel", "holdsAny", "(I)Z"⟩, 62) := ⟨⟨by decide +kernel, by decide +kernel⟩, lw_t5 (List.mem_of_getElem? (i := 184) rfl), lw_t7 (List.mem_of_getElem? (i := 124) rfl), lw_t7 (List.mem_of_getElem? (i := 125) rfl)⟩
theorem lw_p89 : lw_okq (⟨"OneCoinModel", "setsOut", "(II)V"⟩, 62) := ⟨⟨by decide +kernel, by decide +kernel⟩, lw_t5 (List.mem_of_getElem? (i := 184) rfl), lw_t7 (List.mem_of_getElem? (i := 128) rfl), lw_t7 (List.mem_of_getElem? (i := 129) rfl)⟩
theorem lw_p90 : lw_okq (⟨"OneCoinModel", "getsAll", "(I)I"⟩, 62) := ⟨⟨by decide +kernel, by decide +kernel⟩, lw_t5 (List.mem_of_getElem? (i := 184) rfl), lw_t7 (List.mem_of_getElem? (i := 143) rfl), lw_t7 (List.mem_of_getElem? (i := 144) rfl)⟩
theorem lw_p91 : lw_okq (⟨"OneCoinModel", "readsRoute", "(I)I"⟩, 62) := ⟨⟨by decide +kernel, by decide +kernel⟩, lw_t5 (List.mem_of_getElem? (i := 184) rfl), lw_t7 (List.mem_of_getElem? (i := 159) rfl), lw_t7 (List.mem_of_getElem? (i := 160) rfl)⟩
theorem lw_p92 : lw_okq (⟨"OneCoinModel", "readsItem", "()Z"⟩, 62) := ⟨⟨by decide +kernel, by decide +kernel⟩, lw_t5 (List.mem_of_getElem? (i := 184) rfl), lw_t7 (List.mem_of_getElem? (i := 163) rfl), lw_t7 (List.mem_of_getElem? (i := 164) rfl)⟩
theorem lw_p93 : lw_okq (⟨"OneCoinModel", "readsTimes", "()V"⟩, 62) := ⟨⟨by decide +kernel, by decide +kernel⟩, lw_t5 (List.mem_of_getElem? (i := 184) rfl), lw_t7 (List.mem_of_getElem? (i := 167) rfl), lw_t7 (List.mem_of_getElem? (i := 168) rfl)⟩
theorem lw_p94 : lw_okq (⟨"OneCoinModel", "repeats", "(III)Z"⟩, 62) := ⟨⟨by decide +kernel, by decide +kernel⟩, lw_t5 (List.mem_of_getElem? (i := 184) rfl), lw_t7 (List.mem_of_getElem? (i := 171) rfl), lw_t7 (List.mem_of_getElem? (i := 172) rfl)⟩
theorem lw_p95 : lw_okq (⟨"OneCoinModel", "walksRoute", "()V"⟩, 62) := ⟨⟨by decide +kernel, by decide +kernel⟩, lw_t5 (List.mem_of_getElem? (i := 184) rfl), lw_t7 (List.mem_of_getElem? (i := 175) rfl), lw_t7 (List.mem_of_getElem? (i := 176) rfl)⟩
def lw_privs_6 : List (MethodName × Nat) := [(⟨"OneCoinModel", "feelsTwo", "(II)V"⟩, 62), (⟨"OneCoinModel", "wayOf", "(II)I"⟩, 62), (⟨"OneCoinModel", "chalksOf", "(I)I"⟩, 62), (⟨"OneCoinModel", "pays", "(II)V"⟩, 62), (⟨"OneCoinModel", "chalks", "(I)V"⟩, 62), (⟨"OneCoinModel", "holds", "(I)V"⟩, 62), (⟨"OneCoinModel", "nextPaid", "(I)I"⟩, 62), (⟨"OneCoinModel", "likesBy", "(II)I"⟩, 62), (⟨"OneCoinModel", "holdsAny", "(I)Z"⟩, 62), (⟨"OneCoinModel", "setsOut", "(II)V"⟩, 62), (⟨"OneCoinModel", "getsAll", "(I)I"⟩, 62), (⟨"OneCoinModel", "readsRoute", "(I)I"⟩, 62), (⟨"OneCoinModel", "readsItem", "()Z"⟩, 62), (⟨"OneCoinModel", "readsTimes", "()V"⟩, 62), (⟨"OneCoinModel", "repeats", "(III)Z"⟩, 62), (⟨"OneCoinModel", "walksRoute", "()V"⟩, 62)]
theorem lw_r6 : ∀ q ∈ lw_privs_6, lw_okq q := List.forall_mem_cons.mpr ⟨lw_p80, List.forall_mem_cons.mpr ⟨lw_p81, List.forall_mem_cons.mpr ⟨lw_p82, List.forall_mem_cons.mpr ⟨lw_p83, List.forall_mem_cons.mpr ⟨lw_p84, List.forall_mem_cons.mpr ⟨lw_p85, List.forall_mem_cons.mpr ⟨lw_p86, List.forall_mem_cons.mpr ⟨lw_p87, List.forall_mem_cons.mpr ⟨lw_p88, List.forall_mem_cons.mpr ⟨lw_p89, List.forall_mem_cons.mpr ⟨lw_p90, List.forall_mem_cons.mpr ⟨lw_p91, List.forall_mem_cons.mpr ⟨lw_p92, List.forall_mem_cons.mpr ⟨lw_p93, List.forall_mem_cons.mpr ⟨lw_p94, List.forall_mem_cons.mpr ⟨lw_p95, fun _ h => absurd h List.not_mem_nil⟩⟩⟩⟩⟩⟩⟩⟩⟩⟩⟩⟩⟩⟩⟩⟩
theorem lw_p96 : lw_okq (⟨"OneCoinModel", "laysTour", "(II)Z"⟩, 62) := ⟨⟨by decide +kernel, by decide +kernel⟩, lw_t5 (List.mem_of_getElem? (i := 184) rfl), lw_t7 (List.mem_of_getElem? (i := 187) rfl), lw_t7 (List.mem_of_getElem? (i := 188) rfl)⟩
theorem lw_p97 : lw_okq (⟨"OneCoinModel", "isRow", "(I)Z"⟩, 62) := ⟨⟨by decide +kernel, by decide +kernel⟩, lw_t5 (List.mem_of_getElem? (i := 184) rfl), lw_t7 (List.mem_of_getElem? (i := 191) rfl), lw_t7 (List.mem_of_getElem? (i := 192) rfl)⟩
theorem lw_p98 : lw_okq (⟨"OneCoinModel", "reachLeft", "(I)I"⟩, 62) := ⟨⟨by decide +kernel, by decide +kernel⟩, lw_t5 (List.mem_of_getElem? (i := 184) rfl), lw_t7 (List.mem_of_getElem? (i := 195) rfl), lw_t7 (List.mem_of_getElem? (i := 196) rfl)⟩
theorem lw_p99 : lw_okq (⟨"OneCoinModel", "leftOf", "(II)I"⟩, 62) := ⟨⟨by decide +kernel, by decide +kernel⟩, lw_t5 (List.mem_of_getElem? (i := 184) rfl), lw_t7 (List.mem_of_getElem? (i := 199) rfl), lw_t7 (List.mem_of_getElem? (i := 200) rfl)⟩
theorem lw_p100 : lw_okq (⟨"OneCoinModel", "canGo", "(II)Z"⟩, 62) := ⟨⟨by decide +kernel, by decide +kernel⟩, lw_t5 (List.mem_of_getElem? (i := 184) rfl), lw_t7 (List.mem_of_getElem? (i := 203) rfl), lw_t7 (List.mem_of_getElem? (i := 204) rfl)⟩
theorem lw_p101 : lw_okq (⟨"OneCoinModel", "laysCoins", "(I)Z"⟩, 62) := ⟨⟨by decide +kernel, by decide +kernel⟩, lw_t5 (List.mem_of_getElem? (i := 184) rfl), lw_t7 (List.mem_of_getElem? (i := 211) rfl), lw_t7 (List.mem_of_getElem? (i := 212) rfl)⟩
theorem lw_p102 : lw_okq (⟨"OneCoinModel", "laysMore", "()V"⟩, 62) := ⟨⟨by decide +kernel, by decide +kernel⟩, lw_t5 (List.mem_of_getElem? (i := 184) rfl), lw_t7 (List.mem_of_getElem? (i := 215) rfl), lw_t7 (List.mem_of_getElem? (i := 216) rfl)⟩
theorem lw_p103 : lw_okq (⟨"OneCoinModel", "bestCoin", "(II)I"⟩, 62) := ⟨⟨by decide +kernel, by decide +kernel⟩, lw_t5 (List.mem_of_getElem? (i := 184) rfl), lw_t7 (List.mem_of_getElem? (i := 219) rfl), lw_t7 (List.mem_of_getElem? (i := 220) rfl)⟩
theorem lw_p104 : lw_okq (⟨"OneCoinModel", "laysBack", "()V"⟩, 62) := ⟨⟨by decide +kernel, by decide +kernel⟩, lw_t5 (List.mem_of_getElem? (i := 184) rfl), lw_t7 (List.mem_of_getElem? (i := 227) rfl), lw_t7 (List.mem_of_getElem? (i := 228) rfl)⟩
theorem lw_p105 : lw_okq (⟨"OneCoinModel", "laysLacks", "()V"⟩, 62) := ⟨⟨by decide +kernel, by decide +kernel⟩, lw_t5 (List.mem_of_getElem? (i := 184) rfl), lw_t7 (List.mem_of_getElem? (i := 236) rfl), lw_t7 (List.mem_of_getElem? (i := 237) rfl)⟩
theorem lw_p106 : lw_okq (⟨"OneCoinModel", "setOffOf", "(I)I"⟩, 62) := ⟨⟨by decide +kernel, by decide +kernel⟩, lw_t5 (List.mem_of_getElem? (i := 184) rfl), lw_t8 (List.mem_of_getElem? (i := 0) rfl), lw_t8 (List.mem_of_getElem? (i := 1) rfl)⟩
theorem lw_p107 : lw_okq (⟨"OneCoinModel", "readsRow", "(II)Z"⟩, 62) := ⟨⟨by decide +kernel, by decide +kernel⟩, lw_t5 (List.mem_of_getElem? (i := 184) rfl), lw_t8 (List.mem_of_getElem? (i := 4) rfl), lw_t8 (List.mem_of_getElem? (i := 5) rfl)⟩
theorem lw_p108 : lw_okq (⟨"OneCoinModel", "hoursOfRow", "(I)I"⟩, 62) := ⟨⟨by decide +kernel, by decide +kernel⟩, lw_t5 (List.mem_of_getElem? (i := 184) rfl), lw_t8 (List.mem_of_getElem? (i := 8) rfl), lw_t8 (List.mem_of_getElem? (i := 9) rfl)⟩
theorem lw_p109 : lw_okq (⟨"OneCoinModel", "isEven", "(I)Z"⟩, 62) := ⟨⟨by decide +kernel, by decide +kernel⟩, lw_t5 (List.mem_of_getElem? (i := 184) rfl), lw_t8 (List.mem_of_getElem? (i := 19) rfl), lw_t8 (List.mem_of_getElem? (i := 20) rfl)⟩
theorem lw_p110 : lw_okq (⟨"OneCoinModel", "laysGroups", "()V"⟩, 62) := ⟨⟨by decide +kernel, by decide +kernel⟩, lw_t5 (List.mem_of_getElem? (i := 184) rfl), lw_t8 (List.mem_of_getElem? (i := 32) rfl), lw_t8 (List.mem_of_getElem? (i := 33) rfl)⟩
theorem lw_p111 : lw_okq (⟨"OneCoinModel", "ringOf", "(I)I"⟩, 62) := ⟨⟨by decide +kernel, by decide +kernel⟩, lw_t5 (List.mem_of_getElem? (i := 184) rfl), lw_t8 (List.mem_of_getElem? (i := 40) rfl), lw_t8 (List.mem_of_getElem? (i := 41) rfl)⟩
def lw_privs_7 : List (MethodName × Nat) := [(⟨"OneCoinModel", "laysTour", "(II)Z"⟩, 62), (⟨"OneCoinModel", "isRow", "(I)Z"⟩, 62), (⟨"OneCoinModel", "reachLeft", "(I)I"⟩, 62), (⟨"OneCoinModel", "leftOf", "(II)I"⟩, 62), (⟨"OneCoinModel", "canGo", "(II)Z"⟩, 62), (⟨"OneCoinModel", "laysCoins", "(I)Z"⟩, 62), (⟨"OneCoinModel", "laysMore", "()V"⟩, 62), (⟨"OneCoinModel", "bestCoin", "(II)I"⟩, 62), (⟨"OneCoinModel", "laysBack", "()V"⟩, 62), (⟨"OneCoinModel", "laysLacks", "()V"⟩, 62), (⟨"OneCoinModel", "setOffOf", "(I)I"⟩, 62), (⟨"OneCoinModel", "readsRow", "(II)Z"⟩, 62), (⟨"OneCoinModel", "hoursOfRow", "(I)I"⟩, 62), (⟨"OneCoinModel", "isEven", "(I)Z"⟩, 62), (⟨"OneCoinModel", "laysGroups", "()V"⟩, 62), (⟨"OneCoinModel", "ringOf", "(I)I"⟩, 62)]
theorem lw_r7 : ∀ q ∈ lw_privs_7, lw_okq q := List.forall_mem_cons.mpr ⟨lw_p96, List.forall_mem_cons.mpr ⟨lw_p97, List.forall_mem_cons.mpr ⟨lw_p98, List.forall_mem_cons.mpr ⟨lw_p99, List.forall_mem_cons.mpr ⟨lw_p100, List.forall_mem_cons.mpr ⟨lw_p101, List.forall_mem_cons.mpr ⟨lw_p102, List.forall_mem_cons.mpr ⟨lw_p103, List.forall_mem_cons.mpr ⟨lw_p104, List.forall_mem_cons.mpr ⟨lw_p105, List.forall_mem_cons.mpr ⟨lw_p106, List.forall_mem_cons.mpr ⟨lw_p107, List.forall_mem_cons.mpr ⟨lw_p108, List.forall_mem_cons.mpr ⟨lw_p109, List.forall_mem_cons.mpr ⟨lw_p110, List.forall_mem_cons.mpr ⟨lw_p111, fun _ h => absurd h List.not_mem_nil⟩⟩⟩⟩⟩⟩⟩⟩⟩⟩⟩⟩⟩⟩⟩⟩
theorem lw_p112 : lw_okq (⟨"OneCoinModel", "reachOf", "(I)I"⟩, 62) := ⟨⟨by decide +kernel, by decide +kernel⟩, lw_t5 (List.mem_of_getElem? (i := 184) rfl), lw_t8 (List.mem_of_getElem? (i := 44) rfl), lw_t8 (List.mem_of_getElem? (i := 45) rfl)⟩
theorem lw_p113 : lw_okq (⟨"OneCoinModel", "hoursOf", "(I)I"⟩, 62) := ⟨⟨by decide +kernel, by decide +kernel⟩, lw_t5 (List.mem_of_getElem? (i := 184) rfl), lw_t8 (List.mem_of_getElem? (i := 72) rfl), lw_t8 (List.mem_of_getElem? (i := 73) rfl)⟩
theorem lw_p114 : lw_okq (⟨"OneCoinModel", "isRowOf", "(II)Z"⟩, 62) := ⟨⟨by decide +kernel, by decide +kernel⟩, lw_t5 (List.mem_of_getElem? (i := 184) rfl), lw_t8 (List.mem_of_getElem? (i := 76) rfl), lw_t8 (List.mem_of_getElem? (i := 77) rfl)⟩
def lw_privs_8 : List (MethodName × Nat) := [(⟨"OneCoinModel", "reachOf", "(I)I"⟩, 62), (⟨"OneCoinModel", "hoursOf", "(I)I"⟩, 62), (⟨"OneCoinModel", "isRowOf", "(II)Z"⟩, 62)]
theorem lw_r8 : ∀ q ∈ lw_privs_8, lw_okq q := List.forall_mem_cons.mpr ⟨lw_p112, List.forall_mem_cons.mpr ⟨lw_p113, List.forall_mem_cons.mpr ⟨lw_p114, fun _ h => absurd h List.not_mem_nil⟩⟩⟩
def lw_privs : List (MethodName × Nat) := lw_privs_1 ++ (lw_privs_2 ++ (lw_privs_3 ++ (lw_privs_4 ++ (lw_privs_5 ++ (lw_privs_6 ++ (lw_privs_7 ++ (lw_privs_8)))))))
def lw_tbl : List Cond := k2_sels lw_privs ++ tables_1
theorem lw_privs_ok : ∀ q ∈ lw_privs, lw_okq q := by
  show ∀ q ∈ lw_privs_1 ++ (lw_privs_2 ++ (lw_privs_3 ++ (lw_privs_4 ++ (lw_privs_5 ++ (lw_privs_6 ++ (lw_privs_7 ++ (lw_privs_8))))))), lw_okq q
  exact List.forall_mem_append.mpr ⟨lw_r1, List.forall_mem_append.mpr ⟨lw_r2, List.forall_mem_append.mpr ⟨lw_r3, List.forall_mem_append.mpr ⟨lw_r4, List.forall_mem_append.mpr ⟨lw_r5, List.forall_mem_append.mpr ⟨lw_r6, List.forall_mem_append.mpr ⟨lw_r7, lw_r8⟩⟩⟩⟩⟩⟩⟩
-- ===== ONE list of words for every method: the tables' words that hold all through a run =====
def lw_all : List Cond := lw_tbl.filter goodWord
/-- a word of the tables by its place: claim/WORDS.tsv -/
theorem lw_w {w : Cond} (i : Nat) (h : lw_tbl[i]? = some w) (g : goodWord w = true) : w ∈ lw_all := List.mem_filter.mpr ⟨List.mem_of_getElem? h, g⟩
theorem lw_all_tbl {w : Cond} (h : w ∈ lw_all) : w ∈ lw_tbl := (List.mem_filter.mp h).1
theorem lw_self : GoodIn lw_all lw_all := fun w h => ⟨h, good_of_word (List.mem_filter.mp h).2⟩
/-- a class's field words, by their places -/
theorem lw_in (ws : List Cond) (ps : List Nat) (hp : ws = ps.filterMap (fun i => lw_tbl[i]?)) (hg : ws.all goodWord = true) : ∀ w ∈ ws, w ∈ lw_all := by
  intro w h
  have h1 := List.all_eq_true.mp hg w h
  rw [hp] at h
  obtain ⟨i, -, hi⟩ := List.mem_filterMap.mp h
  exact lw_w i hi h1
/-- the words of a contract for the method y with code b, L locals, answer r -/
abbrev ws_ (y : MethodName) (b : ByteArray) (L : Nat) (r : Option FieldType) : List Cond := Cond.code y b L r :: lw_all
theorem lw_meth {y : MethodName} {b : ByteArray} {L : Nat} {r : Option FieldType} (h : Cond.code y b L r ∈ lw_all) : GoodIn lw_all (ws_ y b L r) := by
  intro w hw
  rcases List.mem_cons.mp hw with e | e
  · rw [e]
    exact lw_self _ h
  · exact lw_self _ e
theorem lw_app {a c : List Cond} (ha : ∀ w ∈ a, w ∈ lw_all) (hc : GoodIn lw_all c) : GoodIn lw_all (a ++ c) := by
  intro w hw
  rcases List.mem_append.mp hw with e | e
  · exact lw_self w (ha w e)
  · exact hc w e
/-- what a call through an object asks: cwV n hts (lw_V ..) -/
theorem lw_V {own : String} {idx : Nat} {C : String} {y : MethodName} {b : ByteArray} {L : Nat} {r : Option FieldType} (h1 : Cond.methodLink own idx y ∈ lw_all) (h2 : Cond.instanceMethod y ∈ lw_all) (h3 : Cond.selects C y y ∈ lw_all) (h4 : Cond.initialized C ∈ lw_all) (h5 : Cond.code y b L r ∈ lw_all) : GoodIn lw_all (wsV own idx C y (ws_ y b L r)) := by
  refine lw_app ?_ (lw_meth h5)
  intro w hw
  simp only [List.mem_cons, List.not_mem_nil, or_false] at hw
  rcases hw with e | e | e | e
  · rw [e]; exact h1
  · rw [e]; exact h2
  · rw [e]; exact h3
  · rw [e]; exact h4
/-- what a static call asks: va_cwS n hts (lw_S ..) -/
theorem lw_S {own : String} {idx : Nat} {y : MethodName} {b : ByteArray} {L : Nat} {r : Option FieldType} (h1 : Cond.methodLink own idx y ∈ lw_all) (h2 : Cond.static y ∈ lw_all) (h3 : Cond.initialized y.cls ∈ lw_all) (h4 : Cond.code y b L r ∈ lw_all) : GoodIn lw_all (va_wsS own idx y (ws_ y b L r)) := by
  refine lw_app ?_ (lw_meth h4)
  intro w hw
  simp only [List.mem_cons, List.not_mem_nil, or_false] at hw
  rcases hw with e | e | e
  · rw [e]; exact h1
  · rw [e]; exact h2
  · rw [e]; exact h3
/-- the words of a contract for a method WITH HANDLERS (hh: its table) -/
abbrev wsW_ (y : MethodName) (b : ByteArray) (L : Nat) (r : Option FieldType) (hh : List (Nat × Nat × Nat × Nat)) : List Cond := Cond.codeWith y b L r hh :: lw_all
theorem lw_methW {y : MethodName} {b : ByteArray} {L : Nat} {r : Option FieldType} {hh : List (Nat × Nat × Nat × Nat)} (h : Cond.codeWith y b L r hh ∈ lw_all) : GoodIn lw_all (wsW_ y b L r hh) := by
  intro w hw
  rcases List.mem_cons.mp hw with e | e
  · rw [e]
    exact lw_self _ h
  · exact lw_self _ e
/-- any list of words by their places (lw_in), good -/
theorem lw_good {ws : List Cond} (h : ∀ w ∈ ws, w ∈ lw_all) : GoodIn lw_all ws := fun w hw => lw_self w (h w hw)
/-- what a call of a method with handlers asks: vx_cwVW n hts (lw_VW ..), vx_cwSW n hts (lw_SW ..) -/
theorem lw_VW {own : String} {idx : Nat} {C : String} {y : MethodName} {b : ByteArray} {L : Nat} {r : Option FieldType} {hh : List (Nat × Nat × Nat × Nat)} (h1 : Cond.methodLink own idx y ∈ lw_all) (h2 : Cond.instanceMethod y ∈ lw_all) (h3 : Cond.selects C y y ∈ lw_all) (h4 : Cond.initialized C ∈ lw_all) (h5 : Cond.codeWith y b L r hh ∈ lw_all) : GoodIn lw_all (wsV own idx C y (wsW_ y b L r hh)) := by
  refine lw_app ?_ (lw_methW h5)
  intro w hw
  simp only [List.mem_cons, List.not_mem_nil, or_false] at hw
  rcases hw with e | e | e | e
  · rw [e]; exact h1
  · rw [e]; exact h2
  · rw [e]; exact h3
  · rw [e]; exact h4
theorem lw_SW {own : String} {idx : Nat} {y : MethodName} {b : ByteArray} {L : Nat} {r : Option FieldType} {hh : List (Nat × Nat × Nat × Nat)} (h1 : Cond.methodLink own idx y ∈ lw_all) (h2 : Cond.static y ∈ lw_all) (h3 : Cond.initialized y.cls ∈ lw_all) (h4 : Cond.codeWith y b L r hh ∈ lw_all) : GoodIn lw_all (va_wsS own idx y (wsW_ y b L r hh)) := by
  refine lw_app ?_ (lw_methW h4)
  intro w hw
  simp only [List.mem_cons, List.not_mem_nil, or_false] at hw
  rcases hw with e | e | e
  · rw [e]; exact h1
  · rw [e]; exact h2
  · rw [e]; exact h3
/-- a word by its place in its run of the tables -/
theorem lw_at {r : List Cond} (hr : ∀ w ∈ r, w ∈ lw_tbl) {w : Cond} (i : Nat) (h : r[i]? = some w) : w ∈ lw_tbl := hr w (List.mem_of_getElem? h)
theorem lw_g {w : Cond} (h : w ∈ lw_tbl) (g : goodWord w = true) : w ∈ lw_all := List.mem_filter.mpr ⟨h, g⟩
theorem lw_ms : ∀ w ∈ k2_sels lw_privs, w ∈ lw_tbl := fun w h => show w ∈ k2_sels lw_privs ++ tables_1 from List.mem_append_left _ h
theorem lw_m1 : ∀ w ∈ tables_1_1, w ∈ lw_tbl := fun w h => show w ∈ k2_sels lw_privs ++ tables_1 from List.mem_append_right (k2_sels lw_privs) (show w ∈ tables_1 from List.mem_append_left _ h)
theorem lw_m2 : ∀ w ∈ tables_1_2, w ∈ lw_tbl := fun w h => show w ∈ k2_sels lw_privs ++ tables_1 from List.mem_append_right (k2_sels lw_privs) (show w ∈ tables_1 from List.mem_append_right _ (List.mem_append_left _ h))
theorem lw_m3 : ∀ w ∈ tables_1_3, w ∈ lw_tbl := fun w h => show w ∈ k2_sels lw_privs ++ tables_1 from List.mem_append_right (k2_sels lw_privs) (show w ∈ tables_1 from List.mem_append_right _ (List.mem_append_right _ (List.mem_append_left _ h)))
theorem lw_m4 : ∀ w ∈ tables_1_4, w ∈ lw_tbl := fun w h => show w ∈ k2_sels lw_privs ++ tables_1 from List.mem_append_right (k2_sels lw_privs) (show w ∈ tables_1 from List.mem_append_right _ (List.mem_append_right _ (List.mem_append_right _ (List.mem_append_left _ h))))
theorem lw_m5 : ∀ w ∈ tables_1_5, w ∈ lw_tbl := fun w h => show w ∈ k2_sels lw_privs ++ tables_1 from List.mem_append_right (k2_sels lw_privs) (show w ∈ tables_1 from List.mem_append_right _ (List.mem_append_right _ (List.mem_append_right _ (List.mem_append_right _ (List.mem_append_left _ h)))))
theorem lw_m6 : ∀ w ∈ tables_1_6, w ∈ lw_tbl := fun w h => show w ∈ k2_sels lw_privs ++ tables_1 from List.mem_append_right (k2_sels lw_privs) (show w ∈ tables_1 from List.mem_append_right _ (List.mem_append_right _ (List.mem_append_right _ (List.mem_append_right _ (List.mem_append_right _ (List.mem_append_left _ h))))))
theorem lw_m7 : ∀ w ∈ tables_1_7, w ∈ lw_tbl := fun w h => show w ∈ k2_sels lw_privs ++ tables_1 from List.mem_append_right (k2_sels lw_privs) (show w ∈ tables_1 from List.mem_append_right _ (List.mem_append_right _ (List.mem_append_right _ (List.mem_append_right _ (List.mem_append_right _ (List.mem_append_right _ (List.mem_append_left _ h)))))))
theorem lw_m8 : ∀ w ∈ tables_1_8, w ∈ lw_tbl := fun w h => show w ∈ k2_sels lw_privs ++ tables_1 from List.mem_append_right (k2_sels lw_privs) (show w ∈ tables_1 from List.mem_append_right _ (List.mem_append_right _ (List.mem_append_right _ (List.mem_append_right _ (List.mem_append_right _ (List.mem_append_right _ (List.mem_append_right _ h)))))))
theorem qs0 : (Cond.selects "OneCoin" ⟨"OneCoin", "isTold", "(I)Z"⟩ ⟨"OneCoin", "isTold", "(I)Z"⟩) ∈ lw_all := lw_g (lw_at lw_ms 0 rfl) rfl
theorem qs1 : (Cond.selects "OneCoin" ⟨"OneCoin", "push", "(I)V"⟩ ⟨"OneCoin", "push", "(I)V"⟩) ∈ lw_all := lw_g (lw_at lw_ms 1 rfl) rfl
theorem qs2 : (Cond.selects "OneCoin$Reader" ⟨"OneCoin$Reader", "isGood", "()Z"⟩ ⟨"OneCoin$Reader", "isGood", "()Z"⟩) ∈ lw_all := lw_g (lw_at lw_ms 2 rfl) rfl
theorem qs3 : (Cond.selects "OneCoin$Reader" ⟨"OneCoin$Reader", "clause", "()V"⟩ ⟨"OneCoin$Reader", "clause", "()V"⟩) ∈ lw_all := lw_g (lw_at lw_ms 3 rfl) rfl
theorem qs4 : (Cond.selects "OneCoin$Reader" ⟨"OneCoin$Reader", "here", "()I"⟩ ⟨"OneCoin$Reader", "here", "()I"⟩) ∈ lw_all := lw_g (lw_at lw_ms 4 rfl) rfl
theorem qs5 : (Cond.selects "OneCoin$Reader" ⟨"OneCoin$Reader", "bad", "(II)V"⟩ ⟨"OneCoin$Reader", "bad", "(II)V"⟩) ∈ lw_all := lw_g (lw_at lw_ms 5 rfl) rfl
theorem qs6 : (Cond.selects "OneCoin$Reader" ⟨"OneCoin$Reader", "sum", "()LOneCoin$Sum;"⟩ ⟨"OneCoin$Reader", "sum", "()LOneCoin$Sum;"⟩) ∈ lw_all := lw_g (lw_at lw_ms 6 rfl) rfl
theorem qs7 : (Cond.selects "OneCoin$Reader" ⟨"OneCoin$Reader", "product", "()LOneCoin$Sum;"⟩ ⟨"OneCoin$Reader", "product", "()LOneCoin$Sum;"⟩) ∈ lw_all := lw_g (lw_at lw_ms 7 rfl) rfl
theorem qs8 : (Cond.selects "OneCoin$Reader" ⟨"OneCoin$Reader", "factor", "()LOneCoin$Sum;"⟩ ⟨"OneCoin$Reader", "factor", "()LOneCoin$Sum;"⟩) ∈ lw_all := lw_g (lw_at lw_ms 8 rfl) rfl
theorem qs9 : (Cond.selects "OneCoin$Reader" ⟨"OneCoin$Reader", "opens", "()V"⟩ ⟨"OneCoin$Reader", "opens", "()V"⟩) ∈ lw_all := lw_g (lw_at lw_ms 9 rfl) rfl
theorem qs10 : (Cond.selects "OneCoin$Reader" ⟨"OneCoin$Reader", "must", "(I)V"⟩ ⟨"OneCoin$Reader", "must", "(I)V"⟩) ∈ lw_all := lw_g (lw_at lw_ms 10 rfl) rfl
theorem qs11 : (Cond.selects "OneCoin$Reader" ⟨"OneCoin$Reader", "seesDigit", "()Z"⟩ ⟨"OneCoin$Reader", "seesDigit", "()Z"⟩) ∈ lw_all := lw_g (lw_at lw_ms 11 rfl) rfl
theorem qs12 : (Cond.selects "OneCoin$Reader" ⟨"OneCoin$Reader", "number", "()I"⟩ ⟨"OneCoin$Reader", "number", "()I"⟩) ∈ lw_all := lw_g (lw_at lw_ms 12 rfl) rfl
theorem qs13 : (Cond.selects "OneCoin$Reader" ⟨"OneCoin$Reader", "condition", "()LOneCoin$Condition;"⟩ ⟨"OneCoin$Reader", "condition", "()LOneCoin$Condition;"⟩) ∈ lw_all := lw_g (lw_at lw_ms 13 rfl) rfl
theorem qs14 : (Cond.selects "OneCoin$Reader" ⟨"OneCoin$Reader", "pieces", "()LOneCoin$Condition;"⟩ ⟨"OneCoin$Reader", "pieces", "()LOneCoin$Condition;"⟩) ∈ lw_all := lw_g (lw_at lw_ms 14 rfl) rfl
theorem qs15 : (Cond.selects "OneCoin$Reader" ⟨"OneCoin$Reader", "piece", "()LOneCoin$Condition;"⟩ ⟨"OneCoin$Reader", "piece", "()LOneCoin$Condition;"⟩) ∈ lw_all := lw_g (lw_at lw_ms 15 rfl) rfl
theorem qs16 : (Cond.selects "OneCoin$Clerk" ⟨"OneCoin$Clerk", "line", "()V"⟩ ⟨"OneCoin$Clerk", "line", "()V"⟩) ∈ lw_all := lw_g (lw_at lw_ms 16 rfl) rfl
theorem qs17 : (Cond.selects "OneCoin$Clerk" ⟨"OneCoin$Clerk", "person", "()I"⟩ ⟨"OneCoin$Clerk", "person", "()I"⟩) ∈ lw_all := lw_g (lw_at lw_ms 17 rfl) rfl
theorem qs18 : (Cond.selects "OneCoin$Clerk" ⟨"OneCoin$Clerk", "many", "()I"⟩ ⟨"OneCoin$Clerk", "many", "()I"⟩) ∈ lw_all := lw_g (lw_at lw_ms 18 rfl) rfl
theorem qs19 : (Cond.selects "OneCoin$Guide" ⟨"OneCoin$Guide", "all", "()V"⟩ ⟨"OneCoin$Guide", "all", "()V"⟩) ∈ lw_all := lw_g (lw_at lw_ms 19 rfl) rfl
theorem qs20 : (Cond.selects "OneCoin$Guide" ⟨"OneCoin$Guide", "one", "()V"⟩ ⟨"OneCoin$Guide", "one", "()V"⟩) ∈ lw_all := lw_g (lw_at lw_ms 20 rfl) rfl
theorem qs21 : (Cond.selects "OneCoin$Guide" ⟨"OneCoin$Guide", "rounds", "()V"⟩ ⟨"OneCoin$Guide", "rounds", "()V"⟩) ∈ lw_all := lw_g (lw_at lw_ms 21 rfl) rfl
theorem qs22 : (Cond.selects "OneCoin" ⟨"OneCoin", "walks", "(LOneCoin$Duchy;[II)I"⟩ ⟨"OneCoin", "walks", "(LOneCoin$Duchy;[II)I"⟩) ∈ lw_all := lw_g (lw_at lw_ms 22 rfl) rfl
theorem qs23 : (Cond.selects "OneCoin" ⟨"OneCoin", "way", "(II)I"⟩ ⟨"OneCoin", "way", "(II)I"⟩) ∈ lw_all := lw_g (lw_at lw_ms 23 rfl) rfl
theorem qs24 : (Cond.selects "OneCoin$Duchy" ⟨"OneCoin$Duchy", "dayBegins", "()V"⟩ ⟨"OneCoin$Duchy", "dayBegins", "()V"⟩) ∈ lw_all := lw_g (lw_at lw_ms 24 rfl) rfl
theorem qs25 : (Cond.selects "OneCoin$Duchy" ⟨"OneCoin$Duchy", "draw", "()I"⟩ ⟨"OneCoin$Duchy", "draw", "()I"⟩) ∈ lw_all := lw_g (lw_at lw_ms 25 rfl) rfl
theorem qs26 : (Cond.selects "OneCoin$Duchy" ⟨"OneCoin$Duchy", "arrives", "()V"⟩ ⟨"OneCoin$Duchy", "arrives", "()V"⟩) ∈ lw_all := lw_g (lw_at lw_ms 26 rfl) rfl
theorem qs27 : (Cond.selects "OneCoin$Duchy" ⟨"OneCoin$Duchy", "stays", "()V"⟩ ⟨"OneCoin$Duchy", "stays", "()V"⟩) ∈ lw_all := lw_g (lw_at lw_ms 27 rfl) rfl
theorem qs28 : (Cond.selects "OneCoin$Duchy" ⟨"OneCoin$Duchy", "nextPaid", "()I"⟩ ⟨"OneCoin$Duchy", "nextPaid", "()I"⟩) ∈ lw_all := lw_g (lw_at lw_ms 28 rfl) rfl
theorem qs29 : (Cond.selects "OneCoin" ⟨"OneCoin", "likingOf", "(LOneCoin$Duchy;II)I"⟩ ⟨"OneCoin", "likingOf", "(LOneCoin$Duchy;II)I"⟩) ∈ lw_all := lw_g (lw_at lw_ms 29 rfl) rfl
theorem qs30 : (Cond.selects "OneCoin" ⟨"OneCoin", "areTwo", "(II)Z"⟩ ⟨"OneCoin", "areTwo", "(II)Z"⟩) ∈ lw_all := lw_g (lw_at lw_ms 30 rfl) rfl
theorem qs31 : (Cond.selects "OneCoin$Debts" ⟨"OneCoin$Debts", "next", "(I)I"⟩ ⟨"OneCoin$Debts", "next", "(I)I"⟩) ∈ lw_all := lw_g (lw_at lw_ms 31 rfl) rfl
theorem qs32 : (Cond.selects "OneCoin" ⟨"OneCoin", "laysTour", "(II)I"⟩ ⟨"OneCoin", "laysTour", "(II)I"⟩) ∈ lw_all := lw_g (lw_at lw_ms 32 rfl) rfl
theorem qs33 : (Cond.selects "OneCoin" ⟨"OneCoin", "canPay", "(II)Z"⟩ ⟨"OneCoin", "canPay", "(II)Z"⟩) ∈ lw_all := lw_g (lw_at lw_ms 33 rfl) rfl
theorem qs34 : (Cond.selects "OneCoin" ⟨"OneCoin", "longest", "(II)V"⟩ ⟨"OneCoin", "longest", "(II)V"⟩) ∈ lw_all := lw_g (lw_at lw_ms 34 rfl) rfl
theorem qs35 : (Cond.selects "OneCoin" ⟨"OneCoin", "laysWays", "(Z)V"⟩ ⟨"OneCoin", "laysWays", "(Z)V"⟩) ∈ lw_all := lw_g (lw_at lw_ms 35 rfl) rfl
theorem qs36 : (Cond.selects "OneCoin" ⟨"OneCoin", "lack", "()I"⟩ ⟨"OneCoin", "lack", "()I"⟩) ∈ lw_all := lw_g (lw_at lw_ms 36 rfl) rfl
theorem qs37 : (Cond.selects "OneCoin" ⟨"OneCoin", "netOf", "(I)I"⟩ ⟨"OneCoin", "netOf", "(I)I"⟩) ∈ lw_all := lw_g (lw_at lw_ms 37 rfl) rfl
theorem qs38 : (Cond.selects "OneCoin" ⟨"OneCoin", "takesLack", "()V"⟩ ⟨"OneCoin", "takesLack", "()V"⟩) ∈ lw_all := lw_g (lw_at lw_ms 38 rfl) rfl
theorem qs39 : (Cond.selects "OneCoin" ⟨"OneCoin", "evens", "(IIII)V"⟩ ⟨"OneCoin", "evens", "(IIII)V"⟩) ∈ lw_all := lw_g (lw_at lw_ms 39 rfl) rfl
theorem qs40 : (Cond.selects "OneCoin" ⟨"OneCoin", "takesDebts", "()I"⟩ ⟨"OneCoin", "takesDebts", "()I"⟩) ∈ lw_all := lw_g (lw_at lw_ms 40 rfl) rfl
theorem qs41 : (Cond.selects "OneCoin" ⟨"OneCoin", "isEvenBy", "(II)Z"⟩ ⟨"OneCoin", "isEvenBy", "(II)Z"⟩) ∈ lw_all := lw_g (lw_at lw_ms 41 rfl) rfl
theorem qs42 : (Cond.selects "OneCoin" ⟨"OneCoin", "netOfAll", "(I)I"⟩ ⟨"OneCoin", "netOfAll", "(I)I"⟩) ∈ lw_all := lw_g (lw_at lw_ms 42 rfl) rfl
theorem qs43 : (Cond.selects "OneCoin" ⟨"OneCoin", "ringOf", "(I)I"⟩ ⟨"OneCoin", "ringOf", "(I)I"⟩) ∈ lw_all := lw_g (lw_at lw_ms 43 rfl) rfl
theorem qs44 : (Cond.selects "OneCoin" ⟨"OneCoin", "hoursOf", "(III)I"⟩ ⟨"OneCoin", "hoursOf", "(III)I"⟩) ∈ lw_all := lw_g (lw_at lw_ms 44 rfl) rfl
theorem qs45 : (Cond.selects "OneCoinModel" ⟨"OneCoinModel", "areTwo", "(II)Z"⟩ ⟨"OneCoinModel", "areTwo", "(II)Z"⟩) ∈ lw_all := lw_g (lw_at lw_ms 45 rfl) rfl
theorem qs46 : (Cond.selects "OneCoinModel" ⟨"OneCoinModel", "isPerson", "(I)Z"⟩ ⟨"OneCoinModel", "isPerson", "(I)Z"⟩) ∈ lw_all := lw_g (lw_at lw_ms 46 rfl) rfl
theorem qs47 : (Cond.selects "OneCoinModel" ⟨"OneCoinModel", "rests", "(I)V"⟩ ⟨"OneCoinModel", "rests", "(I)V"⟩) ∈ lw_all := lw_g (lw_at lw_ms 47 rfl) rfl
theorem qs48 : (Cond.selects "OneCoinModel" ⟨"OneCoinModel", "types", "(I)V"⟩ ⟨"OneCoinModel", "types", "(I)V"⟩) ∈ lw_all := lw_g (lw_at lw_ms 48 rfl) rfl
theorem qs49 : (Cond.selects "OneCoinModel" ⟨"OneCoinModel", "readsRule", "()Z"⟩ ⟨"OneCoinModel", "readsRule", "()Z"⟩) ∈ lw_all := lw_g (lw_at lw_ms 49 rfl) rfl
theorem qs50 : (Cond.selects "OneCoinModel" ⟨"OneCoinModel", "here", "()I"⟩ ⟨"OneCoinModel", "here", "()I"⟩) ∈ lw_all := lw_g (lw_at lw_ms 50 rfl) rfl
theorem qs51 : (Cond.selects "OneCoinModel" ⟨"OneCoinModel", "wrongAt", "(II)Z"⟩ ⟨"OneCoinModel", "wrongAt", "(II)Z"⟩) ∈ lw_all := lw_g (lw_at lw_ms 51 rfl) rfl
theorem qs52 : (Cond.selects "OneCoinModel" ⟨"OneCoinModel", "readsSum", "()Z"⟩ ⟨"OneCoinModel", "readsSum", "()Z"⟩) ∈ lw_all := lw_g (lw_at lw_ms 52 rfl) rfl
theorem qs53 : (Cond.selects "OneCoinModel" ⟨"OneCoinModel", "readsFactor", "()Z"⟩ ⟨"OneCoinModel", "readsFactor", "()Z"⟩) ∈ lw_all := lw_g (lw_at lw_ms 53 rfl) rfl
theorem qs54 : (Cond.selects "OneCoinModel" ⟨"OneCoinModel", "opens", "(I)Z"⟩ ⟨"OneCoinModel", "opens", "(I)Z"⟩) ∈ lw_all := lw_g (lw_at lw_ms 54 rfl) rfl
theorem qs55 : (Cond.selects "OneCoinModel" ⟨"OneCoinModel", "isDigit", "()Z"⟩ ⟨"OneCoinModel", "isDigit", "()Z"⟩) ∈ lw_all := lw_g (lw_at lw_ms 55 rfl) rfl
theorem qs56 : (Cond.selects "OneCoinModel" ⟨"OneCoinModel", "readsNumber", "()Z"⟩ ⟨"OneCoinModel", "readsNumber", "()Z"⟩) ∈ lw_all := lw_g (lw_at lw_ms 56 rfl) rfl
theorem qs57 : (Cond.selects "OneCoinModel" ⟨"OneCoinModel", "notes", "(II)V"⟩ ⟨"OneCoinModel", "notes", "(II)V"⟩) ∈ lw_all := lw_g (lw_at lw_ms 57 rfl) rfl
theorem qs58 : (Cond.selects "OneCoinModel" ⟨"OneCoinModel", "closesSums", "(Z)V"⟩ ⟨"OneCoinModel", "closesSums", "(Z)V"⟩) ∈ lw_all := lw_g (lw_at lw_ms 58 rfl) rfl
theorem qs59 : (Cond.selects "OneCoinModel" ⟨"OneCoinModel", "waitTop", "()I"⟩ ⟨"OneCoinModel", "waitTop", "()I"⟩) ∈ lw_all := lw_g (lw_at lw_ms 59 rfl) rfl
theorem qs60 : (Cond.selects "OneCoinModel" ⟨"OneCoinModel", "hasOpenSum", "(I)Z"⟩ ⟨"OneCoinModel", "hasOpenSum", "(I)Z"⟩) ∈ lw_all := lw_g (lw_at lw_ms 60 rfl) rfl
theorem qs61 : (Cond.selects "OneCoinModel" ⟨"OneCoinModel", "readsCondition", "()Z"⟩ ⟨"OneCoinModel", "readsCondition", "()Z"⟩) ∈ lw_all := lw_g (lw_at lw_ms 61 rfl) rfl
theorem qs62 : (Cond.selects "OneCoinModel" ⟨"OneCoinModel", "readsCompared", "()Z"⟩ ⟨"OneCoinModel", "readsCompared", "()Z"⟩) ∈ lw_all := lw_g (lw_at lw_ms 62 rfl) rfl
theorem qs63 : (Cond.selects "OneCoinModel" ⟨"OneCoinModel", "endsPiece", "()V"⟩ ⟨"OneCoinModel", "endsPiece", "()V"⟩) ∈ lw_all := lw_g (lw_at lw_ms 63 rfl) rfl
theorem qs64 : (Cond.selects "OneCoinModel" ⟨"OneCoinModel", "lands", "(Z)V"⟩ ⟨"OneCoinModel", "lands", "(Z)V"⟩) ∈ lw_all := lw_g (lw_at lw_ms 64 rfl) rfl
theorem qs65 : (Cond.selects "OneCoinModel" ⟨"OneCoinModel", "jumps", "(I)V"⟩ ⟨"OneCoinModel", "jumps", "(I)V"⟩) ∈ lw_all := lw_g (lw_at lw_ms 65 rfl) rfl
theorem qs66 : (Cond.selects "OneCoinModel" ⟨"OneCoinModel", "takes", "(I)Z"⟩ ⟨"OneCoinModel", "takes", "(I)Z"⟩) ∈ lw_all := lw_g (lw_at lw_ms 66 rfl) rfl
theorem qs67 : (Cond.selects "OneCoinModel" ⟨"OneCoinModel", "readsLine", "()Z"⟩ ⟨"OneCoinModel", "readsLine", "()Z"⟩) ∈ lw_all := lw_g (lw_at lw_ms 67 rfl) rfl
theorem qs68 : (Cond.selects "OneCoinModel" ⟨"OneCoinModel", "readsPerson", "(Z)Z"⟩ ⟨"OneCoinModel", "readsPerson", "(Z)Z"⟩) ∈ lw_all := lw_g (lw_at lw_ms 68 rfl) rfl
theorem qs69 : (Cond.selects "OneCoinModel" ⟨"OneCoinModel", "owedInAll", "()I"⟩ ⟨"OneCoinModel", "owedInAll", "()I"⟩) ∈ lw_all := lw_g (lw_at lw_ms 69 rfl) rfl
theorem qs70 : (Cond.selects "OneCoinModel" ⟨"OneCoinModel", "owesAll", "(I)I"⟩ ⟨"OneCoinModel", "owesAll", "(I)I"⟩) ∈ lw_all := lw_g (lw_at lw_ms 70 rfl) rfl
theorem qs71 : (Cond.selects "OneCoinModel" ⟨"OneCoinModel", "debtOf", "(II)I"⟩ ⟨"OneCoinModel", "debtOf", "(II)I"⟩) ∈ lw_all := lw_g (lw_at lw_ms 71 rfl) rfl
theorem qs72 : (Cond.selects "OneCoinModel" ⟨"OneCoinModel", "hoursGo", "(I)V"⟩ ⟨"OneCoinModel", "hoursGo", "(I)V"⟩) ∈ lw_all := lw_g (lw_at lw_ms 72 rfl) rfl
theorem qs73 : (Cond.selects "OneCoinModel" ⟨"OneCoinModel", "begins", "()V"⟩ ⟨"OneCoinModel", "begins", "()V"⟩) ∈ lw_all := lw_g (lw_at lw_ms 73 rfl) rfl
theorem qs74 : (Cond.selects "OneCoinModel" ⟨"OneCoinModel", "hourGoes", "()V"⟩ ⟨"OneCoinModel", "hourGoes", "()V"⟩) ∈ lw_all := lw_g (lw_at lw_ms 74 rfl) rfl
theorem qs75 : (Cond.selects "OneCoinModel" ⟨"OneCoinModel", "dayBegins", "()V"⟩ ⟨"OneCoinModel", "dayBegins", "()V"⟩) ∈ lw_all := lw_g (lw_at lw_ms 75 rfl) rfl
theorem qs76 : (Cond.selects "OneCoinModel" ⟨"OneCoinModel", "rainBy", "()I"⟩ ⟨"OneCoinModel", "rainBy", "()I"⟩) ∈ lw_all := lw_g (lw_at lw_ms 76 rfl) rfl
theorem qs77 : (Cond.selects "OneCoinModel" ⟨"OneCoinModel", "feels", "(I)V"⟩ ⟨"OneCoinModel", "feels", "(I)V"⟩) ∈ lw_all := lw_g (lw_at lw_ms 77 rfl) rfl
theorem qs78 : (Cond.selects "OneCoinModel" ⟨"OneCoinModel", "byLaw", "(II)I"⟩ ⟨"OneCoinModel", "byLaw", "(II)I"⟩) ∈ lw_all := lw_g (lw_at lw_ms 78 rfl) rfl
theorem qs79 : (Cond.selects "OneCoinModel" ⟨"OneCoinModel", "comesTo", "(II)I"⟩ ⟨"OneCoinModel", "comesTo", "(II)I"⟩) ∈ lw_all := lw_g (lw_at lw_ms 79 rfl) rfl
theorem qs80 : (Cond.selects "OneCoinModel" ⟨"OneCoinModel", "feelsTwo", "(II)V"⟩ ⟨"OneCoinModel", "feelsTwo", "(II)V"⟩) ∈ lw_all := lw_g (lw_at lw_ms 80 rfl) rfl
theorem qs81 : (Cond.selects "OneCoinModel" ⟨"OneCoinModel", "wayOf", "(II)I"⟩ ⟨"OneCoinModel", "wayOf", "(II)I"⟩) ∈ lw_all := lw_g (lw_at lw_ms 81 rfl) rfl
theorem qs82 : (Cond.selects "OneCoinModel" ⟨"OneCoinModel", "chalksOf", "(I)I"⟩ ⟨"OneCoinModel", "chalksOf", "(I)I"⟩) ∈ lw_all := lw_g (lw_at lw_ms 82 rfl) rfl
theorem qs83 : (Cond.selects "OneCoinModel" ⟨"OneCoinModel", "pays", "(II)V"⟩ ⟨"OneCoinModel", "pays", "(II)V"⟩) ∈ lw_all := lw_g (lw_at lw_ms 83 rfl) rfl
theorem qs84 : (Cond.selects "OneCoinModel" ⟨"OneCoinModel", "chalks", "(I)V"⟩ ⟨"OneCoinModel", "chalks", "(I)V"⟩) ∈ lw_all := lw_g (lw_at lw_ms 84 rfl) rfl
theorem qs85 : (Cond.selects "OneCoinModel" ⟨"OneCoinModel", "holds", "(I)V"⟩ ⟨"OneCoinModel", "holds", "(I)V"⟩) ∈ lw_all := lw_g (lw_at lw_ms 85 rfl) rfl
theorem qs86 : (Cond.selects "OneCoinModel" ⟨"OneCoinModel", "nextPaid", "(I)I"⟩ ⟨"OneCoinModel", "nextPaid", "(I)I"⟩) ∈ lw_all := lw_g (lw_at lw_ms 86 rfl) rfl
theorem qs87 : (Cond.selects "OneCoinModel" ⟨"OneCoinModel", "likesBy", "(II)I"⟩ ⟨"OneCoinModel", "likesBy", "(II)I"⟩) ∈ lw_all := lw_g (lw_at lw_ms 87 rfl) rfl
theorem qs88 : (Cond.selects "OneCoinModel" ⟨"OneCoinModel", "holdsAny", "(I)Z"⟩ ⟨"OneCoinModel", "holdsAny", "(I)Z"⟩) ∈ lw_all := lw_g (lw_at lw_ms 88 rfl) rfl
theorem qs89 : (Cond.selects "OneCoinModel" ⟨"OneCoinModel", "setsOut", "(II)V"⟩ ⟨"OneCoinModel", "setsOut", "(II)V"⟩) ∈ lw_all := lw_g (lw_at lw_ms 89 rfl) rfl
theorem qs90 : (Cond.selects "OneCoinModel" ⟨"OneCoinModel", "getsAll", "(I)I"⟩ ⟨"OneCoinModel", "getsAll", "(I)I"⟩) ∈ lw_all := lw_g (lw_at lw_ms 90 rfl) rfl
theorem qs91 : (Cond.selects "OneCoinModel" ⟨"OneCoinModel", "readsRoute", "(I)I"⟩ ⟨"OneCoinModel", "readsRoute", "(I)I"⟩) ∈ lw_all := lw_g (lw_at lw_ms 91 rfl) rfl
theorem qs92 : (Cond.selects "OneCoinModel" ⟨"OneCoinModel", "readsItem", "()Z"⟩ ⟨"OneCoinModel", "readsItem", "()Z"⟩) ∈ lw_all := lw_g (lw_at lw_ms 92 rfl) rfl
theorem qs93 : (Cond.selects "OneCoinModel" ⟨"OneCoinModel", "readsTimes", "()V"⟩ ⟨"OneCoinModel", "readsTimes", "()V"⟩) ∈ lw_all := lw_g (lw_at lw_ms 93 rfl) rfl
theorem qs94 : (Cond.selects "OneCoinModel" ⟨"OneCoinModel", "repeats", "(III)Z"⟩ ⟨"OneCoinModel", "repeats", "(III)Z"⟩) ∈ lw_all := lw_g (lw_at lw_ms 94 rfl) rfl
theorem qs95 : (Cond.selects "OneCoinModel" ⟨"OneCoinModel", "walksRoute", "()V"⟩ ⟨"OneCoinModel", "walksRoute", "()V"⟩) ∈ lw_all := lw_g (lw_at lw_ms 95 rfl) rfl
theorem qs96 : (Cond.selects "OneCoinModel" ⟨"OneCoinModel", "laysTour", "(II)Z"⟩ ⟨"OneCoinModel", "laysTour", "(II)Z"⟩) ∈ lw_all := lw_g (lw_at lw_ms 96 rfl) rfl
theorem qs97 : (Cond.selects "OneCoinModel" ⟨"OneCoinModel", "isRow", "(I)Z"⟩ ⟨"OneCoinModel", "isRow", "(I)Z"⟩) ∈ lw_all := lw_g (lw_at lw_ms 97 rfl) rfl
theorem qs98 : (Cond.selects "OneCoinModel" ⟨"OneCoinModel", "reachLeft", "(I)I"⟩ ⟨"OneCoinModel", "reachLeft", "(I)I"⟩) ∈ lw_all := lw_g (lw_at lw_ms 98 rfl) rfl
theorem qs99 : (Cond.selects "OneCoinModel" ⟨"OneCoinModel", "leftOf", "(II)I"⟩ ⟨"OneCoinModel", "leftOf", "(II)I"⟩) ∈ lw_all := lw_g (lw_at lw_ms 99 rfl) rfl
theorem qs100 : (Cond.selects "OneCoinModel" ⟨"OneCoinModel", "canGo", "(II)Z"⟩ ⟨"OneCoinModel", "canGo", "(II)Z"⟩) ∈ lw_all := lw_g (lw_at lw_ms 100 rfl) rfl
theorem qs101 : (Cond.selects "OneCoinModel" ⟨"OneCoinModel", "laysCoins", "(I)Z"⟩ ⟨"OneCoinModel", "laysCoins", "(I)Z"⟩) ∈ lw_all := lw_g (lw_at lw_ms 101 rfl) rfl
theorem qs102 : (Cond.selects "OneCoinModel" ⟨"OneCoinModel", "laysMore", "()V"⟩ ⟨"OneCoinModel", "laysMore", "()V"⟩) ∈ lw_all := lw_g (lw_at lw_ms 102 rfl) rfl
theorem qs103 : (Cond.selects "OneCoinModel" ⟨"OneCoinModel", "bestCoin", "(II)I"⟩ ⟨"OneCoinModel", "bestCoin", "(II)I"⟩) ∈ lw_all := lw_g (lw_at lw_ms 103 rfl) rfl
theorem qs104 : (Cond.selects "OneCoinModel" ⟨"OneCoinModel", "laysBack", "()V"⟩ ⟨"OneCoinModel", "laysBack", "()V"⟩) ∈ lw_all := lw_g (lw_at lw_ms 104 rfl) rfl
theorem qs105 : (Cond.selects "OneCoinModel" ⟨"OneCoinModel", "laysLacks", "()V"⟩ ⟨"OneCoinModel", "laysLacks", "()V"⟩) ∈ lw_all := lw_g (lw_at lw_ms 105 rfl) rfl
theorem qs106 : (Cond.selects "OneCoinModel" ⟨"OneCoinModel", "setOffOf", "(I)I"⟩ ⟨"OneCoinModel", "setOffOf", "(I)I"⟩) ∈ lw_all := lw_g (lw_at lw_ms 106 rfl) rfl
theorem qs107 : (Cond.selects "OneCoinModel" ⟨"OneCoinModel", "readsRow", "(II)Z"⟩ ⟨"OneCoinModel", "readsRow", "(II)Z"⟩) ∈ lw_all := lw_g (lw_at lw_ms 107 rfl) rfl
theorem qs108 : (Cond.selects "OneCoinModel" ⟨"OneCoinModel", "hoursOfRow", "(I)I"⟩ ⟨"OneCoinModel", "hoursOfRow", "(I)I"⟩) ∈ lw_all := lw_g (lw_at lw_ms 108 rfl) rfl
theorem qs109 : (Cond.selects "OneCoinModel" ⟨"OneCoinModel", "isEven", "(I)Z"⟩ ⟨"OneCoinModel", "isEven", "(I)Z"⟩) ∈ lw_all := lw_g (lw_at lw_ms 109 rfl) rfl
theorem qs110 : (Cond.selects "OneCoinModel" ⟨"OneCoinModel", "laysGroups", "()V"⟩ ⟨"OneCoinModel", "laysGroups", "()V"⟩) ∈ lw_all := lw_g (lw_at lw_ms 110 rfl) rfl
theorem qs111 : (Cond.selects "OneCoinModel" ⟨"OneCoinModel", "ringOf", "(I)I"⟩ ⟨"OneCoinModel", "ringOf", "(I)I"⟩) ∈ lw_all := lw_g (lw_at lw_ms 111 rfl) rfl
theorem qs112 : (Cond.selects "OneCoinModel" ⟨"OneCoinModel", "reachOf", "(I)I"⟩ ⟨"OneCoinModel", "reachOf", "(I)I"⟩) ∈ lw_all := lw_g (lw_at lw_ms 112 rfl) rfl
theorem qs113 : (Cond.selects "OneCoinModel" ⟨"OneCoinModel", "hoursOf", "(I)I"⟩ ⟨"OneCoinModel", "hoursOf", "(I)I"⟩) ∈ lw_all := lw_g (lw_at lw_ms 113 rfl) rfl
theorem qs114 : (Cond.selects "OneCoinModel" ⟨"OneCoinModel", "isRowOf", "(II)Z"⟩ ⟨"OneCoinModel", "isRowOf", "(II)Z"⟩) ∈ lw_all := lw_g (lw_at lw_ms 114 rfl) rfl
-- ===== end of PART A; then your names; then what follows =====
