-- ===== PART A: goes FIRST, ahead of the names: the tables' words, and 'selects' of the private methods out of them =====
/-- a private method of a class that the tables say can be made, by its rows of tables_1 -/
def lw_okq (q : MethodName × Nat) : Prop := (q.1.cls ≠ "java/lang/invoke/MethodHandle" ∧ q.1.cls ≠ "java/lang/invoke/VarHandle") ∧ Cond.instantiable q.1.cls q.2 ∈ tables_1 ∧ Cond.privateMethod q.1 ∈ tables_1 ∧ Cond.instanceMethod q.1 ∈ tables_1
set_option maxRecDepth 100000
theorem lw_t1 {w : Cond} (h : w ∈ tables_1_1) : w ∈ tables_1 := List.mem_append_left _ h
theorem lw_t2 {w : Cond} (h : w ∈ tables_1_2) : w ∈ tables_1 := List.mem_append_right _ (List.mem_append_left _ h)
theorem lw_t3 {w : Cond} (h : w ∈ tables_1_3) : w ∈ tables_1 := List.mem_append_right _ (List.mem_append_right _ (List.mem_append_left _ h))
theorem lw_t4 {w : Cond} (h : w ∈ tables_1_4) : w ∈ tables_1 := List.mem_append_right _ (List.mem_append_right _ (List.mem_append_right _ (List.mem_append_left _ h)))
theorem lw_t5 {w : Cond} (h : w ∈ tables_1_5) : w ∈ tables_1 := List.mem_append_right _ (List.mem_append_right _ (List.mem_append_right _ (List.mem_append_right _ (List.mem_append_left _ h))))
theorem lw_t6 {w : Cond} (h : w ∈ tables_1_6) : w ∈ tables_1 := List.mem_append_right _ (List.mem_append_right _ (List.mem_append_right _ (List.mem_append_right _ (List.mem_append_right _ (List.mem_append_left _ h)))))
theorem lw_t7 {w : Cond} (h : w ∈ tables_1_7) : w ∈ tables_1 := List.mem_append_right _ (List.mem_append_right _ (List.mem_append_right _ (List.mem_append_right _ (List.mem_append_right _ (List.mem_append_right _ (List.mem_append_left _ h))))))
theorem lw_t8 {w : Cond} (h : w ∈ tables_1_8) : w ∈ tables_1 := List.mem_append_right _ (List.mem_append_right _ (List.mem_append_right _ (List.mem_append_right _ (List.mem_append_right _ (List.mem_append_right _ (List.mem_append_right _ h))))))
theorem lw_p0 : lw_okq (⟨"java/lang/Throwable", "fillInStackTrace", "(I)Ljava/lang/Throwable;"⟩, 6) := ⟨⟨by decide +kernel, by decide +kernel⟩, lw_t1 (List.mem_of_getElem? (i := 107) rfl), lw_t1 (List.mem_of_getElem? (i := 105) rfl), lw_t1 (List.mem_of_getElem? (i := 106) rfl)⟩
theorem lw_p1 : lw_okq (⟨"java/util/ArrayList", "add", "(Ljava/lang/Object;[Ljava/lang/Object;I)V"⟩, 3) := ⟨⟨by decide +kernel, by decide +kernel⟩, lw_t1 (List.mem_of_getElem? (i := 52) rfl), lw_t3 (List.mem_of_getElem? (i := 239) rfl), lw_t4 (List.mem_of_getElem? (i := 0) rfl)⟩
theorem lw_p2 : lw_okq (⟨"java/util/ArrayList", "grow", "()[Ljava/lang/Object;"⟩, 3) := ⟨⟨by decide +kernel, by decide +kernel⟩, lw_t1 (List.mem_of_getElem? (i := 52) rfl), lw_t4 (List.mem_of_getElem? (i := 3) rfl), lw_t4 (List.mem_of_getElem? (i := 4) rfl)⟩
theorem lw_p3 : lw_okq (⟨"java/util/ArrayList", "grow", "(I)[Ljava/lang/Object;"⟩, 3) := ⟨⟨by decide +kernel, by decide +kernel⟩, lw_t1 (List.mem_of_getElem? (i := 52) rfl), lw_t4 (List.mem_of_getElem? (i := 7) rfl), lw_t4 (List.mem_of_getElem? (i := 8) rfl)⟩
theorem lw_p4 : lw_okq (⟨"ForkJoinDesk$Loose", "add", "()LForkJoinDesk$Fiber;"⟩, 15) := ⟨⟨by decide +kernel, by decide +kernel⟩, lw_t3 (List.mem_of_getElem? (i := 75) rfl), lw_t4 (List.mem_of_getElem? (i := 89) rfl), lw_t4 (List.mem_of_getElem? (i := 90) rfl)⟩
theorem lw_p5 : lw_okq (⟨"ForkJoinDesk$Loose", "part", "(I)I"⟩, 15) := ⟨⟨by decide +kernel, by decide +kernel⟩, lw_t3 (List.mem_of_getElem? (i := 75) rfl), lw_t4 (List.mem_of_getElem? (i := 100) rfl), lw_t4 (List.mem_of_getElem? (i := 101) rfl)⟩
theorem lw_p6 : lw_okq (⟨"ForkJoinDesk$Compiler", "procedureComes", "()V"⟩, 7) := ⟨⟨by decide +kernel, by decide +kernel⟩, lw_t1 (List.mem_of_getElem? (i := 46) rfl), lw_t4 (List.mem_of_getElem? (i := 167) rfl), lw_t4 (List.mem_of_getElem? (i := 168) rfl)⟩
theorem lw_p7 : lw_okq (⟨"ForkJoinDesk$Compiler", "here", "()I"⟩, 7) := ⟨⟨by decide +kernel, by decide +kernel⟩, lw_t1 (List.mem_of_getElem? (i := 46) rfl), lw_t4 (List.mem_of_getElem? (i := 171) rfl), lw_t4 (List.mem_of_getElem? (i := 172) rfl)⟩
theorem lw_p8 : lw_okq (⟨"ForkJoinDesk$Compiler", "wrong", "(I)Ljava/lang/IllegalArgumentException;"⟩, 7) := ⟨⟨by decide +kernel, by decide +kernel⟩, lw_t1 (List.mem_of_getElem? (i := 46) rfl), lw_t4 (List.mem_of_getElem? (i := 182) rfl), lw_t4 (List.mem_of_getElem? (i := 183) rfl)⟩
theorem lw_p9 : lw_okq (⟨"ForkJoinDesk$Compiler", "need", "(I)V"⟩, 7) := ⟨⟨by decide +kernel, by decide +kernel⟩, lw_t1 (List.mem_of_getElem? (i := 46) rfl), lw_t4 (List.mem_of_getElem? (i := 198) rfl), lw_t4 (List.mem_of_getElem? (i := 199) rfl)⟩
theorem lw_p10 : lw_okq (⟨"ForkJoinDesk$Compiler", "takes", "(I)Z"⟩, 7) := ⟨⟨by decide +kernel, by decide +kernel⟩, lw_t1 (List.mem_of_getElem? (i := 46) rfl), lw_t4 (List.mem_of_getElem? (i := 202) rfl), lw_t4 (List.mem_of_getElem? (i := 203) rfl)⟩
theorem lw_p11 : lw_okq (⟨"ForkJoinDesk$Compiler", "parameter", "(I)V"⟩, 7) := ⟨⟨by decide +kernel, by decide +kernel⟩, lw_t1 (List.mem_of_getElem? (i := 46) rfl), lw_t4 (List.mem_of_getElem? (i := 206) rfl), lw_t4 (List.mem_of_getElem? (i := 207) rfl)⟩
theorem lw_p12 : lw_okq (⟨"ForkJoinDesk$Compiler", "comma", "()I"⟩, 7) := ⟨⟨by decide +kernel, by decide +kernel⟩, lw_t1 (List.mem_of_getElem? (i := 46) rfl), lw_t4 (List.mem_of_getElem? (i := 213) rfl), lw_t4 (List.mem_of_getElem? (i := 214) rfl)⟩
theorem lw_p13 : lw_okq (⟨"ForkJoinDesk$Compiler", "block", "(I)V"⟩, 7) := ⟨⟨by decide +kernel, by decide +kernel⟩, lw_t1 (List.mem_of_getElem? (i := 46) rfl), lw_t4 (List.mem_of_getElem? (i := 217) rfl), lw_t4 (List.mem_of_getElem? (i := 218) rfl)⟩
theorem lw_p14 : lw_okq (⟨"ForkJoinDesk$Compiler", "open", "(II)V"⟩, 7) := ⟨⟨by decide +kernel, by decide +kernel⟩, lw_t1 (List.mem_of_getElem? (i := 46) rfl), lw_t4 (List.mem_of_getElem? (i := 221) rfl), lw_t4 (List.mem_of_getElem? (i := 222) rfl)⟩
theorem lw_p15 : lw_okq (⟨"ForkJoinDesk$Compiler", "statement", "(I)V"⟩, 7) := ⟨⟨by decide +kernel, by decide +kernel⟩, lw_t1 (List.mem_of_getElem? (i := 46) rfl), lw_t4 (List.mem_of_getElem? (i := 225) rfl), lw_t4 (List.mem_of_getElem? (i := 226) rfl)⟩
def lw_privs_1 : List (MethodName × Nat) := [(⟨"java/lang/Throwable", "fillInStackTrace", "(I)Ljava/lang/Throwable;"⟩, 6), (⟨"java/util/ArrayList", "add", "(Ljava/lang/Object;[Ljava/lang/Object;I)V"⟩, 3), (⟨"java/util/ArrayList", "grow", "()[Ljava/lang/Object;"⟩, 3), (⟨"java/util/ArrayList", "grow", "(I)[Ljava/lang/Object;"⟩, 3), (⟨"ForkJoinDesk$Loose", "add", "()LForkJoinDesk$Fiber;"⟩, 15), (⟨"ForkJoinDesk$Loose", "part", "(I)I"⟩, 15), (⟨"ForkJoinDesk$Compiler", "procedureComes", "()V"⟩, 7), (⟨"ForkJoinDesk$Compiler", "here", "()I"⟩, 7), (⟨"ForkJoinDesk$Compiler", "wrong", "(I)Ljava/lang/IllegalArgumentException;"⟩, 7), (⟨"ForkJoinDesk$Compiler", "need", "(I)V"⟩, 7), (⟨"ForkJoinDesk$Compiler", "takes", "(I)Z"⟩, 7), (⟨"ForkJoinDesk$Compiler", "parameter", "(I)V"⟩, 7), (⟨"ForkJoinDesk$Compiler", "comma", "()I"⟩, 7), (⟨"ForkJoinDesk$Compiler", "block", "(I)V"⟩, 7), (⟨"ForkJoinDesk$Compiler", "open", "(II)V"⟩, 7), (⟨"ForkJoinDesk$Compiler", "statement", "(I)V"⟩, 7)]
theorem lw_r1 : ∀ q ∈ lw_privs_1, lw_okq q := List.forall_mem_cons.mpr ⟨lw_p0, List.forall_mem_cons.mpr ⟨lw_p1, List.forall_mem_cons.mpr ⟨lw_p2, List.forall_mem_cons.mpr ⟨lw_p3, List.forall_mem_cons.mpr ⟨lw_p4, List.forall_mem_cons.mpr ⟨lw_p5, List.forall_mem_cons.mpr ⟨lw_p6, List.forall_mem_cons.mpr ⟨lw_p7, List.forall_mem_cons.mpr ⟨lw_p8, List.forall_mem_cons.mpr ⟨lw_p9, List.forall_mem_cons.mpr ⟨lw_p10, List.forall_mem_cons.mpr ⟨lw_p11, List.forall_mem_cons.mpr ⟨lw_p12, List.forall_mem_cons.mpr ⟨lw_p13, List.forall_mem_cons.mpr ⟨lw_p14, List.forall_mem_cons.mpr ⟨lw_p15, fun _ h => absurd h List.not_mem_nil⟩⟩⟩⟩⟩⟩⟩⟩⟩⟩⟩⟩⟩⟩⟩⟩
theorem lw_p16 : lw_okq (⟨"ForkJoinDesk$Compiler", "choice", "(ZI)V"⟩, 7) := ⟨⟨by decide +kernel, by decide +kernel⟩, lw_t1 (List.mem_of_getElem? (i := 46) rfl), lw_t4 (List.mem_of_getElem? (i := 229) rfl), lw_t4 (List.mem_of_getElem? (i := 230) rfl)⟩
theorem lw_p17 : lw_okq (⟨"ForkJoinDesk$Compiler", "bracket", "(I)V"⟩, 7) := ⟨⟨by decide +kernel, by decide +kernel⟩, lw_t1 (List.mem_of_getElem? (i := 46) rfl), lw_t4 (List.mem_of_getElem? (i := 233) rfl), lw_t4 (List.mem_of_getElem? (i := 234) rfl)⟩
theorem lw_p18 : lw_okq (⟨"ForkJoinDesk$Compiler", "expression", "(I)V"⟩, 7) := ⟨⟨by decide +kernel, by decide +kernel⟩, lw_t1 (List.mem_of_getElem? (i := 46) rfl), lw_t4 (List.mem_of_getElem? (i := 237) rfl), lw_t4 (List.mem_of_getElem? (i := 238) rfl)⟩
theorem lw_p19 : lw_okq (⟨"ForkJoinDesk$Compiler", "sum", "(I)V"⟩, 7) := ⟨⟨by decide +kernel, by decide +kernel⟩, lw_t1 (List.mem_of_getElem? (i := 46) rfl), lw_t5 (List.mem_of_getElem? (i := 1) rfl), lw_t5 (List.mem_of_getElem? (i := 2) rfl)⟩
theorem lw_p20 : lw_okq (⟨"ForkJoinDesk$Compiler", "product", "(I)V"⟩, 7) := ⟨⟨by decide +kernel, by decide +kernel⟩, lw_t1 (List.mem_of_getElem? (i := 46) rfl), lw_t5 (List.mem_of_getElem? (i := 5) rfl), lw_t5 (List.mem_of_getElem? (i := 6) rfl)⟩
theorem lw_p21 : lw_okq (⟨"ForkJoinDesk$Compiler", "atom", "(II)V"⟩, 7) := ⟨⟨by decide +kernel, by decide +kernel⟩, lw_t1 (List.mem_of_getElem? (i := 46) rfl), lw_t5 (List.mem_of_getElem? (i := 9) rfl), lw_t5 (List.mem_of_getElem? (i := 10) rfl)⟩
theorem lw_p22 : lw_okq (⟨"ForkJoinDesk$Compiler", "emit", "(LForkJoinDesk$Op;II)V"⟩, 7) := ⟨⟨by decide +kernel, by decide +kernel⟩, lw_t1 (List.mem_of_getElem? (i := 46) rfl), lw_t5 (List.mem_of_getElem? (i := 15) rfl), lw_t5 (List.mem_of_getElem? (i := 16) rfl)⟩
theorem lw_p23 : lw_okq (⟨"ForkJoinDesk$Compiler", "number", "()V"⟩, 7) := ⟨⟨by decide +kernel, by decide +kernel⟩, lw_t1 (List.mem_of_getElem? (i := 46) rfl), lw_t5 (List.mem_of_getElem? (i := 49) rfl), lw_t5 (List.mem_of_getElem? (i := 50) rfl)⟩
theorem lw_p24 : lw_okq (⟨"ForkJoinDesk$Compiler", "put", "(II)V"⟩, 7) := ⟨⟨by decide +kernel, by decide +kernel⟩, lw_t1 (List.mem_of_getElem? (i := 46) rfl), lw_t5 (List.mem_of_getElem? (i := 69) rfl), lw_t5 (List.mem_of_getElem? (i := 70) rfl)⟩
theorem lw_p25 : lw_okq (⟨"ForkJoinDesk$Compiler", "use", "(ZI)V"⟩, 7) := ⟨⟨by decide +kernel, by decide +kernel⟩, lw_t1 (List.mem_of_getElem? (i := 46) rfl), lw_t5 (List.mem_of_getElem? (i := 88) rfl), lw_t5 (List.mem_of_getElem? (i := 89) rfl)⟩
theorem lw_p26 : lw_okq (⟨"ForkJoinDesk$Compiler", "resolved", "()LForkJoinDesk$Program;"⟩, 7) := ⟨⟨by decide +kernel, by decide +kernel⟩, lw_t1 (List.mem_of_getElem? (i := 46) rfl), lw_t5 (List.mem_of_getElem? (i := 98) rfl), lw_t5 (List.mem_of_getElem? (i := 99) rfl)⟩
theorem lw_p27 : lw_okq (⟨"ForkJoinDesk$Serial", "grow", "(I)I"⟩, 23) := ⟨⟨by decide +kernel, by decide +kernel⟩, lw_t2 (List.mem_of_getElem? (i := 177) rfl), lw_t5 (List.mem_of_getElem? (i := 164) rfl), lw_t5 (List.mem_of_getElem? (i := 165) rfl)⟩
theorem lw_p28 : lw_okq (⟨"ForkJoinDesk$Serial", "gather", "(LForkJoinDesk$Frame;)V"⟩, 23) := ⟨⟨by decide +kernel, by decide +kernel⟩, lw_t2 (List.mem_of_getElem? (i := 177) rfl), lw_t5 (List.mem_of_getElem? (i := 185) rfl), lw_t5 (List.mem_of_getElem? (i := 186) rfl)⟩
theorem lw_p29 : lw_okq (⟨"ForkJoinDesk$Serial", "find", "(I)I"⟩, 23) := ⟨⟨by decide +kernel, by decide +kernel⟩, lw_t2 (List.mem_of_getElem? (i := 177) rfl), lw_t5 (List.mem_of_getElem? (i := 189) rfl), lw_t5 (List.mem_of_getElem? (i := 190) rfl)⟩
theorem lw_p30 : lw_okq (⟨"ForkJoinDesk$Serial", "leave", "(LForkJoinDesk$Frame;LForkJoinDesk$Frame;)V"⟩, 23) := ⟨⟨by decide +kernel, by decide +kernel⟩, lw_t2 (List.mem_of_getElem? (i := 177) rfl), lw_t5 (List.mem_of_getElem? (i := 203) rfl), lw_t5 (List.mem_of_getElem? (i := 204) rfl)⟩
theorem lw_p31 : lw_okq (⟨"ForkJoinDesk$Serial", "lies", "(I)Z"⟩, 23) := ⟨⟨by decide +kernel, by decide +kernel⟩, lw_t2 (List.mem_of_getElem? (i := 177) rfl), lw_t6 (List.mem_of_getElem? (i := 8) rfl), lw_t6 (List.mem_of_getElem? (i := 9) rfl)⟩
def lw_privs_2 : List (MethodName × Nat) := [(⟨"ForkJoinDesk$Compiler", "choice", "(ZI)V"⟩, 7), (⟨"ForkJoinDesk$Compiler", "bracket", "(I)V"⟩, 7), (⟨"ForkJoinDesk$Compiler", "expression", "(I)V"⟩, 7), (⟨"ForkJoinDesk$Compiler", "sum", "(I)V"⟩, 7), (⟨"ForkJoinDesk$Compiler", "product", "(I)V"⟩, 7), (⟨"ForkJoinDesk$Compiler", "atom", "(II)V"⟩, 7), (⟨"ForkJoinDesk$Compiler", "emit", "(LForkJoinDesk$Op;II)V"⟩, 7), (⟨"ForkJoinDesk$Compiler", "number", "()V"⟩, 7), (⟨"ForkJoinDesk$Compiler", "put", "(II)V"⟩, 7), (⟨"ForkJoinDesk$Compiler", "use", "(ZI)V"⟩, 7), (⟨"ForkJoinDesk$Compiler", "resolved", "()LForkJoinDesk$Program;"⟩, 7), (⟨"ForkJoinDesk$Serial", "grow", "(I)I"⟩, 23), (⟨"ForkJoinDesk$Serial", "gather", "(LForkJoinDesk$Frame;)V"⟩, 23), (⟨"ForkJoinDesk$Serial", "find", "(I)I"⟩, 23), (⟨"ForkJoinDesk$Serial", "leave", "(LForkJoinDesk$Frame;LForkJoinDesk$Frame;)V"⟩, 23), (⟨"ForkJoinDesk$Serial", "lies", "(I)Z"⟩, 23)]
theorem lw_r2 : ∀ q ∈ lw_privs_2, lw_okq q := List.forall_mem_cons.mpr ⟨lw_p16, List.forall_mem_cons.mpr ⟨lw_p17, List.forall_mem_cons.mpr ⟨lw_p18, List.forall_mem_cons.mpr ⟨lw_p19, List.forall_mem_cons.mpr ⟨lw_p20, List.forall_mem_cons.mpr ⟨lw_p21, List.forall_mem_cons.mpr ⟨lw_p22, List.forall_mem_cons.mpr ⟨lw_p23, List.forall_mem_cons.mpr ⟨lw_p24, List.forall_mem_cons.mpr ⟨lw_p25, List.forall_mem_cons.mpr ⟨lw_p26, List.forall_mem_cons.mpr ⟨lw_p27, List.forall_mem_cons.mpr ⟨lw_p28, List.forall_mem_cons.mpr ⟨lw_p29, List.forall_mem_cons.mpr ⟨lw_p30, List.forall_mem_cons.mpr ⟨lw_p31, fun _ h => absurd h List.not_mem_nil⟩⟩⟩⟩⟩⟩⟩⟩⟩⟩⟩⟩⟩⟩⟩⟩
theorem lw_p32 : lw_okq (⟨"ForkJoinDesk$Serial", "rankAll", "()V"⟩, 23) := ⟨⟨by decide +kernel, by decide +kernel⟩, lw_t2 (List.mem_of_getElem? (i := 177) rfl), lw_t6 (List.mem_of_getElem? (i := 104) rfl), lw_t6 (List.mem_of_getElem? (i := 105) rfl)⟩
theorem lw_p33 : lw_okq (⟨"ForkJoinDeskModel", "read", "()Z"⟩, 77) := ⟨⟨by decide +kernel, by decide +kernel⟩, lw_t6 (List.mem_of_getElem? (i := 134) rfl), lw_t7 (List.mem_of_getElem? (i := 147) rfl), lw_t7 (List.mem_of_getElem? (i := 148) rfl)⟩
theorem lw_p34 : lw_okq (⟨"ForkJoinDeskModel", "skip", "()V"⟩, 77) := ⟨⟨by decide +kernel, by decide +kernel⟩, lw_t6 (List.mem_of_getElem? (i := 134) rfl), lw_t7 (List.mem_of_getElem? (i := 151) rfl), lw_t7 (List.mem_of_getElem? (i := 152) rfl)⟩
theorem lw_p35 : lw_okq (⟨"ForkJoinDeskModel", "push", "(I)V"⟩, 77) := ⟨⟨by decide +kernel, by decide +kernel⟩, lw_t6 (List.mem_of_getElem? (i := 134) rfl), lw_t7 (List.mem_of_getElem? (i := 155) rfl), lw_t7 (List.mem_of_getElem? (i := 156) rfl)⟩
theorem lw_p36 : lw_okq (⟨"ForkJoinDeskModel", "emit", "(III)V"⟩, 77) := ⟨⟨by decide +kernel, by decide +kernel⟩, lw_t6 (List.mem_of_getElem? (i := 134) rfl), lw_t7 (List.mem_of_getElem? (i := 159) rfl), lw_t7 (List.mem_of_getElem? (i := 160) rfl)⟩
theorem lw_p37 : lw_okq (⟨"ForkJoinDeskModel", "turn", "(I)V"⟩, 77) := ⟨⟨by decide +kernel, by decide +kernel⟩, lw_t6 (List.mem_of_getElem? (i := 134) rfl), lw_t7 (List.mem_of_getElem? (i := 163) rfl), lw_t7 (List.mem_of_getElem? (i := 164) rfl)⟩
theorem lw_p38 : lw_okq (⟨"ForkJoinDeskModel", "here", "()I"⟩, 77) := ⟨⟨by decide +kernel, by decide +kernel⟩, lw_t6 (List.mem_of_getElem? (i := 134) rfl), lw_t7 (List.mem_of_getElem? (i := 167) rfl), lw_t7 (List.mem_of_getElem? (i := 168) rfl)⟩
theorem lw_p39 : lw_okq (⟨"ForkJoinDeskModel", "more", "()V"⟩, 77) := ⟨⟨by decide +kernel, by decide +kernel⟩, lw_t6 (List.mem_of_getElem? (i := 134) rfl), lw_t7 (List.mem_of_getElem? (i := 171) rfl), lw_t7 (List.mem_of_getElem? (i := 172) rfl)⟩
theorem lw_p40 : lw_okq (⟨"ForkJoinDeskModel", "refuse", "(I)V"⟩, 77) := ⟨⟨by decide +kernel, by decide +kernel⟩, lw_t6 (List.mem_of_getElem? (i := 134) rfl), lw_t7 (List.mem_of_getElem? (i := 178) rfl), lw_t7 (List.mem_of_getElem? (i := 179) rfl)⟩
theorem lw_p41 : lw_okq (⟨"ForkJoinDeskModel", "procedure", "()V"⟩, 77) := ⟨⟨by decide +kernel, by decide +kernel⟩, lw_t6 (List.mem_of_getElem? (i := 134) rfl), lw_t7 (List.mem_of_getElem? (i := 182) rfl), lw_t7 (List.mem_of_getElem? (i := 183) rfl)⟩
theorem lw_p42 : lw_okq (⟨"ForkJoinDeskModel", "named", "(I)I"⟩, 77) := ⟨⟨by decide +kernel, by decide +kernel⟩, lw_t6 (List.mem_of_getElem? (i := 134) rfl), lw_t7 (List.mem_of_getElem? (i := 186) rfl), lw_t7 (List.mem_of_getElem? (i := 187) rfl)⟩
theorem lw_p43 : lw_okq (⟨"ForkJoinDeskModel", "take", "()V"⟩, 77) := ⟨⟨by decide +kernel, by decide +kernel⟩, lw_t6 (List.mem_of_getElem? (i := 134) rfl), lw_t7 (List.mem_of_getElem? (i := 190) rfl), lw_t7 (List.mem_of_getElem? (i := 191) rfl)⟩
theorem lw_p44 : lw_okq (⟨"ForkJoinDeskModel", "parameter", "()V"⟩, 77) := ⟨⟨by decide +kernel, by decide +kernel⟩, lw_t6 (List.mem_of_getElem? (i := 134) rfl), lw_t7 (List.mem_of_getElem? (i := 197) rfl), lw_t7 (List.mem_of_getElem? (i := 198) rfl)⟩
theorem lw_p45 : lw_okq (⟨"ForkJoinDeskModel", "statement", "()V"⟩, 77) := ⟨⟨by decide +kernel, by decide +kernel⟩, lw_t6 (List.mem_of_getElem? (i := 134) rfl), lw_t7 (List.mem_of_getElem? (i := 204) rfl), lw_t7 (List.mem_of_getElem? (i := 205) rfl)⟩
theorem lw_p46 : lw_okq (⟨"ForkJoinDeskModel", "called", "(Z)V"⟩, 77) := ⟨⟨by decide +kernel, by decide +kernel⟩, lw_t6 (List.mem_of_getElem? (i := 134) rfl), lw_t7 (List.mem_of_getElem? (i := 208) rfl), lw_t7 (List.mem_of_getElem? (i := 209) rfl)⟩
theorem lw_p47 : lw_okq (⟨"ForkJoinDeskModel", "patchTo", "(II)V"⟩, 77) := ⟨⟨by decide +kernel, by decide +kernel⟩, lw_t6 (List.mem_of_getElem? (i := 134) rfl), lw_t7 (List.mem_of_getElem? (i := 212) rfl), lw_t7 (List.mem_of_getElem? (i := 213) rfl)⟩
def lw_privs_3 : List (MethodName × Nat) := [(⟨"ForkJoinDesk$Serial", "rankAll", "()V"⟩, 23), (⟨"ForkJoinDeskModel", "read", "()Z"⟩, 77), (⟨"ForkJoinDeskModel", "skip", "()V"⟩, 77), (⟨"ForkJoinDeskModel", "push", "(I)V"⟩, 77), (⟨"ForkJoinDeskModel", "emit", "(III)V"⟩, 77), (⟨"ForkJoinDeskModel", "turn", "(I)V"⟩, 77), (⟨"ForkJoinDeskModel", "here", "()I"⟩, 77), (⟨"ForkJoinDeskModel", "more", "()V"⟩, 77), (⟨"ForkJoinDeskModel", "refuse", "(I)V"⟩, 77), (⟨"ForkJoinDeskModel", "procedure", "()V"⟩, 77), (⟨"ForkJoinDeskModel", "named", "(I)I"⟩, 77), (⟨"ForkJoinDeskModel", "take", "()V"⟩, 77), (⟨"ForkJoinDeskModel", "parameter", "()V"⟩, 77), (⟨"ForkJoinDeskModel", "statement", "()V"⟩, 77), (⟨"ForkJoinDeskModel", "called", "(Z)V"⟩, 77), (⟨"ForkJoinDeskModel", "patchTo", "(II)V"⟩, 77)]
theorem lw_r3 : ∀ q ∈ lw_privs_3, lw_okq q := List.forall_mem_cons.mpr ⟨lw_p32, List.forall_mem_cons.mpr ⟨lw_p33, List.forall_mem_cons.mpr ⟨lw_p34, List.forall_mem_cons.mpr ⟨lw_p35, List.forall_mem_cons.mpr ⟨lw_p36, List.forall_mem_cons.mpr ⟨lw_p37, List.forall_mem_cons.mpr ⟨lw_p38, List.forall_mem_cons.mpr ⟨lw_p39, List.forall_mem_cons.mpr ⟨lw_p40, List.forall_mem_cons.mpr ⟨lw_p41, List.forall_mem_cons.mpr ⟨lw_p42, List.forall_mem_cons.mpr ⟨lw_p43, List.forall_mem_cons.mpr ⟨lw_p44, List.forall_mem_cons.mpr ⟨lw_p45, List.forall_mem_cons.mpr ⟨lw_p46, List.forall_mem_cons.mpr ⟨lw_p47, fun _ h => absurd h List.not_mem_nil⟩⟩⟩⟩⟩⟩⟩⟩⟩⟩⟩⟩⟩⟩⟩⟩
theorem lw_p48 : lw_okq (⟨"ForkJoinDeskModel", "tested", "()V"⟩, 77) := ⟨⟨by decide +kernel, by decide +kernel⟩, lw_t6 (List.mem_of_getElem? (i := 134) rfl), lw_t7 (List.mem_of_getElem? (i := 216) rfl), lw_t7 (List.mem_of_getElem? (i := 217) rfl)⟩
theorem lw_p49 : lw_okq (⟨"ForkJoinDeskModel", "between", "(IZII)V"⟩, 77) := ⟨⟨by decide +kernel, by decide +kernel⟩, lw_t6 (List.mem_of_getElem? (i := 134) rfl), lw_t7 (List.mem_of_getElem? (i := 226) rfl), lw_t7 (List.mem_of_getElem? (i := 227) rfl)⟩
theorem lw_p50 : lw_okq (⟨"ForkJoinDeskModel", "atom", "()V"⟩, 77) := ⟨⟨by decide +kernel, by decide +kernel⟩, lw_t6 (List.mem_of_getElem? (i := 134) rfl), lw_t7 (List.mem_of_getElem? (i := 230) rfl), lw_t7 (List.mem_of_getElem? (i := 231) rfl)⟩
theorem lw_p51 : lw_okq (⟨"ForkJoinDeskModel", "settle", "()Z"⟩, 77) := ⟨⟨by decide +kernel, by decide +kernel⟩, lw_t6 (List.mem_of_getElem? (i := 134) rfl), lw_t7 (List.mem_of_getElem? (i := 234) rfl), lw_t7 (List.mem_of_getElem? (i := 235) rfl)⟩
theorem lw_p52 : lw_okq (⟨"ForkJoinDeskModel", "raise", "(I)I"⟩, 77) := ⟨⟨by decide +kernel, by decide +kernel⟩, lw_t6 (List.mem_of_getElem? (i := 134) rfl), lw_t7 (List.mem_of_getElem? (i := 238) rfl), lw_t7 (List.mem_of_getElem? (i := 239) rfl)⟩
theorem lw_p53 : lw_okq (⟨"ForkJoinDeskModel", "strandFrom", "(I)I"⟩, 77) := ⟨⟨by decide +kernel, by decide +kernel⟩, lw_t6 (List.mem_of_getElem? (i := 134) rfl), lw_t8 (List.mem_of_getElem? (i := 14) rfl), lw_t8 (List.mem_of_getElem? (i := 15) rfl)⟩
theorem lw_p54 : lw_okq (⟨"ForkJoinDeskModel", "enterSerial", "(IZ)V"⟩, 77) := ⟨⟨by decide +kernel, by decide +kernel⟩, lw_t6 (List.mem_of_getElem? (i := 134) rfl), lw_t8 (List.mem_of_getElem? (i := 21) rfl), lw_t8 (List.mem_of_getElem? (i := 22) rfl)⟩
theorem lw_p55 : lw_okq (⟨"ForkJoinDeskModel", "enter", "(III)V"⟩, 77) := ⟨⟨by decide +kernel, by decide +kernel⟩, lw_t6 (List.mem_of_getElem? (i := 134) rfl), lw_t8 (List.mem_of_getElem? (i := 25) rfl), lw_t8 (List.mem_of_getElem? (i := 26) rfl)⟩
theorem lw_p56 : lw_okq (⟨"ForkJoinDeskModel", "stepSerial", "()V"⟩, 77) := ⟨⟨by decide +kernel, by decide +kernel⟩, lw_t6 (List.mem_of_getElem? (i := 134) rfl), lw_t8 (List.mem_of_getElem? (i := 33) rfl), lw_t8 (List.mem_of_getElem? (i := 34) rfl)⟩
theorem lw_p57 : lw_okq (⟨"ForkJoinDeskModel", "passes", "(II)Z"⟩, 77) := ⟨⟨by decide +kernel, by decide +kernel⟩, lw_t6 (List.mem_of_getElem? (i := 134) rfl), lw_t8 (List.mem_of_getElem? (i := 37) rfl), lw_t8 (List.mem_of_getElem? (i := 38) rfl)⟩
theorem lw_p58 : lw_okq (⟨"ForkJoinDeskModel", "join", "(I)V"⟩, 77) := ⟨⟨by decide +kernel, by decide +kernel⟩, lw_t6 (List.mem_of_getElem? (i := 134) rfl), lw_t8 (List.mem_of_getElem? (i := 41) rfl), lw_t8 (List.mem_of_getElem? (i := 42) rfl)⟩
theorem lw_p59 : lw_okq (⟨"ForkJoinDeskModel", "plain", "(III)Z"⟩, 77) := ⟨⟨by decide +kernel, by decide +kernel⟩, lw_t6 (List.mem_of_getElem? (i := 134) rfl), lw_t8 (List.mem_of_getElem? (i := 45) rfl), lw_t8 (List.mem_of_getElem? (i := 46) rfl)⟩
theorem lw_p60 : lw_okq (⟨"ForkJoinDeskModel", "give", "(II)V"⟩, 77) := ⟨⟨by decide +kernel, by decide +kernel⟩, lw_t6 (List.mem_of_getElem? (i := 134) rfl), lw_t8 (List.mem_of_getElem? (i := 52) rfl), lw_t8 (List.mem_of_getElem? (i := 53) rfl)⟩
theorem lw_p61 : lw_okq (⟨"ForkJoinDeskModel", "pop", "(I)I"⟩, 77) := ⟨⟨by decide +kernel, by decide +kernel⟩, lw_t6 (List.mem_of_getElem? (i := 134) rfl), lw_t8 (List.mem_of_getElem? (i := 56) rfl), lw_t8 (List.mem_of_getElem? (i := 57) rfl)⟩
theorem lw_p62 : lw_okq (⟨"ForkJoinDeskModel", "touch", "(IZI)V"⟩, 77) := ⟨⟨by decide +kernel, by decide +kernel⟩, lw_t6 (List.mem_of_getElem? (i := 134) rfl), lw_t8 (List.mem_of_getElem? (i := 63) rfl), lw_t8 (List.mem_of_getElem? (i := 64) rfl)⟩
theorem lw_p63 : lw_okq (⟨"ForkJoinDeskModel", "goBack", "(I)V"⟩, 77) := ⟨⟨by decide +kernel, by decide +kernel⟩, lw_t6 (List.mem_of_getElem? (i := 134) rfl), lw_t8 (List.mem_of_getElem? (i := 67) rfl), lw_t8 (List.mem_of_getElem? (i := 68) rfl)⟩
def lw_privs_4 : List (MethodName × Nat) := [(⟨"ForkJoinDeskModel", "tested", "()V"⟩, 77), (⟨"ForkJoinDeskModel", "between", "(IZII)V"⟩, 77), (⟨"ForkJoinDeskModel", "atom", "()V"⟩, 77), (⟨"ForkJoinDeskModel", "settle", "()Z"⟩, 77), (⟨"ForkJoinDeskModel", "raise", "(I)I"⟩, 77), (⟨"ForkJoinDeskModel", "strandFrom", "(I)I"⟩, 77), (⟨"ForkJoinDeskModel", "enterSerial", "(IZ)V"⟩, 77), (⟨"ForkJoinDeskModel", "enter", "(III)V"⟩, 77), (⟨"ForkJoinDeskModel", "stepSerial", "()V"⟩, 77), (⟨"ForkJoinDeskModel", "passes", "(II)Z"⟩, 77), (⟨"ForkJoinDeskModel", "join", "(I)V"⟩, 77), (⟨"ForkJoinDeskModel", "plain", "(III)Z"⟩, 77), (⟨"ForkJoinDeskModel", "give", "(II)V"⟩, 77), (⟨"ForkJoinDeskModel", "pop", "(I)I"⟩, 77), (⟨"ForkJoinDeskModel", "touch", "(IZI)V"⟩, 77), (⟨"ForkJoinDeskModel", "goBack", "(I)V"⟩, 77)]
theorem lw_r4 : ∀ q ∈ lw_privs_4, lw_okq q := List.forall_mem_cons.mpr ⟨lw_p48, List.forall_mem_cons.mpr ⟨lw_p49, List.forall_mem_cons.mpr ⟨lw_p50, List.forall_mem_cons.mpr ⟨lw_p51, List.forall_mem_cons.mpr ⟨lw_p52, List.forall_mem_cons.mpr ⟨lw_p53, List.forall_mem_cons.mpr ⟨lw_p54, List.forall_mem_cons.mpr ⟨lw_p55, List.forall_mem_cons.mpr ⟨lw_p56, List.forall_mem_cons.mpr ⟨lw_p57, List.forall_mem_cons.mpr ⟨lw_p58, List.forall_mem_cons.mpr ⟨lw_p59, List.forall_mem_cons.mpr ⟨lw_p60, List.forall_mem_cons.mpr ⟨lw_p61, List.forall_mem_cons.mpr ⟨lw_p62, List.forall_mem_cons.mpr ⟨lw_p63, fun _ h => absurd h List.not_mem_nil⟩⟩⟩⟩⟩⟩⟩⟩⟩⟩⟩⟩⟩⟩⟩⟩
theorem lw_p64 : lw_okq (⟨"ForkJoinDeskModel", "isBeside", "(II)Z"⟩, 77) := ⟨⟨by decide +kernel, by decide +kernel⟩, lw_t6 (List.mem_of_getElem? (i := 134) rfl), lw_t8 (List.mem_of_getElem? (i := 83) rfl), lw_t8 (List.mem_of_getElem? (i := 84) rfl)⟩
theorem lw_p65 : lw_okq (⟨"ForkJoinDeskModel", "knot", "(IZI)I"⟩, 77) := ⟨⟨by decide +kernel, by decide +kernel⟩, lw_t6 (List.mem_of_getElem? (i := 134) rfl), lw_t8 (List.mem_of_getElem? (i := 106) rfl), lw_t8 (List.mem_of_getElem? (i := 107) rfl)⟩
theorem lw_p66 : lw_okq (⟨"ForkJoinDeskModel", "stepLoose", "(I)Z"⟩, 77) := ⟨⟨by decide +kernel, by decide +kernel⟩, lw_t6 (List.mem_of_getElem? (i := 134) rfl), lw_t8 (List.mem_of_getElem? (i := 114) rfl), lw_t8 (List.mem_of_getElem? (i := 115) rfl)⟩
theorem lw_p67 : lw_okq (⟨"ForkJoinDeskModel", "fork", "(III)V"⟩, 77) := ⟨⟨by decide +kernel, by decide +kernel⟩, lw_t6 (List.mem_of_getElem? (i := 134) rfl), lw_t8 (List.mem_of_getElem? (i := 118) rfl), lw_t8 (List.mem_of_getElem? (i := 119) rfl)⟩
def lw_privs_5 : List (MethodName × Nat) := [(⟨"ForkJoinDeskModel", "isBeside", "(II)Z"⟩, 77), (⟨"ForkJoinDeskModel", "knot", "(IZI)I"⟩, 77), (⟨"ForkJoinDeskModel", "stepLoose", "(I)Z"⟩, 77), (⟨"ForkJoinDeskModel", "fork", "(III)V"⟩, 77)]
theorem lw_r5 : ∀ q ∈ lw_privs_5, lw_okq q := List.forall_mem_cons.mpr ⟨lw_p64, List.forall_mem_cons.mpr ⟨lw_p65, List.forall_mem_cons.mpr ⟨lw_p66, List.forall_mem_cons.mpr ⟨lw_p67, fun _ h => absurd h List.not_mem_nil⟩⟩⟩⟩
def lw_privs : List (MethodName × Nat) := lw_privs_1 ++ (lw_privs_2 ++ (lw_privs_3 ++ (lw_privs_4 ++ (lw_privs_5))))
def lw_tbl : List Cond := k2_sels lw_privs ++ tables_1
theorem lw_privs_ok : ∀ q ∈ lw_privs, lw_okq q := by
  show ∀ q ∈ lw_privs_1 ++ (lw_privs_2 ++ (lw_privs_3 ++ (lw_privs_4 ++ (lw_privs_5)))), lw_okq q
  exact List.forall_mem_append.mpr ⟨lw_r1, List.forall_mem_append.mpr ⟨lw_r2, List.forall_mem_append.mpr ⟨lw_r3, List.forall_mem_append.mpr ⟨lw_r4, lw_r5⟩⟩⟩⟩
-- ===== ONE list of words for every method: the tables' words that hold all through a run =====
def lw_all : List Cond := lw_tbl.filter goodWord
/-- a word of the tables by its place: claim/WORDS.tsv -/
theorem lw_w {w : Cond} (i : Nat) (h : lw_tbl[i]? = some w) (g : goodWord w = true) : w ∈ lw_all := List.mem_filter.mpr ⟨List.mem_of_getElem? h, g⟩
theorem lw_all_tbl {w : Cond} (h : w ∈ lw_all) : w ∈ lw_tbl := (List.mem_filter.mp h).1
theorem lw_self : GoodIn lw_all lw_all := fun w h => ⟨h, good_of_word (List.mem_filter.mp h).2⟩
/-- a class's field words, by their places -/
theorem lw_in (ws : List Cond) (ps : List Nat) (hp : ws = ps.filterMap (fun i => lw_tbl[i]?)) (hg : ws.all goodWord = true) : ∀ w ∈ ws, w ∈ lw_all := by
  intro w h
  have h1 := List.all_eq_true.mp hg w h
  rw [hp] at h
  obtain ⟨i, -, hi⟩ := List.mem_filterMap.mp h
  exact lw_w i hi h1
/-- the words of a contract for the method y with code b, L locals, answer r -/
abbrev ws_ (y : MethodName) (b : ByteArray) (L : Nat) (r : Option FieldType) : List Cond := Cond.code y b L r :: lw_all
theorem lw_meth {y : MethodName} {b : ByteArray} {L : Nat} {r : Option FieldType} (h : Cond.code y b L r ∈ lw_all) : GoodIn lw_all (ws_ y b L r) := by
  intro w hw
  rcases List.mem_cons.mp hw with e | e
  · rw [e]
    exact lw_self _ h
  · exact lw_self _ e
theorem lw_app {a c : List Cond} (ha : ∀ w ∈ a, w ∈ lw_all) (hc : GoodIn lw_all c) : GoodIn lw_all (a ++ c) := by
  intro w hw
  rcases List.mem_append.mp hw with e | e
  · exact lw_self w (ha w e)
  · exact hc w e
/-- what a call through an object asks: cwV n hts (lw_V ..) -/
theorem lw_V {own : String} {idx : Nat} {C : String} {y : MethodName} {b : ByteArray} {L : Nat} {r : Option FieldType} (h1 : Cond.methodLink own idx y ∈ lw_all) (h2 : Cond.instanceMethod y ∈ lw_all) (h3 : Cond.selects C y y ∈ lw_all) (h4 : Cond.initialized C ∈ lw_all) (h5 : Cond.code y b L r ∈ lw_all) : GoodIn lw_all (wsV own idx C y (ws_ y b L r)) := by
  refine lw_app ?_ (lw_meth h5)
  intro w hw
  simp only [List.mem_cons, List.not_mem_nil, or_false] at hw
  rcases hw with e | e | e | e
  · rw [e]; exact h1
  · rw [e]; exact h2
  · rw [e]; exact h3
  · rw [e]; exact h4
/-- what a static call asks: va_cwS n hts (lw_S ..) -/
theorem lw_S {own : String} {idx : Nat} {y : MethodName} {b : ByteArray} {L : Nat} {r : Option FieldType} (h1 : Cond.methodLink own idx y ∈ lw_all) (h2 : Cond.static y ∈ lw_all) (h3 : Cond.initialized y.cls ∈ lw_all) (h4 : Cond.code y b L r ∈ lw_all) : GoodIn lw_all (va_wsS own idx y (ws_ y b L r)) := by
  refine lw_app ?_ (lw_meth h4)
  intro w hw
  simp only [List.mem_cons, List.not_mem_nil, or_false] at hw
  rcases hw with e | e | e
  · rw [e]; exact h1
  · rw [e]; exact h2
  · rw [e]; exact h3
/-- the words of a contract for a method WITH HANDLERS (hh: its table) -/
abbrev wsW_ (y : MethodName) (b : ByteArray) (L : Nat) (r : Option FieldType) (hh : List (Nat × Nat × Nat × Nat)) : List Cond := Cond.codeWith y b L r hh :: lw_all
theorem lw_methW {y : MethodName} {b : ByteArray} {L : Nat} {r : Option FieldType} {hh : List (Nat × Nat × Nat × Nat)} (h : Cond.codeWith y b L r hh ∈ lw_all) : GoodIn lw_all (wsW_ y b L r hh) := by
  intro w hw
  rcases List.mem_cons.mp hw with e | e
  · rw [e]
    exact lw_self _ h
  · exact lw_self _ e
/-- any list of words by their places (lw_in), good -/
theorem lw_good {ws : List Cond} (h : ∀ w ∈ ws, w ∈ lw_all) : GoodIn lw_all ws := fun w hw => lw_self w (h w hw)
/-- what a call of a method with handlers asks: vx_cwVW n hts (lw_VW ..), vx_cwSW n hts (lw_SW ..) -/
theorem lw_VW {own : String} {idx : Nat} {C : String} {y : MethodName} {b : ByteArray} {L : Nat} {r : Option FieldType} {hh : List (Nat × Nat × Nat × Nat)} (h1 : Cond.methodLink own idx y ∈ lw_all) (h2 : Cond.instanceMethod y ∈ lw_all) (h3 : Cond.selects C y y ∈ lw_all) (h4 : Cond.initialized C ∈ lw_all) (h5 : Cond.codeWith y b L r hh ∈ lw_all) : GoodIn lw_all (wsV own idx C y (wsW_ y b L r hh)) := by
  refine lw_app ?_ (lw_methW h5)
  intro w hw
  simp only [List.mem_cons, List.not_mem_nil, or_false] at hw
  rcases hw with e | e | e | e
  · rw [e]; exact h1
  · rw [e]; exact h2
  · rw [e]; exact h3
  · rw [e]; exact h4
theorem lw_SW {own : String} {idx : Nat} {y : MethodName} {b : ByteArray} {L : Nat} {r : Option FieldType} {hh : List (Nat × Nat × Nat × Nat)} (h1 : Cond.methodLink own idx y ∈ lw_all) (h2 : Cond.static y ∈ lw_all) (h3 : Cond.initialized y.cls ∈ lw_all) (h4 : Cond.codeWith y b L r hh ∈ lw_all) : GoodIn lw_all (va_wsS own idx y (wsW_ y b L r hh)) := by
  refine lw_app ?_ (lw_methW h4)
  intro w hw
  simp only [List.mem_cons, List.not_mem_nil, or_false] at hw
  rcases hw with e | e | e
  · rw [e]; exact h1
  · rw [e]; exact h2
  · rw [e]; exact h3
/-- a word by its place in its run of the tables -/
theorem lw_at {r : List Cond} (hr : ∀ w ∈ r, w ∈ lw_tbl) {w : Cond} (i : Nat) (h : r[i]? = some w) : w ∈ lw_tbl := hr w (List.mem_of_getElem? h)
theorem lw_g {w : Cond} (h : w ∈ lw_tbl) (g : goodWord w = true) : w ∈ lw_all := List.mem_filter.mpr ⟨h, g⟩
theorem lw_ms : ∀ w ∈ k2_sels lw_privs, w ∈ lw_tbl := fun w h => show w ∈ k2_sels lw_privs ++ tables_1 from List.mem_append_left _ h
theorem lw_m1 : ∀ w ∈ tables_1_1, w ∈ lw_tbl := fun w h => show w ∈ k2_sels lw_privs ++ tables_1 from List.mem_append_right (k2_sels lw_privs) (show w ∈ tables_1 from List.mem_append_left _ h)
theorem lw_m2 : ∀ w ∈ tables_1_2, w ∈ lw_tbl := fun w h => show w ∈ k2_sels lw_privs ++ tables_1 from List.mem_append_right (k2_sels lw_privs) (show w ∈ tables_1 from List.mem_append_right _ (List.mem_append_left _ h))
theorem lw_m3 : ∀ w ∈ tables_1_3, w ∈ lw_tbl := fun w h => show w ∈ k2_sels lw_privs ++ tables_1 from List.mem_append_right (k2_sels lw_privs) (show w ∈ tables_1 from List.mem_append_right _ (List.mem_append_right _ (List.mem_append_left _ h)))
theorem lw_m4 : ∀ w ∈ tables_1_4, w ∈ lw_tbl := fun w h => show w ∈ k2_sels lw_privs ++ tables_1 from List.mem_append_right (k2_sels lw_privs) (show w ∈ tables_1 from List.mem_append_right _ (List.mem_append_right _ (List.mem_append_right _ (List.mem_append_left _ h))))
theorem lw_m5 : ∀ w ∈ tables_1_5, w ∈ lw_tbl := fun w h => show w ∈ k2_sels lw_privs ++ tables_1 from List.mem_append_right (k2_sels lw_privs) (show w ∈ tables_1 from List.mem_append_right _ (List.mem_append_right _ (List.mem_append_right _ (List.mem_append_right _ (List.mem_append_left _ h)))))
theorem lw_m6 : ∀ w ∈ tables_1_6, w ∈ lw_tbl := fun w h => show w ∈ k2_sels lw_privs ++ tables_1 from List.mem_append_right (k2_sels lw_privs) (show w ∈ tables_1 from List.mem_append_right _ (List.mem_append_right _ (List.mem_append_right _ (List.mem_append_right _ (List.mem_append_right _ (List.mem_append_left _ h))))))
theorem lw_m7 : ∀ w ∈ tables_1_7, w ∈ lw_tbl := fun w h => show w ∈ k2_sels lw_privs ++ tables_1 from List.mem_append_right (k2_sels lw_privs) (show w ∈ tables_1 from List.mem_append_right _ (List.mem_append_right _ (List.mem_append_right _ (List.mem_append_right _ (List.mem_append_right _ (List.mem_append_right _ (List.mem_append_left _ h)))))))
theorem lw_m8 : ∀ w ∈ tables_1_8, w ∈ lw_tbl := fun w h => show w ∈ k2_sels lw_privs ++ tables_1 from List.mem_append_right (k2_sels lw_privs) (show w ∈ tables_1 from List.mem_append_right _ (List.mem_append_right _ (List.mem_append_right _ (List.mem_append_right _ (List.mem_append_right _ (List.mem_append_right _ (List.mem_append_right _ h)))))))
theorem qs0 : (Cond.selects "java/lang/Throwable" ⟨"java/lang/Throwable", "fillInStackTrace", "(I)Ljava/lang/Throwable;"⟩ ⟨"java/lang/Throwable", "fillInStackTrace", "(I)Ljava/lang/Throwable;"⟩) ∈ lw_all := lw_g (lw_at lw_ms 0 rfl) rfl
theorem qs1 : (Cond.selects "java/util/ArrayList" ⟨"java/util/ArrayList", "add", "(Ljava/lang/Object;[Ljava/lang/Object;I)V"⟩ ⟨"java/util/ArrayList", "add", "(Ljava/lang/Object;[Ljava/lang/Object;I)V"⟩) ∈ lw_all := lw_g (lw_at lw_ms 1 rfl) rfl
theorem qs2 : (Cond.selects "java/util/ArrayList" ⟨"java/util/ArrayList", "grow", "()[Ljava/lang/Object;"⟩ ⟨"java/util/ArrayList", "grow", "()[Ljava/lang/Object;"⟩) ∈ lw_all := lw_g (lw_at lw_ms 2 rfl) rfl
theorem qs3 : (Cond.selects "java/util/ArrayList" ⟨"java/util/ArrayList", "grow", "(I)[Ljava/lang/Object;"⟩ ⟨"java/util/ArrayList", "grow", "(I)[Ljava/lang/Object;"⟩) ∈ lw_all := lw_g (lw_at lw_ms 3 rfl) rfl
theorem qs4 : (Cond.selects "ForkJoinDesk$Loose" ⟨"ForkJoinDesk$Loose", "add", "()LForkJoinDesk$Fiber;"⟩ ⟨"ForkJoinDesk$Loose", "add", "()LForkJoinDesk$Fiber;"⟩) ∈ lw_all := lw_g (lw_at lw_ms 4 rfl) rfl
theorem qs5 : (Cond.selects "ForkJoinDesk$Loose" ⟨"ForkJoinDesk$Loose", "part", "(I)I"⟩ ⟨"ForkJoinDesk$Loose", "part", "(I)I"⟩) ∈ lw_all := lw_g (lw_at lw_ms 5 rfl) rfl
theorem qs6 : (Cond.selects "ForkJoinDesk$Compiler" ⟨"ForkJoinDesk$Compiler", "procedureComes", "()V"⟩ ⟨"ForkJoinDesk$Compiler", "procedureComes", "()V"⟩) ∈ lw_all := lw_g (lw_at lw_ms 6 rfl) rfl
theorem qs7 : (Cond.selects "ForkJoinDesk$Compiler" ⟨"ForkJoinDesk$Compiler", "here", "()I"⟩ ⟨"ForkJoinDesk$Compiler", "here", "()I"⟩) ∈ lw_all := lw_g (lw_at lw_ms 7 rfl) rfl
theorem qs8 : (Cond.selects "ForkJoinDesk$Compiler" ⟨"ForkJoinDesk$Compiler", "wrong", "(I)Ljava/lang/IllegalArgumentException;"⟩ ⟨"ForkJoinDesk$Compiler", "wrong", "(I)Ljava/lang/IllegalArgumentException;"⟩) ∈ lw_all := lw_g (lw_at lw_ms 8 rfl) rfl
theorem qs9 : (Cond.selects "ForkJoinDesk$Compiler" ⟨"ForkJoinDesk$Compiler", "need", "(I)V"⟩ ⟨"ForkJoinDesk$Compiler", "need", "(I)V"⟩) ∈ lw_all := lw_g (lw_at lw_ms 9 rfl) rfl
theorem qs10 : (Cond.selects "ForkJoinDesk$Compiler" ⟨"ForkJoinDesk$Compiler", "takes", "(I)Z"⟩ ⟨"ForkJoinDesk$Compiler", "takes", "(I)Z"⟩) ∈ lw_all := lw_g (lw_at lw_ms 10 rfl) rfl
theorem qs11 : (Cond.selects "ForkJoinDesk$Compiler" ⟨"ForkJoinDesk$Compiler", "parameter", "(I)V"⟩ ⟨"ForkJoinDesk$Compiler", "parameter", "(I)V"⟩) ∈ lw_all := lw_g (lw_at lw_ms 11 rfl) rfl
theorem qs12 : (Cond.selects "ForkJoinDesk$Compiler" ⟨"ForkJoinDesk$Compiler", "comma", "()I"⟩ ⟨"ForkJoinDesk$Compiler", "comma", "()I"⟩) ∈ lw_all := lw_g (lw_at lw_ms 12 rfl) rfl
theorem qs13 : (Cond.selects "ForkJoinDesk$Compiler" ⟨"ForkJoinDesk$Compiler", "block", "(I)V"⟩ ⟨"ForkJoinDesk$Compiler", "block", "(I)V"⟩) ∈ lw_all := lw_g (lw_at lw_ms 13 rfl) rfl
theorem qs14 : (Cond.selects "ForkJoinDesk$Compiler" ⟨"ForkJoinDesk$Compiler", "open", "(II)V"⟩ ⟨"ForkJoinDesk$Compiler", "open", "(II)V"⟩) ∈ lw_all := lw_g (lw_at lw_ms 14 rfl) rfl
theorem qs15 : (Cond.selects "ForkJoinDesk$Compiler" ⟨"ForkJoinDesk$Compiler", "statement", "(I)V"⟩ ⟨"ForkJoinDesk$Compiler", "statement", "(I)V"⟩) ∈ lw_all := lw_g (lw_at lw_ms 15 rfl) rfl
theorem qs16 : (Cond.selects "ForkJoinDesk$Compiler" ⟨"ForkJoinDesk$Compiler", "choice", "(ZI)V"⟩ ⟨"ForkJoinDesk$Compiler", "choice", "(ZI)V"⟩) ∈ lw_all := lw_g (lw_at lw_ms 16 rfl) rfl
theorem qs17 : (Cond.selects "ForkJoinDesk$Compiler" ⟨"ForkJoinDesk$Compiler", "bracket", "(I)V"⟩ ⟨"ForkJoinDesk$Compiler", "bracket", "(I)V"⟩) ∈ lw_all := lw_g (lw_at lw_ms 17 rfl) rfl
theorem qs18 : (Cond.selects "ForkJoinDesk$Compiler" ⟨"ForkJoinDesk$Compiler", "expression", "(I)V"⟩ ⟨"ForkJoinDesk$Compiler", "expression", "(I)V"⟩) ∈ lw_all := lw_g (lw_at lw_ms 18 rfl) rfl
theorem qs19 : (Cond.selects "ForkJoinDesk$Compiler" ⟨"ForkJoinDesk$Compiler", "sum", "(I)V"⟩ ⟨"ForkJoinDesk$Compiler", "sum", "(I)V"⟩) ∈ lw_all := lw_g (lw_at lw_ms 19 rfl) rfl
theorem qs20 : (Cond.selects "ForkJoinDesk$Compiler" ⟨"ForkJoinDesk$Compiler", "product", "(I)V"⟩ ⟨"ForkJoinDesk$Compiler", "product", "(I)V"⟩) ∈ lw_all := lw_g (lw_at lw_ms 20 rfl) rfl
theorem qs21 : (Cond.selects "ForkJoinDesk$Compiler" ⟨"ForkJoinDesk$Compiler", "atom", "(II)V"⟩ ⟨"ForkJoinDesk$Compiler", "atom", "(II)V"⟩) ∈ lw_all := lw_g (lw_at lw_ms 21 rfl) rfl
theorem qs22 : (Cond.selects "ForkJoinDesk$Compiler" ⟨"ForkJoinDesk$Compiler", "emit", "(LForkJoinDesk$Op;II)V"⟩ ⟨"ForkJoinDesk$Compiler", "emit", "(LForkJoinDesk$Op;II)V"⟩) ∈ lw_all := lw_g (lw_at lw_ms 22 rfl) rfl
theorem qs23 : (Cond.selects "ForkJoinDesk$Compiler" ⟨"ForkJoinDesk$Compiler", "number", "()V"⟩ ⟨"ForkJoinDesk$Compiler", "number", "()V"⟩) ∈ lw_all := lw_g (lw_at lw_ms 23 rfl) rfl
theorem qs24 : (Cond.selects "ForkJoinDesk$Compiler" ⟨"ForkJoinDesk$Compiler", "put", "(II)V"⟩ ⟨"ForkJoinDesk$Compiler", "put", "(II)V"⟩) ∈ lw_all := lw_g (lw_at lw_ms 24 rfl) rfl
theorem qs25 : (Cond.selects "ForkJoinDesk$Compiler" ⟨"ForkJoinDesk$Compiler", "use", "(ZI)V"⟩ ⟨"ForkJoinDesk$Compiler", "use", "(ZI)V"⟩) ∈ lw_all := lw_g (lw_at lw_ms 25 rfl) rfl
theorem qs26 : (Cond.selects "ForkJoinDesk$Compiler" ⟨"ForkJoinDesk$Compiler", "resolved", "()LForkJoinDesk$Program;"⟩ ⟨"ForkJoinDesk$Compiler", "resolved", "()LForkJoinDesk$Program;"⟩) ∈ lw_all := lw_g (lw_at lw_ms 26 rfl) rfl
theorem qs27 : (Cond.selects "ForkJoinDesk$Serial" ⟨"ForkJoinDesk$Serial", "grow", "(I)I"⟩ ⟨"ForkJoinDesk$Serial", "grow", "(I)I"⟩) ∈ lw_all := lw_g (lw_at lw_ms 27 rfl) rfl
theorem qs28 : (Cond.selects "ForkJoinDesk$Serial" ⟨"ForkJoinDesk$Serial", "gather", "(LForkJoinDesk$Frame;)V"⟩ ⟨"ForkJoinDesk$Serial", "gather", "(LForkJoinDesk$Frame;)V"⟩) ∈ lw_all := lw_g (lw_at lw_ms 28 rfl) rfl
theorem qs29 : (Cond.selects "ForkJoinDesk$Serial" ⟨"ForkJoinDesk$Serial", "find", "(I)I"⟩ ⟨"ForkJoinDesk$Serial", "find", "(I)I"⟩) ∈ lw_all := lw_g (lw_at lw_ms 29 rfl) rfl
theorem qs30 : (Cond.selects "ForkJoinDesk$Serial" ⟨"ForkJoinDesk$Serial", "leave", "(LForkJoinDesk$Frame;LForkJoinDesk$Frame;)V"⟩ ⟨"ForkJoinDesk$Serial", "leave", "(LForkJoinDesk$Frame;LForkJoinDesk$Frame;)V"⟩) ∈ lw_all := lw_g (lw_at lw_ms 30 rfl) rfl
theorem qs31 : (Cond.selects "ForkJoinDesk$Serial" ⟨"ForkJoinDesk$Serial", "lies", "(I)Z"⟩ ⟨"ForkJoinDesk$Serial", "lies", "(I)Z"⟩) ∈ lw_all := lw_g (lw_at lw_ms 31 rfl) rfl
theorem qs32 : (Cond.selects "ForkJoinDesk$Serial" ⟨"ForkJoinDesk$Serial", "rankAll", "()V"⟩ ⟨"ForkJoinDesk$Serial", "rankAll", "()V"⟩) ∈ lw_all := lw_g (lw_at lw_ms 32 rfl) rfl
theorem qs33 : (Cond.selects "ForkJoinDeskModel" ⟨"ForkJoinDeskModel", "read", "()Z"⟩ ⟨"ForkJoinDeskModel", "read", "()Z"⟩) ∈ lw_all := lw_g (lw_at lw_ms 33 rfl) rfl
theorem qs34 : (Cond.selects "ForkJoinDeskModel" ⟨"ForkJoinDeskModel", "skip", "()V"⟩ ⟨"ForkJoinDeskModel", "skip", "()V"⟩) ∈ lw_all := lw_g (lw_at lw_ms 34 rfl) rfl
theorem qs35 : (Cond.selects "ForkJoinDeskModel" ⟨"ForkJoinDeskModel", "push", "(I)V"⟩ ⟨"ForkJoinDeskModel", "push", "(I)V"⟩) ∈ lw_all := lw_g (lw_at lw_ms 35 rfl) rfl
theorem qs36 : (Cond.selects "ForkJoinDeskModel" ⟨"ForkJoinDeskModel", "emit", "(III)V"⟩ ⟨"ForkJoinDeskModel", "emit", "(III)V"⟩) ∈ lw_all := lw_g (lw_at lw_ms 36 rfl) rfl
theorem qs37 : (Cond.selects "ForkJoinDeskModel" ⟨"ForkJoinDeskModel", "turn", "(I)V"⟩ ⟨"ForkJoinDeskModel", "turn", "(I)V"⟩) ∈ lw_all := lw_g (lw_at lw_ms 37 rfl) rfl
theorem qs38 : (Cond.selects "ForkJoinDeskModel" ⟨"ForkJoinDeskModel", "here", "()I"⟩ ⟨"ForkJoinDeskModel", "here", "()I"⟩) ∈ lw_all := lw_g (lw_at lw_ms 38 rfl) rfl
theorem qs39 : (Cond.selects "ForkJoinDeskModel" ⟨"ForkJoinDeskModel", "more", "()V"⟩ ⟨"ForkJoinDeskModel", "more", "()V"⟩) ∈ lw_all := lw_g (lw_at lw_ms 39 rfl) rfl
theorem qs40 : (Cond.selects "ForkJoinDeskModel" ⟨"ForkJoinDeskModel", "refuse", "(I)V"⟩ ⟨"ForkJoinDeskModel", "refuse", "(I)V"⟩) ∈ lw_all := lw_g (lw_at lw_ms 40 rfl) rfl
theorem qs41 : (Cond.selects "ForkJoinDeskModel" ⟨"ForkJoinDeskModel", "procedure", "()V"⟩ ⟨"ForkJoinDeskModel", "procedure", "()V"⟩) ∈ lw_all := lw_g (lw_at lw_ms 41 rfl) rfl
theorem qs42 : (Cond.selects "ForkJoinDeskModel" ⟨"ForkJoinDeskModel", "named", "(I)I"⟩ ⟨"ForkJoinDeskModel", "named", "(I)I"⟩) ∈ lw_all := lw_g (lw_at lw_ms 42 rfl) rfl
theorem qs43 : (Cond.selects "ForkJoinDeskModel" ⟨"ForkJoinDeskModel", "take", "()V"⟩ ⟨"ForkJoinDeskModel", "take", "()V"⟩) ∈ lw_all := lw_g (lw_at lw_ms 43 rfl) rfl
theorem qs44 : (Cond.selects "ForkJoinDeskModel" ⟨"ForkJoinDeskModel", "parameter", "()V"⟩ ⟨"ForkJoinDeskModel", "parameter", "()V"⟩) ∈ lw_all := lw_g (lw_at lw_ms 44 rfl) rfl
theorem qs45 : (Cond.selects "ForkJoinDeskModel" ⟨"ForkJoinDeskModel", "statement", "()V"⟩ ⟨"ForkJoinDeskModel", "statement", "()V"⟩) ∈ lw_all := lw_g (lw_at lw_ms 45 rfl) rfl
theorem qs46 : (Cond.selects "ForkJoinDeskModel" ⟨"ForkJoinDeskModel", "called", "(Z)V"⟩ ⟨"ForkJoinDeskModel", "called", "(Z)V"⟩) ∈ lw_all := lw_g (lw_at lw_ms 46 rfl) rfl
theorem qs47 : (Cond.selects "ForkJoinDeskModel" ⟨"ForkJoinDeskModel", "patchTo", "(II)V"⟩ ⟨"ForkJoinDeskModel", "patchTo", "(II)V"⟩) ∈ lw_all := lw_g (lw_at lw_ms 47 rfl) rfl
theorem qs48 : (Cond.selects "ForkJoinDeskModel" ⟨"ForkJoinDeskModel", "tested", "()V"⟩ ⟨"ForkJoinDeskModel", "tested", "()V"⟩) ∈ lw_all := lw_g (lw_at lw_ms 48 rfl) rfl
theorem qs49 : (Cond.selects "ForkJoinDeskModel" ⟨"ForkJoinDeskModel", "between", "(IZII)V"⟩ ⟨"ForkJoinDeskModel", "between", "(IZII)V"⟩) ∈ lw_all := lw_g (lw_at lw_ms 49 rfl) rfl
theorem qs50 : (Cond.selects "ForkJoinDeskModel" ⟨"ForkJoinDeskModel", "atom", "()V"⟩ ⟨"ForkJoinDeskModel", "atom", "()V"⟩) ∈ lw_all := lw_g (lw_at lw_ms 50 rfl) rfl
theorem qs51 : (Cond.selects "ForkJoinDeskModel" ⟨"ForkJoinDeskModel", "settle", "()Z"⟩ ⟨"ForkJoinDeskModel", "settle", "()Z"⟩) ∈ lw_all := lw_g (lw_at lw_ms 51 rfl) rfl
theorem qs52 : (Cond.selects "ForkJoinDeskModel" ⟨"ForkJoinDeskModel", "raise", "(I)I"⟩ ⟨"ForkJoinDeskModel", "raise", "(I)I"⟩) ∈ lw_all := lw_g (lw_at lw_ms 52 rfl) rfl
theorem qs53 : (Cond.selects "ForkJoinDeskModel" ⟨"ForkJoinDeskModel", "strandFrom", "(I)I"⟩ ⟨"ForkJoinDeskModel", "strandFrom", "(I)I"⟩) ∈ lw_all := lw_g (lw_at lw_ms 53 rfl) rfl
theorem qs54 : (Cond.selects "ForkJoinDeskModel" ⟨"ForkJoinDeskModel", "enterSerial", "(IZ)V"⟩ ⟨"ForkJoinDeskModel", "enterSerial", "(IZ)V"⟩) ∈ lw_all := lw_g (lw_at lw_ms 54 rfl) rfl
theorem qs55 : (Cond.selects "ForkJoinDeskModel" ⟨"ForkJoinDeskModel", "enter", "(III)V"⟩ ⟨"ForkJoinDeskModel", "enter", "(III)V"⟩) ∈ lw_all := lw_g (lw_at lw_ms 55 rfl) rfl
theorem qs56 : (Cond.selects "ForkJoinDeskModel" ⟨"ForkJoinDeskModel", "stepSerial", "()V"⟩ ⟨"ForkJoinDeskModel", "stepSerial", "()V"⟩) ∈ lw_all := lw_g (lw_at lw_ms 56 rfl) rfl
theorem qs57 : (Cond.selects "ForkJoinDeskModel" ⟨"ForkJoinDeskModel", "passes", "(II)Z"⟩ ⟨"ForkJoinDeskModel", "passes", "(II)Z"⟩) ∈ lw_all := lw_g (lw_at lw_ms 57 rfl) rfl
theorem qs58 : (Cond.selects "ForkJoinDeskModel" ⟨"ForkJoinDeskModel", "join", "(I)V"⟩ ⟨"ForkJoinDeskModel", "join", "(I)V"⟩) ∈ lw_all := lw_g (lw_at lw_ms 58 rfl) rfl
theorem qs59 : (Cond.selects "ForkJoinDeskModel" ⟨"ForkJoinDeskModel", "plain", "(III)Z"⟩ ⟨"ForkJoinDeskModel", "plain", "(III)Z"⟩) ∈ lw_all := lw_g (lw_at lw_ms 59 rfl) rfl
theorem qs60 : (Cond.selects "ForkJoinDeskModel" ⟨"ForkJoinDeskModel", "give", "(II)V"⟩ ⟨"ForkJoinDeskModel", "give", "(II)V"⟩) ∈ lw_all := lw_g (lw_at lw_ms 60 rfl) rfl
theorem qs61 : (Cond.selects "ForkJoinDeskModel" ⟨"ForkJoinDeskModel", "pop", "(I)I"⟩ ⟨"ForkJoinDeskModel", "pop", "(I)I"⟩) ∈ lw_all := lw_g (lw_at lw_ms 61 rfl) rfl
theorem qs62 : (Cond.selects "ForkJoinDeskModel" ⟨"ForkJoinDeskModel", "touch", "(IZI)V"⟩ ⟨"ForkJoinDeskModel", "touch", "(IZI)V"⟩) ∈ lw_all := lw_g (lw_at lw_ms 62 rfl) rfl
theorem qs63 : (Cond.selects "ForkJoinDeskModel" ⟨"ForkJoinDeskModel", "goBack", "(I)V"⟩ ⟨"ForkJoinDeskModel", "goBack", "(I)V"⟩) ∈ lw_all := lw_g (lw_at lw_ms 63 rfl) rfl
theorem qs64 : (Cond.selects "ForkJoinDeskModel" ⟨"ForkJoinDeskModel", "isBeside", "(II)Z"⟩ ⟨"ForkJoinDeskModel", "isBeside", "(II)Z"⟩) ∈ lw_all := lw_g (lw_at lw_ms 64 rfl) rfl
theorem qs65 : (Cond.selects "ForkJoinDeskModel" ⟨"ForkJoinDeskModel", "knot", "(IZI)I"⟩ ⟨"ForkJoinDeskModel", "knot", "(IZI)I"⟩) ∈ lw_all := lw_g (lw_at lw_ms 65 rfl) rfl
theorem qs66 : (Cond.selects "ForkJoinDeskModel" ⟨"ForkJoinDeskModel", "stepLoose", "(I)Z"⟩ ⟨"ForkJoinDeskModel", "stepLoose", "(I)Z"⟩) ∈ lw_all := lw_g (lw_at lw_ms 66 rfl) rfl
theorem qs67 : (Cond.selects "ForkJoinDeskModel" ⟨"ForkJoinDeskModel", "fork", "(III)V"⟩ ⟨"ForkJoinDeskModel", "fork", "(III)V"⟩) ∈ lw_all := lw_g (lw_at lw_ms 67 rfl) rfl
