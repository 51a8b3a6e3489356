-- ===== PART A: goes FIRST, ahead of the names: the tables' words, and 'selects' of the private methods out of them =====
/-- a private method of a class that the tables say can be made, by its rows of tables_1 -/
def lw_okq (q : MethodName × Nat) : Prop := (q.1.cls ≠ "java/lang/invoke/MethodHandle" ∧ q.1.cls ≠ "java/lang/invoke/VarHandle") ∧ Cond.instantiable q.1.cls q.2 ∈ tables_1 ∧ Cond.privateMethod q.1 ∈ tables_1 ∧ Cond.instanceMethod q.1 ∈ tables_1
set_option maxRecDepth 100000
theorem lw_t1 {w : Cond} (h : w ∈ tables_1_1) : w ∈ tables_1 := List.mem_append_left _ h
theorem lw_t2 {w : Cond} (h : w ∈ tables_1_2) : w ∈ tables_1 := List.mem_append_right _ (List.mem_append_left _ h)
theorem lw_t3 {w : Cond} (h : w ∈ tables_1_3) : w ∈ tables_1 := List.mem_append_right _ (List.mem_append_right _ (List.mem_append_left _ h))
theorem lw_t4 {w : Cond} (h : w ∈ tables_1_4) : w ∈ tables_1 := List.mem_append_right _ (List.mem_append_right _ (List.mem_append_right _ (List.mem_append_left _ h)))
theorem lw_t5 {w : Cond} (h : w ∈ tables_1_5) : w ∈ tables_1 := List.mem_append_right _ (List.mem_append_right _ (List.mem_append_right _ (List.mem_append_right _ (List.mem_append_left _ h))))
theorem lw_t6 {w : Cond} (h : w ∈ tables_1_6) : w ∈ tables_1 := List.mem_append_right _ (List.mem_append_right _ (List.mem_append_right _ (List.mem_append_right _ (List.mem_append_right _ (List.mem_append_left _ h)))))
theorem lw_t7 {w : Cond} (h : w ∈ tables_1_7) : w ∈ tables_1 := List.mem_append_right _ (List.mem_append_right _ (List.mem_append_right _ (List.mem_append_right _ (List.mem_append_right _ (List.mem_append_right _ (List.mem_append_left _ h))))))
theorem lw_t8 {w : Cond} (h : w ∈ tables_1_8) : w ∈ tables_1 := List.mem_append_right _ (List.mem_append_right _ (List.mem_append_right _ (List.mem_append_right _ (List.mem_append_right _ (List.mem_append_right _ (List.mem_append_right _ (List.mem_append_left _ h)))))))
theorem lw_t9 {w : Cond} (h : w ∈ tables_1_9) : w ∈ tables_1 := List.mem_append_right _ (List.mem_append_right _ (List.mem_append_right _ (List.mem_append_right _ (List.mem_append_right _ (List.mem_append_right _ (List.mem_append_right _ (List.mem_append_right _ (List.mem_append_left _ h))))))))
theorem lw_t10 {w : Cond} (h : w ∈ tables_1_10) : w ∈ tables_1 := List.mem_append_right _ (List.mem_append_right _ (List.mem_append_right _ (List.mem_append_right _ (List.mem_append_right _ (List.mem_append_right _ (List.mem_append_right _ (List.mem_append_right _ (List.mem_append_right _ h))))))))
theorem lw_p0 : lw_okq (⟨"java/lang/Throwable", "fillInStackTrace", "(I)Ljava/lang/Throwable;"⟩, 6) := ⟨⟨by decide +kernel, by decide +kernel⟩, lw_t1 (List.mem_of_getElem? (i := 111) rfl), lw_t1 (List.mem_of_getElem? (i := 109) rfl), lw_t1 (List.mem_of_getElem? (i := 110) rfl)⟩
theorem lw_p1 : lw_okq (⟨"java/util/ArrayList", "add", "(Ljava/lang/Object;[Ljava/lang/Object;I)V"⟩, 3) := ⟨⟨by decide +kernel, by decide +kernel⟩, lw_t1 (List.mem_of_getElem? (i := 57) rfl), lw_t3 (List.mem_of_getElem? (i := 62) rfl), lw_t3 (List.mem_of_getElem? (i := 63) rfl)⟩
theorem lw_p2 : lw_okq (⟨"java/util/ArrayList", "grow", "()[Ljava/lang/Object;"⟩, 3) := ⟨⟨by decide +kernel, by decide +kernel⟩, lw_t1 (List.mem_of_getElem? (i := 57) rfl), lw_t3 (List.mem_of_getElem? (i := 66) rfl), lw_t3 (List.mem_of_getElem? (i := 67) rfl)⟩
theorem lw_p3 : lw_okq (⟨"java/util/ArrayList", "grow", "(I)[Ljava/lang/Object;"⟩, 3) := ⟨⟨by decide +kernel, by decide +kernel⟩, lw_t1 (List.mem_of_getElem? (i := 57) rfl), lw_t3 (List.mem_of_getElem? (i := 70) rfl), lw_t3 (List.mem_of_getElem? (i := 71) rfl)⟩
theorem lw_p4 : lw_okq (⟨"ApartBench", "lay", "(I)V"⟩, 11) := ⟨⟨by decide +kernel, by decide +kernel⟩, lw_t1 (List.mem_of_getElem? (i := 43) rfl), lw_t4 (List.mem_of_getElem? (i := 24) rfl), lw_t4 (List.mem_of_getElem? (i := 25) rfl)⟩
theorem lw_p5 : lw_okq (⟨"ApartBench$Reader", "go", "()V"⟩, 9) := ⟨⟨by decide +kernel, by decide +kernel⟩, lw_t4 (List.mem_of_getElem? (i := 84) rfl), lw_t4 (List.mem_of_getElem? (i := 91) rfl), lw_t4 (List.mem_of_getElem? (i := 92) rfl)⟩
theorem lw_p6 : lw_okq (⟨"ApartBench$Reader", "byteAt", "(I)I"⟩, 9) := ⟨⟨by decide +kernel, by decide +kernel⟩, lw_t4 (List.mem_of_getElem? (i := 84) rfl), lw_t4 (List.mem_of_getElem? (i := 95) rfl), lw_t4 (List.mem_of_getElem? (i := 96) rfl)⟩
theorem lw_p7 : lw_okq (⟨"ApartBench$Reader", "is", "(Ljava/lang/String;)Z"⟩, 9) := ⟨⟨by decide +kernel, by decide +kernel⟩, lw_t4 (List.mem_of_getElem? (i := 84) rfl), lw_t4 (List.mem_of_getElem? (i := 193) rfl), lw_t4 (List.mem_of_getElem? (i := 194) rfl)⟩
theorem lw_p8 : lw_okq (⟨"ApartBench$Reader", "check", "(ZI)V"⟩, 9) := ⟨⟨by decide +kernel, by decide +kernel⟩, lw_t4 (List.mem_of_getElem? (i := 84) rfl), lw_t4 (List.mem_of_getElem? (i := 204) rfl), lw_t4 (List.mem_of_getElem? (i := 205) rfl)⟩
theorem lw_p9 : lw_okq (⟨"ApartBench$Reader", "road", "(LApartBench$Land;)V"⟩, 9) := ⟨⟨by decide +kernel, by decide +kernel⟩, lw_t4 (List.mem_of_getElem? (i := 84) rfl), lw_t4 (List.mem_of_getElem? (i := 233) rfl), lw_t4 (List.mem_of_getElem? (i := 234) rfl)⟩
theorem lw_p10 : lw_okq (⟨"ApartBench$Reader", "amongHere", "(I)I"⟩, 9) := ⟨⟨by decide +kernel, by decide +kernel⟩, lw_t4 (List.mem_of_getElem? (i := 84) rfl), lw_t4 (List.mem_of_getElem? (i := 237) rfl), lw_t4 (List.mem_of_getElem? (i := 238) rfl)⟩
theorem lw_p11 : lw_okq (⟨"ApartBench$Reader", "number", "(II)I"⟩, 9) := ⟨⟨by decide +kernel, by decide +kernel⟩, lw_t4 (List.mem_of_getElem? (i := 84) rfl), lw_t5 (List.mem_of_getElem? (i := 1) rfl), lw_t5 (List.mem_of_getElem? (i := 2) rfl)⟩
theorem lw_p12 : lw_okq (⟨"ApartBench$Reader", "begins", "(Ljava/lang/String;I)Z"⟩, 9) := ⟨⟨by decide +kernel, by decide +kernel⟩, lw_t4 (List.mem_of_getElem? (i := 84) rfl), lw_t5 (List.mem_of_getElem? (i := 6) rfl), lw_t5 (List.mem_of_getElem? (i := 7) rfl)⟩
theorem lw_p13 : lw_okq (⟨"ApartBench$Reader", "expr", "(I)LApartBench$Expr;"⟩, 9) := ⟨⟨by decide +kernel, by decide +kernel⟩, lw_t4 (List.mem_of_getElem? (i := 84) rfl), lw_t5 (List.mem_of_getElem? (i := 11) rfl), lw_t5 (List.mem_of_getElem? (i := 12) rfl)⟩
theorem lw_p14 : lw_okq (⟨"ApartBench$Reader", "and", "(I)LApartBench$Expr;"⟩, 9) := ⟨⟨by decide +kernel, by decide +kernel⟩, lw_t4 (List.mem_of_getElem? (i := 84) rfl), lw_t5 (List.mem_of_getElem? (i := 16) rfl), lw_t5 (List.mem_of_getElem? (i := 17) rfl)⟩
theorem lw_p15 : lw_okq (⟨"ApartBench$Reader", "not", "(I)LApartBench$Expr;"⟩, 9) := ⟨⟨by decide +kernel, by decide +kernel⟩, lw_t4 (List.mem_of_getElem? (i := 84) rfl), lw_t5 (List.mem_of_getElem? (i := 20) rfl), lw_t5 (List.mem_of_getElem? (i := 21) rfl)⟩
def lw_privs_1 : List (MethodName × Nat) := [(⟨"java/lang/Throwable", "fillInStackTrace", "(I)Ljava/lang/Throwable;"⟩, 6), (⟨"java/util/ArrayList", "add", "(Ljava/lang/Object;[Ljava/lang/Object;I)V"⟩, 3), (⟨"java/util/ArrayList", "grow", "()[Ljava/lang/Object;"⟩, 3), (⟨"java/util/ArrayList", "grow", "(I)[Ljava/lang/Object;"⟩, 3), (⟨"ApartBench", "lay", "(I)V"⟩, 11), (⟨"ApartBench$Reader", "go", "()V"⟩, 9), (⟨"ApartBench$Reader", "byteAt", "(I)I"⟩, 9), (⟨"ApartBench$Reader", "is", "(Ljava/lang/String;)Z"⟩, 9), (⟨"ApartBench$Reader", "check", "(ZI)V"⟩, 9), (⟨"ApartBench$Reader", "road", "(LApartBench$Land;)V"⟩, 9), (⟨"ApartBench$Reader", "amongHere", "(I)I"⟩, 9), (⟨"ApartBench$Reader", "number", "(II)I"⟩, 9), (⟨"ApartBench$Reader", "begins", "(Ljava/lang/String;I)Z"⟩, 9), (⟨"ApartBench$Reader", "expr", "(I)LApartBench$Expr;"⟩, 9), (⟨"ApartBench$Reader", "and", "(I)LApartBench$Expr;"⟩, 9), (⟨"ApartBench$Reader", "not", "(I)LApartBench$Expr;"⟩, 9)]
theorem lw_r1 : ∀ q ∈ lw_privs_1, lw_okq q := List.forall_mem_cons.mpr ⟨lw_p0, List.forall_mem_cons.mpr ⟨lw_p1, List.forall_mem_cons.mpr ⟨lw_p2, List.forall_mem_cons.mpr ⟨lw_p3, List.forall_mem_cons.mpr ⟨lw_p4, List.forall_mem_cons.mpr ⟨lw_p5, List.forall_mem_cons.mpr ⟨lw_p6, List.forall_mem_cons.mpr ⟨lw_p7, List.forall_mem_cons.mpr ⟨lw_p8, List.forall_mem_cons.mpr ⟨lw_p9, List.forall_mem_cons.mpr ⟨lw_p10, List.forall_mem_cons.mpr ⟨lw_p11, List.forall_mem_cons.mpr ⟨lw_p12, List.forall_mem_cons.mpr ⟨lw_p13, List.forall_mem_cons.mpr ⟨lw_p14, List.forall_mem_cons.mpr ⟨lw_p15, fun _ h => absurd h List.not_mem_nil⟩⟩⟩⟩⟩⟩⟩⟩⟩⟩⟩⟩⟩⟩⟩⟩
theorem lw_p16 : lw_okq (⟨"ApartBench$Reader", "sum", "(I)LApartBench$Expr;"⟩, 9) := ⟨⟨by decide +kernel, by decide +kernel⟩, lw_t4 (List.mem_of_getElem? (i := 84) rfl), lw_t5 (List.mem_of_getElem? (i := 25) rfl), lw_t5 (List.mem_of_getElem? (i := 26) rfl)⟩
theorem lw_p17 : lw_okq (⟨"ApartBench$Reader", "product", "(I)LApartBench$Expr;"⟩, 9) := ⟨⟨by decide +kernel, by decide +kernel⟩, lw_t4 (List.mem_of_getElem? (i := 84) rfl), lw_t5 (List.mem_of_getElem? (i := 29) rfl), lw_t5 (List.mem_of_getElem? (i := 30) rfl)⟩
theorem lw_p18 : lw_okq (⟨"ApartBench$Reader", "part", "(I)LApartBench$Expr;"⟩, 9) := ⟨⟨by decide +kernel, by decide +kernel⟩, lw_t4 (List.mem_of_getElem? (i := 84) rfl), lw_t5 (List.mem_of_getElem? (i := 33) rfl), lw_t5 (List.mem_of_getElem? (i := 34) rfl)⟩
theorem lw_p19 : lw_okq (⟨"ApartBench$Reader", "need", "(Ljava/lang/String;)V"⟩, 9) := ⟨⟨by decide +kernel, by decide +kernel⟩, lw_t4 (List.mem_of_getElem? (i := 84) rfl), lw_t5 (List.mem_of_getElem? (i := 51) rfl), lw_t5 (List.mem_of_getElem? (i := 52) rfl)⟩
theorem lw_p20 : lw_okq (⟨"ApartBench$Reader", "cause", "(LApartBench$Land;)V"⟩, 9) := ⟨⟨by decide +kernel, by decide +kernel⟩, lw_t4 (List.mem_of_getElem? (i := 84) rfl), lw_t5 (List.mem_of_getElem? (i := 133) rfl), lw_t5 (List.mem_of_getElem? (i := 134) rfl)⟩
theorem lw_p21 : lw_okq (⟨"ApartBench$Reader", "judge", "(LApartBench$Land;)V"⟩, 9) := ⟨⟨by decide +kernel, by decide +kernel⟩, lw_t4 (List.mem_of_getElem? (i := 84) rfl), lw_t5 (List.mem_of_getElem? (i := 141) rfl), lw_t5 (List.mem_of_getElem? (i := 142) rfl)⟩
theorem lw_p22 : lw_okq (⟨"ApartBench", "cases", "()I"⟩, 11) := ⟨⟨by decide +kernel, by decide +kernel⟩, lw_t1 (List.mem_of_getElem? (i := 43) rfl), lw_t5 (List.mem_of_getElem? (i := 217) rfl), lw_t5 (List.mem_of_getElem? (i := 218) rfl)⟩
theorem lw_p23 : lw_okq (⟨"ApartBench", "tries", "()I"⟩, 11) := ⟨⟨by decide +kernel, by decide +kernel⟩, lw_t1 (List.mem_of_getElem? (i := 43) rfl), lw_t5 (List.mem_of_getElem? (i := 221) rfl), lw_t5 (List.mem_of_getElem? (i := 222) rfl)⟩
theorem lw_p24 : lw_okq (⟨"ApartBench$Trial", "goes", "()V"⟩, 11) := ⟨⟨by decide +kernel, by decide +kernel⟩, lw_t3 (List.mem_of_getElem? (i := 149) rfl), lw_t5 (List.mem_of_getElem? (i := 229) rfl), lw_t5 (List.mem_of_getElem? (i := 230) rfl)⟩
theorem lw_p25 : lw_okq (⟨"ApartBench$Trial", "judges", "()I"⟩, 11) := ⟨⟨by decide +kernel, by decide +kernel⟩, lw_t3 (List.mem_of_getElem? (i := 149) rfl), lw_t5 (List.mem_of_getElem? (i := 233) rfl), lw_t5 (List.mem_of_getElem? (i := 234) rfl)⟩
theorem lw_p26 : lw_okq (⟨"ApartBench$Trial", "towns", "(I)I"⟩, 11) := ⟨⟨by decide +kernel, by decide +kernel⟩, lw_t3 (List.mem_of_getElem? (i := 149) rfl), lw_t5 (List.mem_of_getElem? (i := 238) rfl), lw_t5 (List.mem_of_getElem? (i := 239) rfl)⟩
theorem lw_p27 : lw_okq (⟨"ApartBench$Trial", "hears", "(II)V"⟩, 11) := ⟨⟨by decide +kernel, by decide +kernel⟩, lw_t3 (List.mem_of_getElem? (i := 149) rfl), lw_t6 (List.mem_of_getElem? (i := 18) rfl), lw_t6 (List.mem_of_getElem? (i := 19) rfl)⟩
theorem lw_p28 : lw_okq (⟨"ApartBench$Trial", "cases", "()I"⟩, 11) := ⟨⟨by decide +kernel, by decide +kernel⟩, lw_t3 (List.mem_of_getElem? (i := 149) rfl), lw_t6 (List.mem_of_getElem? (i := 30) rfl), lw_t6 (List.mem_of_getElem? (i := 31) rfl)⟩
theorem lw_p29 : lw_okq (⟨"ApartBench$Trial", "saidAhead", "(II)I"⟩, 11) := ⟨⟨by decide +kernel, by decide +kernel⟩, lw_t3 (List.mem_of_getElem? (i := 149) rfl), lw_t6 (List.mem_of_getElem? (i := 35) rfl), lw_t6 (List.mem_of_getElem? (i := 36) rfl)⟩
theorem lw_p30 : lw_okq (⟨"ApartBench$Trial", "meets", "(II)I"⟩, 11) := ⟨⟨by decide +kernel, by decide +kernel⟩, lw_t3 (List.mem_of_getElem? (i := 149) rfl), lw_t6 (List.mem_of_getElem? (i := 86) rfl), lw_t6 (List.mem_of_getElem? (i := 87) rfl)⟩
theorem lw_p31 : lw_okq (⟨"ApartBench$Trial", "isFlooded", "(III)Z"⟩, 11) := ⟨⟨by decide +kernel, by decide +kernel⟩, lw_t3 (List.mem_of_getElem? (i := 149) rfl), lw_t6 (List.mem_of_getElem? (i := 90) rfl), lw_t6 (List.mem_of_getElem? (i := 91) rfl)⟩
def lw_privs_2 : List (MethodName × Nat) := [(⟨"ApartBench$Reader", "sum", "(I)LApartBench$Expr;"⟩, 9), (⟨"ApartBench$Reader", "product", "(I)LApartBench$Expr;"⟩, 9), (⟨"ApartBench$Reader", "part", "(I)LApartBench$Expr;"⟩, 9), (⟨"ApartBench$Reader", "need", "(Ljava/lang/String;)V"⟩, 9), (⟨"ApartBench$Reader", "cause", "(LApartBench$Land;)V"⟩, 9), (⟨"ApartBench$Reader", "judge", "(LApartBench$Land;)V"⟩, 9), (⟨"ApartBench", "cases", "()I"⟩, 11), (⟨"ApartBench", "tries", "()I"⟩, 11), (⟨"ApartBench$Trial", "goes", "()V"⟩, 11), (⟨"ApartBench$Trial", "judges", "()I"⟩, 11), (⟨"ApartBench$Trial", "towns", "(I)I"⟩, 11), (⟨"ApartBench$Trial", "hears", "(II)V"⟩, 11), (⟨"ApartBench$Trial", "cases", "()I"⟩, 11), (⟨"ApartBench$Trial", "saidAhead", "(II)I"⟩, 11), (⟨"ApartBench$Trial", "meets", "(II)I"⟩, 11), (⟨"ApartBench$Trial", "isFlooded", "(III)Z"⟩, 11)]
theorem lw_r2 : ∀ q ∈ lw_privs_2, lw_okq q := List.forall_mem_cons.mpr ⟨lw_p16, List.forall_mem_cons.mpr ⟨lw_p17, List.forall_mem_cons.mpr ⟨lw_p18, List.forall_mem_cons.mpr ⟨lw_p19, List.forall_mem_cons.mpr ⟨lw_p20, List.forall_mem_cons.mpr ⟨lw_p21, List.forall_mem_cons.mpr ⟨lw_p22, List.forall_mem_cons.mpr ⟨lw_p23, List.forall_mem_cons.mpr ⟨lw_p24, List.forall_mem_cons.mpr ⟨lw_p25, List.forall_mem_cons.mpr ⟨lw_p26, List.forall_mem_cons.mpr ⟨lw_p27, List.forall_mem_cons.mpr ⟨lw_p28, List.forall_mem_cons.mpr ⟨lw_p29, List.forall_mem_cons.mpr ⟨lw_p30, List.forall_mem_cons.mpr ⟨lw_p31, fun _ h => absurd h List.not_mem_nil⟩⟩⟩⟩⟩⟩⟩⟩⟩⟩⟩⟩⟩⟩⟩⟩
theorem lw_p32 : lw_okq (⟨"ApartBench$Trial", "isVoided", "(II)Z"⟩, 11) := ⟨⟨by decide +kernel, by decide +kernel⟩, lw_t3 (List.mem_of_getElem? (i := 149) rfl), lw_t6 (List.mem_of_getElem? (i := 98) rfl), lw_t6 (List.mem_of_getElem? (i := 99) rfl)⟩
theorem lw_p33 : lw_okq (⟨"ApartBench$Trial", "hears", "(I)Z"⟩, 11) := ⟨⟨by decide +kernel, by decide +kernel⟩, lw_t3 (List.mem_of_getElem? (i := 149) rfl), lw_t6 (List.mem_of_getElem? (i := 102) rfl), lw_t6 (List.mem_of_getElem? (i := 103) rfl)⟩
theorem lw_p34 : lw_okq (⟨"ApartBench$Trial", "isReached", "(IIII)Z"⟩, 11) := ⟨⟨by decide +kernel, by decide +kernel⟩, lw_t3 (List.mem_of_getElem? (i := 149) rfl), lw_t6 (List.mem_of_getElem? (i := 116) rfl), lw_t6 (List.mem_of_getElem? (i := 117) rfl)⟩
theorem lw_p35 : lw_okq (⟨"ApartBench$Trial", "three", "(II)I"⟩, 11) := ⟨⟨by decide +kernel, by decide +kernel⟩, lw_t3 (List.mem_of_getElem? (i := 149) rfl), lw_t6 (List.mem_of_getElem? (i := 125) rfl), lw_t6 (List.mem_of_getElem? (i := 126) rfl)⟩
theorem lw_p36 : lw_okq (⟨"ApartBench$Trial", "isOne", "(III)Z"⟩, 11) := ⟨⟨by decide +kernel, by decide +kernel⟩, lw_t3 (List.mem_of_getElem? (i := 149) rfl), lw_t6 (List.mem_of_getElem? (i := 129) rfl), lw_t6 (List.mem_of_getElem? (i := 130) rfl)⟩
theorem lw_p37 : lw_okq (⟨"ApartBench$Trial", "areApart", "(IIII)Z"⟩, 11) := ⟨⟨by decide +kernel, by decide +kernel⟩, lw_t3 (List.mem_of_getElem? (i := 149) rfl), lw_t6 (List.mem_of_getElem? (i := 133) rfl), lw_t6 (List.mem_of_getElem? (i := 134) rfl)⟩
theorem lw_p38 : lw_okq (⟨"ApartBench", "townAt", "(I)V"⟩, 11) := ⟨⟨by decide +kernel, by decide +kernel⟩, lw_t1 (List.mem_of_getElem? (i := 43) rfl), lw_t6 (List.mem_of_getElem? (i := 144) rfl), lw_t6 (List.mem_of_getElem? (i := 145) rfl)⟩
theorem lw_p39 : lw_okq (⟨"ApartBench", "judgeAt", "(I)LApartBench$Judge;"⟩, 11) := ⟨⟨by decide +kernel, by decide +kernel⟩, lw_t1 (List.mem_of_getElem? (i := 43) rfl), lw_t6 (List.mem_of_getElem? (i := 157) rfl), lw_t6 (List.mem_of_getElem? (i := 158) rfl)⟩
theorem lw_p40 : lw_okq (⟨"ApartBench", "caseAt", "(I)V"⟩, 11) := ⟨⟨by decide +kernel, by decide +kernel⟩, lw_t1 (List.mem_of_getElem? (i := 43) rfl), lw_t6 (List.mem_of_getElem? (i := 198) rfl), lw_t6 (List.mem_of_getElem? (i := 199) rfl)⟩
theorem lw_p41 : lw_okq (⟨"ApartBench", "refuses", "(I)I"⟩, 11) := ⟨⟨by decide +kernel, by decide +kernel⟩, lw_t1 (List.mem_of_getElem? (i := 43) rfl), lw_t6 (List.mem_of_getElem? (i := 239) rfl), lw_t7 (List.mem_of_getElem? (i := 0) rfl)⟩
theorem lw_p42 : lw_okq (⟨"java/util/ArrayList", "fastRemove", "([Ljava/lang/Object;I)V"⟩, 3) := ⟨⟨by decide +kernel, by decide +kernel⟩, lw_t1 (List.mem_of_getElem? (i := 57) rfl), lw_t7 (List.mem_of_getElem? (i := 11) rfl), lw_t7 (List.mem_of_getElem? (i := 12) rfl)⟩
theorem lw_p43 : lw_okq (⟨"ApartBench", "isGuiltyNow", "(I)Z"⟩, 11) := ⟨⟨by decide +kernel, by decide +kernel⟩, lw_t1 (List.mem_of_getElem? (i := 43) rfl), lw_t7 (List.mem_of_getElem? (i := 87) rfl), lw_t7 (List.mem_of_getElem? (i := 88) rfl)⟩
theorem lw_p44 : lw_okq (⟨"ApartBench", "isGuilty", "(I)Z"⟩, 11) := ⟨⟨by decide +kernel, by decide +kernel⟩, lw_t1 (List.mem_of_getElem? (i := 43) rfl), lw_t7 (List.mem_of_getElem? (i := 91) rfl), lw_t7 (List.mem_of_getElem? (i := 92) rfl)⟩
theorem lw_p45 : lw_okq (⟨"ApartBench", "reaches", "(I)Z"⟩, 11) := ⟨⟨by decide +kernel, by decide +kernel⟩, lw_t1 (List.mem_of_getElem? (i := 43) rfl), lw_t7 (List.mem_of_getElem? (i := 108) rfl), lw_t7 (List.mem_of_getElem? (i := 109) rfl)⟩
theorem lw_p46 : lw_okq (⟨"ApartBench", "isSeen", "()Z"⟩, 11) := ⟨⟨by decide +kernel, by decide +kernel⟩, lw_t1 (List.mem_of_getElem? (i := 43) rfl), lw_t7 (List.mem_of_getElem? (i := 141) rfl), lw_t7 (List.mem_of_getElem? (i := 142) rfl)⟩
theorem lw_p47 : lw_okq (⟨"ApartBench", "wins", "(III)Z"⟩, 11) := ⟨⟨by decide +kernel, by decide +kernel⟩, lw_t1 (List.mem_of_getElem? (i := 43) rfl), lw_t7 (List.mem_of_getElem? (i := 152) rfl), lw_t7 (List.mem_of_getElem? (i := 153) rfl)⟩
def lw_privs_3 : List (MethodName × Nat) := [(⟨"ApartBench$Trial", "isVoided", "(II)Z"⟩, 11), (⟨"ApartBench$Trial", "hears", "(I)Z"⟩, 11), (⟨"ApartBench$Trial", "isReached", "(IIII)Z"⟩, 11), (⟨"ApartBench$Trial", "three", "(II)I"⟩, 11), (⟨"ApartBench$Trial", "isOne", "(III)Z"⟩, 11), (⟨"ApartBench$Trial", "areApart", "(IIII)Z"⟩, 11), (⟨"ApartBench", "townAt", "(I)V"⟩, 11), (⟨"ApartBench", "judgeAt", "(I)LApartBench$Judge;"⟩, 11), (⟨"ApartBench", "caseAt", "(I)V"⟩, 11), (⟨"ApartBench", "refuses", "(I)I"⟩, 11), (⟨"java/util/ArrayList", "fastRemove", "([Ljava/lang/Object;I)V"⟩, 3), (⟨"ApartBench", "isGuiltyNow", "(I)Z"⟩, 11), (⟨"ApartBench", "isGuilty", "(I)Z"⟩, 11), (⟨"ApartBench", "reaches", "(I)Z"⟩, 11), (⟨"ApartBench", "isSeen", "()Z"⟩, 11), (⟨"ApartBench", "wins", "(III)Z"⟩, 11)]
theorem lw_r3 : ∀ q ∈ lw_privs_3, lw_okq q := List.forall_mem_cons.mpr ⟨lw_p32, List.forall_mem_cons.mpr ⟨lw_p33, List.forall_mem_cons.mpr ⟨lw_p34, List.forall_mem_cons.mpr ⟨lw_p35, List.forall_mem_cons.mpr ⟨lw_p36, List.forall_mem_cons.mpr ⟨lw_p37, List.forall_mem_cons.mpr ⟨lw_p38, List.forall_mem_cons.mpr ⟨lw_p39, List.forall_mem_cons.mpr ⟨lw_p40, List.forall_mem_cons.mpr ⟨lw_p41, List.forall_mem_cons.mpr ⟨lw_p42, List.forall_mem_cons.mpr ⟨lw_p43, List.forall_mem_cons.mpr ⟨lw_p44, List.forall_mem_cons.mpr ⟨lw_p45, List.forall_mem_cons.mpr ⟨lw_p46, List.forall_mem_cons.mpr ⟨lw_p47, fun _ h => absurd h List.not_mem_nil⟩⟩⟩⟩⟩⟩⟩⟩⟩⟩⟩⟩⟩⟩⟩⟩
theorem lw_p48 : lw_okq (⟨"ApartBench", "draw", "(I)I"⟩, 11) := ⟨⟨by decide +kernel, by decide +kernel⟩, lw_t1 (List.mem_of_getElem? (i := 43) rfl), lw_t7 (List.mem_of_getElem? (i := 163) rfl), lw_t7 (List.mem_of_getElem? (i := 164) rfl)⟩
theorem lw_p49 : lw_okq (⟨"ApartBenchModel", "fail", "(I)I"⟩, 63) := ⟨⟨by decide +kernel, by decide +kernel⟩, lw_t7 (List.mem_of_getElem? (i := 168) rfl), lw_t8 (List.mem_of_getElem? (i := 146) rfl), lw_t8 (List.mem_of_getElem? (i := 147) rfl)⟩
theorem lw_p50 : lw_okq (⟨"ApartBenchModel", "stepOn", "()V"⟩, 63) := ⟨⟨by decide +kernel, by decide +kernel⟩, lw_t7 (List.mem_of_getElem? (i := 168) rfl), lw_t8 (List.mem_of_getElem? (i := 150) rfl), lw_t8 (List.mem_of_getElem? (i := 151) rfl)⟩
theorem lw_p51 : lw_okq (⟨"ApartBenchModel", "byteAt", "(I)I"⟩, 63) := ⟨⟨by decide +kernel, by decide +kernel⟩, lw_t7 (List.mem_of_getElem? (i := 168) rfl), lw_t8 (List.mem_of_getElem? (i := 154) rfl), lw_t8 (List.mem_of_getElem? (i := 155) rfl)⟩
theorem lw_p52 : lw_okq (⟨"ApartBenchModel", "readLine", "(I)I"⟩, 63) := ⟨⟨by decide +kernel, by decide +kernel⟩, lw_t7 (List.mem_of_getElem? (i := 168) rfl), lw_t8 (List.mem_of_getElem? (i := 169) rfl), lw_t8 (List.mem_of_getElem? (i := 170) rfl)⟩
theorem lw_p53 : lw_okq (⟨"ApartBenchModel", "is", "(Ljava/lang/String;)Z"⟩, 63) := ⟨⟨by decide +kernel, by decide +kernel⟩, lw_t7 (List.mem_of_getElem? (i := 168) rfl), lw_t8 (List.mem_of_getElem? (i := 174) rfl), lw_t8 (List.mem_of_getElem? (i := 175) rfl)⟩
theorem lw_p54 : lw_okq (⟨"ApartBenchModel", "which", "([Ljava/lang/String;)I"⟩, 63) := ⟨⟨by decide +kernel, by decide +kernel⟩, lw_t7 (List.mem_of_getElem? (i := 168) rfl), lw_t8 (List.mem_of_getElem? (i := 181) rfl), lw_t8 (List.mem_of_getElem? (i := 182) rfl)⟩
theorem lw_p55 : lw_okq (⟨"ApartBenchModel", "wrong", "(I)V"⟩, 63) := ⟨⟨by decide +kernel, by decide +kernel⟩, lw_t7 (List.mem_of_getElem? (i := 168) rfl), lw_t8 (List.mem_of_getElem? (i := 185) rfl), lw_t8 (List.mem_of_getElem? (i := 186) rfl)⟩
theorem lw_p56 : lw_okq (⟨"ApartBenchModel", "readNumber", "(II)I"⟩, 63) := ⟨⟨by decide +kernel, by decide +kernel⟩, lw_t7 (List.mem_of_getElem? (i := 168) rfl), lw_t8 (List.mem_of_getElem? (i := 189) rfl), lw_t8 (List.mem_of_getElem? (i := 190) rfl)⟩
theorem lw_p57 : lw_okq (⟨"ApartBenchModel", "numberNow", "(II)I"⟩, 63) := ⟨⟨by decide +kernel, by decide +kernel⟩, lw_t7 (List.mem_of_getElem? (i := 168) rfl), lw_t8 (List.mem_of_getElem? (i := 193) rfl), lw_t8 (List.mem_of_getElem? (i := 194) rfl)⟩
theorem lw_p58 : lw_okq (⟨"ApartBenchModel", "readExpression", "(I)V"⟩, 63) := ⟨⟨by decide +kernel, by decide +kernel⟩, lw_t7 (List.mem_of_getElem? (i := 168) rfl), lw_t8 (List.mem_of_getElem? (i := 197) rfl), lw_t8 (List.mem_of_getElem? (i := 198) rfl)⟩
theorem lw_p59 : lw_okq (⟨"ApartBenchModel", "isMarked", "(I)Z"⟩, 63) := ⟨⟨by decide +kernel, by decide +kernel⟩, lw_t7 (List.mem_of_getElem? (i := 168) rfl), lw_t8 (List.mem_of_getElem? (i := 201) rfl), lw_t8 (List.mem_of_getElem? (i := 202) rfl)⟩
theorem lw_p60 : lw_okq (⟨"ApartBenchModel", "readAnd", "(I)V"⟩, 63) := ⟨⟨by decide +kernel, by decide +kernel⟩, lw_t7 (List.mem_of_getElem? (i := 168) rfl), lw_t8 (List.mem_of_getElem? (i := 205) rfl), lw_t8 (List.mem_of_getElem? (i := 206) rfl)⟩
theorem lw_p61 : lw_okq (⟨"ApartBenchModel", "readNot", "(I)V"⟩, 63) := ⟨⟨by decide +kernel, by decide +kernel⟩, lw_t7 (List.mem_of_getElem? (i := 168) rfl), lw_t8 (List.mem_of_getElem? (i := 209) rfl), lw_t8 (List.mem_of_getElem? (i := 210) rfl)⟩
theorem lw_p62 : lw_okq (⟨"ApartBenchModel", "readSum", "(I)V"⟩, 63) := ⟨⟨by decide +kernel, by decide +kernel⟩, lw_t7 (List.mem_of_getElem? (i := 168) rfl), lw_t8 (List.mem_of_getElem? (i := 214) rfl), lw_t8 (List.mem_of_getElem? (i := 215) rfl)⟩
theorem lw_p63 : lw_okq (⟨"ApartBenchModel", "readProduct", "(I)V"⟩, 63) := ⟨⟨by decide +kernel, by decide +kernel⟩, lw_t7 (List.mem_of_getElem? (i := 168) rfl), lw_t8 (List.mem_of_getElem? (i := 218) rfl), lw_t8 (List.mem_of_getElem? (i := 219) rfl)⟩
def lw_privs_4 : List (MethodName × Nat) := [(⟨"ApartBench", "draw", "(I)I"⟩, 11), (⟨"ApartBenchModel", "fail", "(I)I"⟩, 63), (⟨"ApartBenchModel", "stepOn", "()V"⟩, 63), (⟨"ApartBenchModel", "byteAt", "(I)I"⟩, 63), (⟨"ApartBenchModel", "readLine", "(I)I"⟩, 63), (⟨"ApartBenchModel", "is", "(Ljava/lang/String;)Z"⟩, 63), (⟨"ApartBenchModel", "which", "([Ljava/lang/String;)I"⟩, 63), (⟨"ApartBenchModel", "wrong", "(I)V"⟩, 63), (⟨"ApartBenchModel", "readNumber", "(II)I"⟩, 63), (⟨"ApartBenchModel", "numberNow", "(II)I"⟩, 63), (⟨"ApartBenchModel", "readExpression", "(I)V"⟩, 63), (⟨"ApartBenchModel", "isMarked", "(I)Z"⟩, 63), (⟨"ApartBenchModel", "readAnd", "(I)V"⟩, 63), (⟨"ApartBenchModel", "readNot", "(I)V"⟩, 63), (⟨"ApartBenchModel", "readSum", "(I)V"⟩, 63), (⟨"ApartBenchModel", "readProduct", "(I)V"⟩, 63)]
theorem lw_r4 : ∀ q ∈ lw_privs_4, lw_okq q := List.forall_mem_cons.mpr ⟨lw_p48, List.forall_mem_cons.mpr ⟨lw_p49, List.forall_mem_cons.mpr ⟨lw_p50, List.forall_mem_cons.mpr ⟨lw_p51, List.forall_mem_cons.mpr ⟨lw_p52, List.forall_mem_cons.mpr ⟨lw_p53, List.forall_mem_cons.mpr ⟨lw_p54, List.forall_mem_cons.mpr ⟨lw_p55, List.forall_mem_cons.mpr ⟨lw_p56, List.forall_mem_cons.mpr ⟨lw_p57, List.forall_mem_cons.mpr ⟨lw_p58, List.forall_mem_cons.mpr ⟨lw_p59, List.forall_mem_cons.mpr ⟨lw_p60, List.forall_mem_cons.mpr ⟨lw_p61, List.forall_mem_cons.mpr ⟨lw_p62, List.forall_mem_cons.mpr ⟨lw_p63, fun _ h => absurd h List.not_mem_nil⟩⟩⟩⟩⟩⟩⟩⟩⟩⟩⟩⟩⟩⟩⟩⟩
theorem lw_p64 : lw_okq (⟨"ApartBenchModel", "readPart", "(I)V"⟩, 63) := ⟨⟨by decide +kernel, by decide +kernel⟩, lw_t7 (List.mem_of_getElem? (i := 168) rfl), lw_t8 (List.mem_of_getElem? (i := 222) rfl), lw_t8 (List.mem_of_getElem? (i := 223) rfl)⟩
theorem lw_p65 : lw_okq (⟨"ApartBenchModel", "lay", "(I)V"⟩, 63) := ⟨⟨by decide +kernel, by decide +kernel⟩, lw_t7 (List.mem_of_getElem? (i := 168) rfl), lw_t8 (List.mem_of_getElem? (i := 226) rfl), lw_t8 (List.mem_of_getElem? (i := 227) rfl)⟩
theorem lw_p66 : lw_okq (⟨"ApartBenchModel", "mark", "(I)V"⟩, 63) := ⟨⟨by decide +kernel, by decide +kernel⟩, lw_t7 (List.mem_of_getElem? (i := 168) rfl), lw_t8 (List.mem_of_getElem? (i := 230) rfl), lw_t8 (List.mem_of_getElem? (i := 231) rfl)⟩
theorem lw_p67 : lw_okq (⟨"ApartBenchModel", "readJudge", "(I)V"⟩, 63) := ⟨⟨by decide +kernel, by decide +kernel⟩, lw_t7 (List.mem_of_getElem? (i := 168) rfl), lw_t8 (List.mem_of_getElem? (i := 236) rfl), lw_t8 (List.mem_of_getElem? (i := 237) rfl)⟩
theorem lw_p68 : lw_okq (⟨"ApartBenchModel", "another", "(II)Z"⟩, 63) := ⟨⟨by decide +kernel, by decide +kernel⟩, lw_t7 (List.mem_of_getElem? (i := 168) rfl), lw_t9 (List.mem_of_getElem? (i := 0) rfl), lw_t9 (List.mem_of_getElem? (i := 1) rfl)⟩
theorem lw_p69 : lw_okq (⟨"ApartBenchModel", "townNow", "()I"⟩, 63) := ⟨⟨by decide +kernel, by decide +kernel⟩, lw_t7 (List.mem_of_getElem? (i := 168) rfl), lw_t9 (List.mem_of_getElem? (i := 4) rfl), lw_t9 (List.mem_of_getElem? (i := 5) rfl)⟩
theorem lw_p70 : lw_okq (⟨"ApartBenchModel", "readTown", "()V"⟩, 63) := ⟨⟨by decide +kernel, by decide +kernel⟩, lw_t7 (List.mem_of_getElem? (i := 168) rfl), lw_t9 (List.mem_of_getElem? (i := 11) rfl), lw_t9 (List.mem_of_getElem? (i := 12) rfl)⟩
theorem lw_p71 : lw_okq (⟨"ApartBenchModel", "readRoad", "()V"⟩, 63) := ⟨⟨by decide +kernel, by decide +kernel⟩, lw_t7 (List.mem_of_getElem? (i := 168) rfl), lw_t9 (List.mem_of_getElem? (i := 17) rfl), lw_t9 (List.mem_of_getElem? (i := 18) rfl)⟩
theorem lw_p72 : lw_okq (⟨"ApartBenchModel", "readCase", "()V"⟩, 63) := ⟨⟨by decide +kernel, by decide +kernel⟩, lw_t7 (List.mem_of_getElem? (i := 168) rfl), lw_t9 (List.mem_of_getElem? (i := 22) rfl), lw_t9 (List.mem_of_getElem? (i := 23) rfl)⟩
theorem lw_p73 : lw_okq (⟨"ApartBenchModel", "takeOver", "()V"⟩, 63) := ⟨⟨by decide +kernel, by decide +kernel⟩, lw_t7 (List.mem_of_getElem? (i := 168) rfl), lw_t9 (List.mem_of_getElem? (i := 26) rfl), lw_t9 (List.mem_of_getElem? (i := 27) rfl)⟩
theorem lw_p74 : lw_okq (⟨"ApartBenchModel", "tellFar", "()V"⟩, 63) := ⟨⟨by decide +kernel, by decide +kernel⟩, lw_t7 (List.mem_of_getElem? (i := 168) rfl), lw_t9 (List.mem_of_getElem? (i := 33) rfl), lw_t9 (List.mem_of_getElem? (i := 34) rfl)⟩
theorem lw_p75 : lw_okq (⟨"ApartBenchModel", "tellNow", "()I"⟩, 63) := ⟨⟨by decide +kernel, by decide +kernel⟩, lw_t7 (List.mem_of_getElem? (i := 168) rfl), lw_t9 (List.mem_of_getElem? (i := 45) rfl), lw_t9 (List.mem_of_getElem? (i := 46) rfl)⟩
theorem lw_p76 : lw_okq (⟨"ApartBenchModel", "set", "()V"⟩, 63) := ⟨⟨by decide +kernel, by decide +kernel⟩, lw_t7 (List.mem_of_getElem? (i := 168) rfl), lw_t9 (List.mem_of_getElem? (i := 49) rfl), lw_t9 (List.mem_of_getElem? (i := 50) rfl)⟩
theorem lw_p77 : lw_okq (⟨"ApartBenchModel", "tell", "()I"⟩, 63) := ⟨⟨by decide +kernel, by decide +kernel⟩, lw_t7 (List.mem_of_getElem? (i := 168) rfl), lw_t9 (List.mem_of_getElem? (i := 53) rfl), lw_t9 (List.mem_of_getElem? (i := 54) rfl)⟩
theorem lw_p78 : lw_okq (⟨"ApartBenchModel", "tellStops", "()V"⟩, 63) := ⟨⟨by decide +kernel, by decide +kernel⟩, lw_t7 (List.mem_of_getElem? (i := 168) rfl), lw_t9 (List.mem_of_getElem? (i := 57) rfl), lw_t9 (List.mem_of_getElem? (i := 58) rfl)⟩
theorem lw_p79 : lw_okq (⟨"ApartBenchModel", "tellMeetings", "()V"⟩, 63) := ⟨⟨by decide +kernel, by decide +kernel⟩, lw_t7 (List.mem_of_getElem? (i := 168) rfl), lw_t9 (List.mem_of_getElem? (i := 61) rfl), lw_t9 (List.mem_of_getElem? (i := 62) rfl)⟩
def lw_privs_5 : List (MethodName × Nat) := [(⟨"ApartBenchModel", "readPart", "(I)V"⟩, 63), (⟨"ApartBenchModel", "lay", "(I)V"⟩, 63), (⟨"ApartBenchModel", "mark", "(I)V"⟩, 63), (⟨"ApartBenchModel", "readJudge", "(I)V"⟩, 63), (⟨"ApartBenchModel", "another", "(II)Z"⟩, 63), (⟨"ApartBenchModel", "townNow", "()I"⟩, 63), (⟨"ApartBenchModel", "readTown", "()V"⟩, 63), (⟨"ApartBenchModel", "readRoad", "()V"⟩, 63), (⟨"ApartBenchModel", "readCase", "()V"⟩, 63), (⟨"ApartBenchModel", "takeOver", "()V"⟩, 63), (⟨"ApartBenchModel", "tellFar", "()V"⟩, 63), (⟨"ApartBenchModel", "tellNow", "()I"⟩, 63), (⟨"ApartBenchModel", "set", "()V"⟩, 63), (⟨"ApartBenchModel", "tell", "()I"⟩, 63), (⟨"ApartBenchModel", "tellStops", "()V"⟩, 63), (⟨"ApartBenchModel", "tellMeetings", "()V"⟩, 63)]
theorem lw_r5 : ∀ q ∈ lw_privs_5, lw_okq q := List.forall_mem_cons.mpr ⟨lw_p64, List.forall_mem_cons.mpr ⟨lw_p65, List.forall_mem_cons.mpr ⟨lw_p66, List.forall_mem_cons.mpr ⟨lw_p67, List.forall_mem_cons.mpr ⟨lw_p68, List.forall_mem_cons.mpr ⟨lw_p69, List.forall_mem_cons.mpr ⟨lw_p70, List.forall_mem_cons.mpr ⟨lw_p71, List.forall_mem_cons.mpr ⟨lw_p72, List.forall_mem_cons.mpr ⟨lw_p73, List.forall_mem_cons.mpr ⟨lw_p74, List.forall_mem_cons.mpr ⟨lw_p75, List.forall_mem_cons.mpr ⟨lw_p76, List.forall_mem_cons.mpr ⟨lw_p77, List.forall_mem_cons.mpr ⟨lw_p78, List.forall_mem_cons.mpr ⟨lw_p79, fun _ h => absurd h List.not_mem_nil⟩⟩⟩⟩⟩⟩⟩⟩⟩⟩⟩⟩⟩⟩⟩⟩
theorem lw_p80 : lw_okq (⟨"ApartBenchModel", "townOn", "(II)I"⟩, 63) := ⟨⟨by decide +kernel, by decide +kernel⟩, lw_t7 (List.mem_of_getElem? (i := 168) rfl), lw_t9 (List.mem_of_getElem? (i := 65) rfl), lw_t9 (List.mem_of_getElem? (i := 66) rfl)⟩
theorem lw_p81 : lw_okq (⟨"ApartBenchModel", "isMeeting", "(III)Z"⟩, 63) := ⟨⟨by decide +kernel, by decide +kernel⟩, lw_t7 (List.mem_of_getElem? (i := 168) rfl), lw_t9 (List.mem_of_getElem? (i := 69) rfl), lw_t9 (List.mem_of_getElem? (i := 70) rfl)⟩
theorem lw_p82 : lw_okq (⟨"ApartBenchModel", "hear", "(III)V"⟩, 63) := ⟨⟨by decide +kernel, by decide +kernel⟩, lw_t7 (List.mem_of_getElem? (i := 168) rfl), lw_t9 (List.mem_of_getElem? (i := 73) rfl), lw_t9 (List.mem_of_getElem? (i := 74) rfl)⟩
theorem lw_p83 : lw_okq (⟨"ApartBenchModel", "isFeast", "(II)Z"⟩, 63) := ⟨⟨by decide +kernel, by decide +kernel⟩, lw_t7 (List.mem_of_getElem? (i := 168) rfl), lw_t9 (List.mem_of_getElem? (i := 77) rfl), lw_t9 (List.mem_of_getElem? (i := 78) rfl)⟩
theorem lw_p84 : lw_okq (⟨"ApartBenchModel", "holds", "(IIII)Z"⟩, 63) := ⟨⟨by decide +kernel, by decide +kernel⟩, lw_t7 (List.mem_of_getElem? (i := 168) rfl), lw_t9 (List.mem_of_getElem? (i := 81) rfl), lw_t9 (List.mem_of_getElem? (i := 82) rfl)⟩
theorem lw_p85 : lw_okq (⟨"ApartBenchModel", "saidAhead", "(II)I"⟩, 63) := ⟨⟨by decide +kernel, by decide +kernel⟩, lw_t7 (List.mem_of_getElem? (i := 168) rfl), lw_t9 (List.mem_of_getElem? (i := 85) rfl), lw_t9 (List.mem_of_getElem? (i := 86) rfl)⟩
theorem lw_p86 : lw_okq (⟨"ApartBenchModel", "valueNow", "()I"⟩, 63) := ⟨⟨by decide +kernel, by decide +kernel⟩, lw_t7 (List.mem_of_getElem? (i := 168) rfl), lw_t9 (List.mem_of_getElem? (i := 89) rfl), lw_t9 (List.mem_of_getElem? (i := 90) rfl)⟩
theorem lw_p87 : lw_okq (⟨"ApartBenchModel", "judgeAll", "()I"⟩, 63) := ⟨⟨by decide +kernel, by decide +kernel⟩, lw_t7 (List.mem_of_getElem? (i := 168) rfl), lw_t9 (List.mem_of_getElem? (i := 96) rfl), lw_t9 (List.mem_of_getElem? (i := 97) rfl)⟩
theorem lw_p88 : lw_okq (⟨"ApartBenchModel", "judgeCase", "(I)V"⟩, 63) := ⟨⟨by decide +kernel, by decide +kernel⟩, lw_t7 (List.mem_of_getElem? (i := 168) rfl), lw_t9 (List.mem_of_getElem? (i := 100) rfl), lw_t9 (List.mem_of_getElem? (i := 101) rfl)⟩
theorem lw_p89 : lw_okq (⟨"ApartBenchModel", "isVoided", "(II)Z"⟩, 63) := ⟨⟨by decide +kernel, by decide +kernel⟩, lw_t7 (List.mem_of_getElem? (i := 168) rfl), lw_t9 (List.mem_of_getElem? (i := 104) rfl), lw_t9 (List.mem_of_getElem? (i := 105) rfl)⟩
theorem lw_p90 : lw_okq (⟨"ApartBenchModel", "newsByWord", "(II)I"⟩, 63) := ⟨⟨by decide +kernel, by decide +kernel⟩, lw_t7 (List.mem_of_getElem? (i := 168) rfl), lw_t9 (List.mem_of_getElem? (i := 108) rfl), lw_t9 (List.mem_of_getElem? (i := 109) rfl)⟩
theorem lw_p91 : lw_okq (⟨"ApartBenchModel", "newsDays", "(II)I"⟩, 63) := ⟨⟨by decide +kernel, by decide +kernel⟩, lw_t7 (List.mem_of_getElem? (i := 168) rfl), lw_t9 (List.mem_of_getElem? (i := 112) rfl), lw_t9 (List.mem_of_getElem? (i := 113) rfl)⟩
theorem lw_p92 : lw_okq (⟨"ApartBenchModel", "newsBy", "(III)I"⟩, 63) := ⟨⟨by decide +kernel, by decide +kernel⟩, lw_t7 (List.mem_of_getElem? (i := 168) rfl), lw_t9 (List.mem_of_getElem? (i := 116) rfl), lw_t9 (List.mem_of_getElem? (i := 117) rfl)⟩
theorem lw_p93 : lw_okq (⟨"ApartBenchModel", "three", "(IIII)I"⟩, 63) := ⟨⟨by decide +kernel, by decide +kernel⟩, lw_t7 (List.mem_of_getElem? (i := 168) rfl), lw_t9 (List.mem_of_getElem? (i := 120) rfl), lw_t9 (List.mem_of_getElem? (i := 121) rfl)⟩
theorem lw_p94 : lw_okq (⟨"ApartBenchModel", "isGood", "(II)Z"⟩, 63) := ⟨⟨by decide +kernel, by decide +kernel⟩, lw_t7 (List.mem_of_getElem? (i := 168) rfl), lw_t9 (List.mem_of_getElem? (i := 124) rfl), lw_t9 (List.mem_of_getElem? (i := 125) rfl)⟩
theorem lw_p95 : lw_okq (⟨"ApartBenchModel", "isTown", "(I)Z"⟩, 63) := ⟨⟨by decide +kernel, by decide +kernel⟩, lw_t7 (List.mem_of_getElem? (i := 168) rfl), lw_t9 (List.mem_of_getElem? (i := 133) rfl), lw_t9 (List.mem_of_getElem? (i := 134) rfl)⟩
def lw_privs_6 : List (MethodName × Nat) := [(⟨"ApartBenchModel", "townOn", "(II)I"⟩, 63), (⟨"ApartBenchModel", "isMeeting", "(III)Z"⟩, 63), (⟨"ApartBenchModel", "hear", "(III)V"⟩, 63), (⟨"ApartBenchModel", "isFeast", "(II)Z"⟩, 63), (⟨"ApartBenchModel", "holds", "(IIII)Z"⟩, 63), (⟨"ApartBenchModel", "saidAhead", "(II)I"⟩, 63), (⟨"ApartBenchModel", "valueNow", "()I"⟩, 63), (⟨"ApartBenchModel", "judgeAll", "()I"⟩, 63), (⟨"ApartBenchModel", "judgeCase", "(I)V"⟩, 63), (⟨"ApartBenchModel", "isVoided", "(II)Z"⟩, 63), (⟨"ApartBenchModel", "newsByWord", "(II)I"⟩, 63), (⟨"ApartBenchModel", "newsDays", "(II)I"⟩, 63), (⟨"ApartBenchModel", "newsBy", "(III)I"⟩, 63), (⟨"ApartBenchModel", "three", "(IIII)I"⟩, 63), (⟨"ApartBenchModel", "isGood", "(II)Z"⟩, 63), (⟨"ApartBenchModel", "isTown", "(I)Z"⟩, 63)]
theorem lw_r6 : ∀ q ∈ lw_privs_6, lw_okq q := List.forall_mem_cons.mpr ⟨lw_p80, List.forall_mem_cons.mpr ⟨lw_p81, List.forall_mem_cons.mpr ⟨lw_p82, List.forall_mem_cons.mpr ⟨lw_p83, List.forall_mem_cons.mpr ⟨lw_p84, List.forall_mem_cons.mpr ⟨lw_p85, List.forall_mem_cons.mpr ⟨lw_p86, List.forall_mem_cons.mpr ⟨lw_p87, List.forall_mem_cons.mpr ⟨lw_p88, List.forall_mem_cons.mpr ⟨lw_p89, List.forall_mem_cons.mpr ⟨lw_p90, List.forall_mem_cons.mpr ⟨lw_p91, List.forall_mem_cons.mpr ⟨lw_p92, List.forall_mem_cons.mpr ⟨lw_p93, List.forall_mem_cons.mpr ⟨lw_p94, List.forall_mem_cons.mpr ⟨lw_p95, fun _ h => absurd h List.not_mem_nil⟩⟩⟩⟩⟩⟩⟩⟩⟩⟩⟩⟩⟩⟩⟩⟩
theorem lw_p96 : lw_okq (⟨"ApartBenchModel", "isJudge", "(I)Z"⟩, 63) := ⟨⟨by decide +kernel, by decide +kernel⟩, lw_t7 (List.mem_of_getElem? (i := 168) rfl), lw_t9 (List.mem_of_getElem? (i := 147) rfl), lw_t9 (List.mem_of_getElem? (i := 148) rfl)⟩
theorem lw_p97 : lw_okq (⟨"ApartBenchModel", "isCase", "(I)Z"⟩, 63) := ⟨⟨by decide +kernel, by decide +kernel⟩, lw_t7 (List.mem_of_getElem? (i := 168) rfl), lw_t9 (List.mem_of_getElem? (i := 164) rfl), lw_t9 (List.mem_of_getElem? (i := 165) rfl)⟩
theorem lw_p98 : lw_okq (⟨"ApartBenchModel", "refuse", "(I)I"⟩, 63) := ⟨⟨by decide +kernel, by decide +kernel⟩, lw_t7 (List.mem_of_getElem? (i := 168) rfl), lw_t9 (List.mem_of_getElem? (i := 190) rfl), lw_t9 (List.mem_of_getElem? (i := 191) rfl)⟩
theorem lw_p99 : lw_okq (⟨"ApartBenchModel", "keep", "()V"⟩, 63) := ⟨⟨by decide +kernel, by decide +kernel⟩, lw_t7 (List.mem_of_getElem? (i := 168) rfl), lw_t9 (List.mem_of_getElem? (i := 194) rfl), lw_t9 (List.mem_of_getElem? (i := 195) rfl)⟩
theorem lw_p100 : lw_okq (⟨"ApartBenchModel", "pack", "([II)V"⟩, 63) := ⟨⟨by decide +kernel, by decide +kernel⟩, lw_t7 (List.mem_of_getElem? (i := 168) rfl), lw_t9 (List.mem_of_getElem? (i := 198) rfl), lw_t9 (List.mem_of_getElem? (i := 199) rfl)⟩
theorem lw_p101 : lw_okq (⟨"ApartBenchModel", "unpack", "([II)V"⟩, 63) := ⟨⟨by decide +kernel, by decide +kernel⟩, lw_t7 (List.mem_of_getElem? (i := 168) rfl), lw_t9 (List.mem_of_getElem? (i := 227) rfl), lw_t9 (List.mem_of_getElem? (i := 228) rfl)⟩
theorem lw_p102 : lw_okq (⟨"ApartBenchModel", "isAsSeen", "()Z"⟩, 63) := ⟨⟨by decide +kernel, by decide +kernel⟩, lw_t7 (List.mem_of_getElem? (i := 168) rfl), lw_t10 (List.mem_of_getElem? (i := 35) rfl), lw_t10 (List.mem_of_getElem? (i := 36) rfl)⟩
theorem lw_p103 : lw_okq (⟨"ApartBenchModel", "isGuiltyBy", "(III)Z"⟩, 63) := ⟨⟨by decide +kernel, by decide +kernel⟩, lw_t7 (List.mem_of_getElem? (i := 168) rfl), lw_t10 (List.mem_of_getElem? (i := 43) rfl), lw_t10 (List.mem_of_getElem? (i := 44) rfl)⟩
theorem lw_p104 : lw_okq (⟨"ApartBenchModel", "drawOf", "(I)I"⟩, 63) := ⟨⟨by decide +kernel, by decide +kernel⟩, lw_t7 (List.mem_of_getElem? (i := 168) rfl), lw_t10 (List.mem_of_getElem? (i := 52) rfl), lw_t10 (List.mem_of_getElem? (i := 53) rfl)⟩
def lw_privs_7 : List (MethodName × Nat) := [(⟨"ApartBenchModel", "isJudge", "(I)Z"⟩, 63), (⟨"ApartBenchModel", "isCase", "(I)Z"⟩, 63), (⟨"ApartBenchModel", "refuse", "(I)I"⟩, 63), (⟨"ApartBenchModel", "keep", "()V"⟩, 63), (⟨"ApartBenchModel", "pack", "([II)V"⟩, 63), (⟨"ApartBenchModel", "unpack", "([II)V"⟩, 63), (⟨"ApartBenchModel", "isAsSeen", "()Z"⟩, 63), (⟨"ApartBenchModel", "isGuiltyBy", "(III)Z"⟩, 63), (⟨"ApartBenchModel", "drawOf", "(I)I"⟩, 63)]
theorem lw_r7 : ∀ q ∈ lw_privs_7, lw_okq q := List.forall_mem_cons.mpr ⟨lw_p96, List.forall_mem_cons.mpr ⟨lw_p97, List.forall_mem_cons.mpr ⟨lw_p98, List.forall_mem_cons.mpr ⟨lw_p99, List.forall_mem_cons.mpr ⟨lw_p100, List.forall_mem_cons.mpr ⟨lw_p101, List.forall_mem_cons.mpr ⟨lw_p102, List.forall_mem_cons.mpr ⟨lw_p103, List.forall_mem_cons.mpr ⟨lw_p104, fun _ h => absurd h List.not_mem_nil⟩⟩⟩⟩⟩⟩⟩⟩⟩
def lw_privs : List (MethodName × Nat) := lw_privs_1 ++ (lw_privs_2 ++ (lw_privs_3 ++ (lw_privs_4 ++ (lw_privs_5 ++ (lw_privs_6 ++ (lw_privs_7))))))
def lw_tbl : List Cond := k2_sels lw_privs ++ tables_1
theorem lw_privs_ok : ∀ q ∈ lw_privs, lw_okq q := by
  show ∀ q ∈ lw_privs_1 ++ (lw_privs_2 ++ (lw_privs_3 ++ (lw_privs_4 ++ (lw_privs_5 ++ (lw_privs_6 ++ (lw_privs_7)))))), lw_okq q
  exact List.forall_mem_append.mpr ⟨lw_r1, List.forall_mem_append.mpr ⟨lw_r2, List.forall_mem_append.mpr ⟨lw_r3, List.forall_mem_append.mpr ⟨lw_r4, List.forall_mem_append.mpr ⟨lw_r5, List.forall_mem_append.mpr ⟨lw_r6, lw_r7⟩⟩⟩⟩⟩⟩
-- ===== ONE list of words for every method: the tables' words that hold all through a run =====
def lw_all : List Cond := lw_tbl.filter goodWord
/-- a word of the tables by its place: claim/WORDS.tsv -/
theorem lw_w {w : Cond} (i : Nat) (h : lw_tbl[i]? = some w) (g : goodWord w = true) : w ∈ lw_all := List.mem_filter.mpr ⟨List.mem_of_getElem? h, g⟩
theorem lw_all_tbl {w : Cond} (h : w ∈ lw_all) : w ∈ lw_tbl := (List.mem_filter.mp h).1
theorem lw_self : GoodIn lw_all lw_all := fun w h => ⟨h, good_of_word (List.mem_filter.mp h).2⟩
/-- a class's field words, by their places -/
theorem lw_in (ws : List Cond) (ps : List Nat) (hp : ws = ps.filterMap (fun i => lw_tbl[i]?)) (hg : ws.all goodWord = true) : ∀ w ∈ ws, w ∈ lw_all := by
  intro w h
  have h1 := List.all_eq_true.mp hg w h
  rw [hp] at h
  obtain ⟨i, -, hi⟩ := List.mem_filterMap.mp h
  exact lw_w i hi h1
/-- the words of a contract for the method y with code b, L locals, answer r -/
abbrev ws_ (y : MethodName) (b : ByteArray) (L : Nat) (r : Option FieldType) : List Cond := Cond.code y b L r :: lw_all
theorem lw_meth {y : MethodName} {b : ByteArray} {L : Nat} {r : Option FieldType} (h : Cond.code y b L r ∈ lw_all) : GoodIn lw_all (ws_ y b L r) := by
  intro w hw
  rcases List.mem_cons.mp hw with e | e
  · rw [e]
    exact lw_self _ h
  · exact lw_self _ e
theorem lw_app {a c : List Cond} (ha : ∀ w ∈ a, w ∈ lw_all) (hc : GoodIn lw_all c) : GoodIn lw_all (a ++ c) := by
  intro w hw
  rcases List.mem_append.mp hw with e | e
  · exact lw_self w (ha w e)
  · exact hc w e
/-- what a call through an object asks: cwV n hts (lw_V ..) -/
theorem lw_V {own : String} {idx : Nat} {C : String} {y : MethodName} {b : ByteArray} {L : Nat} {r : Option FieldType} (h1 : Cond.methodLink own idx y ∈ lw_all) (h2 : Cond.instanceMethod y ∈ lw_all) (h3 : Cond.selects C y y ∈ lw_all) (h4 : Cond.initialized C ∈ lw_all) (h5 : Cond.code y b L r ∈ lw_all) : GoodIn lw_all (wsV own idx C y (ws_ y b L r)) := by
  refine lw_app ?_ (lw_meth h5)
  intro w hw
  simp only [List.mem_cons, List.not_mem_nil, or_false] at hw
  rcases hw with e | e | e | e
  · rw [e]; exact h1
  · rw [e]; exact h2
  · rw [e]; exact h3
  · rw [e]; exact h4
/-- what a static call asks: va_cwS n hts (lw_S ..) -/
theorem lw_S {own : String} {idx : Nat} {y : MethodName} {b : ByteArray} {L : Nat} {r : Option FieldType} (h1 : Cond.methodLink own idx y ∈ lw_all) (h2 : Cond.static y ∈ lw_all) (h3 : Cond.initialized y.cls ∈ lw_all) (h4 : Cond.code y b L r ∈ lw_all) : GoodIn lw_all (va_wsS own idx y (ws_ y b L r)) := by
  refine lw_app ?_ (lw_meth h4)
  intro w hw
  simp only [List.mem_cons, List.not_mem_nil, or_false] at hw
  rcases hw with e | e | e
  · rw [e]; exact h1
  · rw [e]; exact h2
  · rw [e]; exact h3
/-- the words of a contract for a method WITH HANDLERS (hh: its table) -/
abbrev wsW_ (y : MethodName) (b : ByteArray) (L : Nat) (r : Option FieldType) (hh : List (Nat × Nat × Nat × Nat)) : List Cond := Cond.codeWith y b L r hh :: lw_all
theorem lw_methW {y : MethodName} {b : ByteArray} {L : Nat} {r : Option FieldType} {hh : List (Nat × Nat × Nat × Nat)} (h : Cond.codeWith y b L r hh ∈ lw_all) : GoodIn lw_all (wsW_ y b L r hh) := by
  intro w hw
  rcases List.mem_cons.mp hw with e | e
  · rw [e]
    exact lw_self _ h
  · exact lw_self _ e
/-- any list of words by their places (lw_in), good -/
theorem lw_good {ws : List Cond} (h : ∀ w ∈ ws, w ∈ lw_all) : GoodIn lw_all ws := fun w hw => lw_self w (h w hw)
/-- what a call of a method with handlers asks: vx_cwVW n hts (lw_VW ..), vx_cwSW n hts (lw_SW ..) -/
theorem lw_VW {own : String} {idx : Nat} {C : String} {y : MethodName} {b : ByteArray} {L : Nat} {r : Option FieldType} {hh : List (Nat × Nat × Nat × Nat)} (h1 : Cond.methodLink own idx y ∈ lw_all) (h2 : Cond.instanceMethod y ∈ lw_all) (h3 : Cond.selects C y y ∈ lw_all) (h4 : Cond.initialized C ∈ lw_all) (h5 : Cond.codeWith y b L r hh ∈ lw_all) : GoodIn lw_all (wsV own idx C y (wsW_ y b L r hh)) := by
  refine lw_app ?_ (lw_methW h5)
  intro w hw
  simp only [List.mem_cons, List.not_mem_nil, or_false] at hw
  rcases hw with e | e | e | e
  · rw [e]; exact h1
  · rw [e]; exact h2
  · rw [e]; exact h3
  · rw [e]; exact h4
theorem lw_SW {own : String} {idx : Nat} {y : MethodName} {b : ByteArray} {L : Nat} {r : Option FieldType} {hh : List (Nat × Nat × Nat × Nat)} (h1 : Cond.methodLink own idx y ∈ lw_all) (h2 : Cond.static y ∈ lw_all) (h3 : Cond.initialized y.cls ∈ lw_all) (h4 : Cond.codeWith y b L r hh ∈ lw_all) : GoodIn lw_all (va_wsS own idx y (wsW_ y b L r hh)) := by
  refine lw_app ?_ (lw_methW h4)
  intro w hw
  simp only [List.mem_cons, List.not_mem_nil, or_false] at hw
  rcases hw with e | e | e
  · rw [e]; exact h1
  · rw [e]; exact h2
  · rw [e]; exact h3
/-- a word by its place in its run of the tables -/
theorem lw_at {r : List Cond} (hr : ∀ w ∈ r, w ∈ lw_tbl) {w : Cond} (i : Nat) (h : r[i]? = some w) : w ∈ lw_tbl := hr w (List.mem_of_getElem? h)
theorem lw_g {w : Cond} (h : w ∈ lw_tbl) (g : goodWord w = true) : w ∈ lw_all := List.mem_filter.mpr ⟨h, g⟩
theorem lw_ms : ∀ w ∈ k2_sels lw_privs, w ∈ lw_tbl := fun w h => show w ∈ k2_sels lw_privs ++ tables_1 from List.mem_append_left _ h
theorem lw_m1 : ∀ w ∈ tables_1_1, w ∈ lw_tbl := fun w h => show w ∈ k2_sels lw_privs ++ tables_1 from List.mem_append_right (k2_sels lw_privs) (show w ∈ tables_1 from List.mem_append_left _ h)
theorem lw_m2 : ∀ w ∈ tables_1_2, w ∈ lw_tbl := fun w h => show w ∈ k2_sels lw_privs ++ tables_1 from List.mem_append_right (k2_sels lw_privs) (show w ∈ tables_1 from List.mem_append_right _ (List.mem_append_left _ h))
theorem lw_m3 : ∀ w ∈ tables_1_3, w ∈ lw_tbl := fun w h => show w ∈ k2_sels lw_privs ++ tables_1 from List.mem_append_right (k2_sels lw_privs) (show w ∈ tables_1 from List.mem_append_right _ (List.mem_append_right _ (List.mem_append_left _ h)))
theorem lw_m4 : ∀ w ∈ tables_1_4, w ∈ lw_tbl := fun w h => show w ∈ k2_sels lw_privs ++ tables_1 from List.mem_append_right (k2_sels lw_privs) (show w ∈ tables_1 from List.mem_append_right _ (List.mem_append_right _ (List.mem_append_right _ (List.mem_append_left _ h))))
theorem lw_m5 : ∀ w ∈ tables_1_5, w ∈ lw_tbl := fun w h => show w ∈ k2_sels lw_privs ++ tables_1 from List.mem_append_right (k2_sels lw_privs) (show w ∈ tables_1 from List.mem_append_right _ (List.mem_append_right _ (List.mem_append_right _ (List.mem_append_right _ (List.mem_append_left _ h)))))
theorem lw_m6 : ∀ w ∈ tables_1_6, w ∈ lw_tbl := fun w h => show w ∈ k2_sels lw_privs ++ tables_1 from List.mem_append_right (k2_sels lw_privs) (show w ∈ tables_1 from List.mem_append_right _ (List.mem_append_right _ (List.mem_append_right _ (List.mem_append_right _ (List.mem_append_right _ (List.mem_append_left _ h))))))
theorem lw_m7 : ∀ w ∈ tables_1_7, w ∈ lw_tbl := fun w h => show w ∈ k2_sels lw_privs ++ tables_1 from List.mem_append_right (k2_sels lw_privs) (show w ∈ tables_1 from List.mem_append_right _ (List.mem_append_right _ (List.mem_append_right _ (List.mem_append_right _ (List.mem_append_right _ (List.mem_append_right _ (List.mem_append_left _ h)))))))
theorem lw_m8 : ∀ w ∈ tables_1_8, w ∈ lw_tbl := fun w h => show w ∈ k2_sels lw_privs ++ tables_1 from List.mem_append_right (k2_sels lw_privs) (show w ∈ tables_1 from List.mem_append_right _ (List.mem_append_right _ (List.mem_append_right _ (List.mem_append_right _ (List.mem_append_right _ (List.mem_append_right _ (List.mem_append_right _ (List.mem_append_left _ h))))))))
theorem lw_m9 : ∀ w ∈ tables_1_9, w ∈ lw_tbl := fun w h => show w ∈ k2_sels lw_privs ++ tables_1 from List.mem_append_right (k2_sels lw_privs) (show w ∈ tables_1 from List.mem_append_right _ (List.mem_append_right _ (List.mem_append_right _ (List.mem_append_right _ (List.mem_append_right _ (List.mem_append_right _ (List.mem_append_right _ (List.mem_append_right _ (List.mem_append_left _ h)))))))))
theorem lw_m10 : ∀ w ∈ tables_1_10, w ∈ lw_tbl := fun w h => show w ∈ k2_sels lw_privs ++ tables_1 from List.mem_append_right (k2_sels lw_privs) (show w ∈ tables_1 from List.mem_append_right _ (List.mem_append_right _ (List.mem_append_right _ (List.mem_append_right _ (List.mem_append_right _ (List.mem_append_right _ (List.mem_append_right _ (List.mem_append_right _ (List.mem_append_right _ h)))))))))
theorem qs0 : (Cond.selects "java/lang/Throwable" ⟨"java/lang/Throwable", "fillInStackTrace", "(I)Ljava/lang/Throwable;"⟩ ⟨"java/lang/Throwable", "fillInStackTrace", "(I)Ljava/lang/Throwable;"⟩) ∈ lw_all := lw_g (lw_at lw_ms 0 rfl) rfl
theorem qs1 : (Cond.selects "java/util/ArrayList" ⟨"java/util/ArrayList", "add", "(Ljava/lang/Object;[Ljava/lang/Object;I)V"⟩ ⟨"java/util/ArrayList", "add", "(Ljava/lang/Object;[Ljava/lang/Object;I)V"⟩) ∈ lw_all := lw_g (lw_at lw_ms 1 rfl) rfl
theorem qs2 : (Cond.selects "java/util/ArrayList" ⟨"java/util/ArrayList", "grow", "()[Ljava/lang/Object;"⟩ ⟨"java/util/ArrayList", "grow", "()[Ljava/lang/Object;"⟩) ∈ lw_all := lw_g (lw_at lw_ms 2 rfl) rfl
theorem qs3 : (Cond.selects "java/util/ArrayList" ⟨"java/util/ArrayList", "grow", "(I)[Ljava/lang/Object;"⟩ ⟨"java/util/ArrayList", "grow", "(I)[Ljava/lang/Object;"⟩) ∈ lw_all := lw_g (lw_at lw_ms 3 rfl) rfl
theorem qs4 : (Cond.selects "ApartBench" ⟨"ApartBench", "lay", "(I)V"⟩ ⟨"ApartBench", "lay", "(I)V"⟩) ∈ lw_all := lw_g (lw_at lw_ms 4 rfl) rfl
theorem qs5 : (Cond.selects "ApartBench$Reader" ⟨"ApartBench$Reader", "go", "()V"⟩ ⟨"ApartBench$Reader", "go", "()V"⟩) ∈ lw_all := lw_g (lw_at lw_ms 5 rfl) rfl
theorem qs6 : (Cond.selects "ApartBench$Reader" ⟨"ApartBench$Reader", "byteAt", "(I)I"⟩ ⟨"ApartBench$Reader", "byteAt", "(I)I"⟩) ∈ lw_all := lw_g (lw_at lw_ms 6 rfl) rfl
theorem qs7 : (Cond.selects "ApartBench$Reader" ⟨"ApartBench$Reader", "is", "(Ljava/lang/String;)Z"⟩ ⟨"ApartBench$Reader", "is", "(Ljava/lang/String;)Z"⟩) ∈ lw_all := lw_g (lw_at lw_ms 7 rfl) rfl
theorem qs8 : (Cond.selects "ApartBench$Reader" ⟨"ApartBench$Reader", "check", "(ZI)V"⟩ ⟨"ApartBench$Reader", "check", "(ZI)V"⟩) ∈ lw_all := lw_g (lw_at lw_ms 8 rfl) rfl
theorem qs9 : (Cond.selects "ApartBench$Reader" ⟨"ApartBench$Reader", "road", "(LApartBench$Land;)V"⟩ ⟨"ApartBench$Reader", "road", "(LApartBench$Land;)V"⟩) ∈ lw_all := lw_g (lw_at lw_ms 9 rfl) rfl
theorem qs10 : (Cond.selects "ApartBench$Reader" ⟨"ApartBench$Reader", "amongHere", "(I)I"⟩ ⟨"ApartBench$Reader", "amongHere", "(I)I"⟩) ∈ lw_all := lw_g (lw_at lw_ms 10 rfl) rfl
theorem qs11 : (Cond.selects "ApartBench$Reader" ⟨"ApartBench$Reader", "number", "(II)I"⟩ ⟨"ApartBench$Reader", "number", "(II)I"⟩) ∈ lw_all := lw_g (lw_at lw_ms 11 rfl) rfl
theorem qs12 : (Cond.selects "ApartBench$Reader" ⟨"ApartBench$Reader", "begins", "(Ljava/lang/String;I)Z"⟩ ⟨"ApartBench$Reader", "begins", "(Ljava/lang/String;I)Z"⟩) ∈ lw_all := lw_g (lw_at lw_ms 12 rfl) rfl
theorem qs13 : (Cond.selects "ApartBench$Reader" ⟨"ApartBench$Reader", "expr", "(I)LApartBench$Expr;"⟩ ⟨"ApartBench$Reader", "expr", "(I)LApartBench$Expr;"⟩) ∈ lw_all := lw_g (lw_at lw_ms 13 rfl) rfl
theorem qs14 : (Cond.selects "ApartBench$Reader" ⟨"ApartBench$Reader", "and", "(I)LApartBench$Expr;"⟩ ⟨"ApartBench$Reader", "and", "(I)LApartBench$Expr;"⟩) ∈ lw_all := lw_g (lw_at lw_ms 14 rfl) rfl
theorem qs15 : (Cond.selects "ApartBench$Reader" ⟨"ApartBench$Reader", "not", "(I)LApartBench$Expr;"⟩ ⟨"ApartBench$Reader", "not", "(I)LApartBench$Expr;"⟩) ∈ lw_all := lw_g (lw_at lw_ms 15 rfl) rfl
theorem qs16 : (Cond.selects "ApartBench$Reader" ⟨"ApartBench$Reader", "sum", "(I)LApartBench$Expr;"⟩ ⟨"ApartBench$Reader", "sum", "(I)LApartBench$Expr;"⟩) ∈ lw_all := lw_g (lw_at lw_ms 16 rfl) rfl
theorem qs17 : (Cond.selects "ApartBench$Reader" ⟨"ApartBench$Reader", "product", "(I)LApartBench$Expr;"⟩ ⟨"ApartBench$Reader", "product", "(I)LApartBench$Expr;"⟩) ∈ lw_all := lw_g (lw_at lw_ms 17 rfl) rfl
theorem qs18 : (Cond.selects "ApartBench$Reader" ⟨"ApartBench$Reader", "part", "(I)LApartBench$Expr;"⟩ ⟨"ApartBench$Reader", "part", "(I)LApartBench$Expr;"⟩) ∈ lw_all := lw_g (lw_at lw_ms 18 rfl) rfl
theorem qs19 : (Cond.selects "ApartBench$Reader" ⟨"ApartBench$Reader", "need", "(Ljava/lang/String;)V"⟩ ⟨"ApartBench$Reader", "need", "(Ljava/lang/String;)V"⟩) ∈ lw_all := lw_g (lw_at lw_ms 19 rfl) rfl
theorem qs20 : (Cond.selects "ApartBench$Reader" ⟨"ApartBench$Reader", "cause", "(LApartBench$Land;)V"⟩ ⟨"ApartBench$Reader", "cause", "(LApartBench$Land;)V"⟩) ∈ lw_all := lw_g (lw_at lw_ms 20 rfl) rfl
theorem qs21 : (Cond.selects "ApartBench$Reader" ⟨"ApartBench$Reader", "judge", "(LApartBench$Land;)V"⟩ ⟨"ApartBench$Reader", "judge", "(LApartBench$Land;)V"⟩) ∈ lw_all := lw_g (lw_at lw_ms 21 rfl) rfl
theorem qs22 : (Cond.selects "ApartBench" ⟨"ApartBench", "cases", "()I"⟩ ⟨"ApartBench", "cases", "()I"⟩) ∈ lw_all := lw_g (lw_at lw_ms 22 rfl) rfl
theorem qs23 : (Cond.selects "ApartBench" ⟨"ApartBench", "tries", "()I"⟩ ⟨"ApartBench", "tries", "()I"⟩) ∈ lw_all := lw_g (lw_at lw_ms 23 rfl) rfl
theorem qs24 : (Cond.selects "ApartBench$Trial" ⟨"ApartBench$Trial", "goes", "()V"⟩ ⟨"ApartBench$Trial", "goes", "()V"⟩) ∈ lw_all := lw_g (lw_at lw_ms 24 rfl) rfl
theorem qs25 : (Cond.selects "ApartBench$Trial" ⟨"ApartBench$Trial", "judges", "()I"⟩ ⟨"ApartBench$Trial", "judges", "()I"⟩) ∈ lw_all := lw_g (lw_at lw_ms 25 rfl) rfl
theorem qs26 : (Cond.selects "ApartBench$Trial" ⟨"ApartBench$Trial", "towns", "(I)I"⟩ ⟨"ApartBench$Trial", "towns", "(I)I"⟩) ∈ lw_all := lw_g (lw_at lw_ms 26 rfl) rfl
theorem qs27 : (Cond.selects "ApartBench$Trial" ⟨"ApartBench$Trial", "hears", "(II)V"⟩ ⟨"ApartBench$Trial", "hears", "(II)V"⟩) ∈ lw_all := lw_g (lw_at lw_ms 27 rfl) rfl
theorem qs28 : (Cond.selects "ApartBench$Trial" ⟨"ApartBench$Trial", "cases", "()I"⟩ ⟨"ApartBench$Trial", "cases", "()I"⟩) ∈ lw_all := lw_g (lw_at lw_ms 28 rfl) rfl
theorem qs29 : (Cond.selects "ApartBench$Trial" ⟨"ApartBench$Trial", "saidAhead", "(II)I"⟩ ⟨"ApartBench$Trial", "saidAhead", "(II)I"⟩) ∈ lw_all := lw_g (lw_at lw_ms 29 rfl) rfl
theorem qs30 : (Cond.selects "ApartBench$Trial" ⟨"ApartBench$Trial", "meets", "(II)I"⟩ ⟨"ApartBench$Trial", "meets", "(II)I"⟩) ∈ lw_all := lw_g (lw_at lw_ms 30 rfl) rfl
theorem qs31 : (Cond.selects "ApartBench$Trial" ⟨"ApartBench$Trial", "isFlooded", "(III)Z"⟩ ⟨"ApartBench$Trial", "isFlooded", "(III)Z"⟩) ∈ lw_all := lw_g (lw_at lw_ms 31 rfl) rfl
theorem qs32 : (Cond.selects "ApartBench$Trial" ⟨"ApartBench$Trial", "isVoided", "(II)Z"⟩ ⟨"ApartBench$Trial", "isVoided", "(II)Z"⟩) ∈ lw_all := lw_g (lw_at lw_ms 32 rfl) rfl
theorem qs33 : (Cond.selects "ApartBench$Trial" ⟨"ApartBench$Trial", "hears", "(I)Z"⟩ ⟨"ApartBench$Trial", "hears", "(I)Z"⟩) ∈ lw_all := lw_g (lw_at lw_ms 33 rfl) rfl
theorem qs34 : (Cond.selects "ApartBench$Trial" ⟨"ApartBench$Trial", "isReached", "(IIII)Z"⟩ ⟨"ApartBench$Trial", "isReached", "(IIII)Z"⟩) ∈ lw_all := lw_g (lw_at lw_ms 34 rfl) rfl
theorem qs35 : (Cond.selects "ApartBench$Trial" ⟨"ApartBench$Trial", "three", "(II)I"⟩ ⟨"ApartBench$Trial", "three", "(II)I"⟩) ∈ lw_all := lw_g (lw_at lw_ms 35 rfl) rfl
theorem qs36 : (Cond.selects "ApartBench$Trial" ⟨"ApartBench$Trial", "isOne", "(III)Z"⟩ ⟨"ApartBench$Trial", "isOne", "(III)Z"⟩) ∈ lw_all := lw_g (lw_at lw_ms 36 rfl) rfl
theorem qs37 : (Cond.selects "ApartBench$Trial" ⟨"ApartBench$Trial", "areApart", "(IIII)Z"⟩ ⟨"ApartBench$Trial", "areApart", "(IIII)Z"⟩) ∈ lw_all := lw_g (lw_at lw_ms 37 rfl) rfl
theorem qs38 : (Cond.selects "ApartBench" ⟨"ApartBench", "townAt", "(I)V"⟩ ⟨"ApartBench", "townAt", "(I)V"⟩) ∈ lw_all := lw_g (lw_at lw_ms 38 rfl) rfl
theorem qs39 : (Cond.selects "ApartBench" ⟨"ApartBench", "judgeAt", "(I)LApartBench$Judge;"⟩ ⟨"ApartBench", "judgeAt", "(I)LApartBench$Judge;"⟩) ∈ lw_all := lw_g (lw_at lw_ms 39 rfl) rfl
theorem qs40 : (Cond.selects "ApartBench" ⟨"ApartBench", "caseAt", "(I)V"⟩ ⟨"ApartBench", "caseAt", "(I)V"⟩) ∈ lw_all := lw_g (lw_at lw_ms 40 rfl) rfl
theorem qs41 : (Cond.selects "ApartBench" ⟨"ApartBench", "refuses", "(I)I"⟩ ⟨"ApartBench", "refuses", "(I)I"⟩) ∈ lw_all := lw_g (lw_at lw_ms 41 rfl) rfl
theorem qs42 : (Cond.selects "java/util/ArrayList" ⟨"java/util/ArrayList", "fastRemove", "([Ljava/lang/Object;I)V"⟩ ⟨"java/util/ArrayList", "fastRemove", "([Ljava/lang/Object;I)V"⟩) ∈ lw_all := lw_g (lw_at lw_ms 42 rfl) rfl
theorem qs43 : (Cond.selects "ApartBench" ⟨"ApartBench", "isGuiltyNow", "(I)Z"⟩ ⟨"ApartBench", "isGuiltyNow", "(I)Z"⟩) ∈ lw_all := lw_g (lw_at lw_ms 43 rfl) rfl
theorem qs44 : (Cond.selects "ApartBench" ⟨"ApartBench", "isGuilty", "(I)Z"⟩ ⟨"ApartBench", "isGuilty", "(I)Z"⟩) ∈ lw_all := lw_g (lw_at lw_ms 44 rfl) rfl
theorem qs45 : (Cond.selects "ApartBench" ⟨"ApartBench", "reaches", "(I)Z"⟩ ⟨"ApartBench", "reaches", "(I)Z"⟩) ∈ lw_all := lw_g (lw_at lw_ms 45 rfl) rfl
theorem qs46 : (Cond.selects "ApartBench" ⟨"ApartBench", "isSeen", "()Z"⟩ ⟨"ApartBench", "isSeen", "()Z"⟩) ∈ lw_all := lw_g (lw_at lw_ms 46 rfl) rfl
theorem qs47 : (Cond.selects "ApartBench" ⟨"ApartBench", "wins", "(III)Z"⟩ ⟨"ApartBench", "wins", "(III)Z"⟩) ∈ lw_all := lw_g (lw_at lw_ms 47 rfl) rfl
theorem qs48 : (Cond.selects "ApartBench" ⟨"ApartBench", "draw", "(I)I"⟩ ⟨"ApartBench", "draw", "(I)I"⟩) ∈ lw_all := lw_g (lw_at lw_ms 48 rfl) rfl
theorem qs49 : (Cond.selects "ApartBenchModel" ⟨"ApartBenchModel", "fail", "(I)I"⟩ ⟨"ApartBenchModel", "fail", "(I)I"⟩) ∈ lw_all := lw_g (lw_at lw_ms 49 rfl) rfl
theorem qs50 : (Cond.selects "ApartBenchModel" ⟨"ApartBenchModel", "stepOn", "()V"⟩ ⟨"ApartBenchModel", "stepOn", "()V"⟩) ∈ lw_all := lw_g (lw_at lw_ms 50 rfl) rfl
theorem qs51 : (Cond.selects "ApartBenchModel" ⟨"ApartBenchModel", "byteAt", "(I)I"⟩ ⟨"ApartBenchModel", "byteAt", "(I)I"⟩) ∈ lw_all := lw_g (lw_at lw_ms 51 rfl) rfl
theorem qs52 : (Cond.selects "ApartBenchModel" ⟨"ApartBenchModel", "readLine", "(I)I"⟩ ⟨"ApartBenchModel", "readLine", "(I)I"⟩) ∈ lw_all := lw_g (lw_at lw_ms 52 rfl) rfl
theorem qs53 : (Cond.selects "ApartBenchModel" ⟨"ApartBenchModel", "is", "(Ljava/lang/String;)Z"⟩ ⟨"ApartBenchModel", "is", "(Ljava/lang/String;)Z"⟩) ∈ lw_all := lw_g (lw_at lw_ms 53 rfl) rfl
theorem qs54 : (Cond.selects "ApartBenchModel" ⟨"ApartBenchModel", "which", "([Ljava/lang/String;)I"⟩ ⟨"ApartBenchModel", "which", "([Ljava/lang/String;)I"⟩) ∈ lw_all := lw_g (lw_at lw_ms 54 rfl) rfl
theorem qs55 : (Cond.selects "ApartBenchModel" ⟨"ApartBenchModel", "wrong", "(I)V"⟩ ⟨"ApartBenchModel", "wrong", "(I)V"⟩) ∈ lw_all := lw_g (lw_at lw_ms 55 rfl) rfl
theorem qs56 : (Cond.selects "ApartBenchModel" ⟨"ApartBenchModel", "readNumber", "(II)I"⟩ ⟨"ApartBenchModel", "readNumber", "(II)I"⟩) ∈ lw_all := lw_g (lw_at lw_ms 56 rfl) rfl
theorem qs57 : (Cond.selects "ApartBenchModel" ⟨"ApartBenchModel", "numberNow", "(II)I"⟩ ⟨"ApartBenchModel", "numberNow", "(II)I"⟩) ∈ lw_all := lw_g (lw_at lw_ms 57 rfl) rfl
theorem qs58 : (Cond.selects "ApartBenchModel" ⟨"ApartBenchModel", "readExpression", "(I)V"⟩ ⟨"ApartBenchModel", "readExpression", "(I)V"⟩) ∈ lw_all := lw_g (lw_at lw_ms 58 rfl) rfl
theorem qs59 : (Cond.selects "ApartBenchModel" ⟨"ApartBenchModel", "isMarked", "(I)Z"⟩ ⟨"ApartBenchModel", "isMarked", "(I)Z"⟩) ∈ lw_all := lw_g (lw_at lw_ms 59 rfl) rfl
theorem qs60 : (Cond.selects "ApartBenchModel" ⟨"ApartBenchModel", "readAnd", "(I)V"⟩ ⟨"ApartBenchModel", "readAnd", "(I)V"⟩) ∈ lw_all := lw_g (lw_at lw_ms 60 rfl) rfl
theorem qs61 : (Cond.selects "ApartBenchModel" ⟨"ApartBenchModel", "readNot", "(I)V"⟩ ⟨"ApartBenchModel", "readNot", "(I)V"⟩) ∈ lw_all := lw_g (lw_at lw_ms 61 rfl) rfl
theorem qs62 : (Cond.selects "ApartBenchModel" ⟨"ApartBenchModel", "readSum", "(I)V"⟩ ⟨"ApartBenchModel", "readSum", "(I)V"⟩) ∈ lw_all := lw_g (lw_at lw_ms 62 rfl) rfl
theorem qs63 : (Cond.selects "ApartBenchModel" ⟨"ApartBenchModel", "readProduct", "(I)V"⟩ ⟨"ApartBenchModel", "readProduct", "(I)V"⟩) ∈ lw_all := lw_g (lw_at lw_ms 63 rfl) rfl
theorem qs64 : (Cond.selects "ApartBenchModel" ⟨"ApartBenchModel", "readPart", "(I)V"⟩ ⟨"ApartBenchModel", "readPart", "(I)V"⟩) ∈ lw_all := lw_g (lw_at lw_ms 64 rfl) rfl
theorem qs65 : (Cond.selects "ApartBenchModel" ⟨"ApartBenchModel", "lay", "(I)V"⟩ ⟨"ApartBenchModel", "lay", "(I)V"⟩) ∈ lw_all := lw_g (lw_at lw_ms 65 rfl) rfl
theorem qs66 : (Cond.selects "ApartBenchModel" ⟨"ApartBenchModel", "mark", "(I)V"⟩ ⟨"ApartBenchModel", "mark", "(I)V"⟩) ∈ lw_all := lw_g (lw_at lw_ms 66 rfl) rfl
theorem qs67 : (Cond.selects "ApartBenchModel" ⟨"ApartBenchModel", "readJudge", "(I)V"⟩ ⟨"ApartBenchModel", "readJudge", "(I)V"⟩) ∈ lw_all := lw_g (lw_at lw_ms 67 rfl) rfl
theorem qs68 : (Cond.selects "ApartBenchModel" ⟨"ApartBenchModel", "another", "(II)Z"⟩ ⟨"ApartBenchModel", "another", "(II)Z"⟩) ∈ lw_all := lw_g (lw_at lw_ms 68 rfl) rfl
theorem qs69 : (Cond.selects "ApartBenchModel" ⟨"ApartBenchModel", "townNow", "()I"⟩ ⟨"ApartBenchModel", "townNow", "()I"⟩) ∈ lw_all := lw_g (lw_at lw_ms 69 rfl) rfl
theorem qs70 : (Cond.selects "ApartBenchModel" ⟨"ApartBenchModel", "readTown", "()V"⟩ ⟨"ApartBenchModel", "readTown", "()V"⟩) ∈ lw_all := lw_g (lw_at lw_ms 70 rfl) rfl
theorem qs71 : (Cond.selects "ApartBenchModel" ⟨"ApartBenchModel", "readRoad", "()V"⟩ ⟨"ApartBenchModel", "readRoad", "()V"⟩) ∈ lw_all := lw_g (lw_at lw_ms 71 rfl) rfl
theorem qs72 : (Cond.selects "ApartBenchModel" ⟨"ApartBenchModel", "readCase", "()V"⟩ ⟨"ApartBenchModel", "readCase", "()V"⟩) ∈ lw_all := lw_g (lw_at lw_ms 72 rfl) rfl
theorem qs73 : (Cond.selects "ApartBenchModel" ⟨"ApartBenchModel", "takeOver", "()V"⟩ ⟨"ApartBenchModel", "takeOver", "()V"⟩) ∈ lw_all := lw_g (lw_at lw_ms 73 rfl) rfl
theorem qs74 : (Cond.selects "ApartBenchModel" ⟨"ApartBenchModel", "tellFar", "()V"⟩ ⟨"ApartBenchModel", "tellFar", "()V"⟩) ∈ lw_all := lw_g (lw_at lw_ms 74 rfl) rfl
theorem qs75 : (Cond.selects "ApartBenchModel" ⟨"ApartBenchModel", "tellNow", "()I"⟩ ⟨"ApartBenchModel", "tellNow", "()I"⟩) ∈ lw_all := lw_g (lw_at lw_ms 75 rfl) rfl
theorem qs76 : (Cond.selects "ApartBenchModel" ⟨"ApartBenchModel", "set", "()V"⟩ ⟨"ApartBenchModel", "set", "()V"⟩) ∈ lw_all := lw_g (lw_at lw_ms 76 rfl) rfl
theorem qs77 : (Cond.selects "ApartBenchModel" ⟨"ApartBenchModel", "tell", "()I"⟩ ⟨"ApartBenchModel", "tell", "()I"⟩) ∈ lw_all := lw_g (lw_at lw_ms 77 rfl) rfl
theorem qs78 : (Cond.selects "ApartBenchModel" ⟨"ApartBenchModel", "tellStops", "()V"⟩ ⟨"ApartBenchModel", "tellStops", "()V"⟩) ∈ lw_all := lw_g (lw_at lw_ms 78 rfl) rfl
theorem qs79 : (Cond.selects "ApartBenchModel" ⟨"ApartBenchModel", "tellMeetings", "()V"⟩ ⟨"ApartBenchModel", "tellMeetings", "()V"⟩) ∈ lw_all := lw_g (lw_at lw_ms 79 rfl) rfl
theorem qs80 : (Cond.selects "ApartBenchModel" ⟨"ApartBenchModel", "townOn", "(II)I"⟩ ⟨"ApartBenchModel", "townOn", "(II)I"⟩) ∈ lw_all := lw_g (lw_at lw_ms 80 rfl) rfl
theorem qs81 : (Cond.selects "ApartBenchModel" ⟨"ApartBenchModel", "isMeeting", "(III)Z"⟩ ⟨"ApartBenchModel", "isMeeting", "(III)Z"⟩) ∈ lw_all := lw_g (lw_at lw_ms 81 rfl) rfl
theorem qs82 : (Cond.selects "ApartBenchModel" ⟨"ApartBenchModel", "hear", "(III)V"⟩ ⟨"ApartBenchModel", "hear", "(III)V"⟩) ∈ lw_all := lw_g (lw_at lw_ms 82 rfl) rfl
theorem qs83 : (Cond.selects "ApartBenchModel" ⟨"ApartBenchModel", "isFeast", "(II)Z"⟩ ⟨"ApartBenchModel", "isFeast", "(II)Z"⟩) ∈ lw_all := lw_g (lw_at lw_ms 83 rfl) rfl
theorem qs84 : (Cond.selects "ApartBenchModel" ⟨"ApartBenchModel", "holds", "(IIII)Z"⟩ ⟨"ApartBenchModel", "holds", "(IIII)Z"⟩) ∈ lw_all := lw_g (lw_at lw_ms 84 rfl) rfl
theorem qs85 : (Cond.selects "ApartBenchModel" ⟨"ApartBenchModel", "saidAhead", "(II)I"⟩ ⟨"ApartBenchModel", "saidAhead", "(II)I"⟩) ∈ lw_all := lw_g (lw_at lw_ms 85 rfl) rfl
theorem qs86 : (Cond.selects "ApartBenchModel" ⟨"ApartBenchModel", "valueNow", "()I"⟩ ⟨"ApartBenchModel", "valueNow", "()I"⟩) ∈ lw_all := lw_g (lw_at lw_ms 86 rfl) rfl
theorem qs87 : (Cond.selects "ApartBenchModel" ⟨"ApartBenchModel", "judgeAll", "()I"⟩ ⟨"ApartBenchModel", "judgeAll", "()I"⟩) ∈ lw_all := lw_g (lw_at lw_ms 87 rfl) rfl
theorem qs88 : (Cond.selects "ApartBenchModel" ⟨"ApartBenchModel", "judgeCase", "(I)V"⟩ ⟨"ApartBenchModel", "judgeCase", "(I)V"⟩) ∈ lw_all := lw_g (lw_at lw_ms 88 rfl) rfl
theorem qs89 : (Cond.selects "ApartBenchModel" ⟨"ApartBenchModel", "isVoided", "(II)Z"⟩ ⟨"ApartBenchModel", "isVoided", "(II)Z"⟩) ∈ lw_all := lw_g (lw_at lw_ms 89 rfl) rfl
theorem qs90 : (Cond.selects "ApartBenchModel" ⟨"ApartBenchModel", "newsByWord", "(II)I"⟩ ⟨"ApartBenchModel", "newsByWord", "(II)I"⟩) ∈ lw_all := lw_g (lw_at lw_ms 90 rfl) rfl
theorem qs91 : (Cond.selects "ApartBenchModel" ⟨"ApartBenchModel", "newsDays", "(II)I"⟩ ⟨"ApartBenchModel", "newsDays", "(II)I"⟩) ∈ lw_all := lw_g (lw_at lw_ms 91 rfl) rfl
theorem qs92 : (Cond.selects "ApartBenchModel" ⟨"ApartBenchModel", "newsBy", "(III)I"⟩ ⟨"ApartBenchModel", "newsBy", "(III)I"⟩) ∈ lw_all := lw_g (lw_at lw_ms 92 rfl) rfl
theorem qs93 : (Cond.selects "ApartBenchModel" ⟨"ApartBenchModel", "three", "(IIII)I"⟩ ⟨"ApartBenchModel", "three", "(IIII)I"⟩) ∈ lw_all := lw_g (lw_at lw_ms 93 rfl) rfl
theorem qs94 : (Cond.selects "ApartBenchModel" ⟨"ApartBenchModel", "isGood", "(II)Z"⟩ ⟨"ApartBenchModel", "isGood", "(II)Z"⟩) ∈ lw_all := lw_g (lw_at lw_ms 94 rfl) rfl
theorem qs95 : (Cond.selects "ApartBenchModel" ⟨"ApartBenchModel", "isTown", "(I)Z"⟩ ⟨"ApartBenchModel", "isTown", "(I)Z"⟩) ∈ lw_all := lw_g (lw_at lw_ms 95 rfl) rfl
theorem qs96 : (Cond.selects "ApartBenchModel" ⟨"ApartBenchModel", "isJudge", "(I)Z"⟩ ⟨"ApartBenchModel", "isJudge", "(I)Z"⟩) ∈ lw_all := lw_g (lw_at lw_ms 96 rfl) rfl
theorem qs97 : (Cond.selects "ApartBenchModel" ⟨"ApartBenchModel", "isCase", "(I)Z"⟩ ⟨"ApartBenchModel", "isCase", "(I)Z"⟩) ∈ lw_all := lw_g (lw_at lw_ms 97 rfl) rfl
theorem qs98 : (Cond.selects "ApartBenchModel" ⟨"ApartBenchModel", "refuse", "(I)I"⟩ ⟨"ApartBenchModel", "refuse", "(I)I"⟩) ∈ lw_all := lw_g (lw_at lw_ms 98 rfl) rfl
theorem qs99 : (Cond.selects "ApartBenchModel" ⟨"ApartBenchModel", "keep", "()V"⟩ ⟨"ApartBenchModel", "keep", "()V"⟩) ∈ lw_all := lw_g (lw_at lw_ms 99 rfl) rfl
theorem qs100 : (Cond.selects "ApartBenchModel" ⟨"ApartBenchModel", "pack", "([II)V"⟩ ⟨"ApartBenchModel", "pack", "([II)V"⟩) ∈ lw_all := lw_g (lw_at lw_ms 100 rfl) rfl
theorem qs101 : (Cond.selects "ApartBenchModel" ⟨"ApartBenchModel", "unpack", "([II)V"⟩ ⟨"ApartBenchModel", "unpack", "([II)V"⟩) ∈ lw_all := lw_g (lw_at lw_ms 101 rfl) rfl
theorem qs102 : (Cond.selects "ApartBenchModel" ⟨"ApartBenchModel", "isAsSeen", "()Z"⟩ ⟨"ApartBenchModel", "isAsSeen", "()Z"⟩) ∈ lw_all := lw_g (lw_at lw_ms 102 rfl) rfl
theorem qs103 : (Cond.selects "ApartBenchModel" ⟨"ApartBenchModel", "isGuiltyBy", "(III)Z"⟩ ⟨"ApartBenchModel", "isGuiltyBy", "(III)Z"⟩) ∈ lw_all := lw_g (lw_at lw_ms 103 rfl) rfl
theorem qs104 : (Cond.selects "ApartBenchModel" ⟨"ApartBenchModel", "drawOf", "(I)I"⟩ ⟨"ApartBenchModel", "drawOf", "(I)I"⟩) ∈ lw_all := lw_g (lw_at lw_ms 104 rfl) rfl
