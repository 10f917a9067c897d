-- ===== PART A: goes FIRST, ahead of the names: the tables' words, and 'selects' of the private methods out of them =====
/-- a private method of a class that the tables say can be made, by its rows of tables_1 -/
def lw_okq (q : MethodName × Nat) : Prop := (q.1.cls ≠ "java/lang/invoke/MethodHandle" ∧ q.1.cls ≠ "java/lang/invoke/VarHandle") ∧ Cond.instantiable q.1.cls q.2 ∈ tables_1 ∧ Cond.privateMethod q.1 ∈ tables_1 ∧ Cond.instanceMethod q.1 ∈ tables_1
set_option maxRecDepth 100000
theorem lw_t1 {w : Cond} (h : w ∈ tables_1_1) : w ∈ tables_1 := List.mem_append_left _ h
theorem lw_t2 {w : Cond} (h : w ∈ tables_1_2) : w ∈ tables_1 := List.mem_append_right _ (List.mem_append_left _ h)
theorem lw_t3 {w : Cond} (h : w ∈ tables_1_3) : w ∈ tables_1 := List.mem_append_right _ (List.mem_append_right _ (List.mem_append_left _ h))
theorem lw_t4 {w : Cond} (h : w ∈ tables_1_4) : w ∈ tables_1 := List.mem_append_right _ (List.mem_append_right _ (List.mem_append_right _ (List.mem_append_left _ h)))
theorem lw_t5 {w : Cond} (h : w ∈ tables_1_5) : w ∈ tables_1 := List.mem_append_right _ (List.mem_append_right _ (List.mem_append_right _ (List.mem_append_right _ (List.mem_append_left _ h))))
theorem lw_t6 {w : Cond} (h : w ∈ tables_1_6) : w ∈ tables_1 := List.mem_append_right _ (List.mem_append_right _ (List.mem_append_right _ (List.mem_append_right _ (List.mem_append_right _ (List.mem_append_left _ h)))))
theorem lw_t7 {w : Cond} (h : w ∈ tables_1_7) : w ∈ tables_1 := List.mem_append_right _ (List.mem_append_right _ (List.mem_append_right _ (List.mem_append_right _ (List.mem_append_right _ (List.mem_append_right _ (List.mem_append_left _ h))))))
theorem lw_t8 {w : Cond} (h : w ∈ tables_1_8) : w ∈ tables_1 := List.mem_append_right _ (List.mem_append_right _ (List.mem_append_right _ (List.mem_append_right _ (List.mem_append_right _ (List.mem_append_right _ (List.mem_append_right _ (List.mem_append_left _ h)))))))
theorem lw_t9 {w : Cond} (h : w ∈ tables_1_9) : w ∈ tables_1 := List.mem_append_right _ (List.mem_append_right _ (List.mem_append_right _ (List.mem_append_right _ (List.mem_append_right _ (List.mem_append_right _ (List.mem_append_right _ (List.mem_append_right _ (List.mem_append_left _ h))))))))
theorem lw_t10 {w : Cond} (h : w ∈ tables_1_10) : w ∈ tables_1 := List.mem_append_right _ (List.mem_append_right _ (List.mem_append_right _ (List.mem_append_right _ (List.mem_append_right _ (List.mem_append_right _ (List.mem_append_right _ (List.mem_append_right _ (List.mem_append_right _ h))))))))
theorem lw_p0 : lw_okq (⟨"BarredBooks", "isBook", "(I)Z"⟩, 40) := ⟨⟨by decide +kernel, by decide +kernel⟩, lw_t1 (List.mem_of_getElem? (i := 52) rfl), lw_t2 (List.mem_of_getElem? (i := 93) rfl), lw_t2 (List.mem_of_getElem? (i := 94) rfl)⟩
theorem lw_p1 : lw_okq (⟨"BarredBooks", "isEdition", "(I)Z"⟩, 40) := ⟨⟨by decide +kernel, by decide +kernel⟩, lw_t1 (List.mem_of_getElem? (i := 52) rfl), lw_t2 (List.mem_of_getElem? (i := 102) rfl), lw_t2 (List.mem_of_getElem? (i := 103) rfl)⟩
theorem lw_p2 : lw_okq (⟨"BarredBooks", "made", "(III)LBarredBooks$Card;"⟩, 40) := ⟨⟨by decide +kernel, by decide +kernel⟩, lw_t1 (List.mem_of_getElem? (i := 52) rfl), lw_t2 (List.mem_of_getElem? (i := 142) rfl), lw_t2 (List.mem_of_getElem? (i := 143) rfl)⟩
theorem lw_p3 : lw_okq (⟨"java/lang/NullPointerException", "getExtendedNPEMessage", "()Ljava/lang/String;"⟩, 8) := ⟨⟨by decide +kernel, by decide +kernel⟩, lw_t3 (List.mem_of_getElem? (i := 39) rfl), lw_t3 (List.mem_of_getElem? (i := 37) rfl), lw_t3 (List.mem_of_getElem? (i := 38) rfl)⟩
theorem lw_p4 : lw_okq (⟨"java/lang/Throwable", "fillInStackTrace", "(I)Ljava/lang/Throwable;"⟩, 6) := ⟨⟨by decide +kernel, by decide +kernel⟩, lw_t3 (List.mem_of_getElem? (i := 51) rfl), lw_t3 (List.mem_of_getElem? (i := 49) rfl), lw_t3 (List.mem_of_getElem? (i := 50) rfl)⟩
theorem lw_p5 : lw_okq (⟨"BarredBooks", "isCard", "(I)Z"⟩, 40) := ⟨⟨by decide +kernel, by decide +kernel⟩, lw_t1 (List.mem_of_getElem? (i := 52) rfl), lw_t3 (List.mem_of_getElem? (i := 94) rfl), lw_t3 (List.mem_of_getElem? (i := 95) rfl)⟩
theorem lw_p6 : lw_okq (⟨"BarredBooks", "takesText", "()LBarredBooks$Decree;"⟩, 40) := ⟨⟨by decide +kernel, by decide +kernel⟩, lw_t1 (List.mem_of_getElem? (i := 52) rfl), lw_t4 (List.mem_of_getElem? (i := 24) rfl), lw_t4 (List.mem_of_getElem? (i := 25) rfl)⟩
theorem lw_p7 : lw_okq (⟨"BarredBooks$Reader", "clause", "()LBarredBooks$Clause;"⟩, 4) := ⟨⟨by decide +kernel, by decide +kernel⟩, lw_t4 (List.mem_of_getElem? (i := 28) rfl), lw_t4 (List.mem_of_getElem? (i := 96) rfl), lw_t4 (List.mem_of_getElem? (i := 97) rfl)⟩
theorem lw_p8 : lw_okq (⟨"BarredBooks$Reader", "here", "()I"⟩, 4) := ⟨⟨by decide +kernel, by decide +kernel⟩, lw_t4 (List.mem_of_getElem? (i := 28) rfl), lw_t4 (List.mem_of_getElem? (i := 100) rfl), lw_t4 (List.mem_of_getElem? (i := 101) rfl)⟩
theorem lw_p9 : lw_okq (⟨"BarredBooks$Reader", "word", "(Ljava/lang/String;)V"⟩, 4) := ⟨⟨by decide +kernel, by decide +kernel⟩, lw_t4 (List.mem_of_getElem? (i := 28) rfl), lw_t4 (List.mem_of_getElem? (i := 105) rfl), lw_t4 (List.mem_of_getElem? (i := 106) rfl)⟩
theorem lw_p10 : lw_okq (⟨"BarredBooks$Reader", "must", "(I)V"⟩, 4) := ⟨⟨by decide +kernel, by decide +kernel⟩, lw_t4 (List.mem_of_getElem? (i := 28) rfl), lw_t4 (List.mem_of_getElem? (i := 157) rfl), lw_t4 (List.mem_of_getElem? (i := 158) rfl)⟩
theorem lw_p11 : lw_okq (⟨"BarredBooks$Reader", "off", "()LBarredBooks$Off;"⟩, 4) := ⟨⟨by decide +kernel, by decide +kernel⟩, lw_t4 (List.mem_of_getElem? (i := 28) rfl), lw_t4 (List.mem_of_getElem? (i := 161) rfl), lw_t4 (List.mem_of_getElem? (i := 162) rfl)⟩
theorem lw_p12 : lw_okq (⟨"BarredBooks$Reader", "number", "()I"⟩, 4) := ⟨⟨by decide +kernel, by decide +kernel⟩, lw_t4 (List.mem_of_getElem? (i := 28) rfl), lw_t4 (List.mem_of_getElem? (i := 186) rfl), lw_t4 (List.mem_of_getElem? (i := 187) rfl)⟩
theorem lw_p13 : lw_okq (⟨"BarredBooks$Reader", "shared", "(I)LBarredBooks$Clause;"⟩, 4) := ⟨⟨by decide +kernel, by decide +kernel⟩, lw_t4 (List.mem_of_getElem? (i := 28) rfl), lw_t4 (List.mem_of_getElem? (i := 218) rfl), lw_t4 (List.mem_of_getElem? (i := 219) rfl)⟩
theorem lw_p14 : lw_okq (⟨"BarredBooks$Reader", "some", "()LBarredBooks$Test;"⟩, 4) := ⟨⟨by decide +kernel, by decide +kernel⟩, lw_t4 (List.mem_of_getElem? (i := 28) rfl), lw_t4 (List.mem_of_getElem? (i := 225) rfl), lw_t4 (List.mem_of_getElem? (i := 226) rfl)⟩
theorem lw_p15 : lw_okq (⟨"BarredBooks$Reader", "all", "()LBarredBooks$Test;"⟩, 4) := ⟨⟨by decide +kernel, by decide +kernel⟩, lw_t4 (List.mem_of_getElem? (i := 28) rfl), lw_t5 (List.mem_of_getElem? (i := 8) rfl), lw_t5 (List.mem_of_getElem? (i := 9) rfl)⟩
def lw_privs_1 : List (MethodName × Nat) := [(⟨"BarredBooks", "isBook", "(I)Z"⟩, 40), (⟨"BarredBooks", "isEdition", "(I)Z"⟩, 40), (⟨"BarredBooks", "made", "(III)LBarredBooks$Card;"⟩, 40), (⟨"java/lang/NullPointerException", "getExtendedNPEMessage", "()Ljava/lang/String;"⟩, 8), (⟨"java/lang/Throwable", "fillInStackTrace", "(I)Ljava/lang/Throwable;"⟩, 6), (⟨"BarredBooks", "isCard", "(I)Z"⟩, 40), (⟨"BarredBooks", "takesText", "()LBarredBooks$Decree;"⟩, 40), (⟨"BarredBooks$Reader", "clause", "()LBarredBooks$Clause;"⟩, 4), (⟨"BarredBooks$Reader", "here", "()I"⟩, 4), (⟨"BarredBooks$Reader", "word", "(Ljava/lang/String;)V"⟩, 4), (⟨"BarredBooks$Reader", "must", "(I)V"⟩, 4), (⟨"BarredBooks$Reader", "off", "()LBarredBooks$Off;"⟩, 4), (⟨"BarredBooks$Reader", "number", "()I"⟩, 4), (⟨"BarredBooks$Reader", "shared", "(I)LBarredBooks$Clause;"⟩, 4), (⟨"BarredBooks$Reader", "some", "()LBarredBooks$Test;"⟩, 4), (⟨"BarredBooks$Reader", "all", "()LBarredBooks$Test;"⟩, 4)]
theorem lw_r1 : ∀ q ∈ lw_privs_1, lw_okq q := List.forall_mem_cons.mpr ⟨lw_p0, List.forall_mem_cons.mpr ⟨lw_p1, List.forall_mem_cons.mpr ⟨lw_p2, List.forall_mem_cons.mpr ⟨lw_p3, List.forall_mem_cons.mpr ⟨lw_p4, List.forall_mem_cons.mpr ⟨lw_p5, List.forall_mem_cons.mpr ⟨lw_p6, List.forall_mem_cons.mpr ⟨lw_p7, List.forall_mem_cons.mpr ⟨lw_p8, List.forall_mem_cons.mpr ⟨lw_p9, List.forall_mem_cons.mpr ⟨lw_p10, List.forall_mem_cons.mpr ⟨lw_p11, List.forall_mem_cons.mpr ⟨lw_p12, List.forall_mem_cons.mpr ⟨lw_p13, List.forall_mem_cons.mpr ⟨lw_p14, List.forall_mem_cons.mpr ⟨lw_p15, fun _ h => absurd h List.not_mem_nil⟩⟩⟩⟩⟩⟩⟩⟩⟩⟩⟩⟩⟩⟩⟩⟩
theorem lw_p16 : lw_okq (⟨"BarredBooks$Reader", "factor", "()LBarredBooks$Test;"⟩, 4) := ⟨⟨by decide +kernel, by decide +kernel⟩, lw_t4 (List.mem_of_getElem? (i := 28) rfl), lw_t5 (List.mem_of_getElem? (i := 12) rfl), lw_t5 (List.mem_of_getElem? (i := 13) rfl)⟩
theorem lw_p17 : lw_okq (⟨"BarredBooks$Reader", "deeper", "()V"⟩, 4) := ⟨⟨by decide +kernel, by decide +kernel⟩, lw_t4 (List.mem_of_getElem? (i := 28) rfl), lw_t5 (List.mem_of_getElem? (i := 16) rfl), lw_t5 (List.mem_of_getElem? (i := 17) rfl)⟩
theorem lw_p18 : lw_okq (⟨"java/util/ArrayList", "add", "(Ljava/lang/Object;[Ljava/lang/Object;I)V"⟩, 3) := ⟨⟨by decide +kernel, by decide +kernel⟩, lw_t4 (List.mem_of_getElem? (i := 57) rfl), lw_t5 (List.mem_of_getElem? (i := 47) rfl), lw_t5 (List.mem_of_getElem? (i := 48) rfl)⟩
theorem lw_p19 : lw_okq (⟨"java/util/ArrayList", "grow", "()[Ljava/lang/Object;"⟩, 3) := ⟨⟨by decide +kernel, by decide +kernel⟩, lw_t4 (List.mem_of_getElem? (i := 57) rfl), lw_t5 (List.mem_of_getElem? (i := 51) rfl), lw_t5 (List.mem_of_getElem? (i := 52) rfl)⟩
theorem lw_p20 : lw_okq (⟨"java/util/ArrayList", "grow", "(I)[Ljava/lang/Object;"⟩, 3) := ⟨⟨by decide +kernel, by decide +kernel⟩, lw_t4 (List.mem_of_getElem? (i := 57) rfl), lw_t5 (List.mem_of_getElem? (i := 55) rfl), lw_t5 (List.mem_of_getElem? (i := 56) rfl)⟩
theorem lw_p21 : lw_okq (⟨"BarredBooks", "isDecree", "(I)Z"⟩, 40) := ⟨⟨by decide +kernel, by decide +kernel⟩, lw_t1 (List.mem_of_getElem? (i := 52) rfl), lw_t5 (List.mem_of_getElem? (i := 151) rfl), lw_t5 (List.mem_of_getElem? (i := 152) rfl)⟩
theorem lw_p22 : lw_okq (⟨"BarredBooks", "isKnown", "(LBarredBooks$Decree;II)Z"⟩, 40) := ⟨⟨by decide +kernel, by decide +kernel⟩, lw_t1 (List.mem_of_getElem? (i := 52) rfl), lw_t5 (List.mem_of_getElem? (i := 162) rfl), lw_t5 (List.mem_of_getElem? (i := 163) rfl)⟩
theorem lw_p23 : lw_okq (⟨"BarredBooks", "isBarred", "(LBarredBooks$Edition;II)Z"⟩, 40) := ⟨⟨by decide +kernel, by decide +kernel⟩, lw_t1 (List.mem_of_getElem? (i := 52) rfl), lw_t5 (List.mem_of_getElem? (i := 170) rfl), lw_t5 (List.mem_of_getElem? (i := 171) rfl)⟩
theorem lw_p24 : lw_okq (⟨"BarredBooks", "saysOf", "(LBarredBooks$Edition;II)I"⟩, 40) := ⟨⟨by decide +kernel, by decide +kernel⟩, lw_t1 (List.mem_of_getElem? (i := 52) rfl), lw_t5 (List.mem_of_getElem? (i := 174) rfl), lw_t5 (List.mem_of_getElem? (i := 175) rfl)⟩
theorem lw_p25 : lw_okq (⟨"BarredBooks", "struckOf", "(LBarredBooks$Edition;II)I"⟩, 40) := ⟨⟨by decide +kernel, by decide +kernel⟩, lw_t1 (List.mem_of_getElem? (i := 52) rfl), lw_t5 (List.mem_of_getElem? (i := 214) rfl), lw_t5 (List.mem_of_getElem? (i := 215) rfl)⟩
theorem lw_p26 : lw_okq (⟨"BarredBooks", "strikes", "(LBarredBooks$Edition;III)I"⟩, 40) := ⟨⟨by decide +kernel, by decide +kernel⟩, lw_t1 (List.mem_of_getElem? (i := 52) rfl), lw_t5 (List.mem_of_getElem? (i := 223) rfl), lw_t5 (List.mem_of_getElem? (i := 224) rfl)⟩
theorem lw_p27 : lw_okq (⟨"BarredBooks$Look", "words", "(I)I"⟩, 2) := ⟨⟨by decide +kernel, by decide +kernel⟩, lw_t1 (List.mem_of_getElem? (i := 88) rfl), lw_t6 (List.mem_of_getElem? (i := 7) rfl), lw_t6 (List.mem_of_getElem? (i := 8) rfl)⟩
theorem lw_p28 : lw_okq (⟨"BarredBooks$Says", "has", "(I)Z"⟩, 2) := ⟨⟨by decide +kernel, by decide +kernel⟩, lw_t5 (List.mem_of_getElem? (i := 30) rfl), lw_t6 (List.mem_of_getElem? (i := 12) rfl), lw_t6 (List.mem_of_getElem? (i := 13) rfl)⟩
theorem lw_p29 : lw_okq (⟨"BarredBooks", "isPerson", "(I)Z"⟩, 40) := ⟨⟨by decide +kernel, by decide +kernel⟩, lw_t1 (List.mem_of_getElem? (i := 52) rfl), lw_t6 (List.mem_of_getElem? (i := 41) rfl), lw_t6 (List.mem_of_getElem? (i := 42) rfl)⟩
theorem lw_p30 : lw_okq (⟨"BarredBooks", "lets", "(LBarredBooks$Decree;III)Z"⟩, 40) := ⟨⟨by decide +kernel, by decide +kernel⟩, lw_t1 (List.mem_of_getElem? (i := 52) rfl), lw_t6 (List.mem_of_getElem? (i := 49) rfl), lw_t6 (List.mem_of_getElem? (i := 50) rfl)⟩
theorem lw_p31 : lw_okq (⟨"BarredBooks", "parts", "(LBarredBooks$Edition;II)Z"⟩, 40) := ⟨⟨by decide +kernel, by decide +kernel⟩, lw_t1 (List.mem_of_getElem? (i := 52) rfl), lw_t6 (List.mem_of_getElem? (i := 137) rfl), lw_t6 (List.mem_of_getElem? (i := 138) rfl)⟩
def lw_privs_2 : List (MethodName × Nat) := [(⟨"BarredBooks$Reader", "factor", "()LBarredBooks$Test;"⟩, 4), (⟨"BarredBooks$Reader", "deeper", "()V"⟩, 4), (⟨"java/util/ArrayList", "add", "(Ljava/lang/Object;[Ljava/lang/Object;I)V"⟩, 3), (⟨"java/util/ArrayList", "grow", "()[Ljava/lang/Object;"⟩, 3), (⟨"java/util/ArrayList", "grow", "(I)[Ljava/lang/Object;"⟩, 3), (⟨"BarredBooks", "isDecree", "(I)Z"⟩, 40), (⟨"BarredBooks", "isKnown", "(LBarredBooks$Decree;II)Z"⟩, 40), (⟨"BarredBooks", "isBarred", "(LBarredBooks$Edition;II)Z"⟩, 40), (⟨"BarredBooks", "saysOf", "(LBarredBooks$Edition;II)I"⟩, 40), (⟨"BarredBooks", "struckOf", "(LBarredBooks$Edition;II)I"⟩, 40), (⟨"BarredBooks", "strikes", "(LBarredBooks$Edition;III)I"⟩, 40), (⟨"BarredBooks$Look", "words", "(I)I"⟩, 2), (⟨"BarredBooks$Says", "has", "(I)Z"⟩, 2), (⟨"BarredBooks", "isPerson", "(I)Z"⟩, 40), (⟨"BarredBooks", "lets", "(LBarredBooks$Decree;III)Z"⟩, 40), (⟨"BarredBooks", "parts", "(LBarredBooks$Edition;II)Z"⟩, 40)]
theorem lw_r2 : ∀ q ∈ lw_privs_2, lw_okq q := List.forall_mem_cons.mpr ⟨lw_p16, List.forall_mem_cons.mpr ⟨lw_p17, List.forall_mem_cons.mpr ⟨lw_p18, List.forall_mem_cons.mpr ⟨lw_p19, List.forall_mem_cons.mpr ⟨lw_p20, List.forall_mem_cons.mpr ⟨lw_p21, List.forall_mem_cons.mpr ⟨lw_p22, List.forall_mem_cons.mpr ⟨lw_p23, List.forall_mem_cons.mpr ⟨lw_p24, List.forall_mem_cons.mpr ⟨lw_p25, List.forall_mem_cons.mpr ⟨lw_p26, List.forall_mem_cons.mpr ⟨lw_p27, List.forall_mem_cons.mpr ⟨lw_p28, List.forall_mem_cons.mpr ⟨lw_p29, List.forall_mem_cons.mpr ⟨lw_p30, List.forall_mem_cons.mpr ⟨lw_p31, fun _ h => absurd h List.not_mem_nil⟩⟩⟩⟩⟩⟩⟩⟩⟩⟩⟩⟩⟩⟩⟩⟩
theorem lw_p32 : lw_okq (⟨"BarredBooks", "isAim", "(II)Z"⟩, 40) := ⟨⟨by decide +kernel, by decide +kernel⟩, lw_t1 (List.mem_of_getElem? (i := 52) rfl), lw_t6 (List.mem_of_getElem? (i := 163) rfl), lw_t6 (List.mem_of_getElem? (i := 164) rfl)⟩
theorem lw_p33 : lw_okq (⟨"BarredBooks", "weighs", "(I)V"⟩, 40) := ⟨⟨by decide +kernel, by decide +kernel⟩, lw_t1 (List.mem_of_getElem? (i := 52) rfl), lw_t6 (List.mem_of_getElem? (i := 171) rfl), lw_t6 (List.mem_of_getElem? (i := 172) rfl)⟩
theorem lw_p34 : lw_okq (⟨"BarredBooks", "enters", "(III)I"⟩, 40) := ⟨⟨by decide +kernel, by decide +kernel⟩, lw_t1 (List.mem_of_getElem? (i := 52) rfl), lw_t6 (List.mem_of_getElem? (i := 185) rfl), lw_t6 (List.mem_of_getElem? (i := 186) rfl)⟩
theorem lw_p35 : lw_okq (⟨"BarredBooks", "isCopy", "(I)Z"⟩, 40) := ⟨⟨by decide +kernel, by decide +kernel⟩, lw_t1 (List.mem_of_getElem? (i := 52) rfl), lw_t6 (List.mem_of_getElem? (i := 193) rfl), lw_t6 (List.mem_of_getElem? (i := 194) rfl)⟩
theorem lw_p36 : lw_okq (⟨"BarredBooks", "spotOf", "(III)I"⟩, 40) := ⟨⟨by decide +kernel, by decide +kernel⟩, lw_t1 (List.mem_of_getElem? (i := 52) rfl), lw_t6 (List.mem_of_getElem? (i := 197) rfl), lw_t6 (List.mem_of_getElem? (i := 198) rfl)⟩
theorem lw_p37 : lw_okq (⟨"BarredBooks", "isBy", "(I)Z"⟩, 40) := ⟨⟨by decide +kernel, by decide +kernel⟩, lw_t1 (List.mem_of_getElem? (i := 52) rfl), lw_t6 (List.mem_of_getElem? (i := 205) rfl), lw_t6 (List.mem_of_getElem? (i := 206) rfl)⟩
theorem lw_p38 : lw_okq (⟨"BarredBooks", "looks", "(I[SII)J"⟩, 40) := ⟨⟨by decide +kernel, by decide +kernel⟩, lw_t1 (List.mem_of_getElem? (i := 52) rfl), lw_t6 (List.mem_of_getElem? (i := 226) rfl), lw_t6 (List.mem_of_getElem? (i := 227) rfl)⟩
theorem lw_p39 : lw_okq (⟨"BarredBooks$Tape", "has", "(I)V"⟩, 1) := ⟨⟨by decide +kernel, by decide +kernel⟩, lw_t1 (List.mem_of_getElem? (i := 110) rfl), lw_t7 (List.mem_of_getElem? (i := 26) rfl), lw_t7 (List.mem_of_getElem? (i := 27) rfl)⟩
theorem lw_p40 : lw_okq (⟨"BarredBooks$Tape", "size", "()I"⟩, 1) := ⟨⟨by decide +kernel, by decide +kernel⟩, lw_t1 (List.mem_of_getElem? (i := 110) rfl), lw_t7 (List.mem_of_getElem? (i := 32) rfl), lw_t7 (List.mem_of_getElem? (i := 33) rfl)⟩
theorem lw_p41 : lw_okq (⟨"BarredBooksModel", "in", "(III)Z"⟩, 80) := ⟨⟨by decide +kernel, by decide +kernel⟩, lw_t7 (List.mem_of_getElem? (i := 89) rfl), lw_t8 (List.mem_of_getElem? (i := 100) rfl), lw_t8 (List.mem_of_getElem? (i := 101) rfl)⟩
theorem lw_p42 : lw_okq (⟨"BarredBooksModel", "isTown", "(I)Z"⟩, 80) := ⟨⟨by decide +kernel, by decide +kernel⟩, lw_t7 (List.mem_of_getElem? (i := 89) rfl), lw_t8 (List.mem_of_getElem? (i := 108) rfl), lw_t8 (List.mem_of_getElem? (i := 109) rfl)⟩
theorem lw_p43 : lw_okq (⟨"BarredBooksModel", "farOf", "(I)I"⟩, 80) := ⟨⟨by decide +kernel, by decide +kernel⟩, lw_t7 (List.mem_of_getElem? (i := 89) rfl), lw_t8 (List.mem_of_getElem? (i := 116) rfl), lw_t8 (List.mem_of_getElem? (i := 117) rfl)⟩
theorem lw_p44 : lw_okq (⟨"BarredBooksModel", "isBook", "(I)Z"⟩, 80) := ⟨⟨by decide +kernel, by decide +kernel⟩, lw_t7 (List.mem_of_getElem? (i := 89) rfl), lw_t8 (List.mem_of_getElem? (i := 132) rfl), lw_t8 (List.mem_of_getElem? (i := 133) rfl)⟩
theorem lw_p45 : lw_okq (⟨"BarredBooksModel", "isEdition", "(I)Z"⟩, 80) := ⟨⟨by decide +kernel, by decide +kernel⟩, lw_t7 (List.mem_of_getElem? (i := 89) rfl), lw_t8 (List.mem_of_getElem? (i := 141) rfl), lw_t8 (List.mem_of_getElem? (i := 142) rfl)⟩
theorem lw_p46 : lw_okq (⟨"BarredBooksModel", "isCard", "(I)Z"⟩, 80) := ⟨⟨by decide +kernel, by decide +kernel⟩, lw_t7 (List.mem_of_getElem? (i := 89) rfl), lw_t8 (List.mem_of_getElem? (i := 157) rfl), lw_t8 (List.mem_of_getElem? (i := 158) rfl)⟩
theorem lw_p47 : lw_okq (⟨"BarredBooksModel", "kindOf", "(I)I"⟩, 80) := ⟨⟨by decide +kernel, by decide +kernel⟩, lw_t7 (List.mem_of_getElem? (i := 89) rfl), lw_t8 (List.mem_of_getElem? (i := 161) rfl), lw_t8 (List.mem_of_getElem? (i := 162) rfl)⟩
def lw_privs_3 : List (MethodName × Nat) := [(⟨"BarredBooks", "isAim", "(II)Z"⟩, 40), (⟨"BarredBooks", "weighs", "(I)V"⟩, 40), (⟨"BarredBooks", "enters", "(III)I"⟩, 40), (⟨"BarredBooks", "isCopy", "(I)Z"⟩, 40), (⟨"BarredBooks", "spotOf", "(III)I"⟩, 40), (⟨"BarredBooks", "isBy", "(I)Z"⟩, 40), (⟨"BarredBooks", "looks", "(I[SII)J"⟩, 40), (⟨"BarredBooks$Tape", "has", "(I)V"⟩, 1), (⟨"BarredBooks$Tape", "size", "()I"⟩, 1), (⟨"BarredBooksModel", "in", "(III)Z"⟩, 80), (⟨"BarredBooksModel", "isTown", "(I)Z"⟩, 80), (⟨"BarredBooksModel", "farOf", "(I)I"⟩, 80), (⟨"BarredBooksModel", "isBook", "(I)Z"⟩, 80), (⟨"BarredBooksModel", "isEdition", "(I)Z"⟩, 80), (⟨"BarredBooksModel", "isCard", "(I)Z"⟩, 80), (⟨"BarredBooksModel", "kindOf", "(I)I"⟩, 80)]
theorem lw_r3 : ∀ q ∈ lw_privs_3, lw_okq q := List.forall_mem_cons.mpr ⟨lw_p32, List.forall_mem_cons.mpr ⟨lw_p33, List.forall_mem_cons.mpr ⟨lw_p34, List.forall_mem_cons.mpr ⟨lw_p35, List.forall_mem_cons.mpr ⟨lw_p36, List.forall_mem_cons.mpr ⟨lw_p37, List.forall_mem_cons.mpr ⟨lw_p38, List.forall_mem_cons.mpr ⟨lw_p39, List.forall_mem_cons.mpr ⟨lw_p40, List.forall_mem_cons.mpr ⟨lw_p41, List.forall_mem_cons.mpr ⟨lw_p42, List.forall_mem_cons.mpr ⟨lw_p43, List.forall_mem_cons.mpr ⟨lw_p44, List.forall_mem_cons.mpr ⟨lw_p45, List.forall_mem_cons.mpr ⟨lw_p46, List.forall_mem_cons.mpr ⟨lw_p47, fun _ h => absurd h List.not_mem_nil⟩⟩⟩⟩⟩⟩⟩⟩⟩⟩⟩⟩⟩⟩⟩⟩
theorem lw_p48 : lw_okq (⟨"BarredBooksModel", "barsOf", "(III)I"⟩, 80) := ⟨⟨by decide +kernel, by decide +kernel⟩, lw_t7 (List.mem_of_getElem? (i := 89) rfl), lw_t8 (List.mem_of_getElem? (i := 173) rfl), lw_t8 (List.mem_of_getElem? (i := 174) rfl)⟩
theorem lw_p49 : lw_okq (⟨"BarredBooksModel", "body", "(I)V"⟩, 80) := ⟨⟨by decide +kernel, by decide +kernel⟩, lw_t7 (List.mem_of_getElem? (i := 89) rfl), lw_t8 (List.mem_of_getElem? (i := 177) rfl), lw_t8 (List.mem_of_getElem? (i := 178) rfl)⟩
theorem lw_p50 : lw_okq (⟨"BarredBooksModel", "plainBars", "(II)I"⟩, 80) := ⟨⟨by decide +kernel, by decide +kernel⟩, lw_t7 (List.mem_of_getElem? (i := 89) rfl), lw_t8 (List.mem_of_getElem? (i := 181) rfl), lw_t8 (List.mem_of_getElem? (i := 182) rfl)⟩
theorem lw_p51 : lw_okq (⟨"BarredBooksModel", "hangsOf", "(III)I"⟩, 80) := ⟨⟨by decide +kernel, by decide +kernel⟩, lw_t7 (List.mem_of_getElem? (i := 89) rfl), lw_t8 (List.mem_of_getElem? (i := 185) rfl), lw_t8 (List.mem_of_getElem? (i := 186) rfl)⟩
theorem lw_p52 : lw_okq (⟨"BarredBooksModel", "plainHangs", "(III)I"⟩, 80) := ⟨⟨by decide +kernel, by decide +kernel⟩, lw_t7 (List.mem_of_getElem? (i := 89) rfl), lw_t8 (List.mem_of_getElem? (i := 189) rfl), lw_t8 (List.mem_of_getElem? (i := 190) rfl)⟩
theorem lw_p53 : lw_okq (⟨"BarredBooksModel", "passesOf", "(III)I"⟩, 80) := ⟨⟨by decide +kernel, by decide +kernel⟩, lw_t7 (List.mem_of_getElem? (i := 89) rfl), lw_t8 (List.mem_of_getElem? (i := 193) rfl), lw_t8 (List.mem_of_getElem? (i := 194) rfl)⟩
theorem lw_p54 : lw_okq (⟨"BarredBooksModel", "struckPasses", "(III)I"⟩, 80) := ⟨⟨by decide +kernel, by decide +kernel⟩, lw_t7 (List.mem_of_getElem? (i := 89) rfl), lw_t8 (List.mem_of_getElem? (i := 197) rfl), lw_t8 (List.mem_of_getElem? (i := 198) rfl)⟩
theorem lw_p55 : lw_okq (⟨"BarredBooksModel", "plainPasses", "(III)I"⟩, 80) := ⟨⟨by decide +kernel, by decide +kernel⟩, lw_t7 (List.mem_of_getElem? (i := 89) rfl), lw_t8 (List.mem_of_getElem? (i := 201) rfl), lw_t8 (List.mem_of_getElem? (i := 202) rfl)⟩
theorem lw_p56 : lw_okq (⟨"BarredBooksModel", "isText", "()Z"⟩, 80) := ⟨⟨by decide +kernel, by decide +kernel⟩, lw_t7 (List.mem_of_getElem? (i := 89) rfl), lw_t8 (List.mem_of_getElem? (i := 221) rfl), lw_t8 (List.mem_of_getElem? (i := 222) rfl)⟩
theorem lw_p57 : lw_okq (⟨"BarredBooksModel", "asks", "(III)V"⟩, 80) := ⟨⟨by decide +kernel, by decide +kernel⟩, lw_t7 (List.mem_of_getElem? (i := 89) rfl), lw_t8 (List.mem_of_getElem? (i := 225) rfl), lw_t8 (List.mem_of_getElem? (i := 226) rfl)⟩
theorem lw_p58 : lw_okq (⟨"BarredBooksModel", "goes", "(I)Z"⟩, 80) := ⟨⟨by decide +kernel, by decide +kernel⟩, lw_t7 (List.mem_of_getElem? (i := 89) rfl), lw_t8 (List.mem_of_getElem? (i := 229) rfl), lw_t8 (List.mem_of_getElem? (i := 230) rfl)⟩
theorem lw_p59 : lw_okq (⟨"BarredBooksModel", "takesClause", "()Z"⟩, 80) := ⟨⟨by decide +kernel, by decide +kernel⟩, lw_t7 (List.mem_of_getElem? (i := 89) rfl), lw_t8 (List.mem_of_getElem? (i := 233) rfl), lw_t8 (List.mem_of_getElem? (i := 234) rfl)⟩
theorem lw_p60 : lw_okq (⟨"BarredBooksModel", "next", "()I"⟩, 80) := ⟨⟨by decide +kernel, by decide +kernel⟩, lw_t7 (List.mem_of_getElem? (i := 89) rfl), lw_t8 (List.mem_of_getElem? (i := 237) rfl), lw_t8 (List.mem_of_getElem? (i := 238) rfl)⟩
theorem lw_p61 : lw_okq (⟨"BarredBooksModel", "takesWord", "(JI)Z"⟩, 80) := ⟨⟨by decide +kernel, by decide +kernel⟩, lw_t7 (List.mem_of_getElem? (i := 89) rfl), lw_t9 (List.mem_of_getElem? (i := 2) rfl), lw_t9 (List.mem_of_getElem? (i := 3) rfl)⟩
theorem lw_p62 : lw_okq (⟨"BarredBooksModel", "takes", "(I)Z"⟩, 80) := ⟨⟨by decide +kernel, by decide +kernel⟩, lw_t7 (List.mem_of_getElem? (i := 89) rfl), lw_t9 (List.mem_of_getElem? (i := 7) rfl), lw_t9 (List.mem_of_getElem? (i := 8) rfl)⟩
theorem lw_p63 : lw_okq (⟨"BarredBooksModel", "takesOf", "(ZI)Z"⟩, 80) := ⟨⟨by decide +kernel, by decide +kernel⟩, lw_t7 (List.mem_of_getElem? (i := 89) rfl), lw_t9 (List.mem_of_getElem? (i := 11) rfl), lw_t9 (List.mem_of_getElem? (i := 12) rfl)⟩
def lw_privs_4 : List (MethodName × Nat) := [(⟨"BarredBooksModel", "barsOf", "(III)I"⟩, 80), (⟨"BarredBooksModel", "body", "(I)V"⟩, 80), (⟨"BarredBooksModel", "plainBars", "(II)I"⟩, 80), (⟨"BarredBooksModel", "hangsOf", "(III)I"⟩, 80), (⟨"BarredBooksModel", "plainHangs", "(III)I"⟩, 80), (⟨"BarredBooksModel", "passesOf", "(III)I"⟩, 80), (⟨"BarredBooksModel", "struckPasses", "(III)I"⟩, 80), (⟨"BarredBooksModel", "plainPasses", "(III)I"⟩, 80), (⟨"BarredBooksModel", "isText", "()Z"⟩, 80), (⟨"BarredBooksModel", "asks", "(III)V"⟩, 80), (⟨"BarredBooksModel", "goes", "(I)Z"⟩, 80), (⟨"BarredBooksModel", "takesClause", "()Z"⟩, 80), (⟨"BarredBooksModel", "next", "()I"⟩, 80), (⟨"BarredBooksModel", "takesWord", "(JI)Z"⟩, 80), (⟨"BarredBooksModel", "takes", "(I)Z"⟩, 80), (⟨"BarredBooksModel", "takesOf", "(ZI)Z"⟩, 80)]
theorem lw_r4 : ∀ q ∈ lw_privs_4, lw_okq q := List.forall_mem_cons.mpr ⟨lw_p48, List.forall_mem_cons.mpr ⟨lw_p49, List.forall_mem_cons.mpr ⟨lw_p50, List.forall_mem_cons.mpr ⟨lw_p51, List.forall_mem_cons.mpr ⟨lw_p52, List.forall_mem_cons.mpr ⟨lw_p53, List.forall_mem_cons.mpr ⟨lw_p54, List.forall_mem_cons.mpr ⟨lw_p55, List.forall_mem_cons.mpr ⟨lw_p56, List.forall_mem_cons.mpr ⟨lw_p57, List.forall_mem_cons.mpr ⟨lw_p58, List.forall_mem_cons.mpr ⟨lw_p59, List.forall_mem_cons.mpr ⟨lw_p60, List.forall_mem_cons.mpr ⟨lw_p61, List.forall_mem_cons.mpr ⟨lw_p62, List.forall_mem_cons.mpr ⟨lw_p63, fun _ h => absurd h List.not_mem_nil⟩⟩⟩⟩⟩⟩⟩⟩⟩⟩⟩⟩⟩⟩⟩⟩
theorem lw_p64 : lw_okq (⟨"BarredBooksModel", "takesNumber", "()Z"⟩, 80) := ⟨⟨by decide +kernel, by decide +kernel⟩, lw_t7 (List.mem_of_getElem? (i := 89) rfl), lw_t9 (List.mem_of_getElem? (i := 15) rfl), lw_t9 (List.mem_of_getElem? (i := 16) rfl)⟩
theorem lw_p65 : lw_okq (⟨"BarredBooksModel", "isDigit", "()Z"⟩, 80) := ⟨⟨by decide +kernel, by decide +kernel⟩, lw_t7 (List.mem_of_getElem? (i := 89) rfl), lw_t9 (List.mem_of_getElem? (i := 19) rfl), lw_t9 (List.mem_of_getElem? (i := 20) rfl)⟩
theorem lw_p66 : lw_okq (⟨"BarredBooksModel", "takesLeave", "()Z"⟩, 80) := ⟨⟨by decide +kernel, by decide +kernel⟩, lw_t7 (List.mem_of_getElem? (i := 89) rfl), lw_t9 (List.mem_of_getElem? (i := 25) rfl), lw_t9 (List.mem_of_getElem? (i := 26) rfl)⟩
theorem lw_p67 : lw_okq (⟨"BarredBooksModel", "takesE", "()Z"⟩, 80) := ⟨⟨by decide +kernel, by decide +kernel⟩, lw_t7 (List.mem_of_getElem? (i := 89) rfl), lw_t9 (List.mem_of_getElem? (i := 31) rfl), lw_t9 (List.mem_of_getElem? (i := 32) rfl)⟩
theorem lw_p68 : lw_okq (⟨"BarredBooksModel", "takesTest", "()Z"⟩, 80) := ⟨⟨by decide +kernel, by decide +kernel⟩, lw_t7 (List.mem_of_getElem? (i := 89) rfl), lw_t9 (List.mem_of_getElem? (i := 35) rfl), lw_t9 (List.mem_of_getElem? (i := 36) rfl)⟩
theorem lw_p69 : lw_okq (⟨"BarredBooksModel", "holdsOne", "(II)Z"⟩, 80) := ⟨⟨by decide +kernel, by decide +kernel⟩, lw_t7 (List.mem_of_getElem? (i := 89) rfl), lw_t9 (List.mem_of_getElem? (i := 39) rfl), lw_t9 (List.mem_of_getElem? (i := 40) rfl)⟩
theorem lw_p70 : lw_okq (⟨"BarredBooksModel", "wordsOf", "(I)I"⟩, 80) := ⟨⟨by decide +kernel, by decide +kernel⟩, lw_t7 (List.mem_of_getElem? (i := 89) rfl), lw_t9 (List.mem_of_getElem? (i := 43) rfl), lw_t9 (List.mem_of_getElem? (i := 44) rfl)⟩
theorem lw_p71 : lw_okq (⟨"BarredBooksModel", "nearLine", "(I)I"⟩, 80) := ⟨⟨by decide +kernel, by decide +kernel⟩, lw_t7 (List.mem_of_getElem? (i := 89) rfl), lw_t9 (List.mem_of_getElem? (i := 47) rfl), lw_t9 (List.mem_of_getElem? (i := 48) rfl)⟩
theorem lw_p72 : lw_okq (⟨"BarredBooksModel", "ones", "(I)I"⟩, 80) := ⟨⟨by decide +kernel, by decide +kernel⟩, lw_t7 (List.mem_of_getElem? (i := 89) rfl), lw_t9 (List.mem_of_getElem? (i := 51) rfl), lw_t9 (List.mem_of_getElem? (i := 52) rfl)⟩
theorem lw_p73 : lw_okq (⟨"BarredBooksModel", "push", "(Z)V"⟩, 80) := ⟨⟨by decide +kernel, by decide +kernel⟩, lw_t7 (List.mem_of_getElem? (i := 89) rfl), lw_t9 (List.mem_of_getElem? (i := 55) rfl), lw_t9 (List.mem_of_getElem? (i := 56) rfl)⟩
theorem lw_p74 : lw_okq (⟨"BarredBooksModel", "settle", "(I)V"⟩, 80) := ⟨⟨by decide +kernel, by decide +kernel⟩, lw_t7 (List.mem_of_getElem? (i := 89) rfl), lw_t9 (List.mem_of_getElem? (i := 59) rfl), lw_t9 (List.mem_of_getElem? (i := 60) rfl)⟩
theorem lw_p75 : lw_okq (⟨"BarredBooksModel", "keeps", "(I)V"⟩, 80) := ⟨⟨by decide +kernel, by decide +kernel⟩, lw_t7 (List.mem_of_getElem? (i := 89) rfl), lw_t9 (List.mem_of_getElem? (i := 63) rfl), lw_t9 (List.mem_of_getElem? (i := 64) rfl)⟩
theorem lw_p76 : lw_okq (⟨"BarredBooksModel", "isDay", "(I)Z"⟩, 80) := ⟨⟨by decide +kernel, by decide +kernel⟩, lw_t7 (List.mem_of_getElem? (i := 89) rfl), lw_t9 (List.mem_of_getElem? (i := 75) rfl), lw_t9 (List.mem_of_getElem? (i := 76) rfl)⟩
theorem lw_p77 : lw_okq (⟨"BarredBooksModel", "isKnown", "(III)Z"⟩, 80) := ⟨⟨by decide +kernel, by decide +kernel⟩, lw_t7 (List.mem_of_getElem? (i := 89) rfl), lw_t9 (List.mem_of_getElem? (i := 79) rfl), lw_t9 (List.mem_of_getElem? (i := 80) rfl)⟩
theorem lw_p78 : lw_okq (⟨"BarredBooksModel", "barrer", "(III)I"⟩, 80) := ⟨⟨by decide +kernel, by decide +kernel⟩, lw_t7 (List.mem_of_getElem? (i := 89) rfl), lw_t9 (List.mem_of_getElem? (i := 87) rfl), lw_t9 (List.mem_of_getElem? (i := 88) rfl)⟩
theorem lw_p79 : lw_okq (⟨"BarredBooksModel", "struckOf", "(III)I"⟩, 80) := ⟨⟨by decide +kernel, by decide +kernel⟩, lw_t7 (List.mem_of_getElem? (i := 89) rfl), lw_t9 (List.mem_of_getElem? (i := 91) rfl), lw_t9 (List.mem_of_getElem? (i := 92) rfl)⟩
def lw_privs_5 : List (MethodName × Nat) := [(⟨"BarredBooksModel", "takesNumber", "()Z"⟩, 80), (⟨"BarredBooksModel", "isDigit", "()Z"⟩, 80), (⟨"BarredBooksModel", "takesLeave", "()Z"⟩, 80), (⟨"BarredBooksModel", "takesE", "()Z"⟩, 80), (⟨"BarredBooksModel", "takesTest", "()Z"⟩, 80), (⟨"BarredBooksModel", "holdsOne", "(II)Z"⟩, 80), (⟨"BarredBooksModel", "wordsOf", "(I)I"⟩, 80), (⟨"BarredBooksModel", "nearLine", "(I)I"⟩, 80), (⟨"BarredBooksModel", "ones", "(I)I"⟩, 80), (⟨"BarredBooksModel", "push", "(Z)V"⟩, 80), (⟨"BarredBooksModel", "settle", "(I)V"⟩, 80), (⟨"BarredBooksModel", "keeps", "(I)V"⟩, 80), (⟨"BarredBooksModel", "isDay", "(I)Z"⟩, 80), (⟨"BarredBooksModel", "isKnown", "(III)Z"⟩, 80), (⟨"BarredBooksModel", "barrer", "(III)I"⟩, 80), (⟨"BarredBooksModel", "struckOf", "(III)I"⟩, 80)]
theorem lw_r5 : ∀ q ∈ lw_privs_5, lw_okq q := List.forall_mem_cons.mpr ⟨lw_p64, List.forall_mem_cons.mpr ⟨lw_p65, List.forall_mem_cons.mpr ⟨lw_p66, List.forall_mem_cons.mpr ⟨lw_p67, List.forall_mem_cons.mpr ⟨lw_p68, List.forall_mem_cons.mpr ⟨lw_p69, List.forall_mem_cons.mpr ⟨lw_p70, List.forall_mem_cons.mpr ⟨lw_p71, List.forall_mem_cons.mpr ⟨lw_p72, List.forall_mem_cons.mpr ⟨lw_p73, List.forall_mem_cons.mpr ⟨lw_p74, List.forall_mem_cons.mpr ⟨lw_p75, List.forall_mem_cons.mpr ⟨lw_p76, List.forall_mem_cons.mpr ⟨lw_p77, List.forall_mem_cons.mpr ⟨lw_p78, List.forall_mem_cons.mpr ⟨lw_p79, fun _ h => absurd h List.not_mem_nil⟩⟩⟩⟩⟩⟩⟩⟩⟩⟩⟩⟩⟩⟩⟩⟩
theorem lw_p80 : lw_okq (⟨"BarredBooksModel", "striker", "(IIII)I"⟩, 80) := ⟨⟨by decide +kernel, by decide +kernel⟩, lw_t7 (List.mem_of_getElem? (i := 89) rfl), lw_t9 (List.mem_of_getElem? (i := 95) rfl), lw_t9 (List.mem_of_getElem? (i := 96) rfl)⟩
theorem lw_p81 : lw_okq (⟨"BarredBooksModel", "isBarred", "(III)Z"⟩, 80) := ⟨⟨by decide +kernel, by decide +kernel⟩, lw_t7 (List.mem_of_getElem? (i := 89) rfl), lw_t9 (List.mem_of_getElem? (i := 99) rfl), lw_t9 (List.mem_of_getElem? (i := 100) rfl)⟩
theorem lw_p82 : lw_okq (⟨"BarredBooksModel", "hasLine", "(II)Z"⟩, 80) := ⟨⟨by decide +kernel, by decide +kernel⟩, lw_t7 (List.mem_of_getElem? (i := 89) rfl), lw_t9 (List.mem_of_getElem? (i := 107) rfl), lw_t9 (List.mem_of_getElem? (i := 108) rfl)⟩
theorem lw_p83 : lw_okq (⟨"BarredBooksModel", "isPerson", "(I)Z"⟩, 80) := ⟨⟨by decide +kernel, by decide +kernel⟩, lw_t7 (List.mem_of_getElem? (i := 89) rfl), lw_t9 (List.mem_of_getElem? (i := 115) rfl), lw_t9 (List.mem_of_getElem? (i := 116) rfl)⟩
theorem lw_p84 : lw_okq (⟨"BarredBooksModel", "isSlip", "(I)Z"⟩, 80) := ⟨⟨by decide +kernel, by decide +kernel⟩, lw_t7 (List.mem_of_getElem? (i := 89) rfl), lw_t9 (List.mem_of_getElem? (i := 127) rfl), lw_t9 (List.mem_of_getElem? (i := 128) rfl)⟩
theorem lw_p85 : lw_okq (⟨"BarredBooksModel", "isTrue", "(I)Z"⟩, 80) := ⟨⟨by decide +kernel, by decide +kernel⟩, lw_t7 (List.mem_of_getElem? (i := 89) rfl), lw_t9 (List.mem_of_getElem? (i := 135) rfl), lw_t9 (List.mem_of_getElem? (i := 136) rfl)⟩
theorem lw_p86 : lw_okq (⟨"BarredBooksModel", "hangsOn", "(II)Z"⟩, 80) := ⟨⟨by decide +kernel, by decide +kernel⟩, lw_t7 (List.mem_of_getElem? (i := 89) rfl), lw_t9 (List.mem_of_getElem? (i := 139) rfl), lw_t9 (List.mem_of_getElem? (i := 140) rfl)⟩
theorem lw_p87 : lw_okq (⟨"BarredBooksModel", "canPart", "(II)Z"⟩, 80) := ⟨⟨by decide +kernel, by decide +kernel⟩, lw_t7 (List.mem_of_getElem? (i := 89) rfl), lw_t9 (List.mem_of_getElem? (i := 159) rfl), lw_t9 (List.mem_of_getElem? (i := 160) rfl)⟩
theorem lw_p88 : lw_okq (⟨"BarredBooksModel", "findHits", "()V"⟩, 80) := ⟨⟨by decide +kernel, by decide +kernel⟩, lw_t7 (List.mem_of_getElem? (i := 89) rfl), lw_t9 (List.mem_of_getElem? (i := 183) rfl), lw_t9 (List.mem_of_getElem? (i := 184) rfl)⟩
theorem lw_p89 : lw_okq (⟨"BarredBooksModel", "hit", "(II)I"⟩, 80) := ⟨⟨by decide +kernel, by decide +kernel⟩, lw_t7 (List.mem_of_getElem? (i := 89) rfl), lw_t9 (List.mem_of_getElem? (i := 187) rfl), lw_t9 (List.mem_of_getElem? (i := 188) rfl)⟩
theorem lw_p90 : lw_okq (⟨"BarredBooksModel", "metBy", "(I)I"⟩, 80) := ⟨⟨by decide +kernel, by decide +kernel⟩, lw_t7 (List.mem_of_getElem? (i := 89) rfl), lw_t9 (List.mem_of_getElem? (i := 191) rfl), lw_t9 (List.mem_of_getElem? (i := 192) rfl)⟩
theorem lw_p91 : lw_okq (⟨"BarredBooksModel", "hitBy", "(II)I"⟩, 80) := ⟨⟨by decide +kernel, by decide +kernel⟩, lw_t7 (List.mem_of_getElem? (i := 89) rfl), lw_t9 (List.mem_of_getElem? (i := 195) rfl), lw_t9 (List.mem_of_getElem? (i := 196) rfl)⟩
theorem lw_p92 : lw_okq (⟨"BarredBooksModel", "lossBy", "(I)I"⟩, 80) := ⟨⟨by decide +kernel, by decide +kernel⟩, lw_t7 (List.mem_of_getElem? (i := 89) rfl), lw_t9 (List.mem_of_getElem? (i := 199) rfl), lw_t9 (List.mem_of_getElem? (i := 200) rfl)⟩
theorem lw_p93 : lw_okq (⟨"BarredBooksModel", "enter", "(III)I"⟩, 80) := ⟨⟨by decide +kernel, by decide +kernel⟩, lw_t7 (List.mem_of_getElem? (i := 89) rfl), lw_t9 (List.mem_of_getElem? (i := 211) rfl), lw_t9 (List.mem_of_getElem? (i := 212) rfl)⟩
theorem lw_p94 : lw_okq (⟨"BarredBooksModel", "spotOf", "(III)I"⟩, 80) := ⟨⟨by decide +kernel, by decide +kernel⟩, lw_t7 (List.mem_of_getElem? (i := 89) rfl), lw_t9 (List.mem_of_getElem? (i := 219) rfl), lw_t9 (List.mem_of_getElem? (i := 220) rfl)⟩
theorem lw_p95 : lw_okq (⟨"BarredBooksModel", "isTime", "(I)Z"⟩, 80) := ⟨⟨by decide +kernel, by decide +kernel⟩, lw_t7 (List.mem_of_getElem? (i := 89) rfl), lw_t9 (List.mem_of_getElem? (i := 227) rfl), lw_t9 (List.mem_of_getElem? (i := 228) rfl)⟩
def lw_privs_6 : List (MethodName × Nat) := [(⟨"BarredBooksModel", "striker", "(IIII)I"⟩, 80), (⟨"BarredBooksModel", "isBarred", "(III)Z"⟩, 80), (⟨"BarredBooksModel", "hasLine", "(II)Z"⟩, 80), (⟨"BarredBooksModel", "isPerson", "(I)Z"⟩, 80), (⟨"BarredBooksModel", "isSlip", "(I)Z"⟩, 80), (⟨"BarredBooksModel", "isTrue", "(I)Z"⟩, 80), (⟨"BarredBooksModel", "hangsOn", "(II)Z"⟩, 80), (⟨"BarredBooksModel", "canPart", "(II)Z"⟩, 80), (⟨"BarredBooksModel", "findHits", "()V"⟩, 80), (⟨"BarredBooksModel", "hit", "(II)I"⟩, 80), (⟨"BarredBooksModel", "metBy", "(I)I"⟩, 80), (⟨"BarredBooksModel", "hitBy", "(II)I"⟩, 80), (⟨"BarredBooksModel", "lossBy", "(I)I"⟩, 80), (⟨"BarredBooksModel", "enter", "(III)I"⟩, 80), (⟨"BarredBooksModel", "spotOf", "(III)I"⟩, 80), (⟨"BarredBooksModel", "isTime", "(I)Z"⟩, 80)]
theorem lw_r6 : ∀ q ∈ lw_privs_6, lw_okq q := List.forall_mem_cons.mpr ⟨lw_p80, List.forall_mem_cons.mpr ⟨lw_p81, List.forall_mem_cons.mpr ⟨lw_p82, List.forall_mem_cons.mpr ⟨lw_p83, List.forall_mem_cons.mpr ⟨lw_p84, List.forall_mem_cons.mpr ⟨lw_p85, List.forall_mem_cons.mpr ⟨lw_p86, List.forall_mem_cons.mpr ⟨lw_p87, List.forall_mem_cons.mpr ⟨lw_p88, List.forall_mem_cons.mpr ⟨lw_p89, List.forall_mem_cons.mpr ⟨lw_p90, List.forall_mem_cons.mpr ⟨lw_p91, List.forall_mem_cons.mpr ⟨lw_p92, List.forall_mem_cons.mpr ⟨lw_p93, List.forall_mem_cons.mpr ⟨lw_p94, List.forall_mem_cons.mpr ⟨lw_p95, fun _ h => absurd h List.not_mem_nil⟩⟩⟩⟩⟩⟩⟩⟩⟩⟩⟩⟩⟩⟩⟩⟩
theorem lw_p96 : lw_okq (⟨"BarredBooksModel", "by", "(I)I"⟩, 80) := ⟨⟨by decide +kernel, by decide +kernel⟩, lw_t7 (List.mem_of_getElem? (i := 89) rfl), lw_t9 (List.mem_of_getElem? (i := 231) rfl), lw_t9 (List.mem_of_getElem? (i := 232) rfl)⟩
theorem lw_p97 : lw_okq (⟨"BarredBooksModel", "isTape", "(I)Z"⟩, 80) := ⟨⟨by decide +kernel, by decide +kernel⟩, lw_t7 (List.mem_of_getElem? (i := 89) rfl), lw_t10 (List.mem_of_getElem? (i := 7) rfl), lw_t10 (List.mem_of_getElem? (i := 8) rfl)⟩
theorem lw_p98 : lw_okq (⟨"BarredBooksModel", "narrow", "(IJ)J"⟩, 80) := ⟨⟨by decide +kernel, by decide +kernel⟩, lw_t7 (List.mem_of_getElem? (i := 89) rfl), lw_t10 (List.mem_of_getElem? (i := 27) rfl), lw_t10 (List.mem_of_getElem? (i := 28) rfl)⟩
def lw_privs_7 : List (MethodName × Nat) := [(⟨"BarredBooksModel", "by", "(I)I"⟩, 80), (⟨"BarredBooksModel", "isTape", "(I)Z"⟩, 80), (⟨"BarredBooksModel", "narrow", "(IJ)J"⟩, 80)]
theorem lw_r7 : ∀ q ∈ lw_privs_7, lw_okq q := List.forall_mem_cons.mpr ⟨lw_p96, List.forall_mem_cons.mpr ⟨lw_p97, List.forall_mem_cons.mpr ⟨lw_p98, fun _ h => absurd h List.not_mem_nil⟩⟩⟩
def lw_privs : List (MethodName × Nat) := lw_privs_1 ++ (lw_privs_2 ++ (lw_privs_3 ++ (lw_privs_4 ++ (lw_privs_5 ++ (lw_privs_6 ++ (lw_privs_7))))))
def lw_tbl : List Cond := k2_sels lw_privs ++ tables_1
theorem lw_privs_ok : ∀ q ∈ lw_privs, lw_okq q := by
  show ∀ q ∈ lw_privs_1 ++ (lw_privs_2 ++ (lw_privs_3 ++ (lw_privs_4 ++ (lw_privs_5 ++ (lw_privs_6 ++ (lw_privs_7)))))), lw_okq q
  exact List.forall_mem_append.mpr ⟨lw_r1, List.forall_mem_append.mpr ⟨lw_r2, List.forall_mem_append.mpr ⟨lw_r3, List.forall_mem_append.mpr ⟨lw_r4, List.forall_mem_append.mpr ⟨lw_r5, List.forall_mem_append.mpr ⟨lw_r6, lw_r7⟩⟩⟩⟩⟩⟩
-- ===== ONE list of words for every method: the tables' words that hold all through a run =====
def lw_all : List Cond := lw_tbl.filter goodWord
/-- a word of the tables by its place: claim/WORDS.tsv -/
theorem lw_w {w : Cond} (i : Nat) (h : lw_tbl[i]? = some w) (g : goodWord w = true) : w ∈ lw_all := List.mem_filter.mpr ⟨List.mem_of_getElem? h, g⟩
theorem lw_all_tbl {w : Cond} (h : w ∈ lw_all) : w ∈ lw_tbl := (List.mem_filter.mp h).1
theorem lw_self : GoodIn lw_all lw_all := fun w h => ⟨h, good_of_word (List.mem_filter.mp h).2⟩
/-- a class's field words, by their places -/
theorem lw_in (ws : List Cond) (ps : List Nat) (hp : ws = ps.filterMap (fun i => lw_tbl[i]?)) (hg : ws.all goodWord = true) : ∀ w ∈ ws, w ∈ lw_all := by
  intro w h
  have h1 := List.all_eq_true.mp hg w h
  rw [hp] at h
  obtain ⟨i, -, hi⟩ := List.mem_filterMap.mp h
  exact lw_w i hi h1
/-- the words of a contract for the method y with code b, L locals, answer r -/
abbrev ws_ (y : MethodName) (b : ByteArray) (L : Nat) (r : Option FieldType) : List Cond := Cond.code y b L r :: lw_all
theorem lw_meth {y : MethodName} {b : ByteArray} {L : Nat} {r : Option FieldType} (h : Cond.code y b L r ∈ lw_all) : GoodIn lw_all (ws_ y b L r) := by
  intro w hw
  rcases List.mem_cons.mp hw with e | e
  · rw [e]
    exact lw_self _ h
  · exact lw_self _ e
theorem lw_app {a c : List Cond} (ha : ∀ w ∈ a, w ∈ lw_all) (hc : GoodIn lw_all c) : GoodIn lw_all (a ++ c) := by
  intro w hw
  rcases List.mem_append.mp hw with e | e
  · exact lw_self w (ha w e)
  · exact hc w e
/-- what a call through an object asks: cwV n hts (lw_V ..) -/
theorem lw_V {own : String} {idx : Nat} {C : String} {y : MethodName} {b : ByteArray} {L : Nat} {r : Option FieldType} (h1 : Cond.methodLink own idx y ∈ lw_all) (h2 : Cond.instanceMethod y ∈ lw_all) (h3 : Cond.selects C y y ∈ lw_all) (h4 : Cond.initialized C ∈ lw_all) (h5 : Cond.code y b L r ∈ lw_all) : GoodIn lw_all (wsV own idx C y (ws_ y b L r)) := by
  refine lw_app ?_ (lw_meth h5)
  intro w hw
  simp only [List.mem_cons, List.not_mem_nil, or_false] at hw
  rcases hw with e | e | e | e
  · rw [e]; exact h1
  · rw [e]; exact h2
  · rw [e]; exact h3
  · rw [e]; exact h4
/-- what a static call asks: va_cwS n hts (lw_S ..) -/
theorem lw_S {own : String} {idx : Nat} {y : MethodName} {b : ByteArray} {L : Nat} {r : Option FieldType} (h1 : Cond.methodLink own idx y ∈ lw_all) (h2 : Cond.static y ∈ lw_all) (h3 : Cond.initialized y.cls ∈ lw_all) (h4 : Cond.code y b L r ∈ lw_all) : GoodIn lw_all (va_wsS own idx y (ws_ y b L r)) := by
  refine lw_app ?_ (lw_meth h4)
  intro w hw
  simp only [List.mem_cons, List.not_mem_nil, or_false] at hw
  rcases hw with e | e | e
  · rw [e]; exact h1
  · rw [e]; exact h2
  · rw [e]; exact h3
/-- the words of a contract for a method WITH HANDLERS (hh: its table) -/
abbrev wsW_ (y : MethodName) (b : ByteArray) (L : Nat) (r : Option FieldType) (hh : List (Nat × Nat × Nat × Nat)) : List Cond := Cond.codeWith y b L r hh :: lw_all
theorem lw_methW {y : MethodName} {b : ByteArray} {L : Nat} {r : Option FieldType} {hh : List (Nat × Nat × Nat × Nat)} (h : Cond.codeWith y b L r hh ∈ lw_all) : GoodIn lw_all (wsW_ y b L r hh) := by
  intro w hw
  rcases List.mem_cons.mp hw with e | e
  · rw [e]
    exact lw_self _ h
  · exact lw_self _ e
/-- any list of words by their places (lw_in), good -/
theorem lw_good {ws : List Cond} (h : ∀ w ∈ ws, w ∈ lw_all) : GoodIn lw_all ws := fun w hw => lw_self w (h w hw)
/-- what a call of a method with handlers asks: vx_cwVW n hts (lw_VW ..), vx_cwSW n hts (lw_SW ..) -/
theorem lw_VW {own : String} {idx : Nat} {C : String} {y : MethodName} {b : ByteArray} {L : Nat} {r : Option FieldType} {hh : List (Nat × Nat × Nat × Nat)} (h1 : Cond.methodLink own idx y ∈ lw_all) (h2 : Cond.instanceMethod y ∈ lw_all) (h3 : Cond.selects C y y ∈ lw_all) (h4 : Cond.initialized C ∈ lw_all) (h5 : Cond.codeWith y b L r hh ∈ lw_all) : GoodIn lw_all (wsV own idx C y (wsW_ y b L r hh)) := by
  refine lw_app ?_ (lw_methW h5)
  intro w hw
  simp only [List.mem_cons, List.not_mem_nil, or_false] at hw
  rcases hw with e | e | e | e
  · rw [e]; exact h1
  · rw [e]; exact h2
  · rw [e]; exact h3
  · rw [e]; exact h4
theorem lw_SW {own : String} {idx : Nat} {y : MethodName} {b : ByteArray} {L : Nat} {r : Option FieldType} {hh : List (Nat × Nat × Nat × Nat)} (h1 : Cond.methodLink own idx y ∈ lw_all) (h2 : Cond.static y ∈ lw_all) (h3 : Cond.initialized y.cls ∈ lw_all) (h4 : Cond.codeWith y b L r hh ∈ lw_all) : GoodIn lw_all (va_wsS own idx y (wsW_ y b L r hh)) := by
  refine lw_app ?_ (lw_methW h4)
  intro w hw
  simp only [List.mem_cons, List.not_mem_nil, or_false] at hw
  rcases hw with e | e | e
  · rw [e]; exact h1
  · rw [e]; exact h2
  · rw [e]; exact h3
/-- a word by its place in its run of the tables -/
theorem lw_at {r : List Cond} (hr : ∀ w ∈ r, w ∈ lw_tbl) {w : Cond} (i : Nat) (h : r[i]? = some w) : w ∈ lw_tbl := hr w (List.mem_of_getElem? h)
theorem lw_g {w : Cond} (h : w ∈ lw_tbl) (g : goodWord w = true) : w ∈ lw_all := List.mem_filter.mpr ⟨h, g⟩
theorem lw_ms : ∀ w ∈ k2_sels lw_privs, w ∈ lw_tbl := fun w h => show w ∈ k2_sels lw_privs ++ tables_1 from List.mem_append_left _ h
theorem lw_m1 : ∀ w ∈ tables_1_1, w ∈ lw_tbl := fun w h => show w ∈ k2_sels lw_privs ++ tables_1 from List.mem_append_right (k2_sels lw_privs) (show w ∈ tables_1 from List.mem_append_left _ h)
theorem lw_m2 : ∀ w ∈ tables_1_2, w ∈ lw_tbl := fun w h => show w ∈ k2_sels lw_privs ++ tables_1 from List.mem_append_right (k2_sels lw_privs) (show w ∈ tables_1 from List.mem_append_right _ (List.mem_append_left _ h))
theorem lw_m3 : ∀ w ∈ tables_1_3, w ∈ lw_tbl := fun w h => show w ∈ k2_sels lw_privs ++ tables_1 from List.mem_append_right (k2_sels lw_privs) (show w ∈ tables_1 from List.mem_append_right _ (List.mem_append_right _ (List.mem_append_left _ h)))
theorem lw_m4 : ∀ w ∈ tables_1_4, w ∈ lw_tbl := fun w h => show w ∈ k2_sels lw_privs ++ tables_1 from List.mem_append_right (k2_sels lw_privs) (show w ∈ tables_1 from List.mem_append_right _ (List.mem_append_right _ (List.mem_append_right _ (List.mem_append_left _ h))))
theorem lw_m5 : ∀ w ∈ tables_1_5, w ∈ lw_tbl := fun w h => show w ∈ k2_sels lw_privs ++ tables_1 from List.mem_append_right (k2_sels lw_privs) (show w ∈ tables_1 from List.mem_append_right _ (List.mem_append_right _ (List.mem_append_right _ (List.mem_append_right _ (List.mem_append_left _ h)))))
theorem lw_m6 : ∀ w ∈ tables_1_6, w ∈ lw_tbl := fun w h => show w ∈ k2_sels lw_privs ++ tables_1 from List.mem_append_right (k2_sels lw_privs) (show w ∈ tables_1 from List.mem_append_right _ (List.mem_append_right _ (List.mem_append_right _ (List.mem_append_right _ (List.mem_append_right _ (List.mem_append_left _ h))))))
theorem lw_m7 : ∀ w ∈ tables_1_7, w ∈ lw_tbl := fun w h => show w ∈ k2_sels lw_privs ++ tables_1 from List.mem_append_right (k2_sels lw_privs) (show w ∈ tables_1 from List.mem_append_right _ (List.mem_append_right _ (List.mem_append_right _ (List.mem_append_right _ (List.mem_append_right _ (List.mem_append_right _ (List.mem_append_left _ h)))))))
theorem lw_m8 : ∀ w ∈ tables_1_8, w ∈ lw_tbl := fun w h => show w ∈ k2_sels lw_privs ++ tables_1 from List.mem_append_right (k2_sels lw_privs) (show w ∈ tables_1 from List.mem_append_right _ (List.mem_append_right _ (List.mem_append_right _ (List.mem_append_right _ (List.mem_append_right _ (List.mem_append_right _ (List.mem_append_right _ (List.mem_append_left _ h))))))))
theorem lw_m9 : ∀ w ∈ tables_1_9, w ∈ lw_tbl := fun w h => show w ∈ k2_sels lw_privs ++ tables_1 from List.mem_append_right (k2_sels lw_privs) (show w ∈ tables_1 from List.mem_append_right _ (List.mem_append_right _ (List.mem_append_right _ (List.mem_append_right _ (List.mem_append_right _ (List.mem_append_right _ (List.mem_append_right _ (List.mem_append_right _ (List.mem_append_left _ h)))))))))
theorem lw_m10 : ∀ w ∈ tables_1_10, w ∈ lw_tbl := fun w h => show w ∈ k2_sels lw_privs ++ tables_1 from List.mem_append_right (k2_sels lw_privs) (show w ∈ tables_1 from List.mem_append_right _ (List.mem_append_right _ (List.mem_append_right _ (List.mem_append_right _ (List.mem_append_right _ (List.mem_append_right _ (List.mem_append_right _ (List.mem_append_right _ (List.mem_append_right _ h)))))))))
theorem qs0 : (Cond.selects "BarredBooks" ⟨"BarredBooks", "isBook", "(I)Z"⟩ ⟨"BarredBooks", "isBook", "(I)Z"⟩) ∈ lw_all := lw_g (lw_at lw_ms 0 rfl) rfl
theorem qs1 : (Cond.selects "BarredBooks" ⟨"BarredBooks", "isEdition", "(I)Z"⟩ ⟨"BarredBooks", "isEdition", "(I)Z"⟩) ∈ lw_all := lw_g (lw_at lw_ms 1 rfl) rfl
theorem qs2 : (Cond.selects "BarredBooks" ⟨"BarredBooks", "made", "(III)LBarredBooks$Card;"⟩ ⟨"BarredBooks", "made", "(III)LBarredBooks$Card;"⟩) ∈ lw_all := lw_g (lw_at lw_ms 2 rfl) rfl
theorem qs3 : (Cond.selects "java/lang/NullPointerException" ⟨"java/lang/NullPointerException", "getExtendedNPEMessage", "()Ljava/lang/String;"⟩ ⟨"java/lang/NullPointerException", "getExtendedNPEMessage", "()Ljava/lang/String;"⟩) ∈ lw_all := lw_g (lw_at lw_ms 3 rfl) rfl
theorem qs4 : (Cond.selects "java/lang/Throwable" ⟨"java/lang/Throwable", "fillInStackTrace", "(I)Ljava/lang/Throwable;"⟩ ⟨"java/lang/Throwable", "fillInStackTrace", "(I)Ljava/lang/Throwable;"⟩) ∈ lw_all := lw_g (lw_at lw_ms 4 rfl) rfl
theorem qs5 : (Cond.selects "BarredBooks" ⟨"BarredBooks", "isCard", "(I)Z"⟩ ⟨"BarredBooks", "isCard", "(I)Z"⟩) ∈ lw_all := lw_g (lw_at lw_ms 5 rfl) rfl
theorem qs6 : (Cond.selects "BarredBooks" ⟨"BarredBooks", "takesText", "()LBarredBooks$Decree;"⟩ ⟨"BarredBooks", "takesText", "()LBarredBooks$Decree;"⟩) ∈ lw_all := lw_g (lw_at lw_ms 6 rfl) rfl
theorem qs7 : (Cond.selects "BarredBooks$Reader" ⟨"BarredBooks$Reader", "clause", "()LBarredBooks$Clause;"⟩ ⟨"BarredBooks$Reader", "clause", "()LBarredBooks$Clause;"⟩) ∈ lw_all := lw_g (lw_at lw_ms 7 rfl) rfl
theorem qs8 : (Cond.selects "BarredBooks$Reader" ⟨"BarredBooks$Reader", "here", "()I"⟩ ⟨"BarredBooks$Reader", "here", "()I"⟩) ∈ lw_all := lw_g (lw_at lw_ms 8 rfl) rfl
theorem qs9 : (Cond.selects "BarredBooks$Reader" ⟨"BarredBooks$Reader", "word", "(Ljava/lang/String;)V"⟩ ⟨"BarredBooks$Reader", "word", "(Ljava/lang/String;)V"⟩) ∈ lw_all := lw_g (lw_at lw_ms 9 rfl) rfl
theorem qs10 : (Cond.selects "BarredBooks$Reader" ⟨"BarredBooks$Reader", "must", "(I)V"⟩ ⟨"BarredBooks$Reader", "must", "(I)V"⟩) ∈ lw_all := lw_g (lw_at lw_ms 10 rfl) rfl
theorem qs11 : (Cond.selects "BarredBooks$Reader" ⟨"BarredBooks$Reader", "off", "()LBarredBooks$Off;"⟩ ⟨"BarredBooks$Reader", "off", "()LBarredBooks$Off;"⟩) ∈ lw_all := lw_g (lw_at lw_ms 11 rfl) rfl
theorem qs12 : (Cond.selects "BarredBooks$Reader" ⟨"BarredBooks$Reader", "number", "()I"⟩ ⟨"BarredBooks$Reader", "number", "()I"⟩) ∈ lw_all := lw_g (lw_at lw_ms 12 rfl) rfl
theorem qs13 : (Cond.selects "BarredBooks$Reader" ⟨"BarredBooks$Reader", "shared", "(I)LBarredBooks$Clause;"⟩ ⟨"BarredBooks$Reader", "shared", "(I)LBarredBooks$Clause;"⟩) ∈ lw_all := lw_g (lw_at lw_ms 13 rfl) rfl
theorem qs14 : (Cond.selects "BarredBooks$Reader" ⟨"BarredBooks$Reader", "some", "()LBarredBooks$Test;"⟩ ⟨"BarredBooks$Reader", "some", "()LBarredBooks$Test;"⟩) ∈ lw_all := lw_g (lw_at lw_ms 14 rfl) rfl
theorem qs15 : (Cond.selects "BarredBooks$Reader" ⟨"BarredBooks$Reader", "all", "()LBarredBooks$Test;"⟩ ⟨"BarredBooks$Reader", "all", "()LBarredBooks$Test;"⟩) ∈ lw_all := lw_g (lw_at lw_ms 15 rfl) rfl
theorem qs16 : (Cond.selects "BarredBooks$Reader" ⟨"BarredBooks$Reader", "factor", "()LBarredBooks$Test;"⟩ ⟨"BarredBooks$Reader", "factor", "()LBarredBooks$Test;"⟩) ∈ lw_all := lw_g (lw_at lw_ms 16 rfl) rfl
theorem qs17 : (Cond.selects "BarredBooks$Reader" ⟨"BarredBooks$Reader", "deeper", "()V"⟩ ⟨"BarredBooks$Reader", "deeper", "()V"⟩) ∈ lw_all := lw_g (lw_at lw_ms 17 rfl) rfl
theorem qs18 : (Cond.selects "java/util/ArrayList" ⟨"java/util/ArrayList", "add", "(Ljava/lang/Object;[Ljava/lang/Object;I)V"⟩ ⟨"java/util/ArrayList", "add", "(Ljava/lang/Object;[Ljava/lang/Object;I)V"⟩) ∈ lw_all := lw_g (lw_at lw_ms 18 rfl) rfl
theorem qs19 : (Cond.selects "java/util/ArrayList" ⟨"java/util/ArrayList", "grow", "()[Ljava/lang/Object;"⟩ ⟨"java/util/ArrayList", "grow", "()[Ljava/lang/Object;"⟩) ∈ lw_all := lw_g (lw_at lw_ms 19 rfl) rfl
theorem qs20 : (Cond.selects "java/util/ArrayList" ⟨"java/util/ArrayList", "grow", "(I)[Ljava/lang/Object;"⟩ ⟨"java/util/ArrayList", "grow", "(I)[Ljava/lang/Object;"⟩) ∈ lw_all := lw_g (lw_at lw_ms 20 rfl) rfl
theorem qs21 : (Cond.selects "BarredBooks" ⟨"BarredBooks", "isDecree", "(I)Z"⟩ ⟨"BarredBooks", "isDecree", "(I)Z"⟩) ∈ lw_all := lw_g (lw_at lw_ms 21 rfl) rfl
theorem qs22 : (Cond.selects "BarredBooks" ⟨"BarredBooks", "isKnown", "(LBarredBooks$Decree;II)Z"⟩ ⟨"BarredBooks", "isKnown", "(LBarredBooks$Decree;II)Z"⟩) ∈ lw_all := lw_g (lw_at lw_ms 22 rfl) rfl
theorem qs23 : (Cond.selects "BarredBooks" ⟨"BarredBooks", "isBarred", "(LBarredBooks$Edition;II)Z"⟩ ⟨"BarredBooks", "isBarred", "(LBarredBooks$Edition;II)Z"⟩) ∈ lw_all := lw_g (lw_at lw_ms 23 rfl) rfl
theorem qs24 : (Cond.selects "BarredBooks" ⟨"BarredBooks", "saysOf", "(LBarredBooks$Edition;II)I"⟩ ⟨"BarredBooks", "saysOf", "(LBarredBooks$Edition;II)I"⟩) ∈ lw_all := lw_g (lw_at lw_ms 24 rfl) rfl
theorem qs25 : (Cond.selects "BarredBooks" ⟨"BarredBooks", "struckOf", "(LBarredBooks$Edition;II)I"⟩ ⟨"BarredBooks", "struckOf", "(LBarredBooks$Edition;II)I"⟩) ∈ lw_all := lw_g (lw_at lw_ms 25 rfl) rfl
theorem qs26 : (Cond.selects "BarredBooks" ⟨"BarredBooks", "strikes", "(LBarredBooks$Edition;III)I"⟩ ⟨"BarredBooks", "strikes", "(LBarredBooks$Edition;III)I"⟩) ∈ lw_all := lw_g (lw_at lw_ms 26 rfl) rfl
theorem qs27 : (Cond.selects "BarredBooks$Look" ⟨"BarredBooks$Look", "words", "(I)I"⟩ ⟨"BarredBooks$Look", "words", "(I)I"⟩) ∈ lw_all := lw_g (lw_at lw_ms 27 rfl) rfl
theorem qs28 : (Cond.selects "BarredBooks$Says" ⟨"BarredBooks$Says", "has", "(I)Z"⟩ ⟨"BarredBooks$Says", "has", "(I)Z"⟩) ∈ lw_all := lw_g (lw_at lw_ms 28 rfl) rfl
theorem qs29 : (Cond.selects "BarredBooks" ⟨"BarredBooks", "isPerson", "(I)Z"⟩ ⟨"BarredBooks", "isPerson", "(I)Z"⟩) ∈ lw_all := lw_g (lw_at lw_ms 29 rfl) rfl
theorem qs30 : (Cond.selects "BarredBooks" ⟨"BarredBooks", "lets", "(LBarredBooks$Decree;III)Z"⟩ ⟨"BarredBooks", "lets", "(LBarredBooks$Decree;III)Z"⟩) ∈ lw_all := lw_g (lw_at lw_ms 30 rfl) rfl
theorem qs31 : (Cond.selects "BarredBooks" ⟨"BarredBooks", "parts", "(LBarredBooks$Edition;II)Z"⟩ ⟨"BarredBooks", "parts", "(LBarredBooks$Edition;II)Z"⟩) ∈ lw_all := lw_g (lw_at lw_ms 31 rfl) rfl
theorem qs32 : (Cond.selects "BarredBooks" ⟨"BarredBooks", "isAim", "(II)Z"⟩ ⟨"BarredBooks", "isAim", "(II)Z"⟩) ∈ lw_all := lw_g (lw_at lw_ms 32 rfl) rfl
theorem qs33 : (Cond.selects "BarredBooks" ⟨"BarredBooks", "weighs", "(I)V"⟩ ⟨"BarredBooks", "weighs", "(I)V"⟩) ∈ lw_all := lw_g (lw_at lw_ms 33 rfl) rfl
theorem qs34 : (Cond.selects "BarredBooks" ⟨"BarredBooks", "enters", "(III)I"⟩ ⟨"BarredBooks", "enters", "(III)I"⟩) ∈ lw_all := lw_g (lw_at lw_ms 34 rfl) rfl
theorem qs35 : (Cond.selects "BarredBooks" ⟨"BarredBooks", "isCopy", "(I)Z"⟩ ⟨"BarredBooks", "isCopy", "(I)Z"⟩) ∈ lw_all := lw_g (lw_at lw_ms 35 rfl) rfl
theorem qs36 : (Cond.selects "BarredBooks" ⟨"BarredBooks", "spotOf", "(III)I"⟩ ⟨"BarredBooks", "spotOf", "(III)I"⟩) ∈ lw_all := lw_g (lw_at lw_ms 36 rfl) rfl
theorem qs37 : (Cond.selects "BarredBooks" ⟨"BarredBooks", "isBy", "(I)Z"⟩ ⟨"BarredBooks", "isBy", "(I)Z"⟩) ∈ lw_all := lw_g (lw_at lw_ms 37 rfl) rfl
theorem qs38 : (Cond.selects "BarredBooks" ⟨"BarredBooks", "looks", "(I[SII)J"⟩ ⟨"BarredBooks", "looks", "(I[SII)J"⟩) ∈ lw_all := lw_g (lw_at lw_ms 38 rfl) rfl
theorem qs39 : (Cond.selects "BarredBooks$Tape" ⟨"BarredBooks$Tape", "has", "(I)V"⟩ ⟨"BarredBooks$Tape", "has", "(I)V"⟩) ∈ lw_all := lw_g (lw_at lw_ms 39 rfl) rfl
theorem qs40 : (Cond.selects "BarredBooks$Tape" ⟨"BarredBooks$Tape", "size", "()I"⟩ ⟨"BarredBooks$Tape", "size", "()I"⟩) ∈ lw_all := lw_g (lw_at lw_ms 40 rfl) rfl
theorem qs41 : (Cond.selects "BarredBooksModel" ⟨"BarredBooksModel", "in", "(III)Z"⟩ ⟨"BarredBooksModel", "in", "(III)Z"⟩) ∈ lw_all := lw_g (lw_at lw_ms 41 rfl) rfl
theorem qs42 : (Cond.selects "BarredBooksModel" ⟨"BarredBooksModel", "isTown", "(I)Z"⟩ ⟨"BarredBooksModel", "isTown", "(I)Z"⟩) ∈ lw_all := lw_g (lw_at lw_ms 42 rfl) rfl
theorem qs43 : (Cond.selects "BarredBooksModel" ⟨"BarredBooksModel", "farOf", "(I)I"⟩ ⟨"BarredBooksModel", "farOf", "(I)I"⟩) ∈ lw_all := lw_g (lw_at lw_ms 43 rfl) rfl
theorem qs44 : (Cond.selects "BarredBooksModel" ⟨"BarredBooksModel", "isBook", "(I)Z"⟩ ⟨"BarredBooksModel", "isBook", "(I)Z"⟩) ∈ lw_all := lw_g (lw_at lw_ms 44 rfl) rfl
theorem qs45 : (Cond.selects "BarredBooksModel" ⟨"BarredBooksModel", "isEdition", "(I)Z"⟩ ⟨"BarredBooksModel", "isEdition", "(I)Z"⟩) ∈ lw_all := lw_g (lw_at lw_ms 45 rfl) rfl
theorem qs46 : (Cond.selects "BarredBooksModel" ⟨"BarredBooksModel", "isCard", "(I)Z"⟩ ⟨"BarredBooksModel", "isCard", "(I)Z"⟩) ∈ lw_all := lw_g (lw_at lw_ms 46 rfl) rfl
theorem qs47 : (Cond.selects "BarredBooksModel" ⟨"BarredBooksModel", "kindOf", "(I)I"⟩ ⟨"BarredBooksModel", "kindOf", "(I)I"⟩) ∈ lw_all := lw_g (lw_at lw_ms 47 rfl) rfl
theorem qs48 : (Cond.selects "BarredBooksModel" ⟨"BarredBooksModel", "barsOf", "(III)I"⟩ ⟨"BarredBooksModel", "barsOf", "(III)I"⟩) ∈ lw_all := lw_g (lw_at lw_ms 48 rfl) rfl
theorem qs49 : (Cond.selects "BarredBooksModel" ⟨"BarredBooksModel", "body", "(I)V"⟩ ⟨"BarredBooksModel", "body", "(I)V"⟩) ∈ lw_all := lw_g (lw_at lw_ms 49 rfl) rfl
theorem qs50 : (Cond.selects "BarredBooksModel" ⟨"BarredBooksModel", "plainBars", "(II)I"⟩ ⟨"BarredBooksModel", "plainBars", "(II)I"⟩) ∈ lw_all := lw_g (lw_at lw_ms 50 rfl) rfl
theorem qs51 : (Cond.selects "BarredBooksModel" ⟨"BarredBooksModel", "hangsOf", "(III)I"⟩ ⟨"BarredBooksModel", "hangsOf", "(III)I"⟩) ∈ lw_all := lw_g (lw_at lw_ms 51 rfl) rfl
theorem qs52 : (Cond.selects "BarredBooksModel" ⟨"BarredBooksModel", "plainHangs", "(III)I"⟩ ⟨"BarredBooksModel", "plainHangs", "(III)I"⟩) ∈ lw_all := lw_g (lw_at lw_ms 52 rfl) rfl
theorem qs53 : (Cond.selects "BarredBooksModel" ⟨"BarredBooksModel", "passesOf", "(III)I"⟩ ⟨"BarredBooksModel", "passesOf", "(III)I"⟩) ∈ lw_all := lw_g (lw_at lw_ms 53 rfl) rfl
theorem qs54 : (Cond.selects "BarredBooksModel" ⟨"BarredBooksModel", "struckPasses", "(III)I"⟩ ⟨"BarredBooksModel", "struckPasses", "(III)I"⟩) ∈ lw_all := lw_g (lw_at lw_ms 54 rfl) rfl
theorem qs55 : (Cond.selects "BarredBooksModel" ⟨"BarredBooksModel", "plainPasses", "(III)I"⟩ ⟨"BarredBooksModel", "plainPasses", "(III)I"⟩) ∈ lw_all := lw_g (lw_at lw_ms 55 rfl) rfl
theorem qs56 : (Cond.selects "BarredBooksModel" ⟨"BarredBooksModel", "isText", "()Z"⟩ ⟨"BarredBooksModel", "isText", "()Z"⟩) ∈ lw_all := lw_g (lw_at lw_ms 56 rfl) rfl
theorem qs57 : (Cond.selects "BarredBooksModel" ⟨"BarredBooksModel", "asks", "(III)V"⟩ ⟨"BarredBooksModel", "asks", "(III)V"⟩) ∈ lw_all := lw_g (lw_at lw_ms 57 rfl) rfl
theorem qs58 : (Cond.selects "BarredBooksModel" ⟨"BarredBooksModel", "goes", "(I)Z"⟩ ⟨"BarredBooksModel", "goes", "(I)Z"⟩) ∈ lw_all := lw_g (lw_at lw_ms 58 rfl) rfl
theorem qs59 : (Cond.selects "BarredBooksModel" ⟨"BarredBooksModel", "takesClause", "()Z"⟩ ⟨"BarredBooksModel", "takesClause", "()Z"⟩) ∈ lw_all := lw_g (lw_at lw_ms 59 rfl) rfl
theorem qs60 : (Cond.selects "BarredBooksModel" ⟨"BarredBooksModel", "next", "()I"⟩ ⟨"BarredBooksModel", "next", "()I"⟩) ∈ lw_all := lw_g (lw_at lw_ms 60 rfl) rfl
theorem qs61 : (Cond.selects "BarredBooksModel" ⟨"BarredBooksModel", "takesWord", "(JI)Z"⟩ ⟨"BarredBooksModel", "takesWord", "(JI)Z"⟩) ∈ lw_all := lw_g (lw_at lw_ms 61 rfl) rfl
theorem qs62 : (Cond.selects "BarredBooksModel" ⟨"BarredBooksModel", "takes", "(I)Z"⟩ ⟨"BarredBooksModel", "takes", "(I)Z"⟩) ∈ lw_all := lw_g (lw_at lw_ms 62 rfl) rfl
theorem qs63 : (Cond.selects "BarredBooksModel" ⟨"BarredBooksModel", "takesOf", "(ZI)Z"⟩ ⟨"BarredBooksModel", "takesOf", "(ZI)Z"⟩) ∈ lw_all := lw_g (lw_at lw_ms 63 rfl) rfl
theorem qs64 : (Cond.selects "BarredBooksModel" ⟨"BarredBooksModel", "takesNumber", "()Z"⟩ ⟨"BarredBooksModel", "takesNumber", "()Z"⟩) ∈ lw_all := lw_g (lw_at lw_ms 64 rfl) rfl
theorem qs65 : (Cond.selects "BarredBooksModel" ⟨"BarredBooksModel", "isDigit", "()Z"⟩ ⟨"BarredBooksModel", "isDigit", "()Z"⟩) ∈ lw_all := lw_g (lw_at lw_ms 65 rfl) rfl
theorem qs66 : (Cond.selects "BarredBooksModel" ⟨"BarredBooksModel", "takesLeave", "()Z"⟩ ⟨"BarredBooksModel", "takesLeave", "()Z"⟩) ∈ lw_all := lw_g (lw_at lw_ms 66 rfl) rfl
theorem qs67 : (Cond.selects "BarredBooksModel" ⟨"BarredBooksModel", "takesE", "()Z"⟩ ⟨"BarredBooksModel", "takesE", "()Z"⟩) ∈ lw_all := lw_g (lw_at lw_ms 67 rfl) rfl
theorem qs68 : (Cond.selects "BarredBooksModel" ⟨"BarredBooksModel", "takesTest", "()Z"⟩ ⟨"BarredBooksModel", "takesTest", "()Z"⟩) ∈ lw_all := lw_g (lw_at lw_ms 68 rfl) rfl
theorem qs69 : (Cond.selects "BarredBooksModel" ⟨"BarredBooksModel", "holdsOne", "(II)Z"⟩ ⟨"BarredBooksModel", "holdsOne", "(II)Z"⟩) ∈ lw_all := lw_g (lw_at lw_ms 69 rfl) rfl
theorem qs70 : (Cond.selects "BarredBooksModel" ⟨"BarredBooksModel", "wordsOf", "(I)I"⟩ ⟨"BarredBooksModel", "wordsOf", "(I)I"⟩) ∈ lw_all := lw_g (lw_at lw_ms 70 rfl) rfl
theorem qs71 : (Cond.selects "BarredBooksModel" ⟨"BarredBooksModel", "nearLine", "(I)I"⟩ ⟨"BarredBooksModel", "nearLine", "(I)I"⟩) ∈ lw_all := lw_g (lw_at lw_ms 71 rfl) rfl
theorem qs72 : (Cond.selects "BarredBooksModel" ⟨"BarredBooksModel", "ones", "(I)I"⟩ ⟨"BarredBooksModel", "ones", "(I)I"⟩) ∈ lw_all := lw_g (lw_at lw_ms 72 rfl) rfl
theorem qs73 : (Cond.selects "BarredBooksModel" ⟨"BarredBooksModel", "push", "(Z)V"⟩ ⟨"BarredBooksModel", "push", "(Z)V"⟩) ∈ lw_all := lw_g (lw_at lw_ms 73 rfl) rfl
theorem qs74 : (Cond.selects "BarredBooksModel" ⟨"BarredBooksModel", "settle", "(I)V"⟩ ⟨"BarredBooksModel", "settle", "(I)V"⟩) ∈ lw_all := lw_g (lw_at lw_ms 74 rfl) rfl
theorem qs75 : (Cond.selects "BarredBooksModel" ⟨"BarredBooksModel", "keeps", "(I)V"⟩ ⟨"BarredBooksModel", "keeps", "(I)V"⟩) ∈ lw_all := lw_g (lw_at lw_ms 75 rfl) rfl
theorem qs76 : (Cond.selects "BarredBooksModel" ⟨"BarredBooksModel", "isDay", "(I)Z"⟩ ⟨"BarredBooksModel", "isDay", "(I)Z"⟩) ∈ lw_all := lw_g (lw_at lw_ms 76 rfl) rfl
theorem qs77 : (Cond.selects "BarredBooksModel" ⟨"BarredBooksModel", "isKnown", "(III)Z"⟩ ⟨"BarredBooksModel", "isKnown", "(III)Z"⟩) ∈ lw_all := lw_g (lw_at lw_ms 77 rfl) rfl
theorem qs78 : (Cond.selects "BarredBooksModel" ⟨"BarredBooksModel", "barrer", "(III)I"⟩ ⟨"BarredBooksModel", "barrer", "(III)I"⟩) ∈ lw_all := lw_g (lw_at lw_ms 78 rfl) rfl
theorem qs79 : (Cond.selects "BarredBooksModel" ⟨"BarredBooksModel", "struckOf", "(III)I"⟩ ⟨"BarredBooksModel", "struckOf", "(III)I"⟩) ∈ lw_all := lw_g (lw_at lw_ms 79 rfl) rfl
theorem qs80 : (Cond.selects "BarredBooksModel" ⟨"BarredBooksModel", "striker", "(IIII)I"⟩ ⟨"BarredBooksModel", "striker", "(IIII)I"⟩) ∈ lw_all := lw_g (lw_at lw_ms 80 rfl) rfl
theorem qs81 : (Cond.selects "BarredBooksModel" ⟨"BarredBooksModel", "isBarred", "(III)Z"⟩ ⟨"BarredBooksModel", "isBarred", "(III)Z"⟩) ∈ lw_all := lw_g (lw_at lw_ms 81 rfl) rfl
theorem qs82 : (Cond.selects "BarredBooksModel" ⟨"BarredBooksModel", "hasLine", "(II)Z"⟩ ⟨"BarredBooksModel", "hasLine", "(II)Z"⟩) ∈ lw_all := lw_g (lw_at lw_ms 82 rfl) rfl
theorem qs83 : (Cond.selects "BarredBooksModel" ⟨"BarredBooksModel", "isPerson", "(I)Z"⟩ ⟨"BarredBooksModel", "isPerson", "(I)Z"⟩) ∈ lw_all := lw_g (lw_at lw_ms 83 rfl) rfl
theorem qs84 : (Cond.selects "BarredBooksModel" ⟨"BarredBooksModel", "isSlip", "(I)Z"⟩ ⟨"BarredBooksModel", "isSlip", "(I)Z"⟩) ∈ lw_all := lw_g (lw_at lw_ms 84 rfl) rfl
theorem qs85 : (Cond.selects "BarredBooksModel" ⟨"BarredBooksModel", "isTrue", "(I)Z"⟩ ⟨"BarredBooksModel", "isTrue", "(I)Z"⟩) ∈ lw_all := lw_g (lw_at lw_ms 85 rfl) rfl
theorem qs86 : (Cond.selects "BarredBooksModel" ⟨"BarredBooksModel", "hangsOn", "(II)Z"⟩ ⟨"BarredBooksModel", "hangsOn", "(II)Z"⟩) ∈ lw_all := lw_g (lw_at lw_ms 86 rfl) rfl
theorem qs87 : (Cond.selects "BarredBooksModel" ⟨"BarredBooksModel", "canPart", "(II)Z"⟩ ⟨"BarredBooksModel", "canPart", "(II)Z"⟩) ∈ lw_all := lw_g (lw_at lw_ms 87 rfl) rfl
theorem qs88 : (Cond.selects "BarredBooksModel" ⟨"BarredBooksModel", "findHits", "()V"⟩ ⟨"BarredBooksModel", "findHits", "()V"⟩) ∈ lw_all := lw_g (lw_at lw_ms 88 rfl) rfl
theorem qs89 : (Cond.selects "BarredBooksModel" ⟨"BarredBooksModel", "hit", "(II)I"⟩ ⟨"BarredBooksModel", "hit", "(II)I"⟩) ∈ lw_all := lw_g (lw_at lw_ms 89 rfl) rfl
theorem qs90 : (Cond.selects "BarredBooksModel" ⟨"BarredBooksModel", "metBy", "(I)I"⟩ ⟨"BarredBooksModel", "metBy", "(I)I"⟩) ∈ lw_all := lw_g (lw_at lw_ms 90 rfl) rfl
theorem qs91 : (Cond.selects "BarredBooksModel" ⟨"BarredBooksModel", "hitBy", "(II)I"⟩ ⟨"BarredBooksModel", "hitBy", "(II)I"⟩) ∈ lw_all := lw_g (lw_at lw_ms 91 rfl) rfl
theorem qs92 : (Cond.selects "BarredBooksModel" ⟨"BarredBooksModel", "lossBy", "(I)I"⟩ ⟨"BarredBooksModel", "lossBy", "(I)I"⟩) ∈ lw_all := lw_g (lw_at lw_ms 92 rfl) rfl
theorem qs93 : (Cond.selects "BarredBooksModel" ⟨"BarredBooksModel", "enter", "(III)I"⟩ ⟨"BarredBooksModel", "enter", "(III)I"⟩) ∈ lw_all := lw_g (lw_at lw_ms 93 rfl) rfl
theorem qs94 : (Cond.selects "BarredBooksModel" ⟨"BarredBooksModel", "spotOf", "(III)I"⟩ ⟨"BarredBooksModel", "spotOf", "(III)I"⟩) ∈ lw_all := lw_g (lw_at lw_ms 94 rfl) rfl
theorem qs95 : (Cond.selects "BarredBooksModel" ⟨"BarredBooksModel", "isTime", "(I)Z"⟩ ⟨"BarredBooksModel", "isTime", "(I)Z"⟩) ∈ lw_all := lw_g (lw_at lw_ms 95 rfl) rfl
theorem qs96 : (Cond.selects "BarredBooksModel" ⟨"BarredBooksModel", "by", "(I)I"⟩ ⟨"BarredBooksModel", "by", "(I)I"⟩) ∈ lw_all := lw_g (lw_at lw_ms 96 rfl) rfl
theorem qs97 : (Cond.selects "BarredBooksModel" ⟨"BarredBooksModel", "isTape", "(I)Z"⟩ ⟨"BarredBooksModel", "isTape", "(I)Z"⟩) ∈ lw_all := lw_g (lw_at lw_ms 97 rfl) rfl
theorem qs98 : (Cond.selects "BarredBooksModel" ⟨"BarredBooksModel", "narrow", "(IJ)J"⟩ ⟨"BarredBooksModel", "narrow", "(IJ)J"⟩) ∈ lw_all := lw_g (lw_at lw_ms 98 rfl) rfl
