-- ===== PART A: goes FIRST, ahead of the names: the tables' words, and 'selects' of the private methods out of them =====
/-- a private method of a class that the tables say can be made, by its rows of tables_1 -/
def lw_okq (q : MethodName × Nat) : Prop := (q.1.cls ≠ "java/lang/invoke/MethodHandle" ∧ q.1.cls ≠ "java/lang/invoke/VarHandle") ∧ Cond.instantiable q.1.cls q.2 ∈ tables_1 ∧ Cond.privateMethod q.1 ∈ tables_1 ∧ Cond.instanceMethod q.1 ∈ tables_1
set_option maxRecDepth 100000
theorem lw_t1 {w : Cond} (h : w ∈ tables_1_1) : w ∈ tables_1 := List.mem_append_left _ h
theorem lw_t2 {w : Cond} (h : w ∈ tables_1_2) : w ∈ tables_1 := List.mem_append_right _ (List.mem_append_left _ h)
theorem lw_t3 {w : Cond} (h : w ∈ tables_1_3) : w ∈ tables_1 := List.mem_append_right _ (List.mem_append_right _ (List.mem_append_left _ h))
theorem lw_t4 {w : Cond} (h : w ∈ tables_1_4) : w ∈ tables_1 := List.mem_append_right _ (List.mem_append_right _ (List.mem_append_right _ (List.mem_append_left _ h)))
theorem lw_t5 {w : Cond} (h : w ∈ tables_1_5) : w ∈ tables_1 := List.mem_append_right _ (List.mem_append_right _ (List.mem_append_right _ (List.mem_append_right _ (List.mem_append_left _ h))))
theorem lw_t6 {w : Cond} (h : w ∈ tables_1_6) : w ∈ tables_1 := List.mem_append_right _ (List.mem_append_right _ (List.mem_append_right _ (List.mem_append_right _ (List.mem_append_right _ (List.mem_append_left _ h)))))
theorem lw_t7 {w : Cond} (h : w ∈ tables_1_7) : w ∈ tables_1 := List.mem_append_right _ (List.mem_append_right _ (List.mem_append_right _ (List.mem_append_right _ (List.mem_append_right _ (List.mem_append_right _ (List.mem_append_left _ h))))))
theorem lw_t8 {w : Cond} (h : w ∈ tables_1_8) : w ∈ tables_1 := List.mem_append_right _ (List.mem_append_right _ (List.mem_append_right _ (List.mem_append_right _ (List.mem_append_right _ (List.mem_append_right _ (List.mem_append_right _ (List.mem_append_left _ h)))))))
theorem lw_t9 {w : Cond} (h : w ∈ tables_1_9) : w ∈ tables_1 := List.mem_append_right _ (List.mem_append_right _ (List.mem_append_right _ (List.mem_append_right _ (List.mem_append_right _ (List.mem_append_right _ (List.mem_append_right _ (List.mem_append_right _ (List.mem_append_left _ h))))))))
theorem lw_t10 {w : Cond} (h : w ∈ tables_1_10) : w ∈ tables_1 := List.mem_append_right _ (List.mem_append_right _ (List.mem_append_right _ (List.mem_append_right _ (List.mem_append_right _ (List.mem_append_right _ (List.mem_append_right _ (List.mem_append_right _ (List.mem_append_right _ h))))))))
theorem lw_p0 : lw_okq (⟨"java/lang/Throwable", "fillInStackTrace", "(I)Ljava/lang/Throwable;"⟩, 6) := ⟨⟨by decide +kernel, by decide +kernel⟩, lw_t1 (List.mem_of_getElem? (i := 202) rfl), lw_t1 (List.mem_of_getElem? (i := 200) rfl), lw_t1 (List.mem_of_getElem? (i := 201) rfl)⟩
theorem lw_p1 : lw_okq (⟨"DowryBoxes", "refuse", "(I)I"⟩, 34) := ⟨⟨by decide +kernel, by decide +kernel⟩, lw_t1 (List.mem_of_getElem? (i := 38) rfl), lw_t2 (List.mem_of_getElem? (i := 109) rfl), lw_t2 (List.mem_of_getElem? (i := 110) rfl)⟩
theorem lw_p2 : lw_okq (⟨"java/util/ArrayList", "grow", "(I)[Ljava/lang/Object;"⟩, 3) := ⟨⟨by decide +kernel, by decide +kernel⟩, lw_t1 (List.mem_of_getElem? (i := 84) rfl), lw_t2 (List.mem_of_getElem? (i := 181) rfl), lw_t2 (List.mem_of_getElem? (i := 182) rfl)⟩
theorem lw_p3 : lw_okq (⟨"DowryBoxes", "done", "(I)I"⟩, 34) := ⟨⟨by decide +kernel, by decide +kernel⟩, lw_t1 (List.mem_of_getElem? (i := 38) rfl), lw_t2 (List.mem_of_getElem? (i := 199) rfl), lw_t2 (List.mem_of_getElem? (i := 200) rfl)⟩
theorem lw_p4 : lw_okq (⟨"DowryBoxes", "settled", "(I)I"⟩, 34) := ⟨⟨by decide +kernel, by decide +kernel⟩, lw_t1 (List.mem_of_getElem? (i := 38) rfl), lw_t2 (List.mem_of_getElem? (i := 207) rfl), lw_t2 (List.mem_of_getElem? (i := 208) rfl)⟩
theorem lw_p5 : lw_okq (⟨"DowryBoxes", "table", "()LDowryBoxes$Table;"⟩, 34) := ⟨⟨by decide +kernel, by decide +kernel⟩, lw_t1 (List.mem_of_getElem? (i := 38) rfl), lw_t2 (List.mem_of_getElem? (i := 215) rfl), lw_t2 (List.mem_of_getElem? (i := 216) rfl)⟩
theorem lw_p6 : lw_okq (⟨"DowryBoxes", "isBox", "(I)Z"⟩, 34) := ⟨⟨by decide +kernel, by decide +kernel⟩, lw_t1 (List.mem_of_getElem? (i := 38) rfl), lw_t2 (List.mem_of_getElem? (i := 223) rfl), lw_t2 (List.mem_of_getElem? (i := 224) rfl)⟩
theorem lw_p7 : lw_okq (⟨"DowryBoxes", "lasts", "(ILDowryBoxes$Table;I)I"⟩, 34) := ⟨⟨by decide +kernel, by decide +kernel⟩, lw_t1 (List.mem_of_getElem? (i := 38) rfl), lw_t3 (List.mem_of_getElem? (i := 9) rfl), lw_t3 (List.mem_of_getElem? (i := 10) rfl)⟩
theorem lw_p8 : lw_okq (⟨"DowryBoxes", "says", "(IILDowryBoxes$Table;II)J"⟩, 34) := ⟨⟨by decide +kernel, by decide +kernel⟩, lw_t1 (List.mem_of_getElem? (i := 38) rfl), lw_t3 (List.mem_of_getElem? (i := 13) rfl), lw_t3 (List.mem_of_getElem? (i := 14) rfl)⟩
theorem lw_p9 : lw_okq (⟨"DowryBoxes", "ears", "(LDowryBoxes$Table;II)I"⟩, 34) := ⟨⟨by decide +kernel, by decide +kernel⟩, lw_t1 (List.mem_of_getElem? (i := 38) rfl), lw_t3 (List.mem_of_getElem? (i := 20) rfl), lw_t3 (List.mem_of_getElem? (i := 21) rfl)⟩
theorem lw_p10 : lw_okq (⟨"DowryBoxes", "loses", "(LDowryBoxes$Table;I)I"⟩, 34) := ⟨⟨by decide +kernel, by decide +kernel⟩, lw_t1 (List.mem_of_getElem? (i := 38) rfl), lw_t3 (List.mem_of_getElem? (i := 105) rfl), lw_t3 (List.mem_of_getElem? (i := 106) rfl)⟩
theorem lw_p11 : lw_okq (⟨"DowryBoxes", "isSuitor", "(I)Z"⟩, 34) := ⟨⟨by decide +kernel, by decide +kernel⟩, lw_t1 (List.mem_of_getElem? (i := 38) rfl), lw_t3 (List.mem_of_getElem? (i := 130) rfl), lw_t3 (List.mem_of_getElem? (i := 131) rfl)⟩
theorem lw_p12 : lw_okq (⟨"DowryBoxes", "boxOf", "(LDowryBoxes$Table;I)I"⟩, 34) := ⟨⟨by decide +kernel, by decide +kernel⟩, lw_t1 (List.mem_of_getElem? (i := 38) rfl), lw_t3 (List.mem_of_getElem? (i := 134) rfl), lw_t3 (List.mem_of_getElem? (i := 135) rfl)⟩
theorem lw_p13 : lw_okq (⟨"DowryBoxes", "likes", "(LDowryBoxes$Table;II)I"⟩, 34) := ⟨⟨by decide +kernel, by decide +kernel⟩, lw_t1 (List.mem_of_getElem? (i := 38) rfl), lw_t3 (List.mem_of_getElem? (i := 142) rfl), lw_t3 (List.mem_of_getElem? (i := 143) rfl)⟩
theorem lw_p14 : lw_okq (⟨"DowryBoxes", "isBarred", "(LDowryBoxes$Table;II)Z"⟩, 34) := ⟨⟨by decide +kernel, by decide +kernel⟩, lw_t1 (List.mem_of_getElem? (i := 38) rfl), lw_t3 (List.mem_of_getElem? (i := 146) rfl), lw_t3 (List.mem_of_getElem? (i := 147) rfl)⟩
theorem lw_p15 : lw_okq (⟨"DowryBoxes", "four", "(I)V"⟩, 34) := ⟨⟨by decide +kernel, by decide +kernel⟩, lw_t1 (List.mem_of_getElem? (i := 38) rfl), lw_t3 (List.mem_of_getElem? (i := 158) rfl), lw_t3 (List.mem_of_getElem? (i := 159) rfl)⟩
def lw_privs_1 : List (MethodName × Nat) := [(⟨"java/lang/Throwable", "fillInStackTrace", "(I)Ljava/lang/Throwable;"⟩, 6), (⟨"DowryBoxes", "refuse", "(I)I"⟩, 34), (⟨"java/util/ArrayList", "grow", "(I)[Ljava/lang/Object;"⟩, 3), (⟨"DowryBoxes", "done", "(I)I"⟩, 34), (⟨"DowryBoxes", "settled", "(I)I"⟩, 34), (⟨"DowryBoxes", "table", "()LDowryBoxes$Table;"⟩, 34), (⟨"DowryBoxes", "isBox", "(I)Z"⟩, 34), (⟨"DowryBoxes", "lasts", "(ILDowryBoxes$Table;I)I"⟩, 34), (⟨"DowryBoxes", "says", "(IILDowryBoxes$Table;II)J"⟩, 34), (⟨"DowryBoxes", "ears", "(LDowryBoxes$Table;II)I"⟩, 34), (⟨"DowryBoxes", "loses", "(LDowryBoxes$Table;I)I"⟩, 34), (⟨"DowryBoxes", "isSuitor", "(I)Z"⟩, 34), (⟨"DowryBoxes", "boxOf", "(LDowryBoxes$Table;I)I"⟩, 34), (⟨"DowryBoxes", "likes", "(LDowryBoxes$Table;II)I"⟩, 34), (⟨"DowryBoxes", "isBarred", "(LDowryBoxes$Table;II)Z"⟩, 34), (⟨"DowryBoxes", "four", "(I)V"⟩, 34)]
theorem lw_r1 : ∀ q ∈ lw_privs_1, lw_okq q := List.forall_mem_cons.mpr ⟨lw_p0, List.forall_mem_cons.mpr ⟨lw_p1, List.forall_mem_cons.mpr ⟨lw_p2, List.forall_mem_cons.mpr ⟨lw_p3, List.forall_mem_cons.mpr ⟨lw_p4, List.forall_mem_cons.mpr ⟨lw_p5, List.forall_mem_cons.mpr ⟨lw_p6, List.forall_mem_cons.mpr ⟨lw_p7, List.forall_mem_cons.mpr ⟨lw_p8, List.forall_mem_cons.mpr ⟨lw_p9, List.forall_mem_cons.mpr ⟨lw_p10, List.forall_mem_cons.mpr ⟨lw_p11, List.forall_mem_cons.mpr ⟨lw_p12, List.forall_mem_cons.mpr ⟨lw_p13, List.forall_mem_cons.mpr ⟨lw_p14, List.forall_mem_cons.mpr ⟨lw_p15, fun _ h => absurd h List.not_mem_nil⟩⟩⟩⟩⟩⟩⟩⟩⟩⟩⟩⟩⟩⟩⟩⟩
theorem lw_p16 : lw_okq (⟨"DowryBoxes", "reads", "(LDowryBoxes$Reader;)Z"⟩, 34) := ⟨⟨by decide +kernel, by decide +kernel⟩, lw_t1 (List.mem_of_getElem? (i := 38) rfl), lw_t3 (List.mem_of_getElem? (i := 216) rfl), lw_t3 (List.mem_of_getElem? (i := 217) rfl)⟩
theorem lw_p17 : lw_okq (⟨"java/util/ArrayList", "add", "(Ljava/lang/Object;[Ljava/lang/Object;I)V"⟩, 3) := ⟨⟨by decide +kernel, by decide +kernel⟩, lw_t1 (List.mem_of_getElem? (i := 84) rfl), lw_t5 (List.mem_of_getElem? (i := 88) rfl), lw_t5 (List.mem_of_getElem? (i := 89) rfl)⟩
theorem lw_p18 : lw_okq (⟨"java/util/ArrayList", "grow", "()[Ljava/lang/Object;"⟩, 3) := ⟨⟨by decide +kernel, by decide +kernel⟩, lw_t1 (List.mem_of_getElem? (i := 84) rfl), lw_t5 (List.mem_of_getElem? (i := 92) rfl), lw_t5 (List.mem_of_getElem? (i := 93) rfl)⟩
theorem lw_p19 : lw_okq (⟨"DowryBoxes", "isLaw", "(I)Z"⟩, 34) := ⟨⟨by decide +kernel, by decide +kernel⟩, lw_t1 (List.mem_of_getElem? (i := 38) rfl), lw_t5 (List.mem_of_getElem? (i := 190) rfl), lw_t5 (List.mem_of_getElem? (i := 191) rfl)⟩
theorem lw_p20 : lw_okq (⟨"DowryBoxes", "pullsKept", "(III)I"⟩, 34) := ⟨⟨by decide +kernel, by decide +kernel⟩, lw_t1 (List.mem_of_getElem? (i := 38) rfl), lw_t5 (List.mem_of_getElem? (i := 198) rfl), lw_t5 (List.mem_of_getElem? (i := 199) rfl)⟩
theorem lw_p21 : lw_okq (⟨"DowryBoxes", "keeps", "(I)V"⟩, 34) := ⟨⟨by decide +kernel, by decide +kernel⟩, lw_t1 (List.mem_of_getElem? (i := 38) rfl), lw_t5 (List.mem_of_getElem? (i := 202) rfl), lw_t5 (List.mem_of_getElem? (i := 203) rfl)⟩
theorem lw_p22 : lw_okq (⟨"DowryBoxes", "doneOr", "(I)I"⟩, 34) := ⟨⟨by decide +kernel, by decide +kernel⟩, lw_t1 (List.mem_of_getElem? (i := 38) rfl), lw_t5 (List.mem_of_getElem? (i := 207) rfl), lw_t5 (List.mem_of_getElem? (i := 208) rfl)⟩
theorem lw_p23 : lw_okq (⟨"DowryBoxes", "snapsKept", "(II)I"⟩, 34) := ⟨⟨by decide +kernel, by decide +kernel⟩, lw_t1 (List.mem_of_getElem? (i := 38) rfl), lw_t5 (List.mem_of_getElem? (i := 215) rfl), lw_t5 (List.mem_of_getElem? (i := 216) rfl)⟩
theorem lw_p24 : lw_okq (⟨"DowryBoxes", "wedsKept", "(II)I"⟩, 34) := ⟨⟨by decide +kernel, by decide +kernel⟩, lw_t1 (List.mem_of_getElem? (i := 38) rfl), lw_t5 (List.mem_of_getElem? (i := 223) rfl), lw_t5 (List.mem_of_getElem? (i := 224) rfl)⟩
theorem lw_p25 : lw_okq (⟨"DowryBoxes", "canWed", "(LDowryBoxes$Table;II)Z"⟩, 34) := ⟨⟨by decide +kernel, by decide +kernel⟩, lw_t1 (List.mem_of_getElem? (i := 38) rfl), lw_t5 (List.mem_of_getElem? (i := 227) rfl), lw_t5 (List.mem_of_getElem? (i := 228) rfl)⟩
theorem lw_p26 : lw_okq (⟨"DowryBoxes", "passesKept", "()I"⟩, 34) := ⟨⟨by decide +kernel, by decide +kernel⟩, lw_t1 (List.mem_of_getElem? (i := 38) rfl), lw_t5 (List.mem_of_getElem? (i := 239) rfl), lw_t6 (List.mem_of_getElem? (i := 0) rfl)⟩
theorem lw_p27 : lw_okq (⟨"DowryBoxes", "passes", "(LDowryBoxes$Table;)I"⟩, 34) := ⟨⟨by decide +kernel, by decide +kernel⟩, lw_t1 (List.mem_of_getElem? (i := 38) rfl), lw_t6 (List.mem_of_getElem? (i := 3) rfl), lw_t6 (List.mem_of_getElem? (i := 4) rfl)⟩
theorem lw_p28 : lw_okq (⟨"DowryBoxes", "isSo", "(I)Z"⟩, 34) := ⟨⟨by decide +kernel, by decide +kernel⟩, lw_t1 (List.mem_of_getElem? (i := 38) rfl), lw_t6 (List.mem_of_getElem? (i := 24) rfl), lw_t6 (List.mem_of_getElem? (i := 25) rfl)⟩
theorem lw_p29 : lw_okq (⟨"DowryBoxes", "matches", "()V"⟩, 34) := ⟨⟨by decide +kernel, by decide +kernel⟩, lw_t1 (List.mem_of_getElem? (i := 38) rfl), lw_t6 (List.mem_of_getElem? (i := 38) rfl), lw_t6 (List.mem_of_getElem? (i := 39) rfl)⟩
theorem lw_p30 : lw_okq (⟨"DowryBoxes", "laysGaps", "()V"⟩, 34) := ⟨⟨by decide +kernel, by decide +kernel⟩, lw_t1 (List.mem_of_getElem? (i := 38) rfl), lw_t6 (List.mem_of_getElem? (i := 42) rfl), lw_t6 (List.mem_of_getElem? (i := 43) rfl)⟩
theorem lw_p31 : lw_okq (⟨"DowryBoxes", "nextAsked", "(I)I"⟩, 34) := ⟨⟨by decide +kernel, by decide +kernel⟩, lw_t1 (List.mem_of_getElem? (i := 38) rfl), lw_t6 (List.mem_of_getElem? (i := 49) rfl), lw_t6 (List.mem_of_getElem? (i := 50) rfl)⟩
def lw_privs_2 : List (MethodName × Nat) := [(⟨"DowryBoxes", "reads", "(LDowryBoxes$Reader;)Z"⟩, 34), (⟨"java/util/ArrayList", "add", "(Ljava/lang/Object;[Ljava/lang/Object;I)V"⟩, 3), (⟨"java/util/ArrayList", "grow", "()[Ljava/lang/Object;"⟩, 3), (⟨"DowryBoxes", "isLaw", "(I)Z"⟩, 34), (⟨"DowryBoxes", "pullsKept", "(III)I"⟩, 34), (⟨"DowryBoxes", "keeps", "(I)V"⟩, 34), (⟨"DowryBoxes", "doneOr", "(I)I"⟩, 34), (⟨"DowryBoxes", "snapsKept", "(II)I"⟩, 34), (⟨"DowryBoxes", "wedsKept", "(II)I"⟩, 34), (⟨"DowryBoxes", "canWed", "(LDowryBoxes$Table;II)Z"⟩, 34), (⟨"DowryBoxes", "passesKept", "()I"⟩, 34), (⟨"DowryBoxes", "passes", "(LDowryBoxes$Table;)I"⟩, 34), (⟨"DowryBoxes", "isSo", "(I)Z"⟩, 34), (⟨"DowryBoxes", "matches", "()V"⟩, 34), (⟨"DowryBoxes", "laysGaps", "()V"⟩, 34), (⟨"DowryBoxes", "nextAsked", "(I)I"⟩, 34)]
theorem lw_r2 : ∀ q ∈ lw_privs_2, lw_okq q := List.forall_mem_cons.mpr ⟨lw_p16, List.forall_mem_cons.mpr ⟨lw_p17, List.forall_mem_cons.mpr ⟨lw_p18, List.forall_mem_cons.mpr ⟨lw_p19, List.forall_mem_cons.mpr ⟨lw_p20, List.forall_mem_cons.mpr ⟨lw_p21, List.forall_mem_cons.mpr ⟨lw_p22, List.forall_mem_cons.mpr ⟨lw_p23, List.forall_mem_cons.mpr ⟨lw_p24, List.forall_mem_cons.mpr ⟨lw_p25, List.forall_mem_cons.mpr ⟨lw_p26, List.forall_mem_cons.mpr ⟨lw_p27, List.forall_mem_cons.mpr ⟨lw_p28, List.forall_mem_cons.mpr ⟨lw_p29, List.forall_mem_cons.mpr ⟨lw_p30, List.forall_mem_cons.mpr ⟨lw_p31, fun _ h => absurd h List.not_mem_nil⟩⟩⟩⟩⟩⟩⟩⟩⟩⟩⟩⟩⟩⟩⟩⟩
theorem lw_p32 : lw_okq (⟨"DowryBoxes", "isRather", "(III)Z"⟩, 34) := ⟨⟨by decide +kernel, by decide +kernel⟩, lw_t1 (List.mem_of_getElem? (i := 38) rfl), lw_t6 (List.mem_of_getElem? (i := 53) rfl), lw_t6 (List.mem_of_getElem? (i := 54) rfl)⟩
theorem lw_p33 : lw_okq (⟨"DowryBoxes", "laysAbout", "()V"⟩, 34) := ⟨⟨by decide +kernel, by decide +kernel⟩, lw_t1 (List.mem_of_getElem? (i := 38) rfl), lw_t6 (List.mem_of_getElem? (i := 61) rfl), lw_t6 (List.mem_of_getElem? (i := 62) rfl)⟩
theorem lw_p34 : lw_okq (⟨"DowryBoxes", "mostWith", "(III)I"⟩, 34) := ⟨⟨by decide +kernel, by decide +kernel⟩, lw_t1 (List.mem_of_getElem? (i := 38) rfl), lw_t6 (List.mem_of_getElem? (i := 65) rfl), lw_t6 (List.mem_of_getElem? (i := 66) rfl)⟩
theorem lw_p35 : lw_okq (⟨"DowryBoxes", "mostOf", "(II)I"⟩, 34) := ⟨⟨by decide +kernel, by decide +kernel⟩, lw_t1 (List.mem_of_getElem? (i := 38) rfl), lw_t6 (List.mem_of_getElem? (i := 69) rfl), lw_t6 (List.mem_of_getElem? (i := 70) rfl)⟩
theorem lw_p36 : lw_okq (⟨"DowryBoxes", "suitorOf", "(II)I"⟩, 34) := ⟨⟨by decide +kernel, by decide +kernel⟩, lw_t1 (List.mem_of_getElem? (i := 38) rfl), lw_t6 (List.mem_of_getElem? (i := 73) rfl), lw_t6 (List.mem_of_getElem? (i := 74) rfl)⟩
theorem lw_p37 : lw_okq (⟨"DowryBoxes", "laysFewest", "(II)V"⟩, 34) := ⟨⟨by decide +kernel, by decide +kernel⟩, lw_t1 (List.mem_of_getElem? (i := 38) rfl), lw_t6 (List.mem_of_getElem? (i := 81) rfl), lw_t6 (List.mem_of_getElem? (i := 82) rfl)⟩
theorem lw_p38 : lw_okq (⟨"DowryBoxes", "fewestBehind", "(III)I"⟩, 34) := ⟨⟨by decide +kernel, by decide +kernel⟩, lw_t1 (List.mem_of_getElem? (i := 38) rfl), lw_t6 (List.mem_of_getElem? (i := 85) rfl), lw_t6 (List.mem_of_getElem? (i := 86) rfl)⟩
theorem lw_p39 : lw_okq (⟨"DowryBoxes", "areTwo", "(II)Z"⟩, 34) := ⟨⟨by decide +kernel, by decide +kernel⟩, lw_t1 (List.mem_of_getElem? (i := 38) rfl), lw_t6 (List.mem_of_getElem? (i := 94) rfl), lw_t6 (List.mem_of_getElem? (i := 95) rfl)⟩
theorem lw_p40 : lw_okq (⟨"DowryBoxes", "clashes", "(III)I"⟩, 34) := ⟨⟨by decide +kernel, by decide +kernel⟩, lw_t1 (List.mem_of_getElem? (i := 38) rfl), lw_t6 (List.mem_of_getElem? (i := 98) rfl), lw_t6 (List.mem_of_getElem? (i := 99) rfl)⟩
theorem lw_p41 : lw_okq (⟨"DowryBoxes", "clashing", "(IIII)I"⟩, 34) := ⟨⟨by decide +kernel, by decide +kernel⟩, lw_t1 (List.mem_of_getElem? (i := 38) rfl), lw_t6 (List.mem_of_getElem? (i := 113) rfl), lw_t6 (List.mem_of_getElem? (i := 114) rfl)⟩
theorem lw_p42 : lw_okq (⟨"DowryBoxes", "sharesFrom", "(II)V"⟩, 34) := ⟨⟨by decide +kernel, by decide +kernel⟩, lw_t1 (List.mem_of_getElem? (i := 38) rfl), lw_t6 (List.mem_of_getElem? (i := 121) rfl), lw_t6 (List.mem_of_getElem? (i := 122) rfl)⟩
theorem lw_p43 : lw_okq (⟨"DowryBoxes", "tellsOrder", "(II)V"⟩, 34) := ⟨⟨by decide +kernel, by decide +kernel⟩, lw_t1 (List.mem_of_getElem? (i := 38) rfl), lw_t6 (List.mem_of_getElem? (i := 169) rfl), lw_t6 (List.mem_of_getElem? (i := 170) rfl)⟩
theorem lw_p44 : lw_okq (⟨"DowryBoxes", "couples", "(LDowryBoxes$Table;)I"⟩, 34) := ⟨⟨by decide +kernel, by decide +kernel⟩, lw_t1 (List.mem_of_getElem? (i := 38) rfl), lw_t6 (List.mem_of_getElem? (i := 173) rfl), lw_t6 (List.mem_of_getElem? (i := 174) rfl)⟩
theorem lw_p45 : lw_okq (⟨"DowryBoxes", "runs", "(LDowryBoxes$Order;)I"⟩, 34) := ⟨⟨by decide +kernel, by decide +kernel⟩, lw_t1 (List.mem_of_getElem? (i := 38) rfl), lw_t6 (List.mem_of_getElem? (i := 183) rfl), lw_t6 (List.mem_of_getElem? (i := 184) rfl)⟩
theorem lw_p46 : lw_okq (⟨"DowryBoxes", "putsBack", "(I)V"⟩, 34) := ⟨⟨by decide +kernel, by decide +kernel⟩, lw_t1 (List.mem_of_getElem? (i := 38) rfl), lw_t6 (List.mem_of_getElem? (i := 192) rfl), lw_t6 (List.mem_of_getElem? (i := 193) rfl)⟩
theorem lw_p47 : lw_okq (⟨"DowryBoxes", "draw", "(I)I"⟩, 34) := ⟨⟨by decide +kernel, by decide +kernel⟩, lw_t1 (List.mem_of_getElem? (i := 38) rfl), lw_t6 (List.mem_of_getElem? (i := 200) rfl), lw_t6 (List.mem_of_getElem? (i := 201) rfl)⟩
def lw_privs_3 : List (MethodName × Nat) := [(⟨"DowryBoxes", "isRather", "(III)Z"⟩, 34), (⟨"DowryBoxes", "laysAbout", "()V"⟩, 34), (⟨"DowryBoxes", "mostWith", "(III)I"⟩, 34), (⟨"DowryBoxes", "mostOf", "(II)I"⟩, 34), (⟨"DowryBoxes", "suitorOf", "(II)I"⟩, 34), (⟨"DowryBoxes", "laysFewest", "(II)V"⟩, 34), (⟨"DowryBoxes", "fewestBehind", "(III)I"⟩, 34), (⟨"DowryBoxes", "areTwo", "(II)Z"⟩, 34), (⟨"DowryBoxes", "clashes", "(III)I"⟩, 34), (⟨"DowryBoxes", "clashing", "(IIII)I"⟩, 34), (⟨"DowryBoxes", "sharesFrom", "(II)V"⟩, 34), (⟨"DowryBoxes", "tellsOrder", "(II)V"⟩, 34), (⟨"DowryBoxes", "couples", "(LDowryBoxes$Table;)I"⟩, 34), (⟨"DowryBoxes", "runs", "(LDowryBoxes$Order;)I"⟩, 34), (⟨"DowryBoxes", "putsBack", "(I)V"⟩, 34), (⟨"DowryBoxes", "draw", "(I)I"⟩, 34)]
theorem lw_r3 : ∀ q ∈ lw_privs_3, lw_okq q := List.forall_mem_cons.mpr ⟨lw_p32, List.forall_mem_cons.mpr ⟨lw_p33, List.forall_mem_cons.mpr ⟨lw_p34, List.forall_mem_cons.mpr ⟨lw_p35, List.forall_mem_cons.mpr ⟨lw_p36, List.forall_mem_cons.mpr ⟨lw_p37, List.forall_mem_cons.mpr ⟨lw_p38, List.forall_mem_cons.mpr ⟨lw_p39, List.forall_mem_cons.mpr ⟨lw_p40, List.forall_mem_cons.mpr ⟨lw_p41, List.forall_mem_cons.mpr ⟨lw_p42, List.forall_mem_cons.mpr ⟨lw_p43, List.forall_mem_cons.mpr ⟨lw_p44, List.forall_mem_cons.mpr ⟨lw_p45, List.forall_mem_cons.mpr ⟨lw_p46, List.forall_mem_cons.mpr ⟨lw_p47, fun _ h => absurd h List.not_mem_nil⟩⟩⟩⟩⟩⟩⟩⟩⟩⟩⟩⟩⟩⟩⟩⟩
theorem lw_p48 : lw_okq (⟨"DowryBoxesModel", "tell", "(I)I"⟩, 62) := ⟨⟨by decide +kernel, by decide +kernel⟩, lw_t6 (List.mem_of_getElem? (i := 219) rfl), lw_t7 (List.mem_of_getElem? (i := 201) rfl), lw_t7 (List.mem_of_getElem? (i := 202) rfl)⟩
theorem lw_p49 : lw_okq (⟨"DowryBoxesModel", "putBack", "(I)V"⟩, 62) := ⟨⟨by decide +kernel, by decide +kernel⟩, lw_t6 (List.mem_of_getElem? (i := 219) rfl), lw_t7 (List.mem_of_getElem? (i := 205) rfl), lw_t7 (List.mem_of_getElem? (i := 206) rfl)⟩
theorem lw_p50 : lw_okq (⟨"DowryBoxesModel", "settled", "(I)I"⟩, 62) := ⟨⟨by decide +kernel, by decide +kernel⟩, lw_t6 (List.mem_of_getElem? (i := 219) rfl), lw_t7 (List.mem_of_getElem? (i := 220) rfl), lw_t7 (List.mem_of_getElem? (i := 221) rfl)⟩
theorem lw_p51 : lw_okq (⟨"DowryBoxesModel", "isBox", "(I)Z"⟩, 62) := ⟨⟨by decide +kernel, by decide +kernel⟩, lw_t6 (List.mem_of_getElem? (i := 219) rfl), lw_t7 (List.mem_of_getElem? (i := 233) rfl), lw_t7 (List.mem_of_getElem? (i := 234) rfl)⟩
theorem lw_p52 : lw_okq (⟨"DowryBoxesModel", "notesOf", "(I)I"⟩, 62) := ⟨⟨by decide +kernel, by decide +kernel⟩, lw_t6 (List.mem_of_getElem? (i := 219) rfl), lw_t7 (List.mem_of_getElem? (i := 238) rfl), lw_t7 (List.mem_of_getElem? (i := 239) rfl)⟩
theorem lw_p53 : lw_okq (⟨"DowryBoxesModel", "notesAt", "(II)I"⟩, 62) := ⟨⟨by decide +kernel, by decide +kernel⟩, lw_t6 (List.mem_of_getElem? (i := 219) rfl), lw_t8 (List.mem_of_getElem? (i := 2) rfl), lw_t8 (List.mem_of_getElem? (i := 3) rfl)⟩
theorem lw_p54 : lw_okq (⟨"DowryBoxesModel", "lastsOf", "(I)I"⟩, 62) := ⟨⟨by decide +kernel, by decide +kernel⟩, lw_t6 (List.mem_of_getElem? (i := 219) rfl), lw_t8 (List.mem_of_getElem? (i := 9) rfl), lw_t8 (List.mem_of_getElem? (i := 10) rfl)⟩
theorem lw_p55 : lw_okq (⟨"DowryBoxesModel", "tells", "(IIIJ)J"⟩, 62) := ⟨⟨by decide +kernel, by decide +kernel⟩, lw_t6 (List.mem_of_getElem? (i := 219) rfl), lw_t8 (List.mem_of_getElem? (i := 13) rfl), lw_t8 (List.mem_of_getElem? (i := 14) rfl)⟩
theorem lw_p56 : lw_okq (⟨"DowryBoxesModel", "earOf", "(II)I"⟩, 62) := ⟨⟨by decide +kernel, by decide +kernel⟩, lw_t6 (List.mem_of_getElem? (i := 219) rfl), lw_t8 (List.mem_of_getElem? (i := 18) rfl), lw_t8 (List.mem_of_getElem? (i := 19) rfl)⟩
theorem lw_p57 : lw_okq (⟨"DowryBoxesModel", "isSo", "(I)Z"⟩, 62) := ⟨⟨by decide +kernel, by decide +kernel⟩, lw_t6 (List.mem_of_getElem? (i := 219) rfl), lw_t8 (List.mem_of_getElem? (i := 22) rfl), lw_t8 (List.mem_of_getElem? (i := 23) rfl)⟩
theorem lw_p58 : lw_okq (⟨"DowryBoxesModel", "reckonAll", "(II)V"⟩, 62) := ⟨⟨by decide +kernel, by decide +kernel⟩, lw_t6 (List.mem_of_getElem? (i := 219) rfl), lw_t8 (List.mem_of_getElem? (i := 26) rfl), lw_t8 (List.mem_of_getElem? (i := 27) rfl)⟩
theorem lw_p59 : lw_okq (⟨"DowryBoxesModel", "reckon", "(IJJ)J"⟩, 62) := ⟨⟨by decide +kernel, by decide +kernel⟩, lw_t6 (List.mem_of_getElem? (i := 219) rfl), lw_t8 (List.mem_of_getElem? (i := 30) rfl), lw_t8 (List.mem_of_getElem? (i := 31) rfl)⟩
theorem lw_p60 : lw_okq (⟨"DowryBoxesModel", "losesOf", "(I)I"⟩, 62) := ⟨⟨by decide +kernel, by decide +kernel⟩, lw_t6 (List.mem_of_getElem? (i := 219) rfl), lw_t8 (List.mem_of_getElem? (i := 39) rfl), lw_t8 (List.mem_of_getElem? (i := 40) rfl)⟩
theorem lw_p61 : lw_okq (⟨"DowryBoxesModel", "change", "(II)I"⟩, 62) := ⟨⟨by decide +kernel, by decide +kernel⟩, lw_t6 (List.mem_of_getElem? (i := 219) rfl), lw_t8 (List.mem_of_getElem? (i := 52) rfl), lw_t8 (List.mem_of_getElem? (i := 53) rfl)⟩
theorem lw_p62 : lw_okq (⟨"DowryBoxesModel", "isSuitor", "(I)Z"⟩, 62) := ⟨⟨by decide +kernel, by decide +kernel⟩, lw_t6 (List.mem_of_getElem? (i := 219) rfl), lw_t8 (List.mem_of_getElem? (i := 68) rfl), lw_t8 (List.mem_of_getElem? (i := 69) rfl)⟩
theorem lw_p63 : lw_okq (⟨"DowryBoxesModel", "boxOf", "(I)I"⟩, 62) := ⟨⟨by decide +kernel, by decide +kernel⟩, lw_t6 (List.mem_of_getElem? (i := 219) rfl), lw_t8 (List.mem_of_getElem? (i := 72) rfl), lw_t8 (List.mem_of_getElem? (i := 73) rfl)⟩
def lw_privs_4 : List (MethodName × Nat) := [(⟨"DowryBoxesModel", "tell", "(I)I"⟩, 62), (⟨"DowryBoxesModel", "putBack", "(I)V"⟩, 62), (⟨"DowryBoxesModel", "settled", "(I)I"⟩, 62), (⟨"DowryBoxesModel", "isBox", "(I)Z"⟩, 62), (⟨"DowryBoxesModel", "notesOf", "(I)I"⟩, 62), (⟨"DowryBoxesModel", "notesAt", "(II)I"⟩, 62), (⟨"DowryBoxesModel", "lastsOf", "(I)I"⟩, 62), (⟨"DowryBoxesModel", "tells", "(IIIJ)J"⟩, 62), (⟨"DowryBoxesModel", "earOf", "(II)I"⟩, 62), (⟨"DowryBoxesModel", "isSo", "(I)Z"⟩, 62), (⟨"DowryBoxesModel", "reckonAll", "(II)V"⟩, 62), (⟨"DowryBoxesModel", "reckon", "(IJJ)J"⟩, 62), (⟨"DowryBoxesModel", "losesOf", "(I)I"⟩, 62), (⟨"DowryBoxesModel", "change", "(II)I"⟩, 62), (⟨"DowryBoxesModel", "isSuitor", "(I)Z"⟩, 62), (⟨"DowryBoxesModel", "boxOf", "(I)I"⟩, 62)]
theorem lw_r4 : ∀ q ∈ lw_privs_4, lw_okq q := List.forall_mem_cons.mpr ⟨lw_p48, List.forall_mem_cons.mpr ⟨lw_p49, List.forall_mem_cons.mpr ⟨lw_p50, List.forall_mem_cons.mpr ⟨lw_p51, List.forall_mem_cons.mpr ⟨lw_p52, List.forall_mem_cons.mpr ⟨lw_p53, List.forall_mem_cons.mpr ⟨lw_p54, List.forall_mem_cons.mpr ⟨lw_p55, List.forall_mem_cons.mpr ⟨lw_p56, List.forall_mem_cons.mpr ⟨lw_p57, List.forall_mem_cons.mpr ⟨lw_p58, List.forall_mem_cons.mpr ⟨lw_p59, List.forall_mem_cons.mpr ⟨lw_p60, List.forall_mem_cons.mpr ⟨lw_p61, List.forall_mem_cons.mpr ⟨lw_p62, List.forall_mem_cons.mpr ⟨lw_p63, fun _ h => absurd h List.not_mem_nil⟩⟩⟩⟩⟩⟩⟩⟩⟩⟩⟩⟩⟩⟩⟩⟩
theorem lw_p64 : lw_okq (⟨"DowryBoxesModel", "likesOf", "(II)I"⟩, 62) := ⟨⟨by decide +kernel, by decide +kernel⟩, lw_t6 (List.mem_of_getElem? (i := 219) rfl), lw_t8 (List.mem_of_getElem? (i := 80) rfl), lw_t8 (List.mem_of_getElem? (i := 81) rfl)⟩
theorem lw_p65 : lw_okq (⟨"DowryBoxesModel", "isBarred", "(II)Z"⟩, 62) := ⟨⟨by decide +kernel, by decide +kernel⟩, lw_t6 (List.mem_of_getElem? (i := 219) rfl), lw_t8 (List.mem_of_getElem? (i := 84) rfl), lw_t8 (List.mem_of_getElem? (i := 85) rfl)⟩
theorem lw_p66 : lw_okq (⟨"DowryBoxesModel", "four", "(I)V"⟩, 62) := ⟨⟨by decide +kernel, by decide +kernel⟩, lw_t6 (List.mem_of_getElem? (i := 219) rfl), lw_t8 (List.mem_of_getElem? (i := 107) rfl), lw_t8 (List.mem_of_getElem? (i := 108) rfl)⟩
theorem lw_p67 : lw_okq (⟨"DowryBoxesModel", "beginText", "(Z)V"⟩, 62) := ⟨⟨by decide +kernel, by decide +kernel⟩, lw_t6 (List.mem_of_getElem? (i := 219) rfl), lw_t8 (List.mem_of_getElem? (i := 123) rfl), lw_t8 (List.mem_of_getElem? (i := 124) rfl)⟩
theorem lw_p68 : lw_okq (⟨"DowryBoxesModel", "begin", "()V"⟩, 62) := ⟨⟨by decide +kernel, by decide +kernel⟩, lw_t6 (List.mem_of_getElem? (i := 219) rfl), lw_t8 (List.mem_of_getElem? (i := 127) rfl), lw_t8 (List.mem_of_getElem? (i := 128) rfl)⟩
theorem lw_p69 : lw_okq (⟨"DowryBoxesModel", "next", "()V"⟩, 62) := ⟨⟨by decide +kernel, by decide +kernel⟩, lw_t6 (List.mem_of_getElem? (i := 219) rfl), lw_t8 (List.mem_of_getElem? (i := 131) rfl), lw_t8 (List.mem_of_getElem? (i := 132) rfl)⟩
theorem lw_p70 : lw_okq (⟨"DowryBoxesModel", "readLaw", "()V"⟩, 62) := ⟨⟨by decide +kernel, by decide +kernel⟩, lw_t6 (List.mem_of_getElem? (i := 219) rfl), lw_t8 (List.mem_of_getElem? (i := 145) rfl), lw_t8 (List.mem_of_getElem? (i := 146) rfl)⟩
theorem lw_p71 : lw_okq (⟨"DowryBoxesModel", "isWord", "(J)Z"⟩, 62) := ⟨⟨by decide +kernel, by decide +kernel⟩, lw_t6 (List.mem_of_getElem? (i := 219) rfl), lw_t8 (List.mem_of_getElem? (i := 149) rfl), lw_t8 (List.mem_of_getElem? (i := 150) rfl)⟩
theorem lw_p72 : lw_okq (⟨"DowryBoxesModel", "must", "(Z)V"⟩, 62) := ⟨⟨by decide +kernel, by decide +kernel⟩, lw_t6 (List.mem_of_getElem? (i := 219) rfl), lw_t8 (List.mem_of_getElem? (i := 153) rfl), lw_t8 (List.mem_of_getElem? (i := 154) rfl)⟩
theorem lw_p73 : lw_okq (⟨"DowryBoxesModel", "readExpression", "(Z)V"⟩, 62) := ⟨⟨by decide +kernel, by decide +kernel⟩, lw_t6 (List.mem_of_getElem? (i := 219) rfl), lw_t8 (List.mem_of_getElem? (i := 157) rfl), lw_t8 (List.mem_of_getElem? (i := 158) rfl)⟩
theorem lw_p74 : lw_okq (⟨"DowryBoxesModel", "readPlain", "()I"⟩, 62) := ⟨⟨by decide +kernel, by decide +kernel⟩, lw_t6 (List.mem_of_getElem? (i := 219) rfl), lw_t8 (List.mem_of_getElem? (i := 161) rfl), lw_t8 (List.mem_of_getElem? (i := 162) rfl)⟩
theorem lw_p75 : lw_okq (⟨"DowryBoxesModel", "push", "(II)V"⟩, 62) := ⟨⟨by decide +kernel, by decide +kernel⟩, lw_t6 (List.mem_of_getElem? (i := 219) rfl), lw_t8 (List.mem_of_getElem? (i := 166) rfl), lw_t8 (List.mem_of_getElem? (i := 167) rfl)⟩
theorem lw_p76 : lw_okq (⟨"DowryBoxesModel", "isSign", "(I)Z"⟩, 62) := ⟨⟨by decide +kernel, by decide +kernel⟩, lw_t6 (List.mem_of_getElem? (i := 219) rfl), lw_t8 (List.mem_of_getElem? (i := 170) rfl), lw_t8 (List.mem_of_getElem? (i := 171) rfl)⟩
theorem lw_p77 : lw_okq (⟨"DowryBoxesModel", "openBracket", "(I)V"⟩, 62) := ⟨⟨by decide +kernel, by decide +kernel⟩, lw_t6 (List.mem_of_getElem? (i := 219) rfl), lw_t8 (List.mem_of_getElem? (i := 174) rfl), lw_t8 (List.mem_of_getElem? (i := 175) rfl)⟩
theorem lw_p78 : lw_okq (⟨"DowryBoxesModel", "readPart", "()I"⟩, 62) := ⟨⟨by decide +kernel, by decide +kernel⟩, lw_t6 (List.mem_of_getElem? (i := 219) rfl), lw_t8 (List.mem_of_getElem? (i := 178) rfl), lw_t8 (List.mem_of_getElem? (i := 179) rfl)⟩
theorem lw_p79 : lw_okq (⟨"DowryBoxesModel", "orderPartAt", "()I"⟩, 62) := ⟨⟨by decide +kernel, by decide +kernel⟩, lw_t6 (List.mem_of_getElem? (i := 219) rfl), lw_t8 (List.mem_of_getElem? (i := 182) rfl), lw_t8 (List.mem_of_getElem? (i := 183) rfl)⟩
def lw_privs_5 : List (MethodName × Nat) := [(⟨"DowryBoxesModel", "likesOf", "(II)I"⟩, 62), (⟨"DowryBoxesModel", "isBarred", "(II)Z"⟩, 62), (⟨"DowryBoxesModel", "four", "(I)V"⟩, 62), (⟨"DowryBoxesModel", "beginText", "(Z)V"⟩, 62), (⟨"DowryBoxesModel", "begin", "()V"⟩, 62), (⟨"DowryBoxesModel", "next", "()V"⟩, 62), (⟨"DowryBoxesModel", "readLaw", "()V"⟩, 62), (⟨"DowryBoxesModel", "isWord", "(J)Z"⟩, 62), (⟨"DowryBoxesModel", "must", "(Z)V"⟩, 62), (⟨"DowryBoxesModel", "readExpression", "(Z)V"⟩, 62), (⟨"DowryBoxesModel", "readPlain", "()I"⟩, 62), (⟨"DowryBoxesModel", "push", "(II)V"⟩, 62), (⟨"DowryBoxesModel", "isSign", "(I)Z"⟩, 62), (⟨"DowryBoxesModel", "openBracket", "(I)V"⟩, 62), (⟨"DowryBoxesModel", "readPart", "()I"⟩, 62), (⟨"DowryBoxesModel", "orderPartAt", "()I"⟩, 62)]
theorem lw_r5 : ∀ q ∈ lw_privs_5, lw_okq q := List.forall_mem_cons.mpr ⟨lw_p64, List.forall_mem_cons.mpr ⟨lw_p65, List.forall_mem_cons.mpr ⟨lw_p66, List.forall_mem_cons.mpr ⟨lw_p67, List.forall_mem_cons.mpr ⟨lw_p68, List.forall_mem_cons.mpr ⟨lw_p69, List.forall_mem_cons.mpr ⟨lw_p70, List.forall_mem_cons.mpr ⟨lw_p71, List.forall_mem_cons.mpr ⟨lw_p72, List.forall_mem_cons.mpr ⟨lw_p73, List.forall_mem_cons.mpr ⟨lw_p74, List.forall_mem_cons.mpr ⟨lw_p75, List.forall_mem_cons.mpr ⟨lw_p76, List.forall_mem_cons.mpr ⟨lw_p77, List.forall_mem_cons.mpr ⟨lw_p78, List.forall_mem_cons.mpr ⟨lw_p79, fun _ h => absurd h List.not_mem_nil⟩⟩⟩⟩⟩⟩⟩⟩⟩⟩⟩⟩⟩⟩⟩⟩
theorem lw_p80 : lw_okq (⟨"DowryBoxesModel", "partAt", "()I"⟩, 62) := ⟨⟨by decide +kernel, by decide +kernel⟩, lw_t6 (List.mem_of_getElem? (i := 219) rfl), lw_t8 (List.mem_of_getElem? (i := 186) rfl), lw_t8 (List.mem_of_getElem? (i := 187) rfl)⟩
theorem lw_p81 : lw_okq (⟨"DowryBoxesModel", "leaf", "(ZII)V"⟩, 62) := ⟨⟨by decide +kernel, by decide +kernel⟩, lw_t6 (List.mem_of_getElem? (i := 219) rfl), lw_t8 (List.mem_of_getElem? (i := 191) rfl), lw_t8 (List.mem_of_getElem? (i := 192) rfl)⟩
theorem lw_p82 : lw_okq (⟨"DowryBoxesModel", "emit", "(II)V"⟩, 62) := ⟨⟨by decide +kernel, by decide +kernel⟩, lw_t6 (List.mem_of_getElem? (i := 219) rfl), lw_t8 (List.mem_of_getElem? (i := 195) rfl), lw_t8 (List.mem_of_getElem? (i := 196) rfl)⟩
theorem lw_p83 : lw_okq (⟨"DowryBoxesModel", "number", "(JJ)I"⟩, 62) := ⟨⟨by decide +kernel, by decide +kernel⟩, lw_t6 (List.mem_of_getElem? (i := 219) rfl), lw_t8 (List.mem_of_getElem? (i := 200) rfl), lw_t8 (List.mem_of_getElem? (i := 201) rfl)⟩
theorem lw_p84 : lw_okq (⟨"DowryBoxesModel", "behindSum", "(Z)I"⟩, 62) := ⟨⟨by decide +kernel, by decide +kernel⟩, lw_t6 (List.mem_of_getElem? (i := 219) rfl), lw_t8 (List.mem_of_getElem? (i := 204) rfl), lw_t8 (List.mem_of_getElem? (i := 205) rfl)⟩
theorem lw_p85 : lw_okq (⟨"DowryBoxesModel", "settle", "(I)V"⟩, 62) := ⟨⟨by decide +kernel, by decide +kernel⟩, lw_t6 (List.mem_of_getElem? (i := 219) rfl), lw_t8 (List.mem_of_getElem? (i := 211) rfl), lw_t8 (List.mem_of_getElem? (i := 212) rfl)⟩
theorem lw_p86 : lw_okq (⟨"DowryBoxesModel", "inner", "()I"⟩, 62) := ⟨⟨by decide +kernel, by decide +kernel⟩, lw_t6 (List.mem_of_getElem? (i := 219) rfl), lw_t8 (List.mem_of_getElem? (i := 215) rfl), lw_t8 (List.mem_of_getElem? (i := 216) rfl)⟩
theorem lw_p87 : lw_okq (⟨"DowryBoxesModel", "isCompared", "()Z"⟩, 62) := ⟨⟨by decide +kernel, by decide +kernel⟩, lw_t6 (List.mem_of_getElem? (i := 219) rfl), lw_t8 (List.mem_of_getElem? (i := 219) rfl), lw_t8 (List.mem_of_getElem? (i := 220) rfl)⟩
theorem lw_p88 : lw_okq (⟨"DowryBoxesModel", "behindTest", "()I"⟩, 62) := ⟨⟨by decide +kernel, by decide +kernel⟩, lw_t6 (List.mem_of_getElem? (i := 219) rfl), lw_t8 (List.mem_of_getElem? (i := 226) rfl), lw_t8 (List.mem_of_getElem? (i := 227) rfl)⟩
theorem lw_p89 : lw_okq (⟨"DowryBoxesModel", "endText", "()V"⟩, 62) := ⟨⟨by decide +kernel, by decide +kernel⟩, lw_t6 (List.mem_of_getElem? (i := 219) rfl), lw_t8 (List.mem_of_getElem? (i := 233) rfl), lw_t8 (List.mem_of_getElem? (i := 234) rfl)⟩
theorem lw_p90 : lw_okq (⟨"DowryBoxesModel", "isLaw", "(I)Z"⟩, 62) := ⟨⟨by decide +kernel, by decide +kernel⟩, lw_t6 (List.mem_of_getElem? (i := 219) rfl), lw_t9 (List.mem_of_getElem? (i := 1) rfl), lw_t9 (List.mem_of_getElem? (i := 2) rfl)⟩
theorem lw_p91 : lw_okq (⟨"DowryBoxesModel", "pullNow", "(III)I"⟩, 62) := ⟨⟨by decide +kernel, by decide +kernel⟩, lw_t6 (List.mem_of_getElem? (i := 219) rfl), lw_t9 (List.mem_of_getElem? (i := 9) rfl), lw_t9 (List.mem_of_getElem? (i := 10) rfl)⟩
theorem lw_p92 : lw_okq (⟨"DowryBoxesModel", "canPull", "(III)Z"⟩, 62) := ⟨⟨by decide +kernel, by decide +kernel⟩, lw_t6 (List.mem_of_getElem? (i := 219) rfl), lw_t9 (List.mem_of_getElem? (i := 13) rfl), lw_t9 (List.mem_of_getElem? (i := 14) rfl)⟩
theorem lw_p93 : lw_okq (⟨"DowryBoxesModel", "remember", "(I)V"⟩, 62) := ⟨⟨by decide +kernel, by decide +kernel⟩, lw_t6 (List.mem_of_getElem? (i := 219) rfl), lw_t9 (List.mem_of_getElem? (i := 20) rfl), lw_t9 (List.mem_of_getElem? (i := 21) rfl)⟩
theorem lw_p94 : lw_okq (⟨"DowryBoxesModel", "keepAll", "(I)V"⟩, 62) := ⟨⟨by decide +kernel, by decide +kernel⟩, lw_t6 (List.mem_of_getElem? (i := 219) rfl), lw_t9 (List.mem_of_getElem? (i := 24) rfl), lw_t9 (List.mem_of_getElem? (i := 25) rfl)⟩
theorem lw_p95 : lw_okq (⟨"DowryBoxesModel", "snapNow", "(II)I"⟩, 62) := ⟨⟨by decide +kernel, by decide +kernel⟩, lw_t6 (List.mem_of_getElem? (i := 219) rfl), lw_t9 (List.mem_of_getElem? (i := 32) rfl), lw_t9 (List.mem_of_getElem? (i := 33) rfl)⟩
def lw_privs_6 : List (MethodName × Nat) := [(⟨"DowryBoxesModel", "partAt", "()I"⟩, 62), (⟨"DowryBoxesModel", "leaf", "(ZII)V"⟩, 62), (⟨"DowryBoxesModel", "emit", "(II)V"⟩, 62), (⟨"DowryBoxesModel", "number", "(JJ)I"⟩, 62), (⟨"DowryBoxesModel", "behindSum", "(Z)I"⟩, 62), (⟨"DowryBoxesModel", "settle", "(I)V"⟩, 62), (⟨"DowryBoxesModel", "inner", "()I"⟩, 62), (⟨"DowryBoxesModel", "isCompared", "()Z"⟩, 62), (⟨"DowryBoxesModel", "behindTest", "()I"⟩, 62), (⟨"DowryBoxesModel", "endText", "()V"⟩, 62), (⟨"DowryBoxesModel", "isLaw", "(I)Z"⟩, 62), (⟨"DowryBoxesModel", "pullNow", "(III)I"⟩, 62), (⟨"DowryBoxesModel", "canPull", "(III)Z"⟩, 62), (⟨"DowryBoxesModel", "remember", "(I)V"⟩, 62), (⟨"DowryBoxesModel", "keepAll", "(I)V"⟩, 62), (⟨"DowryBoxesModel", "snapNow", "(II)I"⟩, 62)]
theorem lw_r6 : ∀ q ∈ lw_privs_6, lw_okq q := List.forall_mem_cons.mpr ⟨lw_p80, List.forall_mem_cons.mpr ⟨lw_p81, List.forall_mem_cons.mpr ⟨lw_p82, List.forall_mem_cons.mpr ⟨lw_p83, List.forall_mem_cons.mpr ⟨lw_p84, List.forall_mem_cons.mpr ⟨lw_p85, List.forall_mem_cons.mpr ⟨lw_p86, List.forall_mem_cons.mpr ⟨lw_p87, List.forall_mem_cons.mpr ⟨lw_p88, List.forall_mem_cons.mpr ⟨lw_p89, List.forall_mem_cons.mpr ⟨lw_p90, List.forall_mem_cons.mpr ⟨lw_p91, List.forall_mem_cons.mpr ⟨lw_p92, List.forall_mem_cons.mpr ⟨lw_p93, List.forall_mem_cons.mpr ⟨lw_p94, List.forall_mem_cons.mpr ⟨lw_p95, fun _ h => absurd h List.not_mem_nil⟩⟩⟩⟩⟩⟩⟩⟩⟩⟩⟩⟩⟩⟩⟩⟩
theorem lw_p96 : lw_okq (⟨"DowryBoxesModel", "wedNow", "(II)I"⟩, 62) := ⟨⟨by decide +kernel, by decide +kernel⟩, lw_t6 (List.mem_of_getElem? (i := 219) rfl), lw_t9 (List.mem_of_getElem? (i := 40) rfl), lw_t9 (List.mem_of_getElem? (i := 41) rfl)⟩
theorem lw_p97 : lw_okq (⟨"DowryBoxesModel", "passNow", "()I"⟩, 62) := ⟨⟨by decide +kernel, by decide +kernel⟩, lw_t6 (List.mem_of_getElem? (i := 219) rfl), lw_t9 (List.mem_of_getElem? (i := 48) rfl), lw_t9 (List.mem_of_getElem? (i := 49) rfl)⟩
theorem lw_p98 : lw_okq (⟨"DowryBoxesModel", "passIt", "()I"⟩, 62) := ⟨⟨by decide +kernel, by decide +kernel⟩, lw_t6 (List.mem_of_getElem? (i := 219) rfl), lw_t9 (List.mem_of_getElem? (i := 52) rfl), lw_t9 (List.mem_of_getElem? (i := 53) rfl)⟩
theorem lw_p99 : lw_okq (⟨"DowryBoxesModel", "whichAre", "()I"⟩, 62) := ⟨⟨by decide +kernel, by decide +kernel⟩, lw_t6 (List.mem_of_getElem? (i := 219) rfl), lw_t9 (List.mem_of_getElem? (i := 68) rfl), lw_t9 (List.mem_of_getElem? (i := 69) rfl)⟩
theorem lw_p100 : lw_okq (⟨"DowryBoxesModel", "laySteady", "()V"⟩, 62) := ⟨⟨by decide +kernel, by decide +kernel⟩, lw_t6 (List.mem_of_getElem? (i := 219) rfl), lw_t9 (List.mem_of_getElem? (i := 81) rfl), lw_t9 (List.mem_of_getElem? (i := 82) rfl)⟩
theorem lw_p101 : lw_okq (⟨"DowryBoxesModel", "layTwos", "()V"⟩, 62) := ⟨⟨by decide +kernel, by decide +kernel⟩, lw_t6 (List.mem_of_getElem? (i := 219) rfl), lw_t9 (List.mem_of_getElem? (i := 85) rfl), lw_t9 (List.mem_of_getElem? (i := 86) rfl)⟩
theorem lw_p102 : lw_okq (⟨"DowryBoxesModel", "nearest", "(I)I"⟩, 62) := ⟨⟨by decide +kernel, by decide +kernel⟩, lw_t6 (List.mem_of_getElem? (i := 219) rfl), lw_t9 (List.mem_of_getElem? (i := 89) rfl), lw_t9 (List.mem_of_getElem? (i := 90) rfl)⟩
theorem lw_p103 : lw_okq (⟨"DowryBoxesModel", "keptBy", "(I)I"⟩, 62) := ⟨⟨by decide +kernel, by decide +kernel⟩, lw_t6 (List.mem_of_getElem? (i := 219) rfl), lw_t9 (List.mem_of_getElem? (i := 93) rfl), lw_t9 (List.mem_of_getElem? (i := 94) rfl)⟩
theorem lw_p104 : lw_okq (⟨"DowryBoxesModel", "layAbout", "(I)V"⟩, 62) := ⟨⟨by decide +kernel, by decide +kernel⟩, lw_t6 (List.mem_of_getElem? (i := 219) rfl), lw_t9 (List.mem_of_getElem? (i := 101) rfl), lw_t9 (List.mem_of_getElem? (i := 102) rfl)⟩
theorem lw_p105 : lw_okq (⟨"DowryBoxesModel", "withSuitor", "(IIII)I"⟩, 62) := ⟨⟨by decide +kernel, by decide +kernel⟩, lw_t6 (List.mem_of_getElem? (i := 219) rfl), lw_t9 (List.mem_of_getElem? (i := 105) rfl), lw_t9 (List.mem_of_getElem? (i := 106) rfl)⟩
theorem lw_p106 : lw_okq (⟨"DowryBoxesModel", "layMore", "(II)V"⟩, 62) := ⟨⟨by decide +kernel, by decide +kernel⟩, lw_t6 (List.mem_of_getElem? (i := 219) rfl), lw_t9 (List.mem_of_getElem? (i := 115) rfl), lw_t9 (List.mem_of_getElem? (i := 116) rfl)⟩
theorem lw_p107 : lw_okq (⟨"DowryBoxesModel", "leastNext", "(III)I"⟩, 62) := ⟨⟨by decide +kernel, by decide +kernel⟩, lw_t6 (List.mem_of_getElem? (i := 219) rfl), lw_t9 (List.mem_of_getElem? (i := 119) rfl), lw_t9 (List.mem_of_getElem? (i := 120) rfl)⟩
theorem lw_p108 : lw_okq (⟨"DowryBoxesModel", "areTwo", "(II)Z"⟩, 62) := ⟨⟨by decide +kernel, by decide +kernel⟩, lw_t6 (List.mem_of_getElem? (i := 219) rfl), lw_t9 (List.mem_of_getElem? (i := 127) rfl), lw_t9 (List.mem_of_getElem? (i := 128) rfl)⟩
theorem lw_p109 : lw_okq (⟨"DowryBoxesModel", "layClash", "(III)I"⟩, 62) := ⟨⟨by decide +kernel, by decide +kernel⟩, lw_t6 (List.mem_of_getElem? (i := 219) rfl), lw_t9 (List.mem_of_getElem? (i := 131) rfl), lw_t9 (List.mem_of_getElem? (i := 132) rfl)⟩
theorem lw_p110 : lw_okq (⟨"DowryBoxesModel", "leastOf", "(II)I"⟩, 62) := ⟨⟨by decide +kernel, by decide +kernel⟩, lw_t6 (List.mem_of_getElem? (i := 219) rfl), lw_t9 (List.mem_of_getElem? (i := 149) rfl), lw_t9 (List.mem_of_getElem? (i := 150) rfl)⟩
theorem lw_p111 : lw_okq (⟨"DowryBoxesModel", "readOrder", "()V"⟩, 62) := ⟨⟨by decide +kernel, by decide +kernel⟩, lw_t6 (List.mem_of_getElem? (i := 219) rfl), lw_t9 (List.mem_of_getElem? (i := 174) rfl), lw_t9 (List.mem_of_getElem? (i := 175) rfl)⟩
def lw_privs_7 : List (MethodName × Nat) := [(⟨"DowryBoxesModel", "wedNow", "(II)I"⟩, 62), (⟨"DowryBoxesModel", "passNow", "()I"⟩, 62), (⟨"DowryBoxesModel", "passIt", "()I"⟩, 62), (⟨"DowryBoxesModel", "whichAre", "()I"⟩, 62), (⟨"DowryBoxesModel", "laySteady", "()V"⟩, 62), (⟨"DowryBoxesModel", "layTwos", "()V"⟩, 62), (⟨"DowryBoxesModel", "nearest", "(I)I"⟩, 62), (⟨"DowryBoxesModel", "keptBy", "(I)I"⟩, 62), (⟨"DowryBoxesModel", "layAbout", "(I)V"⟩, 62), (⟨"DowryBoxesModel", "withSuitor", "(IIII)I"⟩, 62), (⟨"DowryBoxesModel", "layMore", "(II)V"⟩, 62), (⟨"DowryBoxesModel", "leastNext", "(III)I"⟩, 62), (⟨"DowryBoxesModel", "areTwo", "(II)Z"⟩, 62), (⟨"DowryBoxesModel", "layClash", "(III)I"⟩, 62), (⟨"DowryBoxesModel", "leastOf", "(II)I"⟩, 62), (⟨"DowryBoxesModel", "readOrder", "()V"⟩, 62)]
theorem lw_r7 : ∀ q ∈ lw_privs_7, lw_okq q := List.forall_mem_cons.mpr ⟨lw_p96, List.forall_mem_cons.mpr ⟨lw_p97, List.forall_mem_cons.mpr ⟨lw_p98, List.forall_mem_cons.mpr ⟨lw_p99, List.forall_mem_cons.mpr ⟨lw_p100, List.forall_mem_cons.mpr ⟨lw_p101, List.forall_mem_cons.mpr ⟨lw_p102, List.forall_mem_cons.mpr ⟨lw_p103, List.forall_mem_cons.mpr ⟨lw_p104, List.forall_mem_cons.mpr ⟨lw_p105, List.forall_mem_cons.mpr ⟨lw_p106, List.forall_mem_cons.mpr ⟨lw_p107, List.forall_mem_cons.mpr ⟨lw_p108, List.forall_mem_cons.mpr ⟨lw_p109, List.forall_mem_cons.mpr ⟨lw_p110, List.forall_mem_cons.mpr ⟨lw_p111, fun _ h => absurd h List.not_mem_nil⟩⟩⟩⟩⟩⟩⟩⟩⟩⟩⟩⟩⟩⟩⟩⟩
theorem lw_p112 : lw_okq (⟨"DowryBoxesModel", "readSum", "(I)V"⟩, 62) := ⟨⟨by decide +kernel, by decide +kernel⟩, lw_t6 (List.mem_of_getElem? (i := 219) rfl), lw_t9 (List.mem_of_getElem? (i := 178) rfl), lw_t9 (List.mem_of_getElem? (i := 179) rfl)⟩
theorem lw_p113 : lw_okq (⟨"DowryBoxesModel", "mustJoin", "(I)V"⟩, 62) := ⟨⟨by decide +kernel, by decide +kernel⟩, lw_t6 (List.mem_of_getElem? (i := 219) rfl), lw_t9 (List.mem_of_getElem? (i := 182) rfl), lw_t9 (List.mem_of_getElem? (i := 183) rfl)⟩
theorem lw_p114 : lw_okq (⟨"DowryBoxesModel", "run", "(I)I"⟩, 62) := ⟨⟨by decide +kernel, by decide +kernel⟩, lw_t6 (List.mem_of_getElem? (i := 219) rfl), lw_t9 (List.mem_of_getElem? (i := 187) rfl), lw_t9 (List.mem_of_getElem? (i := 188) rfl)⟩
theorem lw_p115 : lw_okq (⟨"DowryBoxesModel", "couples", "()I"⟩, 62) := ⟨⟨by decide +kernel, by decide +kernel⟩, lw_t6 (List.mem_of_getElem? (i := 219) rfl), lw_t9 (List.mem_of_getElem? (i := 191) rfl), lw_t9 (List.mem_of_getElem? (i := 192) rfl)⟩
theorem lw_p116 : lw_okq (⟨"DowryBoxesModel", "sumOf", "(I)I"⟩, 62) := ⟨⟨by decide +kernel, by decide +kernel⟩, lw_t6 (List.mem_of_getElem? (i := 219) rfl), lw_t9 (List.mem_of_getElem? (i := 195) rfl), lw_t9 (List.mem_of_getElem? (i := 196) rfl)⟩
theorem lw_p117 : lw_okq (⟨"DowryBoxesModel", "act", "(IIII)I"⟩, 62) := ⟨⟨by decide +kernel, by decide +kernel⟩, lw_t6 (List.mem_of_getElem? (i := 219) rfl), lw_t9 (List.mem_of_getElem? (i := 199) rfl), lw_t9 (List.mem_of_getElem? (i := 200) rfl)⟩
theorem lw_p118 : lw_okq (⟨"DowryBoxesModel", "giveBack", "(I)V"⟩, 62) := ⟨⟨by decide +kernel, by decide +kernel⟩, lw_t6 (List.mem_of_getElem? (i := 219) rfl), lw_t9 (List.mem_of_getElem? (i := 203) rfl), lw_t9 (List.mem_of_getElem? (i := 204) rfl)⟩
theorem lw_p119 : lw_okq (⟨"DowryBoxesModel", "draw", "(I)I"⟩, 62) := ⟨⟨by decide +kernel, by decide +kernel⟩, lw_t6 (List.mem_of_getElem? (i := 219) rfl), lw_t9 (List.mem_of_getElem? (i := 215) rfl), lw_t9 (List.mem_of_getElem? (i := 216) rfl)⟩
def lw_privs_8 : List (MethodName × Nat) := [(⟨"DowryBoxesModel", "readSum", "(I)V"⟩, 62), (⟨"DowryBoxesModel", "mustJoin", "(I)V"⟩, 62), (⟨"DowryBoxesModel", "run", "(I)I"⟩, 62), (⟨"DowryBoxesModel", "couples", "()I"⟩, 62), (⟨"DowryBoxesModel", "sumOf", "(I)I"⟩, 62), (⟨"DowryBoxesModel", "act", "(IIII)I"⟩, 62), (⟨"DowryBoxesModel", "giveBack", "(I)V"⟩, 62), (⟨"DowryBoxesModel", "draw", "(I)I"⟩, 62)]
theorem lw_r8 : ∀ q ∈ lw_privs_8, lw_okq q := List.forall_mem_cons.mpr ⟨lw_p112, List.forall_mem_cons.mpr ⟨lw_p113, List.forall_mem_cons.mpr ⟨lw_p114, List.forall_mem_cons.mpr ⟨lw_p115, List.forall_mem_cons.mpr ⟨lw_p116, List.forall_mem_cons.mpr ⟨lw_p117, List.forall_mem_cons.mpr ⟨lw_p118, List.forall_mem_cons.mpr ⟨lw_p119, fun _ h => absurd h List.not_mem_nil⟩⟩⟩⟩⟩⟩⟩⟩
def lw_privs : List (MethodName × Nat) := lw_privs_1 ++ (lw_privs_2 ++ (lw_privs_3 ++ (lw_privs_4 ++ (lw_privs_5 ++ (lw_privs_6 ++ (lw_privs_7 ++ (lw_privs_8)))))))
def lw_tbl : List Cond := k2_sels lw_privs ++ tables_1
theorem lw_privs_ok : ∀ q ∈ lw_privs, lw_okq q := by
  show ∀ q ∈ lw_privs_1 ++ (lw_privs_2 ++ (lw_privs_3 ++ (lw_privs_4 ++ (lw_privs_5 ++ (lw_privs_6 ++ (lw_privs_7 ++ (lw_privs_8))))))), lw_okq q
  exact List.forall_mem_append.mpr ⟨lw_r1, List.forall_mem_append.mpr ⟨lw_r2, List.forall_mem_append.mpr ⟨lw_r3, List.forall_mem_append.mpr ⟨lw_r4, List.forall_mem_append.mpr ⟨lw_r5, List.forall_mem_append.mpr ⟨lw_r6, List.forall_mem_append.mpr ⟨lw_r7, lw_r8⟩⟩⟩⟩⟩⟩⟩
-- ===== ONE list of words for every method: the tables' words that hold all through a run =====
def lw_all : List Cond := lw_tbl.filter goodWord
/-- a word of the tables by its place: claim/WORDS.tsv -/
theorem lw_w {w : Cond} (i : Nat) (h : lw_tbl[i]? = some w) (g : goodWord w = true) : w ∈ lw_all := List.mem_filter.mpr ⟨List.mem_of_getElem? h, g⟩
theorem lw_all_tbl {w : Cond} (h : w ∈ lw_all) : w ∈ lw_tbl := (List.mem_filter.mp h).1
theorem lw_self : GoodIn lw_all lw_all := fun w h => ⟨h, good_of_word (List.mem_filter.mp h).2⟩
/-- a class's field words, by their places -/
theorem lw_in (ws : List Cond) (ps : List Nat) (hp : ws = ps.filterMap (fun i => lw_tbl[i]?)) (hg : ws.all goodWord = true) : ∀ w ∈ ws, w ∈ lw_all := by
  intro w h
  have h1 := List.all_eq_true.mp hg w h
  rw [hp] at h
  obtain ⟨i, -, hi⟩ := List.mem_filterMap.mp h
  exact lw_w i hi h1
/-- the words of a contract for the method y with code b, L locals, answer r -/
abbrev ws_ (y : MethodName) (b : ByteArray) (L : Nat) (r : Option FieldType) : List Cond := Cond.code y b L r :: lw_all
theorem lw_meth {y : MethodName} {b : ByteArray} {L : Nat} {r : Option FieldType} (h : Cond.code y b L r ∈ lw_all) : GoodIn lw_all (ws_ y b L r) := by
  intro w hw
  rcases List.mem_cons.mp hw with e | e
  · rw [e]
    exact lw_self _ h
  · exact lw_self _ e
theorem lw_app {a c : List Cond} (ha : ∀ w ∈ a, w ∈ lw_all) (hc : GoodIn lw_all c) : GoodIn lw_all (a ++ c) := by
  intro w hw
  rcases List.mem_append.mp hw with e | e
  · exact lw_self w (ha w e)
  · exact hc w e
/-- what a call through an object asks: cwV n hts (lw_V ..) -/
theorem lw_V {own : String} {idx : Nat} {C : String} {y : MethodName} {b : ByteArray} {L : Nat} {r : Option FieldType} (h1 : Cond.methodLink own idx y ∈ lw_all) (h2 : Cond.instanceMethod y ∈ lw_all) (h3 : Cond.selects C y y ∈ lw_all) (h4 : Cond.initialized C ∈ lw_all) (h5 : Cond.code y b L r ∈ lw_all) : GoodIn lw_all (wsV own idx C y (ws_ y b L r)) := by
  refine lw_app ?_ (lw_meth h5)
  intro w hw
  simp only [List.mem_cons, List.not_mem_nil, or_false] at hw
  rcases hw with e | e | e | e
  · rw [e]; exact h1
  · rw [e]; exact h2
  · rw [e]; exact h3
  · rw [e]; exact h4
/-- what a static call asks: va_cwS n hts (lw_S ..) -/
theorem lw_S {own : String} {idx : Nat} {y : MethodName} {b : ByteArray} {L : Nat} {r : Option FieldType} (h1 : Cond.methodLink own idx y ∈ lw_all) (h2 : Cond.static y ∈ lw_all) (h3 : Cond.initialized y.cls ∈ lw_all) (h4 : Cond.code y b L r ∈ lw_all) : GoodIn lw_all (va_wsS own idx y (ws_ y b L r)) := by
  refine lw_app ?_ (lw_meth h4)
  intro w hw
  simp only [List.mem_cons, List.not_mem_nil, or_false] at hw
  rcases hw with e | e | e
  · rw [e]; exact h1
  · rw [e]; exact h2
  · rw [e]; exact h3
/-- the words of a contract for a method WITH HANDLERS (hh: its table) -/
abbrev wsW_ (y : MethodName) (b : ByteArray) (L : Nat) (r : Option FieldType) (hh : List (Nat × Nat × Nat × Nat)) : List Cond := Cond.codeWith y b L r hh :: lw_all
theorem lw_methW {y : MethodName} {b : ByteArray} {L : Nat} {r : Option FieldType} {hh : List (Nat × Nat × Nat × Nat)} (h : Cond.codeWith y b L r hh ∈ lw_all) : GoodIn lw_all (wsW_ y b L r hh) := by
  intro w hw
  rcases List.mem_cons.mp hw with e | e
  · rw [e]
    exact lw_self _ h
  · exact lw_self _ e
/-- any list of words by their places (lw_in), good -/
theorem lw_good {ws : List Cond} (h : ∀ w ∈ ws, w ∈ lw_all) : GoodIn lw_all ws := fun w hw => lw_self w (h w hw)
/-- what a call of a method with handlers asks: vx_cwVW n hts (lw_VW ..), vx_cwSW n hts (lw_SW ..) -/
theorem lw_VW {own : String} {idx : Nat} {C : String} {y : MethodName} {b : ByteArray} {L : Nat} {r : Option FieldType} {hh : List (Nat × Nat × Nat × Nat)} (h1 : Cond.methodLink own idx y ∈ lw_all) (h2 : Cond.instanceMethod y ∈ lw_all) (h3 : Cond.selects C y y ∈ lw_all) (h4 : Cond.initialized C ∈ lw_all) (h5 : Cond.codeWith y b L r hh ∈ lw_all) : GoodIn lw_all (wsV own idx C y (wsW_ y b L r hh)) := by
  refine lw_app ?_ (lw_methW h5)
  intro w hw
  simp only [List.mem_cons, List.not_mem_nil, or_false] at hw
  rcases hw with e | e | e | e
  · rw [e]; exact h1
  · rw [e]; exact h2
  · rw [e]; exact h3
  · rw [e]; exact h4
theorem lw_SW {own : String} {idx : Nat} {y : MethodName} {b : ByteArray} {L : Nat} {r : Option FieldType} {hh : List (Nat × Nat × Nat × Nat)} (h1 : Cond.methodLink own idx y ∈ lw_all) (h2 : Cond.static y ∈ lw_all) (h3 : Cond.initialized y.cls ∈ lw_all) (h4 : Cond.codeWith y b L r hh ∈ lw_all) : GoodIn lw_all (va_wsS own idx y (wsW_ y b L r hh)) := by
  refine lw_app ?_ (lw_methW h4)
  intro w hw
  simp only [List.mem_cons, List.not_mem_nil, or_false] at hw
  rcases hw with e | e | e
  · rw [e]; exact h1
  · rw [e]; exact h2
  · rw [e]; exact h3
/-- a word by its place in its run of the tables -/
theorem lw_at {r : List Cond} (hr : ∀ w ∈ r, w ∈ lw_tbl) {w : Cond} (i : Nat) (h : r[i]? = some w) : w ∈ lw_tbl := hr w (List.mem_of_getElem? h)
theorem lw_g {w : Cond} (h : w ∈ lw_tbl) (g : goodWord w = true) : w ∈ lw_all := List.mem_filter.mpr ⟨h, g⟩
theorem lw_ms : ∀ w ∈ k2_sels lw_privs, w ∈ lw_tbl := fun w h => show w ∈ k2_sels lw_privs ++ tables_1 from List.mem_append_left _ h
theorem lw_m1 : ∀ w ∈ tables_1_1, w ∈ lw_tbl := fun w h => show w ∈ k2_sels lw_privs ++ tables_1 from List.mem_append_right (k2_sels lw_privs) (show w ∈ tables_1 from List.mem_append_left _ h)
theorem lw_m2 : ∀ w ∈ tables_1_2, w ∈ lw_tbl := fun w h => show w ∈ k2_sels lw_privs ++ tables_1 from List.mem_append_right (k2_sels lw_privs) (show w ∈ tables_1 from List.mem_append_right _ (List.mem_append_left _ h))
theorem lw_m3 : ∀ w ∈ tables_1_3, w ∈ lw_tbl := fun w h => show w ∈ k2_sels lw_privs ++ tables_1 from List.mem_append_right (k2_sels lw_privs) (show w ∈ tables_1 from List.mem_append_right _ (List.mem_append_right _ (List.mem_append_left _ h)))
theorem lw_m4 : ∀ w ∈ tables_1_4, w ∈ lw_tbl := fun w h => show w ∈ k2_sels lw_privs ++ tables_1 from List.mem_append_right (k2_sels lw_privs) (show w ∈ tables_1 from List.mem_append_right _ (List.mem_append_right _ (List.mem_append_right _ (List.mem_append_left _ h))))
theorem lw_m5 : ∀ w ∈ tables_1_5, w ∈ lw_tbl := fun w h => show w ∈ k2_sels lw_privs ++ tables_1 from List.mem_append_right (k2_sels lw_privs) (show w ∈ tables_1 from List.mem_append_right _ (List.mem_append_right _ (List.mem_append_right _ (List.mem_append_right _ (List.mem_append_left _ h)))))
theorem lw_m6 : ∀ w ∈ tables_1_6, w ∈ lw_tbl := fun w h => show w ∈ k2_sels lw_privs ++ tables_1 from List.mem_append_right (k2_sels lw_privs) (show w ∈ tables_1 from List.mem_append_right _ (List.mem_append_right _ (List.mem_append_right _ (List.mem_append_right _ (List.mem_append_right _ (List.mem_append_left _ h))))))
theorem lw_m7 : ∀ w ∈ tables_1_7, w ∈ lw_tbl := fun w h => show w ∈ k2_sels lw_privs ++ tables_1 from List.mem_append_right (k2_sels lw_privs) (show w ∈ tables_1 from List.mem_append_right _ (List.mem_append_right _ (List.mem_append_right _ (List.mem_append_right _ (List.mem_append_right _ (List.mem_append_right _ (List.mem_append_left _ h)))))))
theorem lw_m8 : ∀ w ∈ tables_1_8, w ∈ lw_tbl := fun w h => show w ∈ k2_sels lw_privs ++ tables_1 from List.mem_append_right (k2_sels lw_privs) (show w ∈ tables_1 from List.mem_append_right _ (List.mem_append_right _ (List.mem_append_right _ (List.mem_append_right _ (List.mem_append_right _ (List.mem_append_right _ (List.mem_append_right _ (List.mem_append_left _ h))))))))
theorem lw_m9 : ∀ w ∈ tables_1_9, w ∈ lw_tbl := fun w h => show w ∈ k2_sels lw_privs ++ tables_1 from List.mem_append_right (k2_sels lw_privs) (show w ∈ tables_1 from List.mem_append_right _ (List.mem_append_right _ (List.mem_append_right _ (List.mem_append_right _ (List.mem_append_right _ (List.mem_append_right _ (List.mem_append_right _ (List.mem_append_right _ (List.mem_append_left _ h)))))))))
theorem lw_m10 : ∀ w ∈ tables_1_10, w ∈ lw_tbl := fun w h => show w ∈ k2_sels lw_privs ++ tables_1 from List.mem_append_right (k2_sels lw_privs) (show w ∈ tables_1 from List.mem_append_right _ (List.mem_append_right _ (List.mem_append_right _ (List.mem_append_right _ (List.mem_append_right _ (List.mem_append_right _ (List.mem_append_right _ (List.mem_append_right _ (List.mem_append_right _ h)))))))))
theorem qs0 : (Cond.selects "java/lang/Throwable" ⟨"java/lang/Throwable", "fillInStackTrace", "(I)Ljava/lang/Throwable;"⟩ ⟨"java/lang/Throwable", "fillInStackTrace", "(I)Ljava/lang/Throwable;"⟩) ∈ lw_all := lw_g (lw_at lw_ms 0 rfl) rfl
theorem qs1 : (Cond.selects "DowryBoxes" ⟨"DowryBoxes", "refuse", "(I)I"⟩ ⟨"DowryBoxes", "refuse", "(I)I"⟩) ∈ lw_all := lw_g (lw_at lw_ms 1 rfl) rfl
theorem qs2 : (Cond.selects "java/util/ArrayList" ⟨"java/util/ArrayList", "grow", "(I)[Ljava/lang/Object;"⟩ ⟨"java/util/ArrayList", "grow", "(I)[Ljava/lang/Object;"⟩) ∈ lw_all := lw_g (lw_at lw_ms 2 rfl) rfl
theorem qs3 : (Cond.selects "DowryBoxes" ⟨"DowryBoxes", "done", "(I)I"⟩ ⟨"DowryBoxes", "done", "(I)I"⟩) ∈ lw_all := lw_g (lw_at lw_ms 3 rfl) rfl
theorem qs4 : (Cond.selects "DowryBoxes" ⟨"DowryBoxes", "settled", "(I)I"⟩ ⟨"DowryBoxes", "settled", "(I)I"⟩) ∈ lw_all := lw_g (lw_at lw_ms 4 rfl) rfl
theorem qs5 : (Cond.selects "DowryBoxes" ⟨"DowryBoxes", "table", "()LDowryBoxes$Table;"⟩ ⟨"DowryBoxes", "table", "()LDowryBoxes$Table;"⟩) ∈ lw_all := lw_g (lw_at lw_ms 5 rfl) rfl
theorem qs6 : (Cond.selects "DowryBoxes" ⟨"DowryBoxes", "isBox", "(I)Z"⟩ ⟨"DowryBoxes", "isBox", "(I)Z"⟩) ∈ lw_all := lw_g (lw_at lw_ms 6 rfl) rfl
theorem qs7 : (Cond.selects "DowryBoxes" ⟨"DowryBoxes", "lasts", "(ILDowryBoxes$Table;I)I"⟩ ⟨"DowryBoxes", "lasts", "(ILDowryBoxes$Table;I)I"⟩) ∈ lw_all := lw_g (lw_at lw_ms 7 rfl) rfl
theorem qs8 : (Cond.selects "DowryBoxes" ⟨"DowryBoxes", "says", "(IILDowryBoxes$Table;II)J"⟩ ⟨"DowryBoxes", "says", "(IILDowryBoxes$Table;II)J"⟩) ∈ lw_all := lw_g (lw_at lw_ms 8 rfl) rfl
theorem qs9 : (Cond.selects "DowryBoxes" ⟨"DowryBoxes", "ears", "(LDowryBoxes$Table;II)I"⟩ ⟨"DowryBoxes", "ears", "(LDowryBoxes$Table;II)I"⟩) ∈ lw_all := lw_g (lw_at lw_ms 9 rfl) rfl
theorem qs10 : (Cond.selects "DowryBoxes" ⟨"DowryBoxes", "loses", "(LDowryBoxes$Table;I)I"⟩ ⟨"DowryBoxes", "loses", "(LDowryBoxes$Table;I)I"⟩) ∈ lw_all := lw_g (lw_at lw_ms 10 rfl) rfl
theorem qs11 : (Cond.selects "DowryBoxes" ⟨"DowryBoxes", "isSuitor", "(I)Z"⟩ ⟨"DowryBoxes", "isSuitor", "(I)Z"⟩) ∈ lw_all := lw_g (lw_at lw_ms 11 rfl) rfl
theorem qs12 : (Cond.selects "DowryBoxes" ⟨"DowryBoxes", "boxOf", "(LDowryBoxes$Table;I)I"⟩ ⟨"DowryBoxes", "boxOf", "(LDowryBoxes$Table;I)I"⟩) ∈ lw_all := lw_g (lw_at lw_ms 12 rfl) rfl
theorem qs13 : (Cond.selects "DowryBoxes" ⟨"DowryBoxes", "likes", "(LDowryBoxes$Table;II)I"⟩ ⟨"DowryBoxes", "likes", "(LDowryBoxes$Table;II)I"⟩) ∈ lw_all := lw_g (lw_at lw_ms 13 rfl) rfl
theorem qs14 : (Cond.selects "DowryBoxes" ⟨"DowryBoxes", "isBarred", "(LDowryBoxes$Table;II)Z"⟩ ⟨"DowryBoxes", "isBarred", "(LDowryBoxes$Table;II)Z"⟩) ∈ lw_all := lw_g (lw_at lw_ms 14 rfl) rfl
theorem qs15 : (Cond.selects "DowryBoxes" ⟨"DowryBoxes", "four", "(I)V"⟩ ⟨"DowryBoxes", "four", "(I)V"⟩) ∈ lw_all := lw_g (lw_at lw_ms 15 rfl) rfl
theorem qs16 : (Cond.selects "DowryBoxes" ⟨"DowryBoxes", "reads", "(LDowryBoxes$Reader;)Z"⟩ ⟨"DowryBoxes", "reads", "(LDowryBoxes$Reader;)Z"⟩) ∈ lw_all := lw_g (lw_at lw_ms 16 rfl) rfl
theorem qs17 : (Cond.selects "java/util/ArrayList" ⟨"java/util/ArrayList", "add", "(Ljava/lang/Object;[Ljava/lang/Object;I)V"⟩ ⟨"java/util/ArrayList", "add", "(Ljava/lang/Object;[Ljava/lang/Object;I)V"⟩) ∈ lw_all := lw_g (lw_at lw_ms 17 rfl) rfl
theorem qs18 : (Cond.selects "java/util/ArrayList" ⟨"java/util/ArrayList", "grow", "()[Ljava/lang/Object;"⟩ ⟨"java/util/ArrayList", "grow", "()[Ljava/lang/Object;"⟩) ∈ lw_all := lw_g (lw_at lw_ms 18 rfl) rfl
theorem qs19 : (Cond.selects "DowryBoxes" ⟨"DowryBoxes", "isLaw", "(I)Z"⟩ ⟨"DowryBoxes", "isLaw", "(I)Z"⟩) ∈ lw_all := lw_g (lw_at lw_ms 19 rfl) rfl
theorem qs20 : (Cond.selects "DowryBoxes" ⟨"DowryBoxes", "pullsKept", "(III)I"⟩ ⟨"DowryBoxes", "pullsKept", "(III)I"⟩) ∈ lw_all := lw_g (lw_at lw_ms 20 rfl) rfl
theorem qs21 : (Cond.selects "DowryBoxes" ⟨"DowryBoxes", "keeps", "(I)V"⟩ ⟨"DowryBoxes", "keeps", "(I)V"⟩) ∈ lw_all := lw_g (lw_at lw_ms 21 rfl) rfl
theorem qs22 : (Cond.selects "DowryBoxes" ⟨"DowryBoxes", "doneOr", "(I)I"⟩ ⟨"DowryBoxes", "doneOr", "(I)I"⟩) ∈ lw_all := lw_g (lw_at lw_ms 22 rfl) rfl
theorem qs23 : (Cond.selects "DowryBoxes" ⟨"DowryBoxes", "snapsKept", "(II)I"⟩ ⟨"DowryBoxes", "snapsKept", "(II)I"⟩) ∈ lw_all := lw_g (lw_at lw_ms 23 rfl) rfl
theorem qs24 : (Cond.selects "DowryBoxes" ⟨"DowryBoxes", "wedsKept", "(II)I"⟩ ⟨"DowryBoxes", "wedsKept", "(II)I"⟩) ∈ lw_all := lw_g (lw_at lw_ms 24 rfl) rfl
theorem qs25 : (Cond.selects "DowryBoxes" ⟨"DowryBoxes", "canWed", "(LDowryBoxes$Table;II)Z"⟩ ⟨"DowryBoxes", "canWed", "(LDowryBoxes$Table;II)Z"⟩) ∈ lw_all := lw_g (lw_at lw_ms 25 rfl) rfl
theorem qs26 : (Cond.selects "DowryBoxes" ⟨"DowryBoxes", "passesKept", "()I"⟩ ⟨"DowryBoxes", "passesKept", "()I"⟩) ∈ lw_all := lw_g (lw_at lw_ms 26 rfl) rfl
theorem qs27 : (Cond.selects "DowryBoxes" ⟨"DowryBoxes", "passes", "(LDowryBoxes$Table;)I"⟩ ⟨"DowryBoxes", "passes", "(LDowryBoxes$Table;)I"⟩) ∈ lw_all := lw_g (lw_at lw_ms 27 rfl) rfl
theorem qs28 : (Cond.selects "DowryBoxes" ⟨"DowryBoxes", "isSo", "(I)Z"⟩ ⟨"DowryBoxes", "isSo", "(I)Z"⟩) ∈ lw_all := lw_g (lw_at lw_ms 28 rfl) rfl
theorem qs29 : (Cond.selects "DowryBoxes" ⟨"DowryBoxes", "matches", "()V"⟩ ⟨"DowryBoxes", "matches", "()V"⟩) ∈ lw_all := lw_g (lw_at lw_ms 29 rfl) rfl
theorem qs30 : (Cond.selects "DowryBoxes" ⟨"DowryBoxes", "laysGaps", "()V"⟩ ⟨"DowryBoxes", "laysGaps", "()V"⟩) ∈ lw_all := lw_g (lw_at lw_ms 30 rfl) rfl
theorem qs31 : (Cond.selects "DowryBoxes" ⟨"DowryBoxes", "nextAsked", "(I)I"⟩ ⟨"DowryBoxes", "nextAsked", "(I)I"⟩) ∈ lw_all := lw_g (lw_at lw_ms 31 rfl) rfl
theorem qs32 : (Cond.selects "DowryBoxes" ⟨"DowryBoxes", "isRather", "(III)Z"⟩ ⟨"DowryBoxes", "isRather", "(III)Z"⟩) ∈ lw_all := lw_g (lw_at lw_ms 32 rfl) rfl
theorem qs33 : (Cond.selects "DowryBoxes" ⟨"DowryBoxes", "laysAbout", "()V"⟩ ⟨"DowryBoxes", "laysAbout", "()V"⟩) ∈ lw_all := lw_g (lw_at lw_ms 33 rfl) rfl
theorem qs34 : (Cond.selects "DowryBoxes" ⟨"DowryBoxes", "mostWith", "(III)I"⟩ ⟨"DowryBoxes", "mostWith", "(III)I"⟩) ∈ lw_all := lw_g (lw_at lw_ms 34 rfl) rfl
theorem qs35 : (Cond.selects "DowryBoxes" ⟨"DowryBoxes", "mostOf", "(II)I"⟩ ⟨"DowryBoxes", "mostOf", "(II)I"⟩) ∈ lw_all := lw_g (lw_at lw_ms 35 rfl) rfl
theorem qs36 : (Cond.selects "DowryBoxes" ⟨"DowryBoxes", "suitorOf", "(II)I"⟩ ⟨"DowryBoxes", "suitorOf", "(II)I"⟩) ∈ lw_all := lw_g (lw_at lw_ms 36 rfl) rfl
theorem qs37 : (Cond.selects "DowryBoxes" ⟨"DowryBoxes", "laysFewest", "(II)V"⟩ ⟨"DowryBoxes", "laysFewest", "(II)V"⟩) ∈ lw_all := lw_g (lw_at lw_ms 37 rfl) rfl
theorem qs38 : (Cond.selects "DowryBoxes" ⟨"DowryBoxes", "fewestBehind", "(III)I"⟩ ⟨"DowryBoxes", "fewestBehind", "(III)I"⟩) ∈ lw_all := lw_g (lw_at lw_ms 38 rfl) rfl
theorem qs39 : (Cond.selects "DowryBoxes" ⟨"DowryBoxes", "areTwo", "(II)Z"⟩ ⟨"DowryBoxes", "areTwo", "(II)Z"⟩) ∈ lw_all := lw_g (lw_at lw_ms 39 rfl) rfl
theorem qs40 : (Cond.selects "DowryBoxes" ⟨"DowryBoxes", "clashes", "(III)I"⟩ ⟨"DowryBoxes", "clashes", "(III)I"⟩) ∈ lw_all := lw_g (lw_at lw_ms 40 rfl) rfl
theorem qs41 : (Cond.selects "DowryBoxes" ⟨"DowryBoxes", "clashing", "(IIII)I"⟩ ⟨"DowryBoxes", "clashing", "(IIII)I"⟩) ∈ lw_all := lw_g (lw_at lw_ms 41 rfl) rfl
theorem qs42 : (Cond.selects "DowryBoxes" ⟨"DowryBoxes", "sharesFrom", "(II)V"⟩ ⟨"DowryBoxes", "sharesFrom", "(II)V"⟩) ∈ lw_all := lw_g (lw_at lw_ms 42 rfl) rfl
theorem qs43 : (Cond.selects "DowryBoxes" ⟨"DowryBoxes", "tellsOrder", "(II)V"⟩ ⟨"DowryBoxes", "tellsOrder", "(II)V"⟩) ∈ lw_all := lw_g (lw_at lw_ms 43 rfl) rfl
theorem qs44 : (Cond.selects "DowryBoxes" ⟨"DowryBoxes", "couples", "(LDowryBoxes$Table;)I"⟩ ⟨"DowryBoxes", "couples", "(LDowryBoxes$Table;)I"⟩) ∈ lw_all := lw_g (lw_at lw_ms 44 rfl) rfl
theorem qs45 : (Cond.selects "DowryBoxes" ⟨"DowryBoxes", "runs", "(LDowryBoxes$Order;)I"⟩ ⟨"DowryBoxes", "runs", "(LDowryBoxes$Order;)I"⟩) ∈ lw_all := lw_g (lw_at lw_ms 45 rfl) rfl
theorem qs46 : (Cond.selects "DowryBoxes" ⟨"DowryBoxes", "putsBack", "(I)V"⟩ ⟨"DowryBoxes", "putsBack", "(I)V"⟩) ∈ lw_all := lw_g (lw_at lw_ms 46 rfl) rfl
theorem qs47 : (Cond.selects "DowryBoxes" ⟨"DowryBoxes", "draw", "(I)I"⟩ ⟨"DowryBoxes", "draw", "(I)I"⟩) ∈ lw_all := lw_g (lw_at lw_ms 47 rfl) rfl
theorem qs48 : (Cond.selects "DowryBoxesModel" ⟨"DowryBoxesModel", "tell", "(I)I"⟩ ⟨"DowryBoxesModel", "tell", "(I)I"⟩) ∈ lw_all := lw_g (lw_at lw_ms 48 rfl) rfl
theorem qs49 : (Cond.selects "DowryBoxesModel" ⟨"DowryBoxesModel", "putBack", "(I)V"⟩ ⟨"DowryBoxesModel", "putBack", "(I)V"⟩) ∈ lw_all := lw_g (lw_at lw_ms 49 rfl) rfl
theorem qs50 : (Cond.selects "DowryBoxesModel" ⟨"DowryBoxesModel", "settled", "(I)I"⟩ ⟨"DowryBoxesModel", "settled", "(I)I"⟩) ∈ lw_all := lw_g (lw_at lw_ms 50 rfl) rfl
theorem qs51 : (Cond.selects "DowryBoxesModel" ⟨"DowryBoxesModel", "isBox", "(I)Z"⟩ ⟨"DowryBoxesModel", "isBox", "(I)Z"⟩) ∈ lw_all := lw_g (lw_at lw_ms 51 rfl) rfl
theorem qs52 : (Cond.selects "DowryBoxesModel" ⟨"DowryBoxesModel", "notesOf", "(I)I"⟩ ⟨"DowryBoxesModel", "notesOf", "(I)I"⟩) ∈ lw_all := lw_g (lw_at lw_ms 52 rfl) rfl
theorem qs53 : (Cond.selects "DowryBoxesModel" ⟨"DowryBoxesModel", "notesAt", "(II)I"⟩ ⟨"DowryBoxesModel", "notesAt", "(II)I"⟩) ∈ lw_all := lw_g (lw_at lw_ms 53 rfl) rfl
theorem qs54 : (Cond.selects "DowryBoxesModel" ⟨"DowryBoxesModel", "lastsOf", "(I)I"⟩ ⟨"DowryBoxesModel", "lastsOf", "(I)I"⟩) ∈ lw_all := lw_g (lw_at lw_ms 54 rfl) rfl
theorem qs55 : (Cond.selects "DowryBoxesModel" ⟨"DowryBoxesModel", "tells", "(IIIJ)J"⟩ ⟨"DowryBoxesModel", "tells", "(IIIJ)J"⟩) ∈ lw_all := lw_g (lw_at lw_ms 55 rfl) rfl
theorem qs56 : (Cond.selects "DowryBoxesModel" ⟨"DowryBoxesModel", "earOf", "(II)I"⟩ ⟨"DowryBoxesModel", "earOf", "(II)I"⟩) ∈ lw_all := lw_g (lw_at lw_ms 56 rfl) rfl
theorem qs57 : (Cond.selects "DowryBoxesModel" ⟨"DowryBoxesModel", "isSo", "(I)Z"⟩ ⟨"DowryBoxesModel", "isSo", "(I)Z"⟩) ∈ lw_all := lw_g (lw_at lw_ms 57 rfl) rfl
theorem qs58 : (Cond.selects "DowryBoxesModel" ⟨"DowryBoxesModel", "reckonAll", "(II)V"⟩ ⟨"DowryBoxesModel", "reckonAll", "(II)V"⟩) ∈ lw_all := lw_g (lw_at lw_ms 58 rfl) rfl
theorem qs59 : (Cond.selects "DowryBoxesModel" ⟨"DowryBoxesModel", "reckon", "(IJJ)J"⟩ ⟨"DowryBoxesModel", "reckon", "(IJJ)J"⟩) ∈ lw_all := lw_g (lw_at lw_ms 59 rfl) rfl
theorem qs60 : (Cond.selects "DowryBoxesModel" ⟨"DowryBoxesModel", "losesOf", "(I)I"⟩ ⟨"DowryBoxesModel", "losesOf", "(I)I"⟩) ∈ lw_all := lw_g (lw_at lw_ms 60 rfl) rfl
theorem qs61 : (Cond.selects "DowryBoxesModel" ⟨"DowryBoxesModel", "change", "(II)I"⟩ ⟨"DowryBoxesModel", "change", "(II)I"⟩) ∈ lw_all := lw_g (lw_at lw_ms 61 rfl) rfl
theorem qs62 : (Cond.selects "DowryBoxesModel" ⟨"DowryBoxesModel", "isSuitor", "(I)Z"⟩ ⟨"DowryBoxesModel", "isSuitor", "(I)Z"⟩) ∈ lw_all := lw_g (lw_at lw_ms 62 rfl) rfl
theorem qs63 : (Cond.selects "DowryBoxesModel" ⟨"DowryBoxesModel", "boxOf", "(I)I"⟩ ⟨"DowryBoxesModel", "boxOf", "(I)I"⟩) ∈ lw_all := lw_g (lw_at lw_ms 63 rfl) rfl
theorem qs64 : (Cond.selects "DowryBoxesModel" ⟨"DowryBoxesModel", "likesOf", "(II)I"⟩ ⟨"DowryBoxesModel", "likesOf", "(II)I"⟩) ∈ lw_all := lw_g (lw_at lw_ms 64 rfl) rfl
theorem qs65 : (Cond.selects "DowryBoxesModel" ⟨"DowryBoxesModel", "isBarred", "(II)Z"⟩ ⟨"DowryBoxesModel", "isBarred", "(II)Z"⟩) ∈ lw_all := lw_g (lw_at lw_ms 65 rfl) rfl
theorem qs66 : (Cond.selects "DowryBoxesModel" ⟨"DowryBoxesModel", "four", "(I)V"⟩ ⟨"DowryBoxesModel", "four", "(I)V"⟩) ∈ lw_all := lw_g (lw_at lw_ms 66 rfl) rfl
theorem qs67 : (Cond.selects "DowryBoxesModel" ⟨"DowryBoxesModel", "beginText", "(Z)V"⟩ ⟨"DowryBoxesModel", "beginText", "(Z)V"⟩) ∈ lw_all := lw_g (lw_at lw_ms 67 rfl) rfl
theorem qs68 : (Cond.selects "DowryBoxesModel" ⟨"DowryBoxesModel", "begin", "()V"⟩ ⟨"DowryBoxesModel", "begin", "()V"⟩) ∈ lw_all := lw_g (lw_at lw_ms 68 rfl) rfl
theorem qs69 : (Cond.selects "DowryBoxesModel" ⟨"DowryBoxesModel", "next", "()V"⟩ ⟨"DowryBoxesModel", "next", "()V"⟩) ∈ lw_all := lw_g (lw_at lw_ms 69 rfl) rfl
theorem qs70 : (Cond.selects "DowryBoxesModel" ⟨"DowryBoxesModel", "readLaw", "()V"⟩ ⟨"DowryBoxesModel", "readLaw", "()V"⟩) ∈ lw_all := lw_g (lw_at lw_ms 70 rfl) rfl
theorem qs71 : (Cond.selects "DowryBoxesModel" ⟨"DowryBoxesModel", "isWord", "(J)Z"⟩ ⟨"DowryBoxesModel", "isWord", "(J)Z"⟩) ∈ lw_all := lw_g (lw_at lw_ms 71 rfl) rfl
theorem qs72 : (Cond.selects "DowryBoxesModel" ⟨"DowryBoxesModel", "must", "(Z)V"⟩ ⟨"DowryBoxesModel", "must", "(Z)V"⟩) ∈ lw_all := lw_g (lw_at lw_ms 72 rfl) rfl
theorem qs73 : (Cond.selects "DowryBoxesModel" ⟨"DowryBoxesModel", "readExpression", "(Z)V"⟩ ⟨"DowryBoxesModel", "readExpression", "(Z)V"⟩) ∈ lw_all := lw_g (lw_at lw_ms 73 rfl) rfl
theorem qs74 : (Cond.selects "DowryBoxesModel" ⟨"DowryBoxesModel", "readPlain", "()I"⟩ ⟨"DowryBoxesModel", "readPlain", "()I"⟩) ∈ lw_all := lw_g (lw_at lw_ms 74 rfl) rfl
theorem qs75 : (Cond.selects "DowryBoxesModel" ⟨"DowryBoxesModel", "push", "(II)V"⟩ ⟨"DowryBoxesModel", "push", "(II)V"⟩) ∈ lw_all := lw_g (lw_at lw_ms 75 rfl) rfl
theorem qs76 : (Cond.selects "DowryBoxesModel" ⟨"DowryBoxesModel", "isSign", "(I)Z"⟩ ⟨"DowryBoxesModel", "isSign", "(I)Z"⟩) ∈ lw_all := lw_g (lw_at lw_ms 76 rfl) rfl
theorem qs77 : (Cond.selects "DowryBoxesModel" ⟨"DowryBoxesModel", "openBracket", "(I)V"⟩ ⟨"DowryBoxesModel", "openBracket", "(I)V"⟩) ∈ lw_all := lw_g (lw_at lw_ms 77 rfl) rfl
theorem qs78 : (Cond.selects "DowryBoxesModel" ⟨"DowryBoxesModel", "readPart", "()I"⟩ ⟨"DowryBoxesModel", "readPart", "()I"⟩) ∈ lw_all := lw_g (lw_at lw_ms 78 rfl) rfl
theorem qs79 : (Cond.selects "DowryBoxesModel" ⟨"DowryBoxesModel", "orderPartAt", "()I"⟩ ⟨"DowryBoxesModel", "orderPartAt", "()I"⟩) ∈ lw_all := lw_g (lw_at lw_ms 79 rfl) rfl
theorem qs80 : (Cond.selects "DowryBoxesModel" ⟨"DowryBoxesModel", "partAt", "()I"⟩ ⟨"DowryBoxesModel", "partAt", "()I"⟩) ∈ lw_all := lw_g (lw_at lw_ms 80 rfl) rfl
theorem qs81 : (Cond.selects "DowryBoxesModel" ⟨"DowryBoxesModel", "leaf", "(ZII)V"⟩ ⟨"DowryBoxesModel", "leaf", "(ZII)V"⟩) ∈ lw_all := lw_g (lw_at lw_ms 81 rfl) rfl
theorem qs82 : (Cond.selects "DowryBoxesModel" ⟨"DowryBoxesModel", "emit", "(II)V"⟩ ⟨"DowryBoxesModel", "emit", "(II)V"⟩) ∈ lw_all := lw_g (lw_at lw_ms 82 rfl) rfl
theorem qs83 : (Cond.selects "DowryBoxesModel" ⟨"DowryBoxesModel", "number", "(JJ)I"⟩ ⟨"DowryBoxesModel", "number", "(JJ)I"⟩) ∈ lw_all := lw_g (lw_at lw_ms 83 rfl) rfl
theorem qs84 : (Cond.selects "DowryBoxesModel" ⟨"DowryBoxesModel", "behindSum", "(Z)I"⟩ ⟨"DowryBoxesModel", "behindSum", "(Z)I"⟩) ∈ lw_all := lw_g (lw_at lw_ms 84 rfl) rfl
theorem qs85 : (Cond.selects "DowryBoxesModel" ⟨"DowryBoxesModel", "settle", "(I)V"⟩ ⟨"DowryBoxesModel", "settle", "(I)V"⟩) ∈ lw_all := lw_g (lw_at lw_ms 85 rfl) rfl
theorem qs86 : (Cond.selects "DowryBoxesModel" ⟨"DowryBoxesModel", "inner", "()I"⟩ ⟨"DowryBoxesModel", "inner", "()I"⟩) ∈ lw_all := lw_g (lw_at lw_ms 86 rfl) rfl
theorem qs87 : (Cond.selects "DowryBoxesModel" ⟨"DowryBoxesModel", "isCompared", "()Z"⟩ ⟨"DowryBoxesModel", "isCompared", "()Z"⟩) ∈ lw_all := lw_g (lw_at lw_ms 87 rfl) rfl
theorem qs88 : (Cond.selects "DowryBoxesModel" ⟨"DowryBoxesModel", "behindTest", "()I"⟩ ⟨"DowryBoxesModel", "behindTest", "()I"⟩) ∈ lw_all := lw_g (lw_at lw_ms 88 rfl) rfl
theorem qs89 : (Cond.selects "DowryBoxesModel" ⟨"DowryBoxesModel", "endText", "()V"⟩ ⟨"DowryBoxesModel", "endText", "()V"⟩) ∈ lw_all := lw_g (lw_at lw_ms 89 rfl) rfl
theorem qs90 : (Cond.selects "DowryBoxesModel" ⟨"DowryBoxesModel", "isLaw", "(I)Z"⟩ ⟨"DowryBoxesModel", "isLaw", "(I)Z"⟩) ∈ lw_all := lw_g (lw_at lw_ms 90 rfl) rfl
theorem qs91 : (Cond.selects "DowryBoxesModel" ⟨"DowryBoxesModel", "pullNow", "(III)I"⟩ ⟨"DowryBoxesModel", "pullNow", "(III)I"⟩) ∈ lw_all := lw_g (lw_at lw_ms 91 rfl) rfl
theorem qs92 : (Cond.selects "DowryBoxesModel" ⟨"DowryBoxesModel", "canPull", "(III)Z"⟩ ⟨"DowryBoxesModel", "canPull", "(III)Z"⟩) ∈ lw_all := lw_g (lw_at lw_ms 92 rfl) rfl
theorem qs93 : (Cond.selects "DowryBoxesModel" ⟨"DowryBoxesModel", "remember", "(I)V"⟩ ⟨"DowryBoxesModel", "remember", "(I)V"⟩) ∈ lw_all := lw_g (lw_at lw_ms 93 rfl) rfl
theorem qs94 : (Cond.selects "DowryBoxesModel" ⟨"DowryBoxesModel", "keepAll", "(I)V"⟩ ⟨"DowryBoxesModel", "keepAll", "(I)V"⟩) ∈ lw_all := lw_g (lw_at lw_ms 94 rfl) rfl
theorem qs95 : (Cond.selects "DowryBoxesModel" ⟨"DowryBoxesModel", "snapNow", "(II)I"⟩ ⟨"DowryBoxesModel", "snapNow", "(II)I"⟩) ∈ lw_all := lw_g (lw_at lw_ms 95 rfl) rfl
theorem qs96 : (Cond.selects "DowryBoxesModel" ⟨"DowryBoxesModel", "wedNow", "(II)I"⟩ ⟨"DowryBoxesModel", "wedNow", "(II)I"⟩) ∈ lw_all := lw_g (lw_at lw_ms 96 rfl) rfl
theorem qs97 : (Cond.selects "DowryBoxesModel" ⟨"DowryBoxesModel", "passNow", "()I"⟩ ⟨"DowryBoxesModel", "passNow", "()I"⟩) ∈ lw_all := lw_g (lw_at lw_ms 97 rfl) rfl
theorem qs98 : (Cond.selects "DowryBoxesModel" ⟨"DowryBoxesModel", "passIt", "()I"⟩ ⟨"DowryBoxesModel", "passIt", "()I"⟩) ∈ lw_all := lw_g (lw_at lw_ms 98 rfl) rfl
theorem qs99 : (Cond.selects "DowryBoxesModel" ⟨"DowryBoxesModel", "whichAre", "()I"⟩ ⟨"DowryBoxesModel", "whichAre", "()I"⟩) ∈ lw_all := lw_g (lw_at lw_ms 99 rfl) rfl
theorem qs100 : (Cond.selects "DowryBoxesModel" ⟨"DowryBoxesModel", "laySteady", "()V"⟩ ⟨"DowryBoxesModel", "laySteady", "()V"⟩) ∈ lw_all := lw_g (lw_at lw_ms 100 rfl) rfl
theorem qs101 : (Cond.selects "DowryBoxesModel" ⟨"DowryBoxesModel", "layTwos", "()V"⟩ ⟨"DowryBoxesModel", "layTwos", "()V"⟩) ∈ lw_all := lw_g (lw_at lw_ms 101 rfl) rfl
theorem qs102 : (Cond.selects "DowryBoxesModel" ⟨"DowryBoxesModel", "nearest", "(I)I"⟩ ⟨"DowryBoxesModel", "nearest", "(I)I"⟩) ∈ lw_all := lw_g (lw_at lw_ms 102 rfl) rfl
theorem qs103 : (Cond.selects "DowryBoxesModel" ⟨"DowryBoxesModel", "keptBy", "(I)I"⟩ ⟨"DowryBoxesModel", "keptBy", "(I)I"⟩) ∈ lw_all := lw_g (lw_at lw_ms 103 rfl) rfl
theorem qs104 : (Cond.selects "DowryBoxesModel" ⟨"DowryBoxesModel", "layAbout", "(I)V"⟩ ⟨"DowryBoxesModel", "layAbout", "(I)V"⟩) ∈ lw_all := lw_g (lw_at lw_ms 104 rfl) rfl
theorem qs105 : (Cond.selects "DowryBoxesModel" ⟨"DowryBoxesModel", "withSuitor", "(IIII)I"⟩ ⟨"DowryBoxesModel", "withSuitor", "(IIII)I"⟩) ∈ lw_all := lw_g (lw_at lw_ms 105 rfl) rfl
theorem qs106 : (Cond.selects "DowryBoxesModel" ⟨"DowryBoxesModel", "layMore", "(II)V"⟩ ⟨"DowryBoxesModel", "layMore", "(II)V"⟩) ∈ lw_all := lw_g (lw_at lw_ms 106 rfl) rfl
theorem qs107 : (Cond.selects "DowryBoxesModel" ⟨"DowryBoxesModel", "leastNext", "(III)I"⟩ ⟨"DowryBoxesModel", "leastNext", "(III)I"⟩) ∈ lw_all := lw_g (lw_at lw_ms 107 rfl) rfl
theorem qs108 : (Cond.selects "DowryBoxesModel" ⟨"DowryBoxesModel", "areTwo", "(II)Z"⟩ ⟨"DowryBoxesModel", "areTwo", "(II)Z"⟩) ∈ lw_all := lw_g (lw_at lw_ms 108 rfl) rfl
theorem qs109 : (Cond.selects "DowryBoxesModel" ⟨"DowryBoxesModel", "layClash", "(III)I"⟩ ⟨"DowryBoxesModel", "layClash", "(III)I"⟩) ∈ lw_all := lw_g (lw_at lw_ms 109 rfl) rfl
theorem qs110 : (Cond.selects "DowryBoxesModel" ⟨"DowryBoxesModel", "leastOf", "(II)I"⟩ ⟨"DowryBoxesModel", "leastOf", "(II)I"⟩) ∈ lw_all := lw_g (lw_at lw_ms 110 rfl) rfl
theorem qs111 : (Cond.selects "DowryBoxesModel" ⟨"DowryBoxesModel", "readOrder", "()V"⟩ ⟨"DowryBoxesModel", "readOrder", "()V"⟩) ∈ lw_all := lw_g (lw_at lw_ms 111 rfl) rfl
theorem qs112 : (Cond.selects "DowryBoxesModel" ⟨"DowryBoxesModel", "readSum", "(I)V"⟩ ⟨"DowryBoxesModel", "readSum", "(I)V"⟩) ∈ lw_all := lw_g (lw_at lw_ms 112 rfl) rfl
theorem qs113 : (Cond.selects "DowryBoxesModel" ⟨"DowryBoxesModel", "mustJoin", "(I)V"⟩ ⟨"DowryBoxesModel", "mustJoin", "(I)V"⟩) ∈ lw_all := lw_g (lw_at lw_ms 113 rfl) rfl
theorem qs114 : (Cond.selects "DowryBoxesModel" ⟨"DowryBoxesModel", "run", "(I)I"⟩ ⟨"DowryBoxesModel", "run", "(I)I"⟩) ∈ lw_all := lw_g (lw_at lw_ms 114 rfl) rfl
theorem qs115 : (Cond.selects "DowryBoxesModel" ⟨"DowryBoxesModel", "couples", "()I"⟩ ⟨"DowryBoxesModel", "couples", "()I"⟩) ∈ lw_all := lw_g (lw_at lw_ms 115 rfl) rfl
theorem qs116 : (Cond.selects "DowryBoxesModel" ⟨"DowryBoxesModel", "sumOf", "(I)I"⟩ ⟨"DowryBoxesModel", "sumOf", "(I)I"⟩) ∈ lw_all := lw_g (lw_at lw_ms 116 rfl) rfl
theorem qs117 : (Cond.selects "DowryBoxesModel" ⟨"DowryBoxesModel", "act", "(IIII)I"⟩ ⟨"DowryBoxesModel", "act", "(IIII)I"⟩) ∈ lw_all := lw_g (lw_at lw_ms 117 rfl) rfl
theorem qs118 : (Cond.selects "DowryBoxesModel" ⟨"DowryBoxesModel", "giveBack", "(I)V"⟩ ⟨"DowryBoxesModel", "giveBack", "(I)V"⟩) ∈ lw_all := lw_g (lw_at lw_ms 118 rfl) rfl
theorem qs119 : (Cond.selects "DowryBoxesModel" ⟨"DowryBoxesModel", "draw", "(I)I"⟩ ⟨"DowryBoxesModel", "draw", "(I)I"⟩) ∈ lw_all := lw_g (lw_at lw_ms 119 rfl) rfl
