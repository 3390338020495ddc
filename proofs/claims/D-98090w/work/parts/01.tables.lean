-- ===== PART A: goes FIRST, ahead of the names: the tables' words, and 'selects' of the private methods out of them =====
/-- a private method of a class that the tables say can be made, by its rows of tables_1 -/
def lw_okq (q : MethodName × Nat) : Prop := (q.1.cls ≠ "java/lang/invoke/MethodHandle" ∧ q.1.cls ≠ "java/lang/invoke/VarHandle") ∧ Cond.instantiable q.1.cls q.2 ∈ tables_1 ∧ Cond.privateMethod q.1 ∈ tables_1 ∧ Cond.instanceMethod q.1 ∈ tables_1
set_option maxRecDepth 100000
theorem lw_t1 {w : Cond} (h : w ∈ tables_1_1) : w ∈ tables_1 := List.mem_append_left _ h
theorem lw_t2 {w : Cond} (h : w ∈ tables_1_2) : w ∈ tables_1 := List.mem_append_right _ (List.mem_append_left _ h)
theorem lw_t3 {w : Cond} (h : w ∈ tables_1_3) : w ∈ tables_1 := List.mem_append_right _ (List.mem_append_right _ (List.mem_append_left _ h))
theorem lw_t4 {w : Cond} (h : w ∈ tables_1_4) : w ∈ tables_1 := List.mem_append_right _ (List.mem_append_right _ (List.mem_append_right _ (List.mem_append_left _ h)))
theorem lw_t5 {w : Cond} (h : w ∈ tables_1_5) : w ∈ tables_1 := List.mem_append_right _ (List.mem_append_right _ (List.mem_append_right _ (List.mem_append_right _ (List.mem_append_left _ h))))
theorem lw_t6 {w : Cond} (h : w ∈ tables_1_6) : w ∈ tables_1 := List.mem_append_right _ (List.mem_append_right _ (List.mem_append_right _ (List.mem_append_right _ (List.mem_append_right _ h))))
theorem lw_p0 : lw_okq (⟨"LastWordWood", "word", "(I)V"⟩, 12) := ⟨⟨by decide +kernel, by decide +kernel⟩, lw_t1 (List.mem_of_getElem? (i := 29) rfl), lw_t2 (List.mem_of_getElem? (i := 6) rfl), lw_t2 (List.mem_of_getElem? (i := 7) rfl)⟩
theorem lw_p1 : lw_okq (⟨"LastWordWood$Reader", "next", "()V"⟩, 6) := ⟨⟨by decide +kernel, by decide +kernel⟩, lw_t2 (List.mem_of_getElem? (i := 22) rfl), lw_t2 (List.mem_of_getElem? (i := 53) rfl), lw_t2 (List.mem_of_getElem? (i := 54) rfl)⟩
theorem lw_p2 : lw_okq (⟨"LastWordWood$Reader", "see", "()I"⟩, 6) := ⟨⟨by decide +kernel, by decide +kernel⟩, lw_t2 (List.mem_of_getElem? (i := 22) rfl), lw_t2 (List.mem_of_getElem? (i := 57) rfl), lw_t2 (List.mem_of_getElem? (i := 58) rfl)⟩
theorem lw_p3 : lw_okq (⟨"LastWordWood$Reader", "isLetter", "()Z"⟩, 6) := ⟨⟨by decide +kernel, by decide +kernel⟩, lw_t2 (List.mem_of_getElem? (i := 22) rfl), lw_t2 (List.mem_of_getElem? (i := 61) rfl), lw_t2 (List.mem_of_getElem? (i := 62) rfl)⟩
theorem lw_p4 : lw_okq (⟨"LastWordWood$Reader", "keyword", "()I"⟩, 6) := ⟨⟨by decide +kernel, by decide +kernel⟩, lw_t2 (List.mem_of_getElem? (i := 22) rfl), lw_t2 (List.mem_of_getElem? (i := 66) rfl), lw_t2 (List.mem_of_getElem? (i := 67) rfl)⟩
theorem lw_p5 : lw_okq (⟨"LastWordWood$Reader", "is", "(Ljava/lang/String;)Z"⟩, 6) := ⟨⟨by decide +kernel, by decide +kernel⟩, lw_t2 (List.mem_of_getElem? (i := 22) rfl), lw_t2 (List.mem_of_getElem? (i := 71) rfl), lw_t2 (List.mem_of_getElem? (i := 72) rfl)⟩
theorem lw_p6 : lw_okq (⟨"LastWordWood$Reader", "known", "()I"⟩, 6) := ⟨⟨by decide +kernel, by decide +kernel⟩, lw_t2 (List.mem_of_getElem? (i := 22) rfl), lw_t2 (List.mem_of_getElem? (i := 127) rfl), lw_t2 (List.mem_of_getElem? (i := 128) rfl)⟩
theorem lw_p7 : lw_okq (⟨"LastWordWood$Reader", "isDigit", "()Z"⟩, 6) := ⟨⟨by decide +kernel, by decide +kernel⟩, lw_t2 (List.mem_of_getElem? (i := 22) rfl), lw_t2 (List.mem_of_getElem? (i := 140) rfl), lw_t2 (List.mem_of_getElem? (i := 141) rfl)⟩
theorem lw_p8 : lw_okq (⟨"LastWordWood$Reader", "isMark", "(I)Z"⟩, 6) := ⟨⟨by decide +kernel, by decide +kernel⟩, lw_t2 (List.mem_of_getElem? (i := 22) rfl), lw_t2 (List.mem_of_getElem? (i := 144) rfl), lw_t2 (List.mem_of_getElem? (i := 145) rfl)⟩
theorem lw_p9 : lw_okq (⟨"java/lang/Throwable", "fillInStackTrace", "(I)Ljava/lang/Throwable;"⟩, 6) := ⟨⟨by decide +kernel, by decide +kernel⟩, lw_t2 (List.mem_of_getElem? (i := 182) rfl), lw_t2 (List.mem_of_getElem? (i := 180) rfl), lw_t2 (List.mem_of_getElem? (i := 181) rfl)⟩
theorem lw_p10 : lw_okq (⟨"LastWordWood$Reader", "sum", "()LLastWordWood$Term;"⟩, 6) := ⟨⟨by decide +kernel, by decide +kernel⟩, lw_t2 (List.mem_of_getElem? (i := 22) rfl), lw_t2 (List.mem_of_getElem? (i := 216) rfl), lw_t2 (List.mem_of_getElem? (i := 217) rfl)⟩
theorem lw_p11 : lw_okq (⟨"LastWordWood$Reader", "product", "()LLastWordWood$Term;"⟩, 6) := ⟨⟨by decide +kernel, by decide +kernel⟩, lw_t2 (List.mem_of_getElem? (i := 22) rfl), lw_t2 (List.mem_of_getElem? (i := 220) rfl), lw_t2 (List.mem_of_getElem? (i := 221) rfl)⟩
theorem lw_p12 : lw_okq (⟨"LastWordWood$Reader", "unit", "()LLastWordWood$Term;"⟩, 6) := ⟨⟨by decide +kernel, by decide +kernel⟩, lw_t2 (List.mem_of_getElem? (i := 22) rfl), lw_t2 (List.mem_of_getElem? (i := 224) rfl), lw_t2 (List.mem_of_getElem? (i := 225) rfl)⟩
theorem lw_p13 : lw_okq (⟨"LastWordWood$Reader", "number", "(I)I"⟩, 6) := ⟨⟨by decide +kernel, by decide +kernel⟩, lw_t2 (List.mem_of_getElem? (i := 22) rfl), lw_t2 (List.mem_of_getElem? (i := 230) rfl), lw_t2 (List.mem_of_getElem? (i := 231) rfl)⟩
theorem lw_p14 : lw_okq (⟨"LastWordWood$Reader", "any", "()LLastWordWood$Term;"⟩, 6) := ⟨⟨by decide +kernel, by decide +kernel⟩, lw_t2 (List.mem_of_getElem? (i := 22) rfl), lw_t3 (List.mem_of_getElem? (i := 31) rfl), lw_t3 (List.mem_of_getElem? (i := 32) rfl)⟩
theorem lw_p15 : lw_okq (⟨"LastWordWood$Reader", "all", "()LLastWordWood$Term;"⟩, 6) := ⟨⟨by decide +kernel, by decide +kernel⟩, lw_t2 (List.mem_of_getElem? (i := 22) rfl), lw_t3 (List.mem_of_getElem? (i := 35) rfl), lw_t3 (List.mem_of_getElem? (i := 36) rfl)⟩
def lw_privs_1 : List (MethodName × Nat) := [(⟨"LastWordWood", "word", "(I)V"⟩, 12), (⟨"LastWordWood$Reader", "next", "()V"⟩, 6), (⟨"LastWordWood$Reader", "see", "()I"⟩, 6), (⟨"LastWordWood$Reader", "isLetter", "()Z"⟩, 6), (⟨"LastWordWood$Reader", "keyword", "()I"⟩, 6), (⟨"LastWordWood$Reader", "is", "(Ljava/lang/String;)Z"⟩, 6), (⟨"LastWordWood$Reader", "known", "()I"⟩, 6), (⟨"LastWordWood$Reader", "isDigit", "()Z"⟩, 6), (⟨"LastWordWood$Reader", "isMark", "(I)Z"⟩, 6), (⟨"java/lang/Throwable", "fillInStackTrace", "(I)Ljava/lang/Throwable;"⟩, 6), (⟨"LastWordWood$Reader", "sum", "()LLastWordWood$Term;"⟩, 6), (⟨"LastWordWood$Reader", "product", "()LLastWordWood$Term;"⟩, 6), (⟨"LastWordWood$Reader", "unit", "()LLastWordWood$Term;"⟩, 6), (⟨"LastWordWood$Reader", "number", "(I)I"⟩, 6), (⟨"LastWordWood$Reader", "any", "()LLastWordWood$Term;"⟩, 6), (⟨"LastWordWood$Reader", "all", "()LLastWordWood$Term;"⟩, 6)]
theorem lw_r1 : ∀ q ∈ lw_privs_1, lw_okq q := List.forall_mem_cons.mpr ⟨lw_p0, List.forall_mem_cons.mpr ⟨lw_p1, List.forall_mem_cons.mpr ⟨lw_p2, List.forall_mem_cons.mpr ⟨lw_p3, List.forall_mem_cons.mpr ⟨lw_p4, List.forall_mem_cons.mpr ⟨lw_p5, List.forall_mem_cons.mpr ⟨lw_p6, List.forall_mem_cons.mpr ⟨lw_p7, List.forall_mem_cons.mpr ⟨lw_p8, List.forall_mem_cons.mpr ⟨lw_p9, List.forall_mem_cons.mpr ⟨lw_p10, List.forall_mem_cons.mpr ⟨lw_p11, List.forall_mem_cons.mpr ⟨lw_p12, List.forall_mem_cons.mpr ⟨lw_p13, List.forall_mem_cons.mpr ⟨lw_p14, List.forall_mem_cons.mpr ⟨lw_p15, fun _ h => absurd h List.not_mem_nil⟩⟩⟩⟩⟩⟩⟩⟩⟩⟩⟩⟩⟩⟩⟩⟩
theorem lw_p16 : lw_okq (⟨"LastWordWood$Reader", "one", "()LLastWordWood$Term;"⟩, 6) := ⟨⟨by decide +kernel, by decide +kernel⟩, lw_t2 (List.mem_of_getElem? (i := 22) rfl), lw_t3 (List.mem_of_getElem? (i := 39) rfl), lw_t3 (List.mem_of_getElem? (i := 40) rfl)⟩
theorem lw_p17 : lw_okq (⟨"LastWordWood$Reader", "opens", "()V"⟩, 6) := ⟨⟨by decide +kernel, by decide +kernel⟩, lw_t2 (List.mem_of_getElem? (i := 22) rfl), lw_t3 (List.mem_of_getElem? (i := 43) rfl), lw_t3 (List.mem_of_getElem? (i := 44) rfl)⟩
theorem lw_p18 : lw_okq (⟨"LastWordWood$Reader", "must", "(I)V"⟩, 6) := ⟨⟨by decide +kernel, by decide +kernel⟩, lw_t2 (List.mem_of_getElem? (i := 22) rfl), lw_t3 (List.mem_of_getElem? (i := 57) rfl), lw_t3 (List.mem_of_getElem? (i := 58) rfl)⟩
theorem lw_p19 : lw_okq (⟨"java/util/ArrayList", "add", "(Ljava/lang/Object;[Ljava/lang/Object;I)V"⟩, 3) := ⟨⟨by decide +kernel, by decide +kernel⟩, lw_t1 (List.mem_of_getElem? (i := 47) rfl), lw_t3 (List.mem_of_getElem? (i := 80) rfl), lw_t3 (List.mem_of_getElem? (i := 81) rfl)⟩
theorem lw_p20 : lw_okq (⟨"java/util/ArrayList", "grow", "()[Ljava/lang/Object;"⟩, 3) := ⟨⟨by decide +kernel, by decide +kernel⟩, lw_t1 (List.mem_of_getElem? (i := 47) rfl), lw_t3 (List.mem_of_getElem? (i := 84) rfl), lw_t3 (List.mem_of_getElem? (i := 85) rfl)⟩
theorem lw_p21 : lw_okq (⟨"java/util/ArrayList", "grow", "(I)[Ljava/lang/Object;"⟩, 3) := ⟨⟨by decide +kernel, by decide +kernel⟩, lw_t1 (List.mem_of_getElem? (i := 47) rfl), lw_t3 (List.mem_of_getElem? (i := 88) rfl), lw_t3 (List.mem_of_getElem? (i := 89) rfl)⟩
theorem lw_p22 : lw_okq (⟨"LastWordWood", "forgets", "()Z"⟩, 12) := ⟨⟨by decide +kernel, by decide +kernel⟩, lw_t1 (List.mem_of_getElem? (i := 29) rfl), lw_t3 (List.mem_of_getElem? (i := 161) rfl), lw_t3 (List.mem_of_getElem? (i := 162) rfl)⟩
theorem lw_p23 : lw_okq (⟨"LastWordWood", "isPerson", "(I)Z"⟩, 12) := ⟨⟨by decide +kernel, by decide +kernel⟩, lw_t1 (List.mem_of_getElem? (i := 29) rfl), lw_t3 (List.mem_of_getElem? (i := 194) rfl), lw_t3 (List.mem_of_getElem? (i := 195) rfl)⟩
theorem lw_p24 : lw_okq (⟨"LastWordWood", "keeps", "()Z"⟩, 12) := ⟨⟨by decide +kernel, by decide +kernel⟩, lw_t1 (List.mem_of_getElem? (i := 29) rfl), lw_t3 (List.mem_of_getElem? (i := 198) rfl), lw_t3 (List.mem_of_getElem? (i := 199) rfl)⟩
theorem lw_p25 : lw_okq (⟨"LastWordWood", "isWord", "(I)Z"⟩, 12) := ⟨⟨by decide +kernel, by decide +kernel⟩, lw_t1 (List.mem_of_getElem? (i := 29) rfl), lw_t3 (List.mem_of_getElem? (i := 206) rfl), lw_t3 (List.mem_of_getElem? (i := 207) rfl)⟩
theorem lw_p26 : lw_okq (⟨"LastWordWood", "eats", "(LLastWordWood$Person;I)V"⟩, 12) := ⟨⟨by decide +kernel, by decide +kernel⟩, lw_t1 (List.mem_of_getElem? (i := 29) rfl), lw_t3 (List.mem_of_getElem? (i := 219) rfl), lw_t3 (List.mem_of_getElem? (i := 220) rfl)⟩
theorem lw_p27 : lw_okq (⟨"LastWordWood$Wood", "allGrow", "()V"⟩, 25) := ⟨⟨by decide +kernel, by decide +kernel⟩, lw_t1 (List.mem_of_getElem? (i := 37) rfl), lw_t3 (List.mem_of_getElem? (i := 232) rfl), lw_t3 (List.mem_of_getElem? (i := 233) rfl)⟩
theorem lw_p28 : lw_okq (⟨"LastWordWood$Wood", "beside", "(Z)I"⟩, 25) := ⟨⟨by decide +kernel, by decide +kernel⟩, lw_t1 (List.mem_of_getElem? (i := 37) rfl), lw_t4 (List.mem_of_getElem? (i := 37) rfl), lw_t4 (List.mem_of_getElem? (i := 38) rfl)⟩
theorem lw_p29 : lw_okq (⟨"LastWordWood$Wood", "capAt", "(I)I"⟩, 25) := ⟨⟨by decide +kernel, by decide +kernel⟩, lw_t1 (List.mem_of_getElem? (i := 37) rfl), lw_t4 (List.mem_of_getElem? (i := 64) rfl), lw_t4 (List.mem_of_getElem? (i := 65) rfl)⟩
theorem lw_p30 : lw_okq (⟨"LastWordWood$Wood", "allDamp", "(I)V"⟩, 25) := ⟨⟨by decide +kernel, by decide +kernel⟩, lw_t1 (List.mem_of_getElem? (i := 37) rfl), lw_t4 (List.mem_of_getElem? (i := 68) rfl), lw_t4 (List.mem_of_getElem? (i := 69) rfl)⟩
theorem lw_p31 : lw_okq (⟨"LastWordWood", "laysSpices", "(I)I"⟩, 12) := ⟨⟨by decide +kernel, by decide +kernel⟩, lw_t1 (List.mem_of_getElem? (i := 29) rfl), lw_t4 (List.mem_of_getElem? (i := 99) rfl), lw_t4 (List.mem_of_getElem? (i := 100) rfl)⟩
def lw_privs_2 : List (MethodName × Nat) := [(⟨"LastWordWood$Reader", "one", "()LLastWordWood$Term;"⟩, 6), (⟨"LastWordWood$Reader", "opens", "()V"⟩, 6), (⟨"LastWordWood$Reader", "must", "(I)V"⟩, 6), (⟨"java/util/ArrayList", "add", "(Ljava/lang/Object;[Ljava/lang/Object;I)V"⟩, 3), (⟨"java/util/ArrayList", "grow", "()[Ljava/lang/Object;"⟩, 3), (⟨"java/util/ArrayList", "grow", "(I)[Ljava/lang/Object;"⟩, 3), (⟨"LastWordWood", "forgets", "()Z"⟩, 12), (⟨"LastWordWood", "isPerson", "(I)Z"⟩, 12), (⟨"LastWordWood", "keeps", "()Z"⟩, 12), (⟨"LastWordWood", "isWord", "(I)Z"⟩, 12), (⟨"LastWordWood", "eats", "(LLastWordWood$Person;I)V"⟩, 12), (⟨"LastWordWood$Wood", "allGrow", "()V"⟩, 25), (⟨"LastWordWood$Wood", "beside", "(Z)I"⟩, 25), (⟨"LastWordWood$Wood", "capAt", "(I)I"⟩, 25), (⟨"LastWordWood$Wood", "allDamp", "(I)V"⟩, 25), (⟨"LastWordWood", "laysSpices", "(I)I"⟩, 12)]
theorem lw_r2 : ∀ q ∈ lw_privs_2, lw_okq q := List.forall_mem_cons.mpr ⟨lw_p16, List.forall_mem_cons.mpr ⟨lw_p17, List.forall_mem_cons.mpr ⟨lw_p18, List.forall_mem_cons.mpr ⟨lw_p19, List.forall_mem_cons.mpr ⟨lw_p20, List.forall_mem_cons.mpr ⟨lw_p21, List.forall_mem_cons.mpr ⟨lw_p22, List.forall_mem_cons.mpr ⟨lw_p23, List.forall_mem_cons.mpr ⟨lw_p24, List.forall_mem_cons.mpr ⟨lw_p25, List.forall_mem_cons.mpr ⟨lw_p26, List.forall_mem_cons.mpr ⟨lw_p27, List.forall_mem_cons.mpr ⟨lw_p28, List.forall_mem_cons.mpr ⟨lw_p29, List.forall_mem_cons.mpr ⟨lw_p30, List.forall_mem_cons.mpr ⟨lw_p31, fun _ h => absurd h List.not_mem_nil⟩⟩⟩⟩⟩⟩⟩⟩⟩⟩⟩⟩⟩⟩⟩⟩
theorem lw_p32 : lw_okq (⟨"LastWordWood", "spiceAt", "(I)I"⟩, 12) := ⟨⟨by decide +kernel, by decide +kernel⟩, lw_t1 (List.mem_of_getElem? (i := 29) rfl), lw_t4 (List.mem_of_getElem? (i := 103) rfl), lw_t4 (List.mem_of_getElem? (i := 104) rfl)⟩
theorem lw_p33 : lw_okq (⟨"LastWordWood", "onwards", "(II)I"⟩, 12) := ⟨⟨by decide +kernel, by decide +kernel⟩, lw_t1 (List.mem_of_getElem? (i := 29) rfl), lw_t4 (List.mem_of_getElem? (i := 107) rfl), lw_t4 (List.mem_of_getElem? (i := 108) rfl)⟩
theorem lw_p34 : lw_okq (⟨"LastWordWood", "isRound", "(II)Z"⟩, 12) := ⟨⟨by decide +kernel, by decide +kernel⟩, lw_t1 (List.mem_of_getElem? (i := 29) rfl), lw_t4 (List.mem_of_getElem? (i := 117) rfl), lw_t4 (List.mem_of_getElem? (i := 118) rfl)⟩
theorem lw_p35 : lw_okq (⟨"LastWordWood", "around", "(II)I"⟩, 12) := ⟨⟨by decide +kernel, by decide +kernel⟩, lw_t1 (List.mem_of_getElem? (i := 29) rfl), lw_t4 (List.mem_of_getElem? (i := 135) rfl), lw_t4 (List.mem_of_getElem? (i := 136) rfl)⟩
theorem lw_p36 : lw_okq (⟨"LastWordWood", "areEngaged", "(II)Z"⟩, 12) := ⟨⟨by decide +kernel, by decide +kernel⟩, lw_t1 (List.mem_of_getElem? (i := 29) rfl), lw_t4 (List.mem_of_getElem? (i := 143) rfl), lw_t4 (List.mem_of_getElem? (i := 144) rfl)⟩
theorem lw_p37 : lw_okq (⟨"LastWordWoodModel", "isIn", "(III)Z"⟩, 50) := ⟨⟨by decide +kernel, by decide +kernel⟩, lw_t4 (List.mem_of_getElem? (i := 177) rfl), lw_t5 (List.mem_of_getElem? (i := 106) rfl), lw_t5 (List.mem_of_getElem? (i := 107) rfl)⟩
theorem lw_p38 : lw_okq (⟨"LastWordWoodModel", "isCell", "(I)Z"⟩, 50) := ⟨⟨by decide +kernel, by decide +kernel⟩, lw_t4 (List.mem_of_getElem? (i := 177) rfl), lw_t5 (List.mem_of_getElem? (i := 114) rfl), lw_t5 (List.mem_of_getElem? (i := 115) rfl)⟩
theorem lw_p39 : lw_okq (⟨"LastWordWoodModel", "isPerson", "(I)Z"⟩, 50) := ⟨⟨by decide +kernel, by decide +kernel⟩, lw_t4 (List.mem_of_getElem? (i := 177) rfl), lw_t5 (List.mem_of_getElem? (i := 134) rfl), lw_t5 (List.mem_of_getElem? (i := 135) rfl)⟩
theorem lw_p40 : lw_okq (⟨"LastWordWoodModel", "keepsAhead", "()V"⟩, 50) := ⟨⟨by decide +kernel, by decide +kernel⟩, lw_t4 (List.mem_of_getElem? (i := 177) rfl), lw_t5 (List.mem_of_getElem? (i := 138) rfl), lw_t5 (List.mem_of_getElem? (i := 139) rfl)⟩
theorem lw_p41 : lw_okq (⟨"LastWordWoodModel", "isWordNumber", "(I)Z"⟩, 50) := ⟨⟨by decide +kernel, by decide +kernel⟩, lw_t4 (List.mem_of_getElem? (i := 177) rfl), lw_t5 (List.mem_of_getElem? (i := 146) rfl), lw_t5 (List.mem_of_getElem? (i := 147) rfl)⟩
theorem lw_p42 : lw_okq (⟨"LastWordWoodModel", "notes", "(III)V"⟩, 50) := ⟨⟨by decide +kernel, by decide +kernel⟩, lw_t4 (List.mem_of_getElem? (i := 177) rfl), lw_t5 (List.mem_of_getElem? (i := 150) rfl), lw_t5 (List.mem_of_getElem? (i := 151) rfl)⟩
theorem lw_p43 : lw_okq (⟨"LastWordWoodModel", "picks", "(II)V"⟩, 50) := ⟨⟨by decide +kernel, by decide +kernel⟩, lw_t4 (List.mem_of_getElem? (i := 177) rfl), lw_t5 (List.mem_of_getElem? (i := 158) rfl), lw_t5 (List.mem_of_getElem? (i := 159) rfl)⟩
theorem lw_p44 : lw_okq (⟨"LastWordWoodModel", "eats", "(II)V"⟩, 50) := ⟨⟨by decide +kernel, by decide +kernel⟩, lw_t4 (List.mem_of_getElem? (i := 177) rfl), lw_t5 (List.mem_of_getElem? (i := 162) rfl), lw_t5 (List.mem_of_getElem? (i := 163) rfl)⟩
theorem lw_p45 : lw_okq (⟨"LastWordWoodModel", "types", "(I)V"⟩, 50) := ⟨⟨by decide +kernel, by decide +kernel⟩, lw_t4 (List.mem_of_getElem? (i := 177) rfl), lw_t5 (List.mem_of_getElem? (i := 170) rfl), lw_t5 (List.mem_of_getElem? (i := 171) rfl)⟩
theorem lw_p46 : lw_okq (⟨"LastWordWoodModel", "reads", "()V"⟩, 50) := ⟨⟨by decide +kernel, by decide +kernel⟩, lw_t4 (List.mem_of_getElem? (i := 177) rfl), lw_t5 (List.mem_of_getElem? (i := 182) rfl), lw_t5 (List.mem_of_getElem? (i := 183) rfl)⟩
theorem lw_p47 : lw_okq (⟨"LastWordWoodModel", "raw", "(I)I"⟩, 50) := ⟨⟨by decide +kernel, by decide +kernel⟩, lw_t4 (List.mem_of_getElem? (i := 177) rfl), lw_t5 (List.mem_of_getElem? (i := 186) rfl), lw_t5 (List.mem_of_getElem? (i := 187) rfl)⟩
def lw_privs_3 : List (MethodName × Nat) := [(⟨"LastWordWood", "spiceAt", "(I)I"⟩, 12), (⟨"LastWordWood", "onwards", "(II)I"⟩, 12), (⟨"LastWordWood", "isRound", "(II)Z"⟩, 12), (⟨"LastWordWood", "around", "(II)I"⟩, 12), (⟨"LastWordWood", "areEngaged", "(II)Z"⟩, 12), (⟨"LastWordWoodModel", "isIn", "(III)Z"⟩, 50), (⟨"LastWordWoodModel", "isCell", "(I)Z"⟩, 50), (⟨"LastWordWoodModel", "isPerson", "(I)Z"⟩, 50), (⟨"LastWordWoodModel", "keepsAhead", "()V"⟩, 50), (⟨"LastWordWoodModel", "isWordNumber", "(I)Z"⟩, 50), (⟨"LastWordWoodModel", "notes", "(III)V"⟩, 50), (⟨"LastWordWoodModel", "picks", "(II)V"⟩, 50), (⟨"LastWordWoodModel", "eats", "(II)V"⟩, 50), (⟨"LastWordWoodModel", "types", "(I)V"⟩, 50), (⟨"LastWordWoodModel", "reads", "()V"⟩, 50), (⟨"LastWordWoodModel", "raw", "(I)I"⟩, 50)]
theorem lw_r3 : ∀ q ∈ lw_privs_3, lw_okq q := List.forall_mem_cons.mpr ⟨lw_p32, List.forall_mem_cons.mpr ⟨lw_p33, List.forall_mem_cons.mpr ⟨lw_p34, List.forall_mem_cons.mpr ⟨lw_p35, List.forall_mem_cons.mpr ⟨lw_p36, List.forall_mem_cons.mpr ⟨lw_p37, List.forall_mem_cons.mpr ⟨lw_p38, List.forall_mem_cons.mpr ⟨lw_p39, List.forall_mem_cons.mpr ⟨lw_p40, List.forall_mem_cons.mpr ⟨lw_p41, List.forall_mem_cons.mpr ⟨lw_p42, List.forall_mem_cons.mpr ⟨lw_p43, List.forall_mem_cons.mpr ⟨lw_p44, List.forall_mem_cons.mpr ⟨lw_p45, List.forall_mem_cons.mpr ⟨lw_p46, List.forall_mem_cons.mpr ⟨lw_p47, fun _ h => absurd h List.not_mem_nil⟩⟩⟩⟩⟩⟩⟩⟩⟩⟩⟩⟩⟩⟩⟩⟩
theorem lw_p48 : lw_okq (⟨"LastWordWoodModel", "isLetter", "(I)Z"⟩, 50) := ⟨⟨by decide +kernel, by decide +kernel⟩, lw_t4 (List.mem_of_getElem? (i := 177) rfl), lw_t5 (List.mem_of_getElem? (i := 190) rfl), lw_t5 (List.mem_of_getElem? (i := 191) rfl)⟩
theorem lw_p49 : lw_okq (⟨"LastWordWoodModel", "wordAt", "(II)I"⟩, 50) := ⟨⟨by decide +kernel, by decide +kernel⟩, lw_t4 (List.mem_of_getElem? (i := 177) rfl), lw_t5 (List.mem_of_getElem? (i := 194) rfl), lw_t5 (List.mem_of_getElem? (i := 195) rfl)⟩
theorem lw_p50 : lw_okq (⟨"LastWordWoodModel", "isDigit", "(I)Z"⟩, 50) := ⟨⟨by decide +kernel, by decide +kernel⟩, lw_t4 (List.mem_of_getElem? (i := 177) rfl), lw_t5 (List.mem_of_getElem? (i := 198) rfl), lw_t5 (List.mem_of_getElem? (i := 199) rfl)⟩
theorem lw_p51 : lw_okq (⟨"LastWordWoodModel", "isMarkSign", "(I)Z"⟩, 50) := ⟨⟨by decide +kernel, by decide +kernel⟩, lw_t4 (List.mem_of_getElem? (i := 177) rfl), lw_t5 (List.mem_of_getElem? (i := 202) rfl), lw_t5 (List.mem_of_getElem? (i := 203) rfl)⟩
theorem lw_p52 : lw_okq (⟨"LastWordWoodModel", "readText", "()I"⟩, 50) := ⟨⟨by decide +kernel, by decide +kernel⟩, lw_t4 (List.mem_of_getElem? (i := 177) rfl), lw_t5 (List.mem_of_getElem? (i := 206) rfl), lw_t5 (List.mem_of_getElem? (i := 207) rfl)⟩
theorem lw_p53 : lw_okq (⟨"LastWordWoodModel", "isWord", "(I)Z"⟩, 50) := ⟨⟨by decide +kernel, by decide +kernel⟩, lw_t4 (List.mem_of_getElem? (i := 177) rfl), lw_t5 (List.mem_of_getElem? (i := 210) rfl), lw_t5 (List.mem_of_getElem? (i := 211) rfl)⟩
theorem lw_p54 : lw_okq (⟨"LastWordWoodModel", "errs", "(I)I"⟩, 50) := ⟨⟨by decide +kernel, by decide +kernel⟩, lw_t4 (List.mem_of_getElem? (i := 177) rfl), lw_t5 (List.mem_of_getElem? (i := 214) rfl), lw_t5 (List.mem_of_getElem? (i := 215) rfl)⟩
theorem lw_p55 : lw_okq (⟨"LastWordWoodModel", "readSum", "()I"⟩, 50) := ⟨⟨by decide +kernel, by decide +kernel⟩, lw_t4 (List.mem_of_getElem? (i := 177) rfl), lw_t5 (List.mem_of_getElem? (i := 218) rfl), lw_t5 (List.mem_of_getElem? (i := 219) rfl)⟩
theorem lw_p56 : lw_okq (⟨"LastWordWoodModel", "readProduct", "()I"⟩, 50) := ⟨⟨by decide +kernel, by decide +kernel⟩, lw_t4 (List.mem_of_getElem? (i := 177) rfl), lw_t5 (List.mem_of_getElem? (i := 222) rfl), lw_t5 (List.mem_of_getElem? (i := 223) rfl)⟩
theorem lw_p57 : lw_okq (⟨"LastWordWoodModel", "readUnit", "()I"⟩, 50) := ⟨⟨by decide +kernel, by decide +kernel⟩, lw_t4 (List.mem_of_getElem? (i := 177) rfl), lw_t5 (List.mem_of_getElem? (i := 226) rfl), lw_t5 (List.mem_of_getElem? (i := 227) rfl)⟩
theorem lw_p58 : lw_okq (⟨"LastWordWoodModel", "emits", "(II)V"⟩, 50) := ⟨⟨by decide +kernel, by decide +kernel⟩, lw_t4 (List.mem_of_getElem? (i := 177) rfl), lw_t5 (List.mem_of_getElem? (i := 230) rfl), lw_t5 (List.mem_of_getElem? (i := 231) rfl)⟩
theorem lw_p59 : lw_okq (⟨"LastWordWoodModel", "isSign", "(I)Z"⟩, 50) := ⟨⟨by decide +kernel, by decide +kernel⟩, lw_t4 (List.mem_of_getElem? (i := 177) rfl), lw_t5 (List.mem_of_getElem? (i := 234) rfl), lw_t5 (List.mem_of_getElem? (i := 235) rfl)⟩
theorem lw_p60 : lw_okq (⟨"LastWordWoodModel", "readAny", "()I"⟩, 50) := ⟨⟨by decide +kernel, by decide +kernel⟩, lw_t4 (List.mem_of_getElem? (i := 177) rfl), lw_t5 (List.mem_of_getElem? (i := 238) rfl), lw_t5 (List.mem_of_getElem? (i := 239) rfl)⟩
theorem lw_p61 : lw_okq (⟨"LastWordWoodModel", "waits", "(I)V"⟩, 50) := ⟨⟨by decide +kernel, by decide +kernel⟩, lw_t4 (List.mem_of_getElem? (i := 177) rfl), lw_t6 (List.mem_of_getElem? (i := 2) rfl), lw_t6 (List.mem_of_getElem? (i := 3) rfl)⟩
theorem lw_p62 : lw_okq (⟨"LastWordWoodModel", "readCompared", "()I"⟩, 50) := ⟨⟨by decide +kernel, by decide +kernel⟩, lw_t4 (List.mem_of_getElem? (i := 177) rfl), lw_t6 (List.mem_of_getElem? (i := 6) rfl), lw_t6 (List.mem_of_getElem? (i := 7) rfl)⟩
theorem lw_p63 : lw_okq (⟨"LastWordWoodModel", "settles", "(I)V"⟩, 50) := ⟨⟨by decide +kernel, by decide +kernel⟩, lw_t4 (List.mem_of_getElem? (i := 177) rfl), lw_t6 (List.mem_of_getElem? (i := 10) rfl), lw_t6 (List.mem_of_getElem? (i := 11) rfl)⟩
def lw_privs_4 : List (MethodName × Nat) := [(⟨"LastWordWoodModel", "isLetter", "(I)Z"⟩, 50), (⟨"LastWordWoodModel", "wordAt", "(II)I"⟩, 50), (⟨"LastWordWoodModel", "isDigit", "(I)Z"⟩, 50), (⟨"LastWordWoodModel", "isMarkSign", "(I)Z"⟩, 50), (⟨"LastWordWoodModel", "readText", "()I"⟩, 50), (⟨"LastWordWoodModel", "isWord", "(I)Z"⟩, 50), (⟨"LastWordWoodModel", "errs", "(I)I"⟩, 50), (⟨"LastWordWoodModel", "readSum", "()I"⟩, 50), (⟨"LastWordWoodModel", "readProduct", "()I"⟩, 50), (⟨"LastWordWoodModel", "readUnit", "()I"⟩, 50), (⟨"LastWordWoodModel", "emits", "(II)V"⟩, 50), (⟨"LastWordWoodModel", "isSign", "(I)Z"⟩, 50), (⟨"LastWordWoodModel", "readAny", "()I"⟩, 50), (⟨"LastWordWoodModel", "waits", "(I)V"⟩, 50), (⟨"LastWordWoodModel", "readCompared", "()I"⟩, 50), (⟨"LastWordWoodModel", "settles", "(I)V"⟩, 50)]
theorem lw_r4 : ∀ q ∈ lw_privs_4, lw_okq q := List.forall_mem_cons.mpr ⟨lw_p48, List.forall_mem_cons.mpr ⟨lw_p49, List.forall_mem_cons.mpr ⟨lw_p50, List.forall_mem_cons.mpr ⟨lw_p51, List.forall_mem_cons.mpr ⟨lw_p52, List.forall_mem_cons.mpr ⟨lw_p53, List.forall_mem_cons.mpr ⟨lw_p54, List.forall_mem_cons.mpr ⟨lw_p55, List.forall_mem_cons.mpr ⟨lw_p56, List.forall_mem_cons.mpr ⟨lw_p57, List.forall_mem_cons.mpr ⟨lw_p58, List.forall_mem_cons.mpr ⟨lw_p59, List.forall_mem_cons.mpr ⟨lw_p60, List.forall_mem_cons.mpr ⟨lw_p61, List.forall_mem_cons.mpr ⟨lw_p62, List.forall_mem_cons.mpr ⟨lw_p63, fun _ h => absurd h List.not_mem_nil⟩⟩⟩⟩⟩⟩⟩⟩⟩⟩⟩⟩⟩⟩⟩⟩
theorem lw_p64 : lw_okq (⟨"LastWordWoodModel", "ends", "()Z"⟩, 50) := ⟨⟨by decide +kernel, by decide +kernel⟩, lw_t4 (List.mem_of_getElem? (i := 177) rfl), lw_t6 (List.mem_of_getElem? (i := 22) rfl), lw_t6 (List.mem_of_getElem? (i := 23) rfl)⟩
theorem lw_p65 : lw_okq (⟨"LastWordWoodModel", "thinksOfSizes", "()V"⟩, 50) := ⟨⟨by decide +kernel, by decide +kernel⟩, lw_t4 (List.mem_of_getElem? (i := 177) rfl), lw_t6 (List.mem_of_getElem? (i := 26) rfl), lw_t6 (List.mem_of_getElem? (i := 27) rfl)⟩
theorem lw_p66 : lw_okq (⟨"LastWordWoodModel", "allGrow", "(II)V"⟩, 50) := ⟨⟨by decide +kernel, by decide +kernel⟩, lw_t4 (List.mem_of_getElem? (i := 177) rfl), lw_t6 (List.mem_of_getElem? (i := 30) rfl), lw_t6 (List.mem_of_getElem? (i := 31) rfl)⟩
theorem lw_p67 : lw_okq (⟨"LastWordWoodModel", "growsBy", "(III)I"⟩, 50) := ⟨⟨by decide +kernel, by decide +kernel⟩, lw_t4 (List.mem_of_getElem? (i := 177) rfl), lw_t6 (List.mem_of_getElem? (i := 34) rfl), lw_t6 (List.mem_of_getElem? (i := 35) rfl)⟩
theorem lw_p68 : lw_okq (⟨"LastWordWoodModel", "capsBeside", "(II)I"⟩, 50) := ⟨⟨by decide +kernel, by decide +kernel⟩, lw_t4 (List.mem_of_getElem? (i := 177) rfl), lw_t6 (List.mem_of_getElem? (i := 38) rfl), lw_t6 (List.mem_of_getElem? (i := 39) rfl)⟩
theorem lw_p69 : lw_okq (⟨"LastWordWoodModel", "farOf", "(II)I"⟩, 50) := ⟨⟨by decide +kernel, by decide +kernel⟩, lw_t4 (List.mem_of_getElem? (i := 177) rfl), lw_t6 (List.mem_of_getElem? (i := 42) rfl), lw_t6 (List.mem_of_getElem? (i := 43) rfl)⟩
theorem lw_p70 : lw_okq (⟨"LastWordWoodModel", "without", "(I)I"⟩, 50) := ⟨⟨by decide +kernel, by decide +kernel⟩, lw_t4 (List.mem_of_getElem? (i := 177) rfl), lw_t6 (List.mem_of_getElem? (i := 46) rfl), lw_t6 (List.mem_of_getElem? (i := 47) rfl)⟩
theorem lw_p71 : lw_okq (⟨"LastWordWoodModel", "isSo", "(I)Z"⟩, 50) := ⟨⟨by decide +kernel, by decide +kernel⟩, lw_t4 (List.mem_of_getElem? (i := 177) rfl), lw_t6 (List.mem_of_getElem? (i := 50) rfl), lw_t6 (List.mem_of_getElem? (i := 51) rfl)⟩
theorem lw_p72 : lw_okq (⟨"LastWordWoodModel", "runs", "(II)I"⟩, 50) := ⟨⟨by decide +kernel, by decide +kernel⟩, lw_t4 (List.mem_of_getElem? (i := 177) rfl), lw_t6 (List.mem_of_getElem? (i := 54) rfl), lw_t6 (List.mem_of_getElem? (i := 55) rfl)⟩
theorem lw_p73 : lw_okq (⟨"LastWordWoodModel", "twoOf", "(III)I"⟩, 50) := ⟨⟨by decide +kernel, by decide +kernel⟩, lw_t4 (List.mem_of_getElem? (i := 177) rfl), lw_t6 (List.mem_of_getElem? (i := 58) rfl), lw_t6 (List.mem_of_getElem? (i := 59) rfl)⟩
theorem lw_p74 : lw_okq (⟨"LastWordWoodModel", "isEaten", "()Z"⟩, 50) := ⟨⟨by decide +kernel, by decide +kernel⟩, lw_t4 (List.mem_of_getElem? (i := 177) rfl), lw_t6 (List.mem_of_getElem? (i := 62) rfl), lw_t6 (List.mem_of_getElem? (i := 63) rfl)⟩
theorem lw_p75 : lw_okq (⟨"LastWordWoodModel", "caps", "()I"⟩, 50) := ⟨⟨by decide +kernel, by decide +kernel⟩, lw_t4 (List.mem_of_getElem? (i := 177) rfl), lw_t6 (List.mem_of_getElem? (i := 66) rfl), lw_t6 (List.mem_of_getElem? (i := 67) rfl)⟩
theorem lw_p76 : lw_okq (⟨"LastWordWoodModel", "draw", "(I)I"⟩, 50) := ⟨⟨by decide +kernel, by decide +kernel⟩, lw_t4 (List.mem_of_getElem? (i := 177) rfl), lw_t6 (List.mem_of_getElem? (i := 70) rfl), lw_t6 (List.mem_of_getElem? (i := 71) rfl)⟩
theorem lw_p77 : lw_okq (⟨"LastWordWoodModel", "rains", "()V"⟩, 50) := ⟨⟨by decide +kernel, by decide +kernel⟩, lw_t4 (List.mem_of_getElem? (i := 177) rfl), lw_t6 (List.mem_of_getElem? (i := 76) rfl), lw_t6 (List.mem_of_getElem? (i := 77) rfl)⟩
theorem lw_p78 : lw_okq (⟨"LastWordWoodModel", "ones", "(I)I"⟩, 50) := ⟨⟨by decide +kernel, by decide +kernel⟩, lw_t4 (List.mem_of_getElem? (i := 177) rfl), lw_t6 (List.mem_of_getElem? (i := 100) rfl), lw_t6 (List.mem_of_getElem? (i := 101) rfl)⟩
theorem lw_p79 : lw_okq (⟨"LastWordWoodModel", "wayFrom", "(II)I"⟩, 50) := ⟨⟨by decide +kernel, by decide +kernel⟩, lw_t4 (List.mem_of_getElem? (i := 177) rfl), lw_t6 (List.mem_of_getElem? (i := 104) rfl), lw_t6 (List.mem_of_getElem? (i := 105) rfl)⟩
def lw_privs_5 : List (MethodName × Nat) := [(⟨"LastWordWoodModel", "ends", "()Z"⟩, 50), (⟨"LastWordWoodModel", "thinksOfSizes", "()V"⟩, 50), (⟨"LastWordWoodModel", "allGrow", "(II)V"⟩, 50), (⟨"LastWordWoodModel", "growsBy", "(III)I"⟩, 50), (⟨"LastWordWoodModel", "capsBeside", "(II)I"⟩, 50), (⟨"LastWordWoodModel", "farOf", "(II)I"⟩, 50), (⟨"LastWordWoodModel", "without", "(I)I"⟩, 50), (⟨"LastWordWoodModel", "isSo", "(I)Z"⟩, 50), (⟨"LastWordWoodModel", "runs", "(II)I"⟩, 50), (⟨"LastWordWoodModel", "twoOf", "(III)I"⟩, 50), (⟨"LastWordWoodModel", "isEaten", "()Z"⟩, 50), (⟨"LastWordWoodModel", "caps", "()I"⟩, 50), (⟨"LastWordWoodModel", "draw", "(I)I"⟩, 50), (⟨"LastWordWoodModel", "rains", "()V"⟩, 50), (⟨"LastWordWoodModel", "ones", "(I)I"⟩, 50), (⟨"LastWordWoodModel", "wayFrom", "(II)I"⟩, 50)]
theorem lw_r5 : ∀ q ∈ lw_privs_5, lw_okq q := List.forall_mem_cons.mpr ⟨lw_p64, List.forall_mem_cons.mpr ⟨lw_p65, List.forall_mem_cons.mpr ⟨lw_p66, List.forall_mem_cons.mpr ⟨lw_p67, List.forall_mem_cons.mpr ⟨lw_p68, List.forall_mem_cons.mpr ⟨lw_p69, List.forall_mem_cons.mpr ⟨lw_p70, List.forall_mem_cons.mpr ⟨lw_p71, List.forall_mem_cons.mpr ⟨lw_p72, List.forall_mem_cons.mpr ⟨lw_p73, List.forall_mem_cons.mpr ⟨lw_p74, List.forall_mem_cons.mpr ⟨lw_p75, List.forall_mem_cons.mpr ⟨lw_p76, List.forall_mem_cons.mpr ⟨lw_p77, List.forall_mem_cons.mpr ⟨lw_p78, List.forall_mem_cons.mpr ⟨lw_p79, fun _ h => absurd h List.not_mem_nil⟩⟩⟩⟩⟩⟩⟩⟩⟩⟩⟩⟩⟩⟩⟩⟩
theorem lw_p80 : lw_okq (⟨"LastWordWoodModel", "wayBy", "(III)I"⟩, 50) := ⟨⟨by decide +kernel, by decide +kernel⟩, lw_t4 (List.mem_of_getElem? (i := 177) rfl), lw_t6 (List.mem_of_getElem? (i := 109) rfl), lw_t6 (List.mem_of_getElem? (i := 110) rfl)⟩
theorem lw_p81 : lw_okq (⟨"LastWordWoodModel", "isAround", "(II)Z"⟩, 50) := ⟨⟨by decide +kernel, by decide +kernel⟩, lw_t4 (List.mem_of_getElem? (i := 177) rfl), lw_t6 (List.mem_of_getElem? (i := 117) rfl), lw_t6 (List.mem_of_getElem? (i := 118) rfl)⟩
theorem lw_p82 : lw_okq (⟨"LastWordWoodModel", "isCapAround", "(III)Z"⟩, 50) := ⟨⟨by decide +kernel, by decide +kernel⟩, lw_t4 (List.mem_of_getElem? (i := 177) rfl), lw_t6 (List.mem_of_getElem? (i := 121) rfl), lw_t6 (List.mem_of_getElem? (i := 122) rfl)⟩
theorem lw_p83 : lw_okq (⟨"LastWordWoodModel", "waysOf", "(II)I"⟩, 50) := ⟨⟨by decide +kernel, by decide +kernel⟩, lw_t4 (List.mem_of_getElem? (i := 177) rfl), lw_t6 (List.mem_of_getElem? (i := 129) rfl), lw_t6 (List.mem_of_getElem? (i := 130) rfl)⟩
theorem lw_p84 : lw_okq (⟨"LastWordWoodModel", "groveAt", "(II)I"⟩, 50) := ⟨⟨by decide +kernel, by decide +kernel⟩, lw_t4 (List.mem_of_getElem? (i := 177) rfl), lw_t6 (List.mem_of_getElem? (i := 137) rfl), lw_t6 (List.mem_of_getElem? (i := 138) rfl)⟩
theorem lw_p85 : lw_okq (⟨"LastWordWoodModel", "areEngaged", "(II)Z"⟩, 50) := ⟨⟨by decide +kernel, by decide +kernel⟩, lw_t4 (List.mem_of_getElem? (i := 177) rfl), lw_t6 (List.mem_of_getElem? (i := 145) rfl), lw_t6 (List.mem_of_getElem? (i := 146) rfl)⟩
theorem lw_p86 : lw_okq (⟨"LastWordWoodModel", "isCap", "(I)Z"⟩, 50) := ⟨⟨by decide +kernel, by decide +kernel⟩, lw_t4 (List.mem_of_getElem? (i := 177) rfl), lw_t6 (List.mem_of_getElem? (i := 153) rfl), lw_t6 (List.mem_of_getElem? (i := 154) rfl)⟩
theorem lw_p87 : lw_okq (⟨"LastWordWoodModel", "allSizes", "()I"⟩, 50) := ⟨⟨by decide +kernel, by decide +kernel⟩, lw_t4 (List.mem_of_getElem? (i := 177) rfl), lw_t6 (List.mem_of_getElem? (i := 161) rfl), lw_t6 (List.mem_of_getElem? (i := 162) rfl)⟩
theorem lw_p88 : lw_okq (⟨"LastWordWoodModel", "kept", "(I)I"⟩, 50) := ⟨⟨by decide +kernel, by decide +kernel⟩, lw_t4 (List.mem_of_getElem? (i := 177) rfl), lw_t6 (List.mem_of_getElem? (i := 173) rfl), lw_t6 (List.mem_of_getElem? (i := 174) rfl)⟩
theorem lw_p89 : lw_okq (⟨"LastWordWoodModel", "keepsLaw", "()V"⟩, 50) := ⟨⟨by decide +kernel, by decide +kernel⟩, lw_t4 (List.mem_of_getElem? (i := 177) rfl), lw_t6 (List.mem_of_getElem? (i := 177) rfl), lw_t6 (List.mem_of_getElem? (i := 178) rfl)⟩
def lw_privs_6 : List (MethodName × Nat) := [(⟨"LastWordWoodModel", "wayBy", "(III)I"⟩, 50), (⟨"LastWordWoodModel", "isAround", "(II)Z"⟩, 50), (⟨"LastWordWoodModel", "isCapAround", "(III)Z"⟩, 50), (⟨"LastWordWoodModel", "waysOf", "(II)I"⟩, 50), (⟨"LastWordWoodModel", "groveAt", "(II)I"⟩, 50), (⟨"LastWordWoodModel", "areEngaged", "(II)Z"⟩, 50), (⟨"LastWordWoodModel", "isCap", "(I)Z"⟩, 50), (⟨"LastWordWoodModel", "allSizes", "()I"⟩, 50), (⟨"LastWordWoodModel", "kept", "(I)I"⟩, 50), (⟨"LastWordWoodModel", "keepsLaw", "()V"⟩, 50)]
theorem lw_r6 : ∀ q ∈ lw_privs_6, lw_okq q := List.forall_mem_cons.mpr ⟨lw_p80, List.forall_mem_cons.mpr ⟨lw_p81, List.forall_mem_cons.mpr ⟨lw_p82, List.forall_mem_cons.mpr ⟨lw_p83, List.forall_mem_cons.mpr ⟨lw_p84, List.forall_mem_cons.mpr ⟨lw_p85, List.forall_mem_cons.mpr ⟨lw_p86, List.forall_mem_cons.mpr ⟨lw_p87, List.forall_mem_cons.mpr ⟨lw_p88, List.forall_mem_cons.mpr ⟨lw_p89, fun _ h => absurd h List.not_mem_nil⟩⟩⟩⟩⟩⟩⟩⟩⟩⟩
def lw_privs : List (MethodName × Nat) := lw_privs_1 ++ (lw_privs_2 ++ (lw_privs_3 ++ (lw_privs_4 ++ (lw_privs_5 ++ (lw_privs_6)))))
def lw_tbl : List Cond := k2_sels lw_privs ++ tables_1
theorem lw_privs_ok : ∀ q ∈ lw_privs, lw_okq q := by
  show ∀ q ∈ lw_privs_1 ++ (lw_privs_2 ++ (lw_privs_3 ++ (lw_privs_4 ++ (lw_privs_5 ++ (lw_privs_6))))), lw_okq q
  exact List.forall_mem_append.mpr ⟨lw_r1, List.forall_mem_append.mpr ⟨lw_r2, List.forall_mem_append.mpr ⟨lw_r3, List.forall_mem_append.mpr ⟨lw_r4, List.forall_mem_append.mpr ⟨lw_r5, lw_r6⟩⟩⟩⟩⟩
-- ===== ONE list of words for every method: the tables' words that hold all through a run =====
def lw_all : List Cond := lw_tbl.filter goodWord
/-- a word of the tables by its place: claim/WORDS.tsv -/
theorem lw_w {w : Cond} (i : Nat) (h : lw_tbl[i]? = some w) (g : goodWord w = true) : w ∈ lw_all := List.mem_filter.mpr ⟨List.mem_of_getElem? h, g⟩
theorem lw_all_tbl {w : Cond} (h : w ∈ lw_all) : w ∈ lw_tbl := (List.mem_filter.mp h).1
theorem lw_self : GoodIn lw_all lw_all := fun w h => ⟨h, good_of_word (List.mem_filter.mp h).2⟩
/-- a class's field words, by their places -/
theorem lw_in (ws : List Cond) (ps : List Nat) (hp : ws = ps.filterMap (fun i => lw_tbl[i]?)) (hg : ws.all goodWord = true) : ∀ w ∈ ws, w ∈ lw_all := by
  intro w h
  have h1 := List.all_eq_true.mp hg w h
  rw [hp] at h
  obtain ⟨i, -, hi⟩ := List.mem_filterMap.mp h
  exact lw_w i hi h1
/-- the words of a contract for the method y with code b, L locals, answer r -/
abbrev ws_ (y : MethodName) (b : ByteArray) (L : Nat) (r : Option FieldType) : List Cond := Cond.code y b L r :: lw_all
theorem lw_meth {y : MethodName} {b : ByteArray} {L : Nat} {r : Option FieldType} (h : Cond.code y b L r ∈ lw_all) : GoodIn lw_all (ws_ y b L r) := by
  intro w hw
  rcases List.mem_cons.mp hw with e | e
  · rw [e]
    exact lw_self _ h
  · exact lw_self _ e
theorem lw_app {a c : List Cond} (ha : ∀ w ∈ a, w ∈ lw_all) (hc : GoodIn lw_all c) : GoodIn lw_all (a ++ c) := by
  intro w hw
  rcases List.mem_append.mp hw with e | e
  · exact lw_self w (ha w e)
  · exact hc w e
/-- what a call through an object asks: cwV n hts (lw_V ..) -/
theorem lw_V {own : String} {idx : Nat} {C : String} {y : MethodName} {b : ByteArray} {L : Nat} {r : Option FieldType} (h1 : Cond.methodLink own idx y ∈ lw_all) (h2 : Cond.instanceMethod y ∈ lw_all) (h3 : Cond.selects C y y ∈ lw_all) (h4 : Cond.initialized C ∈ lw_all) (h5 : Cond.code y b L r ∈ lw_all) : GoodIn lw_all (wsV own idx C y (ws_ y b L r)) := by
  refine lw_app ?_ (lw_meth h5)
  intro w hw
  simp only [List.mem_cons, List.not_mem_nil, or_false] at hw
  rcases hw with e | e | e | e
  · rw [e]; exact h1
  · rw [e]; exact h2
  · rw [e]; exact h3
  · rw [e]; exact h4
/-- what a static call asks: va_cwS n hts (lw_S ..) -/
theorem lw_S {own : String} {idx : Nat} {y : MethodName} {b : ByteArray} {L : Nat} {r : Option FieldType} (h1 : Cond.methodLink own idx y ∈ lw_all) (h2 : Cond.static y ∈ lw_all) (h3 : Cond.initialized y.cls ∈ lw_all) (h4 : Cond.code y b L r ∈ lw_all) : GoodIn lw_all (va_wsS own idx y (ws_ y b L r)) := by
  refine lw_app ?_ (lw_meth h4)
  intro w hw
  simp only [List.mem_cons, List.not_mem_nil, or_false] at hw
  rcases hw with e | e | e
  · rw [e]; exact h1
  · rw [e]; exact h2
  · rw [e]; exact h3
/-- the words of a contract for a method WITH HANDLERS (hh: its table) -/
abbrev wsW_ (y : MethodName) (b : ByteArray) (L : Nat) (r : Option FieldType) (hh : List (Nat × Nat × Nat × Nat)) : List Cond := Cond.codeWith y b L r hh :: lw_all
theorem lw_methW {y : MethodName} {b : ByteArray} {L : Nat} {r : Option FieldType} {hh : List (Nat × Nat × Nat × Nat)} (h : Cond.codeWith y b L r hh ∈ lw_all) : GoodIn lw_all (wsW_ y b L r hh) := by
  intro w hw
  rcases List.mem_cons.mp hw with e | e
  · rw [e]
    exact lw_self _ h
  · exact lw_self _ e
/-- any list of words by their places (lw_in), good -/
theorem lw_good {ws : List Cond} (h : ∀ w ∈ ws, w ∈ lw_all) : GoodIn lw_all ws := fun w hw => lw_self w (h w hw)
/-- what a call of a method with handlers asks: vx_cwVW n hts (lw_VW ..), vx_cwSW n hts (lw_SW ..) -/
theorem lw_VW {own : String} {idx : Nat} {C : String} {y : MethodName} {b : ByteArray} {L : Nat} {r : Option FieldType} {hh : List (Nat × Nat × Nat × Nat)} (h1 : Cond.methodLink own idx y ∈ lw_all) (h2 : Cond.instanceMethod y ∈ lw_all) (h3 : Cond.selects C y y ∈ lw_all) (h4 : Cond.initialized C ∈ lw_all) (h5 : Cond.codeWith y b L r hh ∈ lw_all) : GoodIn lw_all (wsV own idx C y (wsW_ y b L r hh)) := by
  refine lw_app ?_ (lw_methW h5)
  intro w hw
  simp only [List.mem_cons, List.not_mem_nil, or_false] at hw
  rcases hw with e | e | e | e
  · rw [e]; exact h1
  · rw [e]; exact h2
  · rw [e]; exact h3
  · rw [e]; exact h4
theorem lw_SW {own : String} {idx : Nat} {y : MethodName} {b : ByteArray} {L : Nat} {r : Option FieldType} {hh : List (Nat × Nat × Nat × Nat)} (h1 : Cond.methodLink own idx y ∈ lw_all) (h2 : Cond.static y ∈ lw_all) (h3 : Cond.initialized y.cls ∈ lw_all) (h4 : Cond.codeWith y b L r hh ∈ lw_all) : GoodIn lw_all (va_wsS own idx y (wsW_ y b L r hh)) := by
  refine lw_app ?_ (lw_methW h4)
  intro w hw
  simp only [List.mem_cons, List.not_mem_nil, or_false] at hw
  rcases hw with e | e | e
  · rw [e]; exact h1
  · rw [e]; exact h2
  · rw [e]; exact h3
/-- a word by its place in its run of the tables -/
theorem lw_at {r : List Cond} (hr : ∀ w ∈ r, w ∈ lw_tbl) {w : Cond} (i : Nat) (h : r[i]? = some w) : w ∈ lw_tbl := hr w (List.mem_of_getElem? h)
theorem lw_g {w : Cond} (h : w ∈ lw_tbl) (g : goodWord w = true) : w ∈ lw_all := List.mem_filter.mpr ⟨h, g⟩
theorem lw_ms : ∀ w ∈ k2_sels lw_privs, w ∈ lw_tbl := fun w h => show w ∈ k2_sels lw_privs ++ tables_1 from List.mem_append_left _ h
theorem lw_m1 : ∀ w ∈ tables_1_1, w ∈ lw_tbl := fun w h => show w ∈ k2_sels lw_privs ++ tables_1 from List.mem_append_right (k2_sels lw_privs) (show w ∈ tables_1 from List.mem_append_left _ h)
theorem lw_m2 : ∀ w ∈ tables_1_2, w ∈ lw_tbl := fun w h => show w ∈ k2_sels lw_privs ++ tables_1 from List.mem_append_right (k2_sels lw_privs) (show w ∈ tables_1 from List.mem_append_right _ (List.mem_append_left _ h))
theorem lw_m3 : ∀ w ∈ tables_1_3, w ∈ lw_tbl := fun w h => show w ∈ k2_sels lw_privs ++ tables_1 from List.mem_append_right (k2_sels lw_privs) (show w ∈ tables_1 from List.mem_append_right _ (List.mem_append_right _ (List.mem_append_left _ h)))
theorem lw_m4 : ∀ w ∈ tables_1_4, w ∈ lw_tbl := fun w h => show w ∈ k2_sels lw_privs ++ tables_1 from List.mem_append_right (k2_sels lw_privs) (show w ∈ tables_1 from List.mem_append_right _ (List.mem_append_right _ (List.mem_append_right _ (List.mem_append_left _ h))))
theorem lw_m5 : ∀ w ∈ tables_1_5, w ∈ lw_tbl := fun w h => show w ∈ k2_sels lw_privs ++ tables_1 from List.mem_append_right (k2_sels lw_privs) (show w ∈ tables_1 from List.mem_append_right _ (List.mem_append_right _ (List.mem_append_right _ (List.mem_append_right _ (List.mem_append_left _ h)))))
theorem lw_m6 : ∀ w ∈ tables_1_6, w ∈ lw_tbl := fun w h => show w ∈ k2_sels lw_privs ++ tables_1 from List.mem_append_right (k2_sels lw_privs) (show w ∈ tables_1 from List.mem_append_right _ (List.mem_append_right _ (List.mem_append_right _ (List.mem_append_right _ (List.mem_append_right _ h)))))
theorem qs0 : (Cond.selects "LastWordWood" ⟨"LastWordWood", "word", "(I)V"⟩ ⟨"LastWordWood", "word", "(I)V"⟩) ∈ lw_all := lw_g (lw_at lw_ms 0 rfl) rfl
theorem qs1 : (Cond.selects "LastWordWood$Reader" ⟨"LastWordWood$Reader", "next", "()V"⟩ ⟨"LastWordWood$Reader", "next", "()V"⟩) ∈ lw_all := lw_g (lw_at lw_ms 1 rfl) rfl
theorem qs2 : (Cond.selects "LastWordWood$Reader" ⟨"LastWordWood$Reader", "see", "()I"⟩ ⟨"LastWordWood$Reader", "see", "()I"⟩) ∈ lw_all := lw_g (lw_at lw_ms 2 rfl) rfl
theorem qs3 : (Cond.selects "LastWordWood$Reader" ⟨"LastWordWood$Reader", "isLetter", "()Z"⟩ ⟨"LastWordWood$Reader", "isLetter", "()Z"⟩) ∈ lw_all := lw_g (lw_at lw_ms 3 rfl) rfl
theorem qs4 : (Cond.selects "LastWordWood$Reader" ⟨"LastWordWood$Reader", "keyword", "()I"⟩ ⟨"LastWordWood$Reader", "keyword", "()I"⟩) ∈ lw_all := lw_g (lw_at lw_ms 4 rfl) rfl
theorem qs5 : (Cond.selects "LastWordWood$Reader" ⟨"LastWordWood$Reader", "is", "(Ljava/lang/String;)Z"⟩ ⟨"LastWordWood$Reader", "is", "(Ljava/lang/String;)Z"⟩) ∈ lw_all := lw_g (lw_at lw_ms 5 rfl) rfl
theorem qs6 : (Cond.selects "LastWordWood$Reader" ⟨"LastWordWood$Reader", "known", "()I"⟩ ⟨"LastWordWood$Reader", "known", "()I"⟩) ∈ lw_all := lw_g (lw_at lw_ms 6 rfl) rfl
theorem qs7 : (Cond.selects "LastWordWood$Reader" ⟨"LastWordWood$Reader", "isDigit", "()Z"⟩ ⟨"LastWordWood$Reader", "isDigit", "()Z"⟩) ∈ lw_all := lw_g (lw_at lw_ms 7 rfl) rfl
theorem qs8 : (Cond.selects "LastWordWood$Reader" ⟨"LastWordWood$Reader", "isMark", "(I)Z"⟩ ⟨"LastWordWood$Reader", "isMark", "(I)Z"⟩) ∈ lw_all := lw_g (lw_at lw_ms 8 rfl) rfl
theorem qs9 : (Cond.selects "java/lang/Throwable" ⟨"java/lang/Throwable", "fillInStackTrace", "(I)Ljava/lang/Throwable;"⟩ ⟨"java/lang/Throwable", "fillInStackTrace", "(I)Ljava/lang/Throwable;"⟩) ∈ lw_all := lw_g (lw_at lw_ms 9 rfl) rfl
theorem qs10 : (Cond.selects "LastWordWood$Reader" ⟨"LastWordWood$Reader", "sum", "()LLastWordWood$Term;"⟩ ⟨"LastWordWood$Reader", "sum", "()LLastWordWood$Term;"⟩) ∈ lw_all := lw_g (lw_at lw_ms 10 rfl) rfl
theorem qs11 : (Cond.selects "LastWordWood$Reader" ⟨"LastWordWood$Reader", "product", "()LLastWordWood$Term;"⟩ ⟨"LastWordWood$Reader", "product", "()LLastWordWood$Term;"⟩) ∈ lw_all := lw_g (lw_at lw_ms 11 rfl) rfl
theorem qs12 : (Cond.selects "LastWordWood$Reader" ⟨"LastWordWood$Reader", "unit", "()LLastWordWood$Term;"⟩ ⟨"LastWordWood$Reader", "unit", "()LLastWordWood$Term;"⟩) ∈ lw_all := lw_g (lw_at lw_ms 12 rfl) rfl
theorem qs13 : (Cond.selects "LastWordWood$Reader" ⟨"LastWordWood$Reader", "number", "(I)I"⟩ ⟨"LastWordWood$Reader", "number", "(I)I"⟩) ∈ lw_all := lw_g (lw_at lw_ms 13 rfl) rfl
theorem qs14 : (Cond.selects "LastWordWood$Reader" ⟨"LastWordWood$Reader", "any", "()LLastWordWood$Term;"⟩ ⟨"LastWordWood$Reader", "any", "()LLastWordWood$Term;"⟩) ∈ lw_all := lw_g (lw_at lw_ms 14 rfl) rfl
theorem qs15 : (Cond.selects "LastWordWood$Reader" ⟨"LastWordWood$Reader", "all", "()LLastWordWood$Term;"⟩ ⟨"LastWordWood$Reader", "all", "()LLastWordWood$Term;"⟩) ∈ lw_all := lw_g (lw_at lw_ms 15 rfl) rfl
theorem qs16 : (Cond.selects "LastWordWood$Reader" ⟨"LastWordWood$Reader", "one", "()LLastWordWood$Term;"⟩ ⟨"LastWordWood$Reader", "one", "()LLastWordWood$Term;"⟩) ∈ lw_all := lw_g (lw_at lw_ms 16 rfl) rfl
theorem qs17 : (Cond.selects "LastWordWood$Reader" ⟨"LastWordWood$Reader", "opens", "()V"⟩ ⟨"LastWordWood$Reader", "opens", "()V"⟩) ∈ lw_all := lw_g (lw_at lw_ms 17 rfl) rfl
theorem qs18 : (Cond.selects "LastWordWood$Reader" ⟨"LastWordWood$Reader", "must", "(I)V"⟩ ⟨"LastWordWood$Reader", "must", "(I)V"⟩) ∈ lw_all := lw_g (lw_at lw_ms 18 rfl) rfl
theorem qs19 : (Cond.selects "java/util/ArrayList" ⟨"java/util/ArrayList", "add", "(Ljava/lang/Object;[Ljava/lang/Object;I)V"⟩ ⟨"java/util/ArrayList", "add", "(Ljava/lang/Object;[Ljava/lang/Object;I)V"⟩) ∈ lw_all := lw_g (lw_at lw_ms 19 rfl) rfl
theorem qs20 : (Cond.selects "java/util/ArrayList" ⟨"java/util/ArrayList", "grow", "()[Ljava/lang/Object;"⟩ ⟨"java/util/ArrayList", "grow", "()[Ljava/lang/Object;"⟩) ∈ lw_all := lw_g (lw_at lw_ms 20 rfl) rfl
theorem qs21 : (Cond.selects "java/util/ArrayList" ⟨"java/util/ArrayList", "grow", "(I)[Ljava/lang/Object;"⟩ ⟨"java/util/ArrayList", "grow", "(I)[Ljava/lang/Object;"⟩) ∈ lw_all := lw_g (lw_at lw_ms 21 rfl) rfl
theorem qs22 : (Cond.selects "LastWordWood" ⟨"LastWordWood", "forgets", "()Z"⟩ ⟨"LastWordWood", "forgets", "()Z"⟩) ∈ lw_all := lw_g (lw_at lw_ms 22 rfl) rfl
theorem qs23 : (Cond.selects "LastWordWood" ⟨"LastWordWood", "isPerson", "(I)Z"⟩ ⟨"LastWordWood", "isPerson", "(I)Z"⟩) ∈ lw_all := lw_g (lw_at lw_ms 23 rfl) rfl
theorem qs24 : (Cond.selects "LastWordWood" ⟨"LastWordWood", "keeps", "()Z"⟩ ⟨"LastWordWood", "keeps", "()Z"⟩) ∈ lw_all := lw_g (lw_at lw_ms 24 rfl) rfl
theorem qs25 : (Cond.selects "LastWordWood" ⟨"LastWordWood", "isWord", "(I)Z"⟩ ⟨"LastWordWood", "isWord", "(I)Z"⟩) ∈ lw_all := lw_g (lw_at lw_ms 25 rfl) rfl
theorem qs26 : (Cond.selects "LastWordWood" ⟨"LastWordWood", "eats", "(LLastWordWood$Person;I)V"⟩ ⟨"LastWordWood", "eats", "(LLastWordWood$Person;I)V"⟩) ∈ lw_all := lw_g (lw_at lw_ms 26 rfl) rfl
theorem qs27 : (Cond.selects "LastWordWood$Wood" ⟨"LastWordWood$Wood", "allGrow", "()V"⟩ ⟨"LastWordWood$Wood", "allGrow", "()V"⟩) ∈ lw_all := lw_g (lw_at lw_ms 27 rfl) rfl
theorem qs28 : (Cond.selects "LastWordWood$Wood" ⟨"LastWordWood$Wood", "beside", "(Z)I"⟩ ⟨"LastWordWood$Wood", "beside", "(Z)I"⟩) ∈ lw_all := lw_g (lw_at lw_ms 28 rfl) rfl
theorem qs29 : (Cond.selects "LastWordWood$Wood" ⟨"LastWordWood$Wood", "capAt", "(I)I"⟩ ⟨"LastWordWood$Wood", "capAt", "(I)I"⟩) ∈ lw_all := lw_g (lw_at lw_ms 29 rfl) rfl
theorem qs30 : (Cond.selects "LastWordWood$Wood" ⟨"LastWordWood$Wood", "allDamp", "(I)V"⟩ ⟨"LastWordWood$Wood", "allDamp", "(I)V"⟩) ∈ lw_all := lw_g (lw_at lw_ms 30 rfl) rfl
theorem qs31 : (Cond.selects "LastWordWood" ⟨"LastWordWood", "laysSpices", "(I)I"⟩ ⟨"LastWordWood", "laysSpices", "(I)I"⟩) ∈ lw_all := lw_g (lw_at lw_ms 31 rfl) rfl
theorem qs32 : (Cond.selects "LastWordWood" ⟨"LastWordWood", "spiceAt", "(I)I"⟩ ⟨"LastWordWood", "spiceAt", "(I)I"⟩) ∈ lw_all := lw_g (lw_at lw_ms 32 rfl) rfl
theorem qs33 : (Cond.selects "LastWordWood" ⟨"LastWordWood", "onwards", "(II)I"⟩ ⟨"LastWordWood", "onwards", "(II)I"⟩) ∈ lw_all := lw_g (lw_at lw_ms 33 rfl) rfl
theorem qs34 : (Cond.selects "LastWordWood" ⟨"LastWordWood", "isRound", "(II)Z"⟩ ⟨"LastWordWood", "isRound", "(II)Z"⟩) ∈ lw_all := lw_g (lw_at lw_ms 34 rfl) rfl
theorem qs35 : (Cond.selects "LastWordWood" ⟨"LastWordWood", "around", "(II)I"⟩ ⟨"LastWordWood", "around", "(II)I"⟩) ∈ lw_all := lw_g (lw_at lw_ms 35 rfl) rfl
theorem qs36 : (Cond.selects "LastWordWood" ⟨"LastWordWood", "areEngaged", "(II)Z"⟩ ⟨"LastWordWood", "areEngaged", "(II)Z"⟩) ∈ lw_all := lw_g (lw_at lw_ms 36 rfl) rfl
theorem qs37 : (Cond.selects "LastWordWoodModel" ⟨"LastWordWoodModel", "isIn", "(III)Z"⟩ ⟨"LastWordWoodModel", "isIn", "(III)Z"⟩) ∈ lw_all := lw_g (lw_at lw_ms 37 rfl) rfl
theorem qs38 : (Cond.selects "LastWordWoodModel" ⟨"LastWordWoodModel", "isCell", "(I)Z"⟩ ⟨"LastWordWoodModel", "isCell", "(I)Z"⟩) ∈ lw_all := lw_g (lw_at lw_ms 38 rfl) rfl
theorem qs39 : (Cond.selects "LastWordWoodModel" ⟨"LastWordWoodModel", "isPerson", "(I)Z"⟩ ⟨"LastWordWoodModel", "isPerson", "(I)Z"⟩) ∈ lw_all := lw_g (lw_at lw_ms 39 rfl) rfl
theorem qs40 : (Cond.selects "LastWordWoodModel" ⟨"LastWordWoodModel", "keepsAhead", "()V"⟩ ⟨"LastWordWoodModel", "keepsAhead", "()V"⟩) ∈ lw_all := lw_g (lw_at lw_ms 40 rfl) rfl
theorem qs41 : (Cond.selects "LastWordWoodModel" ⟨"LastWordWoodModel", "isWordNumber", "(I)Z"⟩ ⟨"LastWordWoodModel", "isWordNumber", "(I)Z"⟩) ∈ lw_all := lw_g (lw_at lw_ms 41 rfl) rfl
theorem qs42 : (Cond.selects "LastWordWoodModel" ⟨"LastWordWoodModel", "notes", "(III)V"⟩ ⟨"LastWordWoodModel", "notes", "(III)V"⟩) ∈ lw_all := lw_g (lw_at lw_ms 42 rfl) rfl
theorem qs43 : (Cond.selects "LastWordWoodModel" ⟨"LastWordWoodModel", "picks", "(II)V"⟩ ⟨"LastWordWoodModel", "picks", "(II)V"⟩) ∈ lw_all := lw_g (lw_at lw_ms 43 rfl) rfl
theorem qs44 : (Cond.selects "LastWordWoodModel" ⟨"LastWordWoodModel", "eats", "(II)V"⟩ ⟨"LastWordWoodModel", "eats", "(II)V"⟩) ∈ lw_all := lw_g (lw_at lw_ms 44 rfl) rfl
theorem qs45 : (Cond.selects "LastWordWoodModel" ⟨"LastWordWoodModel", "types", "(I)V"⟩ ⟨"LastWordWoodModel", "types", "(I)V"⟩) ∈ lw_all := lw_g (lw_at lw_ms 45 rfl) rfl
theorem qs46 : (Cond.selects "LastWordWoodModel" ⟨"LastWordWoodModel", "reads", "()V"⟩ ⟨"LastWordWoodModel", "reads", "()V"⟩) ∈ lw_all := lw_g (lw_at lw_ms 46 rfl) rfl
theorem qs47 : (Cond.selects "LastWordWoodModel" ⟨"LastWordWoodModel", "raw", "(I)I"⟩ ⟨"LastWordWoodModel", "raw", "(I)I"⟩) ∈ lw_all := lw_g (lw_at lw_ms 47 rfl) rfl
theorem qs48 : (Cond.selects "LastWordWoodModel" ⟨"LastWordWoodModel", "isLetter", "(I)Z"⟩ ⟨"LastWordWoodModel", "isLetter", "(I)Z"⟩) ∈ lw_all := lw_g (lw_at lw_ms 48 rfl) rfl
theorem qs49 : (Cond.selects "LastWordWoodModel" ⟨"LastWordWoodModel", "wordAt", "(II)I"⟩ ⟨"LastWordWoodModel", "wordAt", "(II)I"⟩) ∈ lw_all := lw_g (lw_at lw_ms 49 rfl) rfl
theorem qs50 : (Cond.selects "LastWordWoodModel" ⟨"LastWordWoodModel", "isDigit", "(I)Z"⟩ ⟨"LastWordWoodModel", "isDigit", "(I)Z"⟩) ∈ lw_all := lw_g (lw_at lw_ms 50 rfl) rfl
theorem qs51 : (Cond.selects "LastWordWoodModel" ⟨"LastWordWoodModel", "isMarkSign", "(I)Z"⟩ ⟨"LastWordWoodModel", "isMarkSign", "(I)Z"⟩) ∈ lw_all := lw_g (lw_at lw_ms 51 rfl) rfl
theorem qs52 : (Cond.selects "LastWordWoodModel" ⟨"LastWordWoodModel", "readText", "()I"⟩ ⟨"LastWordWoodModel", "readText", "()I"⟩) ∈ lw_all := lw_g (lw_at lw_ms 52 rfl) rfl
theorem qs53 : (Cond.selects "LastWordWoodModel" ⟨"LastWordWoodModel", "isWord", "(I)Z"⟩ ⟨"LastWordWoodModel", "isWord", "(I)Z"⟩) ∈ lw_all := lw_g (lw_at lw_ms 53 rfl) rfl
theorem qs54 : (Cond.selects "LastWordWoodModel" ⟨"LastWordWoodModel", "errs", "(I)I"⟩ ⟨"LastWordWoodModel", "errs", "(I)I"⟩) ∈ lw_all := lw_g (lw_at lw_ms 54 rfl) rfl
theorem qs55 : (Cond.selects "LastWordWoodModel" ⟨"LastWordWoodModel", "readSum", "()I"⟩ ⟨"LastWordWoodModel", "readSum", "()I"⟩) ∈ lw_all := lw_g (lw_at lw_ms 55 rfl) rfl
theorem qs56 : (Cond.selects "LastWordWoodModel" ⟨"LastWordWoodModel", "readProduct", "()I"⟩ ⟨"LastWordWoodModel", "readProduct", "()I"⟩) ∈ lw_all := lw_g (lw_at lw_ms 56 rfl) rfl
theorem qs57 : (Cond.selects "LastWordWoodModel" ⟨"LastWordWoodModel", "readUnit", "()I"⟩ ⟨"LastWordWoodModel", "readUnit", "()I"⟩) ∈ lw_all := lw_g (lw_at lw_ms 57 rfl) rfl
theorem qs58 : (Cond.selects "LastWordWoodModel" ⟨"LastWordWoodModel", "emits", "(II)V"⟩ ⟨"LastWordWoodModel", "emits", "(II)V"⟩) ∈ lw_all := lw_g (lw_at lw_ms 58 rfl) rfl
theorem qs59 : (Cond.selects "LastWordWoodModel" ⟨"LastWordWoodModel", "isSign", "(I)Z"⟩ ⟨"LastWordWoodModel", "isSign", "(I)Z"⟩) ∈ lw_all := lw_g (lw_at lw_ms 59 rfl) rfl
theorem qs60 : (Cond.selects "LastWordWoodModel" ⟨"LastWordWoodModel", "readAny", "()I"⟩ ⟨"LastWordWoodModel", "readAny", "()I"⟩) ∈ lw_all := lw_g (lw_at lw_ms 60 rfl) rfl
theorem qs61 : (Cond.selects "LastWordWoodModel" ⟨"LastWordWoodModel", "waits", "(I)V"⟩ ⟨"LastWordWoodModel", "waits", "(I)V"⟩) ∈ lw_all := lw_g (lw_at lw_ms 61 rfl) rfl
theorem qs62 : (Cond.selects "LastWordWoodModel" ⟨"LastWordWoodModel", "readCompared", "()I"⟩ ⟨"LastWordWoodModel", "readCompared", "()I"⟩) ∈ lw_all := lw_g (lw_at lw_ms 62 rfl) rfl
theorem qs63 : (Cond.selects "LastWordWoodModel" ⟨"LastWordWoodModel", "settles", "(I)V"⟩ ⟨"LastWordWoodModel", "settles", "(I)V"⟩) ∈ lw_all := lw_g (lw_at lw_ms 63 rfl) rfl
theorem qs64 : (Cond.selects "LastWordWoodModel" ⟨"LastWordWoodModel", "ends", "()Z"⟩ ⟨"LastWordWoodModel", "ends", "()Z"⟩) ∈ lw_all := lw_g (lw_at lw_ms 64 rfl) rfl
theorem qs65 : (Cond.selects "LastWordWoodModel" ⟨"LastWordWoodModel", "thinksOfSizes", "()V"⟩ ⟨"LastWordWoodModel", "thinksOfSizes", "()V"⟩) ∈ lw_all := lw_g (lw_at lw_ms 65 rfl) rfl
theorem qs66 : (Cond.selects "LastWordWoodModel" ⟨"LastWordWoodModel", "allGrow", "(II)V"⟩ ⟨"LastWordWoodModel", "allGrow", "(II)V"⟩) ∈ lw_all := lw_g (lw_at lw_ms 66 rfl) rfl
theorem qs67 : (Cond.selects "LastWordWoodModel" ⟨"LastWordWoodModel", "growsBy", "(III)I"⟩ ⟨"LastWordWoodModel", "growsBy", "(III)I"⟩) ∈ lw_all := lw_g (lw_at lw_ms 67 rfl) rfl
theorem qs68 : (Cond.selects "LastWordWoodModel" ⟨"LastWordWoodModel", "capsBeside", "(II)I"⟩ ⟨"LastWordWoodModel", "capsBeside", "(II)I"⟩) ∈ lw_all := lw_g (lw_at lw_ms 68 rfl) rfl
theorem qs69 : (Cond.selects "LastWordWoodModel" ⟨"LastWordWoodModel", "farOf", "(II)I"⟩ ⟨"LastWordWoodModel", "farOf", "(II)I"⟩) ∈ lw_all := lw_g (lw_at lw_ms 69 rfl) rfl
theorem qs70 : (Cond.selects "LastWordWoodModel" ⟨"LastWordWoodModel", "without", "(I)I"⟩ ⟨"LastWordWoodModel", "without", "(I)I"⟩) ∈ lw_all := lw_g (lw_at lw_ms 70 rfl) rfl
theorem qs71 : (Cond.selects "LastWordWoodModel" ⟨"LastWordWoodModel", "isSo", "(I)Z"⟩ ⟨"LastWordWoodModel", "isSo", "(I)Z"⟩) ∈ lw_all := lw_g (lw_at lw_ms 71 rfl) rfl
theorem qs72 : (Cond.selects "LastWordWoodModel" ⟨"LastWordWoodModel", "runs", "(II)I"⟩ ⟨"LastWordWoodModel", "runs", "(II)I"⟩) ∈ lw_all := lw_g (lw_at lw_ms 72 rfl) rfl
theorem qs73 : (Cond.selects "LastWordWoodModel" ⟨"LastWordWoodModel", "twoOf", "(III)I"⟩ ⟨"LastWordWoodModel", "twoOf", "(III)I"⟩) ∈ lw_all := lw_g (lw_at lw_ms 73 rfl) rfl
theorem qs74 : (Cond.selects "LastWordWoodModel" ⟨"LastWordWoodModel", "isEaten", "()Z"⟩ ⟨"LastWordWoodModel", "isEaten", "()Z"⟩) ∈ lw_all := lw_g (lw_at lw_ms 74 rfl) rfl
theorem qs75 : (Cond.selects "LastWordWoodModel" ⟨"LastWordWoodModel", "caps", "()I"⟩ ⟨"LastWordWoodModel", "caps", "()I"⟩) ∈ lw_all := lw_g (lw_at lw_ms 75 rfl) rfl
theorem qs76 : (Cond.selects "LastWordWoodModel" ⟨"LastWordWoodModel", "draw", "(I)I"⟩ ⟨"LastWordWoodModel", "draw", "(I)I"⟩) ∈ lw_all := lw_g (lw_at lw_ms 76 rfl) rfl
theorem qs77 : (Cond.selects "LastWordWoodModel" ⟨"LastWordWoodModel", "rains", "()V"⟩ ⟨"LastWordWoodModel", "rains", "()V"⟩) ∈ lw_all := lw_g (lw_at lw_ms 77 rfl) rfl
theorem qs78 : (Cond.selects "LastWordWoodModel" ⟨"LastWordWoodModel", "ones", "(I)I"⟩ ⟨"LastWordWoodModel", "ones", "(I)I"⟩) ∈ lw_all := lw_g (lw_at lw_ms 78 rfl) rfl
theorem qs79 : (Cond.selects "LastWordWoodModel" ⟨"LastWordWoodModel", "wayFrom", "(II)I"⟩ ⟨"LastWordWoodModel", "wayFrom", "(II)I"⟩) ∈ lw_all := lw_g (lw_at lw_ms 79 rfl) rfl
theorem qs80 : (Cond.selects "LastWordWoodModel" ⟨"LastWordWoodModel", "wayBy", "(III)I"⟩ ⟨"LastWordWoodModel", "wayBy", "(III)I"⟩) ∈ lw_all := lw_g (lw_at lw_ms 80 rfl) rfl
theorem qs81 : (Cond.selects "LastWordWoodModel" ⟨"LastWordWoodModel", "isAround", "(II)Z"⟩ ⟨"LastWordWoodModel", "isAround", "(II)Z"⟩) ∈ lw_all := lw_g (lw_at lw_ms 81 rfl) rfl
theorem qs82 : (Cond.selects "LastWordWoodModel" ⟨"LastWordWoodModel", "isCapAround", "(III)Z"⟩ ⟨"LastWordWoodModel", "isCapAround", "(III)Z"⟩) ∈ lw_all := lw_g (lw_at lw_ms 82 rfl) rfl
theorem qs83 : (Cond.selects "LastWordWoodModel" ⟨"LastWordWoodModel", "waysOf", "(II)I"⟩ ⟨"LastWordWoodModel", "waysOf", "(II)I"⟩) ∈ lw_all := lw_g (lw_at lw_ms 83 rfl) rfl
theorem qs84 : (Cond.selects "LastWordWoodModel" ⟨"LastWordWoodModel", "groveAt", "(II)I"⟩ ⟨"LastWordWoodModel", "groveAt", "(II)I"⟩) ∈ lw_all := lw_g (lw_at lw_ms 84 rfl) rfl
theorem qs85 : (Cond.selects "LastWordWoodModel" ⟨"LastWordWoodModel", "areEngaged", "(II)Z"⟩ ⟨"LastWordWoodModel", "areEngaged", "(II)Z"⟩) ∈ lw_all := lw_g (lw_at lw_ms 85 rfl) rfl
theorem qs86 : (Cond.selects "LastWordWoodModel" ⟨"LastWordWoodModel", "isCap", "(I)Z"⟩ ⟨"LastWordWoodModel", "isCap", "(I)Z"⟩) ∈ lw_all := lw_g (lw_at lw_ms 86 rfl) rfl
theorem qs87 : (Cond.selects "LastWordWoodModel" ⟨"LastWordWoodModel", "allSizes", "()I"⟩ ⟨"LastWordWoodModel", "allSizes", "()I"⟩) ∈ lw_all := lw_g (lw_at lw_ms 87 rfl) rfl
theorem qs88 : (Cond.selects "LastWordWoodModel" ⟨"LastWordWoodModel", "kept", "(I)I"⟩ ⟨"LastWordWoodModel", "kept", "(I)I"⟩) ∈ lw_all := lw_g (lw_at lw_ms 88 rfl) rfl
theorem qs89 : (Cond.selects "LastWordWoodModel" ⟨"LastWordWoodModel", "keepsLaw", "()V"⟩ ⟨"LastWordWoodModel", "keepsLaw", "()V"⟩) ∈ lw_all := lw_g (lw_at lw_ms 89 rfl) rfl
