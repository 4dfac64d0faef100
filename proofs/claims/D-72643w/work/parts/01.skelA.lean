-- ===== PART A: goes FIRST, ahead of the names: the tables' words, and 'selects' of the private methods out of them =====
/-- a private method of a class that the tables say can be made, by its rows of tables_1 -/
def lw_okq (q : MethodName × Nat) : Prop := (q.1.cls ≠ "java/lang/invoke/MethodHandle" ∧ q.1.cls ≠ "java/lang/invoke/VarHandle") ∧ Cond.instantiable q.1.cls q.2 ∈ tables_1 ∧ Cond.privateMethod q.1 ∈ tables_1 ∧ Cond.instanceMethod q.1 ∈ tables_1
set_option maxRecDepth 100000
theorem lw_t1 {w : Cond} (h : w ∈ tables_1_1) : w ∈ tables_1 := List.mem_append_left _ h
theorem lw_t2 {w : Cond} (h : w ∈ tables_1_2) : w ∈ tables_1 := List.mem_append_right _ (List.mem_append_left _ h)
theorem lw_t3 {w : Cond} (h : w ∈ tables_1_3) : w ∈ tables_1 := List.mem_append_right _ (List.mem_append_right _ (List.mem_append_left _ h))
theorem lw_t4 {w : Cond} (h : w ∈ tables_1_4) : w ∈ tables_1 := List.mem_append_right _ (List.mem_append_right _ (List.mem_append_right _ (List.mem_append_left _ h)))
theorem lw_t5 {w : Cond} (h : w ∈ tables_1_5) : w ∈ tables_1 := List.mem_append_right _ (List.mem_append_right _ (List.mem_append_right _ (List.mem_append_right _ (List.mem_append_left _ h))))
theorem lw_t6 {w : Cond} (h : w ∈ tables_1_6) : w ∈ tables_1 := List.mem_append_right _ (List.mem_append_right _ (List.mem_append_right _ (List.mem_append_right _ (List.mem_append_right _ h))))
theorem lw_p0 : lw_okq (⟨"StoryColumns$Reading", "size", "()I"⟩, 4) := ⟨⟨by decide +kernel, by decide +kernel⟩, lw_t2 (List.mem_of_getElem? (i := 18) rfl), lw_t2 (List.mem_of_getElem? (i := 16) rfl), lw_t2 (List.mem_of_getElem? (i := 17) rfl)⟩
theorem lw_p1 : lw_okq (⟨"java/util/ArrayList", "add", "(Ljava/lang/Object;[Ljava/lang/Object;I)V"⟩, 3) := ⟨⟨by decide +kernel, by decide +kernel⟩, lw_t1 (List.mem_of_getElem? (i := 31) rfl), lw_t2 (List.mem_of_getElem? (i := 157) rfl), lw_t2 (List.mem_of_getElem? (i := 158) rfl)⟩
theorem lw_p2 : lw_okq (⟨"java/util/ArrayList", "grow", "()[Ljava/lang/Object;"⟩, 3) := ⟨⟨by decide +kernel, by decide +kernel⟩, lw_t1 (List.mem_of_getElem? (i := 31) rfl), lw_t2 (List.mem_of_getElem? (i := 161) rfl), lw_t2 (List.mem_of_getElem? (i := 162) rfl)⟩
theorem lw_p3 : lw_okq (⟨"java/util/ArrayList", "grow", "(I)[Ljava/lang/Object;"⟩, 3) := ⟨⟨by decide +kernel, by decide +kernel⟩, lw_t1 (List.mem_of_getElem? (i := 31) rfl), lw_t2 (List.mem_of_getElem? (i := 165) rfl), lw_t2 (List.mem_of_getElem? (i := 166) rfl)⟩
theorem lw_p4 : lw_okq (⟨"StoryColumns", "changed", "(I)I"⟩, 6) := ⟨⟨by decide +kernel, by decide +kernel⟩, lw_t1 (List.mem_of_getElem? (i := 23) rfl), lw_t2 (List.mem_of_getElem? (i := 213) rfl), lw_t2 (List.mem_of_getElem? (i := 214) rfl)⟩
theorem lw_p5 : lw_okq (⟨"StoryColumns", "isBlock", "(I)Z"⟩, 6) := ⟨⟨by decide +kernel, by decide +kernel⟩, lw_t1 (List.mem_of_getElem? (i := 23) rfl), lw_t2 (List.mem_of_getElem? (i := 221) rfl), lw_t2 (List.mem_of_getElem? (i := 222) rfl)⟩
theorem lw_p6 : lw_okq (⟨"java/util/ArrayList", "fastRemove", "([Ljava/lang/Object;I)V"⟩, 3) := ⟨⟨by decide +kernel, by decide +kernel⟩, lw_t1 (List.mem_of_getElem? (i := 31) rfl), lw_t3 (List.mem_of_getElem? (i := 51) rfl), lw_t3 (List.mem_of_getElem? (i := 52) rfl)⟩
theorem lw_p7 : lw_okq (⟨"StoryColumns", "isBarred", "(IIII)Z"⟩, 6) := ⟨⟨by decide +kernel, by decide +kernel⟩, lw_t1 (List.mem_of_getElem? (i := 23) rfl), lw_t3 (List.mem_of_getElem? (i := 114) rfl), lw_t3 (List.mem_of_getElem? (i := 115) rfl)⟩
theorem lw_p8 : lw_okq (⟨"StoryColumns", "knows", "()V"⟩, 6) := ⟨⟨by decide +kernel, by decide +kernel⟩, lw_t1 (List.mem_of_getElem? (i := 23) rfl), lw_t3 (List.mem_of_getElem? (i := 134) rfl), lw_t3 (List.mem_of_getElem? (i := 135) rfl)⟩
theorem lw_p9 : lw_okq (⟨"StoryColumns", "gathers", "()V"⟩, 6) := ⟨⟨by decide +kernel, by decide +kernel⟩, lw_t1 (List.mem_of_getElem? (i := 23) rfl), lw_t3 (List.mem_of_getElem? (i := 138) rfl), lw_t3 (List.mem_of_getElem? (i := 139) rfl)⟩
theorem lw_p10 : lw_okq (⟨"StoryColumns$Story", "isAhead", "(LStoryColumns$Block;LStoryColumns$Block;)Z"⟩, 8) := ⟨⟨by decide +kernel, by decide +kernel⟩, lw_t3 (List.mem_of_getElem? (i := 148) rfl), lw_t3 (List.mem_of_getElem? (i := 204) rfl), lw_t3 (List.mem_of_getElem? (i := 205) rfl)⟩
theorem lw_p11 : lw_okq (⟨"java/util/ArrayList", "rangeCheckForAdd", "(I)V"⟩, 3) := ⟨⟨by decide +kernel, by decide +kernel⟩, lw_t1 (List.mem_of_getElem? (i := 31) rfl), lw_t3 (List.mem_of_getElem? (i := 217) rfl), lw_t3 (List.mem_of_getElem? (i := 218) rfl)⟩
theorem lw_p12 : lw_okq (⟨"StoryColumns", "joinsOne", "()Z"⟩, 6) := ⟨⟨by decide +kernel, by decide +kernel⟩, lw_t1 (List.mem_of_getElem? (i := 23) rfl), lw_t3 (List.mem_of_getElem? (i := 221) rfl), lw_t3 (List.mem_of_getElem? (i := 222) rfl)⟩
theorem lw_p13 : lw_okq (⟨"StoryColumns", "takerOf", "(LStoryColumns$Block;)LStoryColumns$Block;"⟩, 6) := ⟨⟨by decide +kernel, by decide +kernel⟩, lw_t1 (List.mem_of_getElem? (i := 23) rfl), lw_t3 (List.mem_of_getElem? (i := 225) rfl), lw_t3 (List.mem_of_getElem? (i := 226) rfl)⟩
theorem lw_p14 : lw_okq (⟨"StoryColumns", "laysStories", "()V"⟩, 6) := ⟨⟨by decide +kernel, by decide +kernel⟩, lw_t1 (List.mem_of_getElem? (i := 23) rfl), lw_t4 (List.mem_of_getElem? (i := 5) rfl), lw_t4 (List.mem_of_getElem? (i := 6) rfl)⟩
theorem lw_p15 : lw_okq (⟨"StoryColumns", "links", "()V"⟩, 6) := ⟨⟨by decide +kernel, by decide +kernel⟩, lw_t1 (List.mem_of_getElem? (i := 23) rfl), lw_t4 (List.mem_of_getElem? (i := 28) rfl), lw_t4 (List.mem_of_getElem? (i := 29) rfl)⟩
def lw_privs_1 : List (MethodName × Nat) := [(⟨"StoryColumns$Reading", "size", "()I"⟩, 4), (⟨"java/util/ArrayList", "add", "(Ljava/lang/Object;[Ljava/lang/Object;I)V"⟩, 3), (⟨"java/util/ArrayList", "grow", "()[Ljava/lang/Object;"⟩, 3), (⟨"java/util/ArrayList", "grow", "(I)[Ljava/lang/Object;"⟩, 3), (⟨"StoryColumns", "changed", "(I)I"⟩, 6), (⟨"StoryColumns", "isBlock", "(I)Z"⟩, 6), (⟨"java/util/ArrayList", "fastRemove", "([Ljava/lang/Object;I)V"⟩, 3), (⟨"StoryColumns", "isBarred", "(IIII)Z"⟩, 6), (⟨"StoryColumns", "knows", "()V"⟩, 6), (⟨"StoryColumns", "gathers", "()V"⟩, 6), (⟨"StoryColumns$Story", "isAhead", "(LStoryColumns$Block;LStoryColumns$Block;)Z"⟩, 8), (⟨"java/util/ArrayList", "rangeCheckForAdd", "(I)V"⟩, 3), (⟨"StoryColumns", "joinsOne", "()Z"⟩, 6), (⟨"StoryColumns", "takerOf", "(LStoryColumns$Block;)LStoryColumns$Block;"⟩, 6), (⟨"StoryColumns", "laysStories", "()V"⟩, 6), (⟨"StoryColumns", "links", "()V"⟩, 6)]
theorem lw_r1 : ∀ q ∈ lw_privs_1, lw_okq q := List.forall_mem_cons.mpr ⟨lw_p0, List.forall_mem_cons.mpr ⟨lw_p1, List.forall_mem_cons.mpr ⟨lw_p2, List.forall_mem_cons.mpr ⟨lw_p3, List.forall_mem_cons.mpr ⟨lw_p4, List.forall_mem_cons.mpr ⟨lw_p5, List.forall_mem_cons.mpr ⟨lw_p6, List.forall_mem_cons.mpr ⟨lw_p7, List.forall_mem_cons.mpr ⟨lw_p8, List.forall_mem_cons.mpr ⟨lw_p9, List.forall_mem_cons.mpr ⟨lw_p10, List.forall_mem_cons.mpr ⟨lw_p11, List.forall_mem_cons.mpr ⟨lw_p12, List.forall_mem_cons.mpr ⟨lw_p13, List.forall_mem_cons.mpr ⟨lw_p14, List.forall_mem_cons.mpr ⟨lw_p15, fun _ h => absurd h List.not_mem_nil⟩⟩⟩⟩⟩⟩⟩⟩⟩⟩⟩⟩⟩⟩⟩⟩
theorem lw_p16 : lw_okq (⟨"StoryColumns", "laysArticles", "()V"⟩, 6) := ⟨⟨by decide +kernel, by decide +kernel⟩, lw_t1 (List.mem_of_getElem? (i := 23) rfl), lw_t4 (List.mem_of_getElem? (i := 50) rfl), lw_t4 (List.mem_of_getElem? (i := 51) rfl)⟩
theorem lw_p17 : lw_okq (⟨"StoryColumns", "follows", "(LStoryColumns$Story;)V"⟩, 6) := ⟨⟨by decide +kernel, by decide +kernel⟩, lw_t1 (List.mem_of_getElem? (i := 23) rfl), lw_t4 (List.mem_of_getElem? (i := 54) rfl), lw_t4 (List.mem_of_getElem? (i := 55) rfl)⟩
theorem lw_p18 : lw_okq (⟨"StoryColumns", "isStory", "(I)Z"⟩, 6) := ⟨⟨by decide +kernel, by decide +kernel⟩, lw_t1 (List.mem_of_getElem? (i := 23) rfl), lw_t4 (List.mem_of_getElem? (i := 70) rfl), lw_t4 (List.mem_of_getElem? (i := 71) rfl)⟩
theorem lw_p19 : lw_okq (⟨"StoryColumns", "isArticle", "(I)Z"⟩, 6) := ⟨⟨by decide +kernel, by decide +kernel⟩, lw_t1 (List.mem_of_getElem? (i := 23) rfl), lw_t4 (List.mem_of_getElem? (i := 126) rfl), lw_t4 (List.mem_of_getElem? (i := 127) rfl)⟩
theorem lw_p20 : lw_okq (⟨"StoryColumns", "sum", "(IZZ)I"⟩, 6) := ⟨⟨by decide +kernel, by decide +kernel⟩, lw_t1 (List.mem_of_getElem? (i := 23) rfl), lw_t4 (List.mem_of_getElem? (i := 130) rfl), lw_t4 (List.mem_of_getElem? (i := 131) rfl)⟩
theorem lw_p21 : lw_okq (⟨"StoryColumns", "chain", "(I)Ljava/lang/Iterable;"⟩, 6) := ⟨⟨by decide +kernel, by decide +kernel⟩, lw_t1 (List.mem_of_getElem? (i := 23) rfl), lw_t4 (List.mem_of_getElem? (i := 154) rfl), lw_t4 (List.mem_of_getElem? (i := 155) rfl)⟩
theorem lw_p22 : lw_okq (⟨"StoryColumns", "pagesOf", "(I)I"⟩, 6) := ⟨⟨by decide +kernel, by decide +kernel⟩, lw_t1 (List.mem_of_getElem? (i := 23) rfl), lw_t4 (List.mem_of_getElem? (i := 204) rfl), lw_t4 (List.mem_of_getElem? (i := 205) rfl)⟩
theorem lw_p23 : lw_okq (⟨"StoryColumns", "isBrokenOff", "(I)Z"⟩, 6) := ⟨⟨by decide +kernel, by decide +kernel⟩, lw_t1 (List.mem_of_getElem? (i := 23) rfl), lw_t4 (List.mem_of_getElem? (i := 231) rfl), lw_t4 (List.mem_of_getElem? (i := 232) rfl)⟩
theorem lw_p24 : lw_okq (⟨"StoryColumns", "manyOf", "(I)I"⟩, 6) := ⟨⟨by decide +kernel, by decide +kernel⟩, lw_t1 (List.mem_of_getElem? (i := 23) rfl), lw_t5 (List.mem_of_getElem? (i := 3) rfl), lw_t5 (List.mem_of_getElem? (i := 4) rfl)⟩
theorem lw_p25 : lw_okq (⟨"StoryColumns", "manyBlocks", "(I)I"⟩, 6) := ⟨⟨by decide +kernel, by decide +kernel⟩, lw_t1 (List.mem_of_getElem? (i := 23) rfl), lw_t5 (List.mem_of_getElem? (i := 7) rfl), lw_t5 (List.mem_of_getElem? (i := 8) rfl)⟩
theorem lw_p26 : lw_okq (⟨"StoryColumns", "manyBroken", "()I"⟩, 6) := ⟨⟨by decide +kernel, by decide +kernel⟩, lw_t1 (List.mem_of_getElem? (i := 23) rfl), lw_t5 (List.mem_of_getElem? (i := 11) rfl), lw_t5 (List.mem_of_getElem? (i := 12) rfl)⟩
theorem lw_p27 : lw_okq (⟨"StoryColumnsModel", "isMeeting", "(IIIII)Z"⟩, 34) := ⟨⟨by decide +kernel, by decide +kernel⟩, lw_t5 (List.mem_of_getElem? (i := 15) rfl), lw_t5 (List.mem_of_getElem? (i := 133) rfl), lw_t5 (List.mem_of_getElem? (i := 134) rfl)⟩
theorem lw_p28 : lw_okq (⟨"StoryColumnsModel", "isBlock", "(I)Z"⟩, 34) := ⟨⟨by decide +kernel, by decide +kernel⟩, lw_t5 (List.mem_of_getElem? (i := 15) rfl), lw_t5 (List.mem_of_getElem? (i := 141) rfl), lw_t5 (List.mem_of_getElem? (i := 142) rfl)⟩
theorem lw_p29 : lw_okq (⟨"StoryColumnsModel", "isHead", "(I)Z"⟩, 34) := ⟨⟨by decide +kernel, by decide +kernel⟩, lw_t5 (List.mem_of_getElem? (i := 15) rfl), lw_t5 (List.mem_of_getElem? (i := 181) rfl), lw_t5 (List.mem_of_getElem? (i := 182) rfl)⟩
theorem lw_p30 : lw_okq (⟨"StoryColumnsModel", "lastRow", "(II)I"⟩, 34) := ⟨⟨by decide +kernel, by decide +kernel⟩, lw_t5 (List.mem_of_getElem? (i := 15) rfl), lw_t5 (List.mem_of_getElem? (i := 185) rfl), lw_t5 (List.mem_of_getElem? (i := 186) rfl)⟩
theorem lw_p31 : lw_okq (⟨"StoryColumnsModel", "reachesAcross", "(II)Z"⟩, 34) := ⟨⟨by decide +kernel, by decide +kernel⟩, lw_t5 (List.mem_of_getElem? (i := 15) rfl), lw_t5 (List.mem_of_getElem? (i := 189) rfl), lw_t5 (List.mem_of_getElem? (i := 190) rfl)⟩
def lw_privs_2 : List (MethodName × Nat) := [(⟨"StoryColumns", "laysArticles", "()V"⟩, 6), (⟨"StoryColumns", "follows", "(LStoryColumns$Story;)V"⟩, 6), (⟨"StoryColumns", "isStory", "(I)Z"⟩, 6), (⟨"StoryColumns", "isArticle", "(I)Z"⟩, 6), (⟨"StoryColumns", "sum", "(IZZ)I"⟩, 6), (⟨"StoryColumns", "chain", "(I)Ljava/lang/Iterable;"⟩, 6), (⟨"StoryColumns", "pagesOf", "(I)I"⟩, 6), (⟨"StoryColumns", "isBrokenOff", "(I)Z"⟩, 6), (⟨"StoryColumns", "manyOf", "(I)I"⟩, 6), (⟨"StoryColumns", "manyBlocks", "(I)I"⟩, 6), (⟨"StoryColumns", "manyBroken", "()I"⟩, 6), (⟨"StoryColumnsModel", "isMeeting", "(IIIII)Z"⟩, 34), (⟨"StoryColumnsModel", "isBlock", "(I)Z"⟩, 34), (⟨"StoryColumnsModel", "isHead", "(I)Z"⟩, 34), (⟨"StoryColumnsModel", "lastRow", "(II)I"⟩, 34), (⟨"StoryColumnsModel", "reachesAcross", "(II)Z"⟩, 34)]
theorem lw_r2 : ∀ q ∈ lw_privs_2, lw_okq q := List.forall_mem_cons.mpr ⟨lw_p16, List.forall_mem_cons.mpr ⟨lw_p17, List.forall_mem_cons.mpr ⟨lw_p18, List.forall_mem_cons.mpr ⟨lw_p19, List.forall_mem_cons.mpr ⟨lw_p20, List.forall_mem_cons.mpr ⟨lw_p21, List.forall_mem_cons.mpr ⟨lw_p22, List.forall_mem_cons.mpr ⟨lw_p23, List.forall_mem_cons.mpr ⟨lw_p24, List.forall_mem_cons.mpr ⟨lw_p25, List.forall_mem_cons.mpr ⟨lw_p26, List.forall_mem_cons.mpr ⟨lw_p27, List.forall_mem_cons.mpr ⟨lw_p28, List.forall_mem_cons.mpr ⟨lw_p29, List.forall_mem_cons.mpr ⟨lw_p30, List.forall_mem_cons.mpr ⟨lw_p31, fun _ h => absurd h List.not_mem_nil⟩⟩⟩⟩⟩⟩⟩⟩⟩⟩⟩⟩⟩⟩⟩⟩
theorem lw_p32 : lw_okq (⟨"StoryColumnsModel", "isUpright", "(IIII)Z"⟩, 34) := ⟨⟨by decide +kernel, by decide +kernel⟩, lw_t5 (List.mem_of_getElem? (i := 15) rfl), lw_t5 (List.mem_of_getElem? (i := 193) rfl), lw_t5 (List.mem_of_getElem? (i := 194) rfl)⟩
theorem lw_p33 : lw_okq (⟨"StoryColumnsModel", "headOver", "(I)I"⟩, 34) := ⟨⟨by decide +kernel, by decide +kernel⟩, lw_t5 (List.mem_of_getElem? (i := 15) rfl), lw_t5 (List.mem_of_getElem? (i := 201) rfl), lw_t5 (List.mem_of_getElem? (i := 202) rfl)⟩
theorem lw_p34 : lw_okq (⟨"StoryColumnsModel", "findStories", "()V"⟩, 34) := ⟨⟨by decide +kernel, by decide +kernel⟩, lw_t5 (List.mem_of_getElem? (i := 15) rfl), lw_t5 (List.mem_of_getElem? (i := 209) rfl), lw_t5 (List.mem_of_getElem? (i := 210) rfl)⟩
theorem lw_p35 : lw_okq (⟨"StoryColumnsModel", "comesUnder", "(II)V"⟩, 34) := ⟨⟨by decide +kernel, by decide +kernel⟩, lw_t5 (List.mem_of_getElem? (i := 15) rfl), lw_t5 (List.mem_of_getElem? (i := 213) rfl), lw_t5 (List.mem_of_getElem? (i := 214) rfl)⟩
theorem lw_p36 : lw_okq (⟨"StoryColumnsModel", "comesBehind", "(II)V"⟩, 34) := ⟨⟨by decide +kernel, by decide +kernel⟩, lw_t5 (List.mem_of_getElem? (i := 15) rfl), lw_t5 (List.mem_of_getElem? (i := 217) rfl), lw_t5 (List.mem_of_getElem? (i := 218) rfl)⟩
theorem lw_p37 : lw_okq (⟨"StoryColumnsModel", "isAhead", "(II)Z"⟩, 34) := ⟨⟨by decide +kernel, by decide +kernel⟩, lw_t5 (List.mem_of_getElem? (i := 15) rfl), lw_t5 (List.mem_of_getElem? (i := 221) rfl), lw_t5 (List.mem_of_getElem? (i := 222) rfl)⟩
theorem lw_p38 : lw_okq (⟨"StoryColumnsModel", "joins", "()Z"⟩, 34) := ⟨⟨by decide +kernel, by decide +kernel⟩, lw_t5 (List.mem_of_getElem? (i := 15) rfl), lw_t5 (List.mem_of_getElem? (i := 225) rfl), lw_t5 (List.mem_of_getElem? (i := 226) rfl)⟩
theorem lw_p39 : lw_okq (⟨"StoryColumnsModel", "takerNow", "(I)I"⟩, 34) := ⟨⟨by decide +kernel, by decide +kernel⟩, lw_t5 (List.mem_of_getElem? (i := 15) rfl), lw_t5 (List.mem_of_getElem? (i := 229) rfl), lw_t5 (List.mem_of_getElem? (i := 230) rfl)⟩
theorem lw_p40 : lw_okq (⟨"StoryColumnsModel", "takes", "(II)Z"⟩, 34) := ⟨⟨by decide +kernel, by decide +kernel⟩, lw_t5 (List.mem_of_getElem? (i := 15) rfl), lw_t5 (List.mem_of_getElem? (i := 233) rfl), lw_t5 (List.mem_of_getElem? (i := 234) rfl)⟩
theorem lw_p41 : lw_okq (⟨"StoryColumnsModel", "isStory", "(I)Z"⟩, 34) := ⟨⟨by decide +kernel, by decide +kernel⟩, lw_t5 (List.mem_of_getElem? (i := 15) rfl), lw_t6 (List.mem_of_getElem? (i := 17) rfl), lw_t6 (List.mem_of_getElem? (i := 18) rfl)⟩
theorem lw_p42 : lw_okq (⟨"StoryColumnsModel", "findArticles", "()V"⟩, 34) := ⟨⟨by decide +kernel, by decide +kernel⟩, lw_t5 (List.mem_of_getElem? (i := 15) rfl), lw_t6 (List.mem_of_getElem? (i := 21) rfl), lw_t6 (List.mem_of_getElem? (i := 22) rfl)⟩
theorem lw_p43 : lw_okq (⟨"StoryColumnsModel", "onwardOf", "(I)I"⟩, 34) := ⟨⟨by decide +kernel, by decide +kernel⟩, lw_t5 (List.mem_of_getElem? (i := 15) rfl), lw_t6 (List.mem_of_getElem? (i := 25) rfl), lw_t6 (List.mem_of_getElem? (i := 26) rfl)⟩
theorem lw_p44 : lw_okq (⟨"StoryColumnsModel", "aimBy", "(I)I"⟩, 34) := ⟨⟨by decide +kernel, by decide +kernel⟩, lw_t5 (List.mem_of_getElem? (i := 15) rfl), lw_t6 (List.mem_of_getElem? (i := 29) rfl), lw_t6 (List.mem_of_getElem? (i := 30) rfl)⟩
theorem lw_p45 : lw_okq (⟨"StoryColumnsModel", "lays", "(IZ)V"⟩, 34) := ⟨⟨by decide +kernel, by decide +kernel⟩, lw_t5 (List.mem_of_getElem? (i := 15) rfl), lw_t6 (List.mem_of_getElem? (i := 33) rfl), lw_t6 (List.mem_of_getElem? (i := 34) rfl)⟩
theorem lw_p46 : lw_okq (⟨"StoryColumnsModel", "wordsIn", "(I)I"⟩, 34) := ⟨⟨by decide +kernel, by decide +kernel⟩, lw_t5 (List.mem_of_getElem? (i := 15) rfl), lw_t6 (List.mem_of_getElem? (i := 37) rfl), lw_t6 (List.mem_of_getElem? (i := 38) rfl)⟩
theorem lw_p47 : lw_okq (⟨"StoryColumnsModel", "manyIn", "(IZ)I"⟩, 34) := ⟨⟨by decide +kernel, by decide +kernel⟩, lw_t5 (List.mem_of_getElem? (i := 15) rfl), lw_t6 (List.mem_of_getElem? (i := 41) rfl), lw_t6 (List.mem_of_getElem? (i := 42) rfl)⟩
def lw_privs_3 : List (MethodName × Nat) := [(⟨"StoryColumnsModel", "isUpright", "(IIII)Z"⟩, 34), (⟨"StoryColumnsModel", "headOver", "(I)I"⟩, 34), (⟨"StoryColumnsModel", "findStories", "()V"⟩, 34), (⟨"StoryColumnsModel", "comesUnder", "(II)V"⟩, 34), (⟨"StoryColumnsModel", "comesBehind", "(II)V"⟩, 34), (⟨"StoryColumnsModel", "isAhead", "(II)Z"⟩, 34), (⟨"StoryColumnsModel", "joins", "()Z"⟩, 34), (⟨"StoryColumnsModel", "takerNow", "(I)I"⟩, 34), (⟨"StoryColumnsModel", "takes", "(II)Z"⟩, 34), (⟨"StoryColumnsModel", "isStory", "(I)Z"⟩, 34), (⟨"StoryColumnsModel", "findArticles", "()V"⟩, 34), (⟨"StoryColumnsModel", "onwardOf", "(I)I"⟩, 34), (⟨"StoryColumnsModel", "aimBy", "(I)I"⟩, 34), (⟨"StoryColumnsModel", "lays", "(IZ)V"⟩, 34), (⟨"StoryColumnsModel", "wordsIn", "(I)I"⟩, 34), (⟨"StoryColumnsModel", "manyIn", "(IZ)I"⟩, 34)]
theorem lw_r3 : ∀ q ∈ lw_privs_3, lw_okq q := List.forall_mem_cons.mpr ⟨lw_p32, List.forall_mem_cons.mpr ⟨lw_p33, List.forall_mem_cons.mpr ⟨lw_p34, List.forall_mem_cons.mpr ⟨lw_p35, List.forall_mem_cons.mpr ⟨lw_p36, List.forall_mem_cons.mpr ⟨lw_p37, List.forall_mem_cons.mpr ⟨lw_p38, List.forall_mem_cons.mpr ⟨lw_p39, List.forall_mem_cons.mpr ⟨lw_p40, List.forall_mem_cons.mpr ⟨lw_p41, List.forall_mem_cons.mpr ⟨lw_p42, List.forall_mem_cons.mpr ⟨lw_p43, List.forall_mem_cons.mpr ⟨lw_p44, List.forall_mem_cons.mpr ⟨lw_p45, List.forall_mem_cons.mpr ⟨lw_p46, List.forall_mem_cons.mpr ⟨lw_p47, fun _ h => absurd h List.not_mem_nil⟩⟩⟩⟩⟩⟩⟩⟩⟩⟩⟩⟩⟩⟩⟩⟩
theorem lw_p48 : lw_okq (⟨"StoryColumnsModel", "isBroken", "(I)Z"⟩, 34) := ⟨⟨by decide +kernel, by decide +kernel⟩, lw_t5 (List.mem_of_getElem? (i := 15) rfl), lw_t6 (List.mem_of_getElem? (i := 45) rfl), lw_t6 (List.mem_of_getElem? (i := 46) rfl)⟩
theorem lw_p49 : lw_okq (⟨"StoryColumnsModel", "isArticle", "(I)Z"⟩, 34) := ⟨⟨by decide +kernel, by decide +kernel⟩, lw_t5 (List.mem_of_getElem? (i := 15) rfl), lw_t6 (List.mem_of_getElem? (i := 57) rfl), lw_t6 (List.mem_of_getElem? (i := 58) rfl)⟩
theorem lw_p50 : lw_okq (⟨"StoryColumnsModel", "sumOf", "(IZ)I"⟩, 34) := ⟨⟨by decide +kernel, by decide +kernel⟩, lw_t5 (List.mem_of_getElem? (i := 15) rfl), lw_t6 (List.mem_of_getElem? (i := 61) rfl), lw_t6 (List.mem_of_getElem? (i := 62) rfl)⟩
theorem lw_p51 : lw_okq (⟨"StoryColumnsModel", "pagesOf", "(I)I"⟩, 34) := ⟨⟨by decide +kernel, by decide +kernel⟩, lw_t5 (List.mem_of_getElem? (i := 15) rfl), lw_t6 (List.mem_of_getElem? (i := 65) rfl), lw_t6 (List.mem_of_getElem? (i := 66) rfl)⟩
theorem lw_p52 : lw_okq (⟨"StoryColumnsModel", "manyOfKind", "(I)I"⟩, 34) := ⟨⟨by decide +kernel, by decide +kernel⟩, lw_t5 (List.mem_of_getElem? (i := 15) rfl), lw_t6 (List.mem_of_getElem? (i := 77) rfl), lw_t6 (List.mem_of_getElem? (i := 78) rfl)⟩
theorem lw_p53 : lw_okq (⟨"StoryColumnsModel", "manyTexts", "(Z)I"⟩, 34) := ⟨⟨by decide +kernel, by decide +kernel⟩, lw_t5 (List.mem_of_getElem? (i := 15) rfl), lw_t6 (List.mem_of_getElem? (i := 81) rfl), lw_t6 (List.mem_of_getElem? (i := 82) rfl)⟩
theorem lw_p54 : lw_okq (⟨"StoryColumnsModel", "manyRings", "()I"⟩, 34) := ⟨⟨by decide +kernel, by decide +kernel⟩, lw_t5 (List.mem_of_getElem? (i := 15) rfl), lw_t6 (List.mem_of_getElem? (i := 85) rfl), lw_t6 (List.mem_of_getElem? (i := 86) rfl)⟩
theorem lw_p55 : lw_okq (⟨"StoryColumnsModel", "manyBroken", "()I"⟩, 34) := ⟨⟨by decide +kernel, by decide +kernel⟩, lw_t5 (List.mem_of_getElem? (i := 15) rfl), lw_t6 (List.mem_of_getElem? (i := 89) rfl), lw_t6 (List.mem_of_getElem? (i := 90) rfl)⟩
theorem lw_p56 : lw_okq (⟨"StoryColumnsModel", "manyIdle", "()I"⟩, 34) := ⟨⟨by decide +kernel, by decide +kernel⟩, lw_t5 (List.mem_of_getElem? (i := 15) rfl), lw_t6 (List.mem_of_getElem? (i := 93) rfl), lw_t6 (List.mem_of_getElem? (i := 94) rfl)⟩
theorem lw_p57 : lw_okq (⟨"StoryColumnsModel", "manyLost", "()I"⟩, 34) := ⟨⟨by decide +kernel, by decide +kernel⟩, lw_t5 (List.mem_of_getElem? (i := 15) rfl), lw_t6 (List.mem_of_getElem? (i := 97) rfl), lw_t6 (List.mem_of_getElem? (i := 98) rfl)⟩
def lw_privs_4 : List (MethodName × Nat) := [(⟨"StoryColumnsModel", "isBroken", "(I)Z"⟩, 34), (⟨"StoryColumnsModel", "isArticle", "(I)Z"⟩, 34), (⟨"StoryColumnsModel", "sumOf", "(IZ)I"⟩, 34), (⟨"StoryColumnsModel", "pagesOf", "(I)I"⟩, 34), (⟨"StoryColumnsModel", "manyOfKind", "(I)I"⟩, 34), (⟨"StoryColumnsModel", "manyTexts", "(Z)I"⟩, 34), (⟨"StoryColumnsModel", "manyRings", "()I"⟩, 34), (⟨"StoryColumnsModel", "manyBroken", "()I"⟩, 34), (⟨"StoryColumnsModel", "manyIdle", "()I"⟩, 34), (⟨"StoryColumnsModel", "manyLost", "()I"⟩, 34)]
theorem lw_r4 : ∀ q ∈ lw_privs_4, lw_okq q := List.forall_mem_cons.mpr ⟨lw_p48, List.forall_mem_cons.mpr ⟨lw_p49, List.forall_mem_cons.mpr ⟨lw_p50, List.forall_mem_cons.mpr ⟨lw_p51, List.forall_mem_cons.mpr ⟨lw_p52, List.forall_mem_cons.mpr ⟨lw_p53, List.forall_mem_cons.mpr ⟨lw_p54, List.forall_mem_cons.mpr ⟨lw_p55, List.forall_mem_cons.mpr ⟨lw_p56, List.forall_mem_cons.mpr ⟨lw_p57, fun _ h => absurd h List.not_mem_nil⟩⟩⟩⟩⟩⟩⟩⟩⟩⟩
def lw_privs : List (MethodName × Nat) := lw_privs_1 ++ (lw_privs_2 ++ (lw_privs_3 ++ (lw_privs_4)))
def lw_tbl : List Cond := k2_sels lw_privs ++ tables_1
theorem lw_privs_ok : ∀ q ∈ lw_privs, lw_okq q := by
  show ∀ q ∈ lw_privs_1 ++ (lw_privs_2 ++ (lw_privs_3 ++ (lw_privs_4))), lw_okq q
  exact List.forall_mem_append.mpr ⟨lw_r1, List.forall_mem_append.mpr ⟨lw_r2, List.forall_mem_append.mpr ⟨lw_r3, lw_r4⟩⟩⟩
-- ===== ONE list of words for every method: the tables' words that hold all through a run =====
def lw_all : List Cond := lw_tbl.filter goodWord
/-- a word of the tables by its place: claim/WORDS.tsv -/
theorem lw_w {w : Cond} (i : Nat) (h : lw_tbl[i]? = some w) (g : goodWord w = true) : w ∈ lw_all := List.mem_filter.mpr ⟨List.mem_of_getElem? h, g⟩
theorem lw_all_tbl {w : Cond} (h : w ∈ lw_all) : w ∈ lw_tbl := (List.mem_filter.mp h).1
theorem lw_self : GoodIn lw_all lw_all := fun w h => ⟨h, good_of_word (List.mem_filter.mp h).2⟩
/-- a class's field words, by their places -/
theorem lw_in (ws : List Cond) (ps : List Nat) (hp : ws = ps.filterMap (fun i => lw_tbl[i]?)) (hg : ws.all goodWord = true) : ∀ w ∈ ws, w ∈ lw_all := by
  intro w h
  have h1 := List.all_eq_true.mp hg w h
  rw [hp] at h
  obtain ⟨i, -, hi⟩ := List.mem_filterMap.mp h
  exact lw_w i hi h1
/-- the words of a contract for the method y with code b, L locals, answer r -/
abbrev ws_ (y : MethodName) (b : ByteArray) (L : Nat) (r : Option FieldType) : List Cond := Cond.code y b L r :: lw_all
theorem lw_meth {y : MethodName} {b : ByteArray} {L : Nat} {r : Option FieldType} (h : Cond.code y b L r ∈ lw_all) : GoodIn lw_all (ws_ y b L r) := by
  intro w hw
  rcases List.mem_cons.mp hw with e | e
  · rw [e]
    exact lw_self _ h
  · exact lw_self _ e
theorem lw_app {a c : List Cond} (ha : ∀ w ∈ a, w ∈ lw_all) (hc : GoodIn lw_all c) : GoodIn lw_all (a ++ c) := by
  intro w hw
  rcases List.mem_append.mp hw with e | e
  · exact lw_self w (ha w e)
  · exact hc w e
/-- what a call through an object asks: cwV n hts (lw_V ..) -/
theorem lw_V {own : String} {idx : Nat} {C : String} {y : MethodName} {b : ByteArray} {L : Nat} {r : Option FieldType} (h1 : Cond.methodLink own idx y ∈ lw_all) (h2 : Cond.instanceMethod y ∈ lw_all) (h3 : Cond.selects C y y ∈ lw_all) (h4 : Cond.initialized C ∈ lw_all) (h5 : Cond.code y b L r ∈ lw_all) : GoodIn lw_all (wsV own idx C y (ws_ y b L r)) := by
  refine lw_app ?_ (lw_meth h5)
  intro w hw
  simp only [List.mem_cons, List.not_mem_nil, or_false] at hw
  rcases hw with e | e | e | e
  · rw [e]; exact h1
  · rw [e]; exact h2
  · rw [e]; exact h3
  · rw [e]; exact h4
/-- what a static call asks: va_cwS n hts (lw_S ..) -/
theorem lw_S {own : String} {idx : Nat} {y : MethodName} {b : ByteArray} {L : Nat} {r : Option FieldType} (h1 : Cond.methodLink own idx y ∈ lw_all) (h2 : Cond.static y ∈ lw_all) (h3 : Cond.initialized y.cls ∈ lw_all) (h4 : Cond.code y b L r ∈ lw_all) : GoodIn lw_all (va_wsS own idx y (ws_ y b L r)) := by
  refine lw_app ?_ (lw_meth h4)
  intro w hw
  simp only [List.mem_cons, List.not_mem_nil, or_false] at hw
  rcases hw with e | e | e
  · rw [e]; exact h1
  · rw [e]; exact h2
  · rw [e]; exact h3
/-- the words of a contract for a method WITH HANDLERS (hh: its table) -/
abbrev wsW_ (y : MethodName) (b : ByteArray) (L : Nat) (r : Option FieldType) (hh : List (Nat × Nat × Nat × Nat)) : List Cond := Cond.codeWith y b L r hh :: lw_all
theorem lw_methW {y : MethodName} {b : ByteArray} {L : Nat} {r : Option FieldType} {hh : List (Nat × Nat × Nat × Nat)} (h : Cond.codeWith y b L r hh ∈ lw_all) : GoodIn lw_all (wsW_ y b L r hh) := by
  intro w hw
  rcases List.mem_cons.mp hw with e | e
  · rw [e]
    exact lw_self _ h
  · exact lw_self _ e
/-- any list of words by their places (lw_in), good -/
theorem lw_good {ws : List Cond} (h : ∀ w ∈ ws, w ∈ lw_all) : GoodIn lw_all ws := fun w hw => lw_self w (h w hw)
/-- what a call of a method with handlers asks: vx_cwVW n hts (lw_VW ..), vx_cwSW n hts (lw_SW ..) -/
theorem lw_VW {own : String} {idx : Nat} {C : String} {y : MethodName} {b : ByteArray} {L : Nat} {r : Option FieldType} {hh : List (Nat × Nat × Nat × Nat)} (h1 : Cond.methodLink own idx y ∈ lw_all) (h2 : Cond.instanceMethod y ∈ lw_all) (h3 : Cond.selects C y y ∈ lw_all) (h4 : Cond.initialized C ∈ lw_all) (h5 : Cond.codeWith y b L r hh ∈ lw_all) : GoodIn lw_all (wsV own idx C y (wsW_ y b L r hh)) := by
  refine lw_app ?_ (lw_methW h5)
  intro w hw
  simp only [List.mem_cons, List.not_mem_nil, or_false] at hw
  rcases hw with e | e | e | e
  · rw [e]; exact h1
  · rw [e]; exact h2
  · rw [e]; exact h3
  · rw [e]; exact h4
theorem lw_SW {own : String} {idx : Nat} {y : MethodName} {b : ByteArray} {L : Nat} {r : Option FieldType} {hh : List (Nat × Nat × Nat × Nat)} (h1 : Cond.methodLink own idx y ∈ lw_all) (h2 : Cond.static y ∈ lw_all) (h3 : Cond.initialized y.cls ∈ lw_all) (h4 : Cond.codeWith y b L r hh ∈ lw_all) : GoodIn lw_all (va_wsS own idx y (wsW_ y b L r hh)) := by
  refine lw_app ?_ (lw_methW h4)
  intro w hw
  simp only [List.mem_cons, List.not_mem_nil, or_false] at hw
  rcases hw with e | e | e
  · rw [e]; exact h1
  · rw [e]; exact h2
  · rw [e]; exact h3
/-- a word by its place in its run of the tables -/
theorem lw_at {r : List Cond} (hr : ∀ w ∈ r, w ∈ lw_tbl) {w : Cond} (i : Nat) (h : r[i]? = some w) : w ∈ lw_tbl := hr w (List.mem_of_getElem? h)
theorem lw_g {w : Cond} (h : w ∈ lw_tbl) (g : goodWord w = true) : w ∈ lw_all := List.mem_filter.mpr ⟨h, g⟩
theorem lw_ms : ∀ w ∈ k2_sels lw_privs, w ∈ lw_tbl := fun w h => show w ∈ k2_sels lw_privs ++ tables_1 from List.mem_append_left _ h
theorem lw_m1 : ∀ w ∈ tables_1_1, w ∈ lw_tbl := fun w h => show w ∈ k2_sels lw_privs ++ tables_1 from List.mem_append_right (k2_sels lw_privs) (show w ∈ tables_1 from List.mem_append_left _ h)
theorem lw_m2 : ∀ w ∈ tables_1_2, w ∈ lw_tbl := fun w h => show w ∈ k2_sels lw_privs ++ tables_1 from List.mem_append_right (k2_sels lw_privs) (show w ∈ tables_1 from List.mem_append_right _ (List.mem_append_left _ h))
theorem lw_m3 : ∀ w ∈ tables_1_3, w ∈ lw_tbl := fun w h => show w ∈ k2_sels lw_privs ++ tables_1 from List.mem_append_right (k2_sels lw_privs) (show w ∈ tables_1 from List.mem_append_right _ (List.mem_append_right _ (List.mem_append_left _ h)))
theorem lw_m4 : ∀ w ∈ tables_1_4, w ∈ lw_tbl := fun w h => show w ∈ k2_sels lw_privs ++ tables_1 from List.mem_append_right (k2_sels lw_privs) (show w ∈ tables_1 from List.mem_append_right _ (List.mem_append_right _ (List.mem_append_right _ (List.mem_append_left _ h))))
theorem lw_m5 : ∀ w ∈ tables_1_5, w ∈ lw_tbl := fun w h => show w ∈ k2_sels lw_privs ++ tables_1 from List.mem_append_right (k2_sels lw_privs) (show w ∈ tables_1 from List.mem_append_right _ (List.mem_append_right _ (List.mem_append_right _ (List.mem_append_right _ (List.mem_append_left _ h)))))
theorem lw_m6 : ∀ w ∈ tables_1_6, w ∈ lw_tbl := fun w h => show w ∈ k2_sels lw_privs ++ tables_1 from List.mem_append_right (k2_sels lw_privs) (show w ∈ tables_1 from List.mem_append_right _ (List.mem_append_right _ (List.mem_append_right _ (List.mem_append_right _ (List.mem_append_right _ h)))))
theorem qs0 : (Cond.selects "StoryColumns$Reading" ⟨"StoryColumns$Reading", "size", "()I"⟩ ⟨"StoryColumns$Reading", "size", "()I"⟩) ∈ lw_all := lw_g (lw_at lw_ms 0 rfl) rfl
theorem qs1 : (Cond.selects "java/util/ArrayList" ⟨"java/util/ArrayList", "add", "(Ljava/lang/Object;[Ljava/lang/Object;I)V"⟩ ⟨"java/util/ArrayList", "add", "(Ljava/lang/Object;[Ljava/lang/Object;I)V"⟩) ∈ lw_all := lw_g (lw_at lw_ms 1 rfl) rfl
theorem qs2 : (Cond.selects "java/util/ArrayList" ⟨"java/util/ArrayList", "grow", "()[Ljava/lang/Object;"⟩ ⟨"java/util/ArrayList", "grow", "()[Ljava/lang/Object;"⟩) ∈ lw_all := lw_g (lw_at lw_ms 2 rfl) rfl
theorem qs3 : (Cond.selects "java/util/ArrayList" ⟨"java/util/ArrayList", "grow", "(I)[Ljava/lang/Object;"⟩ ⟨"java/util/ArrayList", "grow", "(I)[Ljava/lang/Object;"⟩) ∈ lw_all := lw_g (lw_at lw_ms 3 rfl) rfl
theorem qs4 : (Cond.selects "StoryColumns" ⟨"StoryColumns", "changed", "(I)I"⟩ ⟨"StoryColumns", "changed", "(I)I"⟩) ∈ lw_all := lw_g (lw_at lw_ms 4 rfl) rfl
theorem qs5 : (Cond.selects "StoryColumns" ⟨"StoryColumns", "isBlock", "(I)Z"⟩ ⟨"StoryColumns", "isBlock", "(I)Z"⟩) ∈ lw_all := lw_g (lw_at lw_ms 5 rfl) rfl
theorem qs6 : (Cond.selects "java/util/ArrayList" ⟨"java/util/ArrayList", "fastRemove", "([Ljava/lang/Object;I)V"⟩ ⟨"java/util/ArrayList", "fastRemove", "([Ljava/lang/Object;I)V"⟩) ∈ lw_all := lw_g (lw_at lw_ms 6 rfl) rfl
theorem qs7 : (Cond.selects "StoryColumns" ⟨"StoryColumns", "isBarred", "(IIII)Z"⟩ ⟨"StoryColumns", "isBarred", "(IIII)Z"⟩) ∈ lw_all := lw_g (lw_at lw_ms 7 rfl) rfl
theorem qs8 : (Cond.selects "StoryColumns" ⟨"StoryColumns", "knows", "()V"⟩ ⟨"StoryColumns", "knows", "()V"⟩) ∈ lw_all := lw_g (lw_at lw_ms 8 rfl) rfl
theorem qs9 : (Cond.selects "StoryColumns" ⟨"StoryColumns", "gathers", "()V"⟩ ⟨"StoryColumns", "gathers", "()V"⟩) ∈ lw_all := lw_g (lw_at lw_ms 9 rfl) rfl
theorem qs10 : (Cond.selects "StoryColumns$Story" ⟨"StoryColumns$Story", "isAhead", "(LStoryColumns$Block;LStoryColumns$Block;)Z"⟩ ⟨"StoryColumns$Story", "isAhead", "(LStoryColumns$Block;LStoryColumns$Block;)Z"⟩) ∈ lw_all := lw_g (lw_at lw_ms 10 rfl) rfl
theorem qs11 : (Cond.selects "java/util/ArrayList" ⟨"java/util/ArrayList", "rangeCheckForAdd", "(I)V"⟩ ⟨"java/util/ArrayList", "rangeCheckForAdd", "(I)V"⟩) ∈ lw_all := lw_g (lw_at lw_ms 11 rfl) rfl
theorem qs12 : (Cond.selects "StoryColumns" ⟨"StoryColumns", "joinsOne", "()Z"⟩ ⟨"StoryColumns", "joinsOne", "()Z"⟩) ∈ lw_all := lw_g (lw_at lw_ms 12 rfl) rfl
theorem qs13 : (Cond.selects "StoryColumns" ⟨"StoryColumns", "takerOf", "(LStoryColumns$Block;)LStoryColumns$Block;"⟩ ⟨"StoryColumns", "takerOf", "(LStoryColumns$Block;)LStoryColumns$Block;"⟩) ∈ lw_all := lw_g (lw_at lw_ms 13 rfl) rfl
theorem qs14 : (Cond.selects "StoryColumns" ⟨"StoryColumns", "laysStories", "()V"⟩ ⟨"StoryColumns", "laysStories", "()V"⟩) ∈ lw_all := lw_g (lw_at lw_ms 14 rfl) rfl
theorem qs15 : (Cond.selects "StoryColumns" ⟨"StoryColumns", "links", "()V"⟩ ⟨"StoryColumns", "links", "()V"⟩) ∈ lw_all := lw_g (lw_at lw_ms 15 rfl) rfl
theorem qs16 : (Cond.selects "StoryColumns" ⟨"StoryColumns", "laysArticles", "()V"⟩ ⟨"StoryColumns", "laysArticles", "()V"⟩) ∈ lw_all := lw_g (lw_at lw_ms 16 rfl) rfl
theorem qs17 : (Cond.selects "StoryColumns" ⟨"StoryColumns", "follows", "(LStoryColumns$Story;)V"⟩ ⟨"StoryColumns", "follows", "(LStoryColumns$Story;)V"⟩) ∈ lw_all := lw_g (lw_at lw_ms 17 rfl) rfl
theorem qs18 : (Cond.selects "StoryColumns" ⟨"StoryColumns", "isStory", "(I)Z"⟩ ⟨"StoryColumns", "isStory", "(I)Z"⟩) ∈ lw_all := lw_g (lw_at lw_ms 18 rfl) rfl
theorem qs19 : (Cond.selects "StoryColumns" ⟨"StoryColumns", "isArticle", "(I)Z"⟩ ⟨"StoryColumns", "isArticle", "(I)Z"⟩) ∈ lw_all := lw_g (lw_at lw_ms 19 rfl) rfl
theorem qs20 : (Cond.selects "StoryColumns" ⟨"StoryColumns", "sum", "(IZZ)I"⟩ ⟨"StoryColumns", "sum", "(IZZ)I"⟩) ∈ lw_all := lw_g (lw_at lw_ms 20 rfl) rfl
theorem qs21 : (Cond.selects "StoryColumns" ⟨"StoryColumns", "chain", "(I)Ljava/lang/Iterable;"⟩ ⟨"StoryColumns", "chain", "(I)Ljava/lang/Iterable;"⟩) ∈ lw_all := lw_g (lw_at lw_ms 21 rfl) rfl
theorem qs22 : (Cond.selects "StoryColumns" ⟨"StoryColumns", "pagesOf", "(I)I"⟩ ⟨"StoryColumns", "pagesOf", "(I)I"⟩) ∈ lw_all := lw_g (lw_at lw_ms 22 rfl) rfl
theorem qs23 : (Cond.selects "StoryColumns" ⟨"StoryColumns", "isBrokenOff", "(I)Z"⟩ ⟨"StoryColumns", "isBrokenOff", "(I)Z"⟩) ∈ lw_all := lw_g (lw_at lw_ms 23 rfl) rfl
theorem qs24 : (Cond.selects "StoryColumns" ⟨"StoryColumns", "manyOf", "(I)I"⟩ ⟨"StoryColumns", "manyOf", "(I)I"⟩) ∈ lw_all := lw_g (lw_at lw_ms 24 rfl) rfl
theorem qs25 : (Cond.selects "StoryColumns" ⟨"StoryColumns", "manyBlocks", "(I)I"⟩ ⟨"StoryColumns", "manyBlocks", "(I)I"⟩) ∈ lw_all := lw_g (lw_at lw_ms 25 rfl) rfl
theorem qs26 : (Cond.selects "StoryColumns" ⟨"StoryColumns", "manyBroken", "()I"⟩ ⟨"StoryColumns", "manyBroken", "()I"⟩) ∈ lw_all := lw_g (lw_at lw_ms 26 rfl) rfl
theorem qs27 : (Cond.selects "StoryColumnsModel" ⟨"StoryColumnsModel", "isMeeting", "(IIIII)Z"⟩ ⟨"StoryColumnsModel", "isMeeting", "(IIIII)Z"⟩) ∈ lw_all := lw_g (lw_at lw_ms 27 rfl) rfl
theorem qs28 : (Cond.selects "StoryColumnsModel" ⟨"StoryColumnsModel", "isBlock", "(I)Z"⟩ ⟨"StoryColumnsModel", "isBlock", "(I)Z"⟩) ∈ lw_all := lw_g (lw_at lw_ms 28 rfl) rfl
theorem qs29 : (Cond.selects "StoryColumnsModel" ⟨"StoryColumnsModel", "isHead", "(I)Z"⟩ ⟨"StoryColumnsModel", "isHead", "(I)Z"⟩) ∈ lw_all := lw_g (lw_at lw_ms 29 rfl) rfl
theorem qs30 : (Cond.selects "StoryColumnsModel" ⟨"StoryColumnsModel", "lastRow", "(II)I"⟩ ⟨"StoryColumnsModel", "lastRow", "(II)I"⟩) ∈ lw_all := lw_g (lw_at lw_ms 30 rfl) rfl
theorem qs31 : (Cond.selects "StoryColumnsModel" ⟨"StoryColumnsModel", "reachesAcross", "(II)Z"⟩ ⟨"StoryColumnsModel", "reachesAcross", "(II)Z"⟩) ∈ lw_all := lw_g (lw_at lw_ms 31 rfl) rfl
theorem qs32 : (Cond.selects "StoryColumnsModel" ⟨"StoryColumnsModel", "isUpright", "(IIII)Z"⟩ ⟨"StoryColumnsModel", "isUpright", "(IIII)Z"⟩) ∈ lw_all := lw_g (lw_at lw_ms 32 rfl) rfl
theorem qs33 : (Cond.selects "StoryColumnsModel" ⟨"StoryColumnsModel", "headOver", "(I)I"⟩ ⟨"StoryColumnsModel", "headOver", "(I)I"⟩) ∈ lw_all := lw_g (lw_at lw_ms 33 rfl) rfl
theorem qs34 : (Cond.selects "StoryColumnsModel" ⟨"StoryColumnsModel", "findStories", "()V"⟩ ⟨"StoryColumnsModel", "findStories", "()V"⟩) ∈ lw_all := lw_g (lw_at lw_ms 34 rfl) rfl
theorem qs35 : (Cond.selects "StoryColumnsModel" ⟨"StoryColumnsModel", "comesUnder", "(II)V"⟩ ⟨"StoryColumnsModel", "comesUnder", "(II)V"⟩) ∈ lw_all := lw_g (lw_at lw_ms 35 rfl) rfl
theorem qs36 : (Cond.selects "StoryColumnsModel" ⟨"StoryColumnsModel", "comesBehind", "(II)V"⟩ ⟨"StoryColumnsModel", "comesBehind", "(II)V"⟩) ∈ lw_all := lw_g (lw_at lw_ms 36 rfl) rfl
theorem qs37 : (Cond.selects "StoryColumnsModel" ⟨"StoryColumnsModel", "isAhead", "(II)Z"⟩ ⟨"StoryColumnsModel", "isAhead", "(II)Z"⟩) ∈ lw_all := lw_g (lw_at lw_ms 37 rfl) rfl
theorem qs38 : (Cond.selects "StoryColumnsModel" ⟨"StoryColumnsModel", "joins", "()Z"⟩ ⟨"StoryColumnsModel", "joins", "()Z"⟩) ∈ lw_all := lw_g (lw_at lw_ms 38 rfl) rfl
theorem qs39 : (Cond.selects "StoryColumnsModel" ⟨"StoryColumnsModel", "takerNow", "(I)I"⟩ ⟨"StoryColumnsModel", "takerNow", "(I)I"⟩) ∈ lw_all := lw_g (lw_at lw_ms 39 rfl) rfl
theorem qs40 : (Cond.selects "StoryColumnsModel" ⟨"StoryColumnsModel", "takes", "(II)Z"⟩ ⟨"StoryColumnsModel", "takes", "(II)Z"⟩) ∈ lw_all := lw_g (lw_at lw_ms 40 rfl) rfl
theorem qs41 : (Cond.selects "StoryColumnsModel" ⟨"StoryColumnsModel", "isStory", "(I)Z"⟩ ⟨"StoryColumnsModel", "isStory", "(I)Z"⟩) ∈ lw_all := lw_g (lw_at lw_ms 41 rfl) rfl
theorem qs42 : (Cond.selects "StoryColumnsModel" ⟨"StoryColumnsModel", "findArticles", "()V"⟩ ⟨"StoryColumnsModel", "findArticles", "()V"⟩) ∈ lw_all := lw_g (lw_at lw_ms 42 rfl) rfl
theorem qs43 : (Cond.selects "StoryColumnsModel" ⟨"StoryColumnsModel", "onwardOf", "(I)I"⟩ ⟨"StoryColumnsModel", "onwardOf", "(I)I"⟩) ∈ lw_all := lw_g (lw_at lw_ms 43 rfl) rfl
theorem qs44 : (Cond.selects "StoryColumnsModel" ⟨"StoryColumnsModel", "aimBy", "(I)I"⟩ ⟨"StoryColumnsModel", "aimBy", "(I)I"⟩) ∈ lw_all := lw_g (lw_at lw_ms 44 rfl) rfl
theorem qs45 : (Cond.selects "StoryColumnsModel" ⟨"StoryColumnsModel", "lays", "(IZ)V"⟩ ⟨"StoryColumnsModel", "lays", "(IZ)V"⟩) ∈ lw_all := lw_g (lw_at lw_ms 45 rfl) rfl
theorem qs46 : (Cond.selects "StoryColumnsModel" ⟨"StoryColumnsModel", "wordsIn", "(I)I"⟩ ⟨"StoryColumnsModel", "wordsIn", "(I)I"⟩) ∈ lw_all := lw_g (lw_at lw_ms 46 rfl) rfl
theorem qs47 : (Cond.selects "StoryColumnsModel" ⟨"StoryColumnsModel", "manyIn", "(IZ)I"⟩ ⟨"StoryColumnsModel", "manyIn", "(IZ)I"⟩) ∈ lw_all := lw_g (lw_at lw_ms 47 rfl) rfl
theorem qs48 : (Cond.selects "StoryColumnsModel" ⟨"StoryColumnsModel", "isBroken", "(I)Z"⟩ ⟨"StoryColumnsModel", "isBroken", "(I)Z"⟩) ∈ lw_all := lw_g (lw_at lw_ms 48 rfl) rfl
theorem qs49 : (Cond.selects "StoryColumnsModel" ⟨"StoryColumnsModel", "isArticle", "(I)Z"⟩ ⟨"StoryColumnsModel", "isArticle", "(I)Z"⟩) ∈ lw_all := lw_g (lw_at lw_ms 49 rfl) rfl
theorem qs50 : (Cond.selects "StoryColumnsModel" ⟨"StoryColumnsModel", "sumOf", "(IZ)I"⟩ ⟨"StoryColumnsModel", "sumOf", "(IZ)I"⟩) ∈ lw_all := lw_g (lw_at lw_ms 50 rfl) rfl
theorem qs51 : (Cond.selects "StoryColumnsModel" ⟨"StoryColumnsModel", "pagesOf", "(I)I"⟩ ⟨"StoryColumnsModel", "pagesOf", "(I)I"⟩) ∈ lw_all := lw_g (lw_at lw_ms 51 rfl) rfl
theorem qs52 : (Cond.selects "StoryColumnsModel" ⟨"StoryColumnsModel", "manyOfKind", "(I)I"⟩ ⟨"StoryColumnsModel", "manyOfKind", "(I)I"⟩) ∈ lw_all := lw_g (lw_at lw_ms 52 rfl) rfl
theorem qs53 : (Cond.selects "StoryColumnsModel" ⟨"StoryColumnsModel", "manyTexts", "(Z)I"⟩ ⟨"StoryColumnsModel", "manyTexts", "(Z)I"⟩) ∈ lw_all := lw_g (lw_at lw_ms 53 rfl) rfl
theorem qs54 : (Cond.selects "StoryColumnsModel" ⟨"StoryColumnsModel", "manyRings", "()I"⟩ ⟨"StoryColumnsModel", "manyRings", "()I"⟩) ∈ lw_all := lw_g (lw_at lw_ms 54 rfl) rfl
theorem qs55 : (Cond.selects "StoryColumnsModel" ⟨"StoryColumnsModel", "manyBroken", "()I"⟩ ⟨"StoryColumnsModel", "manyBroken", "()I"⟩) ∈ lw_all := lw_g (lw_at lw_ms 55 rfl) rfl
theorem qs56 : (Cond.selects "StoryColumnsModel" ⟨"StoryColumnsModel", "manyIdle", "()I"⟩ ⟨"StoryColumnsModel", "manyIdle", "()I"⟩) ∈ lw_all := lw_g (lw_at lw_ms 56 rfl) rfl
theorem qs57 : (Cond.selects "StoryColumnsModel" ⟨"StoryColumnsModel", "manyLost", "()I"⟩ ⟨"StoryColumnsModel", "manyLost", "()I"⟩) ∈ lw_all := lw_g (lw_at lw_ms 57 rfl) rfl
