-- ===== PART A: goes FIRST, ahead of the names: the tables' words, and 'selects' of the private methods out of them =====
/-- a private method of a class that the tables say can be made, by its rows of tables_1 -/
def lw_okq (q : MethodName × Nat) : Prop := (q.1.cls ≠ "java/lang/invoke/MethodHandle" ∧ q.1.cls ≠ "java/lang/invoke/VarHandle") ∧ Cond.instantiable q.1.cls q.2 ∈ tables_1 ∧ Cond.privateMethod q.1 ∈ tables_1 ∧ Cond.instanceMethod q.1 ∈ tables_1
set_option maxRecDepth 100000
theorem lw_t1 {w : Cond} (h : w ∈ tables_1_1) : w ∈ tables_1 := List.mem_append_left _ h
theorem lw_t2 {w : Cond} (h : w ∈ tables_1_2) : w ∈ tables_1 := List.mem_append_right _ (List.mem_append_left _ h)
theorem lw_t3 {w : Cond} (h : w ∈ tables_1_3) : w ∈ tables_1 := List.mem_append_right _ (List.mem_append_right _ (List.mem_append_left _ h))
theorem lw_t4 {w : Cond} (h : w ∈ tables_1_4) : w ∈ tables_1 := List.mem_append_right _ (List.mem_append_right _ (List.mem_append_right _ (List.mem_append_left _ h)))
theorem lw_t5 {w : Cond} (h : w ∈ tables_1_5) : w ∈ tables_1 := List.mem_append_right _ (List.mem_append_right _ (List.mem_append_right _ (List.mem_append_right _ (List.mem_append_left _ h))))
theorem lw_t6 {w : Cond} (h : w ∈ tables_1_6) : w ∈ tables_1 := List.mem_append_right _ (List.mem_append_right _ (List.mem_append_right _ (List.mem_append_right _ (List.mem_append_right _ (List.mem_append_left _ h)))))
theorem lw_t7 {w : Cond} (h : w ∈ tables_1_7) : w ∈ tables_1 := List.mem_append_right _ (List.mem_append_right _ (List.mem_append_right _ (List.mem_append_right _ (List.mem_append_right _ (List.mem_append_right _ (List.mem_append_left _ h))))))
theorem lw_t8 {w : Cond} (h : w ∈ tables_1_8) : w ∈ tables_1 := List.mem_append_right _ (List.mem_append_right _ (List.mem_append_right _ (List.mem_append_right _ (List.mem_append_right _ (List.mem_append_right _ (List.mem_append_right _ (List.mem_append_left _ h)))))))
theorem lw_t9 {w : Cond} (h : w ∈ tables_1_9) : w ∈ tables_1 := List.mem_append_right _ (List.mem_append_right _ (List.mem_append_right _ (List.mem_append_right _ (List.mem_append_right _ (List.mem_append_right _ (List.mem_append_right _ (List.mem_append_right _ h)))))))
theorem lw_p0 : lw_okq (⟨"java/lang/Throwable", "fillInStackTrace", "(I)Ljava/lang/Throwable;"⟩, 6) := ⟨⟨by decide +kernel, by decide +kernel⟩, lw_t1 (List.mem_of_getElem? (i := 103) rfl), lw_t1 (List.mem_of_getElem? (i := 101) rfl), lw_t1 (List.mem_of_getElem? (i := 102) rfl)⟩
theorem lw_p1 : lw_okq (⟨"java/util/BitSet", "initWords", "(I)V"⟩, 3) := ⟨⟨by decide +kernel, by decide +kernel⟩, lw_t2 (List.mem_of_getElem? (i := 198) rfl), lw_t2 (List.mem_of_getElem? (i := 204) rfl), lw_t2 (List.mem_of_getElem? (i := 205) rfl)⟩
theorem lw_p2 : lw_okq (⟨"WarpMill$Word", "sortOf", "()LWarpMill$Sort;"⟩, 7) := ⟨⟨by decide +kernel, by decide +kernel⟩, lw_t3 (List.mem_of_getElem? (i := 12) rfl), lw_t3 (List.mem_of_getElem? (i := 19) rfl), lw_t3 (List.mem_of_getElem? (i := 20) rfl)⟩
theorem lw_p3 : lw_okq (⟨"java/util/ArrayList", "add", "(Ljava/lang/Object;[Ljava/lang/Object;I)V"⟩, 3) := ⟨⟨by decide +kernel, by decide +kernel⟩, lw_t1 (List.mem_of_getElem? (i := 49) rfl), lw_t3 (List.mem_of_getElem? (i := 78) rfl), lw_t3 (List.mem_of_getElem? (i := 79) rfl)⟩
theorem lw_p4 : lw_okq (⟨"java/util/ArrayList", "grow", "()[Ljava/lang/Object;"⟩, 3) := ⟨⟨by decide +kernel, by decide +kernel⟩, lw_t1 (List.mem_of_getElem? (i := 49) rfl), lw_t3 (List.mem_of_getElem? (i := 82) rfl), lw_t3 (List.mem_of_getElem? (i := 83) rfl)⟩
theorem lw_p5 : lw_okq (⟨"java/util/ArrayList", "grow", "(I)[Ljava/lang/Object;"⟩, 3) := ⟨⟨by decide +kernel, by decide +kernel⟩, lw_t1 (List.mem_of_getElem? (i := 49) rfl), lw_t3 (List.mem_of_getElem? (i := 86) rfl), lw_t3 (List.mem_of_getElem? (i := 87) rfl)⟩
theorem lw_p6 : lw_okq (⟨"WarpMill$Machine", "forget", "()V"⟩, 26) := ⟨⟨by decide +kernel, by decide +kernel⟩, lw_t3 (List.mem_of_getElem? (i := 126) rfl), lw_t4 (List.mem_of_getElem? (i := 170) rfl), lw_t4 (List.mem_of_getElem? (i := 171) rfl)⟩
theorem lw_p7 : lw_okq (⟨"WarpMill", "isUnit", "(I)Z"⟩, 6) := ⟨⟨by decide +kernel, by decide +kernel⟩, lw_t1 (List.mem_of_getElem? (i := 41) rfl), lw_t4 (List.mem_of_getElem? (i := 197) rfl), lw_t4 (List.mem_of_getElem? (i := 198) rfl)⟩
theorem lw_p8 : lw_okq (⟨"WarpMill", "isSlot", "(II)Z"⟩, 6) := ⟨⟨by decide +kernel, by decide +kernel⟩, lw_t1 (List.mem_of_getElem? (i := 41) rfl), lw_t4 (List.mem_of_getElem? (i := 212) rfl), lw_t4 (List.mem_of_getElem? (i := 213) rfl)⟩
theorem lw_p9 : lw_okq (⟨"java/util/ArrayList", "fastRemove", "([Ljava/lang/Object;I)V"⟩, 3) := ⟨⟨by decide +kernel, by decide +kernel⟩, lw_t1 (List.mem_of_getElem? (i := 49) rfl), lw_t5 (List.mem_of_getElem? (i := 42) rfl), lw_t5 (List.mem_of_getElem? (i := 43) rfl)⟩
theorem lw_p10 : lw_okq (⟨"WarpMill$Machine", "finish", "(LWarpMill$Ask;)V"⟩, 26) := ⟨⟨by decide +kernel, by decide +kernel⟩, lw_t3 (List.mem_of_getElem? (i := 126) rfl), lw_t5 (List.mem_of_getElem? (i := 52) rfl), lw_t5 (List.mem_of_getElem? (i := 53) rfl)⟩
theorem lw_p11 : lw_okq (⟨"WarpMill$Machine", "dispatch", "()V"⟩, 26) := ⟨⟨by decide +kernel, by decide +kernel⟩, lw_t3 (List.mem_of_getElem? (i := 126) rfl), lw_t5 (List.mem_of_getElem? (i := 60) rfl), lw_t5 (List.mem_of_getElem? (i := 61) rfl)⟩
theorem lw_p12 : lw_okq (⟨"WarpMill$Pool", "warp", "(LWarpMill$Block;II)LWarpMill$Warp;"⟩, 3) := ⟨⟨by decide +kernel, by decide +kernel⟩, lw_t2 (List.mem_of_getElem? (i := 149) rfl), lw_t5 (List.mem_of_getElem? (i := 104) rfl), lw_t5 (List.mem_of_getElem? (i := 105) rfl)⟩
theorem lw_p13 : lw_okq (⟨"WarpMill$Pool", "lane", "()LWarpMill$Lane;"⟩, 3) := ⟨⟨by decide +kernel, by decide +kernel⟩, lw_t2 (List.mem_of_getElem? (i := 149) rfl), lw_t5 (List.mem_of_getElem? (i := 151) rfl), lw_t5 (List.mem_of_getElem? (i := 152) rfl)⟩
theorem lw_p14 : lw_okq (⟨"WarpMill$Machine", "issue", "(LWarpMill$Unit;)V"⟩, 26) := ⟨⟨by decide +kernel, by decide +kernel⟩, lw_t3 (List.mem_of_getElem? (i := 126) rfl), lw_t5 (List.mem_of_getElem? (i := 202) rfl), lw_t5 (List.mem_of_getElem? (i := 203) rfl)⟩
theorem lw_p15 : lw_okq (⟨"WarpMill$Machine", "trap", "(LWarpMill$Warp;II)V"⟩, 26) := ⟨⟨by decide +kernel, by decide +kernel⟩, lw_t3 (List.mem_of_getElem? (i := 126) rfl), lw_t6 (List.mem_of_getElem? (i := 25) rfl), lw_t6 (List.mem_of_getElem? (i := 26) rfl)⟩
def lw_privs_1 : List (MethodName × Nat) := [(⟨"java/lang/Throwable", "fillInStackTrace", "(I)Ljava/lang/Throwable;"⟩, 6), (⟨"java/util/BitSet", "initWords", "(I)V"⟩, 3), (⟨"WarpMill$Word", "sortOf", "()LWarpMill$Sort;"⟩, 7), (⟨"java/util/ArrayList", "add", "(Ljava/lang/Object;[Ljava/lang/Object;I)V"⟩, 3), (⟨"java/util/ArrayList", "grow", "()[Ljava/lang/Object;"⟩, 3), (⟨"java/util/ArrayList", "grow", "(I)[Ljava/lang/Object;"⟩, 3), (⟨"WarpMill$Machine", "forget", "()V"⟩, 26), (⟨"WarpMill", "isUnit", "(I)Z"⟩, 6), (⟨"WarpMill", "isSlot", "(II)Z"⟩, 6), (⟨"java/util/ArrayList", "fastRemove", "([Ljava/lang/Object;I)V"⟩, 3), (⟨"WarpMill$Machine", "finish", "(LWarpMill$Ask;)V"⟩, 26), (⟨"WarpMill$Machine", "dispatch", "()V"⟩, 26), (⟨"WarpMill$Pool", "warp", "(LWarpMill$Block;II)LWarpMill$Warp;"⟩, 3), (⟨"WarpMill$Pool", "lane", "()LWarpMill$Lane;"⟩, 3), (⟨"WarpMill$Machine", "issue", "(LWarpMill$Unit;)V"⟩, 26), (⟨"WarpMill$Machine", "trap", "(LWarpMill$Warp;II)V"⟩, 26)]
theorem lw_r1 : ∀ q ∈ lw_privs_1, lw_okq q := List.forall_mem_cons.mpr ⟨lw_p0, List.forall_mem_cons.mpr ⟨lw_p1, List.forall_mem_cons.mpr ⟨lw_p2, List.forall_mem_cons.mpr ⟨lw_p3, List.forall_mem_cons.mpr ⟨lw_p4, List.forall_mem_cons.mpr ⟨lw_p5, List.forall_mem_cons.mpr ⟨lw_p6, List.forall_mem_cons.mpr ⟨lw_p7, List.forall_mem_cons.mpr ⟨lw_p8, List.forall_mem_cons.mpr ⟨lw_p9, List.forall_mem_cons.mpr ⟨lw_p10, List.forall_mem_cons.mpr ⟨lw_p11, List.forall_mem_cons.mpr ⟨lw_p12, List.forall_mem_cons.mpr ⟨lw_p13, List.forall_mem_cons.mpr ⟨lw_p14, List.forall_mem_cons.mpr ⟨lw_p15, fun _ h => absurd h List.not_mem_nil⟩⟩⟩⟩⟩⟩⟩⟩⟩⟩⟩⟩⟩⟩⟩⟩
theorem lw_p16 : lw_okq (⟨"WarpMill$Machine", "go", "(LWarpMill$Unit;LWarpMill$Warp;ILWarpMill$Word;)V"⟩, 26) := ⟨⟨by decide +kernel, by decide +kernel⟩, lw_t3 (List.mem_of_getElem? (i := 126) rfl), lw_t6 (List.mem_of_getElem? (i := 30) rfl), lw_t6 (List.mem_of_getElem? (i := 31) rfl)⟩
theorem lw_p17 : lw_okq (⟨"WarpMill$Machine", "trouble", "(LWarpMill$Lane;LWarpMill$Word;)I"⟩, 26) := ⟨⟨by decide +kernel, by decide +kernel⟩, lw_t3 (List.mem_of_getElem? (i := 126) rfl), lw_t6 (List.mem_of_getElem? (i := 43) rfl), lw_t6 (List.mem_of_getElem? (i := 44) rfl)⟩
theorem lw_p18 : lw_okq (⟨"WarpMill$Machine", "takes", "(LWarpMill$Unit;LWarpMill$Warp;ILWarpMill$Word;)I"⟩, 26) := ⟨⟨by decide +kernel, by decide +kernel⟩, lw_t3 (List.mem_of_getElem? (i := 126) rfl), lw_t6 (List.mem_of_getElem? (i := 59) rfl), lw_t6 (List.mem_of_getElem? (i := 60) rfl)⟩
theorem lw_p19 : lw_okq (⟨"java/util/BitSet", "checkInvariants", "()V"⟩, 3) := ⟨⟨by decide +kernel, by decide +kernel⟩, lw_t2 (List.mem_of_getElem? (i := 198) rfl), lw_t6 (List.mem_of_getElem? (i := 83) rfl), lw_t6 (List.mem_of_getElem? (i := 84) rfl)⟩
theorem lw_p20 : lw_okq (⟨"java/util/BitSet", "expandTo", "(I)V"⟩, 3) := ⟨⟨by decide +kernel, by decide +kernel⟩, lw_t2 (List.mem_of_getElem? (i := 198) rfl), lw_t6 (List.mem_of_getElem? (i := 93) rfl), lw_t6 (List.mem_of_getElem? (i := 94) rfl)⟩
theorem lw_p21 : lw_okq (⟨"java/util/BitSet", "ensureCapacity", "(I)V"⟩, 3) := ⟨⟨by decide +kernel, by decide +kernel⟩, lw_t2 (List.mem_of_getElem? (i := 198) rfl), lw_t6 (List.mem_of_getElem? (i := 97) rfl), lw_t6 (List.mem_of_getElem? (i := 98) rfl)⟩
theorem lw_p22 : lw_okq (⟨"WarpMill$Machine", "vote", "(LWarpMill$Warp;ILWarpMill$Word;)V"⟩, 26) := ⟨⟨by decide +kernel, by decide +kernel⟩, lw_t3 (List.mem_of_getElem? (i := 126) rfl), lw_t6 (List.mem_of_getElem? (i := 123) rfl), lw_t6 (List.mem_of_getElem? (i := 124) rfl)⟩
theorem lw_p23 : lw_okq (⟨"WarpMill$Machine", "act", "(LWarpMill$Warp;ILWarpMill$Word;)V"⟩, 26) := ⟨⟨by decide +kernel, by decide +kernel⟩, lw_t3 (List.mem_of_getElem? (i := 126) rfl), lw_t6 (List.mem_of_getElem? (i := 127) rfl), lw_t6 (List.mem_of_getElem? (i := 128) rfl)⟩
theorem lw_p24 : lw_okq (⟨"WarpMill$Machine", "ask", "(LWarpMill$Lane;LWarpMill$Word;)V"⟩, 26) := ⟨⟨by decide +kernel, by decide +kernel⟩, lw_t3 (List.mem_of_getElem? (i := 126) rfl), lw_t6 (List.mem_of_getElem? (i := 133) rfl), lw_t6 (List.mem_of_getElem? (i := 134) rfl)⟩
theorem lw_p25 : lw_okq (⟨"WarpMill$Machine", "special", "(LWarpMill$Warp;II)I"⟩, 26) := ⟨⟨by decide +kernel, by decide +kernel⟩, lw_t3 (List.mem_of_getElem? (i := 126) rfl), lw_t6 (List.mem_of_getElem? (i := 185) rfl), lw_t6 (List.mem_of_getElem? (i := 186) rfl)⟩
theorem lw_p26 : lw_okq (⟨"WarpMillModel", "clearHouse", "()V"⟩, 60) := ⟨⟨by decide +kernel, by decide +kernel⟩, lw_t7 (List.mem_of_getElem? (i := 19) rfl), lw_t7 (List.mem_of_getElem? (i := 27) rfl), lw_t7 (List.mem_of_getElem? (i := 28) rfl)⟩
theorem lw_p27 : lw_okq (⟨"WarpMillModel", "clearUnits", "()V"⟩, 60) := ⟨⟨by decide +kernel, by decide +kernel⟩, lw_t7 (List.mem_of_getElem? (i := 19) rfl), lw_t7 (List.mem_of_getElem? (i := 31) rfl), lw_t7 (List.mem_of_getElem? (i := 32) rfl)⟩
theorem lw_p28 : lw_okq (⟨"WarpMillModel", "freeAll", "()V"⟩, 60) := ⟨⟨by decide +kernel, by decide +kernel⟩, lw_t7 (List.mem_of_getElem? (i := 19) rfl), lw_t7 (List.mem_of_getElem? (i := 35) rfl), lw_t7 (List.mem_of_getElem? (i := 36) rfl)⟩
theorem lw_p29 : lw_okq (⟨"WarpMillModel", "isUnder", "()Z"⟩, 60) := ⟨⟨by decide +kernel, by decide +kernel⟩, lw_t7 (List.mem_of_getElem? (i := 19) rfl), lw_t7 (List.mem_of_getElem? (i := 232) rfl), lw_t7 (List.mem_of_getElem? (i := 233) rfl)⟩
theorem lw_p30 : lw_okq (⟨"WarpMillModel", "clearCounts", "()V"⟩, 60) := ⟨⟨by decide +kernel, by decide +kernel⟩, lw_t7 (List.mem_of_getElem? (i := 19) rfl), lw_t7 (List.mem_of_getElem? (i := 236) rfl), lw_t7 (List.mem_of_getElem? (i := 237) rfl)⟩
theorem lw_p31 : lw_okq (⟨"WarpMillModel", "raise", "(I)I"⟩, 60) := ⟨⟨by decide +kernel, by decide +kernel⟩, lw_t7 (List.mem_of_getElem? (i := 19) rfl), lw_t8 (List.mem_of_getElem? (i := 16) rfl), lw_t8 (List.mem_of_getElem? (i := 17) rfl)⟩
def lw_privs_2 : List (MethodName × Nat) := [(⟨"WarpMill$Machine", "go", "(LWarpMill$Unit;LWarpMill$Warp;ILWarpMill$Word;)V"⟩, 26), (⟨"WarpMill$Machine", "trouble", "(LWarpMill$Lane;LWarpMill$Word;)I"⟩, 26), (⟨"WarpMill$Machine", "takes", "(LWarpMill$Unit;LWarpMill$Warp;ILWarpMill$Word;)I"⟩, 26), (⟨"java/util/BitSet", "checkInvariants", "()V"⟩, 3), (⟨"java/util/BitSet", "expandTo", "(I)V"⟩, 3), (⟨"java/util/BitSet", "ensureCapacity", "(I)V"⟩, 3), (⟨"WarpMill$Machine", "vote", "(LWarpMill$Warp;ILWarpMill$Word;)V"⟩, 26), (⟨"WarpMill$Machine", "act", "(LWarpMill$Warp;ILWarpMill$Word;)V"⟩, 26), (⟨"WarpMill$Machine", "ask", "(LWarpMill$Lane;LWarpMill$Word;)V"⟩, 26), (⟨"WarpMill$Machine", "special", "(LWarpMill$Warp;II)I"⟩, 26), (⟨"WarpMillModel", "clearHouse", "()V"⟩, 60), (⟨"WarpMillModel", "clearUnits", "()V"⟩, 60), (⟨"WarpMillModel", "freeAll", "()V"⟩, 60), (⟨"WarpMillModel", "isUnder", "()Z"⟩, 60), (⟨"WarpMillModel", "clearCounts", "()V"⟩, 60), (⟨"WarpMillModel", "raise", "(I)I"⟩, 60)]
theorem lw_r2 : ∀ q ∈ lw_privs_2, lw_okq q := List.forall_mem_cons.mpr ⟨lw_p16, List.forall_mem_cons.mpr ⟨lw_p17, List.forall_mem_cons.mpr ⟨lw_p18, List.forall_mem_cons.mpr ⟨lw_p19, List.forall_mem_cons.mpr ⟨lw_p20, List.forall_mem_cons.mpr ⟨lw_p21, List.forall_mem_cons.mpr ⟨lw_p22, List.forall_mem_cons.mpr ⟨lw_p23, List.forall_mem_cons.mpr ⟨lw_p24, List.forall_mem_cons.mpr ⟨lw_p25, List.forall_mem_cons.mpr ⟨lw_p26, List.forall_mem_cons.mpr ⟨lw_p27, List.forall_mem_cons.mpr ⟨lw_p28, List.forall_mem_cons.mpr ⟨lw_p29, List.forall_mem_cons.mpr ⟨lw_p30, List.forall_mem_cons.mpr ⟨lw_p31, fun _ h => absurd h List.not_mem_nil⟩⟩⟩⟩⟩⟩⟩⟩⟩⟩⟩⟩⟩⟩⟩⟩
theorem lw_p32 : lw_okq (⟨"WarpMillModel", "oneCycle", "()V"⟩, 60) := ⟨⟨by decide +kernel, by decide +kernel⟩, lw_t7 (List.mem_of_getElem? (i := 19) rfl), lw_t8 (List.mem_of_getElem? (i := 20) rfl), lw_t8 (List.mem_of_getElem? (i := 21) rfl)⟩
theorem lw_p33 : lw_okq (⟨"WarpMillModel", "doPending", "()V"⟩, 60) := ⟨⟨by decide +kernel, by decide +kernel⟩, lw_t7 (List.mem_of_getElem? (i := 19) rfl), lw_t8 (List.mem_of_getElem? (i := 24) rfl), lw_t8 (List.mem_of_getElem? (i := 25) rfl)⟩
theorem lw_p34 : lw_okq (⟨"WarpMillModel", "doOne", "(I)V"⟩, 60) := ⟨⟨by decide +kernel, by decide +kernel⟩, lw_t7 (List.mem_of_getElem? (i := 19) rfl), lw_t8 (List.mem_of_getElem? (i := 28) rfl), lw_t8 (List.mem_of_getElem? (i := 29) rfl)⟩
theorem lw_p35 : lw_okq (⟨"WarpMillModel", "dispatch", "()V"⟩, 60) := ⟨⟨by decide +kernel, by decide +kernel⟩, lw_t7 (List.mem_of_getElem? (i := 19) rfl), lw_t8 (List.mem_of_getElem? (i := 38) rfl), lw_t8 (List.mem_of_getElem? (i := 39) rfl)⟩
theorem lw_p36 : lw_okq (⟨"WarpMillModel", "freeSlots", "(I)I"⟩, 60) := ⟨⟨by decide +kernel, by decide +kernel⟩, lw_t7 (List.mem_of_getElem? (i := 19) rfl), lw_t8 (List.mem_of_getElem? (i := 42) rfl), lw_t8 (List.mem_of_getElem? (i := 43) rfl)⟩
theorem lw_p37 : lw_okq (⟨"WarpMillModel", "warps", "()I"⟩, 60) := ⟨⟨by decide +kernel, by decide +kernel⟩, lw_t7 (List.mem_of_getElem? (i := 19) rfl), lw_t8 (List.mem_of_getElem? (i := 46) rfl), lw_t8 (List.mem_of_getElem? (i := 47) rfl)⟩
theorem lw_p38 : lw_okq (⟨"WarpMillModel", "begin", "(II)V"⟩, 60) := ⟨⟨by decide +kernel, by decide +kernel⟩, lw_t7 (List.mem_of_getElem? (i := 19) rfl), lw_t8 (List.mem_of_getElem? (i := 50) rfl), lw_t8 (List.mem_of_getElem? (i := 51) rfl)⟩
theorem lw_p39 : lw_okq (⟨"WarpMillModel", "beginWarp", "(I)V"⟩, 60) := ⟨⟨by decide +kernel, by decide +kernel⟩, lw_t7 (List.mem_of_getElem? (i := 19) rfl), lw_t8 (List.mem_of_getElem? (i := 54) rfl), lw_t8 (List.mem_of_getElem? (i := 55) rfl)⟩
theorem lw_p40 : lw_okq (⟨"WarpMillModel", "unitGoes", "(I)V"⟩, 60) := ⟨⟨by decide +kernel, by decide +kernel⟩, lw_t7 (List.mem_of_getElem? (i := 19) rfl), lw_t8 (List.mem_of_getElem? (i := 58) rfl), lw_t8 (List.mem_of_getElem? (i := 59) rfl)⟩
theorem lw_p41 : lw_okq (⟨"WarpMillModel", "isReady", "(II)Z"⟩, 60) := ⟨⟨by decide +kernel, by decide +kernel⟩, lw_t7 (List.mem_of_getElem? (i := 19) rfl), lw_t8 (List.mem_of_getElem? (i := 62) rfl), lw_t8 (List.mem_of_getElem? (i := 63) rfl)⟩
theorem lw_p42 : lw_okq (⟨"WarpMillModel", "group", "(I)Z"⟩, 60) := ⟨⟨by decide +kernel, by decide +kernel⟩, lw_t7 (List.mem_of_getElem? (i := 19) rfl), lw_t8 (List.mem_of_getElem? (i := 66) rfl), lw_t8 (List.mem_of_getElem? (i := 67) rfl)⟩
theorem lw_p43 : lw_okq (⟨"WarpMillModel", "isAwake", "(II)Z"⟩, 60) := ⟨⟨by decide +kernel, by decide +kernel⟩, lw_t7 (List.mem_of_getElem? (i := 19) rfl), lw_t8 (List.mem_of_getElem? (i := 70) rfl), lw_t8 (List.mem_of_getElem? (i := 71) rfl)⟩
theorem lw_p44 : lw_okq (⟨"WarpMillModel", "isLane", "(II)Z"⟩, 60) := ⟨⟨by decide +kernel, by decide +kernel⟩, lw_t7 (List.mem_of_getElem? (i := 19) rfl), lw_t8 (List.mem_of_getElem? (i := 74) rfl), lw_t8 (List.mem_of_getElem? (i := 75) rfl)⟩
theorem lw_p45 : lw_okq (⟨"WarpMillModel", "firstOfGroup", "()I"⟩, 60) := ⟨⟨by decide +kernel, by decide +kernel⟩, lw_t7 (List.mem_of_getElem? (i := 19) rfl), lw_t8 (List.mem_of_getElem? (i := 78) rfl), lw_t8 (List.mem_of_getElem? (i := 79) rfl)⟩
theorem lw_p46 : lw_okq (⟨"WarpMillModel", "take", "(J)V"⟩, 60) := ⟨⟨by decide +kernel, by decide +kernel⟩, lw_t7 (List.mem_of_getElem? (i := 19) rfl), lw_t8 (List.mem_of_getElem? (i := 82) rfl), lw_t8 (List.mem_of_getElem? (i := 83) rfl)⟩
theorem lw_p47 : lw_okq (⟨"WarpMillModel", "isWord", "()Z"⟩, 60) := ⟨⟨by decide +kernel, by decide +kernel⟩, lw_t7 (List.mem_of_getElem? (i := 19) rfl), lw_t8 (List.mem_of_getElem? (i := 88) rfl), lw_t8 (List.mem_of_getElem? (i := 89) rfl)⟩
def lw_privs_3 : List (MethodName × Nat) := [(⟨"WarpMillModel", "oneCycle", "()V"⟩, 60), (⟨"WarpMillModel", "doPending", "()V"⟩, 60), (⟨"WarpMillModel", "doOne", "(I)V"⟩, 60), (⟨"WarpMillModel", "dispatch", "()V"⟩, 60), (⟨"WarpMillModel", "freeSlots", "(I)I"⟩, 60), (⟨"WarpMillModel", "warps", "()I"⟩, 60), (⟨"WarpMillModel", "begin", "(II)V"⟩, 60), (⟨"WarpMillModel", "beginWarp", "(I)V"⟩, 60), (⟨"WarpMillModel", "unitGoes", "(I)V"⟩, 60), (⟨"WarpMillModel", "isReady", "(II)Z"⟩, 60), (⟨"WarpMillModel", "group", "(I)Z"⟩, 60), (⟨"WarpMillModel", "isAwake", "(II)Z"⟩, 60), (⟨"WarpMillModel", "isLane", "(II)Z"⟩, 60), (⟨"WarpMillModel", "firstOfGroup", "()I"⟩, 60), (⟨"WarpMillModel", "take", "(J)V"⟩, 60), (⟨"WarpMillModel", "isWord", "()Z"⟩, 60)]
theorem lw_r3 : ∀ q ∈ lw_privs_3, lw_okq q := List.forall_mem_cons.mpr ⟨lw_p32, List.forall_mem_cons.mpr ⟨lw_p33, List.forall_mem_cons.mpr ⟨lw_p34, List.forall_mem_cons.mpr ⟨lw_p35, List.forall_mem_cons.mpr ⟨lw_p36, List.forall_mem_cons.mpr ⟨lw_p37, List.forall_mem_cons.mpr ⟨lw_p38, List.forall_mem_cons.mpr ⟨lw_p39, List.forall_mem_cons.mpr ⟨lw_p40, List.forall_mem_cons.mpr ⟨lw_p41, List.forall_mem_cons.mpr ⟨lw_p42, List.forall_mem_cons.mpr ⟨lw_p43, List.forall_mem_cons.mpr ⟨lw_p44, List.forall_mem_cons.mpr ⟨lw_p45, List.forall_mem_cons.mpr ⟨lw_p46, List.forall_mem_cons.mpr ⟨lw_p47, fun _ h => absurd h List.not_mem_nil⟩⟩⟩⟩⟩⟩⟩⟩⟩⟩⟩⟩⟩⟩⟩⟩
theorem lw_p48 : lw_okq (⟨"WarpMillModel", "isPredicateThere", "(II)Z"⟩, 60) := ⟨⟨by decide +kernel, by decide +kernel⟩, lw_t7 (List.mem_of_getElem? (i := 19) rfl), lw_t8 (List.mem_of_getElem? (i := 92) rfl), lw_t8 (List.mem_of_getElem? (i := 93) rfl)⟩
theorem lw_p49 : lw_okq (⟨"WarpMillModel", "isThere", "(II)Z"⟩, 60) := ⟨⟨by decide +kernel, by decide +kernel⟩, lw_t7 (List.mem_of_getElem? (i := 19) rfl), lw_t8 (List.mem_of_getElem? (i := 96) rfl), lw_t8 (List.mem_of_getElem? (i := 97) rfl)⟩
theorem lw_p50 : lw_okq (⟨"WarpMillModel", "readsA", "()Z"⟩, 60) := ⟨⟨by decide +kernel, by decide +kernel⟩, lw_t7 (List.mem_of_getElem? (i := 19) rfl), lw_t8 (List.mem_of_getElem? (i := 100) rfl), lw_t8 (List.mem_of_getElem? (i := 101) rfl)⟩
theorem lw_p51 : lw_okq (⟨"WarpMillModel", "isMemory", "()Z"⟩, 60) := ⟨⟨by decide +kernel, by decide +kernel⟩, lw_t7 (List.mem_of_getElem? (i := 19) rfl), lw_t8 (List.mem_of_getElem? (i := 104) rfl), lw_t8 (List.mem_of_getElem? (i := 105) rfl)⟩
theorem lw_p52 : lw_okq (⟨"WarpMillModel", "readsB", "()Z"⟩, 60) := ⟨⟨by decide +kernel, by decide +kernel⟩, lw_t7 (List.mem_of_getElem? (i := 19) rfl), lw_t8 (List.mem_of_getElem? (i := 108) rfl), lw_t8 (List.mem_of_getElem? (i := 109) rfl)⟩
theorem lw_p53 : lw_okq (⟨"WarpMillModel", "writesD", "()Z"⟩, 60) := ⟨⟨by decide +kernel, by decide +kernel⟩, lw_t7 (List.mem_of_getElem? (i := 19) rfl), lw_t8 (List.mem_of_getElem? (i := 112) rfl), lw_t8 (List.mem_of_getElem? (i := 113) rfl)⟩
theorem lw_p54 : lw_okq (⟨"WarpMillModel", "writesPredicate", "()Z"⟩, 60) := ⟨⟨by decide +kernel, by decide +kernel⟩, lw_t7 (List.mem_of_getElem? (i := 19) rfl), lw_t8 (List.mem_of_getElem? (i := 116) rfl), lw_t8 (List.mem_of_getElem? (i := 117) rfl)⟩
theorem lw_p55 : lw_okq (⟨"WarpMillModel", "isShared", "()Z"⟩, 60) := ⟨⟨by decide +kernel, by decide +kernel⟩, lw_t7 (List.mem_of_getElem? (i := 19) rfl), lw_t8 (List.mem_of_getElem? (i := 120) rfl), lw_t8 (List.mem_of_getElem? (i := 121) rfl)⟩
theorem lw_p56 : lw_okq (⟨"WarpMillModel", "go", "(II)V"⟩, 60) := ⟨⟨by decide +kernel, by decide +kernel⟩, lw_t7 (List.mem_of_getElem? (i := 19) rfl), lw_t8 (List.mem_of_getElem? (i := 124) rfl), lw_t8 (List.mem_of_getElem? (i := 125) rfl)⟩
theorem lw_p57 : lw_okq (⟨"WarpMillModel", "trap", "(III)V"⟩, 60) := ⟨⟨by decide +kernel, by decide +kernel⟩, lw_t7 (List.mem_of_getElem? (i := 19) rfl), lw_t8 (List.mem_of_getElem? (i := 128) rfl), lw_t8 (List.mem_of_getElem? (i := 129) rfl)⟩
theorem lw_p58 : lw_okq (⟨"WarpMillModel", "has", "(II)Z"⟩, 60) := ⟨⟨by decide +kernel, by decide +kernel⟩, lw_t7 (List.mem_of_getElem? (i := 19) rfl), lw_t8 (List.mem_of_getElem? (i := 132) rfl), lw_t8 (List.mem_of_getElem? (i := 133) rfl)⟩
theorem lw_p59 : lw_okq (⟨"WarpMillModel", "whyNot", "(I)I"⟩, 60) := ⟨⟨by decide +kernel, by decide +kernel⟩, lw_t7 (List.mem_of_getElem? (i := 19) rfl), lw_t8 (List.mem_of_getElem? (i := 136) rfl), lw_t8 (List.mem_of_getElem? (i := 137) rfl)⟩
theorem lw_p60 : lw_okq (⟨"WarpMillModel", "reg", "(II)I"⟩, 60) := ⟨⟨by decide +kernel, by decide +kernel⟩, lw_t7 (List.mem_of_getElem? (i := 19) rfl), lw_t8 (List.mem_of_getElem? (i := 140) rfl), lw_t8 (List.mem_of_getElem? (i := 141) rfl)⟩
theorem lw_p61 : lw_okq (⟨"WarpMillModel", "time", "(II)I"⟩, 60) := ⟨⟨by decide +kernel, by decide +kernel⟩, lw_t7 (List.mem_of_getElem? (i := 19) rfl), lw_t8 (List.mem_of_getElem? (i := 144) rfl), lw_t8 (List.mem_of_getElem? (i := 145) rfl)⟩
theorem lw_p62 : lw_okq (⟨"WarpMillModel", "timeOfShared", "(II)I"⟩, 60) := ⟨⟨by decide +kernel, by decide +kernel⟩, lw_t7 (List.mem_of_getElem? (i := 19) rfl), lw_t8 (List.mem_of_getElem? (i := 148) rfl), lw_t8 (List.mem_of_getElem? (i := 149) rfl)⟩
theorem lw_p63 : lw_okq (⟨"WarpMillModel", "asked", "(II)I"⟩, 60) := ⟨⟨by decide +kernel, by decide +kernel⟩, lw_t7 (List.mem_of_getElem? (i := 19) rfl), lw_t8 (List.mem_of_getElem? (i := 152) rfl), lw_t8 (List.mem_of_getElem? (i := 153) rfl)⟩
def lw_privs_4 : List (MethodName × Nat) := [(⟨"WarpMillModel", "isPredicateThere", "(II)Z"⟩, 60), (⟨"WarpMillModel", "isThere", "(II)Z"⟩, 60), (⟨"WarpMillModel", "readsA", "()Z"⟩, 60), (⟨"WarpMillModel", "isMemory", "()Z"⟩, 60), (⟨"WarpMillModel", "readsB", "()Z"⟩, 60), (⟨"WarpMillModel", "writesD", "()Z"⟩, 60), (⟨"WarpMillModel", "writesPredicate", "()Z"⟩, 60), (⟨"WarpMillModel", "isShared", "()Z"⟩, 60), (⟨"WarpMillModel", "go", "(II)V"⟩, 60), (⟨"WarpMillModel", "trap", "(III)V"⟩, 60), (⟨"WarpMillModel", "has", "(II)Z"⟩, 60), (⟨"WarpMillModel", "whyNot", "(I)I"⟩, 60), (⟨"WarpMillModel", "reg", "(II)I"⟩, 60), (⟨"WarpMillModel", "time", "(II)I"⟩, 60), (⟨"WarpMillModel", "timeOfShared", "(II)I"⟩, 60), (⟨"WarpMillModel", "asked", "(II)I"⟩, 60)]
theorem lw_r4 : ∀ q ∈ lw_privs_4, lw_okq q := List.forall_mem_cons.mpr ⟨lw_p48, List.forall_mem_cons.mpr ⟨lw_p49, List.forall_mem_cons.mpr ⟨lw_p50, List.forall_mem_cons.mpr ⟨lw_p51, List.forall_mem_cons.mpr ⟨lw_p52, List.forall_mem_cons.mpr ⟨lw_p53, List.forall_mem_cons.mpr ⟨lw_p54, List.forall_mem_cons.mpr ⟨lw_p55, List.forall_mem_cons.mpr ⟨lw_p56, List.forall_mem_cons.mpr ⟨lw_p57, List.forall_mem_cons.mpr ⟨lw_p58, List.forall_mem_cons.mpr ⟨lw_p59, List.forall_mem_cons.mpr ⟨lw_p60, List.forall_mem_cons.mpr ⟨lw_p61, List.forall_mem_cons.mpr ⟨lw_p62, List.forall_mem_cons.mpr ⟨lw_p63, fun _ h => absurd h List.not_mem_nil⟩⟩⟩⟩⟩⟩⟩⟩⟩⟩⟩⟩⟩⟩⟩⟩
theorem lw_p64 : lw_okq (⟨"WarpMillModel", "isAgain", "(II)Z"⟩, 60) := ⟨⟨by decide +kernel, by decide +kernel⟩, lw_t7 (List.mem_of_getElem? (i := 19) rfl), lw_t8 (List.mem_of_getElem? (i := 156) rfl), lw_t8 (List.mem_of_getElem? (i := 157) rfl)⟩
theorem lw_p65 : lw_okq (⟨"WarpMillModel", "timeOfGlobal", "(I)I"⟩, 60) := ⟨⟨by decide +kernel, by decide +kernel⟩, lw_t7 (List.mem_of_getElem? (i := 19) rfl), lw_t8 (List.mem_of_getElem? (i := 160) rfl), lw_t8 (List.mem_of_getElem? (i := 161) rfl)⟩
theorem lw_p66 : lw_okq (⟨"WarpMillModel", "isLineAgain", "(II)Z"⟩, 60) := ⟨⟨by decide +kernel, by decide +kernel⟩, lw_t7 (List.mem_of_getElem? (i := 19) rfl), lw_t8 (List.mem_of_getElem? (i := 164) rfl), lw_t8 (List.mem_of_getElem? (i := 165) rfl)⟩
theorem lw_p67 : lw_okq (⟨"WarpMillModel", "together", "(I)V"⟩, 60) := ⟨⟨by decide +kernel, by decide +kernel⟩, lw_t7 (List.mem_of_getElem? (i := 19) rfl), lw_t8 (List.mem_of_getElem? (i := 168) rfl), lw_t8 (List.mem_of_getElem? (i := 169) rfl)⟩
theorem lw_p68 : lw_okq (⟨"WarpMillModel", "act", "(IIII)V"⟩, 60) := ⟨⟨by decide +kernel, by decide +kernel⟩, lw_t7 (List.mem_of_getElem? (i := 19) rfl), lw_t8 (List.mem_of_getElem? (i := 172) rfl), lw_t8 (List.mem_of_getElem? (i := 173) rfl)⟩
theorem lw_p69 : lw_okq (⟨"WarpMillModel", "told", "(II)I"⟩, 60) := ⟨⟨by decide +kernel, by decide +kernel⟩, lw_t7 (List.mem_of_getElem? (i := 19) rfl), lw_t8 (List.mem_of_getElem? (i := 176) rfl), lw_t8 (List.mem_of_getElem? (i := 177) rfl)⟩
theorem lw_p70 : lw_okq (⟨"WarpMillModel", "reckon", "(III)I"⟩, 60) := ⟨⟨by decide +kernel, by decide +kernel⟩, lw_t7 (List.mem_of_getElem? (i := 19) rfl), lw_t8 (List.mem_of_getElem? (i := 180) rfl), lw_t8 (List.mem_of_getElem? (i := 181) rfl)⟩
theorem lw_p71 : lw_okq (⟨"WarpMillModel", "say", "(IZ)V"⟩, 60) := ⟨⟨by decide +kernel, by decide +kernel⟩, lw_t7 (List.mem_of_getElem? (i := 19) rfl), lw_t8 (List.mem_of_getElem? (i := 184) rfl), lw_t8 (List.mem_of_getElem? (i := 185) rfl)⟩
theorem lw_p72 : lw_okq (⟨"WarpMillModel", "jump", "(IIII)V"⟩, 60) := ⟨⟨by decide +kernel, by decide +kernel⟩, lw_t7 (List.mem_of_getElem? (i := 19) rfl), lw_t8 (List.mem_of_getElem? (i := 188) rfl), lw_t8 (List.mem_of_getElem? (i := 189) rfl)⟩
theorem lw_p73 : lw_okq (⟨"WarpMillModel", "ask", "(IIIII)V"⟩, 60) := ⟨⟨by decide +kernel, by decide +kernel⟩, lw_t7 (List.mem_of_getElem? (i := 19) rfl), lw_t8 (List.mem_of_getElem? (i := 192) rfl), lw_t8 (List.mem_of_getElem? (i := 193) rfl)⟩
theorem lw_p74 : lw_okq (⟨"WarpMillModel", "touch", "(IIII)V"⟩, 60) := ⟨⟨by decide +kernel, by decide +kernel⟩, lw_t7 (List.mem_of_getElem? (i := 19) rfl), lw_t8 (List.mem_of_getElem? (i := 196) rfl), lw_t8 (List.mem_of_getElem? (i := 197) rfl)⟩
theorem lw_p75 : lw_okq (⟨"WarpMillModel", "from", "(I)I"⟩, 60) := ⟨⟨by decide +kernel, by decide +kernel⟩, lw_t7 (List.mem_of_getElem? (i := 19) rfl), lw_t8 (List.mem_of_getElem? (i := 200) rfl), lw_t8 (List.mem_of_getElem? (i := 201) rfl)⟩
theorem lw_p76 : lw_okq (⟨"WarpMillModel", "settle", "(I)V"⟩, 60) := ⟨⟨by decide +kernel, by decide +kernel⟩, lw_t7 (List.mem_of_getElem? (i := 19) rfl), lw_t8 (List.mem_of_getElem? (i := 204) rfl), lw_t8 (List.mem_of_getElem? (i := 205) rfl)⟩
theorem lw_p77 : lw_okq (⟨"WarpMillModel", "isSlot", "(II)Z"⟩, 60) := ⟨⟨by decide +kernel, by decide +kernel⟩, lw_t7 (List.mem_of_getElem? (i := 19) rfl), lw_t8 (List.mem_of_getElem? (i := 232) rfl), lw_t8 (List.mem_of_getElem? (i := 233) rfl)⟩
def lw_privs_5 : List (MethodName × Nat) := [(⟨"WarpMillModel", "isAgain", "(II)Z"⟩, 60), (⟨"WarpMillModel", "timeOfGlobal", "(I)I"⟩, 60), (⟨"WarpMillModel", "isLineAgain", "(II)Z"⟩, 60), (⟨"WarpMillModel", "together", "(I)V"⟩, 60), (⟨"WarpMillModel", "act", "(IIII)V"⟩, 60), (⟨"WarpMillModel", "told", "(II)I"⟩, 60), (⟨"WarpMillModel", "reckon", "(III)I"⟩, 60), (⟨"WarpMillModel", "say", "(IZ)V"⟩, 60), (⟨"WarpMillModel", "jump", "(IIII)V"⟩, 60), (⟨"WarpMillModel", "ask", "(IIIII)V"⟩, 60), (⟨"WarpMillModel", "touch", "(IIII)V"⟩, 60), (⟨"WarpMillModel", "from", "(I)I"⟩, 60), (⟨"WarpMillModel", "settle", "(I)V"⟩, 60), (⟨"WarpMillModel", "isSlot", "(II)Z"⟩, 60)]
theorem lw_r5 : ∀ q ∈ lw_privs_5, lw_okq q := List.forall_mem_cons.mpr ⟨lw_p64, List.forall_mem_cons.mpr ⟨lw_p65, List.forall_mem_cons.mpr ⟨lw_p66, List.forall_mem_cons.mpr ⟨lw_p67, List.forall_mem_cons.mpr ⟨lw_p68, List.forall_mem_cons.mpr ⟨lw_p69, List.forall_mem_cons.mpr ⟨lw_p70, List.forall_mem_cons.mpr ⟨lw_p71, List.forall_mem_cons.mpr ⟨lw_p72, List.forall_mem_cons.mpr ⟨lw_p73, List.forall_mem_cons.mpr ⟨lw_p74, List.forall_mem_cons.mpr ⟨lw_p75, List.forall_mem_cons.mpr ⟨lw_p76, List.forall_mem_cons.mpr ⟨lw_p77, fun _ h => absurd h List.not_mem_nil⟩⟩⟩⟩⟩⟩⟩⟩⟩⟩⟩⟩⟩⟩
def lw_privs : List (MethodName × Nat) := lw_privs_1 ++ (lw_privs_2 ++ (lw_privs_3 ++ (lw_privs_4 ++ (lw_privs_5))))
def lw_tbl : List Cond := k2_sels lw_privs ++ tables_1
theorem lw_privs_ok : ∀ q ∈ lw_privs, lw_okq q := by
  show ∀ q ∈ lw_privs_1 ++ (lw_privs_2 ++ (lw_privs_3 ++ (lw_privs_4 ++ (lw_privs_5)))), lw_okq q
  exact List.forall_mem_append.mpr ⟨lw_r1, List.forall_mem_append.mpr ⟨lw_r2, List.forall_mem_append.mpr ⟨lw_r3, List.forall_mem_append.mpr ⟨lw_r4, lw_r5⟩⟩⟩⟩
-- ===== ONE list of words for every method: the tables' words that hold all through a run =====
def lw_all : List Cond := lw_tbl.filter goodWord
/-- a word of the tables by its place: claim/WORDS.tsv -/
theorem lw_w {w : Cond} (i : Nat) (h : lw_tbl[i]? = some w) (g : goodWord w = true) : w ∈ lw_all := List.mem_filter.mpr ⟨List.mem_of_getElem? h, g⟩
theorem lw_all_tbl {w : Cond} (h : w ∈ lw_all) : w ∈ lw_tbl := (List.mem_filter.mp h).1
theorem lw_self : GoodIn lw_all lw_all := fun w h => ⟨h, good_of_word (List.mem_filter.mp h).2⟩
/-- a class's field words, by their places -/
theorem lw_in (ws : List Cond) (ps : List Nat) (hp : ws = ps.filterMap (fun i => lw_tbl[i]?)) (hg : ws.all goodWord = true) : ∀ w ∈ ws, w ∈ lw_all := by
  intro w h
  have h1 := List.all_eq_true.mp hg w h
  rw [hp] at h
  obtain ⟨i, -, hi⟩ := List.mem_filterMap.mp h
  exact lw_w i hi h1
/-- the words of a contract for the method y with code b, L locals, answer r -/
abbrev ws_ (y : MethodName) (b : ByteArray) (L : Nat) (r : Option FieldType) : List Cond := Cond.code y b L r :: lw_all
theorem lw_meth {y : MethodName} {b : ByteArray} {L : Nat} {r : Option FieldType} (h : Cond.code y b L r ∈ lw_all) : GoodIn lw_all (ws_ y b L r) := by
  intro w hw
  rcases List.mem_cons.mp hw with e | e
  · rw [e]
    exact lw_self _ h
  · exact lw_self _ e
theorem lw_app {a c : List Cond} (ha : ∀ w ∈ a, w ∈ lw_all) (hc : GoodIn lw_all c) : GoodIn lw_all (a ++ c) := by
  intro w hw
  rcases List.mem_append.mp hw with e | e
  · exact lw_self w (ha w e)
  · exact hc w e
/-- what a call through an object asks: cwV n hts (lw_V ..) -/
theorem lw_V {own : String} {idx : Nat} {C : String} {y : MethodName} {b : ByteArray} {L : Nat} {r : Option FieldType} (h1 : Cond.methodLink own idx y ∈ lw_all) (h2 : Cond.instanceMethod y ∈ lw_all) (h3 : Cond.selects C y y ∈ lw_all) (h4 : Cond.initialized C ∈ lw_all) (h5 : Cond.code y b L r ∈ lw_all) : GoodIn lw_all (wsV own idx C y (ws_ y b L r)) := by
  refine lw_app ?_ (lw_meth h5)
  intro w hw
  simp only [List.mem_cons, List.not_mem_nil, or_false] at hw
  rcases hw with e | e | e | e
  · rw [e]; exact h1
  · rw [e]; exact h2
  · rw [e]; exact h3
  · rw [e]; exact h4
/-- what a static call asks: va_cwS n hts (lw_S ..) -/
theorem lw_S {own : String} {idx : Nat} {y : MethodName} {b : ByteArray} {L : Nat} {r : Option FieldType} (h1 : Cond.methodLink own idx y ∈ lw_all) (h2 : Cond.static y ∈ lw_all) (h3 : Cond.initialized y.cls ∈ lw_all) (h4 : Cond.code y b L r ∈ lw_all) : GoodIn lw_all (va_wsS own idx y (ws_ y b L r)) := by
  refine lw_app ?_ (lw_meth h4)
  intro w hw
  simp only [List.mem_cons, List.not_mem_nil, or_false] at hw
  rcases hw with e | e | e
  · rw [e]; exact h1
  · rw [e]; exact h2
  · rw [e]; exact h3
/-- the words of a contract for a method WITH HANDLERS (hh: its table) -/
abbrev wsW_ (y : MethodName) (b : ByteArray) (L : Nat) (r : Option FieldType) (hh : List (Nat × Nat × Nat × Nat)) : List Cond := Cond.codeWith y b L r hh :: lw_all
theorem lw_methW {y : MethodName} {b : ByteArray} {L : Nat} {r : Option FieldType} {hh : List (Nat × Nat × Nat × Nat)} (h : Cond.codeWith y b L r hh ∈ lw_all) : GoodIn lw_all (wsW_ y b L r hh) := by
  intro w hw
  rcases List.mem_cons.mp hw with e | e
  · rw [e]
    exact lw_self _ h
  · exact lw_self _ e
/-- any list of words by their places (lw_in), good -/
theorem lw_good {ws : List Cond} (h : ∀ w ∈ ws, w ∈ lw_all) : GoodIn lw_all ws := fun w hw => lw_self w (h w hw)
/-- what a call of a method with handlers asks: vx_cwVW n hts (lw_VW ..), vx_cwSW n hts (lw_SW ..) -/
theorem lw_VW {own : String} {idx : Nat} {C : String} {y : MethodName} {b : ByteArray} {L : Nat} {r : Option FieldType} {hh : List (Nat × Nat × Nat × Nat)} (h1 : Cond.methodLink own idx y ∈ lw_all) (h2 : Cond.instanceMethod y ∈ lw_all) (h3 : Cond.selects C y y ∈ lw_all) (h4 : Cond.initialized C ∈ lw_all) (h5 : Cond.codeWith y b L r hh ∈ lw_all) : GoodIn lw_all (wsV own idx C y (wsW_ y b L r hh)) := by
  refine lw_app ?_ (lw_methW h5)
  intro w hw
  simp only [List.mem_cons, List.not_mem_nil, or_false] at hw
  rcases hw with e | e | e | e
  · rw [e]; exact h1
  · rw [e]; exact h2
  · rw [e]; exact h3
  · rw [e]; exact h4
theorem lw_SW {own : String} {idx : Nat} {y : MethodName} {b : ByteArray} {L : Nat} {r : Option FieldType} {hh : List (Nat × Nat × Nat × Nat)} (h1 : Cond.methodLink own idx y ∈ lw_all) (h2 : Cond.static y ∈ lw_all) (h3 : Cond.initialized y.cls ∈ lw_all) (h4 : Cond.codeWith y b L r hh ∈ lw_all) : GoodIn lw_all (va_wsS own idx y (wsW_ y b L r hh)) := by
  refine lw_app ?_ (lw_methW h4)
  intro w hw
  simp only [List.mem_cons, List.not_mem_nil, or_false] at hw
  rcases hw with e | e | e
  · rw [e]; exact h1
  · rw [e]; exact h2
  · rw [e]; exact h3
/-- a word by its place in its run of the tables -/
theorem lw_at {r : List Cond} (hr : ∀ w ∈ r, w ∈ lw_tbl) {w : Cond} (i : Nat) (h : r[i]? = some w) : w ∈ lw_tbl := hr w (List.mem_of_getElem? h)
theorem lw_g {w : Cond} (h : w ∈ lw_tbl) (g : goodWord w = true) : w ∈ lw_all := List.mem_filter.mpr ⟨h, g⟩
theorem lw_ms : ∀ w ∈ k2_sels lw_privs, w ∈ lw_tbl := fun w h => show w ∈ k2_sels lw_privs ++ tables_1 from List.mem_append_left _ h
theorem lw_m1 : ∀ w ∈ tables_1_1, w ∈ lw_tbl := fun w h => show w ∈ k2_sels lw_privs ++ tables_1 from List.mem_append_right (k2_sels lw_privs) (show w ∈ tables_1 from List.mem_append_left _ h)
theorem lw_m2 : ∀ w ∈ tables_1_2, w ∈ lw_tbl := fun w h => show w ∈ k2_sels lw_privs ++ tables_1 from List.mem_append_right (k2_sels lw_privs) (show w ∈ tables_1 from List.mem_append_right _ (List.mem_append_left _ h))
theorem lw_m3 : ∀ w ∈ tables_1_3, w ∈ lw_tbl := fun w h => show w ∈ k2_sels lw_privs ++ tables_1 from List.mem_append_right (k2_sels lw_privs) (show w ∈ tables_1 from List.mem_append_right _ (List.mem_append_right _ (List.mem_append_left _ h)))
theorem lw_m4 : ∀ w ∈ tables_1_4, w ∈ lw_tbl := fun w h => show w ∈ k2_sels lw_privs ++ tables_1 from List.mem_append_right (k2_sels lw_privs) (show w ∈ tables_1 from List.mem_append_right _ (List.mem_append_right _ (List.mem_append_right _ (List.mem_append_left _ h))))
theorem lw_m5 : ∀ w ∈ tables_1_5, w ∈ lw_tbl := fun w h => show w ∈ k2_sels lw_privs ++ tables_1 from List.mem_append_right (k2_sels lw_privs) (show w ∈ tables_1 from List.mem_append_right _ (List.mem_append_right _ (List.mem_append_right _ (List.mem_append_right _ (List.mem_append_left _ h)))))
theorem lw_m6 : ∀ w ∈ tables_1_6, w ∈ lw_tbl := fun w h => show w ∈ k2_sels lw_privs ++ tables_1 from List.mem_append_right (k2_sels lw_privs) (show w ∈ tables_1 from List.mem_append_right _ (List.mem_append_right _ (List.mem_append_right _ (List.mem_append_right _ (List.mem_append_right _ (List.mem_append_left _ h))))))
theorem lw_m7 : ∀ w ∈ tables_1_7, w ∈ lw_tbl := fun w h => show w ∈ k2_sels lw_privs ++ tables_1 from List.mem_append_right (k2_sels lw_privs) (show w ∈ tables_1 from List.mem_append_right _ (List.mem_append_right _ (List.mem_append_right _ (List.mem_append_right _ (List.mem_append_right _ (List.mem_append_right _ (List.mem_append_left _ h)))))))
theorem lw_m8 : ∀ w ∈ tables_1_8, w ∈ lw_tbl := fun w h => show w ∈ k2_sels lw_privs ++ tables_1 from List.mem_append_right (k2_sels lw_privs) (show w ∈ tables_1 from List.mem_append_right _ (List.mem_append_right _ (List.mem_append_right _ (List.mem_append_right _ (List.mem_append_right _ (List.mem_append_right _ (List.mem_append_right _ (List.mem_append_left _ h))))))))
theorem lw_m9 : ∀ w ∈ tables_1_9, w ∈ lw_tbl := fun w h => show w ∈ k2_sels lw_privs ++ tables_1 from List.mem_append_right (k2_sels lw_privs) (show w ∈ tables_1 from List.mem_append_right _ (List.mem_append_right _ (List.mem_append_right _ (List.mem_append_right _ (List.mem_append_right _ (List.mem_append_right _ (List.mem_append_right _ (List.mem_append_right _ h))))))))
theorem qs0 : (Cond.selects "java/lang/Throwable" ⟨"java/lang/Throwable", "fillInStackTrace", "(I)Ljava/lang/Throwable;"⟩ ⟨"java/lang/Throwable", "fillInStackTrace", "(I)Ljava/lang/Throwable;"⟩) ∈ lw_all := lw_g (lw_at lw_ms 0 rfl) rfl
theorem qs1 : (Cond.selects "java/util/BitSet" ⟨"java/util/BitSet", "initWords", "(I)V"⟩ ⟨"java/util/BitSet", "initWords", "(I)V"⟩) ∈ lw_all := lw_g (lw_at lw_ms 1 rfl) rfl
theorem qs2 : (Cond.selects "WarpMill$Word" ⟨"WarpMill$Word", "sortOf", "()LWarpMill$Sort;"⟩ ⟨"WarpMill$Word", "sortOf", "()LWarpMill$Sort;"⟩) ∈ lw_all := lw_g (lw_at lw_ms 2 rfl) rfl
theorem qs3 : (Cond.selects "java/util/ArrayList" ⟨"java/util/ArrayList", "add", "(Ljava/lang/Object;[Ljava/lang/Object;I)V"⟩ ⟨"java/util/ArrayList", "add", "(Ljava/lang/Object;[Ljava/lang/Object;I)V"⟩) ∈ lw_all := lw_g (lw_at lw_ms 3 rfl) rfl
theorem qs4 : (Cond.selects "java/util/ArrayList" ⟨"java/util/ArrayList", "grow", "()[Ljava/lang/Object;"⟩ ⟨"java/util/ArrayList", "grow", "()[Ljava/lang/Object;"⟩) ∈ lw_all := lw_g (lw_at lw_ms 4 rfl) rfl
theorem qs5 : (Cond.selects "java/util/ArrayList" ⟨"java/util/ArrayList", "grow", "(I)[Ljava/lang/Object;"⟩ ⟨"java/util/ArrayList", "grow", "(I)[Ljava/lang/Object;"⟩) ∈ lw_all := lw_g (lw_at lw_ms 5 rfl) rfl
theorem qs6 : (Cond.selects "WarpMill$Machine" ⟨"WarpMill$Machine", "forget", "()V"⟩ ⟨"WarpMill$Machine", "forget", "()V"⟩) ∈ lw_all := lw_g (lw_at lw_ms 6 rfl) rfl
theorem qs7 : (Cond.selects "WarpMill" ⟨"WarpMill", "isUnit", "(I)Z"⟩ ⟨"WarpMill", "isUnit", "(I)Z"⟩) ∈ lw_all := lw_g (lw_at lw_ms 7 rfl) rfl
theorem qs8 : (Cond.selects "WarpMill" ⟨"WarpMill", "isSlot", "(II)Z"⟩ ⟨"WarpMill", "isSlot", "(II)Z"⟩) ∈ lw_all := lw_g (lw_at lw_ms 8 rfl) rfl
theorem qs9 : (Cond.selects "java/util/ArrayList" ⟨"java/util/ArrayList", "fastRemove", "([Ljava/lang/Object;I)V"⟩ ⟨"java/util/ArrayList", "fastRemove", "([Ljava/lang/Object;I)V"⟩) ∈ lw_all := lw_g (lw_at lw_ms 9 rfl) rfl
theorem qs10 : (Cond.selects "WarpMill$Machine" ⟨"WarpMill$Machine", "finish", "(LWarpMill$Ask;)V"⟩ ⟨"WarpMill$Machine", "finish", "(LWarpMill$Ask;)V"⟩) ∈ lw_all := lw_g (lw_at lw_ms 10 rfl) rfl
theorem qs11 : (Cond.selects "WarpMill$Machine" ⟨"WarpMill$Machine", "dispatch", "()V"⟩ ⟨"WarpMill$Machine", "dispatch", "()V"⟩) ∈ lw_all := lw_g (lw_at lw_ms 11 rfl) rfl
theorem qs12 : (Cond.selects "WarpMill$Pool" ⟨"WarpMill$Pool", "warp", "(LWarpMill$Block;II)LWarpMill$Warp;"⟩ ⟨"WarpMill$Pool", "warp", "(LWarpMill$Block;II)LWarpMill$Warp;"⟩) ∈ lw_all := lw_g (lw_at lw_ms 12 rfl) rfl
theorem qs13 : (Cond.selects "WarpMill$Pool" ⟨"WarpMill$Pool", "lane", "()LWarpMill$Lane;"⟩ ⟨"WarpMill$Pool", "lane", "()LWarpMill$Lane;"⟩) ∈ lw_all := lw_g (lw_at lw_ms 13 rfl) rfl
theorem qs14 : (Cond.selects "WarpMill$Machine" ⟨"WarpMill$Machine", "issue", "(LWarpMill$Unit;)V"⟩ ⟨"WarpMill$Machine", "issue", "(LWarpMill$Unit;)V"⟩) ∈ lw_all := lw_g (lw_at lw_ms 14 rfl) rfl
theorem qs15 : (Cond.selects "WarpMill$Machine" ⟨"WarpMill$Machine", "trap", "(LWarpMill$Warp;II)V"⟩ ⟨"WarpMill$Machine", "trap", "(LWarpMill$Warp;II)V"⟩) ∈ lw_all := lw_g (lw_at lw_ms 15 rfl) rfl
theorem qs16 : (Cond.selects "WarpMill$Machine" ⟨"WarpMill$Machine", "go", "(LWarpMill$Unit;LWarpMill$Warp;ILWarpMill$Word;)V"⟩ ⟨"WarpMill$Machine", "go", "(LWarpMill$Unit;LWarpMill$Warp;ILWarpMill$Word;)V"⟩) ∈ lw_all := lw_g (lw_at lw_ms 16 rfl) rfl
theorem qs17 : (Cond.selects "WarpMill$Machine" ⟨"WarpMill$Machine", "trouble", "(LWarpMill$Lane;LWarpMill$Word;)I"⟩ ⟨"WarpMill$Machine", "trouble", "(LWarpMill$Lane;LWarpMill$Word;)I"⟩) ∈ lw_all := lw_g (lw_at lw_ms 17 rfl) rfl
theorem qs18 : (Cond.selects "WarpMill$Machine" ⟨"WarpMill$Machine", "takes", "(LWarpMill$Unit;LWarpMill$Warp;ILWarpMill$Word;)I"⟩ ⟨"WarpMill$Machine", "takes", "(LWarpMill$Unit;LWarpMill$Warp;ILWarpMill$Word;)I"⟩) ∈ lw_all := lw_g (lw_at lw_ms 18 rfl) rfl
theorem qs19 : (Cond.selects "java/util/BitSet" ⟨"java/util/BitSet", "checkInvariants", "()V"⟩ ⟨"java/util/BitSet", "checkInvariants", "()V"⟩) ∈ lw_all := lw_g (lw_at lw_ms 19 rfl) rfl
theorem qs20 : (Cond.selects "java/util/BitSet" ⟨"java/util/BitSet", "expandTo", "(I)V"⟩ ⟨"java/util/BitSet", "expandTo", "(I)V"⟩) ∈ lw_all := lw_g (lw_at lw_ms 20 rfl) rfl
theorem qs21 : (Cond.selects "java/util/BitSet" ⟨"java/util/BitSet", "ensureCapacity", "(I)V"⟩ ⟨"java/util/BitSet", "ensureCapacity", "(I)V"⟩) ∈ lw_all := lw_g (lw_at lw_ms 21 rfl) rfl
theorem qs22 : (Cond.selects "WarpMill$Machine" ⟨"WarpMill$Machine", "vote", "(LWarpMill$Warp;ILWarpMill$Word;)V"⟩ ⟨"WarpMill$Machine", "vote", "(LWarpMill$Warp;ILWarpMill$Word;)V"⟩) ∈ lw_all := lw_g (lw_at lw_ms 22 rfl) rfl
theorem qs23 : (Cond.selects "WarpMill$Machine" ⟨"WarpMill$Machine", "act", "(LWarpMill$Warp;ILWarpMill$Word;)V"⟩ ⟨"WarpMill$Machine", "act", "(LWarpMill$Warp;ILWarpMill$Word;)V"⟩) ∈ lw_all := lw_g (lw_at lw_ms 23 rfl) rfl
theorem qs24 : (Cond.selects "WarpMill$Machine" ⟨"WarpMill$Machine", "ask", "(LWarpMill$Lane;LWarpMill$Word;)V"⟩ ⟨"WarpMill$Machine", "ask", "(LWarpMill$Lane;LWarpMill$Word;)V"⟩) ∈ lw_all := lw_g (lw_at lw_ms 24 rfl) rfl
theorem qs25 : (Cond.selects "WarpMill$Machine" ⟨"WarpMill$Machine", "special", "(LWarpMill$Warp;II)I"⟩ ⟨"WarpMill$Machine", "special", "(LWarpMill$Warp;II)I"⟩) ∈ lw_all := lw_g (lw_at lw_ms 25 rfl) rfl
theorem qs26 : (Cond.selects "WarpMillModel" ⟨"WarpMillModel", "clearHouse", "()V"⟩ ⟨"WarpMillModel", "clearHouse", "()V"⟩) ∈ lw_all := lw_g (lw_at lw_ms 26 rfl) rfl
theorem qs27 : (Cond.selects "WarpMillModel" ⟨"WarpMillModel", "clearUnits", "()V"⟩ ⟨"WarpMillModel", "clearUnits", "()V"⟩) ∈ lw_all := lw_g (lw_at lw_ms 27 rfl) rfl
theorem qs28 : (Cond.selects "WarpMillModel" ⟨"WarpMillModel", "freeAll", "()V"⟩ ⟨"WarpMillModel", "freeAll", "()V"⟩) ∈ lw_all := lw_g (lw_at lw_ms 28 rfl) rfl
theorem qs29 : (Cond.selects "WarpMillModel" ⟨"WarpMillModel", "isUnder", "()Z"⟩ ⟨"WarpMillModel", "isUnder", "()Z"⟩) ∈ lw_all := lw_g (lw_at lw_ms 29 rfl) rfl
theorem qs30 : (Cond.selects "WarpMillModel" ⟨"WarpMillModel", "clearCounts", "()V"⟩ ⟨"WarpMillModel", "clearCounts", "()V"⟩) ∈ lw_all := lw_g (lw_at lw_ms 30 rfl) rfl
theorem qs31 : (Cond.selects "WarpMillModel" ⟨"WarpMillModel", "raise", "(I)I"⟩ ⟨"WarpMillModel", "raise", "(I)I"⟩) ∈ lw_all := lw_g (lw_at lw_ms 31 rfl) rfl
theorem qs32 : (Cond.selects "WarpMillModel" ⟨"WarpMillModel", "oneCycle", "()V"⟩ ⟨"WarpMillModel", "oneCycle", "()V"⟩) ∈ lw_all := lw_g (lw_at lw_ms 32 rfl) rfl
theorem qs33 : (Cond.selects "WarpMillModel" ⟨"WarpMillModel", "doPending", "()V"⟩ ⟨"WarpMillModel", "doPending", "()V"⟩) ∈ lw_all := lw_g (lw_at lw_ms 33 rfl) rfl
theorem qs34 : (Cond.selects "WarpMillModel" ⟨"WarpMillModel", "doOne", "(I)V"⟩ ⟨"WarpMillModel", "doOne", "(I)V"⟩) ∈ lw_all := lw_g (lw_at lw_ms 34 rfl) rfl
theorem qs35 : (Cond.selects "WarpMillModel" ⟨"WarpMillModel", "dispatch", "()V"⟩ ⟨"WarpMillModel", "dispatch", "()V"⟩) ∈ lw_all := lw_g (lw_at lw_ms 35 rfl) rfl
theorem qs36 : (Cond.selects "WarpMillModel" ⟨"WarpMillModel", "freeSlots", "(I)I"⟩ ⟨"WarpMillModel", "freeSlots", "(I)I"⟩) ∈ lw_all := lw_g (lw_at lw_ms 36 rfl) rfl
theorem qs37 : (Cond.selects "WarpMillModel" ⟨"WarpMillModel", "warps", "()I"⟩ ⟨"WarpMillModel", "warps", "()I"⟩) ∈ lw_all := lw_g (lw_at lw_ms 37 rfl) rfl
theorem qs38 : (Cond.selects "WarpMillModel" ⟨"WarpMillModel", "begin", "(II)V"⟩ ⟨"WarpMillModel", "begin", "(II)V"⟩) ∈ lw_all := lw_g (lw_at lw_ms 38 rfl) rfl
theorem qs39 : (Cond.selects "WarpMillModel" ⟨"WarpMillModel", "beginWarp", "(I)V"⟩ ⟨"WarpMillModel", "beginWarp", "(I)V"⟩) ∈ lw_all := lw_g (lw_at lw_ms 39 rfl) rfl
theorem qs40 : (Cond.selects "WarpMillModel" ⟨"WarpMillModel", "unitGoes", "(I)V"⟩ ⟨"WarpMillModel", "unitGoes", "(I)V"⟩) ∈ lw_all := lw_g (lw_at lw_ms 40 rfl) rfl
theorem qs41 : (Cond.selects "WarpMillModel" ⟨"WarpMillModel", "isReady", "(II)Z"⟩ ⟨"WarpMillModel", "isReady", "(II)Z"⟩) ∈ lw_all := lw_g (lw_at lw_ms 41 rfl) rfl
theorem qs42 : (Cond.selects "WarpMillModel" ⟨"WarpMillModel", "group", "(I)Z"⟩ ⟨"WarpMillModel", "group", "(I)Z"⟩) ∈ lw_all := lw_g (lw_at lw_ms 42 rfl) rfl
theorem qs43 : (Cond.selects "WarpMillModel" ⟨"WarpMillModel", "isAwake", "(II)Z"⟩ ⟨"WarpMillModel", "isAwake", "(II)Z"⟩) ∈ lw_all := lw_g (lw_at lw_ms 43 rfl) rfl
theorem qs44 : (Cond.selects "WarpMillModel" ⟨"WarpMillModel", "isLane", "(II)Z"⟩ ⟨"WarpMillModel", "isLane", "(II)Z"⟩) ∈ lw_all := lw_g (lw_at lw_ms 44 rfl) rfl
theorem qs45 : (Cond.selects "WarpMillModel" ⟨"WarpMillModel", "firstOfGroup", "()I"⟩ ⟨"WarpMillModel", "firstOfGroup", "()I"⟩) ∈ lw_all := lw_g (lw_at lw_ms 45 rfl) rfl
theorem qs46 : (Cond.selects "WarpMillModel" ⟨"WarpMillModel", "take", "(J)V"⟩ ⟨"WarpMillModel", "take", "(J)V"⟩) ∈ lw_all := lw_g (lw_at lw_ms 46 rfl) rfl
theorem qs47 : (Cond.selects "WarpMillModel" ⟨"WarpMillModel", "isWord", "()Z"⟩ ⟨"WarpMillModel", "isWord", "()Z"⟩) ∈ lw_all := lw_g (lw_at lw_ms 47 rfl) rfl
theorem qs48 : (Cond.selects "WarpMillModel" ⟨"WarpMillModel", "isPredicateThere", "(II)Z"⟩ ⟨"WarpMillModel", "isPredicateThere", "(II)Z"⟩) ∈ lw_all := lw_g (lw_at lw_ms 48 rfl) rfl
theorem qs49 : (Cond.selects "WarpMillModel" ⟨"WarpMillModel", "isThere", "(II)Z"⟩ ⟨"WarpMillModel", "isThere", "(II)Z"⟩) ∈ lw_all := lw_g (lw_at lw_ms 49 rfl) rfl
theorem qs50 : (Cond.selects "WarpMillModel" ⟨"WarpMillModel", "readsA", "()Z"⟩ ⟨"WarpMillModel", "readsA", "()Z"⟩) ∈ lw_all := lw_g (lw_at lw_ms 50 rfl) rfl
theorem qs51 : (Cond.selects "WarpMillModel" ⟨"WarpMillModel", "isMemory", "()Z"⟩ ⟨"WarpMillModel", "isMemory", "()Z"⟩) ∈ lw_all := lw_g (lw_at lw_ms 51 rfl) rfl
theorem qs52 : (Cond.selects "WarpMillModel" ⟨"WarpMillModel", "readsB", "()Z"⟩ ⟨"WarpMillModel", "readsB", "()Z"⟩) ∈ lw_all := lw_g (lw_at lw_ms 52 rfl) rfl
theorem qs53 : (Cond.selects "WarpMillModel" ⟨"WarpMillModel", "writesD", "()Z"⟩ ⟨"WarpMillModel", "writesD", "()Z"⟩) ∈ lw_all := lw_g (lw_at lw_ms 53 rfl) rfl
theorem qs54 : (Cond.selects "WarpMillModel" ⟨"WarpMillModel", "writesPredicate", "()Z"⟩ ⟨"WarpMillModel", "writesPredicate", "()Z"⟩) ∈ lw_all := lw_g (lw_at lw_ms 54 rfl) rfl
theorem qs55 : (Cond.selects "WarpMillModel" ⟨"WarpMillModel", "isShared", "()Z"⟩ ⟨"WarpMillModel", "isShared", "()Z"⟩) ∈ lw_all := lw_g (lw_at lw_ms 55 rfl) rfl
theorem qs56 : (Cond.selects "WarpMillModel" ⟨"WarpMillModel", "go", "(II)V"⟩ ⟨"WarpMillModel", "go", "(II)V"⟩) ∈ lw_all := lw_g (lw_at lw_ms 56 rfl) rfl
theorem qs57 : (Cond.selects "WarpMillModel" ⟨"WarpMillModel", "trap", "(III)V"⟩ ⟨"WarpMillModel", "trap", "(III)V"⟩) ∈ lw_all := lw_g (lw_at lw_ms 57 rfl) rfl
theorem qs58 : (Cond.selects "WarpMillModel" ⟨"WarpMillModel", "has", "(II)Z"⟩ ⟨"WarpMillModel", "has", "(II)Z"⟩) ∈ lw_all := lw_g (lw_at lw_ms 58 rfl) rfl
theorem qs59 : (Cond.selects "WarpMillModel" ⟨"WarpMillModel", "whyNot", "(I)I"⟩ ⟨"WarpMillModel", "whyNot", "(I)I"⟩) ∈ lw_all := lw_g (lw_at lw_ms 59 rfl) rfl
theorem qs60 : (Cond.selects "WarpMillModel" ⟨"WarpMillModel", "reg", "(II)I"⟩ ⟨"WarpMillModel", "reg", "(II)I"⟩) ∈ lw_all := lw_g (lw_at lw_ms 60 rfl) rfl
theorem qs61 : (Cond.selects "WarpMillModel" ⟨"WarpMillModel", "time", "(II)I"⟩ ⟨"WarpMillModel", "time", "(II)I"⟩) ∈ lw_all := lw_g (lw_at lw_ms 61 rfl) rfl
theorem qs62 : (Cond.selects "WarpMillModel" ⟨"WarpMillModel", "timeOfShared", "(II)I"⟩ ⟨"WarpMillModel", "timeOfShared", "(II)I"⟩) ∈ lw_all := lw_g (lw_at lw_ms 62 rfl) rfl
theorem qs63 : (Cond.selects "WarpMillModel" ⟨"WarpMillModel", "asked", "(II)I"⟩ ⟨"WarpMillModel", "asked", "(II)I"⟩) ∈ lw_all := lw_g (lw_at lw_ms 63 rfl) rfl
theorem qs64 : (Cond.selects "WarpMillModel" ⟨"WarpMillModel", "isAgain", "(II)Z"⟩ ⟨"WarpMillModel", "isAgain", "(II)Z"⟩) ∈ lw_all := lw_g (lw_at lw_ms 64 rfl) rfl
theorem qs65 : (Cond.selects "WarpMillModel" ⟨"WarpMillModel", "timeOfGlobal", "(I)I"⟩ ⟨"WarpMillModel", "timeOfGlobal", "(I)I"⟩) ∈ lw_all := lw_g (lw_at lw_ms 65 rfl) rfl
theorem qs66 : (Cond.selects "WarpMillModel" ⟨"WarpMillModel", "isLineAgain", "(II)Z"⟩ ⟨"WarpMillModel", "isLineAgain", "(II)Z"⟩) ∈ lw_all := lw_g (lw_at lw_ms 66 rfl) rfl
theorem qs67 : (Cond.selects "WarpMillModel" ⟨"WarpMillModel", "together", "(I)V"⟩ ⟨"WarpMillModel", "together", "(I)V"⟩) ∈ lw_all := lw_g (lw_at lw_ms 67 rfl) rfl
theorem qs68 : (Cond.selects "WarpMillModel" ⟨"WarpMillModel", "act", "(IIII)V"⟩ ⟨"WarpMillModel", "act", "(IIII)V"⟩) ∈ lw_all := lw_g (lw_at lw_ms 68 rfl) rfl
theorem qs69 : (Cond.selects "WarpMillModel" ⟨"WarpMillModel", "told", "(II)I"⟩ ⟨"WarpMillModel", "told", "(II)I"⟩) ∈ lw_all := lw_g (lw_at lw_ms 69 rfl) rfl
theorem qs70 : (Cond.selects "WarpMillModel" ⟨"WarpMillModel", "reckon", "(III)I"⟩ ⟨"WarpMillModel", "reckon", "(III)I"⟩) ∈ lw_all := lw_g (lw_at lw_ms 70 rfl) rfl
theorem qs71 : (Cond.selects "WarpMillModel" ⟨"WarpMillModel", "say", "(IZ)V"⟩ ⟨"WarpMillModel", "say", "(IZ)V"⟩) ∈ lw_all := lw_g (lw_at lw_ms 71 rfl) rfl
theorem qs72 : (Cond.selects "WarpMillModel" ⟨"WarpMillModel", "jump", "(IIII)V"⟩ ⟨"WarpMillModel", "jump", "(IIII)V"⟩) ∈ lw_all := lw_g (lw_at lw_ms 72 rfl) rfl
theorem qs73 : (Cond.selects "WarpMillModel" ⟨"WarpMillModel", "ask", "(IIIII)V"⟩ ⟨"WarpMillModel", "ask", "(IIIII)V"⟩) ∈ lw_all := lw_g (lw_at lw_ms 73 rfl) rfl
theorem qs74 : (Cond.selects "WarpMillModel" ⟨"WarpMillModel", "touch", "(IIII)V"⟩ ⟨"WarpMillModel", "touch", "(IIII)V"⟩) ∈ lw_all := lw_g (lw_at lw_ms 74 rfl) rfl
theorem qs75 : (Cond.selects "WarpMillModel" ⟨"WarpMillModel", "from", "(I)I"⟩ ⟨"WarpMillModel", "from", "(I)I"⟩) ∈ lw_all := lw_g (lw_at lw_ms 75 rfl) rfl
theorem qs76 : (Cond.selects "WarpMillModel" ⟨"WarpMillModel", "settle", "(I)V"⟩ ⟨"WarpMillModel", "settle", "(I)V"⟩) ∈ lw_all := lw_g (lw_at lw_ms 76 rfl) rfl
theorem qs77 : (Cond.selects "WarpMillModel" ⟨"WarpMillModel", "isSlot", "(II)Z"⟩ ⟨"WarpMillModel", "isSlot", "(II)Z"⟩) ∈ lw_all := lw_g (lw_at lw_ms 77 rfl) rfl
