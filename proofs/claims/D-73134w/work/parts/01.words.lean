-- ===== PART A: goes FIRST, ahead of the names: the tables' words, and 'selects' of the private methods out of them =====
/-- a private method of a class that the tables say can be made, by its rows of tables_1 -/
def lw_okq (q : MethodName × Nat) : Prop := (q.1.cls ≠ "java/lang/invoke/MethodHandle" ∧ q.1.cls ≠ "java/lang/invoke/VarHandle") ∧ Cond.instantiable q.1.cls q.2 ∈ tables_1 ∧ Cond.privateMethod q.1 ∈ tables_1 ∧ Cond.instanceMethod q.1 ∈ tables_1
set_option maxRecDepth 100000
theorem lw_t1 {w : Cond} (h : w ∈ tables_1_1) : w ∈ tables_1 := List.mem_append_left _ h
theorem lw_t2 {w : Cond} (h : w ∈ tables_1_2) : w ∈ tables_1 := List.mem_append_right _ (List.mem_append_left _ h)
theorem lw_t3 {w : Cond} (h : w ∈ tables_1_3) : w ∈ tables_1 := List.mem_append_right _ (List.mem_append_right _ (List.mem_append_left _ h))
theorem lw_t4 {w : Cond} (h : w ∈ tables_1_4) : w ∈ tables_1 := List.mem_append_right _ (List.mem_append_right _ (List.mem_append_right _ (List.mem_append_left _ h)))
theorem lw_t5 {w : Cond} (h : w ∈ tables_1_5) : w ∈ tables_1 := List.mem_append_right _ (List.mem_append_right _ (List.mem_append_right _ (List.mem_append_right _ (List.mem_append_left _ h))))
theorem lw_t6 {w : Cond} (h : w ∈ tables_1_6) : w ∈ tables_1 := List.mem_append_right _ (List.mem_append_right _ (List.mem_append_right _ (List.mem_append_right _ (List.mem_append_right _ (List.mem_append_left _ h)))))
theorem lw_t7 {w : Cond} (h : w ∈ tables_1_7) : w ∈ tables_1 := List.mem_append_right _ (List.mem_append_right _ (List.mem_append_right _ (List.mem_append_right _ (List.mem_append_right _ (List.mem_append_right _ (List.mem_append_left _ h))))))
theorem lw_t8 {w : Cond} (h : w ∈ tables_1_8) : w ∈ tables_1 := List.mem_append_right _ (List.mem_append_right _ (List.mem_append_right _ (List.mem_append_right _ (List.mem_append_right _ (List.mem_append_right _ (List.mem_append_right _ (List.mem_append_left _ h)))))))
theorem lw_t9 {w : Cond} (h : w ∈ tables_1_9) : w ∈ tables_1 := List.mem_append_right _ (List.mem_append_right _ (List.mem_append_right _ (List.mem_append_right _ (List.mem_append_right _ (List.mem_append_right _ (List.mem_append_right _ (List.mem_append_right _ h)))))))
theorem lw_p0 : lw_okq (⟨"java/lang/Throwable", "fillInStackTrace", "(I)Ljava/lang/Throwable;"⟩, 6) := ⟨⟨by decide +kernel, by decide +kernel⟩, lw_t1 (List.mem_of_getElem? (i := 81) rfl), lw_t1 (List.mem_of_getElem? (i := 79) rfl), lw_t1 (List.mem_of_getElem? (i := 80) rfl)⟩
theorem lw_p1 : lw_okq (⟨"HairRope", "typed", "(I)V"⟩, 27) := ⟨⟨by decide +kernel, by decide +kernel⟩, lw_t1 (List.mem_of_getElem? (i := 37) rfl), lw_t3 (List.mem_of_getElem? (i := 4) rfl), lw_t3 (List.mem_of_getElem? (i := 5) rfl)⟩
theorem lw_p2 : lw_okq (⟨"HairRope$Tokens", "isLetter", "(I)Z"⟩, 8) := ⟨⟨by decide +kernel, by decide +kernel⟩, lw_t1 (List.mem_of_getElem? (i := 119) rfl), lw_t3 (List.mem_of_getElem? (i := 24) rfl), lw_t3 (List.mem_of_getElem? (i := 25) rfl)⟩
theorem lw_p3 : lw_okq (⟨"HairRope$Tokens", "at", "(I)I"⟩, 8) := ⟨⟨by decide +kernel, by decide +kernel⟩, lw_t1 (List.mem_of_getElem? (i := 119) rfl), lw_t3 (List.mem_of_getElem? (i := 28) rfl), lw_t3 (List.mem_of_getElem? (i := 29) rfl)⟩
theorem lw_p4 : lw_okq (⟨"HairRope$Tokens", "word", "(II)I"⟩, 8) := ⟨⟨by decide +kernel, by decide +kernel⟩, lw_t1 (List.mem_of_getElem? (i := 119) rfl), lw_t3 (List.mem_of_getElem? (i := 32) rfl), lw_t3 (List.mem_of_getElem? (i := 33) rfl)⟩
theorem lw_p5 : lw_okq (⟨"HairRope$Tokens", "isDigit", "(I)Z"⟩, 8) := ⟨⟨by decide +kernel, by decide +kernel⟩, lw_t1 (List.mem_of_getElem? (i := 119) rfl), lw_t3 (List.mem_of_getElem? (i := 82) rfl), lw_t3 (List.mem_of_getElem? (i := 83) rfl)⟩
theorem lw_p6 : lw_okq (⟨"HairRope$Tokens", "sign", "(I)I"⟩, 8) := ⟨⟨by decide +kernel, by decide +kernel⟩, lw_t1 (List.mem_of_getElem? (i := 119) rfl), lw_t3 (List.mem_of_getElem? (i := 86) rfl), lw_t3 (List.mem_of_getElem? (i := 87) rfl)⟩
theorem lw_p7 : lw_okq (⟨"HairRope$Tokens", "add", "(IIII)V"⟩, 8) := ⟨⟨by decide +kernel, by decide +kernel⟩, lw_t1 (List.mem_of_getElem? (i := 119) rfl), lw_t3 (List.mem_of_getElem? (i := 90) rfl), lw_t3 (List.mem_of_getElem? (i := 91) rfl)⟩
theorem lw_p8 : lw_okq (⟨"HairRope$Parser", "sort", "()I"⟩, 7) := ⟨⟨by decide +kernel, by decide +kernel⟩, lw_t1 (List.mem_of_getElem? (i := 180) rfl), lw_t3 (List.mem_of_getElem? (i := 96) rfl), lw_t3 (List.mem_of_getElem? (i := 97) rfl)⟩
theorem lw_p9 : lw_okq (⟨"HairRope$Parser", "wrong", "(I)LHairRope$Fault;"⟩, 7) := ⟨⟨by decide +kernel, by decide +kernel⟩, lw_t1 (List.mem_of_getElem? (i := 180) rfl), lw_t3 (List.mem_of_getElem? (i := 100) rfl), lw_t3 (List.mem_of_getElem? (i := 101) rfl)⟩
theorem lw_p10 : lw_okq (⟨"HairRope$Parser", "wrongAt", "(II)LHairRope$Fault;"⟩, 7) := ⟨⟨by decide +kernel, by decide +kernel⟩, lw_t1 (List.mem_of_getElem? (i := 180) rfl), lw_t3 (List.mem_of_getElem? (i := 104) rfl), lw_t3 (List.mem_of_getElem? (i := 105) rfl)⟩
theorem lw_p11 : lw_okq (⟨"HairRope$Parser", "told", "()V"⟩, 7) := ⟨⟨by decide +kernel, by decide +kernel⟩, lw_t1 (List.mem_of_getElem? (i := 180) rfl), lw_t3 (List.mem_of_getElem? (i := 112) rfl), lw_t3 (List.mem_of_getElem? (i := 113) rfl)⟩
theorem lw_p12 : lw_okq (⟨"HairRope$Parser", "pass", "()V"⟩, 7) := ⟨⟨by decide +kernel, by decide +kernel⟩, lw_t1 (List.mem_of_getElem? (i := 180) rfl), lw_t3 (List.mem_of_getElem? (i := 116) rfl), lw_t3 (List.mem_of_getElem? (i := 117) rfl)⟩
theorem lw_p13 : lw_okq (⟨"HairRope$Parser", "law", "()LHairRope$Law;"⟩, 7) := ⟨⟨by decide +kernel, by decide +kernel⟩, lw_t1 (List.mem_of_getElem? (i := 180) rfl), lw_t3 (List.mem_of_getElem? (i := 120) rfl), lw_t3 (List.mem_of_getElem? (i := 121) rfl)⟩
theorem lw_p14 : lw_okq (⟨"HairRope$Parser", "sign", "(I)V"⟩, 7) := ⟨⟨by decide +kernel, by decide +kernel⟩, lw_t1 (List.mem_of_getElem? (i := 180) rfl), lw_t3 (List.mem_of_getElem? (i := 149) rfl), lw_t3 (List.mem_of_getElem? (i := 150) rfl)⟩
theorem lw_p15 : lw_okq (⟨"HairRope$Parser", "isSign", "(I)Z"⟩, 7) := ⟨⟨by decide +kernel, by decide +kernel⟩, lw_t1 (List.mem_of_getElem? (i := 180) rfl), lw_t3 (List.mem_of_getElem? (i := 153) rfl), lw_t3 (List.mem_of_getElem? (i := 154) rfl)⟩
def lw_privs_1 : List (MethodName × Nat) := [(⟨"java/lang/Throwable", "fillInStackTrace", "(I)Ljava/lang/Throwable;"⟩, 6), (⟨"HairRope", "typed", "(I)V"⟩, 27), (⟨"HairRope$Tokens", "isLetter", "(I)Z"⟩, 8), (⟨"HairRope$Tokens", "at", "(I)I"⟩, 8), (⟨"HairRope$Tokens", "word", "(II)I"⟩, 8), (⟨"HairRope$Tokens", "isDigit", "(I)Z"⟩, 8), (⟨"HairRope$Tokens", "sign", "(I)I"⟩, 8), (⟨"HairRope$Tokens", "add", "(IIII)V"⟩, 8), (⟨"HairRope$Parser", "sort", "()I"⟩, 7), (⟨"HairRope$Parser", "wrong", "(I)LHairRope$Fault;"⟩, 7), (⟨"HairRope$Parser", "wrongAt", "(II)LHairRope$Fault;"⟩, 7), (⟨"HairRope$Parser", "told", "()V"⟩, 7), (⟨"HairRope$Parser", "pass", "()V"⟩, 7), (⟨"HairRope$Parser", "law", "()LHairRope$Law;"⟩, 7), (⟨"HairRope$Parser", "sign", "(I)V"⟩, 7), (⟨"HairRope$Parser", "isSign", "(I)Z"⟩, 7)]
theorem lw_r1 : ∀ q ∈ lw_privs_1, lw_okq q := List.forall_mem_cons.mpr ⟨lw_p0, List.forall_mem_cons.mpr ⟨lw_p1, List.forall_mem_cons.mpr ⟨lw_p2, List.forall_mem_cons.mpr ⟨lw_p3, List.forall_mem_cons.mpr ⟨lw_p4, List.forall_mem_cons.mpr ⟨lw_p5, List.forall_mem_cons.mpr ⟨lw_p6, List.forall_mem_cons.mpr ⟨lw_p7, List.forall_mem_cons.mpr ⟨lw_p8, List.forall_mem_cons.mpr ⟨lw_p9, List.forall_mem_cons.mpr ⟨lw_p10, List.forall_mem_cons.mpr ⟨lw_p11, List.forall_mem_cons.mpr ⟨lw_p12, List.forall_mem_cons.mpr ⟨lw_p13, List.forall_mem_cons.mpr ⟨lw_p14, List.forall_mem_cons.mpr ⟨lw_p15, fun _ h => absurd h List.not_mem_nil⟩⟩⟩⟩⟩⟩⟩⟩⟩⟩⟩⟩⟩⟩⟩⟩
theorem lw_p16 : lw_okq (⟨"HairRope$Parser", "isWord", "(I)Z"⟩, 7) := ⟨⟨by decide +kernel, by decide +kernel⟩, lw_t1 (List.mem_of_getElem? (i := 180) rfl), lw_t3 (List.mem_of_getElem? (i := 157) rfl), lw_t3 (List.mem_of_getElem? (i := 158) rfl)⟩
theorem lw_p17 : lw_okq (⟨"HairRope$Parser", "begins", "(II)V"⟩, 7) := ⟨⟨by decide +kernel, by decide +kernel⟩, lw_t1 (List.mem_of_getElem? (i := 180) rfl), lw_t3 (List.mem_of_getElem? (i := 161) rfl), lw_t3 (List.mem_of_getElem? (i := 162) rfl)⟩
theorem lw_p18 : lw_okq (⟨"HairRope$Parser", "sum", "()LHairRope$Sum;"⟩, 7) := ⟨⟨by decide +kernel, by decide +kernel⟩, lw_t1 (List.mem_of_getElem? (i := 180) rfl), lw_t3 (List.mem_of_getElem? (i := 165) rfl), lw_t3 (List.mem_of_getElem? (i := 166) rfl)⟩
theorem lw_p19 : lw_okq (⟨"HairRope$Parser", "part", "()LHairRope$Sum;"⟩, 7) := ⟨⟨by decide +kernel, by decide +kernel⟩, lw_t1 (List.mem_of_getElem? (i := 180) rfl), lw_t3 (List.mem_of_getElem? (i := 169) rfl), lw_t3 (List.mem_of_getElem? (i := 170) rfl)⟩
theorem lw_p20 : lw_okq (⟨"HairRope$Parser", "unit", "()LHairRope$Sum;"⟩, 7) := ⟨⟨by decide +kernel, by decide +kernel⟩, lw_t1 (List.mem_of_getElem? (i := 180) rfl), lw_t3 (List.mem_of_getElem? (i := 173) rfl), lw_t3 (List.mem_of_getElem? (i := 174) rfl)⟩
theorem lw_p21 : lw_okq (⟨"HairRope$Parser", "word", "(I)V"⟩, 7) := ⟨⟨by decide +kernel, by decide +kernel⟩, lw_t1 (List.mem_of_getElem? (i := 180) rfl), lw_t3 (List.mem_of_getElem? (i := 220) rfl), lw_t3 (List.mem_of_getElem? (i := 221) rfl)⟩
theorem lw_p22 : lw_okq (⟨"HairRope$Parser", "name", "()Ljava/lang/String;"⟩, 7) := ⟨⟨by decide +kernel, by decide +kernel⟩, lw_t1 (List.mem_of_getElem? (i := 180) rfl), lw_t3 (List.mem_of_getElem? (i := 227) rfl), lw_t3 (List.mem_of_getElem? (i := 228) rfl)⟩
theorem lw_p23 : lw_okq (⟨"HairRope$Parser", "take", "(I)I"⟩, 7) := ⟨⟨by decide +kernel, by decide +kernel⟩, lw_t1 (List.mem_of_getElem? (i := 180) rfl), lw_t3 (List.mem_of_getElem? (i := 231) rfl), lw_t3 (List.mem_of_getElem? (i := 232) rfl)⟩
theorem lw_p24 : lw_okq (⟨"HairRope$Parser", "tell", "(II)V"⟩, 7) := ⟨⟨by decide +kernel, by decide +kernel⟩, lw_t1 (List.mem_of_getElem? (i := 180) rfl), lw_t4 (List.mem_of_getElem? (i := 179) rfl), lw_t4 (List.mem_of_getElem? (i := 180) rfl)⟩
theorem lw_p25 : lw_okq (⟨"HairRope$Parser", "number", "(II)I"⟩, 7) := ⟨⟨by decide +kernel, by decide +kernel⟩, lw_t1 (List.mem_of_getElem? (i := 180) rfl), lw_t4 (List.mem_of_getElem? (i := 201) rfl), lw_t4 (List.mem_of_getElem? (i := 202) rfl)⟩
theorem lw_p26 : lw_okq (⟨"java/util/ArrayList", "add", "(Ljava/lang/Object;[Ljava/lang/Object;I)V"⟩, 3) := ⟨⟨by decide +kernel, by decide +kernel⟩, lw_t1 (List.mem_of_getElem? (i := 214) rfl), lw_t4 (List.mem_of_getElem? (i := 209) rfl), lw_t4 (List.mem_of_getElem? (i := 210) rfl)⟩
theorem lw_p27 : lw_okq (⟨"java/util/ArrayList", "grow", "()[Ljava/lang/Object;"⟩, 3) := ⟨⟨by decide +kernel, by decide +kernel⟩, lw_t1 (List.mem_of_getElem? (i := 214) rfl), lw_t4 (List.mem_of_getElem? (i := 213) rfl), lw_t4 (List.mem_of_getElem? (i := 214) rfl)⟩
theorem lw_p28 : lw_okq (⟨"java/util/ArrayList", "grow", "(I)[Ljava/lang/Object;"⟩, 3) := ⟨⟨by decide +kernel, by decide +kernel⟩, lw_t1 (List.mem_of_getElem? (i := 214) rfl), lw_t4 (List.mem_of_getElem? (i := 217) rfl), lw_t4 (List.mem_of_getElem? (i := 218) rfl)⟩
theorem lw_p29 : lw_okq (⟨"HairRope$Parser", "known", "(Ljava/util/ArrayList;)I"⟩, 7) := ⟨⟨by decide +kernel, by decide +kernel⟩, lw_t1 (List.mem_of_getElem? (i := 180) rfl), lw_t5 (List.mem_of_getElem? (i := 15) rfl), lw_t5 (List.mem_of_getElem? (i := 16) rfl)⟩
theorem lw_p30 : lw_okq (⟨"HairRope", "isHouse", "(I)Z"⟩, 27) := ⟨⟨by decide +kernel, by decide +kernel⟩, lw_t1 (List.mem_of_getElem? (i := 37) rfl), lw_t5 (List.mem_of_getElem? (i := 28) rfl), lw_t5 (List.mem_of_getElem? (i := 29) rfl)⟩
theorem lw_p31 : lw_okq (⟨"HairRope", "houses", "()I"⟩, 27) := ⟨⟨by decide +kernel, by decide +kernel⟩, lw_t1 (List.mem_of_getElem? (i := 37) rfl), lw_t5 (List.mem_of_getElem? (i := 32) rfl), lw_t5 (List.mem_of_getElem? (i := 33) rfl)⟩
def lw_privs_2 : List (MethodName × Nat) := [(⟨"HairRope$Parser", "isWord", "(I)Z"⟩, 7), (⟨"HairRope$Parser", "begins", "(II)V"⟩, 7), (⟨"HairRope$Parser", "sum", "()LHairRope$Sum;"⟩, 7), (⟨"HairRope$Parser", "part", "()LHairRope$Sum;"⟩, 7), (⟨"HairRope$Parser", "unit", "()LHairRope$Sum;"⟩, 7), (⟨"HairRope$Parser", "word", "(I)V"⟩, 7), (⟨"HairRope$Parser", "name", "()Ljava/lang/String;"⟩, 7), (⟨"HairRope$Parser", "take", "(I)I"⟩, 7), (⟨"HairRope$Parser", "tell", "(II)V"⟩, 7), (⟨"HairRope$Parser", "number", "(II)I"⟩, 7), (⟨"java/util/ArrayList", "add", "(Ljava/lang/Object;[Ljava/lang/Object;I)V"⟩, 3), (⟨"java/util/ArrayList", "grow", "()[Ljava/lang/Object;"⟩, 3), (⟨"java/util/ArrayList", "grow", "(I)[Ljava/lang/Object;"⟩, 3), (⟨"HairRope$Parser", "known", "(Ljava/util/ArrayList;)I"⟩, 7), (⟨"HairRope", "isHouse", "(I)Z"⟩, 27), (⟨"HairRope", "houses", "()I"⟩, 27)]
theorem lw_r2 : ∀ q ∈ lw_privs_2, lw_okq q := List.forall_mem_cons.mpr ⟨lw_p16, List.forall_mem_cons.mpr ⟨lw_p17, List.forall_mem_cons.mpr ⟨lw_p18, List.forall_mem_cons.mpr ⟨lw_p19, List.forall_mem_cons.mpr ⟨lw_p20, List.forall_mem_cons.mpr ⟨lw_p21, List.forall_mem_cons.mpr ⟨lw_p22, List.forall_mem_cons.mpr ⟨lw_p23, List.forall_mem_cons.mpr ⟨lw_p24, List.forall_mem_cons.mpr ⟨lw_p25, List.forall_mem_cons.mpr ⟨lw_p26, List.forall_mem_cons.mpr ⟨lw_p27, List.forall_mem_cons.mpr ⟨lw_p28, List.forall_mem_cons.mpr ⟨lw_p29, List.forall_mem_cons.mpr ⟨lw_p30, List.forall_mem_cons.mpr ⟨lw_p31, fun _ h => absurd h List.not_mem_nil⟩⟩⟩⟩⟩⟩⟩⟩⟩⟩⟩⟩⟩⟩⟩⟩
theorem lw_p32 : lw_okq (⟨"HairRope$Village", "told", "(LHairRope$Text;IIII)I"⟩, 12) := ⟨⟨by decide +kernel, by decide +kernel⟩, lw_t2 (List.mem_of_getElem? (i := 45) rfl), lw_t5 (List.mem_of_getElem? (i := 50) rfl), lw_t5 (List.mem_of_getElem? (i := 51) rfl)⟩
theorem lw_p33 : lw_okq (⟨"HairRope", "areTwo", "(II)Z"⟩, 27) := ⟨⟨by decide +kernel, by decide +kernel⟩, lw_t1 (List.mem_of_getElem? (i := 37) rfl), lw_t5 (List.mem_of_getElem? (i := 95) rfl), lw_t5 (List.mem_of_getElem? (i := 96) rfl)⟩
theorem lw_p34 : lw_okq (⟨"HairRope", "isPlace", "(I)Z"⟩, 27) := ⟨⟨by decide +kernel, by decide +kernel⟩, lw_t1 (List.mem_of_getElem? (i := 37) rfl), lw_t5 (List.mem_of_getElem? (i := 111) rfl), lw_t5 (List.mem_of_getElem? (i := 112) rfl)⟩
theorem lw_p35 : lw_okq (⟨"HairRope", "keeps", "()V"⟩, 27) := ⟨⟨by decide +kernel, by decide +kernel⟩, lw_t1 (List.mem_of_getElem? (i := 37) rfl), lw_t5 (List.mem_of_getElem? (i := 120) rfl), lw_t5 (List.mem_of_getElem? (i := 121) rfl)⟩
theorem lw_p36 : lw_okq (⟨"HairRope", "isLong", "()Z"⟩, 27) := ⟨⟨by decide +kernel, by decide +kernel⟩, lw_t1 (List.mem_of_getElem? (i := 37) rfl), lw_t5 (List.mem_of_getElem? (i := 156) rfl), lw_t5 (List.mem_of_getElem? (i := 157) rfl)⟩
theorem lw_p37 : lw_okq (⟨"HairRope", "runs", "(LHairRope$Village;ILHairRope$Sky;)V"⟩, 27) := ⟨⟨by decide +kernel, by decide +kernel⟩, lw_t1 (List.mem_of_getElem? (i := 37) rfl), lw_t5 (List.mem_of_getElem? (i := 176) rfl), lw_t5 (List.mem_of_getElem? (i := 177) rfl)⟩
theorem lw_p38 : lw_okq (⟨"HairRope", "mostOf", "(LHairRope$Village;)I"⟩, 27) := ⟨⟨by decide +kernel, by decide +kernel⟩, lw_t1 (List.mem_of_getElem? (i := 37) rfl), lw_t5 (List.mem_of_getElem? (i := 210) rfl), lw_t5 (List.mem_of_getElem? (i := 211) rfl)⟩
theorem lw_p39 : lw_okq (⟨"HairRope", "givenBy", "(III)I"⟩, 27) := ⟨⟨by decide +kernel, by decide +kernel⟩, lw_t1 (List.mem_of_getElem? (i := 37) rfl), lw_t5 (List.mem_of_getElem? (i := 222) rfl), lw_t5 (List.mem_of_getElem? (i := 223) rfl)⟩
theorem lw_p40 : lw_okq (⟨"HairRope", "joinAt", "(I)I"⟩, 27) := ⟨⟨by decide +kernel, by decide +kernel⟩, lw_t1 (List.mem_of_getElem? (i := 37) rfl), lw_t5 (List.mem_of_getElem? (i := 235) rfl), lw_t5 (List.mem_of_getElem? (i := 236) rfl)⟩
theorem lw_p41 : lw_okq (⟨"HairRope", "laysJoins", "(LHairRope$Village;)V"⟩, 27) := ⟨⟨by decide +kernel, by decide +kernel⟩, lw_t1 (List.mem_of_getElem? (i := 37) rfl), lw_t6 (List.mem_of_getElem? (i := 22) rfl), lw_t6 (List.mem_of_getElem? (i := 23) rfl)⟩
theorem lw_p42 : lw_okq (⟨"HairRope", "laysOrders", "(LHairRope$Village;I)I"⟩, 27) := ⟨⟨by decide +kernel, by decide +kernel⟩, lw_t1 (List.mem_of_getElem? (i := 37) rfl), lw_t6 (List.mem_of_getElem? (i := 26) rfl), lw_t6 (List.mem_of_getElem? (i := 27) rfl)⟩
theorem lw_p43 : lw_okq (⟨"HairRope", "laysWays", "(LHairRope$Village;I)V"⟩, 27) := ⟨⟨by decide +kernel, by decide +kernel⟩, lw_t1 (List.mem_of_getElem? (i := 37) rfl), lw_t6 (List.mem_of_getElem? (i := 30) rfl), lw_t6 (List.mem_of_getElem? (i := 31) rfl)⟩
theorem lw_p44 : lw_okq (⟨"HairRope", "allHouses", "()I"⟩, 27) := ⟨⟨by decide +kernel, by decide +kernel⟩, lw_t1 (List.mem_of_getElem? (i := 37) rfl), lw_t6 (List.mem_of_getElem? (i := 34) rfl), lw_t6 (List.mem_of_getElem? (i := 35) rfl)⟩
theorem lw_p45 : lw_okq (⟨"HairRope", "waysOf", "(LHairRope$Village;III)I"⟩, 27) := ⟨⟨by decide +kernel, by decide +kernel⟩, lw_t1 (List.mem_of_getElem? (i := 37) rfl), lw_t6 (List.mem_of_getElem? (i := 46) rfl), lw_t6 (List.mem_of_getElem? (i := 47) rfl)⟩
theorem lw_p46 : lw_okq (⟨"HairRope", "reaching", "(I)I"⟩, 27) := ⟨⟨by decide +kernel, by decide +kernel⟩, lw_t1 (List.mem_of_getElem? (i := 37) rfl), lw_t6 (List.mem_of_getElem? (i := 51) rfl), lw_t6 (List.mem_of_getElem? (i := 52) rfl)⟩
theorem lw_p47 : lw_okq (⟨"HairRope", "laysRow", "(II)V"⟩, 27) := ⟨⟨by decide +kernel, by decide +kernel⟩, lw_t1 (List.mem_of_getElem? (i := 37) rfl), lw_t6 (List.mem_of_getElem? (i := 70) rfl), lw_t6 (List.mem_of_getElem? (i := 71) rfl)⟩
def lw_privs_3 : List (MethodName × Nat) := [(⟨"HairRope$Village", "told", "(LHairRope$Text;IIII)I"⟩, 12), (⟨"HairRope", "areTwo", "(II)Z"⟩, 27), (⟨"HairRope", "isPlace", "(I)Z"⟩, 27), (⟨"HairRope", "keeps", "()V"⟩, 27), (⟨"HairRope", "isLong", "()Z"⟩, 27), (⟨"HairRope", "runs", "(LHairRope$Village;ILHairRope$Sky;)V"⟩, 27), (⟨"HairRope", "mostOf", "(LHairRope$Village;)I"⟩, 27), (⟨"HairRope", "givenBy", "(III)I"⟩, 27), (⟨"HairRope", "joinAt", "(I)I"⟩, 27), (⟨"HairRope", "laysJoins", "(LHairRope$Village;)V"⟩, 27), (⟨"HairRope", "laysOrders", "(LHairRope$Village;I)I"⟩, 27), (⟨"HairRope", "laysWays", "(LHairRope$Village;I)V"⟩, 27), (⟨"HairRope", "allHouses", "()I"⟩, 27), (⟨"HairRope", "waysOf", "(LHairRope$Village;III)I"⟩, 27), (⟨"HairRope", "reaching", "(I)I"⟩, 27), (⟨"HairRope", "laysRow", "(II)V"⟩, 27)]
theorem lw_r3 : ∀ q ∈ lw_privs_3, lw_okq q := List.forall_mem_cons.mpr ⟨lw_p32, List.forall_mem_cons.mpr ⟨lw_p33, List.forall_mem_cons.mpr ⟨lw_p34, List.forall_mem_cons.mpr ⟨lw_p35, List.forall_mem_cons.mpr ⟨lw_p36, List.forall_mem_cons.mpr ⟨lw_p37, List.forall_mem_cons.mpr ⟨lw_p38, List.forall_mem_cons.mpr ⟨lw_p39, List.forall_mem_cons.mpr ⟨lw_p40, List.forall_mem_cons.mpr ⟨lw_p41, List.forall_mem_cons.mpr ⟨lw_p42, List.forall_mem_cons.mpr ⟨lw_p43, List.forall_mem_cons.mpr ⟨lw_p44, List.forall_mem_cons.mpr ⟨lw_p45, List.forall_mem_cons.mpr ⟨lw_p46, List.forall_mem_cons.mpr ⟨lw_p47, fun _ h => absurd h List.not_mem_nil⟩⟩⟩⟩⟩⟩⟩⟩⟩⟩⟩⟩⟩⟩⟩⟩
theorem lw_p48 : lw_okq (⟨"HairRope", "isLower", "(I)Z"⟩, 27) := ⟨⟨by decide +kernel, by decide +kernel⟩, lw_t1 (List.mem_of_getElem? (i := 37) rfl), lw_t6 (List.mem_of_getElem? (i := 74) rfl), lw_t6 (List.mem_of_getElem? (i := 75) rfl)⟩
theorem lw_p49 : lw_okq (⟨"HairRope", "isPeace", "(III)Z"⟩, 27) := ⟨⟨by decide +kernel, by decide +kernel⟩, lw_t1 (List.mem_of_getElem? (i := 37) rfl), lw_t6 (List.mem_of_getElem? (i := 90) rfl), lw_t6 (List.mem_of_getElem? (i := 91) rfl)⟩
theorem lw_p50 : lw_okq (⟨"HairRope", "befriends", "(I)V"⟩, 27) := ⟨⟨by decide +kernel, by decide +kernel⟩, lw_t1 (List.mem_of_getElem? (i := 37) rfl), lw_t6 (List.mem_of_getElem? (i := 94) rfl), lw_t6 (List.mem_of_getElem? (i := 95) rfl)⟩
theorem lw_p51 : lw_okq (⟨"HairRope", "twoOf", "(I)I"⟩, 27) := ⟨⟨by decide +kernel, by decide +kernel⟩, lw_t1 (List.mem_of_getElem? (i := 37) rfl), lw_t6 (List.mem_of_getElem? (i := 101) rfl), lw_t6 (List.mem_of_getElem? (i := 102) rfl)⟩
theorem lw_p52 : lw_okq (⟨"HairRope", "givers", "()I"⟩, 27) := ⟨⟨by decide +kernel, by decide +kernel⟩, lw_t1 (List.mem_of_getElem? (i := 37) rfl), lw_t6 (List.mem_of_getElem? (i := 109) rfl), lw_t6 (List.mem_of_getElem? (i := 110) rfl)⟩
theorem lw_p53 : lw_okq (⟨"HairRope", "isRest", "(I)Z"⟩, 27) := ⟨⟨by decide +kernel, by decide +kernel⟩, lw_t1 (List.mem_of_getElem? (i := 37) rfl), lw_t6 (List.mem_of_getElem? (i := 113) rfl), lw_t6 (List.mem_of_getElem? (i := 114) rfl)⟩
theorem lw_p54 : lw_okq (⟨"HairRope", "worth", "(II)I"⟩, 27) := ⟨⟨by decide +kernel, by decide +kernel⟩, lw_t1 (List.mem_of_getElem? (i := 37) rfl), lw_t6 (List.mem_of_getElem? (i := 117) rfl), lw_t6 (List.mem_of_getElem? (i := 118) rfl)⟩
theorem lw_p55 : lw_okq (⟨"HairRope", "isEnough", "(I)Z"⟩, 27) := ⟨⟨by decide +kernel, by decide +kernel⟩, lw_t1 (List.mem_of_getElem? (i := 37) rfl), lw_t6 (List.mem_of_getElem? (i := 121) rfl), lw_t6 (List.mem_of_getElem? (i := 122) rfl)⟩
theorem lw_p56 : lw_okq (⟨"HairRope", "laysFits", "(II)V"⟩, 27) := ⟨⟨by decide +kernel, by decide +kernel⟩, lw_t1 (List.mem_of_getElem? (i := 37) rfl), lw_t6 (List.mem_of_getElem? (i := 149) rfl), lw_t6 (List.mem_of_getElem? (i := 150) rfl)⟩
theorem lw_p57 : lw_okq (⟨"HairRope", "rowsFit", "(IIIII)V"⟩, 27) := ⟨⟨by decide +kernel, by decide +kernel⟩, lw_t1 (List.mem_of_getElem? (i := 37) rfl), lw_t6 (List.mem_of_getElem? (i := 153) rfl), lw_t6 (List.mem_of_getElem? (i := 154) rfl)⟩
theorem lw_p58 : lw_okq (⟨"HairRope", "isSo", "(II)Z"⟩, 27) := ⟨⟨by decide +kernel, by decide +kernel⟩, lw_t1 (List.mem_of_getElem? (i := 37) rfl), lw_t6 (List.mem_of_getElem? (i := 157) rfl), lw_t6 (List.mem_of_getElem? (i := 158) rfl)⟩
theorem lw_p59 : lw_okq (⟨"HairRopeModel", "plain", "(I)V"⟩, 71) := ⟨⟨by decide +kernel, by decide +kernel⟩, lw_t6 (List.mem_of_getElem? (i := 177) rfl), lw_t6 (List.mem_of_getElem? (i := 183) rfl), lw_t6 (List.mem_of_getElem? (i := 184) rfl)⟩
theorem lw_p60 : lw_okq (⟨"HairRopeModel", "begins", "()V"⟩, 71) := ⟨⟨by decide +kernel, by decide +kernel⟩, lw_t6 (List.mem_of_getElem? (i := 177) rfl), lw_t6 (List.mem_of_getElem? (i := 194) rfl), lw_t6 (List.mem_of_getElem? (i := 195) rfl)⟩
theorem lw_p61 : lw_okq (⟨"HairRopeModel", "keepsRow", "()V"⟩, 71) := ⟨⟨by decide +kernel, by decide +kernel⟩, lw_t6 (List.mem_of_getElem? (i := 177) rfl), lw_t6 (List.mem_of_getElem? (i := 198) rfl), lw_t6 (List.mem_of_getElem? (i := 199) rfl)⟩
theorem lw_p62 : lw_okq (⟨"HairRopeModel", "lays", "(I)V"⟩, 71) := ⟨⟨by decide +kernel, by decide +kernel⟩, lw_t6 (List.mem_of_getElem? (i := 177) rfl), lw_t7 (List.mem_of_getElem? (i := 180) rfl), lw_t7 (List.mem_of_getElem? (i := 181) rfl)⟩
theorem lw_p63 : lw_okq (⟨"HairRopeModel", "cut", "()V"⟩, 71) := ⟨⟨by decide +kernel, by decide +kernel⟩, lw_t6 (List.mem_of_getElem? (i := 177) rfl), lw_t7 (List.mem_of_getElem? (i := 192) rfl), lw_t7 (List.mem_of_getElem? (i := 193) rfl)⟩
def lw_privs_4 : List (MethodName × Nat) := [(⟨"HairRope", "isLower", "(I)Z"⟩, 27), (⟨"HairRope", "isPeace", "(III)Z"⟩, 27), (⟨"HairRope", "befriends", "(I)V"⟩, 27), (⟨"HairRope", "twoOf", "(I)I"⟩, 27), (⟨"HairRope", "givers", "()I"⟩, 27), (⟨"HairRope", "isRest", "(I)Z"⟩, 27), (⟨"HairRope", "worth", "(II)I"⟩, 27), (⟨"HairRope", "isEnough", "(I)Z"⟩, 27), (⟨"HairRope", "laysFits", "(II)V"⟩, 27), (⟨"HairRope", "rowsFit", "(IIIII)V"⟩, 27), (⟨"HairRope", "isSo", "(II)Z"⟩, 27), (⟨"HairRopeModel", "plain", "(I)V"⟩, 71), (⟨"HairRopeModel", "begins", "()V"⟩, 71), (⟨"HairRopeModel", "keepsRow", "()V"⟩, 71), (⟨"HairRopeModel", "lays", "(I)V"⟩, 71), (⟨"HairRopeModel", "cut", "()V"⟩, 71)]
theorem lw_r4 : ∀ q ∈ lw_privs_4, lw_okq q := List.forall_mem_cons.mpr ⟨lw_p48, List.forall_mem_cons.mpr ⟨lw_p49, List.forall_mem_cons.mpr ⟨lw_p50, List.forall_mem_cons.mpr ⟨lw_p51, List.forall_mem_cons.mpr ⟨lw_p52, List.forall_mem_cons.mpr ⟨lw_p53, List.forall_mem_cons.mpr ⟨lw_p54, List.forall_mem_cons.mpr ⟨lw_p55, List.forall_mem_cons.mpr ⟨lw_p56, List.forall_mem_cons.mpr ⟨lw_p57, List.forall_mem_cons.mpr ⟨lw_p58, List.forall_mem_cons.mpr ⟨lw_p59, List.forall_mem_cons.mpr ⟨lw_p60, List.forall_mem_cons.mpr ⟨lw_p61, List.forall_mem_cons.mpr ⟨lw_p62, List.forall_mem_cons.mpr ⟨lw_p63, fun _ h => absurd h List.not_mem_nil⟩⟩⟩⟩⟩⟩⟩⟩⟩⟩⟩⟩⟩⟩⟩⟩
theorem lw_p64 : lw_okq (⟨"HairRopeModel", "byteAt", "(I)I"⟩, 71) := ⟨⟨by decide +kernel, by decide +kernel⟩, lw_t6 (List.mem_of_getElem? (i := 177) rfl), lw_t7 (List.mem_of_getElem? (i := 196) rfl), lw_t7 (List.mem_of_getElem? (i := 197) rfl)⟩
theorem lw_p65 : lw_okq (⟨"HairRopeModel", "token", "(IIIJ)V"⟩, 71) := ⟨⟨by decide +kernel, by decide +kernel⟩, lw_t6 (List.mem_of_getElem? (i := 177) rfl), lw_t7 (List.mem_of_getElem? (i := 200) rfl), lw_t7 (List.mem_of_getElem? (i := 201) rfl)⟩
theorem lw_p66 : lw_okq (⟨"HairRopeModel", "sign", "(III)I"⟩, 71) := ⟨⟨by decide +kernel, by decide +kernel⟩, lw_t6 (List.mem_of_getElem? (i := 177) rfl), lw_t7 (List.mem_of_getElem? (i := 210) rfl), lw_t7 (List.mem_of_getElem? (i := 211) rfl)⟩
theorem lw_p67 : lw_okq (⟨"HairRopeModel", "is", "(I)Z"⟩, 71) := ⟨⟨by decide +kernel, by decide +kernel⟩, lw_t6 (List.mem_of_getElem? (i := 177) rfl), lw_t7 (List.mem_of_getElem? (i := 214) rfl), lw_t7 (List.mem_of_getElem? (i := 215) rfl)⟩
theorem lw_p68 : lw_okq (⟨"HairRopeModel", "tellOne", "()V"⟩, 71) := ⟨⟨by decide +kernel, by decide +kernel⟩, lw_t6 (List.mem_of_getElem? (i := 177) rfl), lw_t7 (List.mem_of_getElem? (i := 218) rfl), lw_t7 (List.mem_of_getElem? (i := 219) rfl)⟩
theorem lw_p69 : lw_okq (⟨"HairRopeModel", "roomFor", "(II)V"⟩, 71) := ⟨⟨by decide +kernel, by decide +kernel⟩, lw_t6 (List.mem_of_getElem? (i := 177) rfl), lw_t7 (List.mem_of_getElem? (i := 222) rfl), lw_t7 (List.mem_of_getElem? (i := 223) rfl)⟩
theorem lw_p70 : lw_okq (⟨"HairRopeModel", "fail", "(I)V"⟩, 71) := ⟨⟨by decide +kernel, by decide +kernel⟩, lw_t6 (List.mem_of_getElem? (i := 177) rfl), lw_t7 (List.mem_of_getElem? (i := 226) rfl), lw_t7 (List.mem_of_getElem? (i := 227) rfl)⟩
theorem lw_p71 : lw_okq (⟨"HairRopeModel", "goesOn", "()V"⟩, 71) := ⟨⟨by decide +kernel, by decide +kernel⟩, lw_t6 (List.mem_of_getElem? (i := 177) rfl), lw_t7 (List.mem_of_getElem? (i := 230) rfl), lw_t7 (List.mem_of_getElem? (i := 231) rfl)⟩
theorem lw_p72 : lw_okq (⟨"HairRopeModel", "tellHouse", "()V"⟩, 71) := ⟨⟨by decide +kernel, by decide +kernel⟩, lw_t6 (List.mem_of_getElem? (i := 177) rfl), lw_t7 (List.mem_of_getElem? (i := 234) rfl), lw_t7 (List.mem_of_getElem? (i := 235) rfl)⟩
theorem lw_p73 : lw_okq (⟨"HairRopeModel", "must", "(I)V"⟩, 71) := ⟨⟨by decide +kernel, by decide +kernel⟩, lw_t6 (List.mem_of_getElem? (i := 177) rfl), lw_t7 (List.mem_of_getElem? (i := 238) rfl), lw_t7 (List.mem_of_getElem? (i := 239) rfl)⟩
theorem lw_p74 : lw_okq (⟨"HairRopeModel", "wrong", "(II)V"⟩, 71) := ⟨⟨by decide +kernel, by decide +kernel⟩, lw_t6 (List.mem_of_getElem? (i := 177) rfl), lw_t8 (List.mem_of_getElem? (i := 2) rfl), lw_t8 (List.mem_of_getElem? (i := 3) rfl)⟩
theorem lw_p75 : lw_okq (⟨"HairRopeModel", "bounded", "(II)I"⟩, 71) := ⟨⟨by decide +kernel, by decide +kernel⟩, lw_t6 (List.mem_of_getElem? (i := 177) rfl), lw_t8 (List.mem_of_getElem? (i := 6) rfl), lw_t8 (List.mem_of_getElem? (i := 7) rfl)⟩
theorem lw_p76 : lw_okq (⟨"HairRopeModel", "tellLikes", "()V"⟩, 71) := ⟨⟨by decide +kernel, by decide +kernel⟩, lw_t6 (List.mem_of_getElem? (i := 177) rfl), lw_t8 (List.mem_of_getElem? (i := 10) rfl), lw_t8 (List.mem_of_getElem? (i := 11) rfl)⟩
theorem lw_p77 : lw_okq (⟨"HairRopeModel", "known", "()I"⟩, 71) := ⟨⟨by decide +kernel, by decide +kernel⟩, lw_t6 (List.mem_of_getElem? (i := 177) rfl), lw_t8 (List.mem_of_getElem? (i := 14) rfl), lw_t8 (List.mem_of_getElem? (i := 15) rfl)⟩
theorem lw_p78 : lw_okq (⟨"HairRopeModel", "toldInt", "(II)I"⟩, 71) := ⟨⟨by decide +kernel, by decide +kernel⟩, lw_t6 (List.mem_of_getElem? (i := 177) rfl), lw_t8 (List.mem_of_getElem? (i := 18) rfl), lw_t8 (List.mem_of_getElem? (i := 19) rfl)⟩
theorem lw_p79 : lw_okq (⟨"HairRopeModel", "tellLaw", "(I)V"⟩, 71) := ⟨⟨by decide +kernel, by decide +kernel⟩, lw_t6 (List.mem_of_getElem? (i := 177) rfl), lw_t8 (List.mem_of_getElem? (i := 22) rfl), lw_t8 (List.mem_of_getElem? (i := 23) rfl)⟩
def lw_privs_5 : List (MethodName × Nat) := [(⟨"HairRopeModel", "byteAt", "(I)I"⟩, 71), (⟨"HairRopeModel", "token", "(IIIJ)V"⟩, 71), (⟨"HairRopeModel", "sign", "(III)I"⟩, 71), (⟨"HairRopeModel", "is", "(I)Z"⟩, 71), (⟨"HairRopeModel", "tellOne", "()V"⟩, 71), (⟨"HairRopeModel", "roomFor", "(II)V"⟩, 71), (⟨"HairRopeModel", "fail", "(I)V"⟩, 71), (⟨"HairRopeModel", "goesOn", "()V"⟩, 71), (⟨"HairRopeModel", "tellHouse", "()V"⟩, 71), (⟨"HairRopeModel", "must", "(I)V"⟩, 71), (⟨"HairRopeModel", "wrong", "(II)V"⟩, 71), (⟨"HairRopeModel", "bounded", "(II)I"⟩, 71), (⟨"HairRopeModel", "tellLikes", "()V"⟩, 71), (⟨"HairRopeModel", "known", "()I"⟩, 71), (⟨"HairRopeModel", "toldInt", "(II)I"⟩, 71), (⟨"HairRopeModel", "tellLaw", "(I)V"⟩, 71)]
theorem lw_r5 : ∀ q ∈ lw_privs_5, lw_okq q := List.forall_mem_cons.mpr ⟨lw_p64, List.forall_mem_cons.mpr ⟨lw_p65, List.forall_mem_cons.mpr ⟨lw_p66, List.forall_mem_cons.mpr ⟨lw_p67, List.forall_mem_cons.mpr ⟨lw_p68, List.forall_mem_cons.mpr ⟨lw_p69, List.forall_mem_cons.mpr ⟨lw_p70, List.forall_mem_cons.mpr ⟨lw_p71, List.forall_mem_cons.mpr ⟨lw_p72, List.forall_mem_cons.mpr ⟨lw_p73, List.forall_mem_cons.mpr ⟨lw_p74, List.forall_mem_cons.mpr ⟨lw_p75, List.forall_mem_cons.mpr ⟨lw_p76, List.forall_mem_cons.mpr ⟨lw_p77, List.forall_mem_cons.mpr ⟨lw_p78, List.forall_mem_cons.mpr ⟨lw_p79, fun _ h => absurd h List.not_mem_nil⟩⟩⟩⟩⟩⟩⟩⟩⟩⟩⟩⟩⟩⟩⟩⟩
theorem lw_p80 : lw_okq (⟨"HairRopeModel", "expression", "()V"⟩, 71) := ⟨⟨by decide +kernel, by decide +kernel⟩, lw_t6 (List.mem_of_getElem? (i := 177) rfl), lw_t8 (List.mem_of_getElem? (i := 26) rfl), lw_t8 (List.mem_of_getElem? (i := 27) rfl)⟩
theorem lw_p81 : lw_okq (⟨"HairRopeModel", "unit", "()V"⟩, 71) := ⟨⟨by decide +kernel, by decide +kernel⟩, lw_t6 (List.mem_of_getElem? (i := 177) rfl), lw_t8 (List.mem_of_getElem? (i := 30) rfl), lw_t8 (List.mem_of_getElem? (i := 31) rfl)⟩
theorem lw_p82 : lw_okq (⟨"HairRopeModel", "emit", "(II)V"⟩, 71) := ⟨⟨by decide +kernel, by decide +kernel⟩, lw_t6 (List.mem_of_getElem? (i := 177) rfl), lw_t8 (List.mem_of_getElem? (i := 34) rfl), lw_t8 (List.mem_of_getElem? (i := 35) rfl)⟩
theorem lw_p83 : lw_okq (⟨"HairRopeModel", "comesOut", "(Z)V"⟩, 71) := ⟨⟨by decide +kernel, by decide +kernel⟩, lw_t6 (List.mem_of_getElem? (i := 177) rfl), lw_t8 (List.mem_of_getElem? (i := 38) rfl), lw_t8 (List.mem_of_getElem? (i := 39) rfl)⟩
theorem lw_p84 : lw_okq (⟨"HairRopeModel", "term", "()V"⟩, 71) := ⟨⟨by decide +kernel, by decide +kernel⟩, lw_t6 (List.mem_of_getElem? (i := 177) rfl), lw_t8 (List.mem_of_getElem? (i := 42) rfl), lw_t8 (List.mem_of_getElem? (i := 43) rfl)⟩
theorem lw_p85 : lw_okq (⟨"HairRopeModel", "isHouse", "(I)Z"⟩, 71) := ⟨⟨by decide +kernel, by decide +kernel⟩, lw_t6 (List.mem_of_getElem? (i := 177) rfl), lw_t8 (List.mem_of_getElem? (i := 54) rfl), lw_t8 (List.mem_of_getElem? (i := 55) rfl)⟩
theorem lw_p86 : lw_okq (⟨"HairRopeModel", "copies", "()V"⟩, 71) := ⟨⟨by decide +kernel, by decide +kernel⟩, lw_t6 (List.mem_of_getElem? (i := 177) rfl), lw_t8 (List.mem_of_getElem? (i := 61) rfl), lw_t8 (List.mem_of_getElem? (i := 62) rfl)⟩
theorem lw_p87 : lw_okq (⟨"HairRopeModel", "strongFirst", "(I)I"⟩, 71) := ⟨⟨by decide +kernel, by decide +kernel⟩, lw_t6 (List.mem_of_getElem? (i := 177) rfl), lw_t8 (List.mem_of_getElem? (i := 65) rfl), lw_t8 (List.mem_of_getElem? (i := 66) rfl)⟩
theorem lw_p88 : lw_okq (⟨"HairRopeModel", "hasPlait", "(I)Z"⟩, 71) := ⟨⟨by decide +kernel, by decide +kernel⟩, lw_t6 (List.mem_of_getElem? (i := 177) rfl), lw_t8 (List.mem_of_getElem? (i := 69) rfl), lw_t8 (List.mem_of_getElem? (i := 70) rfl)⟩
theorem lw_p89 : lw_okq (⟨"HairRopeModel", "placeOf", "(I)I"⟩, 71) := ⟨⟨by decide +kernel, by decide +kernel⟩, lw_t6 (List.mem_of_getElem? (i := 177) rfl), lw_t8 (List.mem_of_getElem? (i := 73) rfl), lw_t8 (List.mem_of_getElem? (i := 74) rfl)⟩
theorem lw_p90 : lw_okq (⟨"HairRopeModel", "growsOf", "(I)I"⟩, 71) := ⟨⟨by decide +kernel, by decide +kernel⟩, lw_t6 (List.mem_of_getElem? (i := 177) rfl), lw_t8 (List.mem_of_getElem? (i := 77) rfl), lw_t8 (List.mem_of_getElem? (i := 78) rfl)⟩
theorem lw_p91 : lw_okq (⟨"HairRopeModel", "views", "(I)V"⟩, 71) := ⟨⟨by decide +kernel, by decide +kernel⟩, lw_t6 (List.mem_of_getElem? (i := 177) rfl), lw_t8 (List.mem_of_getElem? (i := 81) rfl), lw_t8 (List.mem_of_getElem? (i := 82) rfl)⟩
theorem lw_p92 : lw_okq (⟨"HairRopeModel", "strongOf", "(I)I"⟩, 71) := ⟨⟨by decide +kernel, by decide +kernel⟩, lw_t6 (List.mem_of_getElem? (i := 177) rfl), lw_t8 (List.mem_of_getElem? (i := 85) rfl), lw_t8 (List.mem_of_getElem? (i := 86) rfl)⟩
theorem lw_p93 : lw_okq (⟨"HairRopeModel", "lawTells", "(II)I"⟩, 71) := ⟨⟨by decide +kernel, by decide +kernel⟩, lw_t6 (List.mem_of_getElem? (i := 177) rfl), lw_t8 (List.mem_of_getElem? (i := 89) rfl), lw_t8 (List.mem_of_getElem? (i := 90) rfl)⟩
theorem lw_p94 : lw_okq (⟨"HairRopeModel", "termOf", "(II)I"⟩, 71) := ⟨⟨by decide +kernel, by decide +kernel⟩, lw_t6 (List.mem_of_getElem? (i := 177) rfl), lw_t8 (List.mem_of_getElem? (i := 93) rfl), lw_t8 (List.mem_of_getElem? (i := 94) rfl)⟩
theorem lw_p95 : lw_okq (⟨"HairRopeModel", "weakensOf", "(I)I"⟩, 71) := ⟨⟨by decide +kernel, by decide +kernel⟩, lw_t6 (List.mem_of_getElem? (i := 177) rfl), lw_t8 (List.mem_of_getElem? (i := 100) rfl), lw_t8 (List.mem_of_getElem? (i := 101) rfl)⟩
def lw_privs_6 : List (MethodName × Nat) := [(⟨"HairRopeModel", "expression", "()V"⟩, 71), (⟨"HairRopeModel", "unit", "()V"⟩, 71), (⟨"HairRopeModel", "emit", "(II)V"⟩, 71), (⟨"HairRopeModel", "comesOut", "(Z)V"⟩, 71), (⟨"HairRopeModel", "term", "()V"⟩, 71), (⟨"HairRopeModel", "isHouse", "(I)Z"⟩, 71), (⟨"HairRopeModel", "copies", "()V"⟩, 71), (⟨"HairRopeModel", "strongFirst", "(I)I"⟩, 71), (⟨"HairRopeModel", "hasPlait", "(I)Z"⟩, 71), (⟨"HairRopeModel", "placeOf", "(I)I"⟩, 71), (⟨"HairRopeModel", "growsOf", "(I)I"⟩, 71), (⟨"HairRopeModel", "views", "(I)V"⟩, 71), (⟨"HairRopeModel", "strongOf", "(I)I"⟩, 71), (⟨"HairRopeModel", "lawTells", "(II)I"⟩, 71), (⟨"HairRopeModel", "termOf", "(II)I"⟩, 71), (⟨"HairRopeModel", "weakensOf", "(I)I"⟩, 71)]
theorem lw_r6 : ∀ q ∈ lw_privs_6, lw_okq q := List.forall_mem_cons.mpr ⟨lw_p80, List.forall_mem_cons.mpr ⟨lw_p81, List.forall_mem_cons.mpr ⟨lw_p82, List.forall_mem_cons.mpr ⟨lw_p83, List.forall_mem_cons.mpr ⟨lw_p84, List.forall_mem_cons.mpr ⟨lw_p85, List.forall_mem_cons.mpr ⟨lw_p86, List.forall_mem_cons.mpr ⟨lw_p87, List.forall_mem_cons.mpr ⟨lw_p88, List.forall_mem_cons.mpr ⟨lw_p89, List.forall_mem_cons.mpr ⟨lw_p90, List.forall_mem_cons.mpr ⟨lw_p91, List.forall_mem_cons.mpr ⟨lw_p92, List.forall_mem_cons.mpr ⟨lw_p93, List.forall_mem_cons.mpr ⟨lw_p94, List.forall_mem_cons.mpr ⟨lw_p95, fun _ h => absurd h List.not_mem_nil⟩⟩⟩⟩⟩⟩⟩⟩⟩⟩⟩⟩⟩⟩⟩⟩
theorem lw_p96 : lw_okq (⟨"HairRopeModel", "costsOf", "(I)I"⟩, 71) := ⟨⟨by decide +kernel, by decide +kernel⟩, lw_t6 (List.mem_of_getElem? (i := 177) rfl), lw_t8 (List.mem_of_getElem? (i := 104) rfl), lw_t8 (List.mem_of_getElem? (i := 105) rfl)⟩
theorem lw_p97 : lw_okq (⟨"HairRopeModel", "areTwo", "(II)Z"⟩, 71) := ⟨⟨by decide +kernel, by decide +kernel⟩, lw_t6 (List.mem_of_getElem? (i := 177) rfl), lw_t8 (List.mem_of_getElem? (i := 112) rfl), lw_t8 (List.mem_of_getElem? (i := 113) rfl)⟩
theorem lw_p98 : lw_okq (⟨"HairRopeModel", "likeOf", "(II)I"⟩, 71) := ⟨⟨by decide +kernel, by decide +kernel⟩, lw_t6 (List.mem_of_getElem? (i := 177) rfl), lw_t8 (List.mem_of_getElem? (i := 116) rfl), lw_t8 (List.mem_of_getElem? (i := 117) rfl)⟩
theorem lw_p99 : lw_okq (⟨"HairRopeModel", "joinsOf", "(II)I"⟩, 71) := ⟨⟨by decide +kernel, by decide +kernel⟩, lw_t6 (List.mem_of_getElem? (i := 177) rfl), lw_t8 (List.mem_of_getElem? (i := 124) rfl), lw_t8 (List.mem_of_getElem? (i := 125) rfl)⟩
theorem lw_p100 : lw_okq (⟨"HairRopeModel", "joinsBy", "(III)I"⟩, 71) := ⟨⟨by decide +kernel, by decide +kernel⟩, lw_t6 (List.mem_of_getElem? (i := 177) rfl), lw_t8 (List.mem_of_getElem? (i := 128) rfl), lw_t8 (List.mem_of_getElem? (i := 129) rfl)⟩
theorem lw_p101 : lw_okq (⟨"HairRopeModel", "records", "()V"⟩, 71) := ⟨⟨by decide +kernel, by decide +kernel⟩, lw_t6 (List.mem_of_getElem? (i := 177) rfl), lw_t8 (List.mem_of_getElem? (i := 140) rfl), lw_t8 (List.mem_of_getElem? (i := 141) rfl)⟩
theorem lw_p102 : lw_okq (⟨"HairRopeModel", "ropeLong", "()I"⟩, 71) := ⟨⟨by decide +kernel, by decide +kernel⟩, lw_t6 (List.mem_of_getElem? (i := 177) rfl), lw_t8 (List.mem_of_getElem? (i := 144) rfl), lw_t8 (List.mem_of_getElem? (i := 145) rfl)⟩
theorem lw_p103 : lw_okq (⟨"HairRopeModel", "loses", "(I)V"⟩, 71) := ⟨⟨by decide +kernel, by decide +kernel⟩, lw_t6 (List.mem_of_getElem? (i := 177) rfl), lw_t8 (List.mem_of_getElem? (i := 152) rfl), lw_t8 (List.mem_of_getElem? (i := 153) rfl)⟩
theorem lw_p104 : lw_okq (⟨"HairRopeModel", "breaksAt", "(I)I"⟩, 71) := ⟨⟨by decide +kernel, by decide +kernel⟩, lw_t6 (List.mem_of_getElem? (i := 177) rfl), lw_t8 (List.mem_of_getElem? (i := 163) rfl), lw_t8 (List.mem_of_getElem? (i := 164) rfl)⟩
theorem lw_p105 : lw_okq (⟨"HairRopeModel", "spareAt", "(I)I"⟩, 71) := ⟨⟨by decide +kernel, by decide +kernel⟩, lw_t6 (List.mem_of_getElem? (i := 177) rfl), lw_t8 (List.mem_of_getElem? (i := 167) rfl), lw_t8 (List.mem_of_getElem? (i := 168) rfl)⟩
theorem lw_p106 : lw_okq (⟨"HairRopeModel", "belowOf", "(I)I"⟩, 71) := ⟨⟨by decide +kernel, by decide +kernel⟩, lw_t6 (List.mem_of_getElem? (i := 177) rfl), lw_t8 (List.mem_of_getElem? (i := 171) rfl), lw_t8 (List.mem_of_getElem? (i := 172) rfl)⟩
theorem lw_p107 : lw_okq (⟨"HairRopeModel", "goes", "(I)V"⟩, 71) := ⟨⟨by decide +kernel, by decide +kernel⟩, lw_t6 (List.mem_of_getElem? (i := 177) rfl), lw_t8 (List.mem_of_getElem? (i := 182) rfl), lw_t8 (List.mem_of_getElem? (i := 183) rfl)⟩
theorem lw_p108 : lw_okq (⟨"HairRopeModel", "yearGoes", "()V"⟩, 71) := ⟨⟨by decide +kernel, by decide +kernel⟩, lw_t6 (List.mem_of_getElem? (i := 177) rfl), lw_t8 (List.mem_of_getElem? (i := 186) rfl), lw_t8 (List.mem_of_getElem? (i := 187) rfl)⟩
theorem lw_p109 : lw_okq (⟨"HairRopeModel", "isBlighted", "(I)Z"⟩, 71) := ⟨⟨by decide +kernel, by decide +kernel⟩, lw_t6 (List.mem_of_getElem? (i := 177) rfl), lw_t8 (List.mem_of_getElem? (i := 190) rfl), lw_t8 (List.mem_of_getElem? (i := 191) rfl)⟩
theorem lw_p110 : lw_okq (⟨"HairRopeModel", "lotOf", "(I)I"⟩, 71) := ⟨⟨by decide +kernel, by decide +kernel⟩, lw_t6 (List.mem_of_getElem? (i := 177) rfl), lw_t8 (List.mem_of_getElem? (i := 194) rfl), lw_t8 (List.mem_of_getElem? (i := 195) rfl)⟩
theorem lw_p111 : lw_okq (⟨"HairRopeModel", "mostOf", "()I"⟩, 71) := ⟨⟨by decide +kernel, by decide +kernel⟩, lw_t6 (List.mem_of_getElem? (i := 177) rfl), lw_t8 (List.mem_of_getElem? (i := 210) rfl), lw_t8 (List.mem_of_getElem? (i := 211) rfl)⟩
def lw_privs_7 : List (MethodName × Nat) := [(⟨"HairRopeModel", "costsOf", "(I)I"⟩, 71), (⟨"HairRopeModel", "areTwo", "(II)Z"⟩, 71), (⟨"HairRopeModel", "likeOf", "(II)I"⟩, 71), (⟨"HairRopeModel", "joinsOf", "(II)I"⟩, 71), (⟨"HairRopeModel", "joinsBy", "(III)I"⟩, 71), (⟨"HairRopeModel", "records", "()V"⟩, 71), (⟨"HairRopeModel", "ropeLong", "()I"⟩, 71), (⟨"HairRopeModel", "loses", "(I)V"⟩, 71), (⟨"HairRopeModel", "breaksAt", "(I)I"⟩, 71), (⟨"HairRopeModel", "spareAt", "(I)I"⟩, 71), (⟨"HairRopeModel", "belowOf", "(I)I"⟩, 71), (⟨"HairRopeModel", "goes", "(I)V"⟩, 71), (⟨"HairRopeModel", "yearGoes", "()V"⟩, 71), (⟨"HairRopeModel", "isBlighted", "(I)Z"⟩, 71), (⟨"HairRopeModel", "lotOf", "(I)I"⟩, 71), (⟨"HairRopeModel", "mostOf", "()I"⟩, 71)]
theorem lw_r7 : ∀ q ∈ lw_privs_7, lw_okq q := List.forall_mem_cons.mpr ⟨lw_p96, List.forall_mem_cons.mpr ⟨lw_p97, List.forall_mem_cons.mpr ⟨lw_p98, List.forall_mem_cons.mpr ⟨lw_p99, List.forall_mem_cons.mpr ⟨lw_p100, List.forall_mem_cons.mpr ⟨lw_p101, List.forall_mem_cons.mpr ⟨lw_p102, List.forall_mem_cons.mpr ⟨lw_p103, List.forall_mem_cons.mpr ⟨lw_p104, List.forall_mem_cons.mpr ⟨lw_p105, List.forall_mem_cons.mpr ⟨lw_p106, List.forall_mem_cons.mpr ⟨lw_p107, List.forall_mem_cons.mpr ⟨lw_p108, List.forall_mem_cons.mpr ⟨lw_p109, List.forall_mem_cons.mpr ⟨lw_p110, List.forall_mem_cons.mpr ⟨lw_p111, fun _ h => absurd h List.not_mem_nil⟩⟩⟩⟩⟩⟩⟩⟩⟩⟩⟩⟩⟩⟩⟩⟩
theorem lw_p112 : lw_okq (⟨"HairRopeModel", "spareLeast", "()I"⟩, 71) := ⟨⟨by decide +kernel, by decide +kernel⟩, lw_t6 (List.mem_of_getElem? (i := 177) rfl), lw_t8 (List.mem_of_getElem? (i := 214) rfl), lw_t8 (List.mem_of_getElem? (i := 215) rfl)⟩
theorem lw_p113 : lw_okq (⟨"HairRopeModel", "copiesStill", "()V"⟩, 71) := ⟨⟨by decide +kernel, by decide +kernel⟩, lw_t6 (List.mem_of_getElem? (i := 177) rfl), lw_t8 (List.mem_of_getElem? (i := 230) rfl), lw_t8 (List.mem_of_getElem? (i := 231) rfl)⟩
theorem lw_p114 : lw_okq (⟨"HairRopeModel", "fillsPlans", "()V"⟩, 71) := ⟨⟨by decide +kernel, by decide +kernel⟩, lw_t6 (List.mem_of_getElem? (i := 177) rfl), lw_t9 (List.mem_of_getElem? (i := 14) rfl), lw_t9 (List.mem_of_getElem? (i := 15) rfl)⟩
theorem lw_p115 : lw_okq (⟨"HairRopeModel", "goesToNext", "()Z"⟩, 71) := ⟨⟨by decide +kernel, by decide +kernel⟩, lw_t6 (List.mem_of_getElem? (i := 177) rfl), lw_t9 (List.mem_of_getElem? (i := 18) rfl), lw_t9 (List.mem_of_getElem? (i := 19) rfl)⟩
theorem lw_p116 : lw_okq (⟨"HairRopeModel", "nextFrom", "(I)I"⟩, 71) := ⟨⟨by decide +kernel, by decide +kernel⟩, lw_t6 (List.mem_of_getElem? (i := 177) rfl), lw_t9 (List.mem_of_getElem? (i := 22) rfl), lw_t9 (List.mem_of_getElem? (i := 23) rfl)⟩
theorem lw_p117 : lw_okq (⟨"HairRopeModel", "isIn", "(I)Z"⟩, 71) := ⟨⟨by decide +kernel, by decide +kernel⟩, lw_t6 (List.mem_of_getElem? (i := 177) rfl), lw_t9 (List.mem_of_getElem? (i := 26) rfl), lw_t9 (List.mem_of_getElem? (i := 27) rfl)⟩
theorem lw_p118 : lw_okq (⟨"HairRopeModel", "orderSpare", "()I"⟩, 71) := ⟨⟨by decide +kernel, by decide +kernel⟩, lw_t6 (List.mem_of_getElem? (i := 177) rfl), lw_t9 (List.mem_of_getElem? (i := 30) rfl), lw_t9 (List.mem_of_getElem? (i := 31) rfl)⟩
theorem lw_p119 : lw_okq (⟨"HairRopeModel", "peakOf", "()I"⟩, 71) := ⟨⟨by decide +kernel, by decide +kernel⟩, lw_t6 (List.mem_of_getElem? (i := 177) rfl), lw_t9 (List.mem_of_getElem? (i := 38) rfl), lw_t9 (List.mem_of_getElem? (i := 39) rfl)⟩
theorem lw_p120 : lw_okq (⟨"HairRopeModel", "fewestOf", "(I)I"⟩, 71) := ⟨⟨by decide +kernel, by decide +kernel⟩, lw_t6 (List.mem_of_getElem? (i := 177) rfl), lw_t9 (List.mem_of_getElem? (i := 46) rfl), lw_t9 (List.mem_of_getElem? (i := 47) rfl)⟩
theorem lw_p121 : lw_okq (⟨"HairRopeModel", "isPeace", "(III)Z"⟩, 71) := ⟨⟨by decide +kernel, by decide +kernel⟩, lw_t6 (List.mem_of_getElem? (i := 177) rfl), lw_t9 (List.mem_of_getElem? (i := 62) rfl), lw_t9 (List.mem_of_getElem? (i := 63) rfl)⟩
theorem lw_p122 : lw_okq (⟨"HairRopeModel", "likesMost", "(I)V"⟩, 71) := ⟨⟨by decide +kernel, by decide +kernel⟩, lw_t6 (List.mem_of_getElem? (i := 177) rfl), lw_t9 (List.mem_of_getElem? (i := 66) rfl), lw_t9 (List.mem_of_getElem? (i := 67) rfl)⟩
theorem lw_p123 : lw_okq (⟨"HairRopeModel", "isPair", "(I)Z"⟩, 71) := ⟨⟨by decide +kernel, by decide +kernel⟩, lw_t6 (List.mem_of_getElem? (i := 177) rfl), lw_t9 (List.mem_of_getElem? (i := 70) rfl), lw_t9 (List.mem_of_getElem? (i := 71) rfl)⟩
theorem lw_p124 : lw_okq (⟨"HairRopeModel", "givesBits", "()I"⟩, 71) := ⟨⟨by decide +kernel, by decide +kernel⟩, lw_t6 (List.mem_of_getElem? (i := 177) rfl), lw_t9 (List.mem_of_getElem? (i := 78) rfl), lw_t9 (List.mem_of_getElem? (i := 79) rfl)⟩
theorem lw_p125 : lw_okq (⟨"HairRopeModel", "isRest", "(I)Z"⟩, 71) := ⟨⟨by decide +kernel, by decide +kernel⟩, lw_t6 (List.mem_of_getElem? (i := 177) rfl), lw_t9 (List.mem_of_getElem? (i := 82) rfl), lw_t9 (List.mem_of_getElem? (i := 83) rfl)⟩
theorem lw_p126 : lw_okq (⟨"HairRopeModel", "hasOf", "(II)I"⟩, 71) := ⟨⟨by decide +kernel, by decide +kernel⟩, lw_t6 (List.mem_of_getElem? (i := 177) rfl), lw_t9 (List.mem_of_getElem? (i := 86) rfl), lw_t9 (List.mem_of_getElem? (i := 87) rfl)⟩
theorem lw_p127 : lw_okq (⟨"HairRopeModel", "isEnough", "(I)Z"⟩, 71) := ⟨⟨by decide +kernel, by decide +kernel⟩, lw_t6 (List.mem_of_getElem? (i := 177) rfl), lw_t9 (List.mem_of_getElem? (i := 90) rfl), lw_t9 (List.mem_of_getElem? (i := 91) rfl)⟩
def lw_privs_8 : List (MethodName × Nat) := [(⟨"HairRopeModel", "spareLeast", "()I"⟩, 71), (⟨"HairRopeModel", "copiesStill", "()V"⟩, 71), (⟨"HairRopeModel", "fillsPlans", "()V"⟩, 71), (⟨"HairRopeModel", "goesToNext", "()Z"⟩, 71), (⟨"HairRopeModel", "nextFrom", "(I)I"⟩, 71), (⟨"HairRopeModel", "isIn", "(I)Z"⟩, 71), (⟨"HairRopeModel", "orderSpare", "()I"⟩, 71), (⟨"HairRopeModel", "peakOf", "()I"⟩, 71), (⟨"HairRopeModel", "fewestOf", "(I)I"⟩, 71), (⟨"HairRopeModel", "isPeace", "(III)Z"⟩, 71), (⟨"HairRopeModel", "likesMost", "(I)V"⟩, 71), (⟨"HairRopeModel", "isPair", "(I)Z"⟩, 71), (⟨"HairRopeModel", "givesBits", "()I"⟩, 71), (⟨"HairRopeModel", "isRest", "(I)Z"⟩, 71), (⟨"HairRopeModel", "hasOf", "(II)I"⟩, 71), (⟨"HairRopeModel", "isEnough", "(I)Z"⟩, 71)]
theorem lw_r8 : ∀ q ∈ lw_privs_8, lw_okq q := List.forall_mem_cons.mpr ⟨lw_p112, List.forall_mem_cons.mpr ⟨lw_p113, List.forall_mem_cons.mpr ⟨lw_p114, List.forall_mem_cons.mpr ⟨lw_p115, List.forall_mem_cons.mpr ⟨lw_p116, List.forall_mem_cons.mpr ⟨lw_p117, List.forall_mem_cons.mpr ⟨lw_p118, List.forall_mem_cons.mpr ⟨lw_p119, List.forall_mem_cons.mpr ⟨lw_p120, List.forall_mem_cons.mpr ⟨lw_p121, List.forall_mem_cons.mpr ⟨lw_p122, List.forall_mem_cons.mpr ⟨lw_p123, List.forall_mem_cons.mpr ⟨lw_p124, List.forall_mem_cons.mpr ⟨lw_p125, List.forall_mem_cons.mpr ⟨lw_p126, List.forall_mem_cons.mpr ⟨lw_p127, fun _ h => absurd h List.not_mem_nil⟩⟩⟩⟩⟩⟩⟩⟩⟩⟩⟩⟩⟩⟩⟩⟩
theorem lw_p128 : lw_okq (⟨"HairRopeModel", "givesCost", "(I)I"⟩, 71) := ⟨⟨by decide +kernel, by decide +kernel⟩, lw_t6 (List.mem_of_getElem? (i := 177) rfl), lw_t9 (List.mem_of_getElem? (i := 94) rfl), lw_t9 (List.mem_of_getElem? (i := 95) rfl)⟩
theorem lw_p129 : lw_okq (⟨"HairRopeModel", "harvestOf", "(III)I"⟩, 71) := ⟨⟨by decide +kernel, by decide +kernel⟩, lw_t6 (List.mem_of_getElem? (i := 177) rfl), lw_t9 (List.mem_of_getElem? (i := 109) rfl), lw_t9 (List.mem_of_getElem? (i := 110) rfl)⟩
theorem lw_p130 : lw_okq (⟨"HairRopeModel", "isAsked", "(II)Z"⟩, 71) := ⟨⟨by decide +kernel, by decide +kernel⟩, lw_t6 (List.mem_of_getElem? (i := 177) rfl), lw_t9 (List.mem_of_getElem? (i := 136) rfl), lw_t9 (List.mem_of_getElem? (i := 137) rfl)⟩
theorem lw_p131 : lw_okq (⟨"HairRopeModel", "doesFit", "(III)Z"⟩, 71) := ⟨⟨by decide +kernel, by decide +kernel⟩, lw_t6 (List.mem_of_getElem? (i := 177) rfl), lw_t9 (List.mem_of_getElem? (i := 143) rfl), lw_t9 (List.mem_of_getElem? (i := 144) rfl)⟩
theorem lw_p132 : lw_okq (⟨"HairRopeModel", "sumNow", "(I)I"⟩, 71) := ⟨⟨by decide +kernel, by decide +kernel⟩, lw_t6 (List.mem_of_getElem? (i := 177) rfl), lw_t9 (List.mem_of_getElem? (i := 163) rfl), lw_t9 (List.mem_of_getElem? (i := 164) rfl)⟩
def lw_privs_9 : List (MethodName × Nat) := [(⟨"HairRopeModel", "givesCost", "(I)I"⟩, 71), (⟨"HairRopeModel", "harvestOf", "(III)I"⟩, 71), (⟨"HairRopeModel", "isAsked", "(II)Z"⟩, 71), (⟨"HairRopeModel", "doesFit", "(III)Z"⟩, 71), (⟨"HairRopeModel", "sumNow", "(I)I"⟩, 71)]
theorem lw_r9 : ∀ q ∈ lw_privs_9, lw_okq q := List.forall_mem_cons.mpr ⟨lw_p128, List.forall_mem_cons.mpr ⟨lw_p129, List.forall_mem_cons.mpr ⟨lw_p130, List.forall_mem_cons.mpr ⟨lw_p131, List.forall_mem_cons.mpr ⟨lw_p132, fun _ h => absurd h List.not_mem_nil⟩⟩⟩⟩⟩
def lw_privs : List (MethodName × Nat) := lw_privs_1 ++ (lw_privs_2 ++ (lw_privs_3 ++ (lw_privs_4 ++ (lw_privs_5 ++ (lw_privs_6 ++ (lw_privs_7 ++ (lw_privs_8 ++ (lw_privs_9))))))))
def lw_tbl : List Cond := k2_sels lw_privs ++ tables_1
theorem lw_privs_ok : ∀ q ∈ lw_privs, lw_okq q := by
  show ∀ q ∈ lw_privs_1 ++ (lw_privs_2 ++ (lw_privs_3 ++ (lw_privs_4 ++ (lw_privs_5 ++ (lw_privs_6 ++ (lw_privs_7 ++ (lw_privs_8 ++ (lw_privs_9)))))))), lw_okq q
  exact List.forall_mem_append.mpr ⟨lw_r1, List.forall_mem_append.mpr ⟨lw_r2, List.forall_mem_append.mpr ⟨lw_r3, List.forall_mem_append.mpr ⟨lw_r4, List.forall_mem_append.mpr ⟨lw_r5, List.forall_mem_append.mpr ⟨lw_r6, List.forall_mem_append.mpr ⟨lw_r7, List.forall_mem_append.mpr ⟨lw_r8, lw_r9⟩⟩⟩⟩⟩⟩⟩⟩
-- ===== ONE list of words for every method: the tables' words that hold all through a run =====
def lw_all : List Cond := lw_tbl.filter goodWord
/-- a word of the tables by its place: claim/WORDS.tsv -/
theorem lw_w {w : Cond} (i : Nat) (h : lw_tbl[i]? = some w) (g : goodWord w = true) : w ∈ lw_all := List.mem_filter.mpr ⟨List.mem_of_getElem? h, g⟩
theorem lw_all_tbl {w : Cond} (h : w ∈ lw_all) : w ∈ lw_tbl := (List.mem_filter.mp h).1
theorem lw_self : GoodIn lw_all lw_all := fun w h => ⟨h, good_of_word (List.mem_filter.mp h).2⟩
/-- a class's field words, by their places -/
theorem lw_in (ws : List Cond) (ps : List Nat) (hp : ws = ps.filterMap (fun i => lw_tbl[i]?)) (hg : ws.all goodWord = true) : ∀ w ∈ ws, w ∈ lw_all := by
  intro w h
  have h1 := List.all_eq_true.mp hg w h
  rw [hp] at h
  obtain ⟨i, -, hi⟩ := List.mem_filterMap.mp h
  exact lw_w i hi h1
/-- the words of a contract for the method y with code b, L locals, answer r -/
abbrev ws_ (y : MethodName) (b : ByteArray) (L : Nat) (r : Option FieldType) : List Cond := Cond.code y b L r :: lw_all
theorem lw_meth {y : MethodName} {b : ByteArray} {L : Nat} {r : Option FieldType} (h : Cond.code y b L r ∈ lw_all) : GoodIn lw_all (ws_ y b L r) := by
  intro w hw
  rcases List.mem_cons.mp hw with e | e
  · rw [e]
    exact lw_self _ h
  · exact lw_self _ e
theorem lw_app {a c : List Cond} (ha : ∀ w ∈ a, w ∈ lw_all) (hc : GoodIn lw_all c) : GoodIn lw_all (a ++ c) := by
  intro w hw
  rcases List.mem_append.mp hw with e | e
  · exact lw_self w (ha w e)
  · exact hc w e
/-- what a call through an object asks: cwV n hts (lw_V ..) -/
theorem lw_V {own : String} {idx : Nat} {C : String} {y : MethodName} {b : ByteArray} {L : Nat} {r : Option FieldType} (h1 : Cond.methodLink own idx y ∈ lw_all) (h2 : Cond.instanceMethod y ∈ lw_all) (h3 : Cond.selects C y y ∈ lw_all) (h4 : Cond.initialized C ∈ lw_all) (h5 : Cond.code y b L r ∈ lw_all) : GoodIn lw_all (wsV own idx C y (ws_ y b L r)) := by
  refine lw_app ?_ (lw_meth h5)
  intro w hw
  simp only [List.mem_cons, List.not_mem_nil, or_false] at hw
  rcases hw with e | e | e | e
  · rw [e]; exact h1
  · rw [e]; exact h2
  · rw [e]; exact h3
  · rw [e]; exact h4
/-- what a static call asks: va_cwS n hts (lw_S ..) -/
theorem lw_S {own : String} {idx : Nat} {y : MethodName} {b : ByteArray} {L : Nat} {r : Option FieldType} (h1 : Cond.methodLink own idx y ∈ lw_all) (h2 : Cond.static y ∈ lw_all) (h3 : Cond.initialized y.cls ∈ lw_all) (h4 : Cond.code y b L r ∈ lw_all) : GoodIn lw_all (va_wsS own idx y (ws_ y b L r)) := by
  refine lw_app ?_ (lw_meth h4)
  intro w hw
  simp only [List.mem_cons, List.not_mem_nil, or_false] at hw
  rcases hw with e | e | e
  · rw [e]; exact h1
  · rw [e]; exact h2
  · rw [e]; exact h3
/-- the words of a contract for a method WITH HANDLERS (hh: its table) -/
abbrev wsW_ (y : MethodName) (b : ByteArray) (L : Nat) (r : Option FieldType) (hh : List (Nat × Nat × Nat × Nat)) : List Cond := Cond.codeWith y b L r hh :: lw_all
theorem lw_methW {y : MethodName} {b : ByteArray} {L : Nat} {r : Option FieldType} {hh : List (Nat × Nat × Nat × Nat)} (h : Cond.codeWith y b L r hh ∈ lw_all) : GoodIn lw_all (wsW_ y b L r hh) := by
  intro w hw
  rcases List.mem_cons.mp hw with e | e
  · rw [e]
    exact lw_self _ h
  · exact lw_self _ e
/-- any list of words by their places (lw_in), good -/
theorem lw_good {ws : List Cond} (h : ∀ w ∈ ws, w ∈ lw_all) : GoodIn lw_all ws := fun w hw => lw_self w (h w hw)
/-- what a call of a method with handlers asks: vx_cwVW n hts (lw_VW ..), vx_cwSW n hts (lw_SW ..) -/
theorem lw_VW {own : String} {idx : Nat} {C : String} {y : MethodName} {b : ByteArray} {L : Nat} {r : Option FieldType} {hh : List (Nat × Nat × Nat × Nat)} (h1 : Cond.methodLink own idx y ∈ lw_all) (h2 : Cond.instanceMethod y ∈ lw_all) (h3 : Cond.selects C y y ∈ lw_all) (h4 : Cond.initialized C ∈ lw_all) (h5 : Cond.codeWith y b L r hh ∈ lw_all) : GoodIn lw_all (wsV own idx C y (wsW_ y b L r hh)) := by
  refine lw_app ?_ (lw_methW h5)
  intro w hw
  simp only [List.mem_cons, List.not_mem_nil, or_false] at hw
  rcases hw with e | e | e | e
  · rw [e]; exact h1
  · rw [e]; exact h2
  · rw [e]; exact h3
  · rw [e]; exact h4
theorem lw_SW {own : String} {idx : Nat} {y : MethodName} {b : ByteArray} {L : Nat} {r : Option FieldType} {hh : List (Nat × Nat × Nat × Nat)} (h1 : Cond.methodLink own idx y ∈ lw_all) (h2 : Cond.static y ∈ lw_all) (h3 : Cond.initialized y.cls ∈ lw_all) (h4 : Cond.codeWith y b L r hh ∈ lw_all) : GoodIn lw_all (va_wsS own idx y (wsW_ y b L r hh)) := by
  refine lw_app ?_ (lw_methW h4)
  intro w hw
  simp only [List.mem_cons, List.not_mem_nil, or_false] at hw
  rcases hw with e | e | e
  · rw [e]; exact h1
  · rw [e]; exact h2
  · rw [e]; exact h3
/-- a word by its place in its run of the tables -/
theorem lw_at {r : List Cond} (hr : ∀ w ∈ r, w ∈ lw_tbl) {w : Cond} (i : Nat) (h : r[i]? = some w) : w ∈ lw_tbl := hr w (List.mem_of_getElem? h)
theorem lw_g {w : Cond} (h : w ∈ lw_tbl) (g : goodWord w = true) : w ∈ lw_all := List.mem_filter.mpr ⟨h, g⟩
theorem lw_ms : ∀ w ∈ k2_sels lw_privs, w ∈ lw_tbl := fun w h => show w ∈ k2_sels lw_privs ++ tables_1 from List.mem_append_left _ h
theorem lw_m1 : ∀ w ∈ tables_1_1, w ∈ lw_tbl := fun w h => show w ∈ k2_sels lw_privs ++ tables_1 from List.mem_append_right (k2_sels lw_privs) (show w ∈ tables_1 from List.mem_append_left _ h)
theorem lw_m2 : ∀ w ∈ tables_1_2, w ∈ lw_tbl := fun w h => show w ∈ k2_sels lw_privs ++ tables_1 from List.mem_append_right (k2_sels lw_privs) (show w ∈ tables_1 from List.mem_append_right _ (List.mem_append_left _ h))
theorem lw_m3 : ∀ w ∈ tables_1_3, w ∈ lw_tbl := fun w h => show w ∈ k2_sels lw_privs ++ tables_1 from List.mem_append_right (k2_sels lw_privs) (show w ∈ tables_1 from List.mem_append_right _ (List.mem_append_right _ (List.mem_append_left _ h)))
theorem lw_m4 : ∀ w ∈ tables_1_4, w ∈ lw_tbl := fun w h => show w ∈ k2_sels lw_privs ++ tables_1 from List.mem_append_right (k2_sels lw_privs) (show w ∈ tables_1 from List.mem_append_right _ (List.mem_append_right _ (List.mem_append_right _ (List.mem_append_left _ h))))
theorem lw_m5 : ∀ w ∈ tables_1_5, w ∈ lw_tbl := fun w h => show w ∈ k2_sels lw_privs ++ tables_1 from List.mem_append_right (k2_sels lw_privs) (show w ∈ tables_1 from List.mem_append_right _ (List.mem_append_right _ (List.mem_append_right _ (List.mem_append_right _ (List.mem_append_left _ h)))))
theorem lw_m6 : ∀ w ∈ tables_1_6, w ∈ lw_tbl := fun w h => show w ∈ k2_sels lw_privs ++ tables_1 from List.mem_append_right (k2_sels lw_privs) (show w ∈ tables_1 from List.mem_append_right _ (List.mem_append_right _ (List.mem_append_right _ (List.mem_append_right _ (List.mem_append_right _ (List.mem_append_left _ h))))))
theorem lw_m7 : ∀ w ∈ tables_1_7, w ∈ lw_tbl := fun w h => show w ∈ k2_sels lw_privs ++ tables_1 from List.mem_append_right (k2_sels lw_privs) (show w ∈ tables_1 from List.mem_append_right _ (List.mem_append_right _ (List.mem_append_right _ (List.mem_append_right _ (List.mem_append_right _ (List.mem_append_right _ (List.mem_append_left _ h)))))))
theorem lw_m8 : ∀ w ∈ tables_1_8, w ∈ lw_tbl := fun w h => show w ∈ k2_sels lw_privs ++ tables_1 from List.mem_append_right (k2_sels lw_privs) (show w ∈ tables_1 from List.mem_append_right _ (List.mem_append_right _ (List.mem_append_right _ (List.mem_append_right _ (List.mem_append_right _ (List.mem_append_right _ (List.mem_append_right _ (List.mem_append_left _ h))))))))
theorem lw_m9 : ∀ w ∈ tables_1_9, w ∈ lw_tbl := fun w h => show w ∈ k2_sels lw_privs ++ tables_1 from List.mem_append_right (k2_sels lw_privs) (show w ∈ tables_1 from List.mem_append_right _ (List.mem_append_right _ (List.mem_append_right _ (List.mem_append_right _ (List.mem_append_right _ (List.mem_append_right _ (List.mem_append_right _ (List.mem_append_right _ h))))))))
theorem qs0 : (Cond.selects "java/lang/Throwable" ⟨"java/lang/Throwable", "fillInStackTrace", "(I)Ljava/lang/Throwable;"⟩ ⟨"java/lang/Throwable", "fillInStackTrace", "(I)Ljava/lang/Throwable;"⟩) ∈ lw_all := lw_g (lw_at lw_ms 0 rfl) rfl
theorem qs1 : (Cond.selects "HairRope" ⟨"HairRope", "typed", "(I)V"⟩ ⟨"HairRope", "typed", "(I)V"⟩) ∈ lw_all := lw_g (lw_at lw_ms 1 rfl) rfl
theorem qs2 : (Cond.selects "HairRope$Tokens" ⟨"HairRope$Tokens", "isLetter", "(I)Z"⟩ ⟨"HairRope$Tokens", "isLetter", "(I)Z"⟩) ∈ lw_all := lw_g (lw_at lw_ms 2 rfl) rfl
theorem qs3 : (Cond.selects "HairRope$Tokens" ⟨"HairRope$Tokens", "at", "(I)I"⟩ ⟨"HairRope$Tokens", "at", "(I)I"⟩) ∈ lw_all := lw_g (lw_at lw_ms 3 rfl) rfl
theorem qs4 : (Cond.selects "HairRope$Tokens" ⟨"HairRope$Tokens", "word", "(II)I"⟩ ⟨"HairRope$Tokens", "word", "(II)I"⟩) ∈ lw_all := lw_g (lw_at lw_ms 4 rfl) rfl
theorem qs5 : (Cond.selects "HairRope$Tokens" ⟨"HairRope$Tokens", "isDigit", "(I)Z"⟩ ⟨"HairRope$Tokens", "isDigit", "(I)Z"⟩) ∈ lw_all := lw_g (lw_at lw_ms 5 rfl) rfl
theorem qs6 : (Cond.selects "HairRope$Tokens" ⟨"HairRope$Tokens", "sign", "(I)I"⟩ ⟨"HairRope$Tokens", "sign", "(I)I"⟩) ∈ lw_all := lw_g (lw_at lw_ms 6 rfl) rfl
theorem qs7 : (Cond.selects "HairRope$Tokens" ⟨"HairRope$Tokens", "add", "(IIII)V"⟩ ⟨"HairRope$Tokens", "add", "(IIII)V"⟩) ∈ lw_all := lw_g (lw_at lw_ms 7 rfl) rfl
theorem qs8 : (Cond.selects "HairRope$Parser" ⟨"HairRope$Parser", "sort", "()I"⟩ ⟨"HairRope$Parser", "sort", "()I"⟩) ∈ lw_all := lw_g (lw_at lw_ms 8 rfl) rfl
theorem qs9 : (Cond.selects "HairRope$Parser" ⟨"HairRope$Parser", "wrong", "(I)LHairRope$Fault;"⟩ ⟨"HairRope$Parser", "wrong", "(I)LHairRope$Fault;"⟩) ∈ lw_all := lw_g (lw_at lw_ms 9 rfl) rfl
theorem qs10 : (Cond.selects "HairRope$Parser" ⟨"HairRope$Parser", "wrongAt", "(II)LHairRope$Fault;"⟩ ⟨"HairRope$Parser", "wrongAt", "(II)LHairRope$Fault;"⟩) ∈ lw_all := lw_g (lw_at lw_ms 10 rfl) rfl
theorem qs11 : (Cond.selects "HairRope$Parser" ⟨"HairRope$Parser", "told", "()V"⟩ ⟨"HairRope$Parser", "told", "()V"⟩) ∈ lw_all := lw_g (lw_at lw_ms 11 rfl) rfl
theorem qs12 : (Cond.selects "HairRope$Parser" ⟨"HairRope$Parser", "pass", "()V"⟩ ⟨"HairRope$Parser", "pass", "()V"⟩) ∈ lw_all := lw_g (lw_at lw_ms 12 rfl) rfl
theorem qs13 : (Cond.selects "HairRope$Parser" ⟨"HairRope$Parser", "law", "()LHairRope$Law;"⟩ ⟨"HairRope$Parser", "law", "()LHairRope$Law;"⟩) ∈ lw_all := lw_g (lw_at lw_ms 13 rfl) rfl
theorem qs14 : (Cond.selects "HairRope$Parser" ⟨"HairRope$Parser", "sign", "(I)V"⟩ ⟨"HairRope$Parser", "sign", "(I)V"⟩) ∈ lw_all := lw_g (lw_at lw_ms 14 rfl) rfl
theorem qs15 : (Cond.selects "HairRope$Parser" ⟨"HairRope$Parser", "isSign", "(I)Z"⟩ ⟨"HairRope$Parser", "isSign", "(I)Z"⟩) ∈ lw_all := lw_g (lw_at lw_ms 15 rfl) rfl
theorem qs16 : (Cond.selects "HairRope$Parser" ⟨"HairRope$Parser", "isWord", "(I)Z"⟩ ⟨"HairRope$Parser", "isWord", "(I)Z"⟩) ∈ lw_all := lw_g (lw_at lw_ms 16 rfl) rfl
theorem qs17 : (Cond.selects "HairRope$Parser" ⟨"HairRope$Parser", "begins", "(II)V"⟩ ⟨"HairRope$Parser", "begins", "(II)V"⟩) ∈ lw_all := lw_g (lw_at lw_ms 17 rfl) rfl
theorem qs18 : (Cond.selects "HairRope$Parser" ⟨"HairRope$Parser", "sum", "()LHairRope$Sum;"⟩ ⟨"HairRope$Parser", "sum", "()LHairRope$Sum;"⟩) ∈ lw_all := lw_g (lw_at lw_ms 18 rfl) rfl
theorem qs19 : (Cond.selects "HairRope$Parser" ⟨"HairRope$Parser", "part", "()LHairRope$Sum;"⟩ ⟨"HairRope$Parser", "part", "()LHairRope$Sum;"⟩) ∈ lw_all := lw_g (lw_at lw_ms 19 rfl) rfl
theorem qs20 : (Cond.selects "HairRope$Parser" ⟨"HairRope$Parser", "unit", "()LHairRope$Sum;"⟩ ⟨"HairRope$Parser", "unit", "()LHairRope$Sum;"⟩) ∈ lw_all := lw_g (lw_at lw_ms 20 rfl) rfl
theorem qs21 : (Cond.selects "HairRope$Parser" ⟨"HairRope$Parser", "word", "(I)V"⟩ ⟨"HairRope$Parser", "word", "(I)V"⟩) ∈ lw_all := lw_g (lw_at lw_ms 21 rfl) rfl
theorem qs22 : (Cond.selects "HairRope$Parser" ⟨"HairRope$Parser", "name", "()Ljava/lang/String;"⟩ ⟨"HairRope$Parser", "name", "()Ljava/lang/String;"⟩) ∈ lw_all := lw_g (lw_at lw_ms 22 rfl) rfl
theorem qs23 : (Cond.selects "HairRope$Parser" ⟨"HairRope$Parser", "take", "(I)I"⟩ ⟨"HairRope$Parser", "take", "(I)I"⟩) ∈ lw_all := lw_g (lw_at lw_ms 23 rfl) rfl
theorem qs24 : (Cond.selects "HairRope$Parser" ⟨"HairRope$Parser", "tell", "(II)V"⟩ ⟨"HairRope$Parser", "tell", "(II)V"⟩) ∈ lw_all := lw_g (lw_at lw_ms 24 rfl) rfl
theorem qs25 : (Cond.selects "HairRope$Parser" ⟨"HairRope$Parser", "number", "(II)I"⟩ ⟨"HairRope$Parser", "number", "(II)I"⟩) ∈ lw_all := lw_g (lw_at lw_ms 25 rfl) rfl
theorem qs26 : (Cond.selects "java/util/ArrayList" ⟨"java/util/ArrayList", "add", "(Ljava/lang/Object;[Ljava/lang/Object;I)V"⟩ ⟨"java/util/ArrayList", "add", "(Ljava/lang/Object;[Ljava/lang/Object;I)V"⟩) ∈ lw_all := lw_g (lw_at lw_ms 26 rfl) rfl
theorem qs27 : (Cond.selects "java/util/ArrayList" ⟨"java/util/ArrayList", "grow", "()[Ljava/lang/Object;"⟩ ⟨"java/util/ArrayList", "grow", "()[Ljava/lang/Object;"⟩) ∈ lw_all := lw_g (lw_at lw_ms 27 rfl) rfl
theorem qs28 : (Cond.selects "java/util/ArrayList" ⟨"java/util/ArrayList", "grow", "(I)[Ljava/lang/Object;"⟩ ⟨"java/util/ArrayList", "grow", "(I)[Ljava/lang/Object;"⟩) ∈ lw_all := lw_g (lw_at lw_ms 28 rfl) rfl
theorem qs29 : (Cond.selects "HairRope$Parser" ⟨"HairRope$Parser", "known", "(Ljava/util/ArrayList;)I"⟩ ⟨"HairRope$Parser", "known", "(Ljava/util/ArrayList;)I"⟩) ∈ lw_all := lw_g (lw_at lw_ms 29 rfl) rfl
theorem qs30 : (Cond.selects "HairRope" ⟨"HairRope", "isHouse", "(I)Z"⟩ ⟨"HairRope", "isHouse", "(I)Z"⟩) ∈ lw_all := lw_g (lw_at lw_ms 30 rfl) rfl
theorem qs31 : (Cond.selects "HairRope" ⟨"HairRope", "houses", "()I"⟩ ⟨"HairRope", "houses", "()I"⟩) ∈ lw_all := lw_g (lw_at lw_ms 31 rfl) rfl
theorem qs32 : (Cond.selects "HairRope$Village" ⟨"HairRope$Village", "told", "(LHairRope$Text;IIII)I"⟩ ⟨"HairRope$Village", "told", "(LHairRope$Text;IIII)I"⟩) ∈ lw_all := lw_g (lw_at lw_ms 32 rfl) rfl
theorem qs33 : (Cond.selects "HairRope" ⟨"HairRope", "areTwo", "(II)Z"⟩ ⟨"HairRope", "areTwo", "(II)Z"⟩) ∈ lw_all := lw_g (lw_at lw_ms 33 rfl) rfl
theorem qs34 : (Cond.selects "HairRope" ⟨"HairRope", "isPlace", "(I)Z"⟩ ⟨"HairRope", "isPlace", "(I)Z"⟩) ∈ lw_all := lw_g (lw_at lw_ms 34 rfl) rfl
theorem qs35 : (Cond.selects "HairRope" ⟨"HairRope", "keeps", "()V"⟩ ⟨"HairRope", "keeps", "()V"⟩) ∈ lw_all := lw_g (lw_at lw_ms 35 rfl) rfl
theorem qs36 : (Cond.selects "HairRope" ⟨"HairRope", "isLong", "()Z"⟩ ⟨"HairRope", "isLong", "()Z"⟩) ∈ lw_all := lw_g (lw_at lw_ms 36 rfl) rfl
theorem qs37 : (Cond.selects "HairRope" ⟨"HairRope", "runs", "(LHairRope$Village;ILHairRope$Sky;)V"⟩ ⟨"HairRope", "runs", "(LHairRope$Village;ILHairRope$Sky;)V"⟩) ∈ lw_all := lw_g (lw_at lw_ms 37 rfl) rfl
theorem qs38 : (Cond.selects "HairRope" ⟨"HairRope", "mostOf", "(LHairRope$Village;)I"⟩ ⟨"HairRope", "mostOf", "(LHairRope$Village;)I"⟩) ∈ lw_all := lw_g (lw_at lw_ms 38 rfl) rfl
theorem qs39 : (Cond.selects "HairRope" ⟨"HairRope", "givenBy", "(III)I"⟩ ⟨"HairRope", "givenBy", "(III)I"⟩) ∈ lw_all := lw_g (lw_at lw_ms 39 rfl) rfl
theorem qs40 : (Cond.selects "HairRope" ⟨"HairRope", "joinAt", "(I)I"⟩ ⟨"HairRope", "joinAt", "(I)I"⟩) ∈ lw_all := lw_g (lw_at lw_ms 40 rfl) rfl
theorem qs41 : (Cond.selects "HairRope" ⟨"HairRope", "laysJoins", "(LHairRope$Village;)V"⟩ ⟨"HairRope", "laysJoins", "(LHairRope$Village;)V"⟩) ∈ lw_all := lw_g (lw_at lw_ms 41 rfl) rfl
theorem qs42 : (Cond.selects "HairRope" ⟨"HairRope", "laysOrders", "(LHairRope$Village;I)I"⟩ ⟨"HairRope", "laysOrders", "(LHairRope$Village;I)I"⟩) ∈ lw_all := lw_g (lw_at lw_ms 42 rfl) rfl
theorem qs43 : (Cond.selects "HairRope" ⟨"HairRope", "laysWays", "(LHairRope$Village;I)V"⟩ ⟨"HairRope", "laysWays", "(LHairRope$Village;I)V"⟩) ∈ lw_all := lw_g (lw_at lw_ms 43 rfl) rfl
theorem qs44 : (Cond.selects "HairRope" ⟨"HairRope", "allHouses", "()I"⟩ ⟨"HairRope", "allHouses", "()I"⟩) ∈ lw_all := lw_g (lw_at lw_ms 44 rfl) rfl
theorem qs45 : (Cond.selects "HairRope" ⟨"HairRope", "waysOf", "(LHairRope$Village;III)I"⟩ ⟨"HairRope", "waysOf", "(LHairRope$Village;III)I"⟩) ∈ lw_all := lw_g (lw_at lw_ms 45 rfl) rfl
theorem qs46 : (Cond.selects "HairRope" ⟨"HairRope", "reaching", "(I)I"⟩ ⟨"HairRope", "reaching", "(I)I"⟩) ∈ lw_all := lw_g (lw_at lw_ms 46 rfl) rfl
theorem qs47 : (Cond.selects "HairRope" ⟨"HairRope", "laysRow", "(II)V"⟩ ⟨"HairRope", "laysRow", "(II)V"⟩) ∈ lw_all := lw_g (lw_at lw_ms 47 rfl) rfl
theorem qs48 : (Cond.selects "HairRope" ⟨"HairRope", "isLower", "(I)Z"⟩ ⟨"HairRope", "isLower", "(I)Z"⟩) ∈ lw_all := lw_g (lw_at lw_ms 48 rfl) rfl
theorem qs49 : (Cond.selects "HairRope" ⟨"HairRope", "isPeace", "(III)Z"⟩ ⟨"HairRope", "isPeace", "(III)Z"⟩) ∈ lw_all := lw_g (lw_at lw_ms 49 rfl) rfl
theorem qs50 : (Cond.selects "HairRope" ⟨"HairRope", "befriends", "(I)V"⟩ ⟨"HairRope", "befriends", "(I)V"⟩) ∈ lw_all := lw_g (lw_at lw_ms 50 rfl) rfl
theorem qs51 : (Cond.selects "HairRope" ⟨"HairRope", "twoOf", "(I)I"⟩ ⟨"HairRope", "twoOf", "(I)I"⟩) ∈ lw_all := lw_g (lw_at lw_ms 51 rfl) rfl
theorem qs52 : (Cond.selects "HairRope" ⟨"HairRope", "givers", "()I"⟩ ⟨"HairRope", "givers", "()I"⟩) ∈ lw_all := lw_g (lw_at lw_ms 52 rfl) rfl
theorem qs53 : (Cond.selects "HairRope" ⟨"HairRope", "isRest", "(I)Z"⟩ ⟨"HairRope", "isRest", "(I)Z"⟩) ∈ lw_all := lw_g (lw_at lw_ms 53 rfl) rfl
theorem qs54 : (Cond.selects "HairRope" ⟨"HairRope", "worth", "(II)I"⟩ ⟨"HairRope", "worth", "(II)I"⟩) ∈ lw_all := lw_g (lw_at lw_ms 54 rfl) rfl
theorem qs55 : (Cond.selects "HairRope" ⟨"HairRope", "isEnough", "(I)Z"⟩ ⟨"HairRope", "isEnough", "(I)Z"⟩) ∈ lw_all := lw_g (lw_at lw_ms 55 rfl) rfl
theorem qs56 : (Cond.selects "HairRope" ⟨"HairRope", "laysFits", "(II)V"⟩ ⟨"HairRope", "laysFits", "(II)V"⟩) ∈ lw_all := lw_g (lw_at lw_ms 56 rfl) rfl
theorem qs57 : (Cond.selects "HairRope" ⟨"HairRope", "rowsFit", "(IIIII)V"⟩ ⟨"HairRope", "rowsFit", "(IIIII)V"⟩) ∈ lw_all := lw_g (lw_at lw_ms 57 rfl) rfl
theorem qs58 : (Cond.selects "HairRope" ⟨"HairRope", "isSo", "(II)Z"⟩ ⟨"HairRope", "isSo", "(II)Z"⟩) ∈ lw_all := lw_g (lw_at lw_ms 58 rfl) rfl
theorem qs59 : (Cond.selects "HairRopeModel" ⟨"HairRopeModel", "plain", "(I)V"⟩ ⟨"HairRopeModel", "plain", "(I)V"⟩) ∈ lw_all := lw_g (lw_at lw_ms 59 rfl) rfl
theorem qs60 : (Cond.selects "HairRopeModel" ⟨"HairRopeModel", "begins", "()V"⟩ ⟨"HairRopeModel", "begins", "()V"⟩) ∈ lw_all := lw_g (lw_at lw_ms 60 rfl) rfl
theorem qs61 : (Cond.selects "HairRopeModel" ⟨"HairRopeModel", "keepsRow", "()V"⟩ ⟨"HairRopeModel", "keepsRow", "()V"⟩) ∈ lw_all := lw_g (lw_at lw_ms 61 rfl) rfl
theorem qs62 : (Cond.selects "HairRopeModel" ⟨"HairRopeModel", "lays", "(I)V"⟩ ⟨"HairRopeModel", "lays", "(I)V"⟩) ∈ lw_all := lw_g (lw_at lw_ms 62 rfl) rfl
theorem qs63 : (Cond.selects "HairRopeModel" ⟨"HairRopeModel", "cut", "()V"⟩ ⟨"HairRopeModel", "cut", "()V"⟩) ∈ lw_all := lw_g (lw_at lw_ms 63 rfl) rfl
theorem qs64 : (Cond.selects "HairRopeModel" ⟨"HairRopeModel", "byteAt", "(I)I"⟩ ⟨"HairRopeModel", "byteAt", "(I)I"⟩) ∈ lw_all := lw_g (lw_at lw_ms 64 rfl) rfl
theorem qs65 : (Cond.selects "HairRopeModel" ⟨"HairRopeModel", "token", "(IIIJ)V"⟩ ⟨"HairRopeModel", "token", "(IIIJ)V"⟩) ∈ lw_all := lw_g (lw_at lw_ms 65 rfl) rfl
theorem qs66 : (Cond.selects "HairRopeModel" ⟨"HairRopeModel", "sign", "(III)I"⟩ ⟨"HairRopeModel", "sign", "(III)I"⟩) ∈ lw_all := lw_g (lw_at lw_ms 66 rfl) rfl
theorem qs67 : (Cond.selects "HairRopeModel" ⟨"HairRopeModel", "is", "(I)Z"⟩ ⟨"HairRopeModel", "is", "(I)Z"⟩) ∈ lw_all := lw_g (lw_at lw_ms 67 rfl) rfl
theorem qs68 : (Cond.selects "HairRopeModel" ⟨"HairRopeModel", "tellOne", "()V"⟩ ⟨"HairRopeModel", "tellOne", "()V"⟩) ∈ lw_all := lw_g (lw_at lw_ms 68 rfl) rfl
theorem qs69 : (Cond.selects "HairRopeModel" ⟨"HairRopeModel", "roomFor", "(II)V"⟩ ⟨"HairRopeModel", "roomFor", "(II)V"⟩) ∈ lw_all := lw_g (lw_at lw_ms 69 rfl) rfl
theorem qs70 : (Cond.selects "HairRopeModel" ⟨"HairRopeModel", "fail", "(I)V"⟩ ⟨"HairRopeModel", "fail", "(I)V"⟩) ∈ lw_all := lw_g (lw_at lw_ms 70 rfl) rfl
theorem qs71 : (Cond.selects "HairRopeModel" ⟨"HairRopeModel", "goesOn", "()V"⟩ ⟨"HairRopeModel", "goesOn", "()V"⟩) ∈ lw_all := lw_g (lw_at lw_ms 71 rfl) rfl
theorem qs72 : (Cond.selects "HairRopeModel" ⟨"HairRopeModel", "tellHouse", "()V"⟩ ⟨"HairRopeModel", "tellHouse", "()V"⟩) ∈ lw_all := lw_g (lw_at lw_ms 72 rfl) rfl
theorem qs73 : (Cond.selects "HairRopeModel" ⟨"HairRopeModel", "must", "(I)V"⟩ ⟨"HairRopeModel", "must", "(I)V"⟩) ∈ lw_all := lw_g (lw_at lw_ms 73 rfl) rfl
theorem qs74 : (Cond.selects "HairRopeModel" ⟨"HairRopeModel", "wrong", "(II)V"⟩ ⟨"HairRopeModel", "wrong", "(II)V"⟩) ∈ lw_all := lw_g (lw_at lw_ms 74 rfl) rfl
theorem qs75 : (Cond.selects "HairRopeModel" ⟨"HairRopeModel", "bounded", "(II)I"⟩ ⟨"HairRopeModel", "bounded", "(II)I"⟩) ∈ lw_all := lw_g (lw_at lw_ms 75 rfl) rfl
theorem qs76 : (Cond.selects "HairRopeModel" ⟨"HairRopeModel", "tellLikes", "()V"⟩ ⟨"HairRopeModel", "tellLikes", "()V"⟩) ∈ lw_all := lw_g (lw_at lw_ms 76 rfl) rfl
theorem qs77 : (Cond.selects "HairRopeModel" ⟨"HairRopeModel", "known", "()I"⟩ ⟨"HairRopeModel", "known", "()I"⟩) ∈ lw_all := lw_g (lw_at lw_ms 77 rfl) rfl
theorem qs78 : (Cond.selects "HairRopeModel" ⟨"HairRopeModel", "toldInt", "(II)I"⟩ ⟨"HairRopeModel", "toldInt", "(II)I"⟩) ∈ lw_all := lw_g (lw_at lw_ms 78 rfl) rfl
theorem qs79 : (Cond.selects "HairRopeModel" ⟨"HairRopeModel", "tellLaw", "(I)V"⟩ ⟨"HairRopeModel", "tellLaw", "(I)V"⟩) ∈ lw_all := lw_g (lw_at lw_ms 79 rfl) rfl
theorem qs80 : (Cond.selects "HairRopeModel" ⟨"HairRopeModel", "expression", "()V"⟩ ⟨"HairRopeModel", "expression", "()V"⟩) ∈ lw_all := lw_g (lw_at lw_ms 80 rfl) rfl
theorem qs81 : (Cond.selects "HairRopeModel" ⟨"HairRopeModel", "unit", "()V"⟩ ⟨"HairRopeModel", "unit", "()V"⟩) ∈ lw_all := lw_g (lw_at lw_ms 81 rfl) rfl
theorem qs82 : (Cond.selects "HairRopeModel" ⟨"HairRopeModel", "emit", "(II)V"⟩ ⟨"HairRopeModel", "emit", "(II)V"⟩) ∈ lw_all := lw_g (lw_at lw_ms 82 rfl) rfl
theorem qs83 : (Cond.selects "HairRopeModel" ⟨"HairRopeModel", "comesOut", "(Z)V"⟩ ⟨"HairRopeModel", "comesOut", "(Z)V"⟩) ∈ lw_all := lw_g (lw_at lw_ms 83 rfl) rfl
theorem qs84 : (Cond.selects "HairRopeModel" ⟨"HairRopeModel", "term", "()V"⟩ ⟨"HairRopeModel", "term", "()V"⟩) ∈ lw_all := lw_g (lw_at lw_ms 84 rfl) rfl
theorem qs85 : (Cond.selects "HairRopeModel" ⟨"HairRopeModel", "isHouse", "(I)Z"⟩ ⟨"HairRopeModel", "isHouse", "(I)Z"⟩) ∈ lw_all := lw_g (lw_at lw_ms 85 rfl) rfl
theorem qs86 : (Cond.selects "HairRopeModel" ⟨"HairRopeModel", "copies", "()V"⟩ ⟨"HairRopeModel", "copies", "()V"⟩) ∈ lw_all := lw_g (lw_at lw_ms 86 rfl) rfl
theorem qs87 : (Cond.selects "HairRopeModel" ⟨"HairRopeModel", "strongFirst", "(I)I"⟩ ⟨"HairRopeModel", "strongFirst", "(I)I"⟩) ∈ lw_all := lw_g (lw_at lw_ms 87 rfl) rfl
theorem qs88 : (Cond.selects "HairRopeModel" ⟨"HairRopeModel", "hasPlait", "(I)Z"⟩ ⟨"HairRopeModel", "hasPlait", "(I)Z"⟩) ∈ lw_all := lw_g (lw_at lw_ms 88 rfl) rfl
theorem qs89 : (Cond.selects "HairRopeModel" ⟨"HairRopeModel", "placeOf", "(I)I"⟩ ⟨"HairRopeModel", "placeOf", "(I)I"⟩) ∈ lw_all := lw_g (lw_at lw_ms 89 rfl) rfl
theorem qs90 : (Cond.selects "HairRopeModel" ⟨"HairRopeModel", "growsOf", "(I)I"⟩ ⟨"HairRopeModel", "growsOf", "(I)I"⟩) ∈ lw_all := lw_g (lw_at lw_ms 90 rfl) rfl
theorem qs91 : (Cond.selects "HairRopeModel" ⟨"HairRopeModel", "views", "(I)V"⟩ ⟨"HairRopeModel", "views", "(I)V"⟩) ∈ lw_all := lw_g (lw_at lw_ms 91 rfl) rfl
theorem qs92 : (Cond.selects "HairRopeModel" ⟨"HairRopeModel", "strongOf", "(I)I"⟩ ⟨"HairRopeModel", "strongOf", "(I)I"⟩) ∈ lw_all := lw_g (lw_at lw_ms 92 rfl) rfl
theorem qs93 : (Cond.selects "HairRopeModel" ⟨"HairRopeModel", "lawTells", "(II)I"⟩ ⟨"HairRopeModel", "lawTells", "(II)I"⟩) ∈ lw_all := lw_g (lw_at lw_ms 93 rfl) rfl
theorem qs94 : (Cond.selects "HairRopeModel" ⟨"HairRopeModel", "termOf", "(II)I"⟩ ⟨"HairRopeModel", "termOf", "(II)I"⟩) ∈ lw_all := lw_g (lw_at lw_ms 94 rfl) rfl
theorem qs95 : (Cond.selects "HairRopeModel" ⟨"HairRopeModel", "weakensOf", "(I)I"⟩ ⟨"HairRopeModel", "weakensOf", "(I)I"⟩) ∈ lw_all := lw_g (lw_at lw_ms 95 rfl) rfl
theorem qs96 : (Cond.selects "HairRopeModel" ⟨"HairRopeModel", "costsOf", "(I)I"⟩ ⟨"HairRopeModel", "costsOf", "(I)I"⟩) ∈ lw_all := lw_g (lw_at lw_ms 96 rfl) rfl
theorem qs97 : (Cond.selects "HairRopeModel" ⟨"HairRopeModel", "areTwo", "(II)Z"⟩ ⟨"HairRopeModel", "areTwo", "(II)Z"⟩) ∈ lw_all := lw_g (lw_at lw_ms 97 rfl) rfl
theorem qs98 : (Cond.selects "HairRopeModel" ⟨"HairRopeModel", "likeOf", "(II)I"⟩ ⟨"HairRopeModel", "likeOf", "(II)I"⟩) ∈ lw_all := lw_g (lw_at lw_ms 98 rfl) rfl
theorem qs99 : (Cond.selects "HairRopeModel" ⟨"HairRopeModel", "joinsOf", "(II)I"⟩ ⟨"HairRopeModel", "joinsOf", "(II)I"⟩) ∈ lw_all := lw_g (lw_at lw_ms 99 rfl) rfl
theorem qs100 : (Cond.selects "HairRopeModel" ⟨"HairRopeModel", "joinsBy", "(III)I"⟩ ⟨"HairRopeModel", "joinsBy", "(III)I"⟩) ∈ lw_all := lw_g (lw_at lw_ms 100 rfl) rfl
theorem qs101 : (Cond.selects "HairRopeModel" ⟨"HairRopeModel", "records", "()V"⟩ ⟨"HairRopeModel", "records", "()V"⟩) ∈ lw_all := lw_g (lw_at lw_ms 101 rfl) rfl
theorem qs102 : (Cond.selects "HairRopeModel" ⟨"HairRopeModel", "ropeLong", "()I"⟩ ⟨"HairRopeModel", "ropeLong", "()I"⟩) ∈ lw_all := lw_g (lw_at lw_ms 102 rfl) rfl
theorem qs103 : (Cond.selects "HairRopeModel" ⟨"HairRopeModel", "loses", "(I)V"⟩ ⟨"HairRopeModel", "loses", "(I)V"⟩) ∈ lw_all := lw_g (lw_at lw_ms 103 rfl) rfl
theorem qs104 : (Cond.selects "HairRopeModel" ⟨"HairRopeModel", "breaksAt", "(I)I"⟩ ⟨"HairRopeModel", "breaksAt", "(I)I"⟩) ∈ lw_all := lw_g (lw_at lw_ms 104 rfl) rfl
theorem qs105 : (Cond.selects "HairRopeModel" ⟨"HairRopeModel", "spareAt", "(I)I"⟩ ⟨"HairRopeModel", "spareAt", "(I)I"⟩) ∈ lw_all := lw_g (lw_at lw_ms 105 rfl) rfl
theorem qs106 : (Cond.selects "HairRopeModel" ⟨"HairRopeModel", "belowOf", "(I)I"⟩ ⟨"HairRopeModel", "belowOf", "(I)I"⟩) ∈ lw_all := lw_g (lw_at lw_ms 106 rfl) rfl
theorem qs107 : (Cond.selects "HairRopeModel" ⟨"HairRopeModel", "goes", "(I)V"⟩ ⟨"HairRopeModel", "goes", "(I)V"⟩) ∈ lw_all := lw_g (lw_at lw_ms 107 rfl) rfl
theorem qs108 : (Cond.selects "HairRopeModel" ⟨"HairRopeModel", "yearGoes", "()V"⟩ ⟨"HairRopeModel", "yearGoes", "()V"⟩) ∈ lw_all := lw_g (lw_at lw_ms 108 rfl) rfl
theorem qs109 : (Cond.selects "HairRopeModel" ⟨"HairRopeModel", "isBlighted", "(I)Z"⟩ ⟨"HairRopeModel", "isBlighted", "(I)Z"⟩) ∈ lw_all := lw_g (lw_at lw_ms 109 rfl) rfl
theorem qs110 : (Cond.selects "HairRopeModel" ⟨"HairRopeModel", "lotOf", "(I)I"⟩ ⟨"HairRopeModel", "lotOf", "(I)I"⟩) ∈ lw_all := lw_g (lw_at lw_ms 110 rfl) rfl
theorem qs111 : (Cond.selects "HairRopeModel" ⟨"HairRopeModel", "mostOf", "()I"⟩ ⟨"HairRopeModel", "mostOf", "()I"⟩) ∈ lw_all := lw_g (lw_at lw_ms 111 rfl) rfl
theorem qs112 : (Cond.selects "HairRopeModel" ⟨"HairRopeModel", "spareLeast", "()I"⟩ ⟨"HairRopeModel", "spareLeast", "()I"⟩) ∈ lw_all := lw_g (lw_at lw_ms 112 rfl) rfl
theorem qs113 : (Cond.selects "HairRopeModel" ⟨"HairRopeModel", "copiesStill", "()V"⟩ ⟨"HairRopeModel", "copiesStill", "()V"⟩) ∈ lw_all := lw_g (lw_at lw_ms 113 rfl) rfl
theorem qs114 : (Cond.selects "HairRopeModel" ⟨"HairRopeModel", "fillsPlans", "()V"⟩ ⟨"HairRopeModel", "fillsPlans", "()V"⟩) ∈ lw_all := lw_g (lw_at lw_ms 114 rfl) rfl
theorem qs115 : (Cond.selects "HairRopeModel" ⟨"HairRopeModel", "goesToNext", "()Z"⟩ ⟨"HairRopeModel", "goesToNext", "()Z"⟩) ∈ lw_all := lw_g (lw_at lw_ms 115 rfl) rfl
theorem qs116 : (Cond.selects "HairRopeModel" ⟨"HairRopeModel", "nextFrom", "(I)I"⟩ ⟨"HairRopeModel", "nextFrom", "(I)I"⟩) ∈ lw_all := lw_g (lw_at lw_ms 116 rfl) rfl
theorem qs117 : (Cond.selects "HairRopeModel" ⟨"HairRopeModel", "isIn", "(I)Z"⟩ ⟨"HairRopeModel", "isIn", "(I)Z"⟩) ∈ lw_all := lw_g (lw_at lw_ms 117 rfl) rfl
theorem qs118 : (Cond.selects "HairRopeModel" ⟨"HairRopeModel", "orderSpare", "()I"⟩ ⟨"HairRopeModel", "orderSpare", "()I"⟩) ∈ lw_all := lw_g (lw_at lw_ms 118 rfl) rfl
theorem qs119 : (Cond.selects "HairRopeModel" ⟨"HairRopeModel", "peakOf", "()I"⟩ ⟨"HairRopeModel", "peakOf", "()I"⟩) ∈ lw_all := lw_g (lw_at lw_ms 119 rfl) rfl
theorem qs120 : (Cond.selects "HairRopeModel" ⟨"HairRopeModel", "fewestOf", "(I)I"⟩ ⟨"HairRopeModel", "fewestOf", "(I)I"⟩) ∈ lw_all := lw_g (lw_at lw_ms 120 rfl) rfl
theorem qs121 : (Cond.selects "HairRopeModel" ⟨"HairRopeModel", "isPeace", "(III)Z"⟩ ⟨"HairRopeModel", "isPeace", "(III)Z"⟩) ∈ lw_all := lw_g (lw_at lw_ms 121 rfl) rfl
theorem qs122 : (Cond.selects "HairRopeModel" ⟨"HairRopeModel", "likesMost", "(I)V"⟩ ⟨"HairRopeModel", "likesMost", "(I)V"⟩) ∈ lw_all := lw_g (lw_at lw_ms 122 rfl) rfl
theorem qs123 : (Cond.selects "HairRopeModel" ⟨"HairRopeModel", "isPair", "(I)Z"⟩ ⟨"HairRopeModel", "isPair", "(I)Z"⟩) ∈ lw_all := lw_g (lw_at lw_ms 123 rfl) rfl
theorem qs124 : (Cond.selects "HairRopeModel" ⟨"HairRopeModel", "givesBits", "()I"⟩ ⟨"HairRopeModel", "givesBits", "()I"⟩) ∈ lw_all := lw_g (lw_at lw_ms 124 rfl) rfl
theorem qs125 : (Cond.selects "HairRopeModel" ⟨"HairRopeModel", "isRest", "(I)Z"⟩ ⟨"HairRopeModel", "isRest", "(I)Z"⟩) ∈ lw_all := lw_g (lw_at lw_ms 125 rfl) rfl
theorem qs126 : (Cond.selects "HairRopeModel" ⟨"HairRopeModel", "hasOf", "(II)I"⟩ ⟨"HairRopeModel", "hasOf", "(II)I"⟩) ∈ lw_all := lw_g (lw_at lw_ms 126 rfl) rfl
theorem qs127 : (Cond.selects "HairRopeModel" ⟨"HairRopeModel", "isEnough", "(I)Z"⟩ ⟨"HairRopeModel", "isEnough", "(I)Z"⟩) ∈ lw_all := lw_g (lw_at lw_ms 127 rfl) rfl
theorem qs128 : (Cond.selects "HairRopeModel" ⟨"HairRopeModel", "givesCost", "(I)I"⟩ ⟨"HairRopeModel", "givesCost", "(I)I"⟩) ∈ lw_all := lw_g (lw_at lw_ms 128 rfl) rfl
theorem qs129 : (Cond.selects "HairRopeModel" ⟨"HairRopeModel", "harvestOf", "(III)I"⟩ ⟨"HairRopeModel", "harvestOf", "(III)I"⟩) ∈ lw_all := lw_g (lw_at lw_ms 129 rfl) rfl
theorem qs130 : (Cond.selects "HairRopeModel" ⟨"HairRopeModel", "isAsked", "(II)Z"⟩ ⟨"HairRopeModel", "isAsked", "(II)Z"⟩) ∈ lw_all := lw_g (lw_at lw_ms 130 rfl) rfl
theorem qs131 : (Cond.selects "HairRopeModel" ⟨"HairRopeModel", "doesFit", "(III)Z"⟩ ⟨"HairRopeModel", "doesFit", "(III)Z"⟩) ∈ lw_all := lw_g (lw_at lw_ms 131 rfl) rfl
theorem qs132 : (Cond.selects "HairRopeModel" ⟨"HairRopeModel", "sumNow", "(I)I"⟩ ⟨"HairRopeModel", "sumNow", "(I)I"⟩) ∈ lw_all := lw_g (lw_at lw_ms 132 rfl) rfl
